/-! FloodLent$Year -/
set_option maxRecDepth 100000
def RX3 : String := "FloodLent$Year"
def TX3 : u_T := fun k => match k with
  | 0 => ("FloodLent$Year", "behind", "[[I", true)
  | 1 => ("FloodLent$Year", "water", "[I", true)
  | 2 => ("FloodLent$Year", "taker", "[I", true)
  | 3 => ("FloodLent$Year", "taken", "[I", true)
  | 4 => ("FloodLent$Year", "owedFlood", "[I", true)
  | 5 => ("FloodLent$Year", "paidFlood", "[I", true)
  | 6 => ("FloodLent$Year", "lent", "[I", true)
  | 7 => ("FloodLent$Year", "owed", "[I", true)
  | 8 => ("FloodLent$Year", "paid", "[I", true)
  | 9 => ("FloodLent$Year", "brought", "[I", true)
  | 10 => ("FloodLent$Year", "dry", "[I", true)
  | 11 => ("FloodLent$Year", "firstDry", "[I", true)
  | 12 => ("FloodLent$Year", "all", "[[I", true)
  | 13 => ("FloodLent$Year", "plain", "LFloodLent$Plain;", false)
  | 14 => ("FloodLent$Year", "comes", "I", false)
  | 15 => ("FloodLent$Year", "more", "I", false)
  | 16 => ("FloodLent$Year", "sky", "I", false)
  | 17 => ("FloodLent$Year", "sea", "I", false)
  | 18 => ("FloodLent$Year", "drunk", "I", false)
  | 19 => ("FloodLent$Year", "bad", "I", false)
  | 20 => ("FloodLent$Year", "miser", "I", false)
  | 21 => ("FloodLent$Year", "other", "I", false)
  | _ => ("FloodLent$Year", "otherWater", "I", false)
def tyX3 : Nat → FieldType := fun k => match k with
  | 0 => .array (.array .int)
  | 1 => .array .int
  | 2 => .array .int
  | 3 => .array .int
  | 4 => .array .int
  | 5 => .array .int
  | 6 => .array .int
  | 7 => .array .int
  | 8 => .array .int
  | 9 => .array .int
  | 10 => .array .int
  | 11 => .array .int
  | 12 => .array (.array .int)
  | 13 => .object "FloodLent$Plain"
  | 14 => .int
  | 15 => .int
  | 16 => .int
  | 17 => .int
  | 18 => .int
  | 19 => .int
  | 20 => .int
  | 21 => .int
  | _ => .int
abbrev wsX30 : List Cond := u_ws RX3 TX3 23
set_option maxRecDepth 100000 in
theorem nmX3 : ∀ a, a < 23 → ∀ b, b < 23 → a ≠ b → (TX3 a).2.1 ≠ (TX3 b).2.1 := by decide +kernel
set_option maxRecDepth 100000 in
theorem tyX3_ok : ∀ k, k < 23 → parseFieldDescriptor (TX3 k).2.2.1 = some (tyX3 k) := by decide +kernel
abbrev cX3_init : ByteArray := prog_11_method_1_code
def yX3_init : MethodName := ⟨RX3, "<init>", "()V"⟩
def dkwX3_init_7 : List UInt8 := [177]
abbrev dktX3_init_7 : List UInt8 := dkwX3_init_7 ++ []
def dkwX3_init_6 : List UInt8 := [42, 180, 0, 38, 83, 89, 16, 6, 42, 180, 0, 41, 83, 89, 16, 7, 42, 180, 0, 44, 83, 181, 0, 51]
abbrev dktX3_init_6 : List UInt8 := dkwX3_init_6 ++ dktX3_init_7
def dkwX3_init_5 : List UInt8 := [83, 89, 5, 42, 180, 0, 29, 83, 89, 6, 42, 180, 0, 32, 83, 89, 7, 42, 180, 0, 35, 83, 89, 8]
abbrev dktX3_init_5 : List UInt8 := dkwX3_init_5 ++ dktX3_init_6
def dkwX3_init_4 : List UInt8 := [188, 10, 181, 0, 47, 42, 16, 8, 189, 0, 50, 89, 3, 42, 180, 0, 23, 83, 89, 4, 42, 180, 0, 26]
abbrev dktX3_init_4 : List UInt8 := dkwX3_init_4 ++ dktX3_init_5
def dkwX3_init_3 : List UInt8 := [188, 10, 181, 0, 38, 42, 16, 8, 188, 10, 181, 0, 41, 42, 16, 8, 188, 10, 181, 0, 44, 42, 16, 8]
abbrev dktX3_init_3 : List UInt8 := dkwX3_init_3 ++ dktX3_init_4
def dkwX3_init_2 : List UInt8 := [188, 10, 181, 0, 29, 42, 16, 8, 188, 10, 181, 0, 32, 42, 16, 8, 188, 10, 181, 0, 35, 42, 16, 8]
abbrev dktX3_init_2 : List UInt8 := dkwX3_init_2 ++ dktX3_init_3
def dkwX3_init_1 : List UInt8 := [42, 6, 188, 10, 181, 0, 20, 42, 6, 188, 10, 181, 0, 23, 42, 6, 188, 10, 181, 0, 26, 42, 6]
abbrev dktX3_init_1 : List UInt8 := dkwX3_init_1 ++ dktX3_init_2
def dkwX3_init_0 : List UInt8 := [42, 183, 0, 3, 42, 16, 6, 16, 30, 197, 0, 9, 2, 181, 0, 11, 42, 16, 6, 188, 10, 181, 0, 16]
abbrev dktX3_init_0 : List UInt8 := dkwX3_init_0 ++ dktX3_init_1
theorem dksX3_init_0 : cX3_init.data.toList.drop 0 = dktX3_init_0 := by decide +kernel
theorem dksX3_init_1 : cX3_init.data.toList.drop 24 = dktX3_init_1 := dk_seg dksX3_init_0 24 rfl rfl
theorem dksX3_init_2 : cX3_init.data.toList.drop 47 = dktX3_init_2 := dk_seg dksX3_init_1 23 rfl rfl
theorem dksX3_init_3 : cX3_init.data.toList.drop 71 = dktX3_init_3 := dk_seg dksX3_init_2 24 rfl rfl
theorem dksX3_init_4 : cX3_init.data.toList.drop 95 = dktX3_init_4 := dk_seg dksX3_init_3 24 rfl rfl
theorem dksX3_init_5 : cX3_init.data.toList.drop 119 = dktX3_init_5 := dk_seg dksX3_init_4 24 rfl rfl
theorem dksX3_init_6 : cX3_init.data.toList.drop 143 = dktX3_init_6 := dk_seg dksX3_init_5 24 rfl rfl
theorem dksX3_init_7 : cX3_init.data.toList.drop 167 = dktX3_init_7 := dk_seg dksX3_init_6 24 rfl rfl
theorem dX3_init_0 : decode cX3_init 0 = .ok (.aload_n 0, 1) := dk_42 (dk_at dksX3_init_0 0 rfl rfl)
theorem dX3_init_1 : decode cX3_init 1 = .ok (.invokespecial 3, 3) := dk_183 0 3 (dk_at dksX3_init_0 1 rfl rfl)
theorem dX3_init_4 : decode cX3_init 4 = .ok (.aload_n 0, 1) := dk_42 (dk_at dksX3_init_0 4 rfl rfl)
theorem dX3_init_5 : decode cX3_init 5 = .ok (.bipush 6, 2) := dk_16 6 (dk_at dksX3_init_0 5 rfl rfl)
theorem dX3_init_7 : decode cX3_init 7 = .ok (.bipush 30, 2) := dk_16 30 (dk_at dksX3_init_0 7 rfl rfl)
theorem dX3_init_9 : decode cX3_init 9 = .ok (.multianewarray 9 2, 4) := by decide +kernel
theorem dX3_init_13 : decode cX3_init 13 = .ok (.putfield 11, 3) := dk_181 0 11 (dk_at dksX3_init_0 13 rfl rfl)
theorem dX3_init_16 : decode cX3_init 16 = .ok (.aload_n 0, 1) := dk_42 (dk_at dksX3_init_0 16 rfl rfl)
theorem dX3_init_17 : decode cX3_init 17 = .ok (.bipush 6, 2) := dk_16 6 (dk_at dksX3_init_0 17 rfl rfl)
theorem dX3_init_19 : decode cX3_init 19 = .ok (.newarray .int, 2) := dk_188_10 (dk_at dksX3_init_0 19 rfl rfl)
theorem dX3_init_21 : decode cX3_init 21 = .ok (.putfield 16, 3) := dk_181 0 16 (dk_at dksX3_init_0 21 rfl rfl)
theorem dX3_init_24 : decode cX3_init 24 = .ok (.aload_n 0, 1) := dk_42 (dk_at dksX3_init_1 0 rfl rfl)
theorem dX3_init_25 : decode cX3_init 25 = .ok (.iconst 3, 1) := dk_6 (dk_at dksX3_init_1 1 rfl rfl)
theorem dX3_init_26 : decode cX3_init 26 = .ok (.newarray .int, 2) := dk_188_10 (dk_at dksX3_init_1 2 rfl rfl)
theorem dX3_init_28 : decode cX3_init 28 = .ok (.putfield 20, 3) := dk_181 0 20 (dk_at dksX3_init_1 4 rfl rfl)
theorem dX3_init_31 : decode cX3_init 31 = .ok (.aload_n 0, 1) := dk_42 (dk_at dksX3_init_1 7 rfl rfl)
theorem dX3_init_32 : decode cX3_init 32 = .ok (.iconst 3, 1) := dk_6 (dk_at dksX3_init_1 8 rfl rfl)
theorem dX3_init_33 : decode cX3_init 33 = .ok (.newarray .int, 2) := dk_188_10 (dk_at dksX3_init_1 9 rfl rfl)
theorem dX3_init_35 : decode cX3_init 35 = .ok (.putfield 23, 3) := dk_181 0 23 (dk_at dksX3_init_1 11 rfl rfl)
theorem dX3_init_38 : decode cX3_init 38 = .ok (.aload_n 0, 1) := dk_42 (dk_at dksX3_init_1 14 rfl rfl)
theorem dX3_init_39 : decode cX3_init 39 = .ok (.iconst 3, 1) := dk_6 (dk_at dksX3_init_1 15 rfl rfl)
theorem dX3_init_40 : decode cX3_init 40 = .ok (.newarray .int, 2) := dk_188_10 (dk_at dksX3_init_1 16 rfl rfl)
theorem dX3_init_42 : decode cX3_init 42 = .ok (.putfield 26, 3) := dk_181 0 26 (dk_at dksX3_init_1 18 rfl rfl)
theorem dX3_init_45 : decode cX3_init 45 = .ok (.aload_n 0, 1) := dk_42 (dk_at dksX3_init_1 21 rfl rfl)
theorem dX3_init_46 : decode cX3_init 46 = .ok (.iconst 3, 1) := dk_6 (dk_at dksX3_init_1 22 rfl rfl)
theorem dX3_init_47 : decode cX3_init 47 = .ok (.newarray .int, 2) := dk_188_10 (dk_at dksX3_init_2 0 rfl rfl)
theorem dX3_init_49 : decode cX3_init 49 = .ok (.putfield 29, 3) := dk_181 0 29 (dk_at dksX3_init_2 2 rfl rfl)
theorem dX3_init_52 : decode cX3_init 52 = .ok (.aload_n 0, 1) := dk_42 (dk_at dksX3_init_2 5 rfl rfl)
theorem dX3_init_53 : decode cX3_init 53 = .ok (.bipush 8, 2) := dk_16 8 (dk_at dksX3_init_2 6 rfl rfl)
theorem dX3_init_55 : decode cX3_init 55 = .ok (.newarray .int, 2) := dk_188_10 (dk_at dksX3_init_2 8 rfl rfl)
theorem dX3_init_57 : decode cX3_init 57 = .ok (.putfield 32, 3) := dk_181 0 32 (dk_at dksX3_init_2 10 rfl rfl)
theorem dX3_init_60 : decode cX3_init 60 = .ok (.aload_n 0, 1) := dk_42 (dk_at dksX3_init_2 13 rfl rfl)
theorem dX3_init_61 : decode cX3_init 61 = .ok (.bipush 8, 2) := dk_16 8 (dk_at dksX3_init_2 14 rfl rfl)
theorem dX3_init_63 : decode cX3_init 63 = .ok (.newarray .int, 2) := dk_188_10 (dk_at dksX3_init_2 16 rfl rfl)
theorem dX3_init_65 : decode cX3_init 65 = .ok (.putfield 35, 3) := dk_181 0 35 (dk_at dksX3_init_2 18 rfl rfl)
theorem dX3_init_68 : decode cX3_init 68 = .ok (.aload_n 0, 1) := dk_42 (dk_at dksX3_init_2 21 rfl rfl)
theorem dX3_init_69 : decode cX3_init 69 = .ok (.bipush 8, 2) := dk_16 8 (dk_at dksX3_init_2 22 rfl rfl)
theorem dX3_init_71 : decode cX3_init 71 = .ok (.newarray .int, 2) := dk_188_10 (dk_at dksX3_init_3 0 rfl rfl)
theorem dX3_init_73 : decode cX3_init 73 = .ok (.putfield 38, 3) := dk_181 0 38 (dk_at dksX3_init_3 2 rfl rfl)
theorem dX3_init_76 : decode cX3_init 76 = .ok (.aload_n 0, 1) := dk_42 (dk_at dksX3_init_3 5 rfl rfl)
theorem dX3_init_77 : decode cX3_init 77 = .ok (.bipush 8, 2) := dk_16 8 (dk_at dksX3_init_3 6 rfl rfl)
theorem dX3_init_79 : decode cX3_init 79 = .ok (.newarray .int, 2) := dk_188_10 (dk_at dksX3_init_3 8 rfl rfl)
theorem dX3_init_81 : decode cX3_init 81 = .ok (.putfield 41, 3) := dk_181 0 41 (dk_at dksX3_init_3 10 rfl rfl)
theorem dX3_init_84 : decode cX3_init 84 = .ok (.aload_n 0, 1) := dk_42 (dk_at dksX3_init_3 13 rfl rfl)
theorem dX3_init_85 : decode cX3_init 85 = .ok (.bipush 8, 2) := dk_16 8 (dk_at dksX3_init_3 14 rfl rfl)
theorem dX3_init_87 : decode cX3_init 87 = .ok (.newarray .int, 2) := dk_188_10 (dk_at dksX3_init_3 16 rfl rfl)
theorem dX3_init_89 : decode cX3_init 89 = .ok (.putfield 44, 3) := dk_181 0 44 (dk_at dksX3_init_3 18 rfl rfl)
theorem dX3_init_92 : decode cX3_init 92 = .ok (.aload_n 0, 1) := dk_42 (dk_at dksX3_init_3 21 rfl rfl)
theorem dX3_init_93 : decode cX3_init 93 = .ok (.bipush 8, 2) := dk_16 8 (dk_at dksX3_init_3 22 rfl rfl)
theorem dX3_init_95 : decode cX3_init 95 = .ok (.newarray .int, 2) := dk_188_10 (dk_at dksX3_init_4 0 rfl rfl)
theorem dX3_init_97 : decode cX3_init 97 = .ok (.putfield 47, 3) := dk_181 0 47 (dk_at dksX3_init_4 2 rfl rfl)
theorem dX3_init_100 : decode cX3_init 100 = .ok (.aload_n 0, 1) := dk_42 (dk_at dksX3_init_4 5 rfl rfl)
theorem dX3_init_101 : decode cX3_init 101 = .ok (.bipush 8, 2) := dk_16 8 (dk_at dksX3_init_4 6 rfl rfl)
theorem dX3_init_103 : decode cX3_init 103 = .ok (.anewarray 50, 3) := dk_189 0 50 (dk_at dksX3_init_4 8 rfl rfl)
theorem dX3_init_106 : decode cX3_init 106 = .ok (.dup, 1) := dk_89 (dk_at dksX3_init_4 11 rfl rfl)
theorem dX3_init_107 : decode cX3_init 107 = .ok (.iconst 0, 1) := dk_3 (dk_at dksX3_init_4 12 rfl rfl)
theorem dX3_init_108 : decode cX3_init 108 = .ok (.aload_n 0, 1) := dk_42 (dk_at dksX3_init_4 13 rfl rfl)
theorem dX3_init_109 : decode cX3_init 109 = .ok (.getfield 23, 3) := dk_180 0 23 (dk_at dksX3_init_4 14 rfl rfl)
theorem dX3_init_112 : decode cX3_init 112 = .ok (.aastore, 1) := dk_83 (dk_at dksX3_init_4 17 rfl rfl)
theorem dX3_init_113 : decode cX3_init 113 = .ok (.dup, 1) := dk_89 (dk_at dksX3_init_4 18 rfl rfl)
theorem dX3_init_114 : decode cX3_init 114 = .ok (.iconst 1, 1) := dk_4 (dk_at dksX3_init_4 19 rfl rfl)
theorem dX3_init_115 : decode cX3_init 115 = .ok (.aload_n 0, 1) := dk_42 (dk_at dksX3_init_4 20 rfl rfl)
theorem dX3_init_116 : decode cX3_init 116 = .ok (.getfield 26, 3) := dk_180 0 26 (dk_at dksX3_init_4 21 rfl rfl)
theorem dX3_init_119 : decode cX3_init 119 = .ok (.aastore, 1) := dk_83 (dk_at dksX3_init_5 0 rfl rfl)
theorem dX3_init_120 : decode cX3_init 120 = .ok (.dup, 1) := dk_89 (dk_at dksX3_init_5 1 rfl rfl)
theorem dX3_init_121 : decode cX3_init 121 = .ok (.iconst 2, 1) := dk_5 (dk_at dksX3_init_5 2 rfl rfl)
theorem dX3_init_122 : decode cX3_init 122 = .ok (.aload_n 0, 1) := dk_42 (dk_at dksX3_init_5 3 rfl rfl)
theorem dX3_init_123 : decode cX3_init 123 = .ok (.getfield 29, 3) := dk_180 0 29 (dk_at dksX3_init_5 4 rfl rfl)
theorem dX3_init_126 : decode cX3_init 126 = .ok (.aastore, 1) := dk_83 (dk_at dksX3_init_5 7 rfl rfl)
theorem dX3_init_127 : decode cX3_init 127 = .ok (.dup, 1) := dk_89 (dk_at dksX3_init_5 8 rfl rfl)
theorem dX3_init_128 : decode cX3_init 128 = .ok (.iconst 3, 1) := dk_6 (dk_at dksX3_init_5 9 rfl rfl)
theorem dX3_init_129 : decode cX3_init 129 = .ok (.aload_n 0, 1) := dk_42 (dk_at dksX3_init_5 10 rfl rfl)
theorem dX3_init_130 : decode cX3_init 130 = .ok (.getfield 32, 3) := dk_180 0 32 (dk_at dksX3_init_5 11 rfl rfl)
theorem dX3_init_133 : decode cX3_init 133 = .ok (.aastore, 1) := dk_83 (dk_at dksX3_init_5 14 rfl rfl)
theorem dX3_init_134 : decode cX3_init 134 = .ok (.dup, 1) := dk_89 (dk_at dksX3_init_5 15 rfl rfl)
theorem dX3_init_135 : decode cX3_init 135 = .ok (.iconst 4, 1) := dk_7 (dk_at dksX3_init_5 16 rfl rfl)
theorem dX3_init_136 : decode cX3_init 136 = .ok (.aload_n 0, 1) := dk_42 (dk_at dksX3_init_5 17 rfl rfl)
theorem dX3_init_137 : decode cX3_init 137 = .ok (.getfield 35, 3) := dk_180 0 35 (dk_at dksX3_init_5 18 rfl rfl)
theorem dX3_init_140 : decode cX3_init 140 = .ok (.aastore, 1) := dk_83 (dk_at dksX3_init_5 21 rfl rfl)
theorem dX3_init_141 : decode cX3_init 141 = .ok (.dup, 1) := dk_89 (dk_at dksX3_init_5 22 rfl rfl)
theorem dX3_init_142 : decode cX3_init 142 = .ok (.iconst 5, 1) := dk_8 (dk_at dksX3_init_5 23 rfl rfl)
theorem dX3_init_143 : decode cX3_init 143 = .ok (.aload_n 0, 1) := dk_42 (dk_at dksX3_init_6 0 rfl rfl)
theorem dX3_init_144 : decode cX3_init 144 = .ok (.getfield 38, 3) := dk_180 0 38 (dk_at dksX3_init_6 1 rfl rfl)
theorem dX3_init_147 : decode cX3_init 147 = .ok (.aastore, 1) := dk_83 (dk_at dksX3_init_6 4 rfl rfl)
theorem dX3_init_148 : decode cX3_init 148 = .ok (.dup, 1) := dk_89 (dk_at dksX3_init_6 5 rfl rfl)
theorem dX3_init_149 : decode cX3_init 149 = .ok (.bipush 6, 2) := dk_16 6 (dk_at dksX3_init_6 6 rfl rfl)
theorem dX3_init_151 : decode cX3_init 151 = .ok (.aload_n 0, 1) := dk_42 (dk_at dksX3_init_6 8 rfl rfl)
theorem dX3_init_152 : decode cX3_init 152 = .ok (.getfield 41, 3) := dk_180 0 41 (dk_at dksX3_init_6 9 rfl rfl)
theorem dX3_init_155 : decode cX3_init 155 = .ok (.aastore, 1) := dk_83 (dk_at dksX3_init_6 12 rfl rfl)
theorem dX3_init_156 : decode cX3_init 156 = .ok (.dup, 1) := dk_89 (dk_at dksX3_init_6 13 rfl rfl)
theorem dX3_init_157 : decode cX3_init 157 = .ok (.bipush 7, 2) := dk_16 7 (dk_at dksX3_init_6 14 rfl rfl)
theorem dX3_init_159 : decode cX3_init 159 = .ok (.aload_n 0, 1) := dk_42 (dk_at dksX3_init_6 16 rfl rfl)
theorem dX3_init_160 : decode cX3_init 160 = .ok (.getfield 44, 3) := dk_180 0 44 (dk_at dksX3_init_6 17 rfl rfl)
theorem dX3_init_163 : decode cX3_init 163 = .ok (.aastore, 1) := dk_83 (dk_at dksX3_init_6 20 rfl rfl)
theorem dX3_init_164 : decode cX3_init 164 = .ok (.putfield 51, 3) := dk_181 0 51 (dk_at dksX3_init_6 21 rfl rfl)
theorem dX3_init_167 : decode cX3_init 167 = .ok (.return_, 1) := dk_177 (dk_at dksX3_init_7 0 rfl rfl)
abbrev cX3_begins : ByteArray := prog_11_method_2_code
def yX3_begins : MethodName := ⟨RX3, "begins", "(LFloodLent$Plain;[II)V"⟩
def dkwX3_begins_1 : List UInt8 := [181, 0, 68, 42, 2, 181, 0, 71, 42, 2, 181, 0, 74, 177]
abbrev dktX3_begins_1 : List UInt8 := dkwX3_begins_1 ++ []
def dkwX3_begins_0 : List UInt8 := [42, 43, 181, 0, 54, 44, 3, 42, 180, 0, 20, 3, 6, 184, 0, 58, 42, 29, 181, 0, 64, 42, 16, 7]
abbrev dktX3_begins_0 : List UInt8 := dkwX3_begins_0 ++ dktX3_begins_1
theorem dksX3_begins_0 : cX3_begins.data.toList.drop 0 = dktX3_begins_0 := by decide +kernel
theorem dksX3_begins_1 : cX3_begins.data.toList.drop 24 = dktX3_begins_1 := dk_seg dksX3_begins_0 24 rfl rfl
theorem dX3_begins_0 : decode cX3_begins 0 = .ok (.aload_n 0, 1) := dk_42 (dk_at dksX3_begins_0 0 rfl rfl)
theorem dX3_begins_1 : decode cX3_begins 1 = .ok (.aload_n 1, 1) := dk_43 (dk_at dksX3_begins_0 1 rfl rfl)
theorem dX3_begins_2 : decode cX3_begins 2 = .ok (.putfield 54, 3) := dk_181 0 54 (dk_at dksX3_begins_0 2 rfl rfl)
theorem dX3_begins_5 : decode cX3_begins 5 = .ok (.aload_n 2, 1) := dk_44 (dk_at dksX3_begins_0 5 rfl rfl)
theorem dX3_begins_6 : decode cX3_begins 6 = .ok (.iconst 0, 1) := dk_3 (dk_at dksX3_begins_0 6 rfl rfl)
theorem dX3_begins_7 : decode cX3_begins 7 = .ok (.aload_n 0, 1) := dk_42 (dk_at dksX3_begins_0 7 rfl rfl)
theorem dX3_begins_8 : decode cX3_begins 8 = .ok (.getfield 20, 3) := dk_180 0 20 (dk_at dksX3_begins_0 8 rfl rfl)
theorem dX3_begins_11 : decode cX3_begins 11 = .ok (.iconst 0, 1) := dk_3 (dk_at dksX3_begins_0 11 rfl rfl)
theorem dX3_begins_12 : decode cX3_begins 12 = .ok (.iconst 3, 1) := dk_6 (dk_at dksX3_begins_0 12 rfl rfl)
theorem dX3_begins_13 : decode cX3_begins 13 = .ok (.invokestatic 58, 3) := dk_184 0 58 (dk_at dksX3_begins_0 13 rfl rfl)
theorem dX3_begins_16 : decode cX3_begins 16 = .ok (.aload_n 0, 1) := dk_42 (dk_at dksX3_begins_0 16 rfl rfl)
theorem dX3_begins_17 : decode cX3_begins 17 = .ok (.iload_n 3, 1) := dk_29 (dk_at dksX3_begins_0 17 rfl rfl)
theorem dX3_begins_18 : decode cX3_begins 18 = .ok (.putfield 64, 3) := dk_181 0 64 (dk_at dksX3_begins_0 18 rfl rfl)
theorem dX3_begins_21 : decode cX3_begins 21 = .ok (.aload_n 0, 1) := dk_42 (dk_at dksX3_begins_0 21 rfl rfl)
theorem dX3_begins_22 : decode cX3_begins 22 = .ok (.bipush 7, 2) := dk_16 7 (dk_at dksX3_begins_0 22 rfl rfl)
theorem dX3_begins_24 : decode cX3_begins 24 = .ok (.putfield 68, 3) := dk_181 0 68 (dk_at dksX3_begins_1 0 rfl rfl)
theorem dX3_begins_27 : decode cX3_begins 27 = .ok (.aload_n 0, 1) := dk_42 (dk_at dksX3_begins_1 3 rfl rfl)
theorem dX3_begins_28 : decode cX3_begins 28 = .ok (.iconst (-1), 1) := dk_2 (dk_at dksX3_begins_1 4 rfl rfl)
theorem dX3_begins_29 : decode cX3_begins 29 = .ok (.putfield 71, 3) := dk_181 0 71 (dk_at dksX3_begins_1 5 rfl rfl)
theorem dX3_begins_32 : decode cX3_begins 32 = .ok (.aload_n 0, 1) := dk_42 (dk_at dksX3_begins_1 8 rfl rfl)
theorem dX3_begins_33 : decode cX3_begins 33 = .ok (.iconst (-1), 1) := dk_2 (dk_at dksX3_begins_1 9 rfl rfl)
theorem dX3_begins_34 : decode cX3_begins 34 = .ok (.putfield 74, 3) := dk_181 0 74 (dk_at dksX3_begins_1 10 rfl rfl)
theorem dX3_begins_37 : decode cX3_begins 37 = .ok (.return_, 1) := dk_177 (dk_at dksX3_begins_1 13 rfl rfl)
abbrev cX3_goes : ByteArray := prog_11_method_5_code
def yX3_goes : MethodName := ⟨RX3, "goes", "()LFloodLent$Year;"⟩
def dkwX3_goes_9 : List UInt8 := [167, 255, 175, 42, 176]
abbrev dktX3_goes_9 : List UInt8 := dkwX3_goes_9 ++ []
def dkwX3_goes_8 : List UInt8 := [180, 0, 11, 28, 50, 27, 42, 180, 0, 16, 28, 46, 79, 132, 2, 1, 167, 255, 223, 132, 1, 1]
abbrev dktX3_goes_8 : List UInt8 := dkwX3_goes_8 ++ dktX3_goes_9
def dkwX3_goes_7 : List UInt8 := [182, 0, 140, 3, 61, 28, 42, 180, 0, 54, 180, 0, 77, 185, 0, 94, 1, 0, 162, 0, 23, 42]
abbrev dktX3_goes_7 : List UInt8 := dkwX3_goes_7 ++ dktX3_goes_8
def dkwX3_goes_6 : List UInt8 := [182, 0, 124, 42, 27, 182, 0, 128, 42, 27, 182, 0, 131, 42, 27, 182, 0, 134, 42, 27, 182, 0, 137, 42]
abbrev dktX3_goes_6 : List UInt8 := dkwX3_goes_6 ++ dktX3_goes_7
def dkwX3_goes_5 : List UInt8 := [181, 0, 115, 42, 2, 181, 0, 118, 3, 60, 27, 42, 180, 0, 54, 180, 0, 121, 162, 0, 76, 42, 27]
abbrev dktX3_goes_5 : List UInt8 := dkwX3_goes_5 ++ dktX3_goes_6
def dkwX3_goes_4 : List UInt8 := [167, 255, 237, 42, 180, 0, 47, 2, 184, 0, 103, 42, 3, 181, 0, 109, 42, 3, 181, 0, 112, 42, 3]
abbrev dktX3_goes_4 : List UInt8 := dkwX3_goes_4 ++ dktX3_goes_5
def dkwX3_goes_3 : List UInt8 := [190, 61, 3, 62, 29, 28, 162, 0, 20, 43, 29, 50, 58, 4, 25, 4, 3, 184, 0, 103, 132, 3, 1]
abbrev dktX3_goes_3 : List UInt8 := dkwX3_goes_3 ++ dktX3_goes_4
def dkwX3_goes_2 : List UInt8 := [185, 0, 83, 2, 0, 192, 0, 89, 180, 0, 101, 79, 132, 1, 1, 167, 255, 197, 42, 180, 0, 51, 76, 43]
abbrev dktX3_goes_2 : List UInt8 := dkwX3_goes_2 ++ dktX3_goes_3
def dkwX3_goes_1 : List UInt8 := [42, 180, 0, 74, 160, 0, 10, 42, 180, 0, 98, 167, 0, 22, 42, 180, 0, 54, 180, 0, 77, 27]
abbrev dktX3_goes_1 : List UInt8 := dkwX3_goes_1 ++ dktX3_goes_2
def dkwX3_goes_0 : List UInt8 := [3, 60, 27, 42, 180, 0, 54, 180, 0, 77, 185, 0, 94, 1, 0, 162, 0, 49, 42, 180, 0, 16, 27, 27]
abbrev dktX3_goes_0 : List UInt8 := dkwX3_goes_0 ++ dktX3_goes_1
theorem dksX3_goes_0 : cX3_goes.data.toList.drop 0 = dktX3_goes_0 := by decide +kernel
theorem dksX3_goes_1 : cX3_goes.data.toList.drop 24 = dktX3_goes_1 := dk_seg dksX3_goes_0 24 rfl rfl
theorem dksX3_goes_2 : cX3_goes.data.toList.drop 46 = dktX3_goes_2 := dk_seg dksX3_goes_1 22 rfl rfl
theorem dksX3_goes_3 : cX3_goes.data.toList.drop 70 = dktX3_goes_3 := dk_seg dksX3_goes_2 24 rfl rfl
theorem dksX3_goes_4 : cX3_goes.data.toList.drop 93 = dktX3_goes_4 := dk_seg dksX3_goes_3 23 rfl rfl
theorem dksX3_goes_5 : cX3_goes.data.toList.drop 116 = dktX3_goes_5 := dk_seg dksX3_goes_4 23 rfl rfl
theorem dksX3_goes_6 : cX3_goes.data.toList.drop 139 = dktX3_goes_6 := dk_seg dksX3_goes_5 23 rfl rfl
theorem dksX3_goes_7 : cX3_goes.data.toList.drop 163 = dktX3_goes_7 := dk_seg dksX3_goes_6 24 rfl rfl
theorem dksX3_goes_8 : cX3_goes.data.toList.drop 185 = dktX3_goes_8 := dk_seg dksX3_goes_7 22 rfl rfl
theorem dksX3_goes_9 : cX3_goes.data.toList.drop 207 = dktX3_goes_9 := dk_seg dksX3_goes_8 22 rfl rfl
theorem dX3_goes_0 : decode cX3_goes 0 = .ok (.iconst 0, 1) := dk_3 (dk_at dksX3_goes_0 0 rfl rfl)
theorem dX3_goes_1 : decode cX3_goes 1 = .ok (.istore_n 1, 1) := dk_60 (dk_at dksX3_goes_0 1 rfl rfl)
theorem dX3_goes_2 : decode cX3_goes 2 = .ok (.iload_n 1, 1) := dk_27 (dk_at dksX3_goes_0 2 rfl rfl)
theorem dX3_goes_3 : decode cX3_goes 3 = .ok (.aload_n 0, 1) := dk_42 (dk_at dksX3_goes_0 3 rfl rfl)
theorem dX3_goes_4 : decode cX3_goes 4 = .ok (.getfield 54, 3) := dk_180 0 54 (dk_at dksX3_goes_0 4 rfl rfl)
theorem dX3_goes_7 : decode cX3_goes 7 = .ok (.getfield 77, 3) := dk_180 0 77 (dk_at dksX3_goes_0 7 rfl rfl)
theorem dX3_goes_10 : decode cX3_goes 10 = .ok (.invokeinterface 94 1, 5) := by decide +kernel
theorem dX3_goes_15 : decode cX3_goes 15 = .ok (.if_icmp .ge 49, 3) := dk_162 0 49 (dk_at dksX3_goes_0 15 rfl rfl)
theorem dX3_goes_18 : decode cX3_goes 18 = .ok (.aload_n 0, 1) := dk_42 (dk_at dksX3_goes_0 18 rfl rfl)
theorem dX3_goes_19 : decode cX3_goes 19 = .ok (.getfield 16, 3) := dk_180 0 16 (dk_at dksX3_goes_0 19 rfl rfl)
theorem dX3_goes_22 : decode cX3_goes 22 = .ok (.iload_n 1, 1) := dk_27 (dk_at dksX3_goes_0 22 rfl rfl)
theorem dX3_goes_23 : decode cX3_goes 23 = .ok (.iload_n 1, 1) := dk_27 (dk_at dksX3_goes_0 23 rfl rfl)
theorem dX3_goes_24 : decode cX3_goes 24 = .ok (.aload_n 0, 1) := dk_42 (dk_at dksX3_goes_1 0 rfl rfl)
theorem dX3_goes_25 : decode cX3_goes 25 = .ok (.getfield 74, 3) := dk_180 0 74 (dk_at dksX3_goes_1 1 rfl rfl)
theorem dX3_goes_28 : decode cX3_goes 28 = .ok (.if_icmp .ne 10, 3) := dk_160 0 10 (dk_at dksX3_goes_1 4 rfl rfl)
theorem dX3_goes_31 : decode cX3_goes 31 = .ok (.aload_n 0, 1) := dk_42 (dk_at dksX3_goes_1 7 rfl rfl)
theorem dX3_goes_32 : decode cX3_goes 32 = .ok (.getfield 98, 3) := dk_180 0 98 (dk_at dksX3_goes_1 8 rfl rfl)
theorem dX3_goes_35 : decode cX3_goes 35 = .ok (.goto 22, 3) := dk_167 0 22 (dk_at dksX3_goes_1 11 rfl rfl)
theorem dX3_goes_38 : decode cX3_goes 38 = .ok (.aload_n 0, 1) := dk_42 (dk_at dksX3_goes_1 14 rfl rfl)
theorem dX3_goes_39 : decode cX3_goes 39 = .ok (.getfield 54, 3) := dk_180 0 54 (dk_at dksX3_goes_1 15 rfl rfl)
theorem dX3_goes_42 : decode cX3_goes 42 = .ok (.getfield 77, 3) := dk_180 0 77 (dk_at dksX3_goes_1 18 rfl rfl)
theorem dX3_goes_45 : decode cX3_goes 45 = .ok (.iload_n 1, 1) := dk_27 (dk_at dksX3_goes_1 21 rfl rfl)
theorem dX3_goes_46 : decode cX3_goes 46 = .ok (.invokeinterface 83 2, 5) := by decide +kernel
theorem dX3_goes_51 : decode cX3_goes 51 = .ok (.checkcast 89, 3) := dk_192 0 89 (dk_at dksX3_goes_2 5 rfl rfl)
theorem dX3_goes_54 : decode cX3_goes 54 = .ok (.getfield 101, 3) := dk_180 0 101 (dk_at dksX3_goes_2 8 rfl rfl)
theorem dX3_goes_57 : decode cX3_goes 57 = .ok (.iastore, 1) := dk_79 (dk_at dksX3_goes_2 11 rfl rfl)
theorem dX3_goes_58 : decode cX3_goes 58 = .ok (.iinc 1 1, 3) := dk_132 1 1 (dk_at dksX3_goes_2 12 rfl rfl)
theorem dX3_goes_61 : decode cX3_goes 61 = .ok (.goto (-59), 3) := dk_167 255 197 (dk_at dksX3_goes_2 15 rfl rfl)
theorem dX3_goes_64 : decode cX3_goes 64 = .ok (.aload_n 0, 1) := dk_42 (dk_at dksX3_goes_2 18 rfl rfl)
theorem dX3_goes_65 : decode cX3_goes 65 = .ok (.getfield 51, 3) := dk_180 0 51 (dk_at dksX3_goes_2 19 rfl rfl)
theorem dX3_goes_68 : decode cX3_goes 68 = .ok (.astore_n 1, 1) := dk_76 (dk_at dksX3_goes_2 22 rfl rfl)
theorem dX3_goes_69 : decode cX3_goes 69 = .ok (.aload_n 1, 1) := dk_43 (dk_at dksX3_goes_2 23 rfl rfl)
theorem dX3_goes_70 : decode cX3_goes 70 = .ok (.arraylength, 1) := dk_190 (dk_at dksX3_goes_3 0 rfl rfl)
theorem dX3_goes_71 : decode cX3_goes 71 = .ok (.istore_n 2, 1) := dk_61 (dk_at dksX3_goes_3 1 rfl rfl)
theorem dX3_goes_72 : decode cX3_goes 72 = .ok (.iconst 0, 1) := dk_3 (dk_at dksX3_goes_3 2 rfl rfl)
theorem dX3_goes_73 : decode cX3_goes 73 = .ok (.istore_n 3, 1) := dk_62 (dk_at dksX3_goes_3 3 rfl rfl)
theorem dX3_goes_74 : decode cX3_goes 74 = .ok (.iload_n 3, 1) := dk_29 (dk_at dksX3_goes_3 4 rfl rfl)
theorem dX3_goes_75 : decode cX3_goes 75 = .ok (.iload_n 2, 1) := dk_28 (dk_at dksX3_goes_3 5 rfl rfl)
theorem dX3_goes_76 : decode cX3_goes 76 = .ok (.if_icmp .ge 20, 3) := dk_162 0 20 (dk_at dksX3_goes_3 6 rfl rfl)
theorem dX3_goes_79 : decode cX3_goes 79 = .ok (.aload_n 1, 1) := dk_43 (dk_at dksX3_goes_3 9 rfl rfl)
theorem dX3_goes_80 : decode cX3_goes 80 = .ok (.iload_n 3, 1) := dk_29 (dk_at dksX3_goes_3 10 rfl rfl)
theorem dX3_goes_81 : decode cX3_goes 81 = .ok (.aaload, 1) := dk_50 (dk_at dksX3_goes_3 11 rfl rfl)
theorem dX3_goes_82 : decode cX3_goes 82 = .ok (.astore 4, 2) := dk_58 4 (dk_at dksX3_goes_3 12 rfl rfl)
theorem dX3_goes_84 : decode cX3_goes 84 = .ok (.aload 4, 2) := dk_25 4 (dk_at dksX3_goes_3 14 rfl rfl)
theorem dX3_goes_86 : decode cX3_goes 86 = .ok (.iconst 0, 1) := dk_3 (dk_at dksX3_goes_3 16 rfl rfl)
theorem dX3_goes_87 : decode cX3_goes 87 = .ok (.invokestatic 103, 3) := dk_184 0 103 (dk_at dksX3_goes_3 17 rfl rfl)
theorem dX3_goes_90 : decode cX3_goes 90 = .ok (.iinc 3 1, 3) := dk_132 3 1 (dk_at dksX3_goes_3 20 rfl rfl)
theorem dX3_goes_93 : decode cX3_goes 93 = .ok (.goto (-19), 3) := dk_167 255 237 (dk_at dksX3_goes_4 0 rfl rfl)
theorem dX3_goes_96 : decode cX3_goes 96 = .ok (.aload_n 0, 1) := dk_42 (dk_at dksX3_goes_4 3 rfl rfl)
theorem dX3_goes_97 : decode cX3_goes 97 = .ok (.getfield 47, 3) := dk_180 0 47 (dk_at dksX3_goes_4 4 rfl rfl)
theorem dX3_goes_100 : decode cX3_goes 100 = .ok (.iconst (-1), 1) := dk_2 (dk_at dksX3_goes_4 7 rfl rfl)
theorem dX3_goes_101 : decode cX3_goes 101 = .ok (.invokestatic 103, 3) := dk_184 0 103 (dk_at dksX3_goes_4 8 rfl rfl)
theorem dX3_goes_104 : decode cX3_goes 104 = .ok (.aload_n 0, 1) := dk_42 (dk_at dksX3_goes_4 11 rfl rfl)
theorem dX3_goes_105 : decode cX3_goes 105 = .ok (.iconst 0, 1) := dk_3 (dk_at dksX3_goes_4 12 rfl rfl)
theorem dX3_goes_106 : decode cX3_goes 106 = .ok (.putfield 109, 3) := dk_181 0 109 (dk_at dksX3_goes_4 13 rfl rfl)
theorem dX3_goes_109 : decode cX3_goes 109 = .ok (.aload_n 0, 1) := dk_42 (dk_at dksX3_goes_4 16 rfl rfl)
theorem dX3_goes_110 : decode cX3_goes 110 = .ok (.iconst 0, 1) := dk_3 (dk_at dksX3_goes_4 17 rfl rfl)
theorem dX3_goes_111 : decode cX3_goes 111 = .ok (.putfield 112, 3) := dk_181 0 112 (dk_at dksX3_goes_4 18 rfl rfl)
theorem dX3_goes_114 : decode cX3_goes 114 = .ok (.aload_n 0, 1) := dk_42 (dk_at dksX3_goes_4 21 rfl rfl)
theorem dX3_goes_115 : decode cX3_goes 115 = .ok (.iconst 0, 1) := dk_3 (dk_at dksX3_goes_4 22 rfl rfl)
theorem dX3_goes_116 : decode cX3_goes 116 = .ok (.putfield 115, 3) := dk_181 0 115 (dk_at dksX3_goes_5 0 rfl rfl)
theorem dX3_goes_119 : decode cX3_goes 119 = .ok (.aload_n 0, 1) := dk_42 (dk_at dksX3_goes_5 3 rfl rfl)
theorem dX3_goes_120 : decode cX3_goes 120 = .ok (.iconst (-1), 1) := dk_2 (dk_at dksX3_goes_5 4 rfl rfl)
theorem dX3_goes_121 : decode cX3_goes 121 = .ok (.putfield 118, 3) := dk_181 0 118 (dk_at dksX3_goes_5 5 rfl rfl)
theorem dX3_goes_124 : decode cX3_goes 124 = .ok (.iconst 0, 1) := dk_3 (dk_at dksX3_goes_5 8 rfl rfl)
theorem dX3_goes_125 : decode cX3_goes 125 = .ok (.istore_n 1, 1) := dk_60 (dk_at dksX3_goes_5 9 rfl rfl)
theorem dX3_goes_126 : decode cX3_goes 126 = .ok (.iload_n 1, 1) := dk_27 (dk_at dksX3_goes_5 10 rfl rfl)
theorem dX3_goes_127 : decode cX3_goes 127 = .ok (.aload_n 0, 1) := dk_42 (dk_at dksX3_goes_5 11 rfl rfl)
theorem dX3_goes_128 : decode cX3_goes 128 = .ok (.getfield 54, 3) := dk_180 0 54 (dk_at dksX3_goes_5 12 rfl rfl)
theorem dX3_goes_131 : decode cX3_goes 131 = .ok (.getfield 121, 3) := dk_180 0 121 (dk_at dksX3_goes_5 15 rfl rfl)
theorem dX3_goes_134 : decode cX3_goes 134 = .ok (.if_icmp .ge 76, 3) := dk_162 0 76 (dk_at dksX3_goes_5 18 rfl rfl)
theorem dX3_goes_137 : decode cX3_goes 137 = .ok (.aload_n 0, 1) := dk_42 (dk_at dksX3_goes_5 21 rfl rfl)
theorem dX3_goes_138 : decode cX3_goes 138 = .ok (.iload_n 1, 1) := dk_27 (dk_at dksX3_goes_5 22 rfl rfl)
theorem dX3_goes_139 : decode cX3_goes 139 = .ok (.invokevirtual 124, 3) := dk_182 0 124 (dk_at dksX3_goes_6 0 rfl rfl)
theorem dX3_goes_142 : decode cX3_goes 142 = .ok (.aload_n 0, 1) := dk_42 (dk_at dksX3_goes_6 3 rfl rfl)
theorem dX3_goes_143 : decode cX3_goes 143 = .ok (.iload_n 1, 1) := dk_27 (dk_at dksX3_goes_6 4 rfl rfl)
theorem dX3_goes_144 : decode cX3_goes 144 = .ok (.invokevirtual 128, 3) := dk_182 0 128 (dk_at dksX3_goes_6 5 rfl rfl)
theorem dX3_goes_147 : decode cX3_goes 147 = .ok (.aload_n 0, 1) := dk_42 (dk_at dksX3_goes_6 8 rfl rfl)
theorem dX3_goes_148 : decode cX3_goes 148 = .ok (.iload_n 1, 1) := dk_27 (dk_at dksX3_goes_6 9 rfl rfl)
theorem dX3_goes_149 : decode cX3_goes 149 = .ok (.invokevirtual 131, 3) := dk_182 0 131 (dk_at dksX3_goes_6 10 rfl rfl)
theorem dX3_goes_152 : decode cX3_goes 152 = .ok (.aload_n 0, 1) := dk_42 (dk_at dksX3_goes_6 13 rfl rfl)
theorem dX3_goes_153 : decode cX3_goes 153 = .ok (.iload_n 1, 1) := dk_27 (dk_at dksX3_goes_6 14 rfl rfl)
theorem dX3_goes_154 : decode cX3_goes 154 = .ok (.invokevirtual 134, 3) := dk_182 0 134 (dk_at dksX3_goes_6 15 rfl rfl)
theorem dX3_goes_157 : decode cX3_goes 157 = .ok (.aload_n 0, 1) := dk_42 (dk_at dksX3_goes_6 18 rfl rfl)
theorem dX3_goes_158 : decode cX3_goes 158 = .ok (.iload_n 1, 1) := dk_27 (dk_at dksX3_goes_6 19 rfl rfl)
theorem dX3_goes_159 : decode cX3_goes 159 = .ok (.invokevirtual 137, 3) := dk_182 0 137 (dk_at dksX3_goes_6 20 rfl rfl)
theorem dX3_goes_162 : decode cX3_goes 162 = .ok (.aload_n 0, 1) := dk_42 (dk_at dksX3_goes_6 23 rfl rfl)
theorem dX3_goes_163 : decode cX3_goes 163 = .ok (.invokevirtual 140, 3) := dk_182 0 140 (dk_at dksX3_goes_7 0 rfl rfl)
theorem dX3_goes_166 : decode cX3_goes 166 = .ok (.iconst 0, 1) := dk_3 (dk_at dksX3_goes_7 3 rfl rfl)
theorem dX3_goes_167 : decode cX3_goes 167 = .ok (.istore_n 2, 1) := dk_61 (dk_at dksX3_goes_7 4 rfl rfl)
theorem dX3_goes_168 : decode cX3_goes 168 = .ok (.iload_n 2, 1) := dk_28 (dk_at dksX3_goes_7 5 rfl rfl)
theorem dX3_goes_169 : decode cX3_goes 169 = .ok (.aload_n 0, 1) := dk_42 (dk_at dksX3_goes_7 6 rfl rfl)
theorem dX3_goes_170 : decode cX3_goes 170 = .ok (.getfield 54, 3) := dk_180 0 54 (dk_at dksX3_goes_7 7 rfl rfl)
theorem dX3_goes_173 : decode cX3_goes 173 = .ok (.getfield 77, 3) := dk_180 0 77 (dk_at dksX3_goes_7 10 rfl rfl)
theorem dX3_goes_176 : decode cX3_goes 176 = .ok (.invokeinterface 94 1, 5) := by decide +kernel
theorem dX3_goes_181 : decode cX3_goes 181 = .ok (.if_icmp .ge 23, 3) := dk_162 0 23 (dk_at dksX3_goes_7 18 rfl rfl)
theorem dX3_goes_184 : decode cX3_goes 184 = .ok (.aload_n 0, 1) := dk_42 (dk_at dksX3_goes_7 21 rfl rfl)
theorem dX3_goes_185 : decode cX3_goes 185 = .ok (.getfield 11, 3) := dk_180 0 11 (dk_at dksX3_goes_8 0 rfl rfl)
theorem dX3_goes_188 : decode cX3_goes 188 = .ok (.iload_n 2, 1) := dk_28 (dk_at dksX3_goes_8 3 rfl rfl)
theorem dX3_goes_189 : decode cX3_goes 189 = .ok (.aaload, 1) := dk_50 (dk_at dksX3_goes_8 4 rfl rfl)
theorem dX3_goes_190 : decode cX3_goes 190 = .ok (.iload_n 1, 1) := dk_27 (dk_at dksX3_goes_8 5 rfl rfl)
theorem dX3_goes_191 : decode cX3_goes 191 = .ok (.aload_n 0, 1) := dk_42 (dk_at dksX3_goes_8 6 rfl rfl)
theorem dX3_goes_192 : decode cX3_goes 192 = .ok (.getfield 16, 3) := dk_180 0 16 (dk_at dksX3_goes_8 7 rfl rfl)
theorem dX3_goes_195 : decode cX3_goes 195 = .ok (.iload_n 2, 1) := dk_28 (dk_at dksX3_goes_8 10 rfl rfl)
theorem dX3_goes_196 : decode cX3_goes 196 = .ok (.iaload, 1) := dk_46 (dk_at dksX3_goes_8 11 rfl rfl)
theorem dX3_goes_197 : decode cX3_goes 197 = .ok (.iastore, 1) := dk_79 (dk_at dksX3_goes_8 12 rfl rfl)
theorem dX3_goes_198 : decode cX3_goes 198 = .ok (.iinc 2 1, 3) := dk_132 2 1 (dk_at dksX3_goes_8 13 rfl rfl)
theorem dX3_goes_201 : decode cX3_goes 201 = .ok (.goto (-33), 3) := dk_167 255 223 (dk_at dksX3_goes_8 16 rfl rfl)
theorem dX3_goes_204 : decode cX3_goes 204 = .ok (.iinc 1 1, 3) := dk_132 1 1 (dk_at dksX3_goes_8 19 rfl rfl)
theorem dX3_goes_207 : decode cX3_goes 207 = .ok (.goto (-81), 3) := dk_167 255 175 (dk_at dksX3_goes_9 0 rfl rfl)
theorem dX3_goes_210 : decode cX3_goes 210 = .ok (.aload_n 0, 1) := dk_42 (dk_at dksX3_goes_9 3 rfl rfl)
theorem dX3_goes_211 : decode cX3_goes 211 = .ok (.areturn, 1) := dk_176 (dk_at dksX3_goes_9 4 rfl rfl)
abbrev cX3_floods : ByteArray := prog_11_method_6_code
def yX3_floods : MethodName := ⟨RX3, "floods", "(I)V"⟩
def dkwX3_floods_6 : List UInt8 := [132, 2, 1, 167, 255, 113, 177]
abbrev dktX3_floods_6 : List UInt8 := dkwX3_floods_6 ++ []
def dkwX3_floods_5 : List UInt8 := [184, 0, 167, 79, 42, 180, 0, 16, 42, 180, 0, 20, 28, 46, 92, 46, 42, 180, 0, 23, 28, 46, 96, 79]
abbrev dktX3_floods_5 : List UInt8 := dkwX3_floods_5 ++ dktX3_floods_6
def dkwX3_floods_4 : List UInt8 := [28, 46, 182, 0, 157, 184, 0, 161, 79, 42, 180, 0, 26, 28, 42, 180, 0, 23, 28, 46, 42, 180, 0, 64]
abbrev dktX3_floods_4 : List UInt8 := dkwX3_floods_4 ++ dktX3_floods_5
def dkwX3_floods_3 : List UInt8 := [42, 180, 0, 54, 180, 0, 143, 28, 185, 0, 83, 2, 0, 192, 0, 145, 180, 0, 154, 42, 42, 180, 0, 20]
abbrev dktX3_floods_3 : List UInt8 := dkwX3_floods_3 ++ dktX3_floods_4
def dkwX3_floods_2 : List UInt8 := [46, 2, 159, 0, 94, 42, 180, 0, 68, 28, 184, 0, 150, 154, 0, 6, 167, 0, 80, 42, 180, 0, 23, 28]
abbrev dktX3_floods_2 : List UInt8 := dkwX3_floods_2 ++ dktX3_floods_3
def dkwX3_floods_1 : List UInt8 := [180, 0, 143, 28, 185, 0, 83, 2, 0, 192, 0, 145, 180, 0, 147, 27, 160, 0, 104, 42, 180, 0, 20, 28]
abbrev dktX3_floods_1 : List UInt8 := dkwX3_floods_1 ++ dktX3_floods_2
def dkwX3_floods_0 : List UInt8 := [3, 61, 28, 42, 180, 0, 54, 180, 0, 143, 185, 0, 94, 1, 0, 162, 0, 133, 42, 180, 0, 54]
abbrev dktX3_floods_0 : List UInt8 := dkwX3_floods_0 ++ dktX3_floods_1
theorem dksX3_floods_0 : cX3_floods.data.toList.drop 0 = dktX3_floods_0 := by decide +kernel
theorem dksX3_floods_1 : cX3_floods.data.toList.drop 22 = dktX3_floods_1 := dk_seg dksX3_floods_0 22 rfl rfl
theorem dksX3_floods_2 : cX3_floods.data.toList.drop 46 = dktX3_floods_2 := dk_seg dksX3_floods_1 24 rfl rfl
theorem dksX3_floods_3 : cX3_floods.data.toList.drop 70 = dktX3_floods_3 := dk_seg dksX3_floods_2 24 rfl rfl
theorem dksX3_floods_4 : cX3_floods.data.toList.drop 94 = dktX3_floods_4 := dk_seg dksX3_floods_3 24 rfl rfl
theorem dksX3_floods_5 : cX3_floods.data.toList.drop 118 = dktX3_floods_5 := dk_seg dksX3_floods_4 24 rfl rfl
theorem dksX3_floods_6 : cX3_floods.data.toList.drop 142 = dktX3_floods_6 := dk_seg dksX3_floods_5 24 rfl rfl
theorem dX3_floods_0 : decode cX3_floods 0 = .ok (.iconst 0, 1) := dk_3 (dk_at dksX3_floods_0 0 rfl rfl)
theorem dX3_floods_1 : decode cX3_floods 1 = .ok (.istore_n 2, 1) := dk_61 (dk_at dksX3_floods_0 1 rfl rfl)
theorem dX3_floods_2 : decode cX3_floods 2 = .ok (.iload_n 2, 1) := dk_28 (dk_at dksX3_floods_0 2 rfl rfl)
theorem dX3_floods_3 : decode cX3_floods 3 = .ok (.aload_n 0, 1) := dk_42 (dk_at dksX3_floods_0 3 rfl rfl)
theorem dX3_floods_4 : decode cX3_floods 4 = .ok (.getfield 54, 3) := dk_180 0 54 (dk_at dksX3_floods_0 4 rfl rfl)
theorem dX3_floods_7 : decode cX3_floods 7 = .ok (.getfield 143, 3) := dk_180 0 143 (dk_at dksX3_floods_0 7 rfl rfl)
theorem dX3_floods_10 : decode cX3_floods 10 = .ok (.invokeinterface 94 1, 5) := by decide +kernel
theorem dX3_floods_15 : decode cX3_floods 15 = .ok (.if_icmp .ge 133, 3) := dk_162 0 133 (dk_at dksX3_floods_0 15 rfl rfl)
theorem dX3_floods_18 : decode cX3_floods 18 = .ok (.aload_n 0, 1) := dk_42 (dk_at dksX3_floods_0 18 rfl rfl)
theorem dX3_floods_19 : decode cX3_floods 19 = .ok (.getfield 54, 3) := dk_180 0 54 (dk_at dksX3_floods_0 19 rfl rfl)
theorem dX3_floods_22 : decode cX3_floods 22 = .ok (.getfield 143, 3) := dk_180 0 143 (dk_at dksX3_floods_1 0 rfl rfl)
theorem dX3_floods_25 : decode cX3_floods 25 = .ok (.iload_n 2, 1) := dk_28 (dk_at dksX3_floods_1 3 rfl rfl)
theorem dX3_floods_26 : decode cX3_floods 26 = .ok (.invokeinterface 83 2, 5) := by decide +kernel
theorem dX3_floods_31 : decode cX3_floods 31 = .ok (.checkcast 145, 3) := dk_192 0 145 (dk_at dksX3_floods_1 9 rfl rfl)
theorem dX3_floods_34 : decode cX3_floods 34 = .ok (.getfield 147, 3) := dk_180 0 147 (dk_at dksX3_floods_1 12 rfl rfl)
theorem dX3_floods_37 : decode cX3_floods 37 = .ok (.iload_n 1, 1) := dk_27 (dk_at dksX3_floods_1 15 rfl rfl)
theorem dX3_floods_38 : decode cX3_floods 38 = .ok (.if_icmp .ne 104, 3) := dk_160 0 104 (dk_at dksX3_floods_1 16 rfl rfl)
theorem dX3_floods_41 : decode cX3_floods 41 = .ok (.aload_n 0, 1) := dk_42 (dk_at dksX3_floods_1 19 rfl rfl)
theorem dX3_floods_42 : decode cX3_floods 42 = .ok (.getfield 20, 3) := dk_180 0 20 (dk_at dksX3_floods_1 20 rfl rfl)
theorem dX3_floods_45 : decode cX3_floods 45 = .ok (.iload_n 2, 1) := dk_28 (dk_at dksX3_floods_1 23 rfl rfl)
theorem dX3_floods_46 : decode cX3_floods 46 = .ok (.iaload, 1) := dk_46 (dk_at dksX3_floods_2 0 rfl rfl)
theorem dX3_floods_47 : decode cX3_floods 47 = .ok (.iconst (-1), 1) := dk_2 (dk_at dksX3_floods_2 1 rfl rfl)
theorem dX3_floods_48 : decode cX3_floods 48 = .ok (.if_icmp .eq 94, 3) := dk_159 0 94 (dk_at dksX3_floods_2 2 rfl rfl)
theorem dX3_floods_51 : decode cX3_floods 51 = .ok (.aload_n 0, 1) := dk_42 (dk_at dksX3_floods_2 5 rfl rfl)
theorem dX3_floods_52 : decode cX3_floods 52 = .ok (.getfield 68, 3) := dk_180 0 68 (dk_at dksX3_floods_2 6 rfl rfl)
theorem dX3_floods_55 : decode cX3_floods 55 = .ok (.iload_n 2, 1) := dk_28 (dk_at dksX3_floods_2 9 rfl rfl)
theorem dX3_floods_56 : decode cX3_floods 56 = .ok (.invokestatic 150, 3) := dk_184 0 150 (dk_at dksX3_floods_2 10 rfl rfl)
theorem dX3_floods_59 : decode cX3_floods 59 = .ok (.ifCond .ne 6, 3) := dk_154 0 6 (dk_at dksX3_floods_2 13 rfl rfl)
theorem dX3_floods_62 : decode cX3_floods 62 = .ok (.goto 80, 3) := dk_167 0 80 (dk_at dksX3_floods_2 16 rfl rfl)
theorem dX3_floods_65 : decode cX3_floods 65 = .ok (.aload_n 0, 1) := dk_42 (dk_at dksX3_floods_2 19 rfl rfl)
theorem dX3_floods_66 : decode cX3_floods 66 = .ok (.getfield 23, 3) := dk_180 0 23 (dk_at dksX3_floods_2 20 rfl rfl)
theorem dX3_floods_69 : decode cX3_floods 69 = .ok (.iload_n 2, 1) := dk_28 (dk_at dksX3_floods_2 23 rfl rfl)
theorem dX3_floods_70 : decode cX3_floods 70 = .ok (.aload_n 0, 1) := dk_42 (dk_at dksX3_floods_3 0 rfl rfl)
theorem dX3_floods_71 : decode cX3_floods 71 = .ok (.getfield 54, 3) := dk_180 0 54 (dk_at dksX3_floods_3 1 rfl rfl)
theorem dX3_floods_74 : decode cX3_floods 74 = .ok (.getfield 143, 3) := dk_180 0 143 (dk_at dksX3_floods_3 4 rfl rfl)
theorem dX3_floods_77 : decode cX3_floods 77 = .ok (.iload_n 2, 1) := dk_28 (dk_at dksX3_floods_3 7 rfl rfl)
theorem dX3_floods_78 : decode cX3_floods 78 = .ok (.invokeinterface 83 2, 5) := by decide +kernel
theorem dX3_floods_83 : decode cX3_floods 83 = .ok (.checkcast 145, 3) := dk_192 0 145 (dk_at dksX3_floods_3 13 rfl rfl)
theorem dX3_floods_86 : decode cX3_floods 86 = .ok (.getfield 154, 3) := dk_180 0 154 (dk_at dksX3_floods_3 16 rfl rfl)
theorem dX3_floods_89 : decode cX3_floods 89 = .ok (.aload_n 0, 1) := dk_42 (dk_at dksX3_floods_3 19 rfl rfl)
theorem dX3_floods_90 : decode cX3_floods 90 = .ok (.aload_n 0, 1) := dk_42 (dk_at dksX3_floods_3 20 rfl rfl)
theorem dX3_floods_91 : decode cX3_floods 91 = .ok (.getfield 20, 3) := dk_180 0 20 (dk_at dksX3_floods_3 21 rfl rfl)
theorem dX3_floods_94 : decode cX3_floods 94 = .ok (.iload_n 2, 1) := dk_28 (dk_at dksX3_floods_4 0 rfl rfl)
theorem dX3_floods_95 : decode cX3_floods 95 = .ok (.iaload, 1) := dk_46 (dk_at dksX3_floods_4 1 rfl rfl)
theorem dX3_floods_96 : decode cX3_floods 96 = .ok (.invokevirtual 157, 3) := dk_182 0 157 (dk_at dksX3_floods_4 2 rfl rfl)
theorem dX3_floods_99 : decode cX3_floods 99 = .ok (.invokestatic 161, 3) := dk_184 0 161 (dk_at dksX3_floods_4 5 rfl rfl)
theorem dX3_floods_102 : decode cX3_floods 102 = .ok (.iastore, 1) := dk_79 (dk_at dksX3_floods_4 8 rfl rfl)
theorem dX3_floods_103 : decode cX3_floods 103 = .ok (.aload_n 0, 1) := dk_42 (dk_at dksX3_floods_4 9 rfl rfl)
theorem dX3_floods_104 : decode cX3_floods 104 = .ok (.getfield 26, 3) := dk_180 0 26 (dk_at dksX3_floods_4 10 rfl rfl)
theorem dX3_floods_107 : decode cX3_floods 107 = .ok (.iload_n 2, 1) := dk_28 (dk_at dksX3_floods_4 13 rfl rfl)
theorem dX3_floods_108 : decode cX3_floods 108 = .ok (.aload_n 0, 1) := dk_42 (dk_at dksX3_floods_4 14 rfl rfl)
theorem dX3_floods_109 : decode cX3_floods 109 = .ok (.getfield 23, 3) := dk_180 0 23 (dk_at dksX3_floods_4 15 rfl rfl)
theorem dX3_floods_112 : decode cX3_floods 112 = .ok (.iload_n 2, 1) := dk_28 (dk_at dksX3_floods_4 18 rfl rfl)
theorem dX3_floods_113 : decode cX3_floods 113 = .ok (.iaload, 1) := dk_46 (dk_at dksX3_floods_4 19 rfl rfl)
theorem dX3_floods_114 : decode cX3_floods 114 = .ok (.aload_n 0, 1) := dk_42 (dk_at dksX3_floods_4 20 rfl rfl)
theorem dX3_floods_115 : decode cX3_floods 115 = .ok (.getfield 64, 3) := dk_180 0 64 (dk_at dksX3_floods_4 21 rfl rfl)
theorem dX3_floods_118 : decode cX3_floods 118 = .ok (.invokestatic 167, 3) := dk_184 0 167 (dk_at dksX3_floods_5 0 rfl rfl)
theorem dX3_floods_121 : decode cX3_floods 121 = .ok (.iastore, 1) := dk_79 (dk_at dksX3_floods_5 3 rfl rfl)
theorem dX3_floods_122 : decode cX3_floods 122 = .ok (.aload_n 0, 1) := dk_42 (dk_at dksX3_floods_5 4 rfl rfl)
theorem dX3_floods_123 : decode cX3_floods 123 = .ok (.getfield 16, 3) := dk_180 0 16 (dk_at dksX3_floods_5 5 rfl rfl)
theorem dX3_floods_126 : decode cX3_floods 126 = .ok (.aload_n 0, 1) := dk_42 (dk_at dksX3_floods_5 8 rfl rfl)
theorem dX3_floods_127 : decode cX3_floods 127 = .ok (.getfield 20, 3) := dk_180 0 20 (dk_at dksX3_floods_5 9 rfl rfl)
theorem dX3_floods_130 : decode cX3_floods 130 = .ok (.iload_n 2, 1) := dk_28 (dk_at dksX3_floods_5 12 rfl rfl)
theorem dX3_floods_131 : decode cX3_floods 131 = .ok (.iaload, 1) := dk_46 (dk_at dksX3_floods_5 13 rfl rfl)
theorem dX3_floods_132 : decode cX3_floods 132 = .ok (.dup2, 1) := dk_92 (dk_at dksX3_floods_5 14 rfl rfl)
theorem dX3_floods_133 : decode cX3_floods 133 = .ok (.iaload, 1) := dk_46 (dk_at dksX3_floods_5 15 rfl rfl)
theorem dX3_floods_134 : decode cX3_floods 134 = .ok (.aload_n 0, 1) := dk_42 (dk_at dksX3_floods_5 16 rfl rfl)
theorem dX3_floods_135 : decode cX3_floods 135 = .ok (.getfield 23, 3) := dk_180 0 23 (dk_at dksX3_floods_5 17 rfl rfl)
theorem dX3_floods_138 : decode cX3_floods 138 = .ok (.iload_n 2, 1) := dk_28 (dk_at dksX3_floods_5 20 rfl rfl)
theorem dX3_floods_139 : decode cX3_floods 139 = .ok (.iaload, 1) := dk_46 (dk_at dksX3_floods_5 21 rfl rfl)
theorem dX3_floods_140 : decode cX3_floods 140 = .ok (.iadd, 1) := dk_96 (dk_at dksX3_floods_5 22 rfl rfl)
theorem dX3_floods_141 : decode cX3_floods 141 = .ok (.iastore, 1) := dk_79 (dk_at dksX3_floods_5 23 rfl rfl)
theorem dX3_floods_142 : decode cX3_floods 142 = .ok (.iinc 2 1, 3) := dk_132 2 1 (dk_at dksX3_floods_6 0 rfl rfl)
theorem dX3_floods_145 : decode cX3_floods 145 = .ok (.goto (-143), 3) := dk_167 255 113 (dk_at dksX3_floods_6 3 rfl rfl)
theorem dX3_floods_148 : decode cX3_floods 148 = .ok (.return_, 1) := dk_177 (dk_at dksX3_floods_6 6 rfl rfl)
abbrev cX3_room : ByteArray := prog_11_method_4_code
def yX3_room : MethodName := ⟨RX3, "room", "(I)I"⟩
def dkwX3_room_1 : List UInt8 := [46, 100, 172]
abbrev dktX3_room_1 : List UInt8 := dkwX3_room_1 ++ []
def dkwX3_room_0 : List UInt8 := [42, 180, 0, 54, 180, 0, 77, 27, 185, 0, 83, 2, 0, 192, 0, 89, 180, 0, 91, 42, 180, 0, 16, 27]
abbrev dktX3_room_0 : List UInt8 := dkwX3_room_0 ++ dktX3_room_1
theorem dksX3_room_0 : cX3_room.data.toList.drop 0 = dktX3_room_0 := by decide +kernel
theorem dksX3_room_1 : cX3_room.data.toList.drop 24 = dktX3_room_1 := dk_seg dksX3_room_0 24 rfl rfl
theorem dX3_room_0 : decode cX3_room 0 = .ok (.aload_n 0, 1) := dk_42 (dk_at dksX3_room_0 0 rfl rfl)
theorem dX3_room_1 : decode cX3_room 1 = .ok (.getfield 54, 3) := dk_180 0 54 (dk_at dksX3_room_0 1 rfl rfl)
theorem dX3_room_4 : decode cX3_room 4 = .ok (.getfield 77, 3) := dk_180 0 77 (dk_at dksX3_room_0 4 rfl rfl)
theorem dX3_room_7 : decode cX3_room 7 = .ok (.iload_n 1, 1) := dk_27 (dk_at dksX3_room_0 7 rfl rfl)
theorem dX3_room_8 : decode cX3_room 8 = .ok (.invokeinterface 83 2, 5) := by decide +kernel
theorem dX3_room_13 : decode cX3_room 13 = .ok (.checkcast 89, 3) := dk_192 0 89 (dk_at dksX3_room_0 13 rfl rfl)
theorem dX3_room_16 : decode cX3_room 16 = .ok (.getfield 91, 3) := dk_180 0 91 (dk_at dksX3_room_0 16 rfl rfl)
theorem dX3_room_19 : decode cX3_room 19 = .ok (.aload_n 0, 1) := dk_42 (dk_at dksX3_room_0 19 rfl rfl)
theorem dX3_room_20 : decode cX3_room 20 = .ok (.getfield 16, 3) := dk_180 0 16 (dk_at dksX3_room_0 20 rfl rfl)
theorem dX3_room_23 : decode cX3_room 23 = .ok (.iload_n 1, 1) := dk_27 (dk_at dksX3_room_0 23 rfl rfl)
theorem dX3_room_24 : decode cX3_room 24 = .ok (.iaload, 1) := dk_46 (dk_at dksX3_room_1 0 rfl rfl)
theorem dX3_room_25 : decode cX3_room 25 = .ok (.isub, 1) := dk_100 (dk_at dksX3_room_1 1 rfl rfl)
theorem dX3_room_26 : decode cX3_room 26 = .ok (.ireturn, 1) := dk_172 (dk_at dksX3_room_1 2 rfl rfl)
abbrev cX3_withMore : ByteArray := prog_11_method_3_code
def yX3_withMore : MethodName := ⟨RX3, "withMore", "(II)I"⟩
def dkwX3_withMore_0 : List UInt8 := [26, 26, 27, 104, 16, 99, 96, 16, 100, 108, 96, 172]
abbrev dktX3_withMore_0 : List UInt8 := dkwX3_withMore_0 ++ []
theorem dksX3_withMore_0 : cX3_withMore.data.toList.drop 0 = dktX3_withMore_0 := by decide +kernel
theorem dX3_withMore_0 : decode cX3_withMore 0 = .ok (.iload_n 0, 1) := dk_26 (dk_at dksX3_withMore_0 0 rfl rfl)
theorem dX3_withMore_1 : decode cX3_withMore 1 = .ok (.iload_n 0, 1) := dk_26 (dk_at dksX3_withMore_0 1 rfl rfl)
theorem dX3_withMore_2 : decode cX3_withMore 2 = .ok (.iload_n 1, 1) := dk_27 (dk_at dksX3_withMore_0 2 rfl rfl)
theorem dX3_withMore_3 : decode cX3_withMore 3 = .ok (.imul, 1) := dk_104 (dk_at dksX3_withMore_0 3 rfl rfl)
theorem dX3_withMore_4 : decode cX3_withMore 4 = .ok (.bipush 99, 2) := dk_16 99 (dk_at dksX3_withMore_0 4 rfl rfl)
theorem dX3_withMore_6 : decode cX3_withMore 6 = .ok (.iadd, 1) := dk_96 (dk_at dksX3_withMore_0 6 rfl rfl)
theorem dX3_withMore_7 : decode cX3_withMore 7 = .ok (.bipush 100, 2) := dk_16 100 (dk_at dksX3_withMore_0 7 rfl rfl)
theorem dX3_withMore_9 : decode cX3_withMore 9 = .ok (.idiv, 1) := dk_108 (dk_at dksX3_withMore_0 9 rfl rfl)
theorem dX3_withMore_10 : decode cX3_withMore 10 = .ok (.iadd, 1) := dk_96 (dk_at dksX3_withMore_0 10 rfl rfl)
theorem dX3_withMore_11 : decode cX3_withMore 11 = .ok (.ireturn, 1) := dk_172 (dk_at dksX3_withMore_0 11 rfl rfl)
abbrev cX3_loans : ByteArray := prog_11_method_7_code
def yX3_loans : MethodName := ⟨RX3, "loans", "(I)V"⟩
def dkwX3_loans_6 : List UInt8 := [180, 0, 32, 28, 46, 96, 79, 132, 2, 1, 167, 255, 110, 177]
abbrev dktX3_loans_6 : List UInt8 := dkwX3_loans_6 ++ []
def dkwX3_loans_5 : List UInt8 := [180, 0, 172, 92, 46, 42, 180, 0, 32, 28, 46, 100, 79, 42, 180, 0, 16, 45, 180, 0, 175, 92, 46, 42]
abbrev dktX3_loans_5 : List UInt8 := dkwX3_loans_5 ++ dktX3_loans_6
def dkwX3_loans_4 : List UInt8 := [180, 0, 35, 28, 42, 180, 0, 32, 28, 46, 42, 180, 0, 64, 184, 0, 167, 79, 42, 180, 0, 16, 45]
abbrev dktX3_loans_4 : List UInt8 := dkwX3_loans_4 ++ dktX3_loans_5
def dkwX3_loans_3 : List UInt8 := [180, 0, 16, 45, 180, 0, 172, 46, 42, 45, 180, 0, 175, 182, 0, 157, 184, 0, 161, 184, 0, 161, 79, 42]
abbrev dktX3_loans_3 : List UInt8 := dkwX3_loans_3 ++ dktX3_loans_4
def dkwX3_loans_2 : List UInt8 := [180, 0, 172, 42, 180, 0, 71, 160, 0, 6, 167, 0, 91, 42, 180, 0, 32, 28, 45, 180, 0, 154, 42]
abbrev dktX3_loans_2 : List UInt8 := dkwX3_loans_2 ++ dktX3_loans_3
def dkwX3_loans_1 : List UInt8 := [180, 0, 170, 28, 185, 0, 83, 2, 0, 192, 0, 145, 78, 45, 180, 0, 147, 27, 160, 0, 105, 45]
abbrev dktX3_loans_1 : List UInt8 := dkwX3_loans_1 ++ dktX3_loans_2
def dkwX3_loans_0 : List UInt8 := [3, 61, 28, 42, 180, 0, 54, 180, 0, 170, 185, 0, 94, 1, 0, 162, 0, 136, 42, 180, 0, 54]
abbrev dktX3_loans_0 : List UInt8 := dkwX3_loans_0 ++ dktX3_loans_1
theorem dksX3_loans_0 : cX3_loans.data.toList.drop 0 = dktX3_loans_0 := by decide +kernel
theorem dksX3_loans_1 : cX3_loans.data.toList.drop 22 = dktX3_loans_1 := dk_seg dksX3_loans_0 22 rfl rfl
theorem dksX3_loans_2 : cX3_loans.data.toList.drop 44 = dktX3_loans_2 := dk_seg dksX3_loans_1 22 rfl rfl
theorem dksX3_loans_3 : cX3_loans.data.toList.drop 67 = dktX3_loans_3 := dk_seg dksX3_loans_2 23 rfl rfl
theorem dksX3_loans_4 : cX3_loans.data.toList.drop 91 = dktX3_loans_4 := dk_seg dksX3_loans_3 24 rfl rfl
theorem dksX3_loans_5 : cX3_loans.data.toList.drop 114 = dktX3_loans_5 := dk_seg dksX3_loans_4 23 rfl rfl
theorem dksX3_loans_6 : cX3_loans.data.toList.drop 138 = dktX3_loans_6 := dk_seg dksX3_loans_5 24 rfl rfl
theorem dX3_loans_0 : decode cX3_loans 0 = .ok (.iconst 0, 1) := dk_3 (dk_at dksX3_loans_0 0 rfl rfl)
theorem dX3_loans_1 : decode cX3_loans 1 = .ok (.istore_n 2, 1) := dk_61 (dk_at dksX3_loans_0 1 rfl rfl)
theorem dX3_loans_2 : decode cX3_loans 2 = .ok (.iload_n 2, 1) := dk_28 (dk_at dksX3_loans_0 2 rfl rfl)
theorem dX3_loans_3 : decode cX3_loans 3 = .ok (.aload_n 0, 1) := dk_42 (dk_at dksX3_loans_0 3 rfl rfl)
theorem dX3_loans_4 : decode cX3_loans 4 = .ok (.getfield 54, 3) := dk_180 0 54 (dk_at dksX3_loans_0 4 rfl rfl)
theorem dX3_loans_7 : decode cX3_loans 7 = .ok (.getfield 170, 3) := dk_180 0 170 (dk_at dksX3_loans_0 7 rfl rfl)
theorem dX3_loans_10 : decode cX3_loans 10 = .ok (.invokeinterface 94 1, 5) := by decide +kernel
theorem dX3_loans_15 : decode cX3_loans 15 = .ok (.if_icmp .ge 136, 3) := dk_162 0 136 (dk_at dksX3_loans_0 15 rfl rfl)
theorem dX3_loans_18 : decode cX3_loans 18 = .ok (.aload_n 0, 1) := dk_42 (dk_at dksX3_loans_0 18 rfl rfl)
theorem dX3_loans_19 : decode cX3_loans 19 = .ok (.getfield 54, 3) := dk_180 0 54 (dk_at dksX3_loans_0 19 rfl rfl)
theorem dX3_loans_22 : decode cX3_loans 22 = .ok (.getfield 170, 3) := dk_180 0 170 (dk_at dksX3_loans_1 0 rfl rfl)
theorem dX3_loans_25 : decode cX3_loans 25 = .ok (.iload_n 2, 1) := dk_28 (dk_at dksX3_loans_1 3 rfl rfl)
theorem dX3_loans_26 : decode cX3_loans 26 = .ok (.invokeinterface 83 2, 5) := by decide +kernel
theorem dX3_loans_31 : decode cX3_loans 31 = .ok (.checkcast 145, 3) := dk_192 0 145 (dk_at dksX3_loans_1 9 rfl rfl)
theorem dX3_loans_34 : decode cX3_loans 34 = .ok (.astore_n 3, 1) := dk_78 (dk_at dksX3_loans_1 12 rfl rfl)
theorem dX3_loans_35 : decode cX3_loans 35 = .ok (.aload_n 3, 1) := dk_45 (dk_at dksX3_loans_1 13 rfl rfl)
theorem dX3_loans_36 : decode cX3_loans 36 = .ok (.getfield 147, 3) := dk_180 0 147 (dk_at dksX3_loans_1 14 rfl rfl)
theorem dX3_loans_39 : decode cX3_loans 39 = .ok (.iload_n 1, 1) := dk_27 (dk_at dksX3_loans_1 17 rfl rfl)
theorem dX3_loans_40 : decode cX3_loans 40 = .ok (.if_icmp .ne 105, 3) := dk_160 0 105 (dk_at dksX3_loans_1 18 rfl rfl)
theorem dX3_loans_43 : decode cX3_loans 43 = .ok (.aload_n 3, 1) := dk_45 (dk_at dksX3_loans_1 21 rfl rfl)
theorem dX3_loans_44 : decode cX3_loans 44 = .ok (.getfield 172, 3) := dk_180 0 172 (dk_at dksX3_loans_2 0 rfl rfl)
theorem dX3_loans_47 : decode cX3_loans 47 = .ok (.aload_n 0, 1) := dk_42 (dk_at dksX3_loans_2 3 rfl rfl)
theorem dX3_loans_48 : decode cX3_loans 48 = .ok (.getfield 71, 3) := dk_180 0 71 (dk_at dksX3_loans_2 4 rfl rfl)
theorem dX3_loans_51 : decode cX3_loans 51 = .ok (.if_icmp .ne 6, 3) := dk_160 0 6 (dk_at dksX3_loans_2 7 rfl rfl)
theorem dX3_loans_54 : decode cX3_loans 54 = .ok (.goto 91, 3) := dk_167 0 91 (dk_at dksX3_loans_2 10 rfl rfl)
theorem dX3_loans_57 : decode cX3_loans 57 = .ok (.aload_n 0, 1) := dk_42 (dk_at dksX3_loans_2 13 rfl rfl)
theorem dX3_loans_58 : decode cX3_loans 58 = .ok (.getfield 32, 3) := dk_180 0 32 (dk_at dksX3_loans_2 14 rfl rfl)
theorem dX3_loans_61 : decode cX3_loans 61 = .ok (.iload_n 2, 1) := dk_28 (dk_at dksX3_loans_2 17 rfl rfl)
theorem dX3_loans_62 : decode cX3_loans 62 = .ok (.aload_n 3, 1) := dk_45 (dk_at dksX3_loans_2 18 rfl rfl)
theorem dX3_loans_63 : decode cX3_loans 63 = .ok (.getfield 154, 3) := dk_180 0 154 (dk_at dksX3_loans_2 19 rfl rfl)
theorem dX3_loans_66 : decode cX3_loans 66 = .ok (.aload_n 0, 1) := dk_42 (dk_at dksX3_loans_2 22 rfl rfl)
theorem dX3_loans_67 : decode cX3_loans 67 = .ok (.getfield 16, 3) := dk_180 0 16 (dk_at dksX3_loans_3 0 rfl rfl)
theorem dX3_loans_70 : decode cX3_loans 70 = .ok (.aload_n 3, 1) := dk_45 (dk_at dksX3_loans_3 3 rfl rfl)
theorem dX3_loans_71 : decode cX3_loans 71 = .ok (.getfield 172, 3) := dk_180 0 172 (dk_at dksX3_loans_3 4 rfl rfl)
theorem dX3_loans_74 : decode cX3_loans 74 = .ok (.iaload, 1) := dk_46 (dk_at dksX3_loans_3 7 rfl rfl)
theorem dX3_loans_75 : decode cX3_loans 75 = .ok (.aload_n 0, 1) := dk_42 (dk_at dksX3_loans_3 8 rfl rfl)
theorem dX3_loans_76 : decode cX3_loans 76 = .ok (.aload_n 3, 1) := dk_45 (dk_at dksX3_loans_3 9 rfl rfl)
theorem dX3_loans_77 : decode cX3_loans 77 = .ok (.getfield 175, 3) := dk_180 0 175 (dk_at dksX3_loans_3 10 rfl rfl)
theorem dX3_loans_80 : decode cX3_loans 80 = .ok (.invokevirtual 157, 3) := dk_182 0 157 (dk_at dksX3_loans_3 13 rfl rfl)
theorem dX3_loans_83 : decode cX3_loans 83 = .ok (.invokestatic 161, 3) := dk_184 0 161 (dk_at dksX3_loans_3 16 rfl rfl)
theorem dX3_loans_86 : decode cX3_loans 86 = .ok (.invokestatic 161, 3) := dk_184 0 161 (dk_at dksX3_loans_3 19 rfl rfl)
theorem dX3_loans_89 : decode cX3_loans 89 = .ok (.iastore, 1) := dk_79 (dk_at dksX3_loans_3 22 rfl rfl)
theorem dX3_loans_90 : decode cX3_loans 90 = .ok (.aload_n 0, 1) := dk_42 (dk_at dksX3_loans_3 23 rfl rfl)
theorem dX3_loans_91 : decode cX3_loans 91 = .ok (.getfield 35, 3) := dk_180 0 35 (dk_at dksX3_loans_4 0 rfl rfl)
theorem dX3_loans_94 : decode cX3_loans 94 = .ok (.iload_n 2, 1) := dk_28 (dk_at dksX3_loans_4 3 rfl rfl)
theorem dX3_loans_95 : decode cX3_loans 95 = .ok (.aload_n 0, 1) := dk_42 (dk_at dksX3_loans_4 4 rfl rfl)
theorem dX3_loans_96 : decode cX3_loans 96 = .ok (.getfield 32, 3) := dk_180 0 32 (dk_at dksX3_loans_4 5 rfl rfl)
theorem dX3_loans_99 : decode cX3_loans 99 = .ok (.iload_n 2, 1) := dk_28 (dk_at dksX3_loans_4 8 rfl rfl)
theorem dX3_loans_100 : decode cX3_loans 100 = .ok (.iaload, 1) := dk_46 (dk_at dksX3_loans_4 9 rfl rfl)
theorem dX3_loans_101 : decode cX3_loans 101 = .ok (.aload_n 0, 1) := dk_42 (dk_at dksX3_loans_4 10 rfl rfl)
theorem dX3_loans_102 : decode cX3_loans 102 = .ok (.getfield 64, 3) := dk_180 0 64 (dk_at dksX3_loans_4 11 rfl rfl)
theorem dX3_loans_105 : decode cX3_loans 105 = .ok (.invokestatic 167, 3) := dk_184 0 167 (dk_at dksX3_loans_4 14 rfl rfl)
theorem dX3_loans_108 : decode cX3_loans 108 = .ok (.iastore, 1) := dk_79 (dk_at dksX3_loans_4 17 rfl rfl)
theorem dX3_loans_109 : decode cX3_loans 109 = .ok (.aload_n 0, 1) := dk_42 (dk_at dksX3_loans_4 18 rfl rfl)
theorem dX3_loans_110 : decode cX3_loans 110 = .ok (.getfield 16, 3) := dk_180 0 16 (dk_at dksX3_loans_4 19 rfl rfl)
theorem dX3_loans_113 : decode cX3_loans 113 = .ok (.aload_n 3, 1) := dk_45 (dk_at dksX3_loans_4 22 rfl rfl)
theorem dX3_loans_114 : decode cX3_loans 114 = .ok (.getfield 172, 3) := dk_180 0 172 (dk_at dksX3_loans_5 0 rfl rfl)
theorem dX3_loans_117 : decode cX3_loans 117 = .ok (.dup2, 1) := dk_92 (dk_at dksX3_loans_5 3 rfl rfl)
theorem dX3_loans_118 : decode cX3_loans 118 = .ok (.iaload, 1) := dk_46 (dk_at dksX3_loans_5 4 rfl rfl)
theorem dX3_loans_119 : decode cX3_loans 119 = .ok (.aload_n 0, 1) := dk_42 (dk_at dksX3_loans_5 5 rfl rfl)
theorem dX3_loans_120 : decode cX3_loans 120 = .ok (.getfield 32, 3) := dk_180 0 32 (dk_at dksX3_loans_5 6 rfl rfl)
theorem dX3_loans_123 : decode cX3_loans 123 = .ok (.iload_n 2, 1) := dk_28 (dk_at dksX3_loans_5 9 rfl rfl)
theorem dX3_loans_124 : decode cX3_loans 124 = .ok (.iaload, 1) := dk_46 (dk_at dksX3_loans_5 10 rfl rfl)
theorem dX3_loans_125 : decode cX3_loans 125 = .ok (.isub, 1) := dk_100 (dk_at dksX3_loans_5 11 rfl rfl)
theorem dX3_loans_126 : decode cX3_loans 126 = .ok (.iastore, 1) := dk_79 (dk_at dksX3_loans_5 12 rfl rfl)
theorem dX3_loans_127 : decode cX3_loans 127 = .ok (.aload_n 0, 1) := dk_42 (dk_at dksX3_loans_5 13 rfl rfl)
theorem dX3_loans_128 : decode cX3_loans 128 = .ok (.getfield 16, 3) := dk_180 0 16 (dk_at dksX3_loans_5 14 rfl rfl)
theorem dX3_loans_131 : decode cX3_loans 131 = .ok (.aload_n 3, 1) := dk_45 (dk_at dksX3_loans_5 17 rfl rfl)
theorem dX3_loans_132 : decode cX3_loans 132 = .ok (.getfield 175, 3) := dk_180 0 175 (dk_at dksX3_loans_5 18 rfl rfl)
theorem dX3_loans_135 : decode cX3_loans 135 = .ok (.dup2, 1) := dk_92 (dk_at dksX3_loans_5 21 rfl rfl)
theorem dX3_loans_136 : decode cX3_loans 136 = .ok (.iaload, 1) := dk_46 (dk_at dksX3_loans_5 22 rfl rfl)
theorem dX3_loans_137 : decode cX3_loans 137 = .ok (.aload_n 0, 1) := dk_42 (dk_at dksX3_loans_5 23 rfl rfl)
theorem dX3_loans_138 : decode cX3_loans 138 = .ok (.getfield 32, 3) := dk_180 0 32 (dk_at dksX3_loans_6 0 rfl rfl)
theorem dX3_loans_141 : decode cX3_loans 141 = .ok (.iload_n 2, 1) := dk_28 (dk_at dksX3_loans_6 3 rfl rfl)
theorem dX3_loans_142 : decode cX3_loans 142 = .ok (.iaload, 1) := dk_46 (dk_at dksX3_loans_6 4 rfl rfl)
theorem dX3_loans_143 : decode cX3_loans 143 = .ok (.iadd, 1) := dk_96 (dk_at dksX3_loans_6 5 rfl rfl)
theorem dX3_loans_144 : decode cX3_loans 144 = .ok (.iastore, 1) := dk_79 (dk_at dksX3_loans_6 6 rfl rfl)
theorem dX3_loans_145 : decode cX3_loans 145 = .ok (.iinc 2 1, 3) := dk_132 2 1 (dk_at dksX3_loans_6 7 rfl rfl)
theorem dX3_loans_148 : decode cX3_loans 148 = .ok (.goto (-146), 3) := dk_167 255 110 (dk_at dksX3_loans_6 10 rfl rfl)
theorem dX3_loans_151 : decode cX3_loans 151 = .ok (.return_, 1) := dk_177 (dk_at dksX3_loans_6 13 rfl rfl)
abbrev cX3_pays : ByteArray := prog_11_method_9_code
def yX3_pays : MethodName := ⟨RX3, "pays", "(I)V"⟩
def dkwX3_pays_11 : List UInt8 := [167, 255, 147, 177]
abbrev dktX3_pays_11 : List UInt8 := dkwX3_pays_11 ++ []
def dkwX3_pays_10 : List UInt8 := [180, 0, 29, 28, 46, 42, 180, 0, 26, 28, 46, 162, 0, 8, 42, 27, 182, 0, 181, 132, 2, 1]
abbrev dktX3_pays_10 : List UInt8 := dkwX3_pays_10 ++ dktX3_pays_11
def dkwX3_pays_9 : List UInt8 := [79, 42, 180, 0, 16, 42, 180, 0, 20, 28, 46, 92, 46, 42, 180, 0, 29, 28, 46, 100, 79, 42]
abbrev dktX3_pays_9 : List UInt8 := dkwX3_pays_9 ++ dktX3_pays_10
def dkwX3_pays_8 : List UInt8 := [180, 0, 29, 28, 42, 180, 0, 26, 28, 46, 42, 180, 0, 16, 42, 180, 0, 20, 28, 46, 46, 184, 0, 161]
abbrev dktX3_pays_8 : List UInt8 := dkwX3_pays_8 ++ dktX3_pays_9
def dkwX3_pays_7 : List UInt8 := [180, 0, 54, 180, 0, 184, 160, 0, 88, 42, 180, 0, 20, 28, 46, 2, 160, 0, 6, 167, 0, 69, 42]
abbrev dktX3_pays_7 : List UInt8 := dkwX3_pays_7 ++ dktX3_pays_8
def dkwX3_pays_6 : List UInt8 := [167, 255, 118, 3, 61, 28, 42, 180, 0, 54, 180, 0, 143, 185, 0, 94, 1, 0, 162, 0, 99, 27, 42]
abbrev dktX3_pays_6 : List UInt8 := dkwX3_pays_6 ++ dktX3_pays_7
def dkwX3_pays_5 : List UInt8 := [79, 42, 180, 0, 38, 28, 46, 42, 180, 0, 35, 28, 46, 162, 0, 8, 42, 27, 182, 0, 181, 132, 2, 1]
abbrev dktX3_pays_5 : List UInt8 := dkwX3_pays_5 ++ dktX3_pays_6
def dkwX3_pays_4 : List UInt8 := [180, 0, 38, 28, 46, 100, 79, 42, 180, 0, 16, 45, 180, 0, 172, 92, 46, 42, 180, 0, 38, 28, 46, 96]
abbrev dktX3_pays_4 : List UInt8 := dkwX3_pays_4 ++ dktX3_pays_5
def dkwX3_pays_3 : List UInt8 := [180, 0, 172, 182, 0, 157, 184, 0, 161, 184, 0, 161, 79, 42, 180, 0, 16, 45, 180, 0, 175, 92, 46, 42]
abbrev dktX3_pays_3 : List UInt8 := dkwX3_pays_3 ++ dktX3_pays_4
def dkwX3_pays_2 : List UInt8 := [42, 180, 0, 38, 28, 42, 180, 0, 35, 28, 46, 42, 180, 0, 16, 45, 180, 0, 175, 46, 42, 45]
abbrev dktX3_pays_2 : List UInt8 := dkwX3_pays_2 ++ dktX3_pays_3
def dkwX3_pays_1 : List UInt8 := [180, 0, 170, 28, 185, 0, 83, 2, 0, 192, 0, 145, 78, 45, 180, 0, 178, 27, 159, 0, 6, 167, 0, 94]
abbrev dktX3_pays_1 : List UInt8 := dkwX3_pays_1 ++ dktX3_pays_2
def dkwX3_pays_0 : List UInt8 := [3, 61, 28, 42, 180, 0, 54, 180, 0, 170, 185, 0, 94, 1, 0, 162, 0, 128, 42, 180, 0, 54]
abbrev dktX3_pays_0 : List UInt8 := dkwX3_pays_0 ++ dktX3_pays_1
theorem dksX3_pays_0 : cX3_pays.data.toList.drop 0 = dktX3_pays_0 := by decide +kernel
theorem dksX3_pays_1 : cX3_pays.data.toList.drop 22 = dktX3_pays_1 := dk_seg dksX3_pays_0 22 rfl rfl
theorem dksX3_pays_2 : cX3_pays.data.toList.drop 46 = dktX3_pays_2 := dk_seg dksX3_pays_1 24 rfl rfl
theorem dksX3_pays_3 : cX3_pays.data.toList.drop 68 = dktX3_pays_3 := dk_seg dksX3_pays_2 22 rfl rfl
theorem dksX3_pays_4 : cX3_pays.data.toList.drop 92 = dktX3_pays_4 := dk_seg dksX3_pays_3 24 rfl rfl
theorem dksX3_pays_5 : cX3_pays.data.toList.drop 116 = dktX3_pays_5 := dk_seg dksX3_pays_4 24 rfl rfl
theorem dksX3_pays_6 : cX3_pays.data.toList.drop 140 = dktX3_pays_6 := dk_seg dksX3_pays_5 24 rfl rfl
theorem dksX3_pays_7 : cX3_pays.data.toList.drop 163 = dktX3_pays_7 := dk_seg dksX3_pays_6 23 rfl rfl
theorem dksX3_pays_8 : cX3_pays.data.toList.drop 186 = dktX3_pays_8 := dk_seg dksX3_pays_7 23 rfl rfl
theorem dksX3_pays_9 : cX3_pays.data.toList.drop 210 = dktX3_pays_9 := dk_seg dksX3_pays_8 24 rfl rfl
theorem dksX3_pays_10 : cX3_pays.data.toList.drop 232 = dktX3_pays_10 := dk_seg dksX3_pays_9 22 rfl rfl
theorem dksX3_pays_11 : cX3_pays.data.toList.drop 254 = dktX3_pays_11 := dk_seg dksX3_pays_10 22 rfl rfl
theorem dX3_pays_0 : decode cX3_pays 0 = .ok (.iconst 0, 1) := dk_3 (dk_at dksX3_pays_0 0 rfl rfl)
theorem dX3_pays_1 : decode cX3_pays 1 = .ok (.istore_n 2, 1) := dk_61 (dk_at dksX3_pays_0 1 rfl rfl)
theorem dX3_pays_2 : decode cX3_pays 2 = .ok (.iload_n 2, 1) := dk_28 (dk_at dksX3_pays_0 2 rfl rfl)
theorem dX3_pays_3 : decode cX3_pays 3 = .ok (.aload_n 0, 1) := dk_42 (dk_at dksX3_pays_0 3 rfl rfl)
theorem dX3_pays_4 : decode cX3_pays 4 = .ok (.getfield 54, 3) := dk_180 0 54 (dk_at dksX3_pays_0 4 rfl rfl)
theorem dX3_pays_7 : decode cX3_pays 7 = .ok (.getfield 170, 3) := dk_180 0 170 (dk_at dksX3_pays_0 7 rfl rfl)
theorem dX3_pays_10 : decode cX3_pays 10 = .ok (.invokeinterface 94 1, 5) := by decide +kernel
theorem dX3_pays_15 : decode cX3_pays 15 = .ok (.if_icmp .ge 128, 3) := dk_162 0 128 (dk_at dksX3_pays_0 15 rfl rfl)
theorem dX3_pays_18 : decode cX3_pays 18 = .ok (.aload_n 0, 1) := dk_42 (dk_at dksX3_pays_0 18 rfl rfl)
theorem dX3_pays_19 : decode cX3_pays 19 = .ok (.getfield 54, 3) := dk_180 0 54 (dk_at dksX3_pays_0 19 rfl rfl)
theorem dX3_pays_22 : decode cX3_pays 22 = .ok (.getfield 170, 3) := dk_180 0 170 (dk_at dksX3_pays_1 0 rfl rfl)
theorem dX3_pays_25 : decode cX3_pays 25 = .ok (.iload_n 2, 1) := dk_28 (dk_at dksX3_pays_1 3 rfl rfl)
theorem dX3_pays_26 : decode cX3_pays 26 = .ok (.invokeinterface 83 2, 5) := by decide +kernel
theorem dX3_pays_31 : decode cX3_pays 31 = .ok (.checkcast 145, 3) := dk_192 0 145 (dk_at dksX3_pays_1 9 rfl rfl)
theorem dX3_pays_34 : decode cX3_pays 34 = .ok (.astore_n 3, 1) := dk_78 (dk_at dksX3_pays_1 12 rfl rfl)
theorem dX3_pays_35 : decode cX3_pays 35 = .ok (.aload_n 3, 1) := dk_45 (dk_at dksX3_pays_1 13 rfl rfl)
theorem dX3_pays_36 : decode cX3_pays 36 = .ok (.getfield 178, 3) := dk_180 0 178 (dk_at dksX3_pays_1 14 rfl rfl)
theorem dX3_pays_39 : decode cX3_pays 39 = .ok (.iload_n 1, 1) := dk_27 (dk_at dksX3_pays_1 17 rfl rfl)
theorem dX3_pays_40 : decode cX3_pays 40 = .ok (.if_icmp .eq 6, 3) := dk_159 0 6 (dk_at dksX3_pays_1 18 rfl rfl)
theorem dX3_pays_43 : decode cX3_pays 43 = .ok (.goto 94, 3) := dk_167 0 94 (dk_at dksX3_pays_1 21 rfl rfl)
theorem dX3_pays_46 : decode cX3_pays 46 = .ok (.aload_n 0, 1) := dk_42 (dk_at dksX3_pays_2 0 rfl rfl)
theorem dX3_pays_47 : decode cX3_pays 47 = .ok (.getfield 38, 3) := dk_180 0 38 (dk_at dksX3_pays_2 1 rfl rfl)
theorem dX3_pays_50 : decode cX3_pays 50 = .ok (.iload_n 2, 1) := dk_28 (dk_at dksX3_pays_2 4 rfl rfl)
theorem dX3_pays_51 : decode cX3_pays 51 = .ok (.aload_n 0, 1) := dk_42 (dk_at dksX3_pays_2 5 rfl rfl)
theorem dX3_pays_52 : decode cX3_pays 52 = .ok (.getfield 35, 3) := dk_180 0 35 (dk_at dksX3_pays_2 6 rfl rfl)
theorem dX3_pays_55 : decode cX3_pays 55 = .ok (.iload_n 2, 1) := dk_28 (dk_at dksX3_pays_2 9 rfl rfl)
theorem dX3_pays_56 : decode cX3_pays 56 = .ok (.iaload, 1) := dk_46 (dk_at dksX3_pays_2 10 rfl rfl)
theorem dX3_pays_57 : decode cX3_pays 57 = .ok (.aload_n 0, 1) := dk_42 (dk_at dksX3_pays_2 11 rfl rfl)
theorem dX3_pays_58 : decode cX3_pays 58 = .ok (.getfield 16, 3) := dk_180 0 16 (dk_at dksX3_pays_2 12 rfl rfl)
theorem dX3_pays_61 : decode cX3_pays 61 = .ok (.aload_n 3, 1) := dk_45 (dk_at dksX3_pays_2 15 rfl rfl)
theorem dX3_pays_62 : decode cX3_pays 62 = .ok (.getfield 175, 3) := dk_180 0 175 (dk_at dksX3_pays_2 16 rfl rfl)
theorem dX3_pays_65 : decode cX3_pays 65 = .ok (.iaload, 1) := dk_46 (dk_at dksX3_pays_2 19 rfl rfl)
theorem dX3_pays_66 : decode cX3_pays 66 = .ok (.aload_n 0, 1) := dk_42 (dk_at dksX3_pays_2 20 rfl rfl)
theorem dX3_pays_67 : decode cX3_pays 67 = .ok (.aload_n 3, 1) := dk_45 (dk_at dksX3_pays_2 21 rfl rfl)
theorem dX3_pays_68 : decode cX3_pays 68 = .ok (.getfield 172, 3) := dk_180 0 172 (dk_at dksX3_pays_3 0 rfl rfl)
theorem dX3_pays_71 : decode cX3_pays 71 = .ok (.invokevirtual 157, 3) := dk_182 0 157 (dk_at dksX3_pays_3 3 rfl rfl)
theorem dX3_pays_74 : decode cX3_pays 74 = .ok (.invokestatic 161, 3) := dk_184 0 161 (dk_at dksX3_pays_3 6 rfl rfl)
theorem dX3_pays_77 : decode cX3_pays 77 = .ok (.invokestatic 161, 3) := dk_184 0 161 (dk_at dksX3_pays_3 9 rfl rfl)
theorem dX3_pays_80 : decode cX3_pays 80 = .ok (.iastore, 1) := dk_79 (dk_at dksX3_pays_3 12 rfl rfl)
theorem dX3_pays_81 : decode cX3_pays 81 = .ok (.aload_n 0, 1) := dk_42 (dk_at dksX3_pays_3 13 rfl rfl)
theorem dX3_pays_82 : decode cX3_pays 82 = .ok (.getfield 16, 3) := dk_180 0 16 (dk_at dksX3_pays_3 14 rfl rfl)
theorem dX3_pays_85 : decode cX3_pays 85 = .ok (.aload_n 3, 1) := dk_45 (dk_at dksX3_pays_3 17 rfl rfl)
theorem dX3_pays_86 : decode cX3_pays 86 = .ok (.getfield 175, 3) := dk_180 0 175 (dk_at dksX3_pays_3 18 rfl rfl)
theorem dX3_pays_89 : decode cX3_pays 89 = .ok (.dup2, 1) := dk_92 (dk_at dksX3_pays_3 21 rfl rfl)
theorem dX3_pays_90 : decode cX3_pays 90 = .ok (.iaload, 1) := dk_46 (dk_at dksX3_pays_3 22 rfl rfl)
theorem dX3_pays_91 : decode cX3_pays 91 = .ok (.aload_n 0, 1) := dk_42 (dk_at dksX3_pays_3 23 rfl rfl)
theorem dX3_pays_92 : decode cX3_pays 92 = .ok (.getfield 38, 3) := dk_180 0 38 (dk_at dksX3_pays_4 0 rfl rfl)
theorem dX3_pays_95 : decode cX3_pays 95 = .ok (.iload_n 2, 1) := dk_28 (dk_at dksX3_pays_4 3 rfl rfl)
theorem dX3_pays_96 : decode cX3_pays 96 = .ok (.iaload, 1) := dk_46 (dk_at dksX3_pays_4 4 rfl rfl)
theorem dX3_pays_97 : decode cX3_pays 97 = .ok (.isub, 1) := dk_100 (dk_at dksX3_pays_4 5 rfl rfl)
theorem dX3_pays_98 : decode cX3_pays 98 = .ok (.iastore, 1) := dk_79 (dk_at dksX3_pays_4 6 rfl rfl)
theorem dX3_pays_99 : decode cX3_pays 99 = .ok (.aload_n 0, 1) := dk_42 (dk_at dksX3_pays_4 7 rfl rfl)
theorem dX3_pays_100 : decode cX3_pays 100 = .ok (.getfield 16, 3) := dk_180 0 16 (dk_at dksX3_pays_4 8 rfl rfl)
theorem dX3_pays_103 : decode cX3_pays 103 = .ok (.aload_n 3, 1) := dk_45 (dk_at dksX3_pays_4 11 rfl rfl)
theorem dX3_pays_104 : decode cX3_pays 104 = .ok (.getfield 172, 3) := dk_180 0 172 (dk_at dksX3_pays_4 12 rfl rfl)
theorem dX3_pays_107 : decode cX3_pays 107 = .ok (.dup2, 1) := dk_92 (dk_at dksX3_pays_4 15 rfl rfl)
theorem dX3_pays_108 : decode cX3_pays 108 = .ok (.iaload, 1) := dk_46 (dk_at dksX3_pays_4 16 rfl rfl)
theorem dX3_pays_109 : decode cX3_pays 109 = .ok (.aload_n 0, 1) := dk_42 (dk_at dksX3_pays_4 17 rfl rfl)
theorem dX3_pays_110 : decode cX3_pays 110 = .ok (.getfield 38, 3) := dk_180 0 38 (dk_at dksX3_pays_4 18 rfl rfl)
theorem dX3_pays_113 : decode cX3_pays 113 = .ok (.iload_n 2, 1) := dk_28 (dk_at dksX3_pays_4 21 rfl rfl)
theorem dX3_pays_114 : decode cX3_pays 114 = .ok (.iaload, 1) := dk_46 (dk_at dksX3_pays_4 22 rfl rfl)
theorem dX3_pays_115 : decode cX3_pays 115 = .ok (.iadd, 1) := dk_96 (dk_at dksX3_pays_4 23 rfl rfl)
theorem dX3_pays_116 : decode cX3_pays 116 = .ok (.iastore, 1) := dk_79 (dk_at dksX3_pays_5 0 rfl rfl)
theorem dX3_pays_117 : decode cX3_pays 117 = .ok (.aload_n 0, 1) := dk_42 (dk_at dksX3_pays_5 1 rfl rfl)
theorem dX3_pays_118 : decode cX3_pays 118 = .ok (.getfield 38, 3) := dk_180 0 38 (dk_at dksX3_pays_5 2 rfl rfl)
theorem dX3_pays_121 : decode cX3_pays 121 = .ok (.iload_n 2, 1) := dk_28 (dk_at dksX3_pays_5 5 rfl rfl)
theorem dX3_pays_122 : decode cX3_pays 122 = .ok (.iaload, 1) := dk_46 (dk_at dksX3_pays_5 6 rfl rfl)
theorem dX3_pays_123 : decode cX3_pays 123 = .ok (.aload_n 0, 1) := dk_42 (dk_at dksX3_pays_5 7 rfl rfl)
theorem dX3_pays_124 : decode cX3_pays 124 = .ok (.getfield 35, 3) := dk_180 0 35 (dk_at dksX3_pays_5 8 rfl rfl)
theorem dX3_pays_127 : decode cX3_pays 127 = .ok (.iload_n 2, 1) := dk_28 (dk_at dksX3_pays_5 11 rfl rfl)
theorem dX3_pays_128 : decode cX3_pays 128 = .ok (.iaload, 1) := dk_46 (dk_at dksX3_pays_5 12 rfl rfl)
theorem dX3_pays_129 : decode cX3_pays 129 = .ok (.if_icmp .ge 8, 3) := dk_162 0 8 (dk_at dksX3_pays_5 13 rfl rfl)
theorem dX3_pays_132 : decode cX3_pays 132 = .ok (.aload_n 0, 1) := dk_42 (dk_at dksX3_pays_5 16 rfl rfl)
theorem dX3_pays_133 : decode cX3_pays 133 = .ok (.iload_n 1, 1) := dk_27 (dk_at dksX3_pays_5 17 rfl rfl)
theorem dX3_pays_134 : decode cX3_pays 134 = .ok (.invokevirtual 181, 3) := dk_182 0 181 (dk_at dksX3_pays_5 18 rfl rfl)
theorem dX3_pays_137 : decode cX3_pays 137 = .ok (.iinc 2 1, 3) := dk_132 2 1 (dk_at dksX3_pays_5 21 rfl rfl)
theorem dX3_pays_140 : decode cX3_pays 140 = .ok (.goto (-138), 3) := dk_167 255 118 (dk_at dksX3_pays_6 0 rfl rfl)
theorem dX3_pays_143 : decode cX3_pays 143 = .ok (.iconst 0, 1) := dk_3 (dk_at dksX3_pays_6 3 rfl rfl)
theorem dX3_pays_144 : decode cX3_pays 144 = .ok (.istore_n 2, 1) := dk_61 (dk_at dksX3_pays_6 4 rfl rfl)
theorem dX3_pays_145 : decode cX3_pays 145 = .ok (.iload_n 2, 1) := dk_28 (dk_at dksX3_pays_6 5 rfl rfl)
theorem dX3_pays_146 : decode cX3_pays 146 = .ok (.aload_n 0, 1) := dk_42 (dk_at dksX3_pays_6 6 rfl rfl)
theorem dX3_pays_147 : decode cX3_pays 147 = .ok (.getfield 54, 3) := dk_180 0 54 (dk_at dksX3_pays_6 7 rfl rfl)
theorem dX3_pays_150 : decode cX3_pays 150 = .ok (.getfield 143, 3) := dk_180 0 143 (dk_at dksX3_pays_6 10 rfl rfl)
theorem dX3_pays_153 : decode cX3_pays 153 = .ok (.invokeinterface 94 1, 5) := by decide +kernel
theorem dX3_pays_158 : decode cX3_pays 158 = .ok (.if_icmp .ge 99, 3) := dk_162 0 99 (dk_at dksX3_pays_6 18 rfl rfl)
theorem dX3_pays_161 : decode cX3_pays 161 = .ok (.iload_n 1, 1) := dk_27 (dk_at dksX3_pays_6 21 rfl rfl)
theorem dX3_pays_162 : decode cX3_pays 162 = .ok (.aload_n 0, 1) := dk_42 (dk_at dksX3_pays_6 22 rfl rfl)
theorem dX3_pays_163 : decode cX3_pays 163 = .ok (.getfield 54, 3) := dk_180 0 54 (dk_at dksX3_pays_7 0 rfl rfl)
theorem dX3_pays_166 : decode cX3_pays 166 = .ok (.getfield 184, 3) := dk_180 0 184 (dk_at dksX3_pays_7 3 rfl rfl)
theorem dX3_pays_169 : decode cX3_pays 169 = .ok (.if_icmp .ne 88, 3) := dk_160 0 88 (dk_at dksX3_pays_7 6 rfl rfl)
theorem dX3_pays_172 : decode cX3_pays 172 = .ok (.aload_n 0, 1) := dk_42 (dk_at dksX3_pays_7 9 rfl rfl)
theorem dX3_pays_173 : decode cX3_pays 173 = .ok (.getfield 20, 3) := dk_180 0 20 (dk_at dksX3_pays_7 10 rfl rfl)
theorem dX3_pays_176 : decode cX3_pays 176 = .ok (.iload_n 2, 1) := dk_28 (dk_at dksX3_pays_7 13 rfl rfl)
theorem dX3_pays_177 : decode cX3_pays 177 = .ok (.iaload, 1) := dk_46 (dk_at dksX3_pays_7 14 rfl rfl)
theorem dX3_pays_178 : decode cX3_pays 178 = .ok (.iconst (-1), 1) := dk_2 (dk_at dksX3_pays_7 15 rfl rfl)
theorem dX3_pays_179 : decode cX3_pays 179 = .ok (.if_icmp .ne 6, 3) := dk_160 0 6 (dk_at dksX3_pays_7 16 rfl rfl)
theorem dX3_pays_182 : decode cX3_pays 182 = .ok (.goto 69, 3) := dk_167 0 69 (dk_at dksX3_pays_7 19 rfl rfl)
theorem dX3_pays_185 : decode cX3_pays 185 = .ok (.aload_n 0, 1) := dk_42 (dk_at dksX3_pays_7 22 rfl rfl)
theorem dX3_pays_186 : decode cX3_pays 186 = .ok (.getfield 29, 3) := dk_180 0 29 (dk_at dksX3_pays_8 0 rfl rfl)
theorem dX3_pays_189 : decode cX3_pays 189 = .ok (.iload_n 2, 1) := dk_28 (dk_at dksX3_pays_8 3 rfl rfl)
theorem dX3_pays_190 : decode cX3_pays 190 = .ok (.aload_n 0, 1) := dk_42 (dk_at dksX3_pays_8 4 rfl rfl)
theorem dX3_pays_191 : decode cX3_pays 191 = .ok (.getfield 26, 3) := dk_180 0 26 (dk_at dksX3_pays_8 5 rfl rfl)
theorem dX3_pays_194 : decode cX3_pays 194 = .ok (.iload_n 2, 1) := dk_28 (dk_at dksX3_pays_8 8 rfl rfl)
theorem dX3_pays_195 : decode cX3_pays 195 = .ok (.iaload, 1) := dk_46 (dk_at dksX3_pays_8 9 rfl rfl)
theorem dX3_pays_196 : decode cX3_pays 196 = .ok (.aload_n 0, 1) := dk_42 (dk_at dksX3_pays_8 10 rfl rfl)
theorem dX3_pays_197 : decode cX3_pays 197 = .ok (.getfield 16, 3) := dk_180 0 16 (dk_at dksX3_pays_8 11 rfl rfl)
theorem dX3_pays_200 : decode cX3_pays 200 = .ok (.aload_n 0, 1) := dk_42 (dk_at dksX3_pays_8 14 rfl rfl)
theorem dX3_pays_201 : decode cX3_pays 201 = .ok (.getfield 20, 3) := dk_180 0 20 (dk_at dksX3_pays_8 15 rfl rfl)
theorem dX3_pays_204 : decode cX3_pays 204 = .ok (.iload_n 2, 1) := dk_28 (dk_at dksX3_pays_8 18 rfl rfl)
theorem dX3_pays_205 : decode cX3_pays 205 = .ok (.iaload, 1) := dk_46 (dk_at dksX3_pays_8 19 rfl rfl)
theorem dX3_pays_206 : decode cX3_pays 206 = .ok (.iaload, 1) := dk_46 (dk_at dksX3_pays_8 20 rfl rfl)
theorem dX3_pays_207 : decode cX3_pays 207 = .ok (.invokestatic 161, 3) := dk_184 0 161 (dk_at dksX3_pays_8 21 rfl rfl)
theorem dX3_pays_210 : decode cX3_pays 210 = .ok (.iastore, 1) := dk_79 (dk_at dksX3_pays_9 0 rfl rfl)
theorem dX3_pays_211 : decode cX3_pays 211 = .ok (.aload_n 0, 1) := dk_42 (dk_at dksX3_pays_9 1 rfl rfl)
theorem dX3_pays_212 : decode cX3_pays 212 = .ok (.getfield 16, 3) := dk_180 0 16 (dk_at dksX3_pays_9 2 rfl rfl)
theorem dX3_pays_215 : decode cX3_pays 215 = .ok (.aload_n 0, 1) := dk_42 (dk_at dksX3_pays_9 5 rfl rfl)
theorem dX3_pays_216 : decode cX3_pays 216 = .ok (.getfield 20, 3) := dk_180 0 20 (dk_at dksX3_pays_9 6 rfl rfl)
theorem dX3_pays_219 : decode cX3_pays 219 = .ok (.iload_n 2, 1) := dk_28 (dk_at dksX3_pays_9 9 rfl rfl)
theorem dX3_pays_220 : decode cX3_pays 220 = .ok (.iaload, 1) := dk_46 (dk_at dksX3_pays_9 10 rfl rfl)
theorem dX3_pays_221 : decode cX3_pays 221 = .ok (.dup2, 1) := dk_92 (dk_at dksX3_pays_9 11 rfl rfl)
theorem dX3_pays_222 : decode cX3_pays 222 = .ok (.iaload, 1) := dk_46 (dk_at dksX3_pays_9 12 rfl rfl)
theorem dX3_pays_223 : decode cX3_pays 223 = .ok (.aload_n 0, 1) := dk_42 (dk_at dksX3_pays_9 13 rfl rfl)
theorem dX3_pays_224 : decode cX3_pays 224 = .ok (.getfield 29, 3) := dk_180 0 29 (dk_at dksX3_pays_9 14 rfl rfl)
theorem dX3_pays_227 : decode cX3_pays 227 = .ok (.iload_n 2, 1) := dk_28 (dk_at dksX3_pays_9 17 rfl rfl)
theorem dX3_pays_228 : decode cX3_pays 228 = .ok (.iaload, 1) := dk_46 (dk_at dksX3_pays_9 18 rfl rfl)
theorem dX3_pays_229 : decode cX3_pays 229 = .ok (.isub, 1) := dk_100 (dk_at dksX3_pays_9 19 rfl rfl)
theorem dX3_pays_230 : decode cX3_pays 230 = .ok (.iastore, 1) := dk_79 (dk_at dksX3_pays_9 20 rfl rfl)
theorem dX3_pays_231 : decode cX3_pays 231 = .ok (.aload_n 0, 1) := dk_42 (dk_at dksX3_pays_9 21 rfl rfl)
theorem dX3_pays_232 : decode cX3_pays 232 = .ok (.getfield 29, 3) := dk_180 0 29 (dk_at dksX3_pays_10 0 rfl rfl)
theorem dX3_pays_235 : decode cX3_pays 235 = .ok (.iload_n 2, 1) := dk_28 (dk_at dksX3_pays_10 3 rfl rfl)
theorem dX3_pays_236 : decode cX3_pays 236 = .ok (.iaload, 1) := dk_46 (dk_at dksX3_pays_10 4 rfl rfl)
theorem dX3_pays_237 : decode cX3_pays 237 = .ok (.aload_n 0, 1) := dk_42 (dk_at dksX3_pays_10 5 rfl rfl)
theorem dX3_pays_238 : decode cX3_pays 238 = .ok (.getfield 26, 3) := dk_180 0 26 (dk_at dksX3_pays_10 6 rfl rfl)
theorem dX3_pays_241 : decode cX3_pays 241 = .ok (.iload_n 2, 1) := dk_28 (dk_at dksX3_pays_10 9 rfl rfl)
theorem dX3_pays_242 : decode cX3_pays 242 = .ok (.iaload, 1) := dk_46 (dk_at dksX3_pays_10 10 rfl rfl)
theorem dX3_pays_243 : decode cX3_pays 243 = .ok (.if_icmp .ge 8, 3) := dk_162 0 8 (dk_at dksX3_pays_10 11 rfl rfl)
theorem dX3_pays_246 : decode cX3_pays 246 = .ok (.aload_n 0, 1) := dk_42 (dk_at dksX3_pays_10 14 rfl rfl)
theorem dX3_pays_247 : decode cX3_pays 247 = .ok (.iload_n 1, 1) := dk_27 (dk_at dksX3_pays_10 15 rfl rfl)
theorem dX3_pays_248 : decode cX3_pays 248 = .ok (.invokevirtual 181, 3) := dk_182 0 181 (dk_at dksX3_pays_10 16 rfl rfl)
theorem dX3_pays_251 : decode cX3_pays 251 = .ok (.iinc 2 1, 3) := dk_132 2 1 (dk_at dksX3_pays_10 19 rfl rfl)
theorem dX3_pays_254 : decode cX3_pays 254 = .ok (.goto (-109), 3) := dk_167 255 147 (dk_at dksX3_pays_11 0 rfl rfl)
theorem dX3_pays_257 : decode cX3_pays 257 = .ok (.return_, 1) := dk_177 (dk_at dksX3_pays_11 3 rfl rfl)
abbrev cX3_isBad : ByteArray := prog_11_method_8_code
def yX3_isBad : MethodName := ⟨RX3, "isBad", "(I)V"⟩
def dkwX3_isBad_0 : List UInt8 := [42, 180, 0, 118, 2, 160, 0, 8, 42, 27, 181, 0, 118, 177]
abbrev dktX3_isBad_0 : List UInt8 := dkwX3_isBad_0 ++ []
theorem dksX3_isBad_0 : cX3_isBad.data.toList.drop 0 = dktX3_isBad_0 := by decide +kernel
theorem dX3_isBad_0 : decode cX3_isBad 0 = .ok (.aload_n 0, 1) := dk_42 (dk_at dksX3_isBad_0 0 rfl rfl)
theorem dX3_isBad_1 : decode cX3_isBad 1 = .ok (.getfield 118, 3) := dk_180 0 118 (dk_at dksX3_isBad_0 1 rfl rfl)
theorem dX3_isBad_4 : decode cX3_isBad 4 = .ok (.iconst (-1), 1) := dk_2 (dk_at dksX3_isBad_0 4 rfl rfl)
theorem dX3_isBad_5 : decode cX3_isBad 5 = .ok (.if_icmp .ne 8, 3) := dk_160 0 8 (dk_at dksX3_isBad_0 5 rfl rfl)
theorem dX3_isBad_8 : decode cX3_isBad 8 = .ok (.aload_n 0, 1) := dk_42 (dk_at dksX3_isBad_0 8 rfl rfl)
theorem dX3_isBad_9 : decode cX3_isBad 9 = .ok (.iload_n 1, 1) := dk_27 (dk_at dksX3_isBad_0 9 rfl rfl)
theorem dX3_isBad_10 : decode cX3_isBad 10 = .ok (.putfield 118, 3) := dk_181 0 118 (dk_at dksX3_isBad_0 10 rfl rfl)
theorem dX3_isBad_13 : decode cX3_isBad 13 = .ok (.return_, 1) := dk_177 (dk_at dksX3_isBad_0 13 rfl rfl)
abbrev cX3_crops : ByteArray := prog_11_method_10_code
def yX3_crops : MethodName := ⟨RX3, "crops", "(I)V"⟩
def dkwX3_crops_6 : List UInt8 := [92, 46, 45, 180, 0, 199, 96, 79, 132, 2, 1, 167, 255, 108, 177]
abbrev dktX3_crops_6 : List UInt8 := dkwX3_crops_6 ++ []
def dkwX3_crops_5 : List UInt8 := [45, 180, 0, 196, 100, 79, 42, 89, 180, 0, 115, 45, 180, 0, 196, 96, 181, 0, 115, 42, 180, 0, 41, 28]
abbrev dktX3_crops_5 : List UInt8 := dkwX3_crops_5 ++ dktX3_crops_6
def dkwX3_crops_4 : List UInt8 := [180, 0, 47, 28, 27, 79, 42, 27, 182, 0, 181, 167, 0, 45, 42, 180, 0, 16, 45, 180, 0, 193, 92, 46]
abbrev dktX3_crops_4 : List UInt8 := dkwX3_crops_4 ++ dktX3_crops_5
def dkwX3_crops_3 : List UInt8 := [162, 0, 38, 42, 180, 0, 44, 28, 92, 46, 4, 96, 79, 42, 180, 0, 47, 28, 46, 2, 160, 0, 10, 42]
abbrev dktX3_crops_3 : List UInt8 := dkwX3_crops_3 ++ dktX3_crops_4
def dkwX3_crops_2 : List UInt8 := [180, 0, 192, 164, 0, 6, 167, 0, 96, 42, 180, 0, 16, 45, 180, 0, 193, 46, 45, 180, 0, 196]
abbrev dktX3_crops_2 : List UInt8 := dkwX3_crops_2 ++ dktX3_crops_3
def dkwX3_crops_1 : List UInt8 := [180, 0, 187, 28, 185, 0, 83, 2, 0, 192, 0, 189, 78, 27, 45, 180, 0, 191, 161, 0, 107, 27, 45]
abbrev dktX3_crops_1 : List UInt8 := dkwX3_crops_1 ++ dktX3_crops_2
def dkwX3_crops_0 : List UInt8 := [3, 61, 28, 42, 180, 0, 54, 180, 0, 187, 185, 0, 94, 1, 0, 162, 0, 138, 42, 180, 0, 54]
abbrev dktX3_crops_0 : List UInt8 := dkwX3_crops_0 ++ dktX3_crops_1
theorem dksX3_crops_0 : cX3_crops.data.toList.drop 0 = dktX3_crops_0 := by decide +kernel
theorem dksX3_crops_1 : cX3_crops.data.toList.drop 22 = dktX3_crops_1 := dk_seg dksX3_crops_0 22 rfl rfl
theorem dksX3_crops_2 : cX3_crops.data.toList.drop 45 = dktX3_crops_2 := dk_seg dksX3_crops_1 23 rfl rfl
theorem dksX3_crops_3 : cX3_crops.data.toList.drop 67 = dktX3_crops_3 := dk_seg dksX3_crops_2 22 rfl rfl
theorem dksX3_crops_4 : cX3_crops.data.toList.drop 91 = dktX3_crops_4 := dk_seg dksX3_crops_3 24 rfl rfl
theorem dksX3_crops_5 : cX3_crops.data.toList.drop 115 = dktX3_crops_5 := dk_seg dksX3_crops_4 24 rfl rfl
theorem dksX3_crops_6 : cX3_crops.data.toList.drop 139 = dktX3_crops_6 := dk_seg dksX3_crops_5 24 rfl rfl
theorem dX3_crops_0 : decode cX3_crops 0 = .ok (.iconst 0, 1) := dk_3 (dk_at dksX3_crops_0 0 rfl rfl)
theorem dX3_crops_1 : decode cX3_crops 1 = .ok (.istore_n 2, 1) := dk_61 (dk_at dksX3_crops_0 1 rfl rfl)
theorem dX3_crops_2 : decode cX3_crops 2 = .ok (.iload_n 2, 1) := dk_28 (dk_at dksX3_crops_0 2 rfl rfl)
theorem dX3_crops_3 : decode cX3_crops 3 = .ok (.aload_n 0, 1) := dk_42 (dk_at dksX3_crops_0 3 rfl rfl)
theorem dX3_crops_4 : decode cX3_crops 4 = .ok (.getfield 54, 3) := dk_180 0 54 (dk_at dksX3_crops_0 4 rfl rfl)
theorem dX3_crops_7 : decode cX3_crops 7 = .ok (.getfield 187, 3) := dk_180 0 187 (dk_at dksX3_crops_0 7 rfl rfl)
theorem dX3_crops_10 : decode cX3_crops 10 = .ok (.invokeinterface 94 1, 5) := by decide +kernel
theorem dX3_crops_15 : decode cX3_crops 15 = .ok (.if_icmp .ge 138, 3) := dk_162 0 138 (dk_at dksX3_crops_0 15 rfl rfl)
theorem dX3_crops_18 : decode cX3_crops 18 = .ok (.aload_n 0, 1) := dk_42 (dk_at dksX3_crops_0 18 rfl rfl)
theorem dX3_crops_19 : decode cX3_crops 19 = .ok (.getfield 54, 3) := dk_180 0 54 (dk_at dksX3_crops_0 19 rfl rfl)
theorem dX3_crops_22 : decode cX3_crops 22 = .ok (.getfield 187, 3) := dk_180 0 187 (dk_at dksX3_crops_1 0 rfl rfl)
theorem dX3_crops_25 : decode cX3_crops 25 = .ok (.iload_n 2, 1) := dk_28 (dk_at dksX3_crops_1 3 rfl rfl)
theorem dX3_crops_26 : decode cX3_crops 26 = .ok (.invokeinterface 83 2, 5) := by decide +kernel
theorem dX3_crops_31 : decode cX3_crops 31 = .ok (.checkcast 189, 3) := dk_192 0 189 (dk_at dksX3_crops_1 9 rfl rfl)
theorem dX3_crops_34 : decode cX3_crops 34 = .ok (.astore_n 3, 1) := dk_78 (dk_at dksX3_crops_1 12 rfl rfl)
theorem dX3_crops_35 : decode cX3_crops 35 = .ok (.iload_n 1, 1) := dk_27 (dk_at dksX3_crops_1 13 rfl rfl)
theorem dX3_crops_36 : decode cX3_crops 36 = .ok (.aload_n 3, 1) := dk_45 (dk_at dksX3_crops_1 14 rfl rfl)
theorem dX3_crops_37 : decode cX3_crops 37 = .ok (.getfield 191, 3) := dk_180 0 191 (dk_at dksX3_crops_1 15 rfl rfl)
theorem dX3_crops_40 : decode cX3_crops 40 = .ok (.if_icmp .lt 107, 3) := dk_161 0 107 (dk_at dksX3_crops_1 18 rfl rfl)
theorem dX3_crops_43 : decode cX3_crops 43 = .ok (.iload_n 1, 1) := dk_27 (dk_at dksX3_crops_1 21 rfl rfl)
theorem dX3_crops_44 : decode cX3_crops 44 = .ok (.aload_n 3, 1) := dk_45 (dk_at dksX3_crops_1 22 rfl rfl)
theorem dX3_crops_45 : decode cX3_crops 45 = .ok (.getfield 192, 3) := dk_180 0 192 (dk_at dksX3_crops_2 0 rfl rfl)
theorem dX3_crops_48 : decode cX3_crops 48 = .ok (.if_icmp .le 6, 3) := dk_164 0 6 (dk_at dksX3_crops_2 3 rfl rfl)
theorem dX3_crops_51 : decode cX3_crops 51 = .ok (.goto 96, 3) := dk_167 0 96 (dk_at dksX3_crops_2 6 rfl rfl)
theorem dX3_crops_54 : decode cX3_crops 54 = .ok (.aload_n 0, 1) := dk_42 (dk_at dksX3_crops_2 9 rfl rfl)
theorem dX3_crops_55 : decode cX3_crops 55 = .ok (.getfield 16, 3) := dk_180 0 16 (dk_at dksX3_crops_2 10 rfl rfl)
theorem dX3_crops_58 : decode cX3_crops 58 = .ok (.aload_n 3, 1) := dk_45 (dk_at dksX3_crops_2 13 rfl rfl)
theorem dX3_crops_59 : decode cX3_crops 59 = .ok (.getfield 193, 3) := dk_180 0 193 (dk_at dksX3_crops_2 14 rfl rfl)
theorem dX3_crops_62 : decode cX3_crops 62 = .ok (.iaload, 1) := dk_46 (dk_at dksX3_crops_2 17 rfl rfl)
theorem dX3_crops_63 : decode cX3_crops 63 = .ok (.aload_n 3, 1) := dk_45 (dk_at dksX3_crops_2 18 rfl rfl)
theorem dX3_crops_64 : decode cX3_crops 64 = .ok (.getfield 196, 3) := dk_180 0 196 (dk_at dksX3_crops_2 19 rfl rfl)
theorem dX3_crops_67 : decode cX3_crops 67 = .ok (.if_icmp .ge 38, 3) := dk_162 0 38 (dk_at dksX3_crops_3 0 rfl rfl)
theorem dX3_crops_70 : decode cX3_crops 70 = .ok (.aload_n 0, 1) := dk_42 (dk_at dksX3_crops_3 3 rfl rfl)
theorem dX3_crops_71 : decode cX3_crops 71 = .ok (.getfield 44, 3) := dk_180 0 44 (dk_at dksX3_crops_3 4 rfl rfl)
theorem dX3_crops_74 : decode cX3_crops 74 = .ok (.iload_n 2, 1) := dk_28 (dk_at dksX3_crops_3 7 rfl rfl)
theorem dX3_crops_75 : decode cX3_crops 75 = .ok (.dup2, 1) := dk_92 (dk_at dksX3_crops_3 8 rfl rfl)
theorem dX3_crops_76 : decode cX3_crops 76 = .ok (.iaload, 1) := dk_46 (dk_at dksX3_crops_3 9 rfl rfl)
theorem dX3_crops_77 : decode cX3_crops 77 = .ok (.iconst 1, 1) := dk_4 (dk_at dksX3_crops_3 10 rfl rfl)
theorem dX3_crops_78 : decode cX3_crops 78 = .ok (.iadd, 1) := dk_96 (dk_at dksX3_crops_3 11 rfl rfl)
theorem dX3_crops_79 : decode cX3_crops 79 = .ok (.iastore, 1) := dk_79 (dk_at dksX3_crops_3 12 rfl rfl)
theorem dX3_crops_80 : decode cX3_crops 80 = .ok (.aload_n 0, 1) := dk_42 (dk_at dksX3_crops_3 13 rfl rfl)
theorem dX3_crops_81 : decode cX3_crops 81 = .ok (.getfield 47, 3) := dk_180 0 47 (dk_at dksX3_crops_3 14 rfl rfl)
theorem dX3_crops_84 : decode cX3_crops 84 = .ok (.iload_n 2, 1) := dk_28 (dk_at dksX3_crops_3 17 rfl rfl)
theorem dX3_crops_85 : decode cX3_crops 85 = .ok (.iaload, 1) := dk_46 (dk_at dksX3_crops_3 18 rfl rfl)
theorem dX3_crops_86 : decode cX3_crops 86 = .ok (.iconst (-1), 1) := dk_2 (dk_at dksX3_crops_3 19 rfl rfl)
theorem dX3_crops_87 : decode cX3_crops 87 = .ok (.if_icmp .ne 10, 3) := dk_160 0 10 (dk_at dksX3_crops_3 20 rfl rfl)
theorem dX3_crops_90 : decode cX3_crops 90 = .ok (.aload_n 0, 1) := dk_42 (dk_at dksX3_crops_3 23 rfl rfl)
theorem dX3_crops_91 : decode cX3_crops 91 = .ok (.getfield 47, 3) := dk_180 0 47 (dk_at dksX3_crops_4 0 rfl rfl)
theorem dX3_crops_94 : decode cX3_crops 94 = .ok (.iload_n 2, 1) := dk_28 (dk_at dksX3_crops_4 3 rfl rfl)
theorem dX3_crops_95 : decode cX3_crops 95 = .ok (.iload_n 1, 1) := dk_27 (dk_at dksX3_crops_4 4 rfl rfl)
theorem dX3_crops_96 : decode cX3_crops 96 = .ok (.iastore, 1) := dk_79 (dk_at dksX3_crops_4 5 rfl rfl)
theorem dX3_crops_97 : decode cX3_crops 97 = .ok (.aload_n 0, 1) := dk_42 (dk_at dksX3_crops_4 6 rfl rfl)
theorem dX3_crops_98 : decode cX3_crops 98 = .ok (.iload_n 1, 1) := dk_27 (dk_at dksX3_crops_4 7 rfl rfl)
theorem dX3_crops_99 : decode cX3_crops 99 = .ok (.invokevirtual 181, 3) := dk_182 0 181 (dk_at dksX3_crops_4 8 rfl rfl)
theorem dX3_crops_102 : decode cX3_crops 102 = .ok (.goto 45, 3) := dk_167 0 45 (dk_at dksX3_crops_4 11 rfl rfl)
theorem dX3_crops_105 : decode cX3_crops 105 = .ok (.aload_n 0, 1) := dk_42 (dk_at dksX3_crops_4 14 rfl rfl)
theorem dX3_crops_106 : decode cX3_crops 106 = .ok (.getfield 16, 3) := dk_180 0 16 (dk_at dksX3_crops_4 15 rfl rfl)
theorem dX3_crops_109 : decode cX3_crops 109 = .ok (.aload_n 3, 1) := dk_45 (dk_at dksX3_crops_4 18 rfl rfl)
theorem dX3_crops_110 : decode cX3_crops 110 = .ok (.getfield 193, 3) := dk_180 0 193 (dk_at dksX3_crops_4 19 rfl rfl)
theorem dX3_crops_113 : decode cX3_crops 113 = .ok (.dup2, 1) := dk_92 (dk_at dksX3_crops_4 22 rfl rfl)
theorem dX3_crops_114 : decode cX3_crops 114 = .ok (.iaload, 1) := dk_46 (dk_at dksX3_crops_4 23 rfl rfl)
theorem dX3_crops_115 : decode cX3_crops 115 = .ok (.aload_n 3, 1) := dk_45 (dk_at dksX3_crops_5 0 rfl rfl)
theorem dX3_crops_116 : decode cX3_crops 116 = .ok (.getfield 196, 3) := dk_180 0 196 (dk_at dksX3_crops_5 1 rfl rfl)
theorem dX3_crops_119 : decode cX3_crops 119 = .ok (.isub, 1) := dk_100 (dk_at dksX3_crops_5 4 rfl rfl)
theorem dX3_crops_120 : decode cX3_crops 120 = .ok (.iastore, 1) := dk_79 (dk_at dksX3_crops_5 5 rfl rfl)
theorem dX3_crops_121 : decode cX3_crops 121 = .ok (.aload_n 0, 1) := dk_42 (dk_at dksX3_crops_5 6 rfl rfl)
theorem dX3_crops_122 : decode cX3_crops 122 = .ok (.dup, 1) := dk_89 (dk_at dksX3_crops_5 7 rfl rfl)
theorem dX3_crops_123 : decode cX3_crops 123 = .ok (.getfield 115, 3) := dk_180 0 115 (dk_at dksX3_crops_5 8 rfl rfl)
theorem dX3_crops_126 : decode cX3_crops 126 = .ok (.aload_n 3, 1) := dk_45 (dk_at dksX3_crops_5 11 rfl rfl)
theorem dX3_crops_127 : decode cX3_crops 127 = .ok (.getfield 196, 3) := dk_180 0 196 (dk_at dksX3_crops_5 12 rfl rfl)
theorem dX3_crops_130 : decode cX3_crops 130 = .ok (.iadd, 1) := dk_96 (dk_at dksX3_crops_5 15 rfl rfl)
theorem dX3_crops_131 : decode cX3_crops 131 = .ok (.putfield 115, 3) := dk_181 0 115 (dk_at dksX3_crops_5 16 rfl rfl)
theorem dX3_crops_134 : decode cX3_crops 134 = .ok (.aload_n 0, 1) := dk_42 (dk_at dksX3_crops_5 19 rfl rfl)
theorem dX3_crops_135 : decode cX3_crops 135 = .ok (.getfield 41, 3) := dk_180 0 41 (dk_at dksX3_crops_5 20 rfl rfl)
theorem dX3_crops_138 : decode cX3_crops 138 = .ok (.iload_n 2, 1) := dk_28 (dk_at dksX3_crops_5 23 rfl rfl)
theorem dX3_crops_139 : decode cX3_crops 139 = .ok (.dup2, 1) := dk_92 (dk_at dksX3_crops_6 0 rfl rfl)
theorem dX3_crops_140 : decode cX3_crops 140 = .ok (.iaload, 1) := dk_46 (dk_at dksX3_crops_6 1 rfl rfl)
theorem dX3_crops_141 : decode cX3_crops 141 = .ok (.aload_n 3, 1) := dk_45 (dk_at dksX3_crops_6 2 rfl rfl)
theorem dX3_crops_142 : decode cX3_crops 142 = .ok (.getfield 199, 3) := dk_180 0 199 (dk_at dksX3_crops_6 3 rfl rfl)
theorem dX3_crops_145 : decode cX3_crops 145 = .ok (.iadd, 1) := dk_96 (dk_at dksX3_crops_6 6 rfl rfl)
theorem dX3_crops_146 : decode cX3_crops 146 = .ok (.iastore, 1) := dk_79 (dk_at dksX3_crops_6 7 rfl rfl)
theorem dX3_crops_147 : decode cX3_crops 147 = .ok (.iinc 2 1, 3) := dk_132 2 1 (dk_at dksX3_crops_6 8 rfl rfl)
theorem dX3_crops_150 : decode cX3_crops 150 = .ok (.goto (-148), 3) := dk_167 255 108 (dk_at dksX3_crops_6 11 rfl rfl)
theorem dX3_crops_153 : decode cX3_crops 153 = .ok (.return_, 1) := dk_177 (dk_at dksX3_crops_6 14 rfl rfl)
abbrev cX3_suns : ByteArray := prog_11_method_11_code
def yX3_suns : MethodName := ⟨RX3, "suns", "(I)V"⟩
def dkwX3_suns_3 : List UInt8 := [89, 180, 0, 109, 29, 96, 181, 0, 109, 132, 2, 1, 167, 255, 175, 177]
abbrev dktX3_suns_3 : List UInt8 := dkwX3_suns_3 ++ []
def dkwX3_suns_2 : List UInt8 := [180, 0, 205, 27, 46, 104, 16, 100, 108, 184, 0, 161, 62, 42, 180, 0, 16, 28, 92, 46, 29, 100, 79, 42]
abbrev dktX3_suns_2 : List UInt8 := dkwX3_suns_2 ++ dktX3_suns_3
def dkwX3_suns_1 : List UInt8 := [42, 180, 0, 54, 180, 0, 77, 28, 185, 0, 83, 2, 0, 192, 0, 89, 180, 0, 202, 42, 180, 0, 54]
abbrev dktX3_suns_1 : List UInt8 := dkwX3_suns_1 ++ dktX3_suns_2
def dkwX3_suns_0 : List UInt8 := [3, 61, 28, 42, 180, 0, 54, 180, 0, 77, 185, 0, 94, 1, 0, 162, 0, 71, 42, 180, 0, 16, 28, 46]
abbrev dktX3_suns_0 : List UInt8 := dkwX3_suns_0 ++ dktX3_suns_1
theorem dksX3_suns_0 : cX3_suns.data.toList.drop 0 = dktX3_suns_0 := by decide +kernel
theorem dksX3_suns_1 : cX3_suns.data.toList.drop 24 = dktX3_suns_1 := dk_seg dksX3_suns_0 24 rfl rfl
theorem dksX3_suns_2 : cX3_suns.data.toList.drop 47 = dktX3_suns_2 := dk_seg dksX3_suns_1 23 rfl rfl
theorem dksX3_suns_3 : cX3_suns.data.toList.drop 71 = dktX3_suns_3 := dk_seg dksX3_suns_2 24 rfl rfl
theorem dX3_suns_0 : decode cX3_suns 0 = .ok (.iconst 0, 1) := dk_3 (dk_at dksX3_suns_0 0 rfl rfl)
theorem dX3_suns_1 : decode cX3_suns 1 = .ok (.istore_n 2, 1) := dk_61 (dk_at dksX3_suns_0 1 rfl rfl)
theorem dX3_suns_2 : decode cX3_suns 2 = .ok (.iload_n 2, 1) := dk_28 (dk_at dksX3_suns_0 2 rfl rfl)
theorem dX3_suns_3 : decode cX3_suns 3 = .ok (.aload_n 0, 1) := dk_42 (dk_at dksX3_suns_0 3 rfl rfl)
theorem dX3_suns_4 : decode cX3_suns 4 = .ok (.getfield 54, 3) := dk_180 0 54 (dk_at dksX3_suns_0 4 rfl rfl)
theorem dX3_suns_7 : decode cX3_suns 7 = .ok (.getfield 77, 3) := dk_180 0 77 (dk_at dksX3_suns_0 7 rfl rfl)
theorem dX3_suns_10 : decode cX3_suns 10 = .ok (.invokeinterface 94 1, 5) := by decide +kernel
theorem dX3_suns_15 : decode cX3_suns 15 = .ok (.if_icmp .ge 71, 3) := dk_162 0 71 (dk_at dksX3_suns_0 15 rfl rfl)
theorem dX3_suns_18 : decode cX3_suns 18 = .ok (.aload_n 0, 1) := dk_42 (dk_at dksX3_suns_0 18 rfl rfl)
theorem dX3_suns_19 : decode cX3_suns 19 = .ok (.getfield 16, 3) := dk_180 0 16 (dk_at dksX3_suns_0 19 rfl rfl)
theorem dX3_suns_22 : decode cX3_suns 22 = .ok (.iload_n 2, 1) := dk_28 (dk_at dksX3_suns_0 22 rfl rfl)
theorem dX3_suns_23 : decode cX3_suns 23 = .ok (.iaload, 1) := dk_46 (dk_at dksX3_suns_0 23 rfl rfl)
theorem dX3_suns_24 : decode cX3_suns 24 = .ok (.aload_n 0, 1) := dk_42 (dk_at dksX3_suns_1 0 rfl rfl)
theorem dX3_suns_25 : decode cX3_suns 25 = .ok (.getfield 54, 3) := dk_180 0 54 (dk_at dksX3_suns_1 1 rfl rfl)
theorem dX3_suns_28 : decode cX3_suns 28 = .ok (.getfield 77, 3) := dk_180 0 77 (dk_at dksX3_suns_1 4 rfl rfl)
theorem dX3_suns_31 : decode cX3_suns 31 = .ok (.iload_n 2, 1) := dk_28 (dk_at dksX3_suns_1 7 rfl rfl)
theorem dX3_suns_32 : decode cX3_suns 32 = .ok (.invokeinterface 83 2, 5) := by decide +kernel
theorem dX3_suns_37 : decode cX3_suns 37 = .ok (.checkcast 89, 3) := dk_192 0 89 (dk_at dksX3_suns_1 13 rfl rfl)
theorem dX3_suns_40 : decode cX3_suns 40 = .ok (.getfield 202, 3) := dk_180 0 202 (dk_at dksX3_suns_1 16 rfl rfl)
theorem dX3_suns_43 : decode cX3_suns 43 = .ok (.aload_n 0, 1) := dk_42 (dk_at dksX3_suns_1 19 rfl rfl)
theorem dX3_suns_44 : decode cX3_suns 44 = .ok (.getfield 54, 3) := dk_180 0 54 (dk_at dksX3_suns_1 20 rfl rfl)
theorem dX3_suns_47 : decode cX3_suns 47 = .ok (.getfield 205, 3) := dk_180 0 205 (dk_at dksX3_suns_2 0 rfl rfl)
theorem dX3_suns_50 : decode cX3_suns 50 = .ok (.iload_n 1, 1) := dk_27 (dk_at dksX3_suns_2 3 rfl rfl)
theorem dX3_suns_51 : decode cX3_suns 51 = .ok (.iaload, 1) := dk_46 (dk_at dksX3_suns_2 4 rfl rfl)
theorem dX3_suns_52 : decode cX3_suns 52 = .ok (.imul, 1) := dk_104 (dk_at dksX3_suns_2 5 rfl rfl)
theorem dX3_suns_53 : decode cX3_suns 53 = .ok (.bipush 100, 2) := dk_16 100 (dk_at dksX3_suns_2 6 rfl rfl)
theorem dX3_suns_55 : decode cX3_suns 55 = .ok (.idiv, 1) := dk_108 (dk_at dksX3_suns_2 8 rfl rfl)
theorem dX3_suns_56 : decode cX3_suns 56 = .ok (.invokestatic 161, 3) := dk_184 0 161 (dk_at dksX3_suns_2 9 rfl rfl)
theorem dX3_suns_59 : decode cX3_suns 59 = .ok (.istore_n 3, 1) := dk_62 (dk_at dksX3_suns_2 12 rfl rfl)
theorem dX3_suns_60 : decode cX3_suns 60 = .ok (.aload_n 0, 1) := dk_42 (dk_at dksX3_suns_2 13 rfl rfl)
theorem dX3_suns_61 : decode cX3_suns 61 = .ok (.getfield 16, 3) := dk_180 0 16 (dk_at dksX3_suns_2 14 rfl rfl)
theorem dX3_suns_64 : decode cX3_suns 64 = .ok (.iload_n 2, 1) := dk_28 (dk_at dksX3_suns_2 17 rfl rfl)
theorem dX3_suns_65 : decode cX3_suns 65 = .ok (.dup2, 1) := dk_92 (dk_at dksX3_suns_2 18 rfl rfl)
theorem dX3_suns_66 : decode cX3_suns 66 = .ok (.iaload, 1) := dk_46 (dk_at dksX3_suns_2 19 rfl rfl)
theorem dX3_suns_67 : decode cX3_suns 67 = .ok (.iload_n 3, 1) := dk_29 (dk_at dksX3_suns_2 20 rfl rfl)
theorem dX3_suns_68 : decode cX3_suns 68 = .ok (.isub, 1) := dk_100 (dk_at dksX3_suns_2 21 rfl rfl)
theorem dX3_suns_69 : decode cX3_suns 69 = .ok (.iastore, 1) := dk_79 (dk_at dksX3_suns_2 22 rfl rfl)
theorem dX3_suns_70 : decode cX3_suns 70 = .ok (.aload_n 0, 1) := dk_42 (dk_at dksX3_suns_2 23 rfl rfl)
theorem dX3_suns_71 : decode cX3_suns 71 = .ok (.dup, 1) := dk_89 (dk_at dksX3_suns_3 0 rfl rfl)
theorem dX3_suns_72 : decode cX3_suns 72 = .ok (.getfield 109, 3) := dk_180 0 109 (dk_at dksX3_suns_3 1 rfl rfl)
theorem dX3_suns_75 : decode cX3_suns 75 = .ok (.iload_n 3, 1) := dk_29 (dk_at dksX3_suns_3 4 rfl rfl)
theorem dX3_suns_76 : decode cX3_suns 76 = .ok (.iadd, 1) := dk_96 (dk_at dksX3_suns_3 5 rfl rfl)
theorem dX3_suns_77 : decode cX3_suns 77 = .ok (.putfield 109, 3) := dk_181 0 109 (dk_at dksX3_suns_3 6 rfl rfl)
theorem dX3_suns_80 : decode cX3_suns 80 = .ok (.iinc 2 1, 3) := dk_132 2 1 (dk_at dksX3_suns_3 9 rfl rfl)
theorem dX3_suns_83 : decode cX3_suns 83 = .ok (.goto (-81), 3) := dk_167 255 175 (dk_at dksX3_suns_3 12 rfl rfl)
theorem dX3_suns_86 : decode cX3_suns 86 = .ok (.return_, 1) := dk_177 (dk_at dksX3_suns_3 15 rfl rfl)
abbrev cX3_seeps : ByteArray := prog_11_method_12_code
def yX3_seeps : MethodName := ⟨RX3, "seeps", "()V"⟩
def dkwX3_seeps_5 : List UInt8 := [181, 0, 112, 132, 1, 255, 167, 255, 148, 177]
abbrev dktX3_seeps_5 : List UInt8 := dkwX3_seeps_5 ++ []
def dkwX3_seeps_4 : List UInt8 := [158, 0, 15, 42, 180, 0, 16, 27, 4, 96, 92, 46, 29, 96, 79, 42, 89, 180, 0, 112, 28, 29, 100, 96]
abbrev dktX3_seeps_4 : List UInt8 := dkwX3_seeps_4 ++ dktX3_seeps_5
def dkwX3_seeps_3 : List UInt8 := [182, 0, 157, 184, 0, 161, 167, 0, 4, 3, 62, 42, 180, 0, 16, 27, 92, 46, 28, 100, 79, 29]
abbrev dktX3_seeps_3 : List UInt8 := dkwX3_seeps_3 ++ dktX3_seeps_4
def dkwX3_seeps_2 : List UInt8 := [27, 4, 96, 42, 180, 0, 54, 180, 0, 77, 185, 0, 94, 1, 0, 162, 0, 17, 28, 42, 27, 4, 96]
abbrev dktX3_seeps_2 : List UInt8 := dkwX3_seeps_2 ++ dktX3_seeps_3
def dkwX3_seeps_1 : List UInt8 := [46, 42, 180, 0, 54, 180, 0, 77, 27, 185, 0, 83, 2, 0, 192, 0, 89, 180, 0, 208, 184, 0, 161, 61]
abbrev dktX3_seeps_1 : List UInt8 := dkwX3_seeps_1 ++ dktX3_seeps_2
def dkwX3_seeps_0 : List UInt8 := [42, 180, 0, 54, 180, 0, 77, 185, 0, 94, 1, 0, 4, 100, 60, 27, 155, 0, 110, 42, 180, 0, 16, 27]
abbrev dktX3_seeps_0 : List UInt8 := dkwX3_seeps_0 ++ dktX3_seeps_1
theorem dksX3_seeps_0 : cX3_seeps.data.toList.drop 0 = dktX3_seeps_0 := by decide +kernel
theorem dksX3_seeps_1 : cX3_seeps.data.toList.drop 24 = dktX3_seeps_1 := dk_seg dksX3_seeps_0 24 rfl rfl
theorem dksX3_seeps_2 : cX3_seeps.data.toList.drop 48 = dktX3_seeps_2 := dk_seg dksX3_seeps_1 24 rfl rfl
theorem dksX3_seeps_3 : cX3_seeps.data.toList.drop 71 = dktX3_seeps_3 := dk_seg dksX3_seeps_2 23 rfl rfl
theorem dksX3_seeps_4 : cX3_seeps.data.toList.drop 93 = dktX3_seeps_4 := dk_seg dksX3_seeps_3 22 rfl rfl
theorem dksX3_seeps_5 : cX3_seeps.data.toList.drop 117 = dktX3_seeps_5 := dk_seg dksX3_seeps_4 24 rfl rfl
theorem dX3_seeps_0 : decode cX3_seeps 0 = .ok (.aload_n 0, 1) := dk_42 (dk_at dksX3_seeps_0 0 rfl rfl)
theorem dX3_seeps_1 : decode cX3_seeps 1 = .ok (.getfield 54, 3) := dk_180 0 54 (dk_at dksX3_seeps_0 1 rfl rfl)
theorem dX3_seeps_4 : decode cX3_seeps 4 = .ok (.getfield 77, 3) := dk_180 0 77 (dk_at dksX3_seeps_0 4 rfl rfl)
theorem dX3_seeps_7 : decode cX3_seeps 7 = .ok (.invokeinterface 94 1, 5) := by decide +kernel
theorem dX3_seeps_12 : decode cX3_seeps 12 = .ok (.iconst 1, 1) := dk_4 (dk_at dksX3_seeps_0 12 rfl rfl)
theorem dX3_seeps_13 : decode cX3_seeps 13 = .ok (.isub, 1) := dk_100 (dk_at dksX3_seeps_0 13 rfl rfl)
theorem dX3_seeps_14 : decode cX3_seeps 14 = .ok (.istore_n 1, 1) := dk_60 (dk_at dksX3_seeps_0 14 rfl rfl)
theorem dX3_seeps_15 : decode cX3_seeps 15 = .ok (.iload_n 1, 1) := dk_27 (dk_at dksX3_seeps_0 15 rfl rfl)
theorem dX3_seeps_16 : decode cX3_seeps 16 = .ok (.ifCond .lt 110, 3) := dk_155 0 110 (dk_at dksX3_seeps_0 16 rfl rfl)
theorem dX3_seeps_19 : decode cX3_seeps 19 = .ok (.aload_n 0, 1) := dk_42 (dk_at dksX3_seeps_0 19 rfl rfl)
theorem dX3_seeps_20 : decode cX3_seeps 20 = .ok (.getfield 16, 3) := dk_180 0 16 (dk_at dksX3_seeps_0 20 rfl rfl)
theorem dX3_seeps_23 : decode cX3_seeps 23 = .ok (.iload_n 1, 1) := dk_27 (dk_at dksX3_seeps_0 23 rfl rfl)
theorem dX3_seeps_24 : decode cX3_seeps 24 = .ok (.iaload, 1) := dk_46 (dk_at dksX3_seeps_1 0 rfl rfl)
theorem dX3_seeps_25 : decode cX3_seeps 25 = .ok (.aload_n 0, 1) := dk_42 (dk_at dksX3_seeps_1 1 rfl rfl)
theorem dX3_seeps_26 : decode cX3_seeps 26 = .ok (.getfield 54, 3) := dk_180 0 54 (dk_at dksX3_seeps_1 2 rfl rfl)
theorem dX3_seeps_29 : decode cX3_seeps 29 = .ok (.getfield 77, 3) := dk_180 0 77 (dk_at dksX3_seeps_1 5 rfl rfl)
theorem dX3_seeps_32 : decode cX3_seeps 32 = .ok (.iload_n 1, 1) := dk_27 (dk_at dksX3_seeps_1 8 rfl rfl)
theorem dX3_seeps_33 : decode cX3_seeps 33 = .ok (.invokeinterface 83 2, 5) := by decide +kernel
theorem dX3_seeps_38 : decode cX3_seeps 38 = .ok (.checkcast 89, 3) := dk_192 0 89 (dk_at dksX3_seeps_1 14 rfl rfl)
theorem dX3_seeps_41 : decode cX3_seeps 41 = .ok (.getfield 208, 3) := dk_180 0 208 (dk_at dksX3_seeps_1 17 rfl rfl)
theorem dX3_seeps_44 : decode cX3_seeps 44 = .ok (.invokestatic 161, 3) := dk_184 0 161 (dk_at dksX3_seeps_1 20 rfl rfl)
theorem dX3_seeps_47 : decode cX3_seeps 47 = .ok (.istore_n 2, 1) := dk_61 (dk_at dksX3_seeps_1 23 rfl rfl)
theorem dX3_seeps_48 : decode cX3_seeps 48 = .ok (.iload_n 1, 1) := dk_27 (dk_at dksX3_seeps_2 0 rfl rfl)
theorem dX3_seeps_49 : decode cX3_seeps 49 = .ok (.iconst 1, 1) := dk_4 (dk_at dksX3_seeps_2 1 rfl rfl)
theorem dX3_seeps_50 : decode cX3_seeps 50 = .ok (.iadd, 1) := dk_96 (dk_at dksX3_seeps_2 2 rfl rfl)
theorem dX3_seeps_51 : decode cX3_seeps 51 = .ok (.aload_n 0, 1) := dk_42 (dk_at dksX3_seeps_2 3 rfl rfl)
theorem dX3_seeps_52 : decode cX3_seeps 52 = .ok (.getfield 54, 3) := dk_180 0 54 (dk_at dksX3_seeps_2 4 rfl rfl)
theorem dX3_seeps_55 : decode cX3_seeps 55 = .ok (.getfield 77, 3) := dk_180 0 77 (dk_at dksX3_seeps_2 7 rfl rfl)
theorem dX3_seeps_58 : decode cX3_seeps 58 = .ok (.invokeinterface 94 1, 5) := by decide +kernel
theorem dX3_seeps_63 : decode cX3_seeps 63 = .ok (.if_icmp .ge 17, 3) := dk_162 0 17 (dk_at dksX3_seeps_2 15 rfl rfl)
theorem dX3_seeps_66 : decode cX3_seeps 66 = .ok (.iload_n 2, 1) := dk_28 (dk_at dksX3_seeps_2 18 rfl rfl)
theorem dX3_seeps_67 : decode cX3_seeps 67 = .ok (.aload_n 0, 1) := dk_42 (dk_at dksX3_seeps_2 19 rfl rfl)
theorem dX3_seeps_68 : decode cX3_seeps 68 = .ok (.iload_n 1, 1) := dk_27 (dk_at dksX3_seeps_2 20 rfl rfl)
theorem dX3_seeps_69 : decode cX3_seeps 69 = .ok (.iconst 1, 1) := dk_4 (dk_at dksX3_seeps_2 21 rfl rfl)
theorem dX3_seeps_70 : decode cX3_seeps 70 = .ok (.iadd, 1) := dk_96 (dk_at dksX3_seeps_2 22 rfl rfl)
theorem dX3_seeps_71 : decode cX3_seeps 71 = .ok (.invokevirtual 157, 3) := dk_182 0 157 (dk_at dksX3_seeps_3 0 rfl rfl)
theorem dX3_seeps_74 : decode cX3_seeps 74 = .ok (.invokestatic 161, 3) := dk_184 0 161 (dk_at dksX3_seeps_3 3 rfl rfl)
theorem dX3_seeps_77 : decode cX3_seeps 77 = .ok (.goto 4, 3) := dk_167 0 4 (dk_at dksX3_seeps_3 6 rfl rfl)
theorem dX3_seeps_80 : decode cX3_seeps 80 = .ok (.iconst 0, 1) := dk_3 (dk_at dksX3_seeps_3 9 rfl rfl)
theorem dX3_seeps_81 : decode cX3_seeps 81 = .ok (.istore_n 3, 1) := dk_62 (dk_at dksX3_seeps_3 10 rfl rfl)
theorem dX3_seeps_82 : decode cX3_seeps 82 = .ok (.aload_n 0, 1) := dk_42 (dk_at dksX3_seeps_3 11 rfl rfl)
theorem dX3_seeps_83 : decode cX3_seeps 83 = .ok (.getfield 16, 3) := dk_180 0 16 (dk_at dksX3_seeps_3 12 rfl rfl)
theorem dX3_seeps_86 : decode cX3_seeps 86 = .ok (.iload_n 1, 1) := dk_27 (dk_at dksX3_seeps_3 15 rfl rfl)
theorem dX3_seeps_87 : decode cX3_seeps 87 = .ok (.dup2, 1) := dk_92 (dk_at dksX3_seeps_3 16 rfl rfl)
theorem dX3_seeps_88 : decode cX3_seeps 88 = .ok (.iaload, 1) := dk_46 (dk_at dksX3_seeps_3 17 rfl rfl)
theorem dX3_seeps_89 : decode cX3_seeps 89 = .ok (.iload_n 2, 1) := dk_28 (dk_at dksX3_seeps_3 18 rfl rfl)
theorem dX3_seeps_90 : decode cX3_seeps 90 = .ok (.isub, 1) := dk_100 (dk_at dksX3_seeps_3 19 rfl rfl)
theorem dX3_seeps_91 : decode cX3_seeps 91 = .ok (.iastore, 1) := dk_79 (dk_at dksX3_seeps_3 20 rfl rfl)
theorem dX3_seeps_92 : decode cX3_seeps 92 = .ok (.iload_n 3, 1) := dk_29 (dk_at dksX3_seeps_3 21 rfl rfl)
theorem dX3_seeps_93 : decode cX3_seeps 93 = .ok (.ifCond .le 15, 3) := dk_158 0 15 (dk_at dksX3_seeps_4 0 rfl rfl)
theorem dX3_seeps_96 : decode cX3_seeps 96 = .ok (.aload_n 0, 1) := dk_42 (dk_at dksX3_seeps_4 3 rfl rfl)
theorem dX3_seeps_97 : decode cX3_seeps 97 = .ok (.getfield 16, 3) := dk_180 0 16 (dk_at dksX3_seeps_4 4 rfl rfl)
theorem dX3_seeps_100 : decode cX3_seeps 100 = .ok (.iload_n 1, 1) := dk_27 (dk_at dksX3_seeps_4 7 rfl rfl)
theorem dX3_seeps_101 : decode cX3_seeps 101 = .ok (.iconst 1, 1) := dk_4 (dk_at dksX3_seeps_4 8 rfl rfl)
theorem dX3_seeps_102 : decode cX3_seeps 102 = .ok (.iadd, 1) := dk_96 (dk_at dksX3_seeps_4 9 rfl rfl)
theorem dX3_seeps_103 : decode cX3_seeps 103 = .ok (.dup2, 1) := dk_92 (dk_at dksX3_seeps_4 10 rfl rfl)
theorem dX3_seeps_104 : decode cX3_seeps 104 = .ok (.iaload, 1) := dk_46 (dk_at dksX3_seeps_4 11 rfl rfl)
theorem dX3_seeps_105 : decode cX3_seeps 105 = .ok (.iload_n 3, 1) := dk_29 (dk_at dksX3_seeps_4 12 rfl rfl)
theorem dX3_seeps_106 : decode cX3_seeps 106 = .ok (.iadd, 1) := dk_96 (dk_at dksX3_seeps_4 13 rfl rfl)
theorem dX3_seeps_107 : decode cX3_seeps 107 = .ok (.iastore, 1) := dk_79 (dk_at dksX3_seeps_4 14 rfl rfl)
theorem dX3_seeps_108 : decode cX3_seeps 108 = .ok (.aload_n 0, 1) := dk_42 (dk_at dksX3_seeps_4 15 rfl rfl)
theorem dX3_seeps_109 : decode cX3_seeps 109 = .ok (.dup, 1) := dk_89 (dk_at dksX3_seeps_4 16 rfl rfl)
theorem dX3_seeps_110 : decode cX3_seeps 110 = .ok (.getfield 112, 3) := dk_180 0 112 (dk_at dksX3_seeps_4 17 rfl rfl)
theorem dX3_seeps_113 : decode cX3_seeps 113 = .ok (.iload_n 2, 1) := dk_28 (dk_at dksX3_seeps_4 20 rfl rfl)
theorem dX3_seeps_114 : decode cX3_seeps 114 = .ok (.iload_n 3, 1) := dk_29 (dk_at dksX3_seeps_4 21 rfl rfl)
theorem dX3_seeps_115 : decode cX3_seeps 115 = .ok (.isub, 1) := dk_100 (dk_at dksX3_seeps_4 22 rfl rfl)
theorem dX3_seeps_116 : decode cX3_seeps 116 = .ok (.iadd, 1) := dk_96 (dk_at dksX3_seeps_4 23 rfl rfl)
theorem dX3_seeps_117 : decode cX3_seeps 117 = .ok (.putfield 112, 3) := dk_181 0 112 (dk_at dksX3_seeps_5 0 rfl rfl)
theorem dX3_seeps_120 : decode cX3_seeps 120 = .ok (.iinc 1 (-1), 3) := dk_132 1 255 (dk_at dksX3_seeps_5 3 rfl rfl)
theorem dX3_seeps_123 : decode cX3_seeps 123 = .ok (.goto (-108), 3) := dk_167 255 148 (dk_at dksX3_seeps_5 6 rfl rfl)
theorem dX3_seeps_126 : decode cX3_seeps 126 = .ok (.return_, 1) := dk_177 (dk_at dksX3_seeps_5 9 rfl rfl)
abbrev cX3_broughtInAll : ByteArray := prog_11_method_13_code
def yX3_broughtInAll : MethodName := ⟨RX3, "broughtInAll", "()I"⟩
def dkwX3_broughtInAll_1 : List UInt8 := [54, 5, 27, 21, 5, 96, 60, 132, 4, 1, 167, 255, 236, 27, 172]
abbrev dktX3_broughtInAll_1 : List UInt8 := dkwX3_broughtInAll_1 ++ []
def dkwX3_broughtInAll_0 : List UInt8 := [3, 60, 42, 180, 0, 41, 77, 44, 190, 62, 3, 54, 4, 21, 4, 29, 162, 0, 20, 44, 21, 4, 46]
abbrev dktX3_broughtInAll_0 : List UInt8 := dkwX3_broughtInAll_0 ++ dktX3_broughtInAll_1
theorem dksX3_broughtInAll_0 : cX3_broughtInAll.data.toList.drop 0 = dktX3_broughtInAll_0 := by decide +kernel
theorem dksX3_broughtInAll_1 : cX3_broughtInAll.data.toList.drop 23 = dktX3_broughtInAll_1 := dk_seg dksX3_broughtInAll_0 23 rfl rfl
theorem dX3_broughtInAll_0 : decode cX3_broughtInAll 0 = .ok (.iconst 0, 1) := dk_3 (dk_at dksX3_broughtInAll_0 0 rfl rfl)
theorem dX3_broughtInAll_1 : decode cX3_broughtInAll 1 = .ok (.istore_n 1, 1) := dk_60 (dk_at dksX3_broughtInAll_0 1 rfl rfl)
theorem dX3_broughtInAll_2 : decode cX3_broughtInAll 2 = .ok (.aload_n 0, 1) := dk_42 (dk_at dksX3_broughtInAll_0 2 rfl rfl)
theorem dX3_broughtInAll_3 : decode cX3_broughtInAll 3 = .ok (.getfield 41, 3) := dk_180 0 41 (dk_at dksX3_broughtInAll_0 3 rfl rfl)
theorem dX3_broughtInAll_6 : decode cX3_broughtInAll 6 = .ok (.astore_n 2, 1) := dk_77 (dk_at dksX3_broughtInAll_0 6 rfl rfl)
theorem dX3_broughtInAll_7 : decode cX3_broughtInAll 7 = .ok (.aload_n 2, 1) := dk_44 (dk_at dksX3_broughtInAll_0 7 rfl rfl)
theorem dX3_broughtInAll_8 : decode cX3_broughtInAll 8 = .ok (.arraylength, 1) := dk_190 (dk_at dksX3_broughtInAll_0 8 rfl rfl)
theorem dX3_broughtInAll_9 : decode cX3_broughtInAll 9 = .ok (.istore_n 3, 1) := dk_62 (dk_at dksX3_broughtInAll_0 9 rfl rfl)
theorem dX3_broughtInAll_10 : decode cX3_broughtInAll 10 = .ok (.iconst 0, 1) := dk_3 (dk_at dksX3_broughtInAll_0 10 rfl rfl)
theorem dX3_broughtInAll_11 : decode cX3_broughtInAll 11 = .ok (.istore 4, 2) := dk_54 4 (dk_at dksX3_broughtInAll_0 11 rfl rfl)
theorem dX3_broughtInAll_13 : decode cX3_broughtInAll 13 = .ok (.iload 4, 2) := dk_21 4 (dk_at dksX3_broughtInAll_0 13 rfl rfl)
theorem dX3_broughtInAll_15 : decode cX3_broughtInAll 15 = .ok (.iload_n 3, 1) := dk_29 (dk_at dksX3_broughtInAll_0 15 rfl rfl)
theorem dX3_broughtInAll_16 : decode cX3_broughtInAll 16 = .ok (.if_icmp .ge 20, 3) := dk_162 0 20 (dk_at dksX3_broughtInAll_0 16 rfl rfl)
theorem dX3_broughtInAll_19 : decode cX3_broughtInAll 19 = .ok (.aload_n 2, 1) := dk_44 (dk_at dksX3_broughtInAll_0 19 rfl rfl)
theorem dX3_broughtInAll_20 : decode cX3_broughtInAll 20 = .ok (.iload 4, 2) := dk_21 4 (dk_at dksX3_broughtInAll_0 20 rfl rfl)
theorem dX3_broughtInAll_22 : decode cX3_broughtInAll 22 = .ok (.iaload, 1) := dk_46 (dk_at dksX3_broughtInAll_0 22 rfl rfl)
theorem dX3_broughtInAll_23 : decode cX3_broughtInAll 23 = .ok (.istore 5, 2) := dk_54 5 (dk_at dksX3_broughtInAll_1 0 rfl rfl)
theorem dX3_broughtInAll_25 : decode cX3_broughtInAll 25 = .ok (.iload_n 1, 1) := dk_27 (dk_at dksX3_broughtInAll_1 2 rfl rfl)
theorem dX3_broughtInAll_26 : decode cX3_broughtInAll 26 = .ok (.iload 5, 2) := dk_21 5 (dk_at dksX3_broughtInAll_1 3 rfl rfl)
theorem dX3_broughtInAll_28 : decode cX3_broughtInAll 28 = .ok (.iadd, 1) := dk_96 (dk_at dksX3_broughtInAll_1 5 rfl rfl)
theorem dX3_broughtInAll_29 : decode cX3_broughtInAll 29 = .ok (.istore_n 1, 1) := dk_60 (dk_at dksX3_broughtInAll_1 6 rfl rfl)
theorem dX3_broughtInAll_30 : decode cX3_broughtInAll 30 = .ok (.iinc 4 1, 3) := dk_132 4 1 (dk_at dksX3_broughtInAll_1 7 rfl rfl)
theorem dX3_broughtInAll_33 : decode cX3_broughtInAll 33 = .ok (.goto (-20), 3) := dk_167 255 236 (dk_at dksX3_broughtInAll_1 10 rfl rfl)
theorem dX3_broughtInAll_36 : decode cX3_broughtInAll 36 = .ok (.iload_n 1, 1) := dk_27 (dk_at dksX3_broughtInAll_1 13 rfl rfl)
theorem dX3_broughtInAll_37 : decode cX3_broughtInAll 37 = .ok (.ireturn, 1) := dk_172 (dk_at dksX3_broughtInAll_1 14 rfl rfl)
abbrev cX3_shortOfFloods : ByteArray := prog_11_method_14_code
def yX3_shortOfFloods : MethodName := ⟨RX3, "shortOfFloods", "()I"⟩
def dkwX3_shortOfFloods_1 : List UInt8 := [60, 132, 2, 1, 167, 255, 232, 27, 172]
abbrev dktX3_shortOfFloods_1 : List UInt8 := dkwX3_shortOfFloods_1 ++ []
def dkwX3_shortOfFloods_0 : List UInt8 := [3, 60, 3, 61, 28, 6, 162, 0, 25, 27, 42, 180, 0, 26, 28, 46, 42, 180, 0, 29, 28, 46, 100, 96]
abbrev dktX3_shortOfFloods_0 : List UInt8 := dkwX3_shortOfFloods_0 ++ dktX3_shortOfFloods_1
theorem dksX3_shortOfFloods_0 : cX3_shortOfFloods.data.toList.drop 0 = dktX3_shortOfFloods_0 := by decide +kernel
theorem dksX3_shortOfFloods_1 : cX3_shortOfFloods.data.toList.drop 24 = dktX3_shortOfFloods_1 := dk_seg dksX3_shortOfFloods_0 24 rfl rfl
theorem dX3_shortOfFloods_0 : decode cX3_shortOfFloods 0 = .ok (.iconst 0, 1) := dk_3 (dk_at dksX3_shortOfFloods_0 0 rfl rfl)
theorem dX3_shortOfFloods_1 : decode cX3_shortOfFloods 1 = .ok (.istore_n 1, 1) := dk_60 (dk_at dksX3_shortOfFloods_0 1 rfl rfl)
theorem dX3_shortOfFloods_2 : decode cX3_shortOfFloods 2 = .ok (.iconst 0, 1) := dk_3 (dk_at dksX3_shortOfFloods_0 2 rfl rfl)
theorem dX3_shortOfFloods_3 : decode cX3_shortOfFloods 3 = .ok (.istore_n 2, 1) := dk_61 (dk_at dksX3_shortOfFloods_0 3 rfl rfl)
theorem dX3_shortOfFloods_4 : decode cX3_shortOfFloods 4 = .ok (.iload_n 2, 1) := dk_28 (dk_at dksX3_shortOfFloods_0 4 rfl rfl)
theorem dX3_shortOfFloods_5 : decode cX3_shortOfFloods 5 = .ok (.iconst 3, 1) := dk_6 (dk_at dksX3_shortOfFloods_0 5 rfl rfl)
theorem dX3_shortOfFloods_6 : decode cX3_shortOfFloods 6 = .ok (.if_icmp .ge 25, 3) := dk_162 0 25 (dk_at dksX3_shortOfFloods_0 6 rfl rfl)
theorem dX3_shortOfFloods_9 : decode cX3_shortOfFloods 9 = .ok (.iload_n 1, 1) := dk_27 (dk_at dksX3_shortOfFloods_0 9 rfl rfl)
theorem dX3_shortOfFloods_10 : decode cX3_shortOfFloods 10 = .ok (.aload_n 0, 1) := dk_42 (dk_at dksX3_shortOfFloods_0 10 rfl rfl)
theorem dX3_shortOfFloods_11 : decode cX3_shortOfFloods 11 = .ok (.getfield 26, 3) := dk_180 0 26 (dk_at dksX3_shortOfFloods_0 11 rfl rfl)
theorem dX3_shortOfFloods_14 : decode cX3_shortOfFloods 14 = .ok (.iload_n 2, 1) := dk_28 (dk_at dksX3_shortOfFloods_0 14 rfl rfl)
theorem dX3_shortOfFloods_15 : decode cX3_shortOfFloods 15 = .ok (.iaload, 1) := dk_46 (dk_at dksX3_shortOfFloods_0 15 rfl rfl)
theorem dX3_shortOfFloods_16 : decode cX3_shortOfFloods 16 = .ok (.aload_n 0, 1) := dk_42 (dk_at dksX3_shortOfFloods_0 16 rfl rfl)
theorem dX3_shortOfFloods_17 : decode cX3_shortOfFloods 17 = .ok (.getfield 29, 3) := dk_180 0 29 (dk_at dksX3_shortOfFloods_0 17 rfl rfl)
theorem dX3_shortOfFloods_20 : decode cX3_shortOfFloods 20 = .ok (.iload_n 2, 1) := dk_28 (dk_at dksX3_shortOfFloods_0 20 rfl rfl)
theorem dX3_shortOfFloods_21 : decode cX3_shortOfFloods 21 = .ok (.iaload, 1) := dk_46 (dk_at dksX3_shortOfFloods_0 21 rfl rfl)
theorem dX3_shortOfFloods_22 : decode cX3_shortOfFloods 22 = .ok (.isub, 1) := dk_100 (dk_at dksX3_shortOfFloods_0 22 rfl rfl)
theorem dX3_shortOfFloods_23 : decode cX3_shortOfFloods 23 = .ok (.iadd, 1) := dk_96 (dk_at dksX3_shortOfFloods_0 23 rfl rfl)
theorem dX3_shortOfFloods_24 : decode cX3_shortOfFloods 24 = .ok (.istore_n 1, 1) := dk_60 (dk_at dksX3_shortOfFloods_1 0 rfl rfl)
theorem dX3_shortOfFloods_25 : decode cX3_shortOfFloods 25 = .ok (.iinc 2 1, 3) := dk_132 2 1 (dk_at dksX3_shortOfFloods_1 1 rfl rfl)
theorem dX3_shortOfFloods_28 : decode cX3_shortOfFloods 28 = .ok (.goto (-24), 3) := dk_167 255 232 (dk_at dksX3_shortOfFloods_1 4 rfl rfl)
theorem dX3_shortOfFloods_31 : decode cX3_shortOfFloods 31 = .ok (.iload_n 1, 1) := dk_27 (dk_at dksX3_shortOfFloods_1 7 rfl rfl)
theorem dX3_shortOfFloods_32 : decode cX3_shortOfFloods 32 = .ok (.ireturn, 1) := dk_172 (dk_at dksX3_shortOfFloods_1 8 rfl rfl)
abbrev cX3_shortOfLoans : ByteArray := prog_11_method_15_code
def yX3_shortOfLoans : MethodName := ⟨RX3, "shortOfLoans", "()I"⟩
def dkwX3_shortOfLoans_1 : List UInt8 := [96, 60, 132, 2, 1, 167, 255, 231, 27, 172]
abbrev dktX3_shortOfLoans_1 : List UInt8 := dkwX3_shortOfLoans_1 ++ []
def dkwX3_shortOfLoans_0 : List UInt8 := [3, 60, 3, 61, 28, 16, 8, 162, 0, 25, 27, 42, 180, 0, 35, 28, 46, 42, 180, 0, 38, 28, 46, 100]
abbrev dktX3_shortOfLoans_0 : List UInt8 := dkwX3_shortOfLoans_0 ++ dktX3_shortOfLoans_1
theorem dksX3_shortOfLoans_0 : cX3_shortOfLoans.data.toList.drop 0 = dktX3_shortOfLoans_0 := by decide +kernel
theorem dksX3_shortOfLoans_1 : cX3_shortOfLoans.data.toList.drop 24 = dktX3_shortOfLoans_1 := dk_seg dksX3_shortOfLoans_0 24 rfl rfl
theorem dX3_shortOfLoans_0 : decode cX3_shortOfLoans 0 = .ok (.iconst 0, 1) := dk_3 (dk_at dksX3_shortOfLoans_0 0 rfl rfl)
theorem dX3_shortOfLoans_1 : decode cX3_shortOfLoans 1 = .ok (.istore_n 1, 1) := dk_60 (dk_at dksX3_shortOfLoans_0 1 rfl rfl)
theorem dX3_shortOfLoans_2 : decode cX3_shortOfLoans 2 = .ok (.iconst 0, 1) := dk_3 (dk_at dksX3_shortOfLoans_0 2 rfl rfl)
theorem dX3_shortOfLoans_3 : decode cX3_shortOfLoans 3 = .ok (.istore_n 2, 1) := dk_61 (dk_at dksX3_shortOfLoans_0 3 rfl rfl)
theorem dX3_shortOfLoans_4 : decode cX3_shortOfLoans 4 = .ok (.iload_n 2, 1) := dk_28 (dk_at dksX3_shortOfLoans_0 4 rfl rfl)
theorem dX3_shortOfLoans_5 : decode cX3_shortOfLoans 5 = .ok (.bipush 8, 2) := dk_16 8 (dk_at dksX3_shortOfLoans_0 5 rfl rfl)
theorem dX3_shortOfLoans_7 : decode cX3_shortOfLoans 7 = .ok (.if_icmp .ge 25, 3) := dk_162 0 25 (dk_at dksX3_shortOfLoans_0 7 rfl rfl)
theorem dX3_shortOfLoans_10 : decode cX3_shortOfLoans 10 = .ok (.iload_n 1, 1) := dk_27 (dk_at dksX3_shortOfLoans_0 10 rfl rfl)
theorem dX3_shortOfLoans_11 : decode cX3_shortOfLoans 11 = .ok (.aload_n 0, 1) := dk_42 (dk_at dksX3_shortOfLoans_0 11 rfl rfl)
theorem dX3_shortOfLoans_12 : decode cX3_shortOfLoans 12 = .ok (.getfield 35, 3) := dk_180 0 35 (dk_at dksX3_shortOfLoans_0 12 rfl rfl)
theorem dX3_shortOfLoans_15 : decode cX3_shortOfLoans 15 = .ok (.iload_n 2, 1) := dk_28 (dk_at dksX3_shortOfLoans_0 15 rfl rfl)
theorem dX3_shortOfLoans_16 : decode cX3_shortOfLoans 16 = .ok (.iaload, 1) := dk_46 (dk_at dksX3_shortOfLoans_0 16 rfl rfl)
theorem dX3_shortOfLoans_17 : decode cX3_shortOfLoans 17 = .ok (.aload_n 0, 1) := dk_42 (dk_at dksX3_shortOfLoans_0 17 rfl rfl)
theorem dX3_shortOfLoans_18 : decode cX3_shortOfLoans 18 = .ok (.getfield 38, 3) := dk_180 0 38 (dk_at dksX3_shortOfLoans_0 18 rfl rfl)
theorem dX3_shortOfLoans_21 : decode cX3_shortOfLoans 21 = .ok (.iload_n 2, 1) := dk_28 (dk_at dksX3_shortOfLoans_0 21 rfl rfl)
theorem dX3_shortOfLoans_22 : decode cX3_shortOfLoans 22 = .ok (.iaload, 1) := dk_46 (dk_at dksX3_shortOfLoans_0 22 rfl rfl)
theorem dX3_shortOfLoans_23 : decode cX3_shortOfLoans 23 = .ok (.isub, 1) := dk_100 (dk_at dksX3_shortOfLoans_0 23 rfl rfl)
theorem dX3_shortOfLoans_24 : decode cX3_shortOfLoans 24 = .ok (.iadd, 1) := dk_96 (dk_at dksX3_shortOfLoans_1 0 rfl rfl)
theorem dX3_shortOfLoans_25 : decode cX3_shortOfLoans 25 = .ok (.istore_n 1, 1) := dk_60 (dk_at dksX3_shortOfLoans_1 1 rfl rfl)
theorem dX3_shortOfLoans_26 : decode cX3_shortOfLoans 26 = .ok (.iinc 2 1, 3) := dk_132 2 1 (dk_at dksX3_shortOfLoans_1 2 rfl rfl)
theorem dX3_shortOfLoans_29 : decode cX3_shortOfLoans 29 = .ok (.goto (-25), 3) := dk_167 255 231 (dk_at dksX3_shortOfLoans_1 5 rfl rfl)
theorem dX3_shortOfLoans_32 : decode cX3_shortOfLoans 32 = .ok (.iload_n 1, 1) := dk_27 (dk_at dksX3_shortOfLoans_1 8 rfl rfl)
theorem dX3_shortOfLoans_33 : decode cX3_shortOfLoans 33 = .ok (.ireturn, 1) := dk_172 (dk_at dksX3_shortOfLoans_1 9 rfl rfl)
abbrev cX3_allShort : ByteArray := prog_11_method_16_code
def yX3_allShort : MethodName := ⟨RX3, "allShort", "()I"⟩
def dkwX3_allShort_0 : List UInt8 := [42, 182, 0, 211, 42, 182, 0, 214, 96, 172]
abbrev dktX3_allShort_0 : List UInt8 := dkwX3_allShort_0 ++ []
theorem dksX3_allShort_0 : cX3_allShort.data.toList.drop 0 = dktX3_allShort_0 := by decide +kernel
theorem dX3_allShort_0 : decode cX3_allShort 0 = .ok (.aload_n 0, 1) := dk_42 (dk_at dksX3_allShort_0 0 rfl rfl)
theorem dX3_allShort_1 : decode cX3_allShort 1 = .ok (.invokevirtual 211, 3) := dk_182 0 211 (dk_at dksX3_allShort_0 1 rfl rfl)
theorem dX3_allShort_4 : decode cX3_allShort 4 = .ok (.aload_n 0, 1) := dk_42 (dk_at dksX3_allShort_0 4 rfl rfl)
theorem dX3_allShort_5 : decode cX3_allShort 5 = .ok (.invokevirtual 214, 3) := dk_182 0 214 (dk_at dksX3_allShort_0 5 rfl rfl)
theorem dX3_allShort_8 : decode cX3_allShort 8 = .ok (.iadd, 1) := dk_96 (dk_at dksX3_allShort_0 8 rfl rfl)
theorem dX3_allShort_9 : decode cX3_allShort 9 = .ok (.ireturn, 1) := dk_172 (dk_at dksX3_allShort_0 9 rfl rfl)
abbrev cX3_has : ByteArray := prog_11_method_17_code
def yX3_has : MethodName := ⟨RX3, "has", "(I)I"⟩
def dkwX3_has_2 : List UInt8 := [160, 0, 12, 42, 180, 0, 41, 29, 46, 167, 0, 4, 3, 96, 61, 132, 3, 1, 167, 255, 201, 28, 172]
abbrev dktX3_has_2 : List UInt8 := dkwX3_has_2 ++ []
def dkwX3_has_1 : List UInt8 := [162, 0, 45, 28, 42, 180, 0, 54, 180, 0, 187, 29, 185, 0, 83, 2, 0, 192, 0, 189, 180, 0, 193, 27]
abbrev dktX3_has_1 : List UInt8 := dkwX3_has_1 ++ dktX3_has_2
def dkwX3_has_0 : List UInt8 := [42, 180, 0, 16, 27, 46, 61, 3, 62, 29, 42, 180, 0, 54, 180, 0, 187, 185, 0, 94, 1, 0]
abbrev dktX3_has_0 : List UInt8 := dkwX3_has_0 ++ dktX3_has_1
theorem dksX3_has_0 : cX3_has.data.toList.drop 0 = dktX3_has_0 := by decide +kernel
theorem dksX3_has_1 : cX3_has.data.toList.drop 22 = dktX3_has_1 := dk_seg dksX3_has_0 22 rfl rfl
theorem dksX3_has_2 : cX3_has.data.toList.drop 46 = dktX3_has_2 := dk_seg dksX3_has_1 24 rfl rfl
theorem dX3_has_0 : decode cX3_has 0 = .ok (.aload_n 0, 1) := dk_42 (dk_at dksX3_has_0 0 rfl rfl)
theorem dX3_has_1 : decode cX3_has 1 = .ok (.getfield 16, 3) := dk_180 0 16 (dk_at dksX3_has_0 1 rfl rfl)
theorem dX3_has_4 : decode cX3_has 4 = .ok (.iload_n 1, 1) := dk_27 (dk_at dksX3_has_0 4 rfl rfl)
theorem dX3_has_5 : decode cX3_has 5 = .ok (.iaload, 1) := dk_46 (dk_at dksX3_has_0 5 rfl rfl)
theorem dX3_has_6 : decode cX3_has 6 = .ok (.istore_n 2, 1) := dk_61 (dk_at dksX3_has_0 6 rfl rfl)
theorem dX3_has_7 : decode cX3_has 7 = .ok (.iconst 0, 1) := dk_3 (dk_at dksX3_has_0 7 rfl rfl)
theorem dX3_has_8 : decode cX3_has 8 = .ok (.istore_n 3, 1) := dk_62 (dk_at dksX3_has_0 8 rfl rfl)
theorem dX3_has_9 : decode cX3_has 9 = .ok (.iload_n 3, 1) := dk_29 (dk_at dksX3_has_0 9 rfl rfl)
theorem dX3_has_10 : decode cX3_has 10 = .ok (.aload_n 0, 1) := dk_42 (dk_at dksX3_has_0 10 rfl rfl)
theorem dX3_has_11 : decode cX3_has 11 = .ok (.getfield 54, 3) := dk_180 0 54 (dk_at dksX3_has_0 11 rfl rfl)
theorem dX3_has_14 : decode cX3_has 14 = .ok (.getfield 187, 3) := dk_180 0 187 (dk_at dksX3_has_0 14 rfl rfl)
theorem dX3_has_17 : decode cX3_has 17 = .ok (.invokeinterface 94 1, 5) := by decide +kernel
theorem dX3_has_22 : decode cX3_has 22 = .ok (.if_icmp .ge 45, 3) := dk_162 0 45 (dk_at dksX3_has_1 0 rfl rfl)
theorem dX3_has_25 : decode cX3_has 25 = .ok (.iload_n 2, 1) := dk_28 (dk_at dksX3_has_1 3 rfl rfl)
theorem dX3_has_26 : decode cX3_has 26 = .ok (.aload_n 0, 1) := dk_42 (dk_at dksX3_has_1 4 rfl rfl)
theorem dX3_has_27 : decode cX3_has 27 = .ok (.getfield 54, 3) := dk_180 0 54 (dk_at dksX3_has_1 5 rfl rfl)
theorem dX3_has_30 : decode cX3_has 30 = .ok (.getfield 187, 3) := dk_180 0 187 (dk_at dksX3_has_1 8 rfl rfl)
theorem dX3_has_33 : decode cX3_has 33 = .ok (.iload_n 3, 1) := dk_29 (dk_at dksX3_has_1 11 rfl rfl)
theorem dX3_has_34 : decode cX3_has 34 = .ok (.invokeinterface 83 2, 5) := by decide +kernel
theorem dX3_has_39 : decode cX3_has 39 = .ok (.checkcast 189, 3) := dk_192 0 189 (dk_at dksX3_has_1 17 rfl rfl)
theorem dX3_has_42 : decode cX3_has 42 = .ok (.getfield 193, 3) := dk_180 0 193 (dk_at dksX3_has_1 20 rfl rfl)
theorem dX3_has_45 : decode cX3_has 45 = .ok (.iload_n 1, 1) := dk_27 (dk_at dksX3_has_1 23 rfl rfl)
theorem dX3_has_46 : decode cX3_has 46 = .ok (.if_icmp .ne 12, 3) := dk_160 0 12 (dk_at dksX3_has_2 0 rfl rfl)
theorem dX3_has_49 : decode cX3_has 49 = .ok (.aload_n 0, 1) := dk_42 (dk_at dksX3_has_2 3 rfl rfl)
theorem dX3_has_50 : decode cX3_has 50 = .ok (.getfield 41, 3) := dk_180 0 41 (dk_at dksX3_has_2 4 rfl rfl)
theorem dX3_has_53 : decode cX3_has 53 = .ok (.iload_n 3, 1) := dk_29 (dk_at dksX3_has_2 7 rfl rfl)
theorem dX3_has_54 : decode cX3_has 54 = .ok (.iaload, 1) := dk_46 (dk_at dksX3_has_2 8 rfl rfl)
theorem dX3_has_55 : decode cX3_has 55 = .ok (.goto 4, 3) := dk_167 0 4 (dk_at dksX3_has_2 9 rfl rfl)
theorem dX3_has_58 : decode cX3_has 58 = .ok (.iconst 0, 1) := dk_3 (dk_at dksX3_has_2 12 rfl rfl)
theorem dX3_has_59 : decode cX3_has 59 = .ok (.iadd, 1) := dk_96 (dk_at dksX3_has_2 13 rfl rfl)
theorem dX3_has_60 : decode cX3_has 60 = .ok (.istore_n 2, 1) := dk_61 (dk_at dksX3_has_2 14 rfl rfl)
theorem dX3_has_61 : decode cX3_has 61 = .ok (.iinc 3 1, 3) := dk_132 3 1 (dk_at dksX3_has_2 15 rfl rfl)
theorem dX3_has_64 : decode cX3_has 64 = .ok (.goto (-55), 3) := dk_167 255 201 (dk_at dksX3_has_2 18 rfl rfl)
theorem dX3_has_67 : decode cX3_has 67 = .ok (.iload_n 2, 1) := dk_28 (dk_at dksX3_has_2 21 rfl rfl)
theorem dX3_has_68 : decode cX3_has 68 = .ok (.ireturn, 1) := dk_172 (dk_at dksX3_has_2 22 rfl rfl)
abbrev cX3_debts : ByteArray := prog_11_method_18_code
def yX3_debts : MethodName := ⟨RX3, "debts", "([[I)V"⟩
def dkwX3_debts_4 : List UInt8 := [180, 0, 35, 28, 46, 42, 180, 0, 38, 28, 46, 100, 96, 79, 132, 2, 1, 167, 255, 180, 177]
abbrev dktX3_debts_4 : List UInt8 := dkwX3_debts_4 ++ []
def dkwX3_debts_3 : List UInt8 := [42, 180, 0, 54, 180, 0, 170, 28, 185, 0, 83, 2, 0, 192, 0, 145, 180, 0, 172, 92, 46, 42]
abbrev dktX3_debts_3 : List UInt8 := dkwX3_debts_3 ++ dktX3_debts_4
def dkwX3_debts_2 : List UInt8 := [162, 0, 66, 43, 42, 180, 0, 54, 180, 0, 170, 28, 185, 0, 83, 2, 0, 192, 0, 145, 180, 0, 175, 50]
abbrev dktX3_debts_2 : List UInt8 := dkwX3_debts_2 ++ dktX3_debts_3
def dkwX3_debts_1 : List UInt8 := [184, 0, 103, 132, 4, 1, 167, 255, 235, 3, 61, 28, 42, 180, 0, 54, 180, 0, 170, 185, 0, 94, 1, 0]
abbrev dktX3_debts_1 : List UInt8 := dkwX3_debts_1 ++ dktX3_debts_2
def dkwX3_debts_0 : List UInt8 := [43, 77, 44, 190, 62, 3, 54, 4, 21, 4, 29, 162, 0, 21, 44, 21, 4, 50, 58, 5, 25, 5, 3]
abbrev dktX3_debts_0 : List UInt8 := dkwX3_debts_0 ++ dktX3_debts_1
theorem dksX3_debts_0 : cX3_debts.data.toList.drop 0 = dktX3_debts_0 := by decide +kernel
theorem dksX3_debts_1 : cX3_debts.data.toList.drop 23 = dktX3_debts_1 := dk_seg dksX3_debts_0 23 rfl rfl
theorem dksX3_debts_2 : cX3_debts.data.toList.drop 47 = dktX3_debts_2 := dk_seg dksX3_debts_1 24 rfl rfl
theorem dksX3_debts_3 : cX3_debts.data.toList.drop 71 = dktX3_debts_3 := dk_seg dksX3_debts_2 24 rfl rfl
theorem dksX3_debts_4 : cX3_debts.data.toList.drop 93 = dktX3_debts_4 := dk_seg dksX3_debts_3 22 rfl rfl
theorem dX3_debts_0 : decode cX3_debts 0 = .ok (.aload_n 1, 1) := dk_43 (dk_at dksX3_debts_0 0 rfl rfl)
theorem dX3_debts_1 : decode cX3_debts 1 = .ok (.astore_n 2, 1) := dk_77 (dk_at dksX3_debts_0 1 rfl rfl)
theorem dX3_debts_2 : decode cX3_debts 2 = .ok (.aload_n 2, 1) := dk_44 (dk_at dksX3_debts_0 2 rfl rfl)
theorem dX3_debts_3 : decode cX3_debts 3 = .ok (.arraylength, 1) := dk_190 (dk_at dksX3_debts_0 3 rfl rfl)
theorem dX3_debts_4 : decode cX3_debts 4 = .ok (.istore_n 3, 1) := dk_62 (dk_at dksX3_debts_0 4 rfl rfl)
theorem dX3_debts_5 : decode cX3_debts 5 = .ok (.iconst 0, 1) := dk_3 (dk_at dksX3_debts_0 5 rfl rfl)
theorem dX3_debts_6 : decode cX3_debts 6 = .ok (.istore 4, 2) := dk_54 4 (dk_at dksX3_debts_0 6 rfl rfl)
theorem dX3_debts_8 : decode cX3_debts 8 = .ok (.iload 4, 2) := dk_21 4 (dk_at dksX3_debts_0 8 rfl rfl)
theorem dX3_debts_10 : decode cX3_debts 10 = .ok (.iload_n 3, 1) := dk_29 (dk_at dksX3_debts_0 10 rfl rfl)
theorem dX3_debts_11 : decode cX3_debts 11 = .ok (.if_icmp .ge 21, 3) := dk_162 0 21 (dk_at dksX3_debts_0 11 rfl rfl)
theorem dX3_debts_14 : decode cX3_debts 14 = .ok (.aload_n 2, 1) := dk_44 (dk_at dksX3_debts_0 14 rfl rfl)
theorem dX3_debts_15 : decode cX3_debts 15 = .ok (.iload 4, 2) := dk_21 4 (dk_at dksX3_debts_0 15 rfl rfl)
theorem dX3_debts_17 : decode cX3_debts 17 = .ok (.aaload, 1) := dk_50 (dk_at dksX3_debts_0 17 rfl rfl)
theorem dX3_debts_18 : decode cX3_debts 18 = .ok (.astore 5, 2) := dk_58 5 (dk_at dksX3_debts_0 18 rfl rfl)
theorem dX3_debts_20 : decode cX3_debts 20 = .ok (.aload 5, 2) := dk_25 5 (dk_at dksX3_debts_0 20 rfl rfl)
theorem dX3_debts_22 : decode cX3_debts 22 = .ok (.iconst 0, 1) := dk_3 (dk_at dksX3_debts_0 22 rfl rfl)
theorem dX3_debts_23 : decode cX3_debts 23 = .ok (.invokestatic 103, 3) := dk_184 0 103 (dk_at dksX3_debts_1 0 rfl rfl)
theorem dX3_debts_26 : decode cX3_debts 26 = .ok (.iinc 4 1, 3) := dk_132 4 1 (dk_at dksX3_debts_1 3 rfl rfl)
theorem dX3_debts_29 : decode cX3_debts 29 = .ok (.goto (-21), 3) := dk_167 255 235 (dk_at dksX3_debts_1 6 rfl rfl)
theorem dX3_debts_32 : decode cX3_debts 32 = .ok (.iconst 0, 1) := dk_3 (dk_at dksX3_debts_1 9 rfl rfl)
theorem dX3_debts_33 : decode cX3_debts 33 = .ok (.istore_n 2, 1) := dk_61 (dk_at dksX3_debts_1 10 rfl rfl)
theorem dX3_debts_34 : decode cX3_debts 34 = .ok (.iload_n 2, 1) := dk_28 (dk_at dksX3_debts_1 11 rfl rfl)
theorem dX3_debts_35 : decode cX3_debts 35 = .ok (.aload_n 0, 1) := dk_42 (dk_at dksX3_debts_1 12 rfl rfl)
theorem dX3_debts_36 : decode cX3_debts 36 = .ok (.getfield 54, 3) := dk_180 0 54 (dk_at dksX3_debts_1 13 rfl rfl)
theorem dX3_debts_39 : decode cX3_debts 39 = .ok (.getfield 170, 3) := dk_180 0 170 (dk_at dksX3_debts_1 16 rfl rfl)
theorem dX3_debts_42 : decode cX3_debts 42 = .ok (.invokeinterface 94 1, 5) := by decide +kernel
theorem dX3_debts_47 : decode cX3_debts 47 = .ok (.if_icmp .ge 66, 3) := dk_162 0 66 (dk_at dksX3_debts_2 0 rfl rfl)
theorem dX3_debts_50 : decode cX3_debts 50 = .ok (.aload_n 1, 1) := dk_43 (dk_at dksX3_debts_2 3 rfl rfl)
theorem dX3_debts_51 : decode cX3_debts 51 = .ok (.aload_n 0, 1) := dk_42 (dk_at dksX3_debts_2 4 rfl rfl)
theorem dX3_debts_52 : decode cX3_debts 52 = .ok (.getfield 54, 3) := dk_180 0 54 (dk_at dksX3_debts_2 5 rfl rfl)
theorem dX3_debts_55 : decode cX3_debts 55 = .ok (.getfield 170, 3) := dk_180 0 170 (dk_at dksX3_debts_2 8 rfl rfl)
theorem dX3_debts_58 : decode cX3_debts 58 = .ok (.iload_n 2, 1) := dk_28 (dk_at dksX3_debts_2 11 rfl rfl)
theorem dX3_debts_59 : decode cX3_debts 59 = .ok (.invokeinterface 83 2, 5) := by decide +kernel
theorem dX3_debts_64 : decode cX3_debts 64 = .ok (.checkcast 145, 3) := dk_192 0 145 (dk_at dksX3_debts_2 17 rfl rfl)
theorem dX3_debts_67 : decode cX3_debts 67 = .ok (.getfield 175, 3) := dk_180 0 175 (dk_at dksX3_debts_2 20 rfl rfl)
theorem dX3_debts_70 : decode cX3_debts 70 = .ok (.aaload, 1) := dk_50 (dk_at dksX3_debts_2 23 rfl rfl)
theorem dX3_debts_71 : decode cX3_debts 71 = .ok (.aload_n 0, 1) := dk_42 (dk_at dksX3_debts_3 0 rfl rfl)
theorem dX3_debts_72 : decode cX3_debts 72 = .ok (.getfield 54, 3) := dk_180 0 54 (dk_at dksX3_debts_3 1 rfl rfl)
theorem dX3_debts_75 : decode cX3_debts 75 = .ok (.getfield 170, 3) := dk_180 0 170 (dk_at dksX3_debts_3 4 rfl rfl)
theorem dX3_debts_78 : decode cX3_debts 78 = .ok (.iload_n 2, 1) := dk_28 (dk_at dksX3_debts_3 7 rfl rfl)
theorem dX3_debts_79 : decode cX3_debts 79 = .ok (.invokeinterface 83 2, 5) := by decide +kernel
theorem dX3_debts_84 : decode cX3_debts 84 = .ok (.checkcast 145, 3) := dk_192 0 145 (dk_at dksX3_debts_3 13 rfl rfl)
theorem dX3_debts_87 : decode cX3_debts 87 = .ok (.getfield 172, 3) := dk_180 0 172 (dk_at dksX3_debts_3 16 rfl rfl)
theorem dX3_debts_90 : decode cX3_debts 90 = .ok (.dup2, 1) := dk_92 (dk_at dksX3_debts_3 19 rfl rfl)
theorem dX3_debts_91 : decode cX3_debts 91 = .ok (.iaload, 1) := dk_46 (dk_at dksX3_debts_3 20 rfl rfl)
theorem dX3_debts_92 : decode cX3_debts 92 = .ok (.aload_n 0, 1) := dk_42 (dk_at dksX3_debts_3 21 rfl rfl)
theorem dX3_debts_93 : decode cX3_debts 93 = .ok (.getfield 35, 3) := dk_180 0 35 (dk_at dksX3_debts_4 0 rfl rfl)
theorem dX3_debts_96 : decode cX3_debts 96 = .ok (.iload_n 2, 1) := dk_28 (dk_at dksX3_debts_4 3 rfl rfl)
theorem dX3_debts_97 : decode cX3_debts 97 = .ok (.iaload, 1) := dk_46 (dk_at dksX3_debts_4 4 rfl rfl)
theorem dX3_debts_98 : decode cX3_debts 98 = .ok (.aload_n 0, 1) := dk_42 (dk_at dksX3_debts_4 5 rfl rfl)
theorem dX3_debts_99 : decode cX3_debts 99 = .ok (.getfield 38, 3) := dk_180 0 38 (dk_at dksX3_debts_4 6 rfl rfl)
theorem dX3_debts_102 : decode cX3_debts 102 = .ok (.iload_n 2, 1) := dk_28 (dk_at dksX3_debts_4 9 rfl rfl)
theorem dX3_debts_103 : decode cX3_debts 103 = .ok (.iaload, 1) := dk_46 (dk_at dksX3_debts_4 10 rfl rfl)
theorem dX3_debts_104 : decode cX3_debts 104 = .ok (.isub, 1) := dk_100 (dk_at dksX3_debts_4 11 rfl rfl)
theorem dX3_debts_105 : decode cX3_debts 105 = .ok (.iadd, 1) := dk_96 (dk_at dksX3_debts_4 12 rfl rfl)
theorem dX3_debts_106 : decode cX3_debts 106 = .ok (.iastore, 1) := dk_79 (dk_at dksX3_debts_4 13 rfl rfl)
theorem dX3_debts_107 : decode cX3_debts 107 = .ok (.iinc 2 1, 3) := dk_132 2 1 (dk_at dksX3_debts_4 14 rfl rfl)
theorem dX3_debts_110 : decode cX3_debts 110 = .ok (.goto (-76), 3) := dk_167 255 180 (dk_at dksX3_debts_4 17 rfl rfl)
theorem dX3_debts_113 : decode cX3_debts 113 = .ok (.return_, 1) := dk_177 (dk_at dksX3_debts_4 20 rfl rfl)
theorem q139 : (Jvm.Cond.initialized "FloodLent$Year") ∈ lw_all := lw_g (lw_at lw_m1 7 rfl) rfl
theorem q419 : (Jvm.Cond.fieldLinkNest "FloodLent$Year" (77 : Nat) "FloodLent$Plain" "villages" "Ljava/util/List;" "FloodLent") ∈ lw_tbl := lw_at lw_m2 47 rfl
theorem q423 : (Jvm.Cond.fieldLinkNest "FloodLent$Year" (187 : Nat) "FloodLent$Plain" "crops" "Ljava/util/List;" "FloodLent") ∈ lw_tbl := lw_at lw_m2 51 rfl
theorem q427 : (Jvm.Cond.fieldLinkNest "FloodLent$Year" (143 : Nat) "FloodLent$Plain" "floods" "Ljava/util/List;" "FloodLent") ∈ lw_tbl := lw_at lw_m2 55 rfl
theorem q431 : (Jvm.Cond.fieldLinkNest "FloodLent$Year" (170 : Nat) "FloodLent$Plain" "loans" "Ljava/util/List;" "FloodLent") ∈ lw_tbl := lw_at lw_m2 59 rfl
theorem q435 : (Jvm.Cond.fieldLinkNest "FloodLent$Year" (205 : Nat) "FloodLent$Plain" "sun" "[I" "FloodLent") ∈ lw_tbl := lw_at lw_m2 63 rfl
theorem q437 : (Jvm.Cond.fieldLinkNest "FloodLent$Year" (121 : Nat) "FloodLent$Plain" "weeks" "I" "FloodLent") ∈ lw_tbl := lw_at lw_m2 65 rfl
theorem q442 : (Jvm.Cond.fieldLinkNest "FloodLent$Year" (184 : Nat) "FloodLent$Plain" "back" "I" "FloodLent") ∈ lw_tbl := lw_at lw_m2 70 rfl
theorem q468 : (Jvm.Cond.instantiable "FloodLent$Year" (23 : Nat)) ∈ lw_all := lw_g (lw_at lw_m2 96 rfl) rfl
theorem q470 : (Jvm.Cond.instanceMethod ({ cls := "FloodLent$Year", name := "<init>", desc := "()V" } : Jvm.MethodName)) ∈ lw_all := lw_g (lw_at lw_m2 98 rfl) rfl
theorem q471 : (Jvm.Cond.code ({ cls := "FloodLent$Year", name := "<init>", desc := "()V" } : Jvm.MethodName) prog_11_method_1_code (1 : Nat) (Option.none : Option Jvm.ClassFile.FieldType)) ∈ lw_all := lw_g (lw_at lw_m2 99 rfl) rfl
theorem q472 : (Jvm.Cond.methodLink "FloodLent$Year" (3 : Nat) ({ cls := "java/lang/Object", name := "<init>", desc := "()V" } : Jvm.MethodName)) ∈ lw_all := lw_g (lw_at lw_m2 100 rfl) rfl
theorem q473 : (Jvm.Cond.classLink "FloodLent$Year" (9 : Nat) "[[I") ∈ lw_all := lw_g (lw_at lw_m2 101 rfl) rfl
theorem q475 : (Jvm.Cond.classLink "FloodLent$Year" (50 : Nat) "[I") ∈ lw_all := lw_g (lw_at lw_m2 103 rfl) rfl
theorem q476 : (Jvm.Cond.fieldLink "FloodLent$Year" (11 : Nat) "FloodLent$Year" "behind" "[[I") ∈ lw_all := lw_g (lw_at lw_m2 104 rfl) rfl
theorem q478 : (Jvm.Cond.fieldLink "FloodLent$Year" (16 : Nat) "FloodLent$Year" "water" "[I") ∈ lw_all := lw_g (lw_at lw_m2 106 rfl) rfl
theorem q480 : (Jvm.Cond.fieldLink "FloodLent$Year" (20 : Nat) "FloodLent$Year" "taker" "[I") ∈ lw_all := lw_g (lw_at lw_m2 108 rfl) rfl
theorem q481 : (Jvm.Cond.fieldLink "FloodLent$Year" (23 : Nat) "FloodLent$Year" "taken" "[I") ∈ lw_all := lw_g (lw_at lw_m2 109 rfl) rfl
theorem q483 : (Jvm.Cond.fieldLink "FloodLent$Year" (26 : Nat) "FloodLent$Year" "owedFlood" "[I") ∈ lw_all := lw_g (lw_at lw_m2 111 rfl) rfl
theorem q485 : (Jvm.Cond.fieldLink "FloodLent$Year" (29 : Nat) "FloodLent$Year" "paidFlood" "[I") ∈ lw_all := lw_g (lw_at lw_m2 113 rfl) rfl
theorem q487 : (Jvm.Cond.fieldLink "FloodLent$Year" (32 : Nat) "FloodLent$Year" "lent" "[I") ∈ lw_all := lw_g (lw_at lw_m2 115 rfl) rfl
theorem q489 : (Jvm.Cond.fieldLink "FloodLent$Year" (35 : Nat) "FloodLent$Year" "owed" "[I") ∈ lw_all := lw_g (lw_at lw_m2 117 rfl) rfl
theorem q491 : (Jvm.Cond.fieldLink "FloodLent$Year" (38 : Nat) "FloodLent$Year" "paid" "[I") ∈ lw_all := lw_g (lw_at lw_m2 119 rfl) rfl
theorem q493 : (Jvm.Cond.fieldLink "FloodLent$Year" (41 : Nat) "FloodLent$Year" "brought" "[I") ∈ lw_all := lw_g (lw_at lw_m2 121 rfl) rfl
theorem q495 : (Jvm.Cond.fieldLink "FloodLent$Year" (44 : Nat) "FloodLent$Year" "dry" "[I") ∈ lw_all := lw_g (lw_at lw_m2 123 rfl) rfl
theorem q497 : (Jvm.Cond.fieldLink "FloodLent$Year" (47 : Nat) "FloodLent$Year" "firstDry" "[I") ∈ lw_all := lw_g (lw_at lw_m2 125 rfl) rfl
theorem q499 : (Jvm.Cond.fieldLink "FloodLent$Year" (51 : Nat) "FloodLent$Year" "all" "[[I") ∈ lw_all := lw_g (lw_at lw_m2 127 rfl) rfl
theorem q500 : (Jvm.Cond.fieldLink "FloodLent$Year" (54 : Nat) "FloodLent$Year" "plain" "LFloodLent$Plain;") ∈ lw_all := lw_g (lw_at lw_m2 128 rfl) rfl
theorem q501 : (Jvm.Cond.fieldLink "FloodLent$Year" (68 : Nat) "FloodLent$Year" "comes" "I") ∈ lw_all := lw_g (lw_at lw_m2 129 rfl) rfl
theorem q503 : (Jvm.Cond.fieldLink "FloodLent$Year" (64 : Nat) "FloodLent$Year" "more" "I") ∈ lw_all := lw_g (lw_at lw_m2 131 rfl) rfl
theorem q504 : (Jvm.Cond.fieldLink "FloodLent$Year" (109 : Nat) "FloodLent$Year" "sky" "I") ∈ lw_all := lw_g (lw_at lw_m2 132 rfl) rfl
theorem q506 : (Jvm.Cond.fieldLink "FloodLent$Year" (112 : Nat) "FloodLent$Year" "sea" "I") ∈ lw_all := lw_g (lw_at lw_m2 134 rfl) rfl
theorem q508 : (Jvm.Cond.fieldLink "FloodLent$Year" (115 : Nat) "FloodLent$Year" "drunk" "I") ∈ lw_all := lw_g (lw_at lw_m2 136 rfl) rfl
theorem q510 : (Jvm.Cond.fieldLink "FloodLent$Year" (118 : Nat) "FloodLent$Year" "bad" "I") ∈ lw_all := lw_g (lw_at lw_m2 138 rfl) rfl
theorem q512 : (Jvm.Cond.fieldLink "FloodLent$Year" (71 : Nat) "FloodLent$Year" "miser" "I") ∈ lw_all := lw_g (lw_at lw_m2 140 rfl) rfl
theorem q514 : (Jvm.Cond.fieldLink "FloodLent$Year" (74 : Nat) "FloodLent$Year" "other" "I") ∈ lw_all := lw_g (lw_at lw_m2 142 rfl) rfl
theorem q516 : (Jvm.Cond.fieldLink "FloodLent$Year" (98 : Nat) "FloodLent$Year" "otherWater" "I") ∈ lw_all := lw_g (lw_at lw_m2 144 rfl) rfl
theorem q518 : (Jvm.Cond.laysFinal "FloodLent$Year" "FloodLent$Year" "behind" "[[I") ∈ lw_all := lw_g (lw_at lw_m2 146 rfl) rfl
theorem q519 : (Jvm.Cond.soleField "FloodLent$Year" "behind") ∈ lw_all := lw_g (lw_at lw_m2 147 rfl) rfl
theorem q520 : (Jvm.Cond.laysFinal "FloodLent$Year" "FloodLent$Year" "water" "[I") ∈ lw_all := lw_g (lw_at lw_m2 148 rfl) rfl
theorem q521 : (Jvm.Cond.soleField "FloodLent$Year" "water") ∈ lw_all := lw_g (lw_at lw_m2 149 rfl) rfl
theorem q522 : (Jvm.Cond.laysFinal "FloodLent$Year" "FloodLent$Year" "taker" "[I") ∈ lw_all := lw_g (lw_at lw_m2 150 rfl) rfl
theorem q523 : (Jvm.Cond.soleField "FloodLent$Year" "taker") ∈ lw_all := lw_g (lw_at lw_m2 151 rfl) rfl
theorem q524 : (Jvm.Cond.laysFinal "FloodLent$Year" "FloodLent$Year" "taken" "[I") ∈ lw_all := lw_g (lw_at lw_m2 152 rfl) rfl
theorem q525 : (Jvm.Cond.soleField "FloodLent$Year" "taken") ∈ lw_all := lw_g (lw_at lw_m2 153 rfl) rfl
theorem q526 : (Jvm.Cond.laysFinal "FloodLent$Year" "FloodLent$Year" "owedFlood" "[I") ∈ lw_all := lw_g (lw_at lw_m2 154 rfl) rfl
theorem q527 : (Jvm.Cond.soleField "FloodLent$Year" "owedFlood") ∈ lw_all := lw_g (lw_at lw_m2 155 rfl) rfl
theorem q528 : (Jvm.Cond.laysFinal "FloodLent$Year" "FloodLent$Year" "paidFlood" "[I") ∈ lw_all := lw_g (lw_at lw_m2 156 rfl) rfl
theorem q529 : (Jvm.Cond.soleField "FloodLent$Year" "paidFlood") ∈ lw_all := lw_g (lw_at lw_m2 157 rfl) rfl
theorem q530 : (Jvm.Cond.laysFinal "FloodLent$Year" "FloodLent$Year" "lent" "[I") ∈ lw_all := lw_g (lw_at lw_m2 158 rfl) rfl
theorem q531 : (Jvm.Cond.soleField "FloodLent$Year" "lent") ∈ lw_all := lw_g (lw_at lw_m2 159 rfl) rfl
theorem q532 : (Jvm.Cond.laysFinal "FloodLent$Year" "FloodLent$Year" "owed" "[I") ∈ lw_all := lw_g (lw_at lw_m2 160 rfl) rfl
theorem q533 : (Jvm.Cond.soleField "FloodLent$Year" "owed") ∈ lw_all := lw_g (lw_at lw_m2 161 rfl) rfl
theorem q534 : (Jvm.Cond.laysFinal "FloodLent$Year" "FloodLent$Year" "paid" "[I") ∈ lw_all := lw_g (lw_at lw_m2 162 rfl) rfl
theorem q535 : (Jvm.Cond.soleField "FloodLent$Year" "paid") ∈ lw_all := lw_g (lw_at lw_m2 163 rfl) rfl
theorem q536 : (Jvm.Cond.laysFinal "FloodLent$Year" "FloodLent$Year" "brought" "[I") ∈ lw_all := lw_g (lw_at lw_m2 164 rfl) rfl
theorem q537 : (Jvm.Cond.soleField "FloodLent$Year" "brought") ∈ lw_all := lw_g (lw_at lw_m2 165 rfl) rfl
theorem q538 : (Jvm.Cond.laysFinal "FloodLent$Year" "FloodLent$Year" "dry" "[I") ∈ lw_all := lw_g (lw_at lw_m2 166 rfl) rfl
theorem q539 : (Jvm.Cond.soleField "FloodLent$Year" "dry") ∈ lw_all := lw_g (lw_at lw_m2 167 rfl) rfl
theorem q540 : (Jvm.Cond.laysFinal "FloodLent$Year" "FloodLent$Year" "firstDry" "[I") ∈ lw_all := lw_g (lw_at lw_m2 168 rfl) rfl
theorem q541 : (Jvm.Cond.soleField "FloodLent$Year" "firstDry") ∈ lw_all := lw_g (lw_at lw_m2 169 rfl) rfl
theorem q542 : (Jvm.Cond.laysFinal "FloodLent$Year" "FloodLent$Year" "all" "[[I") ∈ lw_all := lw_g (lw_at lw_m2 170 rfl) rfl
theorem q543 : (Jvm.Cond.soleField "FloodLent$Year" "all") ∈ lw_all := lw_g (lw_at lw_m2 171 rfl) rfl
theorem q544 : (Jvm.Cond.lays "FloodLent$Year" "FloodLent$Year" "plain" "LFloodLent$Plain;") ∈ lw_all := lw_g (lw_at lw_m2 172 rfl) rfl
theorem q545 : (Jvm.Cond.soleField "FloodLent$Year" "plain") ∈ lw_all := lw_g (lw_at lw_m2 173 rfl) rfl
theorem q546 : (Jvm.Cond.lays "FloodLent$Year" "FloodLent$Year" "comes" "I") ∈ lw_all := lw_g (lw_at lw_m2 174 rfl) rfl
theorem q547 : (Jvm.Cond.soleField "FloodLent$Year" "comes") ∈ lw_all := lw_g (lw_at lw_m2 175 rfl) rfl
theorem q548 : (Jvm.Cond.lays "FloodLent$Year" "FloodLent$Year" "more" "I") ∈ lw_all := lw_g (lw_at lw_m2 176 rfl) rfl
theorem q549 : (Jvm.Cond.soleField "FloodLent$Year" "more") ∈ lw_all := lw_g (lw_at lw_m2 177 rfl) rfl
theorem q550 : (Jvm.Cond.lays "FloodLent$Year" "FloodLent$Year" "sky" "I") ∈ lw_all := lw_g (lw_at lw_m2 178 rfl) rfl
theorem q551 : (Jvm.Cond.soleField "FloodLent$Year" "sky") ∈ lw_all := lw_g (lw_at lw_m2 179 rfl) rfl
theorem q552 : (Jvm.Cond.lays "FloodLent$Year" "FloodLent$Year" "sea" "I") ∈ lw_all := lw_g (lw_at lw_m2 180 rfl) rfl
theorem q553 : (Jvm.Cond.soleField "FloodLent$Year" "sea") ∈ lw_all := lw_g (lw_at lw_m2 181 rfl) rfl
theorem q554 : (Jvm.Cond.lays "FloodLent$Year" "FloodLent$Year" "drunk" "I") ∈ lw_all := lw_g (lw_at lw_m2 182 rfl) rfl
theorem q555 : (Jvm.Cond.soleField "FloodLent$Year" "drunk") ∈ lw_all := lw_g (lw_at lw_m2 183 rfl) rfl
theorem q556 : (Jvm.Cond.lays "FloodLent$Year" "FloodLent$Year" "bad" "I") ∈ lw_all := lw_g (lw_at lw_m2 184 rfl) rfl
theorem q557 : (Jvm.Cond.soleField "FloodLent$Year" "bad") ∈ lw_all := lw_g (lw_at lw_m2 185 rfl) rfl
theorem q558 : (Jvm.Cond.lays "FloodLent$Year" "FloodLent$Year" "miser" "I") ∈ lw_all := lw_g (lw_at lw_m2 186 rfl) rfl
theorem q559 : (Jvm.Cond.soleField "FloodLent$Year" "miser") ∈ lw_all := lw_g (lw_at lw_m2 187 rfl) rfl
theorem q560 : (Jvm.Cond.lays "FloodLent$Year" "FloodLent$Year" "other" "I") ∈ lw_all := lw_g (lw_at lw_m2 188 rfl) rfl
theorem q561 : (Jvm.Cond.soleField "FloodLent$Year" "other") ∈ lw_all := lw_g (lw_at lw_m2 189 rfl) rfl
theorem q562 : (Jvm.Cond.lays "FloodLent$Year" "FloodLent$Year" "otherWater" "I") ∈ lw_all := lw_g (lw_at lw_m2 190 rfl) rfl
theorem q563 : (Jvm.Cond.soleField "FloodLent$Year" "otherWater") ∈ lw_all := lw_g (lw_at lw_m2 191 rfl) rfl
theorem q564 : (Jvm.Cond.superclass "FloodLent$Year" "java/lang/Object") ∈ lw_all := lw_g (lw_at lw_m2 192 rfl) rfl
theorem q854 : (Jvm.Cond.fieldLinkNest "FloodLent$Year" (91 : Nat) "FloodLent$Village" "pond" "I" "FloodLent") ∈ lw_tbl := lw_at lw_m4 2 rfl
theorem q857 : (Jvm.Cond.fieldLinkNest "FloodLent$Year" (101 : Nat) "FloodLent$Village" "water" "I" "FloodLent") ∈ lw_tbl := lw_at lw_m4 5 rfl
theorem q860 : (Jvm.Cond.fieldLinkNest "FloodLent$Year" (202 : Nat) "FloodLent$Village" "face" "I" "FloodLent") ∈ lw_tbl := lw_at lw_m4 8 rfl
theorem q863 : (Jvm.Cond.fieldLinkNest "FloodLent$Year" (208 : Nat) "FloodLent$Village" "seep" "I" "FloodLent") ∈ lw_tbl := lw_at lw_m4 11 rfl
theorem q927 : (Jvm.Cond.selects "FloodLent$Year" ({ cls := "java/lang/Object", name := "getClass", desc := "()Ljava/lang/Class;" } : Jvm.MethodName) ({ cls := "java/lang/Object", name := "getClass", desc := "()Ljava/lang/Class;" } : Jvm.MethodName)) ∈ lw_all := lw_g (lw_at lw_m4 75 rfl) rfl
theorem q963 : (Jvm.Cond.fieldLinkNest "FloodLent$Year" (193 : Nat) "FloodLent$Crop" "village" "I" "FloodLent") ∈ lw_tbl := lw_at lw_m4 111 rfl
theorem q966 : (Jvm.Cond.fieldLinkNest "FloodLent$Year" (196 : Nat) "FloodLent$Crop" "drinks" "I" "FloodLent") ∈ lw_tbl := lw_at lw_m4 114 rfl
theorem q969 : (Jvm.Cond.fieldLinkNest "FloodLent$Year" (199 : Nat) "FloodLent$Crop" "brings" "I" "FloodLent") ∈ lw_tbl := lw_at lw_m4 117 rfl
theorem q971 : (Jvm.Cond.fieldLinkNest "FloodLent$Year" (191 : Nat) "FloodLent$Crop" "from" "I" "FloodLent") ∈ lw_tbl := lw_at lw_m4 119 rfl
theorem q973 : (Jvm.Cond.fieldLinkNest "FloodLent$Year" (192 : Nat) "FloodLent$Crop" "to" "I" "FloodLent") ∈ lw_tbl := lw_at lw_m4 121 rfl
theorem q998 : (Jvm.Cond.fieldLinkNest "FloodLent$Year" (172 : Nat) "FloodLent$Lent" "from" "I" "FloodLent") ∈ lw_tbl := lw_at lw_m4 146 rfl
theorem q1000 : (Jvm.Cond.fieldLinkNest "FloodLent$Year" (175 : Nat) "FloodLent$Lent" "to" "I" "FloodLent") ∈ lw_tbl := lw_at lw_m4 148 rfl
theorem q1003 : (Jvm.Cond.fieldLinkNest "FloodLent$Year" (154 : Nat) "FloodLent$Lent" "many" "I" "FloodLent") ∈ lw_tbl := lw_at lw_m4 151 rfl
theorem q1005 : (Jvm.Cond.fieldLinkNest "FloodLent$Year" (147 : Nat) "FloodLent$Lent" "on" "I" "FloodLent") ∈ lw_tbl := lw_at lw_m4 153 rfl
theorem q1007 : (Jvm.Cond.fieldLinkNest "FloodLent$Year" (178 : Nat) "FloodLent$Lent" "till" "I" "FloodLent") ∈ lw_tbl := lw_at lw_m4 155 rfl
theorem q1102 : (Jvm.Cond.instanceMethod ({ cls := "FloodLent$Year", name := "begins", desc := "(LFloodLent$Plain;[II)V" } : Jvm.MethodName)) ∈ lw_all := lw_g (lw_at lw_m5 10 rfl) rfl
theorem q1103 : (Jvm.Cond.selects "FloodLent$Year" ({ cls := "FloodLent$Year", name := "begins", desc := "(LFloodLent$Plain;[II)V" } : Jvm.MethodName) ({ cls := "FloodLent$Year", name := "begins", desc := "(LFloodLent$Plain;[II)V" } : Jvm.MethodName)) ∈ lw_all := lw_g (lw_at lw_m5 11 rfl) rfl
theorem q1104 : (Jvm.Cond.code ({ cls := "FloodLent$Year", name := "begins", desc := "(LFloodLent$Plain;[II)V" } : Jvm.MethodName) prog_11_method_2_code (4 : Nat) (Option.none : Option Jvm.ClassFile.FieldType)) ∈ lw_all := lw_g (lw_at lw_m5 12 rfl) rfl
theorem q1105 : (Jvm.Cond.methodLink "FloodLent$Year" (58 : Nat) ({ cls := "java/lang/System", name := "arraycopy", desc := "(Ljava/lang/Object;ILjava/lang/Object;II)V" } : Jvm.MethodName)) ∈ lw_all := lw_g (lw_at lw_m5 13 rfl) rfl
theorem q1107 : (Jvm.Cond.instanceMethod ({ cls := "FloodLent$Year", name := "goes", desc := "()LFloodLent$Year;" } : Jvm.MethodName)) ∈ lw_all := lw_g (lw_at lw_m5 15 rfl) rfl
theorem q1108 : (Jvm.Cond.selects "FloodLent$Year" ({ cls := "FloodLent$Year", name := "goes", desc := "()LFloodLent$Year;" } : Jvm.MethodName) ({ cls := "FloodLent$Year", name := "goes", desc := "()LFloodLent$Year;" } : Jvm.MethodName)) ∈ lw_all := lw_g (lw_at lw_m5 16 rfl) rfl
theorem q1109 : (Jvm.Cond.code ({ cls := "FloodLent$Year", name := "goes", desc := "()LFloodLent$Year;" } : Jvm.MethodName) prog_11_method_5_code (5 : Nat) (Option.some (Jvm.ClassFile.FieldType.object "FloodLent$Year"))) ∈ lw_all := lw_g (lw_at lw_m5 17 rfl) rfl
theorem q1110 : (Jvm.Cond.interfaceEntry "FloodLent$Year" (94 : Nat)) ∈ lw_tbl := lw_at lw_m5 18 rfl
theorem q1111 : (Jvm.Cond.methodLink "FloodLent$Year" (94 : Nat) ({ cls := "java/util/List", name := "size", desc := "()I" } : Jvm.MethodName)) ∈ lw_all := lw_g (lw_at lw_m5 19 rfl) rfl
theorem q1112 : (Jvm.Cond.interfaceEntry "FloodLent$Year" (83 : Nat)) ∈ lw_tbl := lw_at lw_m5 20 rfl
theorem q1113 : (Jvm.Cond.methodLink "FloodLent$Year" (83 : Nat) ({ cls := "java/util/List", name := "get", desc := "(I)Ljava/lang/Object;" } : Jvm.MethodName)) ∈ lw_all := lw_g (lw_at lw_m5 21 rfl) rfl
theorem q1114 : (Jvm.Cond.classLink "FloodLent$Year" (89 : Nat) "FloodLent$Village") ∈ lw_all := lw_g (lw_at lw_m5 22 rfl) rfl
theorem q1115 : (Jvm.Cond.methodLink "FloodLent$Year" (103 : Nat) ({ cls := "java/util/Arrays", name := "fill", desc := "([II)V" } : Jvm.MethodName)) ∈ lw_all := lw_g (lw_at lw_m5 23 rfl) rfl
theorem q1116 : (Jvm.Cond.methodLink "FloodLent$Year" (124 : Nat) ({ cls := "FloodLent$Year", name := "floods", desc := "(I)V" } : Jvm.MethodName)) ∈ lw_all := lw_g (lw_at lw_m5 24 rfl) rfl
theorem q1117 : (Jvm.Cond.privateMethod ({ cls := "FloodLent$Year", name := "floods", desc := "(I)V" } : Jvm.MethodName)) ∈ lw_tbl := lw_at lw_m5 25 rfl
theorem q1118 : (Jvm.Cond.instanceMethod ({ cls := "FloodLent$Year", name := "floods", desc := "(I)V" } : Jvm.MethodName)) ∈ lw_all := lw_g (lw_at lw_m5 26 rfl) rfl
theorem q1119 : (Jvm.Cond.code ({ cls := "FloodLent$Year", name := "floods", desc := "(I)V" } : Jvm.MethodName) prog_11_method_6_code (3 : Nat) (Option.none : Option Jvm.ClassFile.FieldType)) ∈ lw_all := lw_g (lw_at lw_m5 27 rfl) rfl
theorem q1120 : (Jvm.Cond.classLink "FloodLent$Year" (145 : Nat) "FloodLent$Lent") ∈ lw_all := lw_g (lw_at lw_m5 28 rfl) rfl
theorem q1121 : (Jvm.Cond.methodLinkNest "FloodLent$Year" (150 : Nat) ({ cls := "FloodLent", name := "isOn", desc := "(II)Z" } : Jvm.MethodName) "FloodLent") ∈ lw_tbl := lw_at lw_m5 29 rfl
theorem q1124 : (Jvm.Cond.methodLink "FloodLent$Year" (157 : Nat) ({ cls := "FloodLent$Year", name := "room", desc := "(I)I" } : Jvm.MethodName)) ∈ lw_all := lw_g (lw_at lw_m5 32 rfl) rfl
theorem q1125 : (Jvm.Cond.privateMethod ({ cls := "FloodLent$Year", name := "room", desc := "(I)I" } : Jvm.MethodName)) ∈ lw_tbl := lw_at lw_m5 33 rfl
theorem q1126 : (Jvm.Cond.instanceMethod ({ cls := "FloodLent$Year", name := "room", desc := "(I)I" } : Jvm.MethodName)) ∈ lw_all := lw_g (lw_at lw_m5 34 rfl) rfl
theorem q1127 : (Jvm.Cond.code ({ cls := "FloodLent$Year", name := "room", desc := "(I)I" } : Jvm.MethodName) prog_11_method_4_code (2 : Nat) (Option.some Jvm.ClassFile.FieldType.int)) ∈ lw_all := lw_g (lw_at lw_m5 35 rfl) rfl
theorem q1128 : (Jvm.Cond.methodLink "FloodLent$Year" (161 : Nat) ({ cls := "java/lang/Math", name := "min", desc := "(II)I" } : Jvm.MethodName)) ∈ lw_all := lw_g (lw_at lw_m5 36 rfl) rfl
theorem q1129 : (Jvm.Cond.methodLink "FloodLent$Year" (167 : Nat) ({ cls := "FloodLent$Year", name := "withMore", desc := "(II)I" } : Jvm.MethodName)) ∈ lw_all := lw_g (lw_at lw_m5 37 rfl) rfl
theorem q1130 : (Jvm.Cond.static ({ cls := "FloodLent$Year", name := "withMore", desc := "(II)I" } : Jvm.MethodName)) ∈ lw_all := lw_g (lw_at lw_m5 38 rfl) rfl
theorem q1131 : (Jvm.Cond.code ({ cls := "FloodLent$Year", name := "withMore", desc := "(II)I" } : Jvm.MethodName) prog_11_method_3_code (2 : Nat) (Option.some Jvm.ClassFile.FieldType.int)) ∈ lw_all := lw_g (lw_at lw_m5 39 rfl) rfl
theorem q1132 : (Jvm.Cond.methodLink "FloodLent$Year" (128 : Nat) ({ cls := "FloodLent$Year", name := "loans", desc := "(I)V" } : Jvm.MethodName)) ∈ lw_all := lw_g (lw_at lw_m5 40 rfl) rfl
theorem q1133 : (Jvm.Cond.privateMethod ({ cls := "FloodLent$Year", name := "loans", desc := "(I)V" } : Jvm.MethodName)) ∈ lw_tbl := lw_at lw_m5 41 rfl
theorem q1134 : (Jvm.Cond.instanceMethod ({ cls := "FloodLent$Year", name := "loans", desc := "(I)V" } : Jvm.MethodName)) ∈ lw_all := lw_g (lw_at lw_m5 42 rfl) rfl
theorem q1135 : (Jvm.Cond.code ({ cls := "FloodLent$Year", name := "loans", desc := "(I)V" } : Jvm.MethodName) prog_11_method_7_code (4 : Nat) (Option.none : Option Jvm.ClassFile.FieldType)) ∈ lw_all := lw_g (lw_at lw_m5 43 rfl) rfl
theorem q1136 : (Jvm.Cond.methodLink "FloodLent$Year" (131 : Nat) ({ cls := "FloodLent$Year", name := "pays", desc := "(I)V" } : Jvm.MethodName)) ∈ lw_all := lw_g (lw_at lw_m5 44 rfl) rfl
theorem q1137 : (Jvm.Cond.privateMethod ({ cls := "FloodLent$Year", name := "pays", desc := "(I)V" } : Jvm.MethodName)) ∈ lw_tbl := lw_at lw_m5 45 rfl
theorem q1138 : (Jvm.Cond.instanceMethod ({ cls := "FloodLent$Year", name := "pays", desc := "(I)V" } : Jvm.MethodName)) ∈ lw_all := lw_g (lw_at lw_m5 46 rfl) rfl
theorem q1139 : (Jvm.Cond.code ({ cls := "FloodLent$Year", name := "pays", desc := "(I)V" } : Jvm.MethodName) prog_11_method_9_code (4 : Nat) (Option.none : Option Jvm.ClassFile.FieldType)) ∈ lw_all := lw_g (lw_at lw_m5 47 rfl) rfl
theorem q1140 : (Jvm.Cond.methodLink "FloodLent$Year" (181 : Nat) ({ cls := "FloodLent$Year", name := "isBad", desc := "(I)V" } : Jvm.MethodName)) ∈ lw_all := lw_g (lw_at lw_m5 48 rfl) rfl
theorem q1141 : (Jvm.Cond.privateMethod ({ cls := "FloodLent$Year", name := "isBad", desc := "(I)V" } : Jvm.MethodName)) ∈ lw_tbl := lw_at lw_m5 49 rfl
theorem q1142 : (Jvm.Cond.instanceMethod ({ cls := "FloodLent$Year", name := "isBad", desc := "(I)V" } : Jvm.MethodName)) ∈ lw_all := lw_g (lw_at lw_m5 50 rfl) rfl
theorem q1143 : (Jvm.Cond.code ({ cls := "FloodLent$Year", name := "isBad", desc := "(I)V" } : Jvm.MethodName) prog_11_method_8_code (2 : Nat) (Option.none : Option Jvm.ClassFile.FieldType)) ∈ lw_all := lw_g (lw_at lw_m5 51 rfl) rfl
theorem q1144 : (Jvm.Cond.methodLink "FloodLent$Year" (134 : Nat) ({ cls := "FloodLent$Year", name := "crops", desc := "(I)V" } : Jvm.MethodName)) ∈ lw_all := lw_g (lw_at lw_m5 52 rfl) rfl
theorem q1145 : (Jvm.Cond.privateMethod ({ cls := "FloodLent$Year", name := "crops", desc := "(I)V" } : Jvm.MethodName)) ∈ lw_tbl := lw_at lw_m5 53 rfl
theorem q1146 : (Jvm.Cond.instanceMethod ({ cls := "FloodLent$Year", name := "crops", desc := "(I)V" } : Jvm.MethodName)) ∈ lw_all := lw_g (lw_at lw_m5 54 rfl) rfl
theorem q1147 : (Jvm.Cond.code ({ cls := "FloodLent$Year", name := "crops", desc := "(I)V" } : Jvm.MethodName) prog_11_method_10_code (4 : Nat) (Option.none : Option Jvm.ClassFile.FieldType)) ∈ lw_all := lw_g (lw_at lw_m5 55 rfl) rfl
theorem q1148 : (Jvm.Cond.classLink "FloodLent$Year" (189 : Nat) "FloodLent$Crop") ∈ lw_all := lw_g (lw_at lw_m5 56 rfl) rfl
theorem q1149 : (Jvm.Cond.methodLink "FloodLent$Year" (137 : Nat) ({ cls := "FloodLent$Year", name := "suns", desc := "(I)V" } : Jvm.MethodName)) ∈ lw_all := lw_g (lw_at lw_m5 57 rfl) rfl
theorem q1150 : (Jvm.Cond.privateMethod ({ cls := "FloodLent$Year", name := "suns", desc := "(I)V" } : Jvm.MethodName)) ∈ lw_tbl := lw_at lw_m5 58 rfl
theorem q1151 : (Jvm.Cond.instanceMethod ({ cls := "FloodLent$Year", name := "suns", desc := "(I)V" } : Jvm.MethodName)) ∈ lw_all := lw_g (lw_at lw_m5 59 rfl) rfl
theorem q1152 : (Jvm.Cond.code ({ cls := "FloodLent$Year", name := "suns", desc := "(I)V" } : Jvm.MethodName) prog_11_method_11_code (4 : Nat) (Option.none : Option Jvm.ClassFile.FieldType)) ∈ lw_all := lw_g (lw_at lw_m5 60 rfl) rfl
theorem q1153 : (Jvm.Cond.methodLink "FloodLent$Year" (140 : Nat) ({ cls := "FloodLent$Year", name := "seeps", desc := "()V" } : Jvm.MethodName)) ∈ lw_all := lw_g (lw_at lw_m5 61 rfl) rfl
theorem q1154 : (Jvm.Cond.privateMethod ({ cls := "FloodLent$Year", name := "seeps", desc := "()V" } : Jvm.MethodName)) ∈ lw_tbl := lw_at lw_m5 62 rfl
theorem q1155 : (Jvm.Cond.instanceMethod ({ cls := "FloodLent$Year", name := "seeps", desc := "()V" } : Jvm.MethodName)) ∈ lw_all := lw_g (lw_at lw_m5 63 rfl) rfl
theorem q1156 : (Jvm.Cond.code ({ cls := "FloodLent$Year", name := "seeps", desc := "()V" } : Jvm.MethodName) prog_11_method_12_code (4 : Nat) (Option.none : Option Jvm.ClassFile.FieldType)) ∈ lw_all := lw_g (lw_at lw_m5 64 rfl) rfl
theorem q1176 : (Jvm.Cond.instanceMethod ({ cls := "FloodLent$Year", name := "broughtInAll", desc := "()I" } : Jvm.MethodName)) ∈ lw_all := lw_g (lw_at lw_m5 84 rfl) rfl
theorem q1177 : (Jvm.Cond.selects "FloodLent$Year" ({ cls := "FloodLent$Year", name := "broughtInAll", desc := "()I" } : Jvm.MethodName) ({ cls := "FloodLent$Year", name := "broughtInAll", desc := "()I" } : Jvm.MethodName)) ∈ lw_all := lw_g (lw_at lw_m5 85 rfl) rfl
theorem q1178 : (Jvm.Cond.code ({ cls := "FloodLent$Year", name := "broughtInAll", desc := "()I" } : Jvm.MethodName) prog_11_method_13_code (6 : Nat) (Option.some Jvm.ClassFile.FieldType.int)) ∈ lw_all := lw_g (lw_at lw_m5 86 rfl) rfl
theorem q1180 : (Jvm.Cond.instanceMethod ({ cls := "FloodLent$Year", name := "shortOfFloods", desc := "()I" } : Jvm.MethodName)) ∈ lw_all := lw_g (lw_at lw_m5 88 rfl) rfl
theorem q1181 : (Jvm.Cond.selects "FloodLent$Year" ({ cls := "FloodLent$Year", name := "shortOfFloods", desc := "()I" } : Jvm.MethodName) ({ cls := "FloodLent$Year", name := "shortOfFloods", desc := "()I" } : Jvm.MethodName)) ∈ lw_all := lw_g (lw_at lw_m5 89 rfl) rfl
theorem q1182 : (Jvm.Cond.code ({ cls := "FloodLent$Year", name := "shortOfFloods", desc := "()I" } : Jvm.MethodName) prog_11_method_14_code (3 : Nat) (Option.some Jvm.ClassFile.FieldType.int)) ∈ lw_all := lw_g (lw_at lw_m5 90 rfl) rfl
theorem q1184 : (Jvm.Cond.instanceMethod ({ cls := "FloodLent$Year", name := "shortOfLoans", desc := "()I" } : Jvm.MethodName)) ∈ lw_all := lw_g (lw_at lw_m5 92 rfl) rfl
theorem q1185 : (Jvm.Cond.selects "FloodLent$Year" ({ cls := "FloodLent$Year", name := "shortOfLoans", desc := "()I" } : Jvm.MethodName) ({ cls := "FloodLent$Year", name := "shortOfLoans", desc := "()I" } : Jvm.MethodName)) ∈ lw_all := lw_g (lw_at lw_m5 93 rfl) rfl
theorem q1186 : (Jvm.Cond.code ({ cls := "FloodLent$Year", name := "shortOfLoans", desc := "()I" } : Jvm.MethodName) prog_11_method_15_code (3 : Nat) (Option.some Jvm.ClassFile.FieldType.int)) ∈ lw_all := lw_g (lw_at lw_m5 94 rfl) rfl
theorem q1219 : (Jvm.Cond.instanceMethod ({ cls := "FloodLent$Year", name := "allShort", desc := "()I" } : Jvm.MethodName)) ∈ lw_all := lw_g (lw_at lw_m5 127 rfl) rfl
theorem q1220 : (Jvm.Cond.selects "FloodLent$Year" ({ cls := "FloodLent$Year", name := "allShort", desc := "()I" } : Jvm.MethodName) ({ cls := "FloodLent$Year", name := "allShort", desc := "()I" } : Jvm.MethodName)) ∈ lw_all := lw_g (lw_at lw_m5 128 rfl) rfl
theorem q1221 : (Jvm.Cond.code ({ cls := "FloodLent$Year", name := "allShort", desc := "()I" } : Jvm.MethodName) prog_11_method_16_code (1 : Nat) (Option.some Jvm.ClassFile.FieldType.int)) ∈ lw_all := lw_g (lw_at lw_m5 129 rfl) rfl
theorem q1222 : (Jvm.Cond.methodLink "FloodLent$Year" (211 : Nat) ({ cls := "FloodLent$Year", name := "shortOfFloods", desc := "()I" } : Jvm.MethodName)) ∈ lw_all := lw_g (lw_at lw_m5 130 rfl) rfl
theorem q1223 : (Jvm.Cond.methodLink "FloodLent$Year" (214 : Nat) ({ cls := "FloodLent$Year", name := "shortOfLoans", desc := "()I" } : Jvm.MethodName)) ∈ lw_all := lw_g (lw_at lw_m5 131 rfl) rfl
theorem q1307 : (Jvm.Cond.instanceMethod ({ cls := "FloodLent$Year", name := "has", desc := "(I)I" } : Jvm.MethodName)) ∈ lw_all := lw_g (lw_at lw_m5 215 rfl) rfl
theorem q1308 : (Jvm.Cond.selects "FloodLent$Year" ({ cls := "FloodLent$Year", name := "has", desc := "(I)I" } : Jvm.MethodName) ({ cls := "FloodLent$Year", name := "has", desc := "(I)I" } : Jvm.MethodName)) ∈ lw_all := lw_g (lw_at lw_m5 216 rfl) rfl
theorem q1309 : (Jvm.Cond.code ({ cls := "FloodLent$Year", name := "has", desc := "(I)I" } : Jvm.MethodName) prog_11_method_17_code (4 : Nat) (Option.some Jvm.ClassFile.FieldType.int)) ∈ lw_all := lw_g (lw_at lw_m5 217 rfl) rfl
theorem q1327 : (Jvm.Cond.instanceMethod ({ cls := "FloodLent$Year", name := "debts", desc := "([[I)V" } : Jvm.MethodName)) ∈ lw_all := lw_g (lw_at lw_m5 235 rfl) rfl
theorem q1328 : (Jvm.Cond.selects "FloodLent$Year" ({ cls := "FloodLent$Year", name := "debts", desc := "([[I)V" } : Jvm.MethodName) ({ cls := "FloodLent$Year", name := "debts", desc := "([[I)V" } : Jvm.MethodName)) ∈ lw_all := lw_g (lw_at lw_m5 236 rfl) rfl
theorem q1329 : (Jvm.Cond.code ({ cls := "FloodLent$Year", name := "debts", desc := "([[I)V" } : Jvm.MethodName) prog_11_method_18_code (6 : Nat) (Option.none : Option Jvm.ClassFile.FieldType)) ∈ lw_all := lw_g (lw_at lw_m5 237 rfl) rfl
theorem q2118 : (Jvm.Cond.castable "FloodLent$Year" "java/lang/Object") ∈ lw_tbl := lw_at lw_m9 66 rfl
theorem in_X3 : ∀ w ∈ wsX30, w ∈ lw_all := lw_in wsX30 [518, 520, 522, 524, 526, 528, 530, 532, 534, 536, 538, 540, 542, 544, 546, 548, 550, 552, 554, 556, 558, 560, 562] (by decide +kernel) (by decide +kernel)

/-! FloodLent$Rings -/
set_option maxRecDepth 100000
def RX4 : String := "FloodLent$Rings"
def TX4 : u_T := fun k => match k with
  | 0 => ("FloodLent$Rings", "row", "[I", true)
  | 1 => ("FloodLent$Rings", "best", "[I", true)
  | 2 => ("FloodLent$Rings", "cleared", "[I", true)
  | 3 => ("FloodLent$Rings", "length", "I", false)
  | 4 => ("FloodLent$Rings", "many", "I", false)
  | 5 => ("FloodLent$Rings", "less", "I", false)
  | _ => ("FloodLent$Rings", "this$0", "LFloodLent;", true)
def tyX4 : Nat → FieldType := fun k => match k with
  | 0 => .array .int
  | 1 => .array .int
  | 2 => .array .int
  | 3 => .int
  | 4 => .int
  | 5 => .int
  | _ => .object "FloodLent"
abbrev wsX40 : List Cond := u_ws RX4 TX4 7
theorem nmX4 : ∀ a, a < 7 → ∀ b, b < 7 → a ≠ b → (TX4 a).2.1 ≠ (TX4 b).2.1 := by decide +kernel
theorem tyX4_ok : ∀ k, k < 7 → parseFieldDescriptor (TX4 k).2.2.1 = some (tyX4 k) := by decide +kernel
abbrev cX4_init : ByteArray := prog_8_method_1_code
def yX4_init : MethodName := ⟨RX4, "<init>", "(LFloodLent;)V"⟩
def dkwX4_init_1 : List UInt8 := [181, 0, 19, 42, 16, 99, 188, 10, 181, 0, 22, 177]
abbrev dktX4_init_1 : List UInt8 := dkwX4_init_1 ++ []
def dkwX4_init_0 : List UInt8 := [42, 43, 181, 0, 3, 42, 183, 0, 9, 42, 16, 6, 188, 10, 181, 0, 15, 42, 16, 6, 188, 10]
abbrev dktX4_init_0 : List UInt8 := dkwX4_init_0 ++ dktX4_init_1
theorem dksX4_init_0 : cX4_init.data.toList.drop 0 = dktX4_init_0 := by decide +kernel
theorem dksX4_init_1 : cX4_init.data.toList.drop 22 = dktX4_init_1 := dk_seg dksX4_init_0 22 rfl rfl
theorem dX4_init_0 : decode cX4_init 0 = .ok (.aload_n 0, 1) := dk_42 (dk_at dksX4_init_0 0 rfl rfl)
theorem dX4_init_1 : decode cX4_init 1 = .ok (.aload_n 1, 1) := dk_43 (dk_at dksX4_init_0 1 rfl rfl)
theorem dX4_init_2 : decode cX4_init 2 = .ok (.putfield 3, 3) := dk_181 0 3 (dk_at dksX4_init_0 2 rfl rfl)
theorem dX4_init_5 : decode cX4_init 5 = .ok (.aload_n 0, 1) := dk_42 (dk_at dksX4_init_0 5 rfl rfl)
theorem dX4_init_6 : decode cX4_init 6 = .ok (.invokespecial 9, 3) := dk_183 0 9 (dk_at dksX4_init_0 6 rfl rfl)
theorem dX4_init_9 : decode cX4_init 9 = .ok (.aload_n 0, 1) := dk_42 (dk_at dksX4_init_0 9 rfl rfl)
theorem dX4_init_10 : decode cX4_init 10 = .ok (.bipush 6, 2) := dk_16 6 (dk_at dksX4_init_0 10 rfl rfl)
theorem dX4_init_12 : decode cX4_init 12 = .ok (.newarray .int, 2) := dk_188_10 (dk_at dksX4_init_0 12 rfl rfl)
theorem dX4_init_14 : decode cX4_init 14 = .ok (.putfield 15, 3) := dk_181 0 15 (dk_at dksX4_init_0 14 rfl rfl)
theorem dX4_init_17 : decode cX4_init 17 = .ok (.aload_n 0, 1) := dk_42 (dk_at dksX4_init_0 17 rfl rfl)
theorem dX4_init_18 : decode cX4_init 18 = .ok (.bipush 6, 2) := dk_16 6 (dk_at dksX4_init_0 18 rfl rfl)
theorem dX4_init_20 : decode cX4_init 20 = .ok (.newarray .int, 2) := dk_188_10 (dk_at dksX4_init_0 20 rfl rfl)
theorem dX4_init_22 : decode cX4_init 22 = .ok (.putfield 19, 3) := dk_181 0 19 (dk_at dksX4_init_1 0 rfl rfl)
theorem dX4_init_25 : decode cX4_init 25 = .ok (.aload_n 0, 1) := dk_42 (dk_at dksX4_init_1 3 rfl rfl)
theorem dX4_init_26 : decode cX4_init 26 = .ok (.bipush 99, 2) := dk_16 99 (dk_at dksX4_init_1 4 rfl rfl)
theorem dX4_init_28 : decode cX4_init 28 = .ok (.newarray .int, 2) := dk_188_10 (dk_at dksX4_init_1 6 rfl rfl)
theorem dX4_init_30 : decode cX4_init 30 = .ok (.putfield 22, 3) := dk_181 0 22 (dk_at dksX4_init_1 8 rfl rfl)
theorem dX4_init_33 : decode cX4_init 33 = .ok (.return_, 1) := dk_177 (dk_at dksX4_init_1 11 rfl rfl)
abbrev cX4_clears : ByteArray := prog_8_method_2_code
def yX4_clears : MethodName := ⟨RX4, "clears", "()V"⟩
def dkwX4_clears_7 : List UInt8 := [181, 0, 25, 167, 255, 101, 177]
abbrev dktX4_clears_7 : List UInt8 := dkwX4_clears_7 ++ []
def dkwX4_clears_6 : List UInt8 := [104, 96, 181, 0, 29, 42, 180, 0, 22, 42, 180, 0, 25, 28, 79, 42, 89, 180, 0, 25, 4, 96]
abbrev dktX4_clears_6 : List UInt8 := dkwX4_clears_6 ++ dktX4_clears_7
def dkwX4_clears_5 : List UInt8 := [180, 0, 19, 29, 46, 120, 128, 61, 132, 3, 1, 167, 255, 202, 42, 89, 180, 0, 29, 27, 42, 180, 0, 39]
abbrev dktX4_clears_5 : List UInt8 := dkwX4_clears_5 ++ dktX4_clears_6
def dkwX4_clears_4 : List UInt8 := [50, 42, 180, 0, 19, 29, 4, 96, 42, 180, 0, 39, 112, 46, 92, 46, 27, 100, 79, 28, 4, 42]
abbrev dktX4_clears_4 : List UInt8 := dkwX4_clears_4 ++ dktX4_clears_5
def dkwX4_clears_3 : List UInt8 := [61, 3, 62, 29, 42, 180, 0, 39, 162, 0, 52, 42, 180, 0, 3, 180, 0, 42, 42, 180, 0, 19, 29, 46]
abbrev dktX4_clears_3 : List UInt8 := dkwX4_clears_3 ++ dktX4_clears_4
def dkwX4_clears_2 : List UInt8 := [180, 0, 19, 28, 4, 96, 42, 180, 0, 39, 112, 46, 46, 184, 0, 46, 60, 132, 2, 1, 167, 255, 212, 3]
abbrev dktX4_clears_2 : List UInt8 := dkwX4_clears_2 ++ dktX4_clears_3
def dkwX4_clears_1 : List UInt8 := [180, 0, 39, 162, 0, 42, 27, 42, 180, 0, 3, 180, 0, 42, 42, 180, 0, 19, 28, 46, 50, 42]
abbrev dktX4_clears_1 : List UInt8 := dkwX4_clears_1 ++ dktX4_clears_2
def dkwX4_clears_0 : List UInt8 := [42, 3, 181, 0, 25, 42, 3, 181, 0, 29, 42, 182, 0, 32, 153, 0, 154, 18, 38, 60, 3, 61, 28, 42]
abbrev dktX4_clears_0 : List UInt8 := dkwX4_clears_0 ++ dktX4_clears_1
theorem dksX4_clears_0 : cX4_clears.data.toList.drop 0 = dktX4_clears_0 := by decide +kernel
theorem dksX4_clears_1 : cX4_clears.data.toList.drop 24 = dktX4_clears_1 := dk_seg dksX4_clears_0 24 rfl rfl
theorem dksX4_clears_2 : cX4_clears.data.toList.drop 46 = dktX4_clears_2 := dk_seg dksX4_clears_1 22 rfl rfl
theorem dksX4_clears_3 : cX4_clears.data.toList.drop 70 = dktX4_clears_3 := dk_seg dksX4_clears_2 24 rfl rfl
theorem dksX4_clears_4 : cX4_clears.data.toList.drop 94 = dktX4_clears_4 := dk_seg dksX4_clears_3 24 rfl rfl
theorem dksX4_clears_5 : cX4_clears.data.toList.drop 116 = dktX4_clears_5 := dk_seg dksX4_clears_4 22 rfl rfl
theorem dksX4_clears_6 : cX4_clears.data.toList.drop 140 = dktX4_clears_6 := dk_seg dksX4_clears_5 24 rfl rfl
theorem dksX4_clears_7 : cX4_clears.data.toList.drop 162 = dktX4_clears_7 := dk_seg dksX4_clears_6 22 rfl rfl
theorem dX4_clears_0 : decode cX4_clears 0 = .ok (.aload_n 0, 1) := dk_42 (dk_at dksX4_clears_0 0 rfl rfl)
theorem dX4_clears_1 : decode cX4_clears 1 = .ok (.iconst 0, 1) := dk_3 (dk_at dksX4_clears_0 1 rfl rfl)
theorem dX4_clears_2 : decode cX4_clears 2 = .ok (.putfield 25, 3) := dk_181 0 25 (dk_at dksX4_clears_0 2 rfl rfl)
theorem dX4_clears_5 : decode cX4_clears 5 = .ok (.aload_n 0, 1) := dk_42 (dk_at dksX4_clears_0 5 rfl rfl)
theorem dX4_clears_6 : decode cX4_clears 6 = .ok (.iconst 0, 1) := dk_3 (dk_at dksX4_clears_0 6 rfl rfl)
theorem dX4_clears_7 : decode cX4_clears 7 = .ok (.putfield 29, 3) := dk_181 0 29 (dk_at dksX4_clears_0 7 rfl rfl)
theorem dX4_clears_10 : decode cX4_clears 10 = .ok (.aload_n 0, 1) := dk_42 (dk_at dksX4_clears_0 10 rfl rfl)
theorem dX4_clears_11 : decode cX4_clears 11 = .ok (.invokevirtual 32, 3) := dk_182 0 32 (dk_at dksX4_clears_0 11 rfl rfl)
theorem dX4_clears_14 : decode cX4_clears 14 = .ok (.ifCond .eq 154, 3) := dk_153 0 154 (dk_at dksX4_clears_0 14 rfl rfl)
theorem dX4_clears_17 : decode cX4_clears 17 = .ok (.ldc 38, 2) := dk_18 38 (dk_at dksX4_clears_0 17 rfl rfl)
theorem dX4_clears_19 : decode cX4_clears 19 = .ok (.istore_n 1, 1) := dk_60 (dk_at dksX4_clears_0 19 rfl rfl)
theorem dX4_clears_20 : decode cX4_clears 20 = .ok (.iconst 0, 1) := dk_3 (dk_at dksX4_clears_0 20 rfl rfl)
theorem dX4_clears_21 : decode cX4_clears 21 = .ok (.istore_n 2, 1) := dk_61 (dk_at dksX4_clears_0 21 rfl rfl)
theorem dX4_clears_22 : decode cX4_clears 22 = .ok (.iload_n 2, 1) := dk_28 (dk_at dksX4_clears_0 22 rfl rfl)
theorem dX4_clears_23 : decode cX4_clears 23 = .ok (.aload_n 0, 1) := dk_42 (dk_at dksX4_clears_0 23 rfl rfl)
theorem dX4_clears_24 : decode cX4_clears 24 = .ok (.getfield 39, 3) := dk_180 0 39 (dk_at dksX4_clears_1 0 rfl rfl)
theorem dX4_clears_27 : decode cX4_clears 27 = .ok (.if_icmp .ge 42, 3) := dk_162 0 42 (dk_at dksX4_clears_1 3 rfl rfl)
theorem dX4_clears_30 : decode cX4_clears 30 = .ok (.iload_n 1, 1) := dk_27 (dk_at dksX4_clears_1 6 rfl rfl)
theorem dX4_clears_31 : decode cX4_clears 31 = .ok (.aload_n 0, 1) := dk_42 (dk_at dksX4_clears_1 7 rfl rfl)
theorem dX4_clears_32 : decode cX4_clears 32 = .ok (.getfield 3, 3) := dk_180 0 3 (dk_at dksX4_clears_1 8 rfl rfl)
theorem dX4_clears_35 : decode cX4_clears 35 = .ok (.getfield 42, 3) := dk_180 0 42 (dk_at dksX4_clears_1 11 rfl rfl)
theorem dX4_clears_38 : decode cX4_clears 38 = .ok (.aload_n 0, 1) := dk_42 (dk_at dksX4_clears_1 14 rfl rfl)
theorem dX4_clears_39 : decode cX4_clears 39 = .ok (.getfield 19, 3) := dk_180 0 19 (dk_at dksX4_clears_1 15 rfl rfl)
theorem dX4_clears_42 : decode cX4_clears 42 = .ok (.iload_n 2, 1) := dk_28 (dk_at dksX4_clears_1 18 rfl rfl)
theorem dX4_clears_43 : decode cX4_clears 43 = .ok (.iaload, 1) := dk_46 (dk_at dksX4_clears_1 19 rfl rfl)
theorem dX4_clears_44 : decode cX4_clears 44 = .ok (.aaload, 1) := dk_50 (dk_at dksX4_clears_1 20 rfl rfl)
theorem dX4_clears_45 : decode cX4_clears 45 = .ok (.aload_n 0, 1) := dk_42 (dk_at dksX4_clears_1 21 rfl rfl)
theorem dX4_clears_46 : decode cX4_clears 46 = .ok (.getfield 19, 3) := dk_180 0 19 (dk_at dksX4_clears_2 0 rfl rfl)
theorem dX4_clears_49 : decode cX4_clears 49 = .ok (.iload_n 2, 1) := dk_28 (dk_at dksX4_clears_2 3 rfl rfl)
theorem dX4_clears_50 : decode cX4_clears 50 = .ok (.iconst 1, 1) := dk_4 (dk_at dksX4_clears_2 4 rfl rfl)
theorem dX4_clears_51 : decode cX4_clears 51 = .ok (.iadd, 1) := dk_96 (dk_at dksX4_clears_2 5 rfl rfl)
theorem dX4_clears_52 : decode cX4_clears 52 = .ok (.aload_n 0, 1) := dk_42 (dk_at dksX4_clears_2 6 rfl rfl)
theorem dX4_clears_53 : decode cX4_clears 53 = .ok (.getfield 39, 3) := dk_180 0 39 (dk_at dksX4_clears_2 7 rfl rfl)
theorem dX4_clears_56 : decode cX4_clears 56 = .ok (.irem, 1) := dk_112 (dk_at dksX4_clears_2 10 rfl rfl)
theorem dX4_clears_57 : decode cX4_clears 57 = .ok (.iaload, 1) := dk_46 (dk_at dksX4_clears_2 11 rfl rfl)
theorem dX4_clears_58 : decode cX4_clears 58 = .ok (.iaload, 1) := dk_46 (dk_at dksX4_clears_2 12 rfl rfl)
theorem dX4_clears_59 : decode cX4_clears 59 = .ok (.invokestatic 46, 3) := dk_184 0 46 (dk_at dksX4_clears_2 13 rfl rfl)
theorem dX4_clears_62 : decode cX4_clears 62 = .ok (.istore_n 1, 1) := dk_60 (dk_at dksX4_clears_2 16 rfl rfl)
theorem dX4_clears_63 : decode cX4_clears 63 = .ok (.iinc 2 1, 3) := dk_132 2 1 (dk_at dksX4_clears_2 17 rfl rfl)
theorem dX4_clears_66 : decode cX4_clears 66 = .ok (.goto (-44), 3) := dk_167 255 212 (dk_at dksX4_clears_2 20 rfl rfl)
theorem dX4_clears_69 : decode cX4_clears 69 = .ok (.iconst 0, 1) := dk_3 (dk_at dksX4_clears_2 23 rfl rfl)
theorem dX4_clears_70 : decode cX4_clears 70 = .ok (.istore_n 2, 1) := dk_61 (dk_at dksX4_clears_3 0 rfl rfl)
theorem dX4_clears_71 : decode cX4_clears 71 = .ok (.iconst 0, 1) := dk_3 (dk_at dksX4_clears_3 1 rfl rfl)
theorem dX4_clears_72 : decode cX4_clears 72 = .ok (.istore_n 3, 1) := dk_62 (dk_at dksX4_clears_3 2 rfl rfl)
theorem dX4_clears_73 : decode cX4_clears 73 = .ok (.iload_n 3, 1) := dk_29 (dk_at dksX4_clears_3 3 rfl rfl)
theorem dX4_clears_74 : decode cX4_clears 74 = .ok (.aload_n 0, 1) := dk_42 (dk_at dksX4_clears_3 4 rfl rfl)
theorem dX4_clears_75 : decode cX4_clears 75 = .ok (.getfield 39, 3) := dk_180 0 39 (dk_at dksX4_clears_3 5 rfl rfl)
theorem dX4_clears_78 : decode cX4_clears 78 = .ok (.if_icmp .ge 52, 3) := dk_162 0 52 (dk_at dksX4_clears_3 8 rfl rfl)
theorem dX4_clears_81 : decode cX4_clears 81 = .ok (.aload_n 0, 1) := dk_42 (dk_at dksX4_clears_3 11 rfl rfl)
theorem dX4_clears_82 : decode cX4_clears 82 = .ok (.getfield 3, 3) := dk_180 0 3 (dk_at dksX4_clears_3 12 rfl rfl)
theorem dX4_clears_85 : decode cX4_clears 85 = .ok (.getfield 42, 3) := dk_180 0 42 (dk_at dksX4_clears_3 15 rfl rfl)
theorem dX4_clears_88 : decode cX4_clears 88 = .ok (.aload_n 0, 1) := dk_42 (dk_at dksX4_clears_3 18 rfl rfl)
theorem dX4_clears_89 : decode cX4_clears 89 = .ok (.getfield 19, 3) := dk_180 0 19 (dk_at dksX4_clears_3 19 rfl rfl)
theorem dX4_clears_92 : decode cX4_clears 92 = .ok (.iload_n 3, 1) := dk_29 (dk_at dksX4_clears_3 22 rfl rfl)
theorem dX4_clears_93 : decode cX4_clears 93 = .ok (.iaload, 1) := dk_46 (dk_at dksX4_clears_3 23 rfl rfl)
theorem dX4_clears_94 : decode cX4_clears 94 = .ok (.aaload, 1) := dk_50 (dk_at dksX4_clears_4 0 rfl rfl)
theorem dX4_clears_95 : decode cX4_clears 95 = .ok (.aload_n 0, 1) := dk_42 (dk_at dksX4_clears_4 1 rfl rfl)
theorem dX4_clears_96 : decode cX4_clears 96 = .ok (.getfield 19, 3) := dk_180 0 19 (dk_at dksX4_clears_4 2 rfl rfl)
theorem dX4_clears_99 : decode cX4_clears 99 = .ok (.iload_n 3, 1) := dk_29 (dk_at dksX4_clears_4 5 rfl rfl)
theorem dX4_clears_100 : decode cX4_clears 100 = .ok (.iconst 1, 1) := dk_4 (dk_at dksX4_clears_4 6 rfl rfl)
theorem dX4_clears_101 : decode cX4_clears 101 = .ok (.iadd, 1) := dk_96 (dk_at dksX4_clears_4 7 rfl rfl)
theorem dX4_clears_102 : decode cX4_clears 102 = .ok (.aload_n 0, 1) := dk_42 (dk_at dksX4_clears_4 8 rfl rfl)
theorem dX4_clears_103 : decode cX4_clears 103 = .ok (.getfield 39, 3) := dk_180 0 39 (dk_at dksX4_clears_4 9 rfl rfl)
theorem dX4_clears_106 : decode cX4_clears 106 = .ok (.irem, 1) := dk_112 (dk_at dksX4_clears_4 12 rfl rfl)
theorem dX4_clears_107 : decode cX4_clears 107 = .ok (.iaload, 1) := dk_46 (dk_at dksX4_clears_4 13 rfl rfl)
theorem dX4_clears_108 : decode cX4_clears 108 = .ok (.dup2, 1) := dk_92 (dk_at dksX4_clears_4 14 rfl rfl)
theorem dX4_clears_109 : decode cX4_clears 109 = .ok (.iaload, 1) := dk_46 (dk_at dksX4_clears_4 15 rfl rfl)
theorem dX4_clears_110 : decode cX4_clears 110 = .ok (.iload_n 1, 1) := dk_27 (dk_at dksX4_clears_4 16 rfl rfl)
theorem dX4_clears_111 : decode cX4_clears 111 = .ok (.isub, 1) := dk_100 (dk_at dksX4_clears_4 17 rfl rfl)
theorem dX4_clears_112 : decode cX4_clears 112 = .ok (.iastore, 1) := dk_79 (dk_at dksX4_clears_4 18 rfl rfl)
theorem dX4_clears_113 : decode cX4_clears 113 = .ok (.iload_n 2, 1) := dk_28 (dk_at dksX4_clears_4 19 rfl rfl)
theorem dX4_clears_114 : decode cX4_clears 114 = .ok (.iconst 1, 1) := dk_4 (dk_at dksX4_clears_4 20 rfl rfl)
theorem dX4_clears_115 : decode cX4_clears 115 = .ok (.aload_n 0, 1) := dk_42 (dk_at dksX4_clears_4 21 rfl rfl)
theorem dX4_clears_116 : decode cX4_clears 116 = .ok (.getfield 19, 3) := dk_180 0 19 (dk_at dksX4_clears_5 0 rfl rfl)
theorem dX4_clears_119 : decode cX4_clears 119 = .ok (.iload_n 3, 1) := dk_29 (dk_at dksX4_clears_5 3 rfl rfl)
theorem dX4_clears_120 : decode cX4_clears 120 = .ok (.iaload, 1) := dk_46 (dk_at dksX4_clears_5 4 rfl rfl)
theorem dX4_clears_121 : decode cX4_clears 121 = .ok (.ishl, 1) := dk_120 (dk_at dksX4_clears_5 5 rfl rfl)
theorem dX4_clears_122 : decode cX4_clears 122 = .ok (.ior, 1) := dk_128 (dk_at dksX4_clears_5 6 rfl rfl)
theorem dX4_clears_123 : decode cX4_clears 123 = .ok (.istore_n 2, 1) := dk_61 (dk_at dksX4_clears_5 7 rfl rfl)
theorem dX4_clears_124 : decode cX4_clears 124 = .ok (.iinc 3 1, 3) := dk_132 3 1 (dk_at dksX4_clears_5 8 rfl rfl)
theorem dX4_clears_127 : decode cX4_clears 127 = .ok (.goto (-54), 3) := dk_167 255 202 (dk_at dksX4_clears_5 11 rfl rfl)
theorem dX4_clears_130 : decode cX4_clears 130 = .ok (.aload_n 0, 1) := dk_42 (dk_at dksX4_clears_5 14 rfl rfl)
theorem dX4_clears_131 : decode cX4_clears 131 = .ok (.dup, 1) := dk_89 (dk_at dksX4_clears_5 15 rfl rfl)
theorem dX4_clears_132 : decode cX4_clears 132 = .ok (.getfield 29, 3) := dk_180 0 29 (dk_at dksX4_clears_5 16 rfl rfl)
theorem dX4_clears_135 : decode cX4_clears 135 = .ok (.iload_n 1, 1) := dk_27 (dk_at dksX4_clears_5 19 rfl rfl)
theorem dX4_clears_136 : decode cX4_clears 136 = .ok (.aload_n 0, 1) := dk_42 (dk_at dksX4_clears_5 20 rfl rfl)
theorem dX4_clears_137 : decode cX4_clears 137 = .ok (.getfield 39, 3) := dk_180 0 39 (dk_at dksX4_clears_5 21 rfl rfl)
theorem dX4_clears_140 : decode cX4_clears 140 = .ok (.imul, 1) := dk_104 (dk_at dksX4_clears_6 0 rfl rfl)
theorem dX4_clears_141 : decode cX4_clears 141 = .ok (.iadd, 1) := dk_96 (dk_at dksX4_clears_6 1 rfl rfl)
theorem dX4_clears_142 : decode cX4_clears 142 = .ok (.putfield 29, 3) := dk_181 0 29 (dk_at dksX4_clears_6 2 rfl rfl)
theorem dX4_clears_145 : decode cX4_clears 145 = .ok (.aload_n 0, 1) := dk_42 (dk_at dksX4_clears_6 5 rfl rfl)
theorem dX4_clears_146 : decode cX4_clears 146 = .ok (.getfield 22, 3) := dk_180 0 22 (dk_at dksX4_clears_6 6 rfl rfl)
theorem dX4_clears_149 : decode cX4_clears 149 = .ok (.aload_n 0, 1) := dk_42 (dk_at dksX4_clears_6 9 rfl rfl)
theorem dX4_clears_150 : decode cX4_clears 150 = .ok (.getfield 25, 3) := dk_180 0 25 (dk_at dksX4_clears_6 10 rfl rfl)
theorem dX4_clears_153 : decode cX4_clears 153 = .ok (.iload_n 2, 1) := dk_28 (dk_at dksX4_clears_6 13 rfl rfl)
theorem dX4_clears_154 : decode cX4_clears 154 = .ok (.iastore, 1) := dk_79 (dk_at dksX4_clears_6 14 rfl rfl)
theorem dX4_clears_155 : decode cX4_clears 155 = .ok (.aload_n 0, 1) := dk_42 (dk_at dksX4_clears_6 15 rfl rfl)
theorem dX4_clears_156 : decode cX4_clears 156 = .ok (.dup, 1) := dk_89 (dk_at dksX4_clears_6 16 rfl rfl)
theorem dX4_clears_157 : decode cX4_clears 157 = .ok (.getfield 25, 3) := dk_180 0 25 (dk_at dksX4_clears_6 17 rfl rfl)
theorem dX4_clears_160 : decode cX4_clears 160 = .ok (.iconst 1, 1) := dk_4 (dk_at dksX4_clears_6 20 rfl rfl)
theorem dX4_clears_161 : decode cX4_clears 161 = .ok (.iadd, 1) := dk_96 (dk_at dksX4_clears_6 21 rfl rfl)
theorem dX4_clears_162 : decode cX4_clears 162 = .ok (.putfield 25, 3) := dk_181 0 25 (dk_at dksX4_clears_7 0 rfl rfl)
theorem dX4_clears_165 : decode cX4_clears 165 = .ok (.goto (-155), 3) := dk_167 255 101 (dk_at dksX4_clears_7 3 rfl rfl)
theorem dX4_clears_168 : decode cX4_clears 168 = .ok (.return_, 1) := dk_177 (dk_at dksX4_clears_7 6 rfl rfl)
abbrev cX4_finds : ByteArray := prog_8_method_3_code
def yX4_finds : MethodName := ⟨RX4, "finds", "()Z"⟩
def dkwX4_finds_2 : List UInt8 := [167, 255, 230, 42, 89, 180, 0, 39, 4, 96, 181, 0, 39, 167, 255, 201, 3, 172]
abbrev dktX4_finds_2 : List UInt8 := dkwX4_finds_2 ++ []
def dkwX4_finds_1 : List UInt8 := [180, 0, 3, 182, 0, 52, 162, 0, 21, 42, 27, 3, 3, 182, 0, 56, 153, 0, 5, 4, 172, 132, 1, 1]
abbrev dktX4_finds_1 : List UInt8 := dkwX4_finds_1 ++ dktX4_finds_2
def dkwX4_finds_0 : List UInt8 := [42, 5, 181, 0, 39, 42, 180, 0, 39, 42, 180, 0, 3, 182, 0, 52, 163, 0, 47, 3, 60, 27, 42]
abbrev dktX4_finds_0 : List UInt8 := dkwX4_finds_0 ++ dktX4_finds_1
theorem dksX4_finds_0 : cX4_finds.data.toList.drop 0 = dktX4_finds_0 := by decide +kernel
theorem dksX4_finds_1 : cX4_finds.data.toList.drop 23 = dktX4_finds_1 := dk_seg dksX4_finds_0 23 rfl rfl
theorem dksX4_finds_2 : cX4_finds.data.toList.drop 47 = dktX4_finds_2 := dk_seg dksX4_finds_1 24 rfl rfl
theorem dX4_finds_0 : decode cX4_finds 0 = .ok (.aload_n 0, 1) := dk_42 (dk_at dksX4_finds_0 0 rfl rfl)
theorem dX4_finds_1 : decode cX4_finds 1 = .ok (.iconst 2, 1) := dk_5 (dk_at dksX4_finds_0 1 rfl rfl)
theorem dX4_finds_2 : decode cX4_finds 2 = .ok (.putfield 39, 3) := dk_181 0 39 (dk_at dksX4_finds_0 2 rfl rfl)
theorem dX4_finds_5 : decode cX4_finds 5 = .ok (.aload_n 0, 1) := dk_42 (dk_at dksX4_finds_0 5 rfl rfl)
theorem dX4_finds_6 : decode cX4_finds 6 = .ok (.getfield 39, 3) := dk_180 0 39 (dk_at dksX4_finds_0 6 rfl rfl)
theorem dX4_finds_9 : decode cX4_finds 9 = .ok (.aload_n 0, 1) := dk_42 (dk_at dksX4_finds_0 9 rfl rfl)
theorem dX4_finds_10 : decode cX4_finds 10 = .ok (.getfield 3, 3) := dk_180 0 3 (dk_at dksX4_finds_0 10 rfl rfl)
theorem dX4_finds_13 : decode cX4_finds 13 = .ok (.invokevirtual 52, 3) := dk_182 0 52 (dk_at dksX4_finds_0 13 rfl rfl)
theorem dX4_finds_16 : decode cX4_finds 16 = .ok (.if_icmp .gt 47, 3) := dk_163 0 47 (dk_at dksX4_finds_0 16 rfl rfl)
theorem dX4_finds_19 : decode cX4_finds 19 = .ok (.iconst 0, 1) := dk_3 (dk_at dksX4_finds_0 19 rfl rfl)
theorem dX4_finds_20 : decode cX4_finds 20 = .ok (.istore_n 1, 1) := dk_60 (dk_at dksX4_finds_0 20 rfl rfl)
theorem dX4_finds_21 : decode cX4_finds 21 = .ok (.iload_n 1, 1) := dk_27 (dk_at dksX4_finds_0 21 rfl rfl)
theorem dX4_finds_22 : decode cX4_finds 22 = .ok (.aload_n 0, 1) := dk_42 (dk_at dksX4_finds_0 22 rfl rfl)
theorem dX4_finds_23 : decode cX4_finds 23 = .ok (.getfield 3, 3) := dk_180 0 3 (dk_at dksX4_finds_1 0 rfl rfl)
theorem dX4_finds_26 : decode cX4_finds 26 = .ok (.invokevirtual 52, 3) := dk_182 0 52 (dk_at dksX4_finds_1 3 rfl rfl)
theorem dX4_finds_29 : decode cX4_finds 29 = .ok (.if_icmp .ge 21, 3) := dk_162 0 21 (dk_at dksX4_finds_1 6 rfl rfl)
theorem dX4_finds_32 : decode cX4_finds 32 = .ok (.aload_n 0, 1) := dk_42 (dk_at dksX4_finds_1 9 rfl rfl)
theorem dX4_finds_33 : decode cX4_finds 33 = .ok (.iload_n 1, 1) := dk_27 (dk_at dksX4_finds_1 10 rfl rfl)
theorem dX4_finds_34 : decode cX4_finds 34 = .ok (.iconst 0, 1) := dk_3 (dk_at dksX4_finds_1 11 rfl rfl)
theorem dX4_finds_35 : decode cX4_finds 35 = .ok (.iconst 0, 1) := dk_3 (dk_at dksX4_finds_1 12 rfl rfl)
theorem dX4_finds_36 : decode cX4_finds 36 = .ok (.invokevirtual 56, 3) := dk_182 0 56 (dk_at dksX4_finds_1 13 rfl rfl)
theorem dX4_finds_39 : decode cX4_finds 39 = .ok (.ifCond .eq 5, 3) := dk_153 0 5 (dk_at dksX4_finds_1 16 rfl rfl)
theorem dX4_finds_42 : decode cX4_finds 42 = .ok (.iconst 1, 1) := dk_4 (dk_at dksX4_finds_1 19 rfl rfl)
theorem dX4_finds_43 : decode cX4_finds 43 = .ok (.ireturn, 1) := dk_172 (dk_at dksX4_finds_1 20 rfl rfl)
theorem dX4_finds_44 : decode cX4_finds 44 = .ok (.iinc 1 1, 3) := dk_132 1 1 (dk_at dksX4_finds_1 21 rfl rfl)
theorem dX4_finds_47 : decode cX4_finds 47 = .ok (.goto (-26), 3) := dk_167 255 230 (dk_at dksX4_finds_2 0 rfl rfl)
theorem dX4_finds_50 : decode cX4_finds 50 = .ok (.aload_n 0, 1) := dk_42 (dk_at dksX4_finds_2 3 rfl rfl)
theorem dX4_finds_51 : decode cX4_finds 51 = .ok (.dup, 1) := dk_89 (dk_at dksX4_finds_2 4 rfl rfl)
theorem dX4_finds_52 : decode cX4_finds 52 = .ok (.getfield 39, 3) := dk_180 0 39 (dk_at dksX4_finds_2 5 rfl rfl)
theorem dX4_finds_55 : decode cX4_finds 55 = .ok (.iconst 1, 1) := dk_4 (dk_at dksX4_finds_2 8 rfl rfl)
theorem dX4_finds_56 : decode cX4_finds 56 = .ok (.iadd, 1) := dk_96 (dk_at dksX4_finds_2 9 rfl rfl)
theorem dX4_finds_57 : decode cX4_finds 57 = .ok (.putfield 39, 3) := dk_181 0 39 (dk_at dksX4_finds_2 10 rfl rfl)
theorem dX4_finds_60 : decode cX4_finds 60 = .ok (.goto (-55), 3) := dk_167 255 201 (dk_at dksX4_finds_2 13 rfl rfl)
theorem dX4_finds_63 : decode cX4_finds 63 = .ok (.iconst 0, 1) := dk_3 (dk_at dksX4_finds_2 16 rfl rfl)
theorem dX4_finds_64 : decode cX4_finds 64 = .ok (.ireturn, 1) := dk_172 (dk_at dksX4_finds_2 17 rfl rfl)
abbrev cX4_goesRound : ByteArray := prog_8_method_4_code
def yX4_goesRound : MethodName := ⟨RX4, "goesRound", "(III)Z"⟩
def dkwX4_goesRound_5 : List UInt8 := [182, 0, 56, 153, 0, 5, 4, 172, 132, 4, 1, 167, 255, 194, 3, 172]
abbrev dktX4_goesRound_5 : List UInt8 := dkwX4_goesRound_5 ++ []
def dkwX4_goesRound_4 : List UInt8 := [29, 4, 27, 120, 128, 21, 4, 184, 0, 66, 154, 0, 22, 42, 21, 4, 28, 4, 96, 29, 4, 27, 120, 128]
abbrev dktX4_goesRound_4 : List UInt8 := dkwX4_goesRound_4 ++ dktX4_goesRound_5
def dkwX4_goesRound_3 : List UInt8 := [180, 0, 3, 182, 0, 52, 162, 0, 56, 42, 180, 0, 3, 180, 0, 42, 27, 50, 21, 4, 46, 158, 0, 35]
abbrev dktX4_goesRound_3 : List UInt8 := dkwX4_goesRound_3 ++ dktX4_goesRound_4
def dkwX4_goesRound_2 : List UInt8 := [42, 180, 0, 39, 184, 0, 60, 4, 172, 42, 180, 0, 15, 3, 46, 4, 96, 54, 4, 21, 4, 42]
abbrev dktX4_goesRound_2 : List UInt8 := dkwX4_goesRound_2 ++ dktX4_goesRound_3
def dkwX4_goesRound_1 : List UInt8 := [27, 50, 42, 180, 0, 15, 3, 46, 46, 154, 0, 5, 3, 172, 42, 180, 0, 15, 3, 42, 180, 0, 19, 3]
abbrev dktX4_goesRound_1 : List UInt8 := dkwX4_goesRound_1 ++ dktX4_goesRound_2
def dkwX4_goesRound_0 : List UInt8 := [42, 180, 0, 15, 28, 27, 79, 28, 42, 180, 0, 39, 4, 100, 160, 0, 43, 42, 180, 0, 3, 180, 0, 42]
abbrev dktX4_goesRound_0 : List UInt8 := dkwX4_goesRound_0 ++ dktX4_goesRound_1
theorem dksX4_goesRound_0 : cX4_goesRound.data.toList.drop 0 = dktX4_goesRound_0 := by decide +kernel
theorem dksX4_goesRound_1 : cX4_goesRound.data.toList.drop 24 = dktX4_goesRound_1 := dk_seg dksX4_goesRound_0 24 rfl rfl
theorem dksX4_goesRound_2 : cX4_goesRound.data.toList.drop 48 = dktX4_goesRound_2 := dk_seg dksX4_goesRound_1 24 rfl rfl
theorem dksX4_goesRound_3 : cX4_goesRound.data.toList.drop 70 = dktX4_goesRound_3 := dk_seg dksX4_goesRound_2 22 rfl rfl
theorem dksX4_goesRound_4 : cX4_goesRound.data.toList.drop 94 = dktX4_goesRound_4 := dk_seg dksX4_goesRound_3 24 rfl rfl
theorem dksX4_goesRound_5 : cX4_goesRound.data.toList.drop 118 = dktX4_goesRound_5 := dk_seg dksX4_goesRound_4 24 rfl rfl
theorem dX4_goesRound_0 : decode cX4_goesRound 0 = .ok (.aload_n 0, 1) := dk_42 (dk_at dksX4_goesRound_0 0 rfl rfl)
theorem dX4_goesRound_1 : decode cX4_goesRound 1 = .ok (.getfield 15, 3) := dk_180 0 15 (dk_at dksX4_goesRound_0 1 rfl rfl)
theorem dX4_goesRound_4 : decode cX4_goesRound 4 = .ok (.iload_n 2, 1) := dk_28 (dk_at dksX4_goesRound_0 4 rfl rfl)
theorem dX4_goesRound_5 : decode cX4_goesRound 5 = .ok (.iload_n 1, 1) := dk_27 (dk_at dksX4_goesRound_0 5 rfl rfl)
theorem dX4_goesRound_6 : decode cX4_goesRound 6 = .ok (.iastore, 1) := dk_79 (dk_at dksX4_goesRound_0 6 rfl rfl)
theorem dX4_goesRound_7 : decode cX4_goesRound 7 = .ok (.iload_n 2, 1) := dk_28 (dk_at dksX4_goesRound_0 7 rfl rfl)
theorem dX4_goesRound_8 : decode cX4_goesRound 8 = .ok (.aload_n 0, 1) := dk_42 (dk_at dksX4_goesRound_0 8 rfl rfl)
theorem dX4_goesRound_9 : decode cX4_goesRound 9 = .ok (.getfield 39, 3) := dk_180 0 39 (dk_at dksX4_goesRound_0 9 rfl rfl)
theorem dX4_goesRound_12 : decode cX4_goesRound 12 = .ok (.iconst 1, 1) := dk_4 (dk_at dksX4_goesRound_0 12 rfl rfl)
theorem dX4_goesRound_13 : decode cX4_goesRound 13 = .ok (.isub, 1) := dk_100 (dk_at dksX4_goesRound_0 13 rfl rfl)
theorem dX4_goesRound_14 : decode cX4_goesRound 14 = .ok (.if_icmp .ne 43, 3) := dk_160 0 43 (dk_at dksX4_goesRound_0 14 rfl rfl)
theorem dX4_goesRound_17 : decode cX4_goesRound 17 = .ok (.aload_n 0, 1) := dk_42 (dk_at dksX4_goesRound_0 17 rfl rfl)
theorem dX4_goesRound_18 : decode cX4_goesRound 18 = .ok (.getfield 3, 3) := dk_180 0 3 (dk_at dksX4_goesRound_0 18 rfl rfl)
theorem dX4_goesRound_21 : decode cX4_goesRound 21 = .ok (.getfield 42, 3) := dk_180 0 42 (dk_at dksX4_goesRound_0 21 rfl rfl)
theorem dX4_goesRound_24 : decode cX4_goesRound 24 = .ok (.iload_n 1, 1) := dk_27 (dk_at dksX4_goesRound_1 0 rfl rfl)
theorem dX4_goesRound_25 : decode cX4_goesRound 25 = .ok (.aaload, 1) := dk_50 (dk_at dksX4_goesRound_1 1 rfl rfl)
theorem dX4_goesRound_26 : decode cX4_goesRound 26 = .ok (.aload_n 0, 1) := dk_42 (dk_at dksX4_goesRound_1 2 rfl rfl)
theorem dX4_goesRound_27 : decode cX4_goesRound 27 = .ok (.getfield 15, 3) := dk_180 0 15 (dk_at dksX4_goesRound_1 3 rfl rfl)
theorem dX4_goesRound_30 : decode cX4_goesRound 30 = .ok (.iconst 0, 1) := dk_3 (dk_at dksX4_goesRound_1 6 rfl rfl)
theorem dX4_goesRound_31 : decode cX4_goesRound 31 = .ok (.iaload, 1) := dk_46 (dk_at dksX4_goesRound_1 7 rfl rfl)
theorem dX4_goesRound_32 : decode cX4_goesRound 32 = .ok (.iaload, 1) := dk_46 (dk_at dksX4_goesRound_1 8 rfl rfl)
theorem dX4_goesRound_33 : decode cX4_goesRound 33 = .ok (.ifCond .ne 5, 3) := dk_154 0 5 (dk_at dksX4_goesRound_1 9 rfl rfl)
theorem dX4_goesRound_36 : decode cX4_goesRound 36 = .ok (.iconst 0, 1) := dk_3 (dk_at dksX4_goesRound_1 12 rfl rfl)
theorem dX4_goesRound_37 : decode cX4_goesRound 37 = .ok (.ireturn, 1) := dk_172 (dk_at dksX4_goesRound_1 13 rfl rfl)
theorem dX4_goesRound_38 : decode cX4_goesRound 38 = .ok (.aload_n 0, 1) := dk_42 (dk_at dksX4_goesRound_1 14 rfl rfl)
theorem dX4_goesRound_39 : decode cX4_goesRound 39 = .ok (.getfield 15, 3) := dk_180 0 15 (dk_at dksX4_goesRound_1 15 rfl rfl)
theorem dX4_goesRound_42 : decode cX4_goesRound 42 = .ok (.iconst 0, 1) := dk_3 (dk_at dksX4_goesRound_1 18 rfl rfl)
theorem dX4_goesRound_43 : decode cX4_goesRound 43 = .ok (.aload_n 0, 1) := dk_42 (dk_at dksX4_goesRound_1 19 rfl rfl)
theorem dX4_goesRound_44 : decode cX4_goesRound 44 = .ok (.getfield 19, 3) := dk_180 0 19 (dk_at dksX4_goesRound_1 20 rfl rfl)
theorem dX4_goesRound_47 : decode cX4_goesRound 47 = .ok (.iconst 0, 1) := dk_3 (dk_at dksX4_goesRound_1 23 rfl rfl)
theorem dX4_goesRound_48 : decode cX4_goesRound 48 = .ok (.aload_n 0, 1) := dk_42 (dk_at dksX4_goesRound_2 0 rfl rfl)
theorem dX4_goesRound_49 : decode cX4_goesRound 49 = .ok (.getfield 39, 3) := dk_180 0 39 (dk_at dksX4_goesRound_2 1 rfl rfl)
theorem dX4_goesRound_52 : decode cX4_goesRound 52 = .ok (.invokestatic 60, 3) := dk_184 0 60 (dk_at dksX4_goesRound_2 4 rfl rfl)
theorem dX4_goesRound_55 : decode cX4_goesRound 55 = .ok (.iconst 1, 1) := dk_4 (dk_at dksX4_goesRound_2 7 rfl rfl)
theorem dX4_goesRound_56 : decode cX4_goesRound 56 = .ok (.ireturn, 1) := dk_172 (dk_at dksX4_goesRound_2 8 rfl rfl)
theorem dX4_goesRound_57 : decode cX4_goesRound 57 = .ok (.aload_n 0, 1) := dk_42 (dk_at dksX4_goesRound_2 9 rfl rfl)
theorem dX4_goesRound_58 : decode cX4_goesRound 58 = .ok (.getfield 15, 3) := dk_180 0 15 (dk_at dksX4_goesRound_2 10 rfl rfl)
theorem dX4_goesRound_61 : decode cX4_goesRound 61 = .ok (.iconst 0, 1) := dk_3 (dk_at dksX4_goesRound_2 13 rfl rfl)
theorem dX4_goesRound_62 : decode cX4_goesRound 62 = .ok (.iaload, 1) := dk_46 (dk_at dksX4_goesRound_2 14 rfl rfl)
theorem dX4_goesRound_63 : decode cX4_goesRound 63 = .ok (.iconst 1, 1) := dk_4 (dk_at dksX4_goesRound_2 15 rfl rfl)
theorem dX4_goesRound_64 : decode cX4_goesRound 64 = .ok (.iadd, 1) := dk_96 (dk_at dksX4_goesRound_2 16 rfl rfl)
theorem dX4_goesRound_65 : decode cX4_goesRound 65 = .ok (.istore 4, 2) := dk_54 4 (dk_at dksX4_goesRound_2 17 rfl rfl)
theorem dX4_goesRound_67 : decode cX4_goesRound 67 = .ok (.iload 4, 2) := dk_21 4 (dk_at dksX4_goesRound_2 19 rfl rfl)
theorem dX4_goesRound_69 : decode cX4_goesRound 69 = .ok (.aload_n 0, 1) := dk_42 (dk_at dksX4_goesRound_2 21 rfl rfl)
theorem dX4_goesRound_70 : decode cX4_goesRound 70 = .ok (.getfield 3, 3) := dk_180 0 3 (dk_at dksX4_goesRound_3 0 rfl rfl)
theorem dX4_goesRound_73 : decode cX4_goesRound 73 = .ok (.invokevirtual 52, 3) := dk_182 0 52 (dk_at dksX4_goesRound_3 3 rfl rfl)
theorem dX4_goesRound_76 : decode cX4_goesRound 76 = .ok (.if_icmp .ge 56, 3) := dk_162 0 56 (dk_at dksX4_goesRound_3 6 rfl rfl)
theorem dX4_goesRound_79 : decode cX4_goesRound 79 = .ok (.aload_n 0, 1) := dk_42 (dk_at dksX4_goesRound_3 9 rfl rfl)
theorem dX4_goesRound_80 : decode cX4_goesRound 80 = .ok (.getfield 3, 3) := dk_180 0 3 (dk_at dksX4_goesRound_3 10 rfl rfl)
theorem dX4_goesRound_83 : decode cX4_goesRound 83 = .ok (.getfield 42, 3) := dk_180 0 42 (dk_at dksX4_goesRound_3 13 rfl rfl)
theorem dX4_goesRound_86 : decode cX4_goesRound 86 = .ok (.iload_n 1, 1) := dk_27 (dk_at dksX4_goesRound_3 16 rfl rfl)
theorem dX4_goesRound_87 : decode cX4_goesRound 87 = .ok (.aaload, 1) := dk_50 (dk_at dksX4_goesRound_3 17 rfl rfl)
theorem dX4_goesRound_88 : decode cX4_goesRound 88 = .ok (.iload 4, 2) := dk_21 4 (dk_at dksX4_goesRound_3 18 rfl rfl)
theorem dX4_goesRound_90 : decode cX4_goesRound 90 = .ok (.iaload, 1) := dk_46 (dk_at dksX4_goesRound_3 20 rfl rfl)
theorem dX4_goesRound_91 : decode cX4_goesRound 91 = .ok (.ifCond .le 35, 3) := dk_158 0 35 (dk_at dksX4_goesRound_3 21 rfl rfl)
theorem dX4_goesRound_94 : decode cX4_goesRound 94 = .ok (.iload_n 3, 1) := dk_29 (dk_at dksX4_goesRound_4 0 rfl rfl)
theorem dX4_goesRound_95 : decode cX4_goesRound 95 = .ok (.iconst 1, 1) := dk_4 (dk_at dksX4_goesRound_4 1 rfl rfl)
theorem dX4_goesRound_96 : decode cX4_goesRound 96 = .ok (.iload_n 1, 1) := dk_27 (dk_at dksX4_goesRound_4 2 rfl rfl)
theorem dX4_goesRound_97 : decode cX4_goesRound 97 = .ok (.ishl, 1) := dk_120 (dk_at dksX4_goesRound_4 3 rfl rfl)
theorem dX4_goesRound_98 : decode cX4_goesRound 98 = .ok (.ior, 1) := dk_128 (dk_at dksX4_goesRound_4 4 rfl rfl)
theorem dX4_goesRound_99 : decode cX4_goesRound 99 = .ok (.iload 4, 2) := dk_21 4 (dk_at dksX4_goesRound_4 5 rfl rfl)
theorem dX4_goesRound_101 : decode cX4_goesRound 101 = .ok (.invokestatic 66, 3) := dk_184 0 66 (dk_at dksX4_goesRound_4 7 rfl rfl)
theorem dX4_goesRound_104 : decode cX4_goesRound 104 = .ok (.ifCond .ne 22, 3) := dk_154 0 22 (dk_at dksX4_goesRound_4 10 rfl rfl)
theorem dX4_goesRound_107 : decode cX4_goesRound 107 = .ok (.aload_n 0, 1) := dk_42 (dk_at dksX4_goesRound_4 13 rfl rfl)
theorem dX4_goesRound_108 : decode cX4_goesRound 108 = .ok (.iload 4, 2) := dk_21 4 (dk_at dksX4_goesRound_4 14 rfl rfl)
theorem dX4_goesRound_110 : decode cX4_goesRound 110 = .ok (.iload_n 2, 1) := dk_28 (dk_at dksX4_goesRound_4 16 rfl rfl)
theorem dX4_goesRound_111 : decode cX4_goesRound 111 = .ok (.iconst 1, 1) := dk_4 (dk_at dksX4_goesRound_4 17 rfl rfl)
theorem dX4_goesRound_112 : decode cX4_goesRound 112 = .ok (.iadd, 1) := dk_96 (dk_at dksX4_goesRound_4 18 rfl rfl)
theorem dX4_goesRound_113 : decode cX4_goesRound 113 = .ok (.iload_n 3, 1) := dk_29 (dk_at dksX4_goesRound_4 19 rfl rfl)
theorem dX4_goesRound_114 : decode cX4_goesRound 114 = .ok (.iconst 1, 1) := dk_4 (dk_at dksX4_goesRound_4 20 rfl rfl)
theorem dX4_goesRound_115 : decode cX4_goesRound 115 = .ok (.iload_n 1, 1) := dk_27 (dk_at dksX4_goesRound_4 21 rfl rfl)
theorem dX4_goesRound_116 : decode cX4_goesRound 116 = .ok (.ishl, 1) := dk_120 (dk_at dksX4_goesRound_4 22 rfl rfl)
theorem dX4_goesRound_117 : decode cX4_goesRound 117 = .ok (.ior, 1) := dk_128 (dk_at dksX4_goesRound_4 23 rfl rfl)
theorem dX4_goesRound_118 : decode cX4_goesRound 118 = .ok (.invokevirtual 56, 3) := dk_182 0 56 (dk_at dksX4_goesRound_5 0 rfl rfl)
theorem dX4_goesRound_121 : decode cX4_goesRound 121 = .ok (.ifCond .eq 5, 3) := dk_153 0 5 (dk_at dksX4_goesRound_5 3 rfl rfl)
theorem dX4_goesRound_124 : decode cX4_goesRound 124 = .ok (.iconst 1, 1) := dk_4 (dk_at dksX4_goesRound_5 6 rfl rfl)
theorem dX4_goesRound_125 : decode cX4_goesRound 125 = .ok (.ireturn, 1) := dk_172 (dk_at dksX4_goesRound_5 7 rfl rfl)
theorem dX4_goesRound_126 : decode cX4_goesRound 126 = .ok (.iinc 4 1, 3) := dk_132 4 1 (dk_at dksX4_goesRound_5 8 rfl rfl)
theorem dX4_goesRound_129 : decode cX4_goesRound 129 = .ok (.goto (-62), 3) := dk_167 255 194 (dk_at dksX4_goesRound_5 11 rfl rfl)
theorem dX4_goesRound_132 : decode cX4_goesRound 132 = .ok (.iconst 0, 1) := dk_3 (dk_at dksX4_goesRound_5 14 rfl rfl)
theorem dX4_goesRound_133 : decode cX4_goesRound 133 = .ok (.ireturn, 1) := dk_172 (dk_at dksX4_goesRound_5 15 rfl rfl)
theorem q140 : (Jvm.Cond.initialized "FloodLent$Rings") ∈ lw_all := lw_g (lw_at lw_m1 8 rfl) rfl
theorem q569 : (Jvm.Cond.instantiable "FloodLent$Rings" (7 : Nat)) ∈ lw_all := lw_g (lw_at lw_m2 197 rfl) rfl
theorem q571 : (Jvm.Cond.instanceMethod ({ cls := "FloodLent$Rings", name := "<init>", desc := "(LFloodLent;)V" } : Jvm.MethodName)) ∈ lw_all := lw_g (lw_at lw_m2 199 rfl) rfl
theorem q572 : (Jvm.Cond.code ({ cls := "FloodLent$Rings", name := "<init>", desc := "(LFloodLent;)V" } : Jvm.MethodName) prog_8_method_1_code (2 : Nat) (Option.none : Option Jvm.ClassFile.FieldType)) ∈ lw_all := lw_g (lw_at lw_m2 200 rfl) rfl
theorem q573 : (Jvm.Cond.methodLink "FloodLent$Rings" (9 : Nat) ({ cls := "java/lang/Object", name := "<init>", desc := "()V" } : Jvm.MethodName)) ∈ lw_all := lw_g (lw_at lw_m2 201 rfl) rfl
theorem q574 : (Jvm.Cond.fieldLink "FloodLent$Rings" (15 : Nat) "FloodLent$Rings" "row" "[I") ∈ lw_all := lw_g (lw_at lw_m2 202 rfl) rfl
theorem q575 : (Jvm.Cond.fieldLink "FloodLent$Rings" (19 : Nat) "FloodLent$Rings" "best" "[I") ∈ lw_all := lw_g (lw_at lw_m2 203 rfl) rfl
theorem q576 : (Jvm.Cond.fieldLink "FloodLent$Rings" (22 : Nat) "FloodLent$Rings" "cleared" "[I") ∈ lw_all := lw_g (lw_at lw_m2 204 rfl) rfl
theorem q578 : (Jvm.Cond.fieldLink "FloodLent$Rings" (39 : Nat) "FloodLent$Rings" "length" "I") ∈ lw_all := lw_g (lw_at lw_m2 206 rfl) rfl
theorem q579 : (Jvm.Cond.fieldLink "FloodLent$Rings" (25 : Nat) "FloodLent$Rings" "many" "I") ∈ lw_all := lw_g (lw_at lw_m2 207 rfl) rfl
theorem q581 : (Jvm.Cond.fieldLink "FloodLent$Rings" (29 : Nat) "FloodLent$Rings" "less" "I") ∈ lw_all := lw_g (lw_at lw_m2 209 rfl) rfl
theorem q583 : (Jvm.Cond.fieldLink "FloodLent$Rings" (3 : Nat) "FloodLent$Rings" "this$0" "LFloodLent;") ∈ lw_all := lw_g (lw_at lw_m2 211 rfl) rfl
theorem q584 : (Jvm.Cond.laysFinal "FloodLent$Rings" "FloodLent$Rings" "row" "[I") ∈ lw_all := lw_g (lw_at lw_m2 212 rfl) rfl
theorem q585 : (Jvm.Cond.soleField "FloodLent$Rings" "row") ∈ lw_all := lw_g (lw_at lw_m2 213 rfl) rfl
theorem q586 : (Jvm.Cond.laysFinal "FloodLent$Rings" "FloodLent$Rings" "best" "[I") ∈ lw_all := lw_g (lw_at lw_m2 214 rfl) rfl
theorem q587 : (Jvm.Cond.soleField "FloodLent$Rings" "best") ∈ lw_all := lw_g (lw_at lw_m2 215 rfl) rfl
theorem q588 : (Jvm.Cond.laysFinal "FloodLent$Rings" "FloodLent$Rings" "cleared" "[I") ∈ lw_all := lw_g (lw_at lw_m2 216 rfl) rfl
theorem q589 : (Jvm.Cond.soleField "FloodLent$Rings" "cleared") ∈ lw_all := lw_g (lw_at lw_m2 217 rfl) rfl
theorem q590 : (Jvm.Cond.lays "FloodLent$Rings" "FloodLent$Rings" "length" "I") ∈ lw_all := lw_g (lw_at lw_m2 218 rfl) rfl
theorem q591 : (Jvm.Cond.soleField "FloodLent$Rings" "length") ∈ lw_all := lw_g (lw_at lw_m2 219 rfl) rfl
theorem q592 : (Jvm.Cond.lays "FloodLent$Rings" "FloodLent$Rings" "many" "I") ∈ lw_all := lw_g (lw_at lw_m2 220 rfl) rfl
theorem q593 : (Jvm.Cond.soleField "FloodLent$Rings" "many") ∈ lw_all := lw_g (lw_at lw_m2 221 rfl) rfl
theorem q594 : (Jvm.Cond.lays "FloodLent$Rings" "FloodLent$Rings" "less" "I") ∈ lw_all := lw_g (lw_at lw_m2 222 rfl) rfl
theorem q595 : (Jvm.Cond.soleField "FloodLent$Rings" "less") ∈ lw_all := lw_g (lw_at lw_m2 223 rfl) rfl
theorem q596 : (Jvm.Cond.laysFinal "FloodLent$Rings" "FloodLent$Rings" "this$0" "LFloodLent;") ∈ lw_all := lw_g (lw_at lw_m2 224 rfl) rfl
theorem q597 : (Jvm.Cond.soleField "FloodLent$Rings" "this$0") ∈ lw_all := lw_g (lw_at lw_m2 225 rfl) rfl
theorem q598 : (Jvm.Cond.superclass "FloodLent$Rings" "java/lang/Object") ∈ lw_all := lw_g (lw_at lw_m2 226 rfl) rfl
theorem q612 : (Jvm.Cond.fieldLinkNest "FloodLent$Rings" (42 : Nat) "FloodLent" "debt" "[[I" "FloodLent") ∈ lw_tbl := lw_at lw_m3 0 rfl
theorem q924 : (Jvm.Cond.selects "FloodLent$Rings" ({ cls := "java/lang/Object", name := "getClass", desc := "()Ljava/lang/Class;" } : Jvm.MethodName) ({ cls := "java/lang/Object", name := "getClass", desc := "()Ljava/lang/Class;" } : Jvm.MethodName)) ∈ lw_all := lw_g (lw_at lw_m4 72 rfl) rfl
theorem q1339 : (Jvm.Cond.instanceMethod ({ cls := "FloodLent$Rings", name := "clears", desc := "()V" } : Jvm.MethodName)) ∈ lw_all := lw_g (lw_at lw_m6 7 rfl) rfl
theorem q1340 : (Jvm.Cond.selects "FloodLent$Rings" ({ cls := "FloodLent$Rings", name := "clears", desc := "()V" } : Jvm.MethodName) ({ cls := "FloodLent$Rings", name := "clears", desc := "()V" } : Jvm.MethodName)) ∈ lw_all := lw_g (lw_at lw_m6 8 rfl) rfl
theorem q1341 : (Jvm.Cond.code ({ cls := "FloodLent$Rings", name := "clears", desc := "()V" } : Jvm.MethodName) prog_8_method_2_code (4 : Nat) (Option.none : Option Jvm.ClassFile.FieldType)) ∈ lw_all := lw_g (lw_at lw_m6 9 rfl) rfl
theorem q1342 : (Jvm.Cond.methodLink "FloodLent$Rings" (32 : Nat) ({ cls := "FloodLent$Rings", name := "finds", desc := "()Z" } : Jvm.MethodName)) ∈ lw_all := lw_g (lw_at lw_m6 10 rfl) rfl
theorem q1343 : (Jvm.Cond.privateMethod ({ cls := "FloodLent$Rings", name := "finds", desc := "()Z" } : Jvm.MethodName)) ∈ lw_tbl := lw_at lw_m6 11 rfl
theorem q1344 : (Jvm.Cond.instanceMethod ({ cls := "FloodLent$Rings", name := "finds", desc := "()Z" } : Jvm.MethodName)) ∈ lw_all := lw_g (lw_at lw_m6 12 rfl) rfl
theorem q1345 : (Jvm.Cond.code ({ cls := "FloodLent$Rings", name := "finds", desc := "()Z" } : Jvm.MethodName) prog_8_method_3_code (2 : Nat) (Option.some Jvm.ClassFile.FieldType.boolean)) ∈ lw_all := lw_g (lw_at lw_m6 13 rfl) rfl
theorem q1346 : (Jvm.Cond.methodLinkNest "FloodLent$Rings" (52 : Nat) ({ cls := "FloodLent", name := "villages", desc := "()I" } : Jvm.MethodName) "FloodLent") ∈ lw_tbl := lw_at lw_m6 14 rfl
theorem q1347 : (Jvm.Cond.methodLink "FloodLent$Rings" (56 : Nat) ({ cls := "FloodLent$Rings", name := "goesRound", desc := "(III)Z" } : Jvm.MethodName)) ∈ lw_all := lw_g (lw_at lw_m6 15 rfl) rfl
theorem q1348 : (Jvm.Cond.privateMethod ({ cls := "FloodLent$Rings", name := "goesRound", desc := "(III)Z" } : Jvm.MethodName)) ∈ lw_tbl := lw_at lw_m6 16 rfl
theorem q1349 : (Jvm.Cond.instanceMethod ({ cls := "FloodLent$Rings", name := "goesRound", desc := "(III)Z" } : Jvm.MethodName)) ∈ lw_all := lw_g (lw_at lw_m6 17 rfl) rfl
theorem q1350 : (Jvm.Cond.code ({ cls := "FloodLent$Rings", name := "goesRound", desc := "(III)Z" } : Jvm.MethodName) prog_8_method_4_code (5 : Nat) (Option.some Jvm.ClassFile.FieldType.boolean)) ∈ lw_all := lw_g (lw_at lw_m6 18 rfl) rfl
theorem q1351 : (Jvm.Cond.methodLink "FloodLent$Rings" (60 : Nat) ({ cls := "java/lang/System", name := "arraycopy", desc := "(Ljava/lang/Object;ILjava/lang/Object;II)V" } : Jvm.MethodName)) ∈ lw_all := lw_g (lw_at lw_m6 19 rfl) rfl
theorem q1352 : (Jvm.Cond.methodLinkNest "FloodLent$Rings" (66 : Nat) ({ cls := "FloodLent", name := "isOn", desc := "(II)Z" } : Jvm.MethodName) "FloodLent") ∈ lw_tbl := lw_at lw_m6 20 rfl
theorem q1353 : (Jvm.Cond.constant "FloodLent$Rings" (38 : Nat) (2147483647 : Int32)) ∈ lw_all := lw_g (lw_at lw_m6 21 rfl) rfl
theorem q1354 : (Jvm.Cond.methodLink "FloodLent$Rings" (46 : Nat) ({ cls := "java/lang/Math", name := "min", desc := "(II)I" } : Jvm.MethodName)) ∈ lw_all := lw_g (lw_at lw_m6 22 rfl) rfl
theorem q2119 : (Jvm.Cond.castable "FloodLent$Rings" "java/lang/Object") ∈ lw_tbl := lw_at lw_m9 67 rfl
theorem in_X4 : ∀ w ∈ wsX40, w ∈ lw_all := lw_in wsX40 [584, 586, 588, 590, 592, 594, 596] (by decide +kernel) (by decide +kernel)
