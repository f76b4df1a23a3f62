/-! FloodLent -/
set_option maxRecDepth 100000
def RX0 : String := "FloodLent"
def TX0 : u_T := fun k => match k with
  | 0 => ("FloodLent", "slots", "[LFloodLent$Slot;", true)
  | 1 => ("FloodLent", "now", "LFloodLent$Plain;", false)
  | 2 => ("FloodLent", "more", "I", false)
  | 3 => ("FloodLent", "takers", "[I", true)
  | 4 => ("FloodLent", "year", "LFloodLent$Year;", true)
  | 5 => ("FloodLent", "images", "[LFloodLent$Image;", true)
  | 6 => ("FloodLent", "tape", "[B", true)
  | 7 => ("FloodLent", "taped", "I", false)
  | 8 => ("FloodLent", "faultKind", "I", false)
  | 9 => ("FloodLent", "faultPlace", "I", false)
  | 10 => ("FloodLent", "trial", "[I", true)
  | 11 => ("FloodLent", "bestBrought", "I", false)
  | 12 => ("FloodLent", "most", "J", false)
  | 13 => ("FloodLent", "debt", "[[I", true)
  | 14 => ("FloodLent", "paying", "[[I", true)
  | _ => ("FloodLent", "rings", "LFloodLent$Rings;", true)
def tyX0 : Nat → FieldType := fun k => match k with
  | 0 => .array (.object "FloodLent$Slot")
  | 1 => .object "FloodLent$Plain"
  | 2 => .int
  | 3 => .array .int
  | 4 => .object "FloodLent$Year"
  | 5 => .array (.object "FloodLent$Image")
  | 6 => .array .byte
  | 7 => .int
  | 8 => .int
  | 9 => .int
  | 10 => .array .int
  | 11 => .int
  | 12 => .long
  | 13 => .array (.array .int)
  | 14 => .array (.array .int)
  | _ => .object "FloodLent$Rings"
abbrev wsX00 : List Cond := u_ws RX0 TX0 16
set_option maxRecDepth 100000 in
theorem nmX0 : ∀ a, a < 16 → ∀ b, b < 16 → a ≠ b → (TX0 a).2.1 ≠ (TX0 b).2.1 := by decide +kernel
set_option maxRecDepth 100000 in
theorem tyX0_ok : ∀ k, k < 16 → parseFieldDescriptor (TX0 k).2.2.1 = some (tyX0 k) := by decide +kernel
abbrev cX0_row : ByteArray := prog_1_method_4_code
def yX0_row : MethodName := ⟨RX0, "row", "(III)I"⟩
def dkwX0_row_2 : List UInt8 := [16, 253, 172]
abbrev dktX0_row_2 : List UInt8 := dkwX0_row_2 ++ []
def dkwX0_row_1 : List UInt8 := [164, 0, 6, 16, 254, 172, 42, 180, 0, 13, 27, 50, 28, 29, 182, 0, 17, 153, 0, 7, 3, 167, 0, 5]
abbrev dktX0_row_1 : List UInt8 := dkwX0_row_1 ++ dktX0_row_2
def dkwX0_row_0 : List UInt8 := [27, 184, 0, 9, 153, 0, 21, 28, 133, 9, 20, 0, 3, 184, 0, 5, 153, 0, 9, 29, 16, 60]
abbrev dktX0_row_0 : List UInt8 := dkwX0_row_0 ++ dktX0_row_1
theorem dksX0_row_0 : cX0_row.data.toList.drop 0 = dktX0_row_0 := by decide +kernel
theorem dksX0_row_1 : cX0_row.data.toList.drop 22 = dktX0_row_1 := dk_seg dksX0_row_0 22 rfl rfl
theorem dksX0_row_2 : cX0_row.data.toList.drop 46 = dktX0_row_2 := dk_seg dksX0_row_1 24 rfl rfl
theorem dX0_row_0 : decode cX0_row 0 = .ok (.iload_n 1, 1) := dk_27 (dk_at dksX0_row_0 0 rfl rfl)
theorem dX0_row_1 : decode cX0_row 1 = .ok (.invokestatic 9, 3) := dk_184 0 9 (dk_at dksX0_row_0 1 rfl rfl)
theorem dX0_row_4 : decode cX0_row 4 = .ok (.ifCond .eq 21, 3) := dk_153 0 21 (dk_at dksX0_row_0 4 rfl rfl)
theorem dX0_row_7 : decode cX0_row 7 = .ok (.iload_n 2, 1) := dk_28 (dk_at dksX0_row_0 7 rfl rfl)
theorem dX0_row_8 : decode cX0_row 8 = .ok (.i2l, 1) := dk_133 (dk_at dksX0_row_0 8 rfl rfl)
theorem dX0_row_9 : decode cX0_row 9 = .ok (.lconst 0, 1) := dk_9 (dk_at dksX0_row_0 9 rfl rfl)
theorem dX0_row_10 : decode cX0_row 10 = .ok (.ldc2_w 3, 3) := dk_20 0 3 (dk_at dksX0_row_0 10 rfl rfl)
theorem dX0_row_13 : decode cX0_row 13 = .ok (.invokestatic 5, 3) := dk_184 0 5 (dk_at dksX0_row_0 13 rfl rfl)
theorem dX0_row_16 : decode cX0_row 16 = .ok (.ifCond .eq 9, 3) := dk_153 0 9 (dk_at dksX0_row_0 16 rfl rfl)
theorem dX0_row_19 : decode cX0_row 19 = .ok (.iload_n 3, 1) := dk_29 (dk_at dksX0_row_0 19 rfl rfl)
theorem dX0_row_20 : decode cX0_row 20 = .ok (.bipush 60, 2) := dk_16 60 (dk_at dksX0_row_0 20 rfl rfl)
theorem dX0_row_22 : decode cX0_row 22 = .ok (.if_icmp .le 6, 3) := dk_164 0 6 (dk_at dksX0_row_1 0 rfl rfl)
theorem dX0_row_25 : decode cX0_row 25 = .ok (.bipush (-2), 2) := dk_16 254 (dk_at dksX0_row_1 3 rfl rfl)
theorem dX0_row_27 : decode cX0_row 27 = .ok (.ireturn, 1) := dk_172 (dk_at dksX0_row_1 5 rfl rfl)
theorem dX0_row_28 : decode cX0_row 28 = .ok (.aload_n 0, 1) := dk_42 (dk_at dksX0_row_1 6 rfl rfl)
theorem dX0_row_29 : decode cX0_row 29 = .ok (.getfield 13, 3) := dk_180 0 13 (dk_at dksX0_row_1 7 rfl rfl)
theorem dX0_row_32 : decode cX0_row 32 = .ok (.iload_n 1, 1) := dk_27 (dk_at dksX0_row_1 10 rfl rfl)
theorem dX0_row_33 : decode cX0_row 33 = .ok (.aaload, 1) := dk_50 (dk_at dksX0_row_1 11 rfl rfl)
theorem dX0_row_34 : decode cX0_row 34 = .ok (.iload_n 2, 1) := dk_28 (dk_at dksX0_row_1 12 rfl rfl)
theorem dX0_row_35 : decode cX0_row 35 = .ok (.iload_n 3, 1) := dk_29 (dk_at dksX0_row_1 13 rfl rfl)
theorem dX0_row_36 : decode cX0_row 36 = .ok (.invokevirtual 17, 3) := dk_182 0 17 (dk_at dksX0_row_1 14 rfl rfl)
theorem dX0_row_39 : decode cX0_row 39 = .ok (.ifCond .eq 7, 3) := dk_153 0 7 (dk_at dksX0_row_1 17 rfl rfl)
theorem dX0_row_42 : decode cX0_row 42 = .ok (.iconst 0, 1) := dk_3 (dk_at dksX0_row_1 20 rfl rfl)
theorem dX0_row_43 : decode cX0_row 43 = .ok (.goto 5, 3) := dk_167 0 5 (dk_at dksX0_row_1 21 rfl rfl)
theorem dX0_row_46 : decode cX0_row 46 = .ok (.bipush (-3), 2) := dk_16 253 (dk_at dksX0_row_2 0 rfl rfl)
theorem dX0_row_48 : decode cX0_row 48 = .ok (.ireturn, 1) := dk_172 (dk_at dksX0_row_2 2 rfl rfl)
abbrev cX0_isSlot : ByteArray := prog_1_method_3_code
def yX0_isSlot : MethodName := ⟨RX0, "isSlot", "(I)Z"⟩
def dkwX0_isSlot_0 : List UInt8 := [26, 133, 9, 20, 0, 3, 184, 0, 5, 172]
abbrev dktX0_isSlot_0 : List UInt8 := dkwX0_isSlot_0 ++ []
theorem dksX0_isSlot_0 : cX0_isSlot.data.toList.drop 0 = dktX0_isSlot_0 := by decide +kernel
theorem dX0_isSlot_0 : decode cX0_isSlot 0 = .ok (.iload_n 0, 1) := dk_26 (dk_at dksX0_isSlot_0 0 rfl rfl)
theorem dX0_isSlot_1 : decode cX0_isSlot 1 = .ok (.i2l, 1) := dk_133 (dk_at dksX0_isSlot_0 1 rfl rfl)
theorem dX0_isSlot_2 : decode cX0_isSlot 2 = .ok (.lconst 0, 1) := dk_9 (dk_at dksX0_isSlot_0 2 rfl rfl)
theorem dX0_isSlot_3 : decode cX0_isSlot 3 = .ok (.ldc2_w 3, 3) := dk_20 0 3 (dk_at dksX0_isSlot_0 3 rfl rfl)
theorem dX0_isSlot_6 : decode cX0_isSlot 6 = .ok (.invokestatic 5, 3) := dk_184 0 5 (dk_at dksX0_isSlot_0 6 rfl rfl)
theorem dX0_isSlot_9 : decode cX0_isSlot 9 = .ok (.ireturn, 1) := dk_172 (dk_at dksX0_isSlot_0 9 rfl rfl)
abbrev cX0_in : ByteArray := prog_1_method_1_code
def yX0_in : MethodName := ⟨RX0, "in", "(JJJ)Z"⟩
def dkwX0_in_0 : List UInt8 := [30, 32, 148, 155, 0, 14, 30, 22, 4, 148, 157, 0, 7, 4, 167, 0, 4, 3, 172]
abbrev dktX0_in_0 : List UInt8 := dkwX0_in_0 ++ []
theorem dksX0_in_0 : cX0_in.data.toList.drop 0 = dktX0_in_0 := by decide +kernel
theorem dX0_in_0 : decode cX0_in 0 = .ok (.lload_n 0, 1) := dk_30 (dk_at dksX0_in_0 0 rfl rfl)
theorem dX0_in_1 : decode cX0_in 1 = .ok (.lload_n 2, 1) := dk_32 (dk_at dksX0_in_0 1 rfl rfl)
theorem dX0_in_2 : decode cX0_in 2 = .ok (.lcmp, 1) := dk_148 (dk_at dksX0_in_0 2 rfl rfl)
theorem dX0_in_3 : decode cX0_in 3 = .ok (.ifCond .lt 14, 3) := dk_155 0 14 (dk_at dksX0_in_0 3 rfl rfl)
theorem dX0_in_6 : decode cX0_in 6 = .ok (.lload_n 0, 1) := dk_30 (dk_at dksX0_in_0 6 rfl rfl)
theorem dX0_in_7 : decode cX0_in 7 = .ok (.lload 4, 2) := dk_22 4 (dk_at dksX0_in_0 7 rfl rfl)
theorem dX0_in_9 : decode cX0_in 9 = .ok (.lcmp, 1) := dk_148 (dk_at dksX0_in_0 9 rfl rfl)
theorem dX0_in_10 : decode cX0_in 10 = .ok (.ifCond .gt 7, 3) := dk_157 0 7 (dk_at dksX0_in_0 10 rfl rfl)
theorem dX0_in_13 : decode cX0_in 13 = .ok (.iconst 1, 1) := dk_4 (dk_at dksX0_in_0 13 rfl rfl)
theorem dX0_in_14 : decode cX0_in 14 = .ok (.goto 4, 3) := dk_167 0 4 (dk_at dksX0_in_0 14 rfl rfl)
theorem dX0_in_17 : decode cX0_in 17 = .ok (.iconst 0, 1) := dk_3 (dk_at dksX0_in_0 17 rfl rfl)
theorem dX0_in_18 : decode cX0_in 18 = .ok (.ireturn, 1) := dk_172 (dk_at dksX0_in_0 18 rfl rfl)
abbrev cX0_write : ByteArray := prog_1_method_5_code
def yX0_write : MethodName := ⟨RX0, "write", "(IIJ)I"⟩
def dkwX0_write_0 : List UInt8 := [27, 184, 0, 9, 153, 0, 17, 42, 180, 0, 13, 27, 50, 28, 33, 182, 0, 23, 167, 0, 5, 16, 254, 172]
abbrev dktX0_write_0 : List UInt8 := dkwX0_write_0 ++ []
theorem dksX0_write_0 : cX0_write.data.toList.drop 0 = dktX0_write_0 := by decide +kernel
theorem dX0_write_0 : decode cX0_write 0 = .ok (.iload_n 1, 1) := dk_27 (dk_at dksX0_write_0 0 rfl rfl)
theorem dX0_write_1 : decode cX0_write 1 = .ok (.invokestatic 9, 3) := dk_184 0 9 (dk_at dksX0_write_0 1 rfl rfl)
theorem dX0_write_4 : decode cX0_write 4 = .ok (.ifCond .eq 17, 3) := dk_153 0 17 (dk_at dksX0_write_0 4 rfl rfl)
theorem dX0_write_7 : decode cX0_write 7 = .ok (.aload_n 0, 1) := dk_42 (dk_at dksX0_write_0 7 rfl rfl)
theorem dX0_write_8 : decode cX0_write 8 = .ok (.getfield 13, 3) := dk_180 0 13 (dk_at dksX0_write_0 8 rfl rfl)
theorem dX0_write_11 : decode cX0_write 11 = .ok (.iload_n 1, 1) := dk_27 (dk_at dksX0_write_0 11 rfl rfl)
theorem dX0_write_12 : decode cX0_write 12 = .ok (.aaload, 1) := dk_50 (dk_at dksX0_write_0 12 rfl rfl)
theorem dX0_write_13 : decode cX0_write 13 = .ok (.iload_n 2, 1) := dk_28 (dk_at dksX0_write_0 13 rfl rfl)
theorem dX0_write_14 : decode cX0_write 14 = .ok (.lload_n 3, 1) := dk_33 (dk_at dksX0_write_0 14 rfl rfl)
theorem dX0_write_15 : decode cX0_write 15 = .ok (.invokevirtual 23, 3) := dk_182 0 23 (dk_at dksX0_write_0 15 rfl rfl)
theorem dX0_write_18 : decode cX0_write 18 = .ok (.goto 5, 3) := dk_167 0 5 (dk_at dksX0_write_0 18 rfl rfl)
theorem dX0_write_21 : decode cX0_write 21 = .ok (.bipush (-2), 2) := dk_16 254 (dk_at dksX0_write_0 21 rfl rfl)
theorem dX0_write_23 : decode cX0_write 23 = .ok (.ireturn, 1) := dk_172 (dk_at dksX0_write_0 23 rfl rfl)
abbrev cX0_paste : ByteArray := prog_1_method_6_code
def yX0_paste : MethodName := ⟨RX0, "paste", "(IIIII)I"⟩
def dkwX0_paste_1 : List UInt8 := [180, 0, 13, 29, 50, 21, 4, 21, 5, 182, 0, 27, 167, 0, 5, 16, 254, 172]
abbrev dktX0_paste_1 : List UInt8 := dkwX0_paste_1 ++ []
def dkwX0_paste_0 : List UInt8 := [27, 184, 0, 9, 153, 0, 33, 29, 184, 0, 9, 153, 0, 26, 42, 180, 0, 13, 27, 50, 28, 42]
abbrev dktX0_paste_0 : List UInt8 := dkwX0_paste_0 ++ dktX0_paste_1
theorem dksX0_paste_0 : cX0_paste.data.toList.drop 0 = dktX0_paste_0 := by decide +kernel
theorem dksX0_paste_1 : cX0_paste.data.toList.drop 22 = dktX0_paste_1 := dk_seg dksX0_paste_0 22 rfl rfl
theorem dX0_paste_0 : decode cX0_paste 0 = .ok (.iload_n 1, 1) := dk_27 (dk_at dksX0_paste_0 0 rfl rfl)
theorem dX0_paste_1 : decode cX0_paste 1 = .ok (.invokestatic 9, 3) := dk_184 0 9 (dk_at dksX0_paste_0 1 rfl rfl)
theorem dX0_paste_4 : decode cX0_paste 4 = .ok (.ifCond .eq 33, 3) := dk_153 0 33 (dk_at dksX0_paste_0 4 rfl rfl)
theorem dX0_paste_7 : decode cX0_paste 7 = .ok (.iload_n 3, 1) := dk_29 (dk_at dksX0_paste_0 7 rfl rfl)
theorem dX0_paste_8 : decode cX0_paste 8 = .ok (.invokestatic 9, 3) := dk_184 0 9 (dk_at dksX0_paste_0 8 rfl rfl)
theorem dX0_paste_11 : decode cX0_paste 11 = .ok (.ifCond .eq 26, 3) := dk_153 0 26 (dk_at dksX0_paste_0 11 rfl rfl)
theorem dX0_paste_14 : decode cX0_paste 14 = .ok (.aload_n 0, 1) := dk_42 (dk_at dksX0_paste_0 14 rfl rfl)
theorem dX0_paste_15 : decode cX0_paste 15 = .ok (.getfield 13, 3) := dk_180 0 13 (dk_at dksX0_paste_0 15 rfl rfl)
theorem dX0_paste_18 : decode cX0_paste 18 = .ok (.iload_n 1, 1) := dk_27 (dk_at dksX0_paste_0 18 rfl rfl)
theorem dX0_paste_19 : decode cX0_paste 19 = .ok (.aaload, 1) := dk_50 (dk_at dksX0_paste_0 19 rfl rfl)
theorem dX0_paste_20 : decode cX0_paste 20 = .ok (.iload_n 2, 1) := dk_28 (dk_at dksX0_paste_0 20 rfl rfl)
theorem dX0_paste_21 : decode cX0_paste 21 = .ok (.aload_n 0, 1) := dk_42 (dk_at dksX0_paste_0 21 rfl rfl)
theorem dX0_paste_22 : decode cX0_paste 22 = .ok (.getfield 13, 3) := dk_180 0 13 (dk_at dksX0_paste_1 0 rfl rfl)
theorem dX0_paste_25 : decode cX0_paste 25 = .ok (.iload_n 3, 1) := dk_29 (dk_at dksX0_paste_1 3 rfl rfl)
theorem dX0_paste_26 : decode cX0_paste 26 = .ok (.aaload, 1) := dk_50 (dk_at dksX0_paste_1 4 rfl rfl)
theorem dX0_paste_27 : decode cX0_paste 27 = .ok (.iload 4, 2) := dk_21 4 (dk_at dksX0_paste_1 5 rfl rfl)
theorem dX0_paste_29 : decode cX0_paste 29 = .ok (.iload 5, 2) := dk_21 5 (dk_at dksX0_paste_1 7 rfl rfl)
theorem dX0_paste_31 : decode cX0_paste 31 = .ok (.invokevirtual 27, 3) := dk_182 0 27 (dk_at dksX0_paste_1 9 rfl rfl)
theorem dX0_paste_34 : decode cX0_paste 34 = .ok (.goto 5, 3) := dk_167 0 5 (dk_at dksX0_paste_1 12 rfl rfl)
theorem dX0_paste_37 : decode cX0_paste 37 = .ok (.bipush (-2), 2) := dk_16 254 (dk_at dksX0_paste_1 15 rfl rfl)
theorem dX0_paste_39 : decode cX0_paste 39 = .ok (.ireturn, 1) := dk_172 (dk_at dksX0_paste_1 17 rfl rfl)
abbrev cX0_init : ByteArray := prog_1_method_7_code
def yX0_init : MethodName := ⟨RX0, "<init>", "()V"⟩
def dkwX0_init_6 : List UInt8 := [181, 0, 78, 42, 187, 0, 81, 89, 42, 183, 0, 83, 181, 0, 86, 177]
abbrev dktX0_init_6 : List UInt8 := dkwX0_init_6 ++ []
def dkwX0_init_5 : List UInt8 := [181, 0, 70, 42, 16, 6, 16, 6, 197, 0, 73, 2, 181, 0, 75, 42, 16, 6, 16, 6, 197, 0, 73, 2]
abbrev dktX0_init_5 : List UInt8 := dkwX0_init_5 ++ dktX0_init_6
def dkwX0_init_4 : List UInt8 := [189, 0, 56, 181, 0, 58, 42, 17, 6, 64, 188, 8, 181, 0, 62, 42, 2, 181, 0, 66, 42, 6, 188, 10]
abbrev dktX0_init_4 : List UInt8 := dkwX0_init_4 ++ dktX0_init_5
def dkwX0_init_3 : List UInt8 := [4, 2, 79, 89, 5, 2, 79, 181, 0, 45, 42, 187, 0, 49, 89, 183, 0, 51, 181, 0, 52, 42, 6]
abbrev dktX0_init_3 : List UInt8 := dkwX0_init_3 ++ dktX0_init_4
def dkwX0_init_2 : List UInt8 := [83, 181, 0, 13, 42, 187, 0, 38, 89, 183, 0, 40, 181, 0, 41, 42, 6, 188, 10, 89, 3, 2, 79, 89]
abbrev dktX0_init_2 : List UInt8 := dkwX0_init_2 ++ dktX0_init_3
def dkwX0_init_1 : List UInt8 := [89, 183, 0, 37, 83, 89, 5, 187, 0, 18, 89, 183, 0, 37, 83, 89, 6, 187, 0, 18, 89, 183, 0, 37]
abbrev dktX0_init_1 : List UInt8 := dkwX0_init_1 ++ dktX0_init_2
def dkwX0_init_0 : List UInt8 := [42, 183, 0, 31, 42, 7, 189, 0, 18, 89, 3, 187, 0, 18, 89, 183, 0, 37, 83, 89, 4, 187, 0, 18]
abbrev dktX0_init_0 : List UInt8 := dkwX0_init_0 ++ dktX0_init_1
theorem dksX0_init_0 : cX0_init.data.toList.drop 0 = dktX0_init_0 := by decide +kernel
theorem dksX0_init_1 : cX0_init.data.toList.drop 24 = dktX0_init_1 := dk_seg dksX0_init_0 24 rfl rfl
theorem dksX0_init_2 : cX0_init.data.toList.drop 48 = dktX0_init_2 := dk_seg dksX0_init_1 24 rfl rfl
theorem dksX0_init_3 : cX0_init.data.toList.drop 72 = dktX0_init_3 := dk_seg dksX0_init_2 24 rfl rfl
theorem dksX0_init_4 : cX0_init.data.toList.drop 95 = dktX0_init_4 := dk_seg dksX0_init_3 23 rfl rfl
theorem dksX0_init_5 : cX0_init.data.toList.drop 119 = dktX0_init_5 := dk_seg dksX0_init_4 24 rfl rfl
theorem dksX0_init_6 : cX0_init.data.toList.drop 143 = dktX0_init_6 := dk_seg dksX0_init_5 24 rfl rfl
theorem dX0_init_0 : decode cX0_init 0 = .ok (.aload_n 0, 1) := dk_42 (dk_at dksX0_init_0 0 rfl rfl)
theorem dX0_init_1 : decode cX0_init 1 = .ok (.invokespecial 31, 3) := dk_183 0 31 (dk_at dksX0_init_0 1 rfl rfl)
theorem dX0_init_4 : decode cX0_init 4 = .ok (.aload_n 0, 1) := dk_42 (dk_at dksX0_init_0 4 rfl rfl)
theorem dX0_init_5 : decode cX0_init 5 = .ok (.iconst 4, 1) := dk_7 (dk_at dksX0_init_0 5 rfl rfl)
theorem dX0_init_6 : decode cX0_init 6 = .ok (.anewarray 18, 3) := dk_189 0 18 (dk_at dksX0_init_0 6 rfl rfl)
theorem dX0_init_9 : decode cX0_init 9 = .ok (.dup, 1) := dk_89 (dk_at dksX0_init_0 9 rfl rfl)
theorem dX0_init_10 : decode cX0_init 10 = .ok (.iconst 0, 1) := dk_3 (dk_at dksX0_init_0 10 rfl rfl)
theorem dX0_init_11 : decode cX0_init 11 = .ok (.new 18, 3) := dk_187 0 18 (dk_at dksX0_init_0 11 rfl rfl)
theorem dX0_init_14 : decode cX0_init 14 = .ok (.dup, 1) := dk_89 (dk_at dksX0_init_0 14 rfl rfl)
theorem dX0_init_15 : decode cX0_init 15 = .ok (.invokespecial 37, 3) := dk_183 0 37 (dk_at dksX0_init_0 15 rfl rfl)
theorem dX0_init_18 : decode cX0_init 18 = .ok (.aastore, 1) := dk_83 (dk_at dksX0_init_0 18 rfl rfl)
theorem dX0_init_19 : decode cX0_init 19 = .ok (.dup, 1) := dk_89 (dk_at dksX0_init_0 19 rfl rfl)
theorem dX0_init_20 : decode cX0_init 20 = .ok (.iconst 1, 1) := dk_4 (dk_at dksX0_init_0 20 rfl rfl)
theorem dX0_init_21 : decode cX0_init 21 = .ok (.new 18, 3) := dk_187 0 18 (dk_at dksX0_init_0 21 rfl rfl)
theorem dX0_init_24 : decode cX0_init 24 = .ok (.dup, 1) := dk_89 (dk_at dksX0_init_1 0 rfl rfl)
theorem dX0_init_25 : decode cX0_init 25 = .ok (.invokespecial 37, 3) := dk_183 0 37 (dk_at dksX0_init_1 1 rfl rfl)
theorem dX0_init_28 : decode cX0_init 28 = .ok (.aastore, 1) := dk_83 (dk_at dksX0_init_1 4 rfl rfl)
theorem dX0_init_29 : decode cX0_init 29 = .ok (.dup, 1) := dk_89 (dk_at dksX0_init_1 5 rfl rfl)
theorem dX0_init_30 : decode cX0_init 30 = .ok (.iconst 2, 1) := dk_5 (dk_at dksX0_init_1 6 rfl rfl)
theorem dX0_init_31 : decode cX0_init 31 = .ok (.new 18, 3) := dk_187 0 18 (dk_at dksX0_init_1 7 rfl rfl)
theorem dX0_init_34 : decode cX0_init 34 = .ok (.dup, 1) := dk_89 (dk_at dksX0_init_1 10 rfl rfl)
theorem dX0_init_35 : decode cX0_init 35 = .ok (.invokespecial 37, 3) := dk_183 0 37 (dk_at dksX0_init_1 11 rfl rfl)
theorem dX0_init_38 : decode cX0_init 38 = .ok (.aastore, 1) := dk_83 (dk_at dksX0_init_1 14 rfl rfl)
theorem dX0_init_39 : decode cX0_init 39 = .ok (.dup, 1) := dk_89 (dk_at dksX0_init_1 15 rfl rfl)
theorem dX0_init_40 : decode cX0_init 40 = .ok (.iconst 3, 1) := dk_6 (dk_at dksX0_init_1 16 rfl rfl)
theorem dX0_init_41 : decode cX0_init 41 = .ok (.new 18, 3) := dk_187 0 18 (dk_at dksX0_init_1 17 rfl rfl)
theorem dX0_init_44 : decode cX0_init 44 = .ok (.dup, 1) := dk_89 (dk_at dksX0_init_1 20 rfl rfl)
theorem dX0_init_45 : decode cX0_init 45 = .ok (.invokespecial 37, 3) := dk_183 0 37 (dk_at dksX0_init_1 21 rfl rfl)
theorem dX0_init_48 : decode cX0_init 48 = .ok (.aastore, 1) := dk_83 (dk_at dksX0_init_2 0 rfl rfl)
theorem dX0_init_49 : decode cX0_init 49 = .ok (.putfield 13, 3) := dk_181 0 13 (dk_at dksX0_init_2 1 rfl rfl)
theorem dX0_init_52 : decode cX0_init 52 = .ok (.aload_n 0, 1) := dk_42 (dk_at dksX0_init_2 4 rfl rfl)
theorem dX0_init_53 : decode cX0_init 53 = .ok (.new 38, 3) := dk_187 0 38 (dk_at dksX0_init_2 5 rfl rfl)
theorem dX0_init_56 : decode cX0_init 56 = .ok (.dup, 1) := dk_89 (dk_at dksX0_init_2 8 rfl rfl)
theorem dX0_init_57 : decode cX0_init 57 = .ok (.invokespecial 40, 3) := dk_183 0 40 (dk_at dksX0_init_2 9 rfl rfl)
theorem dX0_init_60 : decode cX0_init 60 = .ok (.putfield 41, 3) := dk_181 0 41 (dk_at dksX0_init_2 12 rfl rfl)
theorem dX0_init_63 : decode cX0_init 63 = .ok (.aload_n 0, 1) := dk_42 (dk_at dksX0_init_2 15 rfl rfl)
theorem dX0_init_64 : decode cX0_init 64 = .ok (.iconst 3, 1) := dk_6 (dk_at dksX0_init_2 16 rfl rfl)
theorem dX0_init_65 : decode cX0_init 65 = .ok (.newarray .int, 2) := dk_188_10 (dk_at dksX0_init_2 17 rfl rfl)
theorem dX0_init_67 : decode cX0_init 67 = .ok (.dup, 1) := dk_89 (dk_at dksX0_init_2 19 rfl rfl)
theorem dX0_init_68 : decode cX0_init 68 = .ok (.iconst 0, 1) := dk_3 (dk_at dksX0_init_2 20 rfl rfl)
theorem dX0_init_69 : decode cX0_init 69 = .ok (.iconst (-1), 1) := dk_2 (dk_at dksX0_init_2 21 rfl rfl)
theorem dX0_init_70 : decode cX0_init 70 = .ok (.iastore, 1) := dk_79 (dk_at dksX0_init_2 22 rfl rfl)
theorem dX0_init_71 : decode cX0_init 71 = .ok (.dup, 1) := dk_89 (dk_at dksX0_init_2 23 rfl rfl)
theorem dX0_init_72 : decode cX0_init 72 = .ok (.iconst 1, 1) := dk_4 (dk_at dksX0_init_3 0 rfl rfl)
theorem dX0_init_73 : decode cX0_init 73 = .ok (.iconst (-1), 1) := dk_2 (dk_at dksX0_init_3 1 rfl rfl)
theorem dX0_init_74 : decode cX0_init 74 = .ok (.iastore, 1) := dk_79 (dk_at dksX0_init_3 2 rfl rfl)
theorem dX0_init_75 : decode cX0_init 75 = .ok (.dup, 1) := dk_89 (dk_at dksX0_init_3 3 rfl rfl)
theorem dX0_init_76 : decode cX0_init 76 = .ok (.iconst 2, 1) := dk_5 (dk_at dksX0_init_3 4 rfl rfl)
theorem dX0_init_77 : decode cX0_init 77 = .ok (.iconst (-1), 1) := dk_2 (dk_at dksX0_init_3 5 rfl rfl)
theorem dX0_init_78 : decode cX0_init 78 = .ok (.iastore, 1) := dk_79 (dk_at dksX0_init_3 6 rfl rfl)
theorem dX0_init_79 : decode cX0_init 79 = .ok (.putfield 45, 3) := dk_181 0 45 (dk_at dksX0_init_3 7 rfl rfl)
theorem dX0_init_82 : decode cX0_init 82 = .ok (.aload_n 0, 1) := dk_42 (dk_at dksX0_init_3 10 rfl rfl)
theorem dX0_init_83 : decode cX0_init 83 = .ok (.new 49, 3) := dk_187 0 49 (dk_at dksX0_init_3 11 rfl rfl)
theorem dX0_init_86 : decode cX0_init 86 = .ok (.dup, 1) := dk_89 (dk_at dksX0_init_3 14 rfl rfl)
theorem dX0_init_87 : decode cX0_init 87 = .ok (.invokespecial 51, 3) := dk_183 0 51 (dk_at dksX0_init_3 15 rfl rfl)
theorem dX0_init_90 : decode cX0_init 90 = .ok (.putfield 52, 3) := dk_181 0 52 (dk_at dksX0_init_3 18 rfl rfl)
theorem dX0_init_93 : decode cX0_init 93 = .ok (.aload_n 0, 1) := dk_42 (dk_at dksX0_init_3 21 rfl rfl)
theorem dX0_init_94 : decode cX0_init 94 = .ok (.iconst 3, 1) := dk_6 (dk_at dksX0_init_3 22 rfl rfl)
theorem dX0_init_95 : decode cX0_init 95 = .ok (.anewarray 56, 3) := dk_189 0 56 (dk_at dksX0_init_4 0 rfl rfl)
theorem dX0_init_98 : decode cX0_init 98 = .ok (.putfield 58, 3) := dk_181 0 58 (dk_at dksX0_init_4 3 rfl rfl)
theorem dX0_init_101 : decode cX0_init 101 = .ok (.aload_n 0, 1) := dk_42 (dk_at dksX0_init_4 6 rfl rfl)
theorem dX0_init_102 : decode cX0_init 102 = .ok (.sipush 1600, 3) := dk_17 6 64 (dk_at dksX0_init_4 7 rfl rfl)
theorem dX0_init_105 : decode cX0_init 105 = .ok (.newarray .byte, 2) := dk_188_8 (dk_at dksX0_init_4 10 rfl rfl)
theorem dX0_init_107 : decode cX0_init 107 = .ok (.putfield 62, 3) := dk_181 0 62 (dk_at dksX0_init_4 12 rfl rfl)
theorem dX0_init_110 : decode cX0_init 110 = .ok (.aload_n 0, 1) := dk_42 (dk_at dksX0_init_4 15 rfl rfl)
theorem dX0_init_111 : decode cX0_init 111 = .ok (.iconst (-1), 1) := dk_2 (dk_at dksX0_init_4 16 rfl rfl)
theorem dX0_init_112 : decode cX0_init 112 = .ok (.putfield 66, 3) := dk_181 0 66 (dk_at dksX0_init_4 17 rfl rfl)
theorem dX0_init_115 : decode cX0_init 115 = .ok (.aload_n 0, 1) := dk_42 (dk_at dksX0_init_4 20 rfl rfl)
theorem dX0_init_116 : decode cX0_init 116 = .ok (.iconst 3, 1) := dk_6 (dk_at dksX0_init_4 21 rfl rfl)
theorem dX0_init_117 : decode cX0_init 117 = .ok (.newarray .int, 2) := dk_188_10 (dk_at dksX0_init_4 22 rfl rfl)
theorem dX0_init_119 : decode cX0_init 119 = .ok (.putfield 70, 3) := dk_181 0 70 (dk_at dksX0_init_5 0 rfl rfl)
theorem dX0_init_122 : decode cX0_init 122 = .ok (.aload_n 0, 1) := dk_42 (dk_at dksX0_init_5 3 rfl rfl)
theorem dX0_init_123 : decode cX0_init 123 = .ok (.bipush 6, 2) := dk_16 6 (dk_at dksX0_init_5 4 rfl rfl)
theorem dX0_init_125 : decode cX0_init 125 = .ok (.bipush 6, 2) := dk_16 6 (dk_at dksX0_init_5 6 rfl rfl)
theorem dX0_init_127 : decode cX0_init 127 = .ok (.multianewarray 73 2, 4) := by decide +kernel
theorem dX0_init_131 : decode cX0_init 131 = .ok (.putfield 75, 3) := dk_181 0 75 (dk_at dksX0_init_5 12 rfl rfl)
theorem dX0_init_134 : decode cX0_init 134 = .ok (.aload_n 0, 1) := dk_42 (dk_at dksX0_init_5 15 rfl rfl)
theorem dX0_init_135 : decode cX0_init 135 = .ok (.bipush 6, 2) := dk_16 6 (dk_at dksX0_init_5 16 rfl rfl)
theorem dX0_init_137 : decode cX0_init 137 = .ok (.bipush 6, 2) := dk_16 6 (dk_at dksX0_init_5 18 rfl rfl)
theorem dX0_init_139 : decode cX0_init 139 = .ok (.multianewarray 73 2, 4) := by decide +kernel
theorem dX0_init_143 : decode cX0_init 143 = .ok (.putfield 78, 3) := dk_181 0 78 (dk_at dksX0_init_6 0 rfl rfl)
theorem dX0_init_146 : decode cX0_init 146 = .ok (.aload_n 0, 1) := dk_42 (dk_at dksX0_init_6 3 rfl rfl)
theorem dX0_init_147 : decode cX0_init 147 = .ok (.new 81, 3) := dk_187 0 81 (dk_at dksX0_init_6 4 rfl rfl)
theorem dX0_init_150 : decode cX0_init 150 = .ok (.dup, 1) := dk_89 (dk_at dksX0_init_6 7 rfl rfl)
theorem dX0_init_151 : decode cX0_init 151 = .ok (.aload_n 0, 1) := dk_42 (dk_at dksX0_init_6 8 rfl rfl)
theorem dX0_init_152 : decode cX0_init 152 = .ok (.invokespecial 83, 3) := dk_183 0 83 (dk_at dksX0_init_6 9 rfl rfl)
theorem dX0_init_155 : decode cX0_init 155 = .ok (.putfield 86, 3) := dk_181 0 86 (dk_at dksX0_init_6 12 rfl rfl)
theorem dX0_init_158 : decode cX0_init 158 = .ok (.return_, 1) := dk_177 (dk_at dksX0_init_6 15 rfl rfl)
abbrev cX0_feed : ByteArray := prog_1_method_8_code
def yX0_feed : MethodName := ⟨RX0, "feed", "(IIIII)I"⟩
def dkwX0_feed_4 : List UInt8 := [16, 20, 96, 181, 0, 90, 42, 180, 0, 90, 172]
abbrev dktX0_feed_4 : List UInt8 := dkwX0_feed_4 ++ []
def dkwX0_feed_3 : List UInt8 := [16, 24, 16, 8, 21, 7, 7, 112, 104, 100, 122, 145, 84, 132, 7, 1, 167, 255, 215, 42, 89, 180, 0, 90]
abbrev dktX0_feed_3 : List UInt8 := dkwX0_feed_3 ++ dktX0_feed_4
def dkwX0_feed_2 : List UInt8 := [16, 20, 162, 0, 40, 42, 180, 0, 62, 42, 180, 0, 90, 21, 7, 96, 25, 6, 21, 7, 7, 108, 46]
abbrev dktX0_feed_2 : List UInt8 := dkwX0_feed_2 ++ dktX0_feed_3
def dkwX0_feed_1 : List UInt8 := [28, 79, 89, 5, 29, 79, 89, 6, 21, 4, 79, 89, 7, 21, 5, 79, 58, 6, 3, 54, 7, 21, 7]
abbrev dktX0_feed_1 : List UInt8 := dkwX0_feed_1 ++ dktX0_feed_2
def dkwX0_feed_0 : List UInt8 := [42, 180, 0, 90, 16, 20, 96, 17, 6, 64, 164, 0, 5, 2, 172, 8, 188, 10, 89, 3, 27, 79, 89, 4]
abbrev dktX0_feed_0 : List UInt8 := dkwX0_feed_0 ++ dktX0_feed_1
theorem dksX0_feed_0 : cX0_feed.data.toList.drop 0 = dktX0_feed_0 := by decide +kernel
theorem dksX0_feed_1 : cX0_feed.data.toList.drop 24 = dktX0_feed_1 := dk_seg dksX0_feed_0 24 rfl rfl
theorem dksX0_feed_2 : cX0_feed.data.toList.drop 47 = dktX0_feed_2 := dk_seg dksX0_feed_1 23 rfl rfl
theorem dksX0_feed_3 : cX0_feed.data.toList.drop 70 = dktX0_feed_3 := dk_seg dksX0_feed_2 23 rfl rfl
theorem dksX0_feed_4 : cX0_feed.data.toList.drop 94 = dktX0_feed_4 := dk_seg dksX0_feed_3 24 rfl rfl
theorem dX0_feed_0 : decode cX0_feed 0 = .ok (.aload_n 0, 1) := dk_42 (dk_at dksX0_feed_0 0 rfl rfl)
theorem dX0_feed_1 : decode cX0_feed 1 = .ok (.getfield 90, 3) := dk_180 0 90 (dk_at dksX0_feed_0 1 rfl rfl)
theorem dX0_feed_4 : decode cX0_feed 4 = .ok (.bipush 20, 2) := dk_16 20 (dk_at dksX0_feed_0 4 rfl rfl)
theorem dX0_feed_6 : decode cX0_feed 6 = .ok (.iadd, 1) := dk_96 (dk_at dksX0_feed_0 6 rfl rfl)
theorem dX0_feed_7 : decode cX0_feed 7 = .ok (.sipush 1600, 3) := dk_17 6 64 (dk_at dksX0_feed_0 7 rfl rfl)
theorem dX0_feed_10 : decode cX0_feed 10 = .ok (.if_icmp .le 5, 3) := dk_164 0 5 (dk_at dksX0_feed_0 10 rfl rfl)
theorem dX0_feed_13 : decode cX0_feed 13 = .ok (.iconst (-1), 1) := dk_2 (dk_at dksX0_feed_0 13 rfl rfl)
theorem dX0_feed_14 : decode cX0_feed 14 = .ok (.ireturn, 1) := dk_172 (dk_at dksX0_feed_0 14 rfl rfl)
theorem dX0_feed_15 : decode cX0_feed 15 = .ok (.iconst 5, 1) := dk_8 (dk_at dksX0_feed_0 15 rfl rfl)
theorem dX0_feed_16 : decode cX0_feed 16 = .ok (.newarray .int, 2) := dk_188_10 (dk_at dksX0_feed_0 16 rfl rfl)
theorem dX0_feed_18 : decode cX0_feed 18 = .ok (.dup, 1) := dk_89 (dk_at dksX0_feed_0 18 rfl rfl)
theorem dX0_feed_19 : decode cX0_feed 19 = .ok (.iconst 0, 1) := dk_3 (dk_at dksX0_feed_0 19 rfl rfl)
theorem dX0_feed_20 : decode cX0_feed 20 = .ok (.iload_n 1, 1) := dk_27 (dk_at dksX0_feed_0 20 rfl rfl)
theorem dX0_feed_21 : decode cX0_feed 21 = .ok (.iastore, 1) := dk_79 (dk_at dksX0_feed_0 21 rfl rfl)
theorem dX0_feed_22 : decode cX0_feed 22 = .ok (.dup, 1) := dk_89 (dk_at dksX0_feed_0 22 rfl rfl)
theorem dX0_feed_23 : decode cX0_feed 23 = .ok (.iconst 1, 1) := dk_4 (dk_at dksX0_feed_0 23 rfl rfl)
theorem dX0_feed_24 : decode cX0_feed 24 = .ok (.iload_n 2, 1) := dk_28 (dk_at dksX0_feed_1 0 rfl rfl)
theorem dX0_feed_25 : decode cX0_feed 25 = .ok (.iastore, 1) := dk_79 (dk_at dksX0_feed_1 1 rfl rfl)
theorem dX0_feed_26 : decode cX0_feed 26 = .ok (.dup, 1) := dk_89 (dk_at dksX0_feed_1 2 rfl rfl)
theorem dX0_feed_27 : decode cX0_feed 27 = .ok (.iconst 2, 1) := dk_5 (dk_at dksX0_feed_1 3 rfl rfl)
theorem dX0_feed_28 : decode cX0_feed 28 = .ok (.iload_n 3, 1) := dk_29 (dk_at dksX0_feed_1 4 rfl rfl)
theorem dX0_feed_29 : decode cX0_feed 29 = .ok (.iastore, 1) := dk_79 (dk_at dksX0_feed_1 5 rfl rfl)
theorem dX0_feed_30 : decode cX0_feed 30 = .ok (.dup, 1) := dk_89 (dk_at dksX0_feed_1 6 rfl rfl)
theorem dX0_feed_31 : decode cX0_feed 31 = .ok (.iconst 3, 1) := dk_6 (dk_at dksX0_feed_1 7 rfl rfl)
theorem dX0_feed_32 : decode cX0_feed 32 = .ok (.iload 4, 2) := dk_21 4 (dk_at dksX0_feed_1 8 rfl rfl)
theorem dX0_feed_34 : decode cX0_feed 34 = .ok (.iastore, 1) := dk_79 (dk_at dksX0_feed_1 10 rfl rfl)
theorem dX0_feed_35 : decode cX0_feed 35 = .ok (.dup, 1) := dk_89 (dk_at dksX0_feed_1 11 rfl rfl)
theorem dX0_feed_36 : decode cX0_feed 36 = .ok (.iconst 4, 1) := dk_7 (dk_at dksX0_feed_1 12 rfl rfl)
theorem dX0_feed_37 : decode cX0_feed 37 = .ok (.iload 5, 2) := dk_21 5 (dk_at dksX0_feed_1 13 rfl rfl)
theorem dX0_feed_39 : decode cX0_feed 39 = .ok (.iastore, 1) := dk_79 (dk_at dksX0_feed_1 15 rfl rfl)
theorem dX0_feed_40 : decode cX0_feed 40 = .ok (.astore 6, 2) := dk_58 6 (dk_at dksX0_feed_1 16 rfl rfl)
theorem dX0_feed_42 : decode cX0_feed 42 = .ok (.iconst 0, 1) := dk_3 (dk_at dksX0_feed_1 18 rfl rfl)
theorem dX0_feed_43 : decode cX0_feed 43 = .ok (.istore 7, 2) := dk_54 7 (dk_at dksX0_feed_1 19 rfl rfl)
theorem dX0_feed_45 : decode cX0_feed 45 = .ok (.iload 7, 2) := dk_21 7 (dk_at dksX0_feed_1 21 rfl rfl)
theorem dX0_feed_47 : decode cX0_feed 47 = .ok (.bipush 20, 2) := dk_16 20 (dk_at dksX0_feed_2 0 rfl rfl)
theorem dX0_feed_49 : decode cX0_feed 49 = .ok (.if_icmp .ge 40, 3) := dk_162 0 40 (dk_at dksX0_feed_2 2 rfl rfl)
theorem dX0_feed_52 : decode cX0_feed 52 = .ok (.aload_n 0, 1) := dk_42 (dk_at dksX0_feed_2 5 rfl rfl)
theorem dX0_feed_53 : decode cX0_feed 53 = .ok (.getfield 62, 3) := dk_180 0 62 (dk_at dksX0_feed_2 6 rfl rfl)
theorem dX0_feed_56 : decode cX0_feed 56 = .ok (.aload_n 0, 1) := dk_42 (dk_at dksX0_feed_2 9 rfl rfl)
theorem dX0_feed_57 : decode cX0_feed 57 = .ok (.getfield 90, 3) := dk_180 0 90 (dk_at dksX0_feed_2 10 rfl rfl)
theorem dX0_feed_60 : decode cX0_feed 60 = .ok (.iload 7, 2) := dk_21 7 (dk_at dksX0_feed_2 13 rfl rfl)
theorem dX0_feed_62 : decode cX0_feed 62 = .ok (.iadd, 1) := dk_96 (dk_at dksX0_feed_2 15 rfl rfl)
theorem dX0_feed_63 : decode cX0_feed 63 = .ok (.aload 6, 2) := dk_25 6 (dk_at dksX0_feed_2 16 rfl rfl)
theorem dX0_feed_65 : decode cX0_feed 65 = .ok (.iload 7, 2) := dk_21 7 (dk_at dksX0_feed_2 18 rfl rfl)
theorem dX0_feed_67 : decode cX0_feed 67 = .ok (.iconst 4, 1) := dk_7 (dk_at dksX0_feed_2 20 rfl rfl)
theorem dX0_feed_68 : decode cX0_feed 68 = .ok (.idiv, 1) := dk_108 (dk_at dksX0_feed_2 21 rfl rfl)
theorem dX0_feed_69 : decode cX0_feed 69 = .ok (.iaload, 1) := dk_46 (dk_at dksX0_feed_2 22 rfl rfl)
theorem dX0_feed_70 : decode cX0_feed 70 = .ok (.bipush 24, 2) := dk_16 24 (dk_at dksX0_feed_3 0 rfl rfl)
theorem dX0_feed_72 : decode cX0_feed 72 = .ok (.bipush 8, 2) := dk_16 8 (dk_at dksX0_feed_3 2 rfl rfl)
theorem dX0_feed_74 : decode cX0_feed 74 = .ok (.iload 7, 2) := dk_21 7 (dk_at dksX0_feed_3 4 rfl rfl)
theorem dX0_feed_76 : decode cX0_feed 76 = .ok (.iconst 4, 1) := dk_7 (dk_at dksX0_feed_3 6 rfl rfl)
theorem dX0_feed_77 : decode cX0_feed 77 = .ok (.irem, 1) := dk_112 (dk_at dksX0_feed_3 7 rfl rfl)
theorem dX0_feed_78 : decode cX0_feed 78 = .ok (.imul, 1) := dk_104 (dk_at dksX0_feed_3 8 rfl rfl)
theorem dX0_feed_79 : decode cX0_feed 79 = .ok (.isub, 1) := dk_100 (dk_at dksX0_feed_3 9 rfl rfl)
theorem dX0_feed_80 : decode cX0_feed 80 = .ok (.ishr, 1) := dk_122 (dk_at dksX0_feed_3 10 rfl rfl)
theorem dX0_feed_81 : decode cX0_feed 81 = .ok (.i2b, 1) := dk_145 (dk_at dksX0_feed_3 11 rfl rfl)
theorem dX0_feed_82 : decode cX0_feed 82 = .ok (.bastore, 1) := dk_84 (dk_at dksX0_feed_3 12 rfl rfl)
theorem dX0_feed_83 : decode cX0_feed 83 = .ok (.iinc 7 1, 3) := dk_132 7 1 (dk_at dksX0_feed_3 13 rfl rfl)
theorem dX0_feed_86 : decode cX0_feed 86 = .ok (.goto (-41), 3) := dk_167 255 215 (dk_at dksX0_feed_3 16 rfl rfl)
theorem dX0_feed_89 : decode cX0_feed 89 = .ok (.aload_n 0, 1) := dk_42 (dk_at dksX0_feed_3 19 rfl rfl)
theorem dX0_feed_90 : decode cX0_feed 90 = .ok (.dup, 1) := dk_89 (dk_at dksX0_feed_3 20 rfl rfl)
theorem dX0_feed_91 : decode cX0_feed 91 = .ok (.getfield 90, 3) := dk_180 0 90 (dk_at dksX0_feed_3 21 rfl rfl)
theorem dX0_feed_94 : decode cX0_feed 94 = .ok (.bipush 20, 2) := dk_16 20 (dk_at dksX0_feed_4 0 rfl rfl)
theorem dX0_feed_96 : decode cX0_feed 96 = .ok (.iadd, 1) := dk_96 (dk_at dksX0_feed_4 2 rfl rfl)
theorem dX0_feed_97 : decode cX0_feed 97 = .ok (.putfield 90, 3) := dk_181 0 90 (dk_at dksX0_feed_4 3 rfl rfl)
theorem dX0_feed_100 : decode cX0_feed 100 = .ok (.aload_n 0, 1) := dk_42 (dk_at dksX0_feed_4 6 rfl rfl)
theorem dX0_feed_101 : decode cX0_feed 101 = .ok (.getfield 90, 3) := dk_180 0 90 (dk_at dksX0_feed_4 7 rfl rfl)
theorem dX0_feed_104 : decode cX0_feed 104 = .ok (.ireturn, 1) := dk_172 (dk_at dksX0_feed_4 10 rfl rfl)
abbrev cX0_end : ByteArray := prog_1_method_9_code
def yX0_end : MethodName := ⟨RX0, "end", "(I)I"⟩
def dkwX0_end_0 : List UInt8 := [27, 133, 9, 42, 180, 0, 90, 133, 184, 0, 5, 154, 0, 5, 2, 172, 42, 27, 181, 0, 90, 27, 172]
abbrev dktX0_end_0 : List UInt8 := dkwX0_end_0 ++ []
theorem dksX0_end_0 : cX0_end.data.toList.drop 0 = dktX0_end_0 := by decide +kernel
theorem dX0_end_0 : decode cX0_end 0 = .ok (.iload_n 1, 1) := dk_27 (dk_at dksX0_end_0 0 rfl rfl)
theorem dX0_end_1 : decode cX0_end 1 = .ok (.i2l, 1) := dk_133 (dk_at dksX0_end_0 1 rfl rfl)
theorem dX0_end_2 : decode cX0_end 2 = .ok (.lconst 0, 1) := dk_9 (dk_at dksX0_end_0 2 rfl rfl)
theorem dX0_end_3 : decode cX0_end 3 = .ok (.aload_n 0, 1) := dk_42 (dk_at dksX0_end_0 3 rfl rfl)
theorem dX0_end_4 : decode cX0_end 4 = .ok (.getfield 90, 3) := dk_180 0 90 (dk_at dksX0_end_0 4 rfl rfl)
theorem dX0_end_7 : decode cX0_end 7 = .ok (.i2l, 1) := dk_133 (dk_at dksX0_end_0 7 rfl rfl)
theorem dX0_end_8 : decode cX0_end 8 = .ok (.invokestatic 5, 3) := dk_184 0 5 (dk_at dksX0_end_0 8 rfl rfl)
theorem dX0_end_11 : decode cX0_end 11 = .ok (.ifCond .ne 5, 3) := dk_154 0 5 (dk_at dksX0_end_0 11 rfl rfl)
theorem dX0_end_14 : decode cX0_end 14 = .ok (.iconst (-1), 1) := dk_2 (dk_at dksX0_end_0 14 rfl rfl)
theorem dX0_end_15 : decode cX0_end 15 = .ok (.ireturn, 1) := dk_172 (dk_at dksX0_end_0 15 rfl rfl)
theorem dX0_end_16 : decode cX0_end 16 = .ok (.aload_n 0, 1) := dk_42 (dk_at dksX0_end_0 16 rfl rfl)
theorem dX0_end_17 : decode cX0_end 17 = .ok (.iload_n 1, 1) := dk_27 (dk_at dksX0_end_0 17 rfl rfl)
theorem dX0_end_18 : decode cX0_end 18 = .ok (.putfield 90, 3) := dk_181 0 90 (dk_at dksX0_end_0 18 rfl rfl)
theorem dX0_end_21 : decode cX0_end 21 = .ok (.iload_n 1, 1) := dk_27 (dk_at dksX0_end_0 21 rfl rfl)
theorem dX0_end_22 : decode cX0_end 22 = .ok (.ireturn, 1) := dk_172 (dk_at dksX0_end_0 22 rfl rfl)
abbrev cX0_plain : ByteArray := prog_1_method_10_code
def yX0_plain : MethodName := ⟨RX0, "plain", "()I"⟩
def dkwX0_plain_5 : List UInt8 := [45, 191]
abbrev dktX0_plain_5 : List UInt8 := dkwX0_plain_5 ++ []
def dkwX0_plain_4 : List UInt8 := [42, 43, 180, 0, 127, 181, 0, 66, 16, 252, 61, 42, 3, 181, 0, 90, 28, 172, 78, 42, 3, 181, 0, 90]
abbrev dktX0_plain_4 : List UInt8 := dkwX0_plain_4 ++ dktX0_plain_5
def dkwX0_plain_3 : List UInt8 := [42, 180, 0, 41, 180, 0, 119, 61, 42, 3, 181, 0, 90, 28, 172, 76, 42, 43, 180, 0, 124, 181, 0, 116]
abbrev dktX0_plain_3 : List UInt8 := dkwX0_plain_3 ++ dktX0_plain_4
def dkwX0_plain_2 : List UInt8 := [180, 0, 106, 181, 0, 109, 42, 180, 0, 45, 2, 184, 0, 110, 42, 3, 181, 0, 116, 42, 2, 181, 0, 66]
abbrev dktX0_plain_2 : List UInt8 := dkwX0_plain_2 ++ dktX0_plain_3
def dkwX0_plain_1 : List UInt8 := [153, 0, 7, 43, 167, 0, 10, 187, 0, 38, 89, 183, 0, 40, 181, 0, 41, 42, 42, 180, 0, 41]
abbrev dktX0_plain_1 : List UInt8 := dkwX0_plain_1 ++ dktX0_plain_2
def dkwX0_plain_0 : List UInt8 := [187, 0, 93, 89, 42, 180, 0, 62, 42, 180, 0, 90, 183, 0, 95, 182, 0, 98, 76, 42, 43, 182, 0, 102]
abbrev dktX0_plain_0 : List UInt8 := dkwX0_plain_0 ++ dktX0_plain_1
theorem dksX0_plain_0 : cX0_plain.data.toList.drop 0 = dktX0_plain_0 := by decide +kernel
theorem dksX0_plain_1 : cX0_plain.data.toList.drop 24 = dktX0_plain_1 := dk_seg dksX0_plain_0 24 rfl rfl
theorem dksX0_plain_2 : cX0_plain.data.toList.drop 46 = dktX0_plain_2 := dk_seg dksX0_plain_1 22 rfl rfl
theorem dksX0_plain_3 : cX0_plain.data.toList.drop 70 = dktX0_plain_3 := dk_seg dksX0_plain_2 24 rfl rfl
theorem dksX0_plain_4 : cX0_plain.data.toList.drop 94 = dktX0_plain_4 := dk_seg dksX0_plain_3 24 rfl rfl
theorem dksX0_plain_5 : cX0_plain.data.toList.drop 118 = dktX0_plain_5 := dk_seg dksX0_plain_4 24 rfl rfl
theorem dX0_plain_0 : decode cX0_plain 0 = .ok (.new 93, 3) := dk_187 0 93 (dk_at dksX0_plain_0 0 rfl rfl)
theorem dX0_plain_3 : decode cX0_plain 3 = .ok (.dup, 1) := dk_89 (dk_at dksX0_plain_0 3 rfl rfl)
theorem dX0_plain_4 : decode cX0_plain 4 = .ok (.aload_n 0, 1) := dk_42 (dk_at dksX0_plain_0 4 rfl rfl)
theorem dX0_plain_5 : decode cX0_plain 5 = .ok (.getfield 62, 3) := dk_180 0 62 (dk_at dksX0_plain_0 5 rfl rfl)
theorem dX0_plain_8 : decode cX0_plain 8 = .ok (.aload_n 0, 1) := dk_42 (dk_at dksX0_plain_0 8 rfl rfl)
theorem dX0_plain_9 : decode cX0_plain 9 = .ok (.getfield 90, 3) := dk_180 0 90 (dk_at dksX0_plain_0 9 rfl rfl)
theorem dX0_plain_12 : decode cX0_plain 12 = .ok (.invokespecial 95, 3) := dk_183 0 95 (dk_at dksX0_plain_0 12 rfl rfl)
theorem dX0_plain_15 : decode cX0_plain 15 = .ok (.invokevirtual 98, 3) := dk_182 0 98 (dk_at dksX0_plain_0 15 rfl rfl)
theorem dX0_plain_18 : decode cX0_plain 18 = .ok (.astore_n 1, 1) := dk_76 (dk_at dksX0_plain_0 18 rfl rfl)
theorem dX0_plain_19 : decode cX0_plain 19 = .ok (.aload_n 0, 1) := dk_42 (dk_at dksX0_plain_0 19 rfl rfl)
theorem dX0_plain_20 : decode cX0_plain 20 = .ok (.aload_n 1, 1) := dk_43 (dk_at dksX0_plain_0 20 rfl rfl)
theorem dX0_plain_21 : decode cX0_plain 21 = .ok (.invokevirtual 102, 3) := dk_182 0 102 (dk_at dksX0_plain_0 21 rfl rfl)
theorem dX0_plain_24 : decode cX0_plain 24 = .ok (.ifCond .eq 7, 3) := dk_153 0 7 (dk_at dksX0_plain_1 0 rfl rfl)
theorem dX0_plain_27 : decode cX0_plain 27 = .ok (.aload_n 1, 1) := dk_43 (dk_at dksX0_plain_1 3 rfl rfl)
theorem dX0_plain_28 : decode cX0_plain 28 = .ok (.goto 10, 3) := dk_167 0 10 (dk_at dksX0_plain_1 4 rfl rfl)
theorem dX0_plain_31 : decode cX0_plain 31 = .ok (.new 38, 3) := dk_187 0 38 (dk_at dksX0_plain_1 7 rfl rfl)
theorem dX0_plain_34 : decode cX0_plain 34 = .ok (.dup, 1) := dk_89 (dk_at dksX0_plain_1 10 rfl rfl)
theorem dX0_plain_35 : decode cX0_plain 35 = .ok (.invokespecial 40, 3) := dk_183 0 40 (dk_at dksX0_plain_1 11 rfl rfl)
theorem dX0_plain_38 : decode cX0_plain 38 = .ok (.putfield 41, 3) := dk_181 0 41 (dk_at dksX0_plain_1 14 rfl rfl)
theorem dX0_plain_41 : decode cX0_plain 41 = .ok (.aload_n 0, 1) := dk_42 (dk_at dksX0_plain_1 17 rfl rfl)
theorem dX0_plain_42 : decode cX0_plain 42 = .ok (.aload_n 0, 1) := dk_42 (dk_at dksX0_plain_1 18 rfl rfl)
theorem dX0_plain_43 : decode cX0_plain 43 = .ok (.getfield 41, 3) := dk_180 0 41 (dk_at dksX0_plain_1 19 rfl rfl)
theorem dX0_plain_46 : decode cX0_plain 46 = .ok (.getfield 106, 3) := dk_180 0 106 (dk_at dksX0_plain_2 0 rfl rfl)
theorem dX0_plain_49 : decode cX0_plain 49 = .ok (.putfield 109, 3) := dk_181 0 109 (dk_at dksX0_plain_2 3 rfl rfl)
theorem dX0_plain_52 : decode cX0_plain 52 = .ok (.aload_n 0, 1) := dk_42 (dk_at dksX0_plain_2 6 rfl rfl)
theorem dX0_plain_53 : decode cX0_plain 53 = .ok (.getfield 45, 3) := dk_180 0 45 (dk_at dksX0_plain_2 7 rfl rfl)
theorem dX0_plain_56 : decode cX0_plain 56 = .ok (.iconst (-1), 1) := dk_2 (dk_at dksX0_plain_2 10 rfl rfl)
theorem dX0_plain_57 : decode cX0_plain 57 = .ok (.invokestatic 110, 3) := dk_184 0 110 (dk_at dksX0_plain_2 11 rfl rfl)
theorem dX0_plain_60 : decode cX0_plain 60 = .ok (.aload_n 0, 1) := dk_42 (dk_at dksX0_plain_2 14 rfl rfl)
theorem dX0_plain_61 : decode cX0_plain 61 = .ok (.iconst 0, 1) := dk_3 (dk_at dksX0_plain_2 15 rfl rfl)
theorem dX0_plain_62 : decode cX0_plain 62 = .ok (.putfield 116, 3) := dk_181 0 116 (dk_at dksX0_plain_2 16 rfl rfl)
theorem dX0_plain_65 : decode cX0_plain 65 = .ok (.aload_n 0, 1) := dk_42 (dk_at dksX0_plain_2 19 rfl rfl)
theorem dX0_plain_66 : decode cX0_plain 66 = .ok (.iconst (-1), 1) := dk_2 (dk_at dksX0_plain_2 20 rfl rfl)
theorem dX0_plain_67 : decode cX0_plain 67 = .ok (.putfield 66, 3) := dk_181 0 66 (dk_at dksX0_plain_2 21 rfl rfl)
theorem dX0_plain_70 : decode cX0_plain 70 = .ok (.aload_n 0, 1) := dk_42 (dk_at dksX0_plain_3 0 rfl rfl)
theorem dX0_plain_71 : decode cX0_plain 71 = .ok (.getfield 41, 3) := dk_180 0 41 (dk_at dksX0_plain_3 1 rfl rfl)
theorem dX0_plain_74 : decode cX0_plain 74 = .ok (.getfield 119, 3) := dk_180 0 119 (dk_at dksX0_plain_3 4 rfl rfl)
theorem dX0_plain_77 : decode cX0_plain 77 = .ok (.istore_n 2, 1) := dk_61 (dk_at dksX0_plain_3 7 rfl rfl)
theorem dX0_plain_78 : decode cX0_plain 78 = .ok (.aload_n 0, 1) := dk_42 (dk_at dksX0_plain_3 8 rfl rfl)
theorem dX0_plain_79 : decode cX0_plain 79 = .ok (.iconst 0, 1) := dk_3 (dk_at dksX0_plain_3 9 rfl rfl)
theorem dX0_plain_80 : decode cX0_plain 80 = .ok (.putfield 90, 3) := dk_181 0 90 (dk_at dksX0_plain_3 10 rfl rfl)
theorem dX0_plain_83 : decode cX0_plain 83 = .ok (.iload_n 2, 1) := dk_28 (dk_at dksX0_plain_3 13 rfl rfl)
theorem dX0_plain_84 : decode cX0_plain 84 = .ok (.ireturn, 1) := dk_172 (dk_at dksX0_plain_3 14 rfl rfl)
theorem dX0_plain_85 : decode cX0_plain 85 = .ok (.astore_n 1, 1) := dk_76 (dk_at dksX0_plain_3 15 rfl rfl)
theorem dX0_plain_86 : decode cX0_plain 86 = .ok (.aload_n 0, 1) := dk_42 (dk_at dksX0_plain_3 16 rfl rfl)
theorem dX0_plain_87 : decode cX0_plain 87 = .ok (.aload_n 1, 1) := dk_43 (dk_at dksX0_plain_3 17 rfl rfl)
theorem dX0_plain_88 : decode cX0_plain 88 = .ok (.getfield 124, 3) := dk_180 0 124 (dk_at dksX0_plain_3 18 rfl rfl)
theorem dX0_plain_91 : decode cX0_plain 91 = .ok (.putfield 116, 3) := dk_181 0 116 (dk_at dksX0_plain_3 21 rfl rfl)
theorem dX0_plain_94 : decode cX0_plain 94 = .ok (.aload_n 0, 1) := dk_42 (dk_at dksX0_plain_4 0 rfl rfl)
theorem dX0_plain_95 : decode cX0_plain 95 = .ok (.aload_n 1, 1) := dk_43 (dk_at dksX0_plain_4 1 rfl rfl)
theorem dX0_plain_96 : decode cX0_plain 96 = .ok (.getfield 127, 3) := dk_180 0 127 (dk_at dksX0_plain_4 2 rfl rfl)
theorem dX0_plain_99 : decode cX0_plain 99 = .ok (.putfield 66, 3) := dk_181 0 66 (dk_at dksX0_plain_4 5 rfl rfl)
theorem dX0_plain_102 : decode cX0_plain 102 = .ok (.bipush (-4), 2) := dk_16 252 (dk_at dksX0_plain_4 8 rfl rfl)
theorem dX0_plain_104 : decode cX0_plain 104 = .ok (.istore_n 2, 1) := dk_61 (dk_at dksX0_plain_4 10 rfl rfl)
theorem dX0_plain_105 : decode cX0_plain 105 = .ok (.aload_n 0, 1) := dk_42 (dk_at dksX0_plain_4 11 rfl rfl)
theorem dX0_plain_106 : decode cX0_plain 106 = .ok (.iconst 0, 1) := dk_3 (dk_at dksX0_plain_4 12 rfl rfl)
theorem dX0_plain_107 : decode cX0_plain 107 = .ok (.putfield 90, 3) := dk_181 0 90 (dk_at dksX0_plain_4 13 rfl rfl)
theorem dX0_plain_110 : decode cX0_plain 110 = .ok (.iload_n 2, 1) := dk_28 (dk_at dksX0_plain_4 16 rfl rfl)
theorem dX0_plain_111 : decode cX0_plain 111 = .ok (.ireturn, 1) := dk_172 (dk_at dksX0_plain_4 17 rfl rfl)
theorem dX0_plain_112 : decode cX0_plain 112 = .ok (.astore_n 3, 1) := dk_78 (dk_at dksX0_plain_4 18 rfl rfl)
theorem dX0_plain_113 : decode cX0_plain 113 = .ok (.aload_n 0, 1) := dk_42 (dk_at dksX0_plain_4 19 rfl rfl)
theorem dX0_plain_114 : decode cX0_plain 114 = .ok (.iconst 0, 1) := dk_3 (dk_at dksX0_plain_4 20 rfl rfl)
theorem dX0_plain_115 : decode cX0_plain 115 = .ok (.putfield 90, 3) := dk_181 0 90 (dk_at dksX0_plain_4 21 rfl rfl)
theorem dX0_plain_118 : decode cX0_plain 118 = .ok (.aload_n 3, 1) := dk_45 (dk_at dksX0_plain_5 0 rfl rfl)
theorem dX0_plain_119 : decode cX0_plain 119 = .ok (.athrow, 1) := dk_191 (dk_at dksX0_plain_5 1 rfl rfl)
abbrev cX0_fault : ByteArray := prog_1_method_11_code
def yX0_fault : MethodName := ⟨RX0, "fault", "(I)I"⟩
def dkwX0_fault_1 : List UInt8 := [172]
abbrev dktX0_fault_1 : List UInt8 := dkwX0_fault_1 ++ []
def dkwX0_fault_0 : List UInt8 := [27, 154, 0, 10, 42, 180, 0, 116, 167, 0, 16, 27, 4, 160, 0, 10, 42, 180, 0, 66, 167, 0, 4, 2]
abbrev dktX0_fault_0 : List UInt8 := dkwX0_fault_0 ++ dktX0_fault_1
theorem dksX0_fault_0 : cX0_fault.data.toList.drop 0 = dktX0_fault_0 := by decide +kernel
theorem dksX0_fault_1 : cX0_fault.data.toList.drop 24 = dktX0_fault_1 := dk_seg dksX0_fault_0 24 rfl rfl
theorem dX0_fault_0 : decode cX0_fault 0 = .ok (.iload_n 1, 1) := dk_27 (dk_at dksX0_fault_0 0 rfl rfl)
theorem dX0_fault_1 : decode cX0_fault 1 = .ok (.ifCond .ne 10, 3) := dk_154 0 10 (dk_at dksX0_fault_0 1 rfl rfl)
theorem dX0_fault_4 : decode cX0_fault 4 = .ok (.aload_n 0, 1) := dk_42 (dk_at dksX0_fault_0 4 rfl rfl)
theorem dX0_fault_5 : decode cX0_fault 5 = .ok (.getfield 116, 3) := dk_180 0 116 (dk_at dksX0_fault_0 5 rfl rfl)
theorem dX0_fault_8 : decode cX0_fault 8 = .ok (.goto 16, 3) := dk_167 0 16 (dk_at dksX0_fault_0 8 rfl rfl)
theorem dX0_fault_11 : decode cX0_fault 11 = .ok (.iload_n 1, 1) := dk_27 (dk_at dksX0_fault_0 11 rfl rfl)
theorem dX0_fault_12 : decode cX0_fault 12 = .ok (.iconst 1, 1) := dk_4 (dk_at dksX0_fault_0 12 rfl rfl)
theorem dX0_fault_13 : decode cX0_fault 13 = .ok (.if_icmp .ne 10, 3) := dk_160 0 10 (dk_at dksX0_fault_0 13 rfl rfl)
theorem dX0_fault_16 : decode cX0_fault 16 = .ok (.aload_n 0, 1) := dk_42 (dk_at dksX0_fault_0 16 rfl rfl)
theorem dX0_fault_17 : decode cX0_fault 17 = .ok (.getfield 66, 3) := dk_180 0 66 (dk_at dksX0_fault_0 17 rfl rfl)
theorem dX0_fault_20 : decode cX0_fault 20 = .ok (.goto 4, 3) := dk_167 0 4 (dk_at dksX0_fault_0 20 rfl rfl)
theorem dX0_fault_23 : decode cX0_fault 23 = .ok (.iconst (-1), 1) := dk_2 (dk_at dksX0_fault_0 23 rfl rfl)
theorem dX0_fault_24 : decode cX0_fault 24 = .ok (.ireturn, 1) := dk_172 (dk_at dksX0_fault_1 0 rfl rfl)
abbrev cX0_village : ByteArray := prog_1_method_18_code
def yX0_village : MethodName := ⟨RX0, "village", "(II)I"⟩
def dkwX0_village_3 : List UInt8 := [180, 0, 173, 167, 0, 19, 28, 6, 160, 0, 10, 45, 180, 0, 176, 167, 0, 7, 45, 180, 0, 179, 172]
abbrev dktX0_village_3 : List UInt8 := dkwX0_village_3 ++ []
def dkwX0_village_2 : List UInt8 := [180, 0, 167, 167, 0, 43, 28, 4, 160, 0, 10, 45, 180, 0, 170, 167, 0, 31, 28, 5, 160, 0, 10, 45]
abbrev dktX0_village_2 : List UInt8 := dkwX0_village_2 ++ dktX0_village_3
def dkwX0_village_1 : List UInt8 := [42, 180, 0, 41, 180, 0, 130, 27, 185, 0, 161, 2, 0, 192, 0, 165, 78, 28, 154, 0, 10, 45]
abbrev dktX0_village_1 : List UInt8 := dkwX0_village_1 ++ dktX0_village_2
def dkwX0_village_0 : List UInt8 := [42, 27, 133, 182, 0, 142, 153, 0, 15, 28, 133, 9, 20, 0, 159, 184, 0, 5, 154, 0, 6, 16, 254, 172]
abbrev dktX0_village_0 : List UInt8 := dkwX0_village_0 ++ dktX0_village_1
theorem dksX0_village_0 : cX0_village.data.toList.drop 0 = dktX0_village_0 := by decide +kernel
theorem dksX0_village_1 : cX0_village.data.toList.drop 24 = dktX0_village_1 := dk_seg dksX0_village_0 24 rfl rfl
theorem dksX0_village_2 : cX0_village.data.toList.drop 46 = dktX0_village_2 := dk_seg dksX0_village_1 22 rfl rfl
theorem dksX0_village_3 : cX0_village.data.toList.drop 70 = dktX0_village_3 := dk_seg dksX0_village_2 24 rfl rfl
theorem dX0_village_0 : decode cX0_village 0 = .ok (.aload_n 0, 1) := dk_42 (dk_at dksX0_village_0 0 rfl rfl)
theorem dX0_village_1 : decode cX0_village 1 = .ok (.iload_n 1, 1) := dk_27 (dk_at dksX0_village_0 1 rfl rfl)
theorem dX0_village_2 : decode cX0_village 2 = .ok (.i2l, 1) := dk_133 (dk_at dksX0_village_0 2 rfl rfl)
theorem dX0_village_3 : decode cX0_village 3 = .ok (.invokevirtual 142, 3) := dk_182 0 142 (dk_at dksX0_village_0 3 rfl rfl)
theorem dX0_village_6 : decode cX0_village 6 = .ok (.ifCond .eq 15, 3) := dk_153 0 15 (dk_at dksX0_village_0 6 rfl rfl)
theorem dX0_village_9 : decode cX0_village 9 = .ok (.iload_n 2, 1) := dk_28 (dk_at dksX0_village_0 9 rfl rfl)
theorem dX0_village_10 : decode cX0_village 10 = .ok (.i2l, 1) := dk_133 (dk_at dksX0_village_0 10 rfl rfl)
theorem dX0_village_11 : decode cX0_village 11 = .ok (.lconst 0, 1) := dk_9 (dk_at dksX0_village_0 11 rfl rfl)
theorem dX0_village_12 : decode cX0_village 12 = .ok (.ldc2_w 159, 3) := dk_20 0 159 (dk_at dksX0_village_0 12 rfl rfl)
theorem dX0_village_15 : decode cX0_village 15 = .ok (.invokestatic 5, 3) := dk_184 0 5 (dk_at dksX0_village_0 15 rfl rfl)
theorem dX0_village_18 : decode cX0_village 18 = .ok (.ifCond .ne 6, 3) := dk_154 0 6 (dk_at dksX0_village_0 18 rfl rfl)
theorem dX0_village_21 : decode cX0_village 21 = .ok (.bipush (-2), 2) := dk_16 254 (dk_at dksX0_village_0 21 rfl rfl)
theorem dX0_village_23 : decode cX0_village 23 = .ok (.ireturn, 1) := dk_172 (dk_at dksX0_village_0 23 rfl rfl)
theorem dX0_village_24 : decode cX0_village 24 = .ok (.aload_n 0, 1) := dk_42 (dk_at dksX0_village_1 0 rfl rfl)
theorem dX0_village_25 : decode cX0_village 25 = .ok (.getfield 41, 3) := dk_180 0 41 (dk_at dksX0_village_1 1 rfl rfl)
theorem dX0_village_28 : decode cX0_village 28 = .ok (.getfield 130, 3) := dk_180 0 130 (dk_at dksX0_village_1 4 rfl rfl)
theorem dX0_village_31 : decode cX0_village 31 = .ok (.iload_n 1, 1) := dk_27 (dk_at dksX0_village_1 7 rfl rfl)
theorem dX0_village_32 : decode cX0_village 32 = .ok (.invokeinterface 161 2, 5) := by decide +kernel
theorem dX0_village_37 : decode cX0_village 37 = .ok (.checkcast 165, 3) := dk_192 0 165 (dk_at dksX0_village_1 13 rfl rfl)
theorem dX0_village_40 : decode cX0_village 40 = .ok (.astore_n 3, 1) := dk_78 (dk_at dksX0_village_1 16 rfl rfl)
theorem dX0_village_41 : decode cX0_village 41 = .ok (.iload_n 2, 1) := dk_28 (dk_at dksX0_village_1 17 rfl rfl)
theorem dX0_village_42 : decode cX0_village 42 = .ok (.ifCond .ne 10, 3) := dk_154 0 10 (dk_at dksX0_village_1 18 rfl rfl)
theorem dX0_village_45 : decode cX0_village 45 = .ok (.aload_n 3, 1) := dk_45 (dk_at dksX0_village_1 21 rfl rfl)
theorem dX0_village_46 : decode cX0_village 46 = .ok (.getfield 167, 3) := dk_180 0 167 (dk_at dksX0_village_2 0 rfl rfl)
theorem dX0_village_49 : decode cX0_village 49 = .ok (.goto 43, 3) := dk_167 0 43 (dk_at dksX0_village_2 3 rfl rfl)
theorem dX0_village_52 : decode cX0_village 52 = .ok (.iload_n 2, 1) := dk_28 (dk_at dksX0_village_2 6 rfl rfl)
theorem dX0_village_53 : decode cX0_village 53 = .ok (.iconst 1, 1) := dk_4 (dk_at dksX0_village_2 7 rfl rfl)
theorem dX0_village_54 : decode cX0_village 54 = .ok (.if_icmp .ne 10, 3) := dk_160 0 10 (dk_at dksX0_village_2 8 rfl rfl)
theorem dX0_village_57 : decode cX0_village 57 = .ok (.aload_n 3, 1) := dk_45 (dk_at dksX0_village_2 11 rfl rfl)
theorem dX0_village_58 : decode cX0_village 58 = .ok (.getfield 170, 3) := dk_180 0 170 (dk_at dksX0_village_2 12 rfl rfl)
theorem dX0_village_61 : decode cX0_village 61 = .ok (.goto 31, 3) := dk_167 0 31 (dk_at dksX0_village_2 15 rfl rfl)
theorem dX0_village_64 : decode cX0_village 64 = .ok (.iload_n 2, 1) := dk_28 (dk_at dksX0_village_2 18 rfl rfl)
theorem dX0_village_65 : decode cX0_village 65 = .ok (.iconst 2, 1) := dk_5 (dk_at dksX0_village_2 19 rfl rfl)
theorem dX0_village_66 : decode cX0_village 66 = .ok (.if_icmp .ne 10, 3) := dk_160 0 10 (dk_at dksX0_village_2 20 rfl rfl)
theorem dX0_village_69 : decode cX0_village 69 = .ok (.aload_n 3, 1) := dk_45 (dk_at dksX0_village_2 23 rfl rfl)
theorem dX0_village_70 : decode cX0_village 70 = .ok (.getfield 173, 3) := dk_180 0 173 (dk_at dksX0_village_3 0 rfl rfl)
theorem dX0_village_73 : decode cX0_village 73 = .ok (.goto 19, 3) := dk_167 0 19 (dk_at dksX0_village_3 3 rfl rfl)
theorem dX0_village_76 : decode cX0_village 76 = .ok (.iload_n 2, 1) := dk_28 (dk_at dksX0_village_3 6 rfl rfl)
theorem dX0_village_77 : decode cX0_village 77 = .ok (.iconst 3, 1) := dk_6 (dk_at dksX0_village_3 7 rfl rfl)
theorem dX0_village_78 : decode cX0_village 78 = .ok (.if_icmp .ne 10, 3) := dk_160 0 10 (dk_at dksX0_village_3 8 rfl rfl)
theorem dX0_village_81 : decode cX0_village 81 = .ok (.aload_n 3, 1) := dk_45 (dk_at dksX0_village_3 11 rfl rfl)
theorem dX0_village_82 : decode cX0_village 82 = .ok (.getfield 176, 3) := dk_180 0 176 (dk_at dksX0_village_3 12 rfl rfl)
theorem dX0_village_85 : decode cX0_village 85 = .ok (.goto 7, 3) := dk_167 0 7 (dk_at dksX0_village_3 15 rfl rfl)
theorem dX0_village_88 : decode cX0_village 88 = .ok (.aload_n 3, 1) := dk_45 (dk_at dksX0_village_3 18 rfl rfl)
theorem dX0_village_89 : decode cX0_village 89 = .ok (.getfield 179, 3) := dk_180 0 179 (dk_at dksX0_village_3 19 rfl rfl)
theorem dX0_village_92 : decode cX0_village 92 = .ok (.ireturn, 1) := dk_172 (dk_at dksX0_village_3 22 rfl rfl)
abbrev cX0_isVillage : ByteArray := prog_1_method_13_code
def yX0_isVillage : MethodName := ⟨RX0, "isVillage", "(J)Z"⟩
def dkwX0_isVillage_0 : List UInt8 := [31, 9, 42, 182, 0, 140, 4, 100, 133, 184, 0, 5, 172]
abbrev dktX0_isVillage_0 : List UInt8 := dkwX0_isVillage_0 ++ []
theorem dksX0_isVillage_0 : cX0_isVillage.data.toList.drop 0 = dktX0_isVillage_0 := by decide +kernel
theorem dX0_isVillage_0 : decode cX0_isVillage 0 = .ok (.lload_n 1, 1) := dk_31 (dk_at dksX0_isVillage_0 0 rfl rfl)
theorem dX0_isVillage_1 : decode cX0_isVillage 1 = .ok (.lconst 0, 1) := dk_9 (dk_at dksX0_isVillage_0 1 rfl rfl)
theorem dX0_isVillage_2 : decode cX0_isVillage 2 = .ok (.aload_n 0, 1) := dk_42 (dk_at dksX0_isVillage_0 2 rfl rfl)
theorem dX0_isVillage_3 : decode cX0_isVillage 3 = .ok (.invokevirtual 140, 3) := dk_182 0 140 (dk_at dksX0_isVillage_0 3 rfl rfl)
theorem dX0_isVillage_6 : decode cX0_isVillage 6 = .ok (.iconst 1, 1) := dk_4 (dk_at dksX0_isVillage_0 6 rfl rfl)
theorem dX0_isVillage_7 : decode cX0_isVillage 7 = .ok (.isub, 1) := dk_100 (dk_at dksX0_isVillage_0 7 rfl rfl)
theorem dX0_isVillage_8 : decode cX0_isVillage 8 = .ok (.i2l, 1) := dk_133 (dk_at dksX0_isVillage_0 8 rfl rfl)
theorem dX0_isVillage_9 : decode cX0_isVillage 9 = .ok (.invokestatic 5, 3) := dk_184 0 5 (dk_at dksX0_isVillage_0 9 rfl rfl)
theorem dX0_isVillage_12 : decode cX0_isVillage 12 = .ok (.ireturn, 1) := dk_172 (dk_at dksX0_isVillage_0 12 rfl rfl)
abbrev cX0_villages : ByteArray := prog_1_method_12_code
def yX0_villages : MethodName := ⟨RX0, "villages", "()I"⟩
def dkwX0_villages_0 : List UInt8 := [42, 180, 0, 41, 180, 0, 130, 185, 0, 134, 1, 0, 172]
abbrev dktX0_villages_0 : List UInt8 := dkwX0_villages_0 ++ []
theorem dksX0_villages_0 : cX0_villages.data.toList.drop 0 = dktX0_villages_0 := by decide +kernel
theorem dX0_villages_0 : decode cX0_villages 0 = .ok (.aload_n 0, 1) := dk_42 (dk_at dksX0_villages_0 0 rfl rfl)
theorem dX0_villages_1 : decode cX0_villages 1 = .ok (.getfield 41, 3) := dk_180 0 41 (dk_at dksX0_villages_0 1 rfl rfl)
theorem dX0_villages_4 : decode cX0_villages 4 = .ok (.getfield 130, 3) := dk_180 0 130 (dk_at dksX0_villages_0 4 rfl rfl)
theorem dX0_villages_7 : decode cX0_villages 7 = .ok (.invokeinterface 134 1, 5) := by decide +kernel
theorem dX0_villages_12 : decode cX0_villages 12 = .ok (.ireturn, 1) := dk_172 (dk_at dksX0_villages_0 12 rfl rfl)
abbrev cX0_takes : ByteArray := prog_1_method_19_code
def yX0_takes : MethodName := ⟨RX0, "takes", "(II)I"⟩
def dkwX0_takes_1 : List UInt8 := [172, 42, 180, 0, 45, 27, 46, 62, 42, 180, 0, 45, 27, 28, 79, 29, 172]
abbrev dktX0_takes_1 : List UInt8 := dkwX0_takes_1 ++ []
def dkwX0_takes_0 : List UInt8 := [42, 27, 182, 0, 182, 153, 0, 17, 28, 2, 159, 0, 15, 42, 28, 133, 182, 0, 142, 154, 0, 6, 16, 254]
abbrev dktX0_takes_0 : List UInt8 := dkwX0_takes_0 ++ dktX0_takes_1
theorem dksX0_takes_0 : cX0_takes.data.toList.drop 0 = dktX0_takes_0 := by decide +kernel
theorem dksX0_takes_1 : cX0_takes.data.toList.drop 24 = dktX0_takes_1 := dk_seg dksX0_takes_0 24 rfl rfl
theorem dX0_takes_0 : decode cX0_takes 0 = .ok (.aload_n 0, 1) := dk_42 (dk_at dksX0_takes_0 0 rfl rfl)
theorem dX0_takes_1 : decode cX0_takes 1 = .ok (.iload_n 1, 1) := dk_27 (dk_at dksX0_takes_0 1 rfl rfl)
theorem dX0_takes_2 : decode cX0_takes 2 = .ok (.invokevirtual 182, 3) := dk_182 0 182 (dk_at dksX0_takes_0 2 rfl rfl)
theorem dX0_takes_5 : decode cX0_takes 5 = .ok (.ifCond .eq 17, 3) := dk_153 0 17 (dk_at dksX0_takes_0 5 rfl rfl)
theorem dX0_takes_8 : decode cX0_takes 8 = .ok (.iload_n 2, 1) := dk_28 (dk_at dksX0_takes_0 8 rfl rfl)
theorem dX0_takes_9 : decode cX0_takes 9 = .ok (.iconst (-1), 1) := dk_2 (dk_at dksX0_takes_0 9 rfl rfl)
theorem dX0_takes_10 : decode cX0_takes 10 = .ok (.if_icmp .eq 15, 3) := dk_159 0 15 (dk_at dksX0_takes_0 10 rfl rfl)
theorem dX0_takes_13 : decode cX0_takes 13 = .ok (.aload_n 0, 1) := dk_42 (dk_at dksX0_takes_0 13 rfl rfl)
theorem dX0_takes_14 : decode cX0_takes 14 = .ok (.iload_n 2, 1) := dk_28 (dk_at dksX0_takes_0 14 rfl rfl)
theorem dX0_takes_15 : decode cX0_takes 15 = .ok (.i2l, 1) := dk_133 (dk_at dksX0_takes_0 15 rfl rfl)
theorem dX0_takes_16 : decode cX0_takes 16 = .ok (.invokevirtual 142, 3) := dk_182 0 142 (dk_at dksX0_takes_0 16 rfl rfl)
theorem dX0_takes_19 : decode cX0_takes 19 = .ok (.ifCond .ne 6, 3) := dk_154 0 6 (dk_at dksX0_takes_0 19 rfl rfl)
theorem dX0_takes_22 : decode cX0_takes 22 = .ok (.bipush (-2), 2) := dk_16 254 (dk_at dksX0_takes_0 22 rfl rfl)
theorem dX0_takes_24 : decode cX0_takes 24 = .ok (.ireturn, 1) := dk_172 (dk_at dksX0_takes_1 0 rfl rfl)
theorem dX0_takes_25 : decode cX0_takes 25 = .ok (.aload_n 0, 1) := dk_42 (dk_at dksX0_takes_1 1 rfl rfl)
theorem dX0_takes_26 : decode cX0_takes 26 = .ok (.getfield 45, 3) := dk_180 0 45 (dk_at dksX0_takes_1 2 rfl rfl)
theorem dX0_takes_29 : decode cX0_takes 29 = .ok (.iload_n 1, 1) := dk_27 (dk_at dksX0_takes_1 5 rfl rfl)
theorem dX0_takes_30 : decode cX0_takes 30 = .ok (.iaload, 1) := dk_46 (dk_at dksX0_takes_1 6 rfl rfl)
theorem dX0_takes_31 : decode cX0_takes 31 = .ok (.istore_n 3, 1) := dk_62 (dk_at dksX0_takes_1 7 rfl rfl)
theorem dX0_takes_32 : decode cX0_takes 32 = .ok (.aload_n 0, 1) := dk_42 (dk_at dksX0_takes_1 8 rfl rfl)
theorem dX0_takes_33 : decode cX0_takes 33 = .ok (.getfield 45, 3) := dk_180 0 45 (dk_at dksX0_takes_1 9 rfl rfl)
theorem dX0_takes_36 : decode cX0_takes 36 = .ok (.iload_n 1, 1) := dk_27 (dk_at dksX0_takes_1 12 rfl rfl)
theorem dX0_takes_37 : decode cX0_takes 37 = .ok (.iload_n 2, 1) := dk_28 (dk_at dksX0_takes_1 13 rfl rfl)
theorem dX0_takes_38 : decode cX0_takes 38 = .ok (.iastore, 1) := dk_79 (dk_at dksX0_takes_1 14 rfl rfl)
theorem dX0_takes_39 : decode cX0_takes 39 = .ok (.iload_n 3, 1) := dk_29 (dk_at dksX0_takes_1 15 rfl rfl)
theorem dX0_takes_40 : decode cX0_takes 40 = .ok (.ireturn, 1) := dk_172 (dk_at dksX0_takes_1 16 rfl rfl)
abbrev cX0_isFlood : ByteArray := prog_1_method_16_code
def yX0_isFlood : MethodName := ⟨RX0, "isFlood", "(I)Z"⟩
def dkwX0_isFlood_0 : List UInt8 := [27, 133, 9, 42, 180, 0, 41, 180, 0, 149, 185, 0, 134, 1, 0, 4, 100, 133, 184, 0, 5, 172]
abbrev dktX0_isFlood_0 : List UInt8 := dkwX0_isFlood_0 ++ []
theorem dksX0_isFlood_0 : cX0_isFlood.data.toList.drop 0 = dktX0_isFlood_0 := by decide +kernel
theorem dX0_isFlood_0 : decode cX0_isFlood 0 = .ok (.iload_n 1, 1) := dk_27 (dk_at dksX0_isFlood_0 0 rfl rfl)
theorem dX0_isFlood_1 : decode cX0_isFlood 1 = .ok (.i2l, 1) := dk_133 (dk_at dksX0_isFlood_0 1 rfl rfl)
theorem dX0_isFlood_2 : decode cX0_isFlood 2 = .ok (.lconst 0, 1) := dk_9 (dk_at dksX0_isFlood_0 2 rfl rfl)
theorem dX0_isFlood_3 : decode cX0_isFlood 3 = .ok (.aload_n 0, 1) := dk_42 (dk_at dksX0_isFlood_0 3 rfl rfl)
theorem dX0_isFlood_4 : decode cX0_isFlood 4 = .ok (.getfield 41, 3) := dk_180 0 41 (dk_at dksX0_isFlood_0 4 rfl rfl)
theorem dX0_isFlood_7 : decode cX0_isFlood 7 = .ok (.getfield 149, 3) := dk_180 0 149 (dk_at dksX0_isFlood_0 7 rfl rfl)
theorem dX0_isFlood_10 : decode cX0_isFlood 10 = .ok (.invokeinterface 134 1, 5) := by decide +kernel
theorem dX0_isFlood_15 : decode cX0_isFlood 15 = .ok (.iconst 1, 1) := dk_4 (dk_at dksX0_isFlood_0 15 rfl rfl)
theorem dX0_isFlood_16 : decode cX0_isFlood 16 = .ok (.isub, 1) := dk_100 (dk_at dksX0_isFlood_0 16 rfl rfl)
theorem dX0_isFlood_17 : decode cX0_isFlood 17 = .ok (.i2l, 1) := dk_133 (dk_at dksX0_isFlood_0 17 rfl rfl)
theorem dX0_isFlood_18 : decode cX0_isFlood 18 = .ok (.invokestatic 5, 3) := dk_184 0 5 (dk_at dksX0_isFlood_0 18 rfl rfl)
theorem dX0_isFlood_21 : decode cX0_isFlood 21 = .ok (.ireturn, 1) := dk_172 (dk_at dksX0_isFlood_0 21 rfl rfl)
abbrev cX0_water : ByteArray := prog_1_method_20_code
def yX0_water : MethodName := ⟨RX0, "water", "(II)I"⟩
def dkwX0_water_1 : List UInt8 := [180, 0, 191, 27, 50, 28, 46, 167, 0, 5, 16, 254, 172]
abbrev dktX0_water_1 : List UInt8 := dkwX0_water_1 ++ []
def dkwX0_water_0 : List UInt8 := [42, 27, 133, 182, 0, 142, 153, 0, 26, 42, 28, 133, 182, 0, 185, 153, 0, 17, 42, 182, 0, 188]
abbrev dktX0_water_0 : List UInt8 := dkwX0_water_0 ++ dktX0_water_1
theorem dksX0_water_0 : cX0_water.data.toList.drop 0 = dktX0_water_0 := by decide +kernel
theorem dksX0_water_1 : cX0_water.data.toList.drop 22 = dktX0_water_1 := dk_seg dksX0_water_0 22 rfl rfl
theorem dX0_water_0 : decode cX0_water 0 = .ok (.aload_n 0, 1) := dk_42 (dk_at dksX0_water_0 0 rfl rfl)
theorem dX0_water_1 : decode cX0_water 1 = .ok (.iload_n 1, 1) := dk_27 (dk_at dksX0_water_0 1 rfl rfl)
theorem dX0_water_2 : decode cX0_water 2 = .ok (.i2l, 1) := dk_133 (dk_at dksX0_water_0 2 rfl rfl)
theorem dX0_water_3 : decode cX0_water 3 = .ok (.invokevirtual 142, 3) := dk_182 0 142 (dk_at dksX0_water_0 3 rfl rfl)
theorem dX0_water_6 : decode cX0_water 6 = .ok (.ifCond .eq 26, 3) := dk_153 0 26 (dk_at dksX0_water_0 6 rfl rfl)
theorem dX0_water_9 : decode cX0_water 9 = .ok (.aload_n 0, 1) := dk_42 (dk_at dksX0_water_0 9 rfl rfl)
theorem dX0_water_10 : decode cX0_water 10 = .ok (.iload_n 2, 1) := dk_28 (dk_at dksX0_water_0 10 rfl rfl)
theorem dX0_water_11 : decode cX0_water 11 = .ok (.i2l, 1) := dk_133 (dk_at dksX0_water_0 11 rfl rfl)
theorem dX0_water_12 : decode cX0_water 12 = .ok (.invokevirtual 185, 3) := dk_182 0 185 (dk_at dksX0_water_0 12 rfl rfl)
theorem dX0_water_15 : decode cX0_water 15 = .ok (.ifCond .eq 17, 3) := dk_153 0 17 (dk_at dksX0_water_0 15 rfl rfl)
theorem dX0_water_18 : decode cX0_water 18 = .ok (.aload_n 0, 1) := dk_42 (dk_at dksX0_water_0 18 rfl rfl)
theorem dX0_water_19 : decode cX0_water 19 = .ok (.invokevirtual 188, 3) := dk_182 0 188 (dk_at dksX0_water_0 19 rfl rfl)
theorem dX0_water_22 : decode cX0_water 22 = .ok (.getfield 191, 3) := dk_180 0 191 (dk_at dksX0_water_1 0 rfl rfl)
theorem dX0_water_25 : decode cX0_water 25 = .ok (.iload_n 1, 1) := dk_27 (dk_at dksX0_water_1 3 rfl rfl)
theorem dX0_water_26 : decode cX0_water 26 = .ok (.aaload, 1) := dk_50 (dk_at dksX0_water_1 4 rfl rfl)
theorem dX0_water_27 : decode cX0_water 27 = .ok (.iload_n 2, 1) := dk_28 (dk_at dksX0_water_1 5 rfl rfl)
theorem dX0_water_28 : decode cX0_water 28 = .ok (.iaload, 1) := dk_46 (dk_at dksX0_water_1 6 rfl rfl)
theorem dX0_water_29 : decode cX0_water 29 = .ok (.goto 5, 3) := dk_167 0 5 (dk_at dksX0_water_1 7 rfl rfl)
theorem dX0_water_32 : decode cX0_water 32 = .ok (.bipush (-2), 2) := dk_16 254 (dk_at dksX0_water_1 10 rfl rfl)
theorem dX0_water_34 : decode cX0_water 34 = .ok (.ireturn, 1) := dk_172 (dk_at dksX0_water_1 12 rfl rfl)
abbrev cX0_isWeek : ByteArray := prog_1_method_15_code
def yX0_isWeek : MethodName := ⟨RX0, "isWeek", "(J)Z"⟩
def dkwX0_isWeek_0 : List UInt8 := [31, 9, 42, 180, 0, 41, 180, 0, 146, 4, 100, 133, 184, 0, 5, 172]
abbrev dktX0_isWeek_0 : List UInt8 := dkwX0_isWeek_0 ++ []
theorem dksX0_isWeek_0 : cX0_isWeek.data.toList.drop 0 = dktX0_isWeek_0 := by decide +kernel
theorem dX0_isWeek_0 : decode cX0_isWeek 0 = .ok (.lload_n 1, 1) := dk_31 (dk_at dksX0_isWeek_0 0 rfl rfl)
theorem dX0_isWeek_1 : decode cX0_isWeek 1 = .ok (.lconst 0, 1) := dk_9 (dk_at dksX0_isWeek_0 1 rfl rfl)
theorem dX0_isWeek_2 : decode cX0_isWeek 2 = .ok (.aload_n 0, 1) := dk_42 (dk_at dksX0_isWeek_0 2 rfl rfl)
theorem dX0_isWeek_3 : decode cX0_isWeek 3 = .ok (.getfield 41, 3) := dk_180 0 41 (dk_at dksX0_isWeek_0 3 rfl rfl)
theorem dX0_isWeek_6 : decode cX0_isWeek 6 = .ok (.getfield 146, 3) := dk_180 0 146 (dk_at dksX0_isWeek_0 6 rfl rfl)
theorem dX0_isWeek_9 : decode cX0_isWeek 9 = .ok (.iconst 1, 1) := dk_4 (dk_at dksX0_isWeek_0 9 rfl rfl)
theorem dX0_isWeek_10 : decode cX0_isWeek 10 = .ok (.isub, 1) := dk_100 (dk_at dksX0_isWeek_0 10 rfl rfl)
theorem dX0_isWeek_11 : decode cX0_isWeek 11 = .ok (.i2l, 1) := dk_133 (dk_at dksX0_isWeek_0 11 rfl rfl)
theorem dX0_isWeek_12 : decode cX0_isWeek 12 = .ok (.invokestatic 5, 3) := dk_184 0 5 (dk_at dksX0_isWeek_0 12 rfl rfl)
theorem dX0_isWeek_15 : decode cX0_isWeek 15 = .ok (.ireturn, 1) := dk_172 (dk_at dksX0_isWeek_0 15 rfl rfl)
abbrev cX0_told : ByteArray := prog_1_method_17_code
def yX0_told : MethodName := ⟨RX0, "told", "()LFloodLent$Year;"⟩
def dkwX0_told_1 : List UInt8 := [182, 0, 155, 176]
abbrev dktX0_told_1 : List UInt8 := dkwX0_told_1 ++ []
def dkwX0_told_0 : List UInt8 := [42, 180, 0, 52, 42, 180, 0, 41, 42, 180, 0, 45, 42, 180, 0, 109, 182, 0, 152, 42, 180, 0, 52]
abbrev dktX0_told_0 : List UInt8 := dkwX0_told_0 ++ dktX0_told_1
theorem dksX0_told_0 : cX0_told.data.toList.drop 0 = dktX0_told_0 := by decide +kernel
theorem dksX0_told_1 : cX0_told.data.toList.drop 23 = dktX0_told_1 := dk_seg dksX0_told_0 23 rfl rfl
theorem dX0_told_0 : decode cX0_told 0 = .ok (.aload_n 0, 1) := dk_42 (dk_at dksX0_told_0 0 rfl rfl)
theorem dX0_told_1 : decode cX0_told 1 = .ok (.getfield 52, 3) := dk_180 0 52 (dk_at dksX0_told_0 1 rfl rfl)
theorem dX0_told_4 : decode cX0_told 4 = .ok (.aload_n 0, 1) := dk_42 (dk_at dksX0_told_0 4 rfl rfl)
theorem dX0_told_5 : decode cX0_told 5 = .ok (.getfield 41, 3) := dk_180 0 41 (dk_at dksX0_told_0 5 rfl rfl)
theorem dX0_told_8 : decode cX0_told 8 = .ok (.aload_n 0, 1) := dk_42 (dk_at dksX0_told_0 8 rfl rfl)
theorem dX0_told_9 : decode cX0_told 9 = .ok (.getfield 45, 3) := dk_180 0 45 (dk_at dksX0_told_0 9 rfl rfl)
theorem dX0_told_12 : decode cX0_told 12 = .ok (.aload_n 0, 1) := dk_42 (dk_at dksX0_told_0 12 rfl rfl)
theorem dX0_told_13 : decode cX0_told 13 = .ok (.getfield 109, 3) := dk_180 0 109 (dk_at dksX0_told_0 13 rfl rfl)
theorem dX0_told_16 : decode cX0_told 16 = .ok (.invokevirtual 152, 3) := dk_182 0 152 (dk_at dksX0_told_0 16 rfl rfl)
theorem dX0_told_19 : decode cX0_told 19 = .ok (.aload_n 0, 1) := dk_42 (dk_at dksX0_told_0 19 rfl rfl)
theorem dX0_told_20 : decode cX0_told 20 = .ok (.getfield 52, 3) := dk_180 0 52 (dk_at dksX0_told_0 20 rfl rfl)
theorem dX0_told_23 : decode cX0_told 23 = .ok (.invokevirtual 155, 3) := dk_182 0 155 (dk_at dksX0_told_1 0 rfl rfl)
theorem dX0_told_26 : decode cX0_told 26 = .ok (.areturn, 1) := dk_176 (dk_at dksX0_told_1 3 rfl rfl)
abbrev cX0_isOn : ByteArray := prog_1_method_2_code
def yX0_isOn : MethodName := ⟨RX0, "isOn", "(II)Z"⟩
def dkwX0_isOn_0 : List UInt8 := [26, 27, 122, 4, 126, 4, 160, 0, 7, 4, 167, 0, 4, 3, 172]
abbrev dktX0_isOn_0 : List UInt8 := dkwX0_isOn_0 ++ []
theorem dksX0_isOn_0 : cX0_isOn.data.toList.drop 0 = dktX0_isOn_0 := by decide +kernel
theorem dX0_isOn_0 : decode cX0_isOn 0 = .ok (.iload_n 0, 1) := dk_26 (dk_at dksX0_isOn_0 0 rfl rfl)
theorem dX0_isOn_1 : decode cX0_isOn 1 = .ok (.iload_n 1, 1) := dk_27 (dk_at dksX0_isOn_0 1 rfl rfl)
theorem dX0_isOn_2 : decode cX0_isOn 2 = .ok (.ishr, 1) := dk_122 (dk_at dksX0_isOn_0 2 rfl rfl)
theorem dX0_isOn_3 : decode cX0_isOn 3 = .ok (.iconst 1, 1) := dk_4 (dk_at dksX0_isOn_0 3 rfl rfl)
theorem dX0_isOn_4 : decode cX0_isOn 4 = .ok (.iand, 1) := dk_126 (dk_at dksX0_isOn_0 4 rfl rfl)
theorem dX0_isOn_5 : decode cX0_isOn 5 = .ok (.iconst 1, 1) := dk_4 (dk_at dksX0_isOn_0 5 rfl rfl)
theorem dX0_isOn_6 : decode cX0_isOn 6 = .ok (.if_icmp .ne 7, 3) := dk_160 0 7 (dk_at dksX0_isOn_0 6 rfl rfl)
theorem dX0_isOn_9 : decode cX0_isOn 9 = .ok (.iconst 1, 1) := dk_4 (dk_at dksX0_isOn_0 9 rfl rfl)
theorem dX0_isOn_10 : decode cX0_isOn 10 = .ok (.goto 4, 3) := dk_167 0 4 (dk_at dksX0_isOn_0 10 rfl rfl)
theorem dX0_isOn_13 : decode cX0_isOn 13 = .ok (.iconst 0, 1) := dk_3 (dk_at dksX0_isOn_0 13 rfl rfl)
theorem dX0_isOn_14 : decode cX0_isOn 14 = .ok (.ireturn, 1) := dk_172 (dk_at dksX0_isOn_0 14 rfl rfl)
abbrev cX0_flood : ByteArray := prog_1_method_21_code
def yX0_flood : MethodName := ⟨RX0, "flood", "(II)I"⟩
def dkwX0_flood_4 : List UInt8 := [27, 46, 100, 172]
abbrev dktX0_flood_4 : List UInt8 := dkwX0_flood_4 ++ []
def dkwX0_flood_3 : List UInt8 := [180, 0, 200, 27, 46, 167, 0, 22, 42, 180, 0, 52, 180, 0, 197, 27, 46, 42, 180, 0, 52, 180, 0, 200]
abbrev dktX0_flood_3 : List UInt8 := dkwX0_flood_3 ++ dktX0_flood_4
def dkwX0_flood_2 : List UInt8 := [160, 0, 15, 42, 180, 0, 52, 180, 0, 197, 27, 46, 167, 0, 39, 28, 5, 160, 0, 15, 42, 180, 0, 52]
abbrev dktX0_flood_2 : List UInt8 := dkwX0_flood_2 ++ dktX0_flood_3
def dkwX0_flood_1 : List UInt8 := [182, 0, 188, 87, 28, 154, 0, 15, 42, 180, 0, 52, 180, 0, 194, 27, 46, 167, 0, 56, 28, 4]
abbrev dktX0_flood_1 : List UInt8 := dkwX0_flood_1 ++ dktX0_flood_2
def dkwX0_flood_0 : List UInt8 := [42, 27, 182, 0, 182, 153, 0, 15, 28, 133, 9, 20, 0, 3, 184, 0, 5, 154, 0, 6, 16, 254, 172, 42]
abbrev dktX0_flood_0 : List UInt8 := dkwX0_flood_0 ++ dktX0_flood_1
theorem dksX0_flood_0 : cX0_flood.data.toList.drop 0 = dktX0_flood_0 := by decide +kernel
theorem dksX0_flood_1 : cX0_flood.data.toList.drop 24 = dktX0_flood_1 := dk_seg dksX0_flood_0 24 rfl rfl
theorem dksX0_flood_2 : cX0_flood.data.toList.drop 46 = dktX0_flood_2 := dk_seg dksX0_flood_1 22 rfl rfl
theorem dksX0_flood_3 : cX0_flood.data.toList.drop 70 = dktX0_flood_3 := dk_seg dksX0_flood_2 24 rfl rfl
theorem dksX0_flood_4 : cX0_flood.data.toList.drop 94 = dktX0_flood_4 := dk_seg dksX0_flood_3 24 rfl rfl
theorem dX0_flood_0 : decode cX0_flood 0 = .ok (.aload_n 0, 1) := dk_42 (dk_at dksX0_flood_0 0 rfl rfl)
theorem dX0_flood_1 : decode cX0_flood 1 = .ok (.iload_n 1, 1) := dk_27 (dk_at dksX0_flood_0 1 rfl rfl)
theorem dX0_flood_2 : decode cX0_flood 2 = .ok (.invokevirtual 182, 3) := dk_182 0 182 (dk_at dksX0_flood_0 2 rfl rfl)
theorem dX0_flood_5 : decode cX0_flood 5 = .ok (.ifCond .eq 15, 3) := dk_153 0 15 (dk_at dksX0_flood_0 5 rfl rfl)
theorem dX0_flood_8 : decode cX0_flood 8 = .ok (.iload_n 2, 1) := dk_28 (dk_at dksX0_flood_0 8 rfl rfl)
theorem dX0_flood_9 : decode cX0_flood 9 = .ok (.i2l, 1) := dk_133 (dk_at dksX0_flood_0 9 rfl rfl)
theorem dX0_flood_10 : decode cX0_flood 10 = .ok (.lconst 0, 1) := dk_9 (dk_at dksX0_flood_0 10 rfl rfl)
theorem dX0_flood_11 : decode cX0_flood 11 = .ok (.ldc2_w 3, 3) := dk_20 0 3 (dk_at dksX0_flood_0 11 rfl rfl)
theorem dX0_flood_14 : decode cX0_flood 14 = .ok (.invokestatic 5, 3) := dk_184 0 5 (dk_at dksX0_flood_0 14 rfl rfl)
theorem dX0_flood_17 : decode cX0_flood 17 = .ok (.ifCond .ne 6, 3) := dk_154 0 6 (dk_at dksX0_flood_0 17 rfl rfl)
theorem dX0_flood_20 : decode cX0_flood 20 = .ok (.bipush (-2), 2) := dk_16 254 (dk_at dksX0_flood_0 20 rfl rfl)
theorem dX0_flood_22 : decode cX0_flood 22 = .ok (.ireturn, 1) := dk_172 (dk_at dksX0_flood_0 22 rfl rfl)
theorem dX0_flood_23 : decode cX0_flood 23 = .ok (.aload_n 0, 1) := dk_42 (dk_at dksX0_flood_0 23 rfl rfl)
theorem dX0_flood_24 : decode cX0_flood 24 = .ok (.invokevirtual 188, 3) := dk_182 0 188 (dk_at dksX0_flood_1 0 rfl rfl)
theorem dX0_flood_27 : decode cX0_flood 27 = .ok (.pop, 1) := dk_87 (dk_at dksX0_flood_1 3 rfl rfl)
theorem dX0_flood_28 : decode cX0_flood 28 = .ok (.iload_n 2, 1) := dk_28 (dk_at dksX0_flood_1 4 rfl rfl)
theorem dX0_flood_29 : decode cX0_flood 29 = .ok (.ifCond .ne 15, 3) := dk_154 0 15 (dk_at dksX0_flood_1 5 rfl rfl)
theorem dX0_flood_32 : decode cX0_flood 32 = .ok (.aload_n 0, 1) := dk_42 (dk_at dksX0_flood_1 8 rfl rfl)
theorem dX0_flood_33 : decode cX0_flood 33 = .ok (.getfield 52, 3) := dk_180 0 52 (dk_at dksX0_flood_1 9 rfl rfl)
theorem dX0_flood_36 : decode cX0_flood 36 = .ok (.getfield 194, 3) := dk_180 0 194 (dk_at dksX0_flood_1 12 rfl rfl)
theorem dX0_flood_39 : decode cX0_flood 39 = .ok (.iload_n 1, 1) := dk_27 (dk_at dksX0_flood_1 15 rfl rfl)
theorem dX0_flood_40 : decode cX0_flood 40 = .ok (.iaload, 1) := dk_46 (dk_at dksX0_flood_1 16 rfl rfl)
theorem dX0_flood_41 : decode cX0_flood 41 = .ok (.goto 56, 3) := dk_167 0 56 (dk_at dksX0_flood_1 17 rfl rfl)
theorem dX0_flood_44 : decode cX0_flood 44 = .ok (.iload_n 2, 1) := dk_28 (dk_at dksX0_flood_1 20 rfl rfl)
theorem dX0_flood_45 : decode cX0_flood 45 = .ok (.iconst 1, 1) := dk_4 (dk_at dksX0_flood_1 21 rfl rfl)
theorem dX0_flood_46 : decode cX0_flood 46 = .ok (.if_icmp .ne 15, 3) := dk_160 0 15 (dk_at dksX0_flood_2 0 rfl rfl)
theorem dX0_flood_49 : decode cX0_flood 49 = .ok (.aload_n 0, 1) := dk_42 (dk_at dksX0_flood_2 3 rfl rfl)
theorem dX0_flood_50 : decode cX0_flood 50 = .ok (.getfield 52, 3) := dk_180 0 52 (dk_at dksX0_flood_2 4 rfl rfl)
theorem dX0_flood_53 : decode cX0_flood 53 = .ok (.getfield 197, 3) := dk_180 0 197 (dk_at dksX0_flood_2 7 rfl rfl)
theorem dX0_flood_56 : decode cX0_flood 56 = .ok (.iload_n 1, 1) := dk_27 (dk_at dksX0_flood_2 10 rfl rfl)
theorem dX0_flood_57 : decode cX0_flood 57 = .ok (.iaload, 1) := dk_46 (dk_at dksX0_flood_2 11 rfl rfl)
theorem dX0_flood_58 : decode cX0_flood 58 = .ok (.goto 39, 3) := dk_167 0 39 (dk_at dksX0_flood_2 12 rfl rfl)
theorem dX0_flood_61 : decode cX0_flood 61 = .ok (.iload_n 2, 1) := dk_28 (dk_at dksX0_flood_2 15 rfl rfl)
theorem dX0_flood_62 : decode cX0_flood 62 = .ok (.iconst 2, 1) := dk_5 (dk_at dksX0_flood_2 16 rfl rfl)
theorem dX0_flood_63 : decode cX0_flood 63 = .ok (.if_icmp .ne 15, 3) := dk_160 0 15 (dk_at dksX0_flood_2 17 rfl rfl)
theorem dX0_flood_66 : decode cX0_flood 66 = .ok (.aload_n 0, 1) := dk_42 (dk_at dksX0_flood_2 20 rfl rfl)
theorem dX0_flood_67 : decode cX0_flood 67 = .ok (.getfield 52, 3) := dk_180 0 52 (dk_at dksX0_flood_2 21 rfl rfl)
theorem dX0_flood_70 : decode cX0_flood 70 = .ok (.getfield 200, 3) := dk_180 0 200 (dk_at dksX0_flood_3 0 rfl rfl)
theorem dX0_flood_73 : decode cX0_flood 73 = .ok (.iload_n 1, 1) := dk_27 (dk_at dksX0_flood_3 3 rfl rfl)
theorem dX0_flood_74 : decode cX0_flood 74 = .ok (.iaload, 1) := dk_46 (dk_at dksX0_flood_3 4 rfl rfl)
theorem dX0_flood_75 : decode cX0_flood 75 = .ok (.goto 22, 3) := dk_167 0 22 (dk_at dksX0_flood_3 5 rfl rfl)
theorem dX0_flood_78 : decode cX0_flood 78 = .ok (.aload_n 0, 1) := dk_42 (dk_at dksX0_flood_3 8 rfl rfl)
theorem dX0_flood_79 : decode cX0_flood 79 = .ok (.getfield 52, 3) := dk_180 0 52 (dk_at dksX0_flood_3 9 rfl rfl)
theorem dX0_flood_82 : decode cX0_flood 82 = .ok (.getfield 197, 3) := dk_180 0 197 (dk_at dksX0_flood_3 12 rfl rfl)
theorem dX0_flood_85 : decode cX0_flood 85 = .ok (.iload_n 1, 1) := dk_27 (dk_at dksX0_flood_3 15 rfl rfl)
theorem dX0_flood_86 : decode cX0_flood 86 = .ok (.iaload, 1) := dk_46 (dk_at dksX0_flood_3 16 rfl rfl)
theorem dX0_flood_87 : decode cX0_flood 87 = .ok (.aload_n 0, 1) := dk_42 (dk_at dksX0_flood_3 17 rfl rfl)
theorem dX0_flood_88 : decode cX0_flood 88 = .ok (.getfield 52, 3) := dk_180 0 52 (dk_at dksX0_flood_3 18 rfl rfl)
theorem dX0_flood_91 : decode cX0_flood 91 = .ok (.getfield 200, 3) := dk_180 0 200 (dk_at dksX0_flood_3 21 rfl rfl)
theorem dX0_flood_94 : decode cX0_flood 94 = .ok (.iload_n 1, 1) := dk_27 (dk_at dksX0_flood_4 0 rfl rfl)
theorem dX0_flood_95 : decode cX0_flood 95 = .ok (.iaload, 1) := dk_46 (dk_at dksX0_flood_4 1 rfl rfl)
theorem dX0_flood_96 : decode cX0_flood 96 = .ok (.isub, 1) := dk_100 (dk_at dksX0_flood_4 2 rfl rfl)
theorem dX0_flood_97 : decode cX0_flood 97 = .ok (.ireturn, 1) := dk_172 (dk_at dksX0_flood_4 3 rfl rfl)
abbrev cX0_loan : ByteArray := prog_1_method_22_code
def yX0_loan : MethodName := ⟨RX0, "loan", "(II)I"⟩
def dkwX0_loan_4 : List UInt8 := [180, 0, 52, 180, 0, 209, 27, 46, 42, 180, 0, 52, 180, 0, 212, 27, 46, 100, 172]
abbrev dktX0_loan_4 : List UInt8 := dkwX0_loan_4 ++ []
def dkwX0_loan_3 : List UInt8 := [27, 46, 167, 0, 39, 28, 5, 160, 0, 15, 42, 180, 0, 52, 180, 0, 212, 27, 46, 167, 0, 22, 42]
abbrev dktX0_loan_3 : List UInt8 := dkwX0_loan_3 ++ dktX0_loan_4
def dkwX0_loan_2 : List UInt8 := [42, 180, 0, 52, 180, 0, 206, 27, 46, 167, 0, 56, 28, 4, 160, 0, 15, 42, 180, 0, 52, 180, 0, 209]
abbrev dktX0_loan_2 : List UInt8 := dkwX0_loan_2 ++ dktX0_loan_3
def dkwX0_loan_1 : List UInt8 := [28, 133, 9, 20, 0, 3, 184, 0, 5, 154, 0, 6, 16, 254, 172, 42, 182, 0, 188, 87, 28, 154, 0, 15]
abbrev dktX0_loan_1 : List UInt8 := dkwX0_loan_1 ++ dktX0_loan_2
def dkwX0_loan_0 : List UInt8 := [27, 133, 9, 42, 180, 0, 41, 180, 0, 203, 185, 0, 134, 1, 0, 4, 100, 133, 184, 0, 5, 153, 0, 15]
abbrev dktX0_loan_0 : List UInt8 := dkwX0_loan_0 ++ dktX0_loan_1
theorem dksX0_loan_0 : cX0_loan.data.toList.drop 0 = dktX0_loan_0 := by decide +kernel
theorem dksX0_loan_1 : cX0_loan.data.toList.drop 24 = dktX0_loan_1 := dk_seg dksX0_loan_0 24 rfl rfl
theorem dksX0_loan_2 : cX0_loan.data.toList.drop 48 = dktX0_loan_2 := dk_seg dksX0_loan_1 24 rfl rfl
theorem dksX0_loan_3 : cX0_loan.data.toList.drop 72 = dktX0_loan_3 := dk_seg dksX0_loan_2 24 rfl rfl
theorem dksX0_loan_4 : cX0_loan.data.toList.drop 95 = dktX0_loan_4 := dk_seg dksX0_loan_3 23 rfl rfl
theorem dX0_loan_0 : decode cX0_loan 0 = .ok (.iload_n 1, 1) := dk_27 (dk_at dksX0_loan_0 0 rfl rfl)
theorem dX0_loan_1 : decode cX0_loan 1 = .ok (.i2l, 1) := dk_133 (dk_at dksX0_loan_0 1 rfl rfl)
theorem dX0_loan_2 : decode cX0_loan 2 = .ok (.lconst 0, 1) := dk_9 (dk_at dksX0_loan_0 2 rfl rfl)
theorem dX0_loan_3 : decode cX0_loan 3 = .ok (.aload_n 0, 1) := dk_42 (dk_at dksX0_loan_0 3 rfl rfl)
theorem dX0_loan_4 : decode cX0_loan 4 = .ok (.getfield 41, 3) := dk_180 0 41 (dk_at dksX0_loan_0 4 rfl rfl)
theorem dX0_loan_7 : decode cX0_loan 7 = .ok (.getfield 203, 3) := dk_180 0 203 (dk_at dksX0_loan_0 7 rfl rfl)
theorem dX0_loan_10 : decode cX0_loan 10 = .ok (.invokeinterface 134 1, 5) := by decide +kernel
theorem dX0_loan_15 : decode cX0_loan 15 = .ok (.iconst 1, 1) := dk_4 (dk_at dksX0_loan_0 15 rfl rfl)
theorem dX0_loan_16 : decode cX0_loan 16 = .ok (.isub, 1) := dk_100 (dk_at dksX0_loan_0 16 rfl rfl)
theorem dX0_loan_17 : decode cX0_loan 17 = .ok (.i2l, 1) := dk_133 (dk_at dksX0_loan_0 17 rfl rfl)
theorem dX0_loan_18 : decode cX0_loan 18 = .ok (.invokestatic 5, 3) := dk_184 0 5 (dk_at dksX0_loan_0 18 rfl rfl)
theorem dX0_loan_21 : decode cX0_loan 21 = .ok (.ifCond .eq 15, 3) := dk_153 0 15 (dk_at dksX0_loan_0 21 rfl rfl)
theorem dX0_loan_24 : decode cX0_loan 24 = .ok (.iload_n 2, 1) := dk_28 (dk_at dksX0_loan_1 0 rfl rfl)
theorem dX0_loan_25 : decode cX0_loan 25 = .ok (.i2l, 1) := dk_133 (dk_at dksX0_loan_1 1 rfl rfl)
theorem dX0_loan_26 : decode cX0_loan 26 = .ok (.lconst 0, 1) := dk_9 (dk_at dksX0_loan_1 2 rfl rfl)
theorem dX0_loan_27 : decode cX0_loan 27 = .ok (.ldc2_w 3, 3) := dk_20 0 3 (dk_at dksX0_loan_1 3 rfl rfl)
theorem dX0_loan_30 : decode cX0_loan 30 = .ok (.invokestatic 5, 3) := dk_184 0 5 (dk_at dksX0_loan_1 6 rfl rfl)
theorem dX0_loan_33 : decode cX0_loan 33 = .ok (.ifCond .ne 6, 3) := dk_154 0 6 (dk_at dksX0_loan_1 9 rfl rfl)
theorem dX0_loan_36 : decode cX0_loan 36 = .ok (.bipush (-2), 2) := dk_16 254 (dk_at dksX0_loan_1 12 rfl rfl)
theorem dX0_loan_38 : decode cX0_loan 38 = .ok (.ireturn, 1) := dk_172 (dk_at dksX0_loan_1 14 rfl rfl)
theorem dX0_loan_39 : decode cX0_loan 39 = .ok (.aload_n 0, 1) := dk_42 (dk_at dksX0_loan_1 15 rfl rfl)
theorem dX0_loan_40 : decode cX0_loan 40 = .ok (.invokevirtual 188, 3) := dk_182 0 188 (dk_at dksX0_loan_1 16 rfl rfl)
theorem dX0_loan_43 : decode cX0_loan 43 = .ok (.pop, 1) := dk_87 (dk_at dksX0_loan_1 19 rfl rfl)
theorem dX0_loan_44 : decode cX0_loan 44 = .ok (.iload_n 2, 1) := dk_28 (dk_at dksX0_loan_1 20 rfl rfl)
theorem dX0_loan_45 : decode cX0_loan 45 = .ok (.ifCond .ne 15, 3) := dk_154 0 15 (dk_at dksX0_loan_1 21 rfl rfl)
theorem dX0_loan_48 : decode cX0_loan 48 = .ok (.aload_n 0, 1) := dk_42 (dk_at dksX0_loan_2 0 rfl rfl)
theorem dX0_loan_49 : decode cX0_loan 49 = .ok (.getfield 52, 3) := dk_180 0 52 (dk_at dksX0_loan_2 1 rfl rfl)
theorem dX0_loan_52 : decode cX0_loan 52 = .ok (.getfield 206, 3) := dk_180 0 206 (dk_at dksX0_loan_2 4 rfl rfl)
theorem dX0_loan_55 : decode cX0_loan 55 = .ok (.iload_n 1, 1) := dk_27 (dk_at dksX0_loan_2 7 rfl rfl)
theorem dX0_loan_56 : decode cX0_loan 56 = .ok (.iaload, 1) := dk_46 (dk_at dksX0_loan_2 8 rfl rfl)
theorem dX0_loan_57 : decode cX0_loan 57 = .ok (.goto 56, 3) := dk_167 0 56 (dk_at dksX0_loan_2 9 rfl rfl)
theorem dX0_loan_60 : decode cX0_loan 60 = .ok (.iload_n 2, 1) := dk_28 (dk_at dksX0_loan_2 12 rfl rfl)
theorem dX0_loan_61 : decode cX0_loan 61 = .ok (.iconst 1, 1) := dk_4 (dk_at dksX0_loan_2 13 rfl rfl)
theorem dX0_loan_62 : decode cX0_loan 62 = .ok (.if_icmp .ne 15, 3) := dk_160 0 15 (dk_at dksX0_loan_2 14 rfl rfl)
theorem dX0_loan_65 : decode cX0_loan 65 = .ok (.aload_n 0, 1) := dk_42 (dk_at dksX0_loan_2 17 rfl rfl)
theorem dX0_loan_66 : decode cX0_loan 66 = .ok (.getfield 52, 3) := dk_180 0 52 (dk_at dksX0_loan_2 18 rfl rfl)
theorem dX0_loan_69 : decode cX0_loan 69 = .ok (.getfield 209, 3) := dk_180 0 209 (dk_at dksX0_loan_2 21 rfl rfl)
theorem dX0_loan_72 : decode cX0_loan 72 = .ok (.iload_n 1, 1) := dk_27 (dk_at dksX0_loan_3 0 rfl rfl)
theorem dX0_loan_73 : decode cX0_loan 73 = .ok (.iaload, 1) := dk_46 (dk_at dksX0_loan_3 1 rfl rfl)
theorem dX0_loan_74 : decode cX0_loan 74 = .ok (.goto 39, 3) := dk_167 0 39 (dk_at dksX0_loan_3 2 rfl rfl)
theorem dX0_loan_77 : decode cX0_loan 77 = .ok (.iload_n 2, 1) := dk_28 (dk_at dksX0_loan_3 5 rfl rfl)
theorem dX0_loan_78 : decode cX0_loan 78 = .ok (.iconst 2, 1) := dk_5 (dk_at dksX0_loan_3 6 rfl rfl)
theorem dX0_loan_79 : decode cX0_loan 79 = .ok (.if_icmp .ne 15, 3) := dk_160 0 15 (dk_at dksX0_loan_3 7 rfl rfl)
theorem dX0_loan_82 : decode cX0_loan 82 = .ok (.aload_n 0, 1) := dk_42 (dk_at dksX0_loan_3 10 rfl rfl)
theorem dX0_loan_83 : decode cX0_loan 83 = .ok (.getfield 52, 3) := dk_180 0 52 (dk_at dksX0_loan_3 11 rfl rfl)
theorem dX0_loan_86 : decode cX0_loan 86 = .ok (.getfield 212, 3) := dk_180 0 212 (dk_at dksX0_loan_3 14 rfl rfl)
theorem dX0_loan_89 : decode cX0_loan 89 = .ok (.iload_n 1, 1) := dk_27 (dk_at dksX0_loan_3 17 rfl rfl)
theorem dX0_loan_90 : decode cX0_loan 90 = .ok (.iaload, 1) := dk_46 (dk_at dksX0_loan_3 18 rfl rfl)
theorem dX0_loan_91 : decode cX0_loan 91 = .ok (.goto 22, 3) := dk_167 0 22 (dk_at dksX0_loan_3 19 rfl rfl)
theorem dX0_loan_94 : decode cX0_loan 94 = .ok (.aload_n 0, 1) := dk_42 (dk_at dksX0_loan_3 22 rfl rfl)
theorem dX0_loan_95 : decode cX0_loan 95 = .ok (.getfield 52, 3) := dk_180 0 52 (dk_at dksX0_loan_4 0 rfl rfl)
theorem dX0_loan_98 : decode cX0_loan 98 = .ok (.getfield 209, 3) := dk_180 0 209 (dk_at dksX0_loan_4 3 rfl rfl)
theorem dX0_loan_101 : decode cX0_loan 101 = .ok (.iload_n 1, 1) := dk_27 (dk_at dksX0_loan_4 6 rfl rfl)
theorem dX0_loan_102 : decode cX0_loan 102 = .ok (.iaload, 1) := dk_46 (dk_at dksX0_loan_4 7 rfl rfl)
theorem dX0_loan_103 : decode cX0_loan 103 = .ok (.aload_n 0, 1) := dk_42 (dk_at dksX0_loan_4 8 rfl rfl)
theorem dX0_loan_104 : decode cX0_loan 104 = .ok (.getfield 52, 3) := dk_180 0 52 (dk_at dksX0_loan_4 9 rfl rfl)
theorem dX0_loan_107 : decode cX0_loan 107 = .ok (.getfield 212, 3) := dk_180 0 212 (dk_at dksX0_loan_4 12 rfl rfl)
theorem dX0_loan_110 : decode cX0_loan 110 = .ok (.iload_n 1, 1) := dk_27 (dk_at dksX0_loan_4 15 rfl rfl)
theorem dX0_loan_111 : decode cX0_loan 111 = .ok (.iaload, 1) := dk_46 (dk_at dksX0_loan_4 16 rfl rfl)
theorem dX0_loan_112 : decode cX0_loan 112 = .ok (.isub, 1) := dk_100 (dk_at dksX0_loan_4 17 rfl rfl)
theorem dX0_loan_113 : decode cX0_loan 113 = .ok (.ireturn, 1) := dk_172 (dk_at dksX0_loan_4 18 rfl rfl)
abbrev cX0_crop : ByteArray := prog_1_method_23_code
def yX0_crop : MethodName := ⟨RX0, "crop", "(II)I"⟩
def dkwX0_crop_3 : List UInt8 := [27, 46, 167, 0, 12, 42, 180, 0, 52, 180, 0, 226, 27, 46, 172]
abbrev dktX0_crop_3 : List UInt8 := dkwX0_crop_3 ++ []
def dkwX0_crop_2 : List UInt8 := [42, 180, 0, 52, 180, 0, 220, 27, 46, 167, 0, 29, 28, 4, 160, 0, 15, 42, 180, 0, 52, 180, 0, 223]
abbrev dktX0_crop_2 : List UInt8 := dkwX0_crop_2 ++ dktX0_crop_3
def dkwX0_crop_1 : List UInt8 := [28, 133, 9, 20, 0, 218, 184, 0, 5, 154, 0, 6, 16, 254, 172, 42, 182, 0, 188, 87, 28, 154, 0, 15]
abbrev dktX0_crop_1 : List UInt8 := dkwX0_crop_1 ++ dktX0_crop_2
def dkwX0_crop_0 : List UInt8 := [27, 133, 9, 42, 180, 0, 41, 180, 0, 215, 185, 0, 134, 1, 0, 4, 100, 133, 184, 0, 5, 153, 0, 15]
abbrev dktX0_crop_0 : List UInt8 := dkwX0_crop_0 ++ dktX0_crop_1
theorem dksX0_crop_0 : cX0_crop.data.toList.drop 0 = dktX0_crop_0 := by decide +kernel
theorem dksX0_crop_1 : cX0_crop.data.toList.drop 24 = dktX0_crop_1 := dk_seg dksX0_crop_0 24 rfl rfl
theorem dksX0_crop_2 : cX0_crop.data.toList.drop 48 = dktX0_crop_2 := dk_seg dksX0_crop_1 24 rfl rfl
theorem dksX0_crop_3 : cX0_crop.data.toList.drop 72 = dktX0_crop_3 := dk_seg dksX0_crop_2 24 rfl rfl
theorem dX0_crop_0 : decode cX0_crop 0 = .ok (.iload_n 1, 1) := dk_27 (dk_at dksX0_crop_0 0 rfl rfl)
theorem dX0_crop_1 : decode cX0_crop 1 = .ok (.i2l, 1) := dk_133 (dk_at dksX0_crop_0 1 rfl rfl)
theorem dX0_crop_2 : decode cX0_crop 2 = .ok (.lconst 0, 1) := dk_9 (dk_at dksX0_crop_0 2 rfl rfl)
theorem dX0_crop_3 : decode cX0_crop 3 = .ok (.aload_n 0, 1) := dk_42 (dk_at dksX0_crop_0 3 rfl rfl)
theorem dX0_crop_4 : decode cX0_crop 4 = .ok (.getfield 41, 3) := dk_180 0 41 (dk_at dksX0_crop_0 4 rfl rfl)
theorem dX0_crop_7 : decode cX0_crop 7 = .ok (.getfield 215, 3) := dk_180 0 215 (dk_at dksX0_crop_0 7 rfl rfl)
theorem dX0_crop_10 : decode cX0_crop 10 = .ok (.invokeinterface 134 1, 5) := by decide +kernel
theorem dX0_crop_15 : decode cX0_crop 15 = .ok (.iconst 1, 1) := dk_4 (dk_at dksX0_crop_0 15 rfl rfl)
theorem dX0_crop_16 : decode cX0_crop 16 = .ok (.isub, 1) := dk_100 (dk_at dksX0_crop_0 16 rfl rfl)
theorem dX0_crop_17 : decode cX0_crop 17 = .ok (.i2l, 1) := dk_133 (dk_at dksX0_crop_0 17 rfl rfl)
theorem dX0_crop_18 : decode cX0_crop 18 = .ok (.invokestatic 5, 3) := dk_184 0 5 (dk_at dksX0_crop_0 18 rfl rfl)
theorem dX0_crop_21 : decode cX0_crop 21 = .ok (.ifCond .eq 15, 3) := dk_153 0 15 (dk_at dksX0_crop_0 21 rfl rfl)
theorem dX0_crop_24 : decode cX0_crop 24 = .ok (.iload_n 2, 1) := dk_28 (dk_at dksX0_crop_1 0 rfl rfl)
theorem dX0_crop_25 : decode cX0_crop 25 = .ok (.i2l, 1) := dk_133 (dk_at dksX0_crop_1 1 rfl rfl)
theorem dX0_crop_26 : decode cX0_crop 26 = .ok (.lconst 0, 1) := dk_9 (dk_at dksX0_crop_1 2 rfl rfl)
theorem dX0_crop_27 : decode cX0_crop 27 = .ok (.ldc2_w 218, 3) := dk_20 0 218 (dk_at dksX0_crop_1 3 rfl rfl)
theorem dX0_crop_30 : decode cX0_crop 30 = .ok (.invokestatic 5, 3) := dk_184 0 5 (dk_at dksX0_crop_1 6 rfl rfl)
theorem dX0_crop_33 : decode cX0_crop 33 = .ok (.ifCond .ne 6, 3) := dk_154 0 6 (dk_at dksX0_crop_1 9 rfl rfl)
theorem dX0_crop_36 : decode cX0_crop 36 = .ok (.bipush (-2), 2) := dk_16 254 (dk_at dksX0_crop_1 12 rfl rfl)
theorem dX0_crop_38 : decode cX0_crop 38 = .ok (.ireturn, 1) := dk_172 (dk_at dksX0_crop_1 14 rfl rfl)
theorem dX0_crop_39 : decode cX0_crop 39 = .ok (.aload_n 0, 1) := dk_42 (dk_at dksX0_crop_1 15 rfl rfl)
theorem dX0_crop_40 : decode cX0_crop 40 = .ok (.invokevirtual 188, 3) := dk_182 0 188 (dk_at dksX0_crop_1 16 rfl rfl)
theorem dX0_crop_43 : decode cX0_crop 43 = .ok (.pop, 1) := dk_87 (dk_at dksX0_crop_1 19 rfl rfl)
theorem dX0_crop_44 : decode cX0_crop 44 = .ok (.iload_n 2, 1) := dk_28 (dk_at dksX0_crop_1 20 rfl rfl)
theorem dX0_crop_45 : decode cX0_crop 45 = .ok (.ifCond .ne 15, 3) := dk_154 0 15 (dk_at dksX0_crop_1 21 rfl rfl)
theorem dX0_crop_48 : decode cX0_crop 48 = .ok (.aload_n 0, 1) := dk_42 (dk_at dksX0_crop_2 0 rfl rfl)
theorem dX0_crop_49 : decode cX0_crop 49 = .ok (.getfield 52, 3) := dk_180 0 52 (dk_at dksX0_crop_2 1 rfl rfl)
theorem dX0_crop_52 : decode cX0_crop 52 = .ok (.getfield 220, 3) := dk_180 0 220 (dk_at dksX0_crop_2 4 rfl rfl)
theorem dX0_crop_55 : decode cX0_crop 55 = .ok (.iload_n 1, 1) := dk_27 (dk_at dksX0_crop_2 7 rfl rfl)
theorem dX0_crop_56 : decode cX0_crop 56 = .ok (.iaload, 1) := dk_46 (dk_at dksX0_crop_2 8 rfl rfl)
theorem dX0_crop_57 : decode cX0_crop 57 = .ok (.goto 29, 3) := dk_167 0 29 (dk_at dksX0_crop_2 9 rfl rfl)
theorem dX0_crop_60 : decode cX0_crop 60 = .ok (.iload_n 2, 1) := dk_28 (dk_at dksX0_crop_2 12 rfl rfl)
theorem dX0_crop_61 : decode cX0_crop 61 = .ok (.iconst 1, 1) := dk_4 (dk_at dksX0_crop_2 13 rfl rfl)
theorem dX0_crop_62 : decode cX0_crop 62 = .ok (.if_icmp .ne 15, 3) := dk_160 0 15 (dk_at dksX0_crop_2 14 rfl rfl)
theorem dX0_crop_65 : decode cX0_crop 65 = .ok (.aload_n 0, 1) := dk_42 (dk_at dksX0_crop_2 17 rfl rfl)
theorem dX0_crop_66 : decode cX0_crop 66 = .ok (.getfield 52, 3) := dk_180 0 52 (dk_at dksX0_crop_2 18 rfl rfl)
theorem dX0_crop_69 : decode cX0_crop 69 = .ok (.getfield 223, 3) := dk_180 0 223 (dk_at dksX0_crop_2 21 rfl rfl)
theorem dX0_crop_72 : decode cX0_crop 72 = .ok (.iload_n 1, 1) := dk_27 (dk_at dksX0_crop_3 0 rfl rfl)
theorem dX0_crop_73 : decode cX0_crop 73 = .ok (.iaload, 1) := dk_46 (dk_at dksX0_crop_3 1 rfl rfl)
theorem dX0_crop_74 : decode cX0_crop 74 = .ok (.goto 12, 3) := dk_167 0 12 (dk_at dksX0_crop_3 2 rfl rfl)
theorem dX0_crop_77 : decode cX0_crop 77 = .ok (.aload_n 0, 1) := dk_42 (dk_at dksX0_crop_3 5 rfl rfl)
theorem dX0_crop_78 : decode cX0_crop 78 = .ok (.getfield 52, 3) := dk_180 0 52 (dk_at dksX0_crop_3 6 rfl rfl)
theorem dX0_crop_81 : decode cX0_crop 81 = .ok (.getfield 226, 3) := dk_180 0 226 (dk_at dksX0_crop_3 9 rfl rfl)
theorem dX0_crop_84 : decode cX0_crop 84 = .ok (.iload_n 1, 1) := dk_27 (dk_at dksX0_crop_3 12 rfl rfl)
theorem dX0_crop_85 : decode cX0_crop 85 = .ok (.iaload, 1) := dk_46 (dk_at dksX0_crop_3 13 rfl rfl)
theorem dX0_crop_86 : decode cX0_crop 86 = .ok (.ireturn, 1) := dk_172 (dk_at dksX0_crop_3 14 rfl rfl)
abbrev cX0_sum : ByteArray := prog_1_method_26_code
def yX0_sum : MethodName := ⟨RX0, "sum", "(I)I"⟩
def dkwX0_sum_6 : List UInt8 := [182, 0, 255, 172]
abbrev dktX0_sum_6 : List UInt8 := dkwX0_sum_6 ++ []
def dkwX0_sum_5 : List UInt8 := [42, 180, 0, 52, 180, 0, 194, 184, 0, 251, 172, 42, 180, 0, 52, 180, 0, 200, 184, 0, 251, 172, 42]
abbrev dktX0_sum_5 : List UInt8 := dkwX0_sum_5 ++ dktX0_sum_6
def dkwX0_sum_4 : List UInt8 := [42, 180, 0, 52, 180, 0, 242, 172, 42, 180, 0, 52, 180, 0, 245, 172, 42, 180, 0, 52, 180, 0, 248, 172]
abbrev dktX0_sum_4 : List UInt8 := dkwX0_sum_4 ++ dktX0_sum_5
def dkwX0_sum_3 : List UInt8 := [42, 180, 0, 52, 182, 0, 233, 172, 42, 180, 0, 52, 182, 0, 236, 172, 42, 180, 0, 52, 182, 0, 239, 172]
abbrev dktX0_sum_3 : List UInt8 := dkwX0_sum_3 ++ dktX0_sum_4
def dkwX0_sum_2 : List UInt8 := [170, 0, 0, 0, 115, 0, 0, 0, 0, 0, 0, 0, 7, 0, 0, 0, 45, 0, 0, 0, 53, 0, 0, 0, 61, 0, 0, 0, 69, 0, 0, 0, 77, 0, 0, 0, 85, 0, 0, 0, 93, 0, 0, 0, 104]
abbrev dktX0_sum_2 : List UInt8 := dkwX0_sum_2 ++ dktX0_sum_3
def dkwX0_sum_1 : List UInt8 := [172, 42, 182, 0, 188, 87, 27]
abbrev dktX0_sum_1 : List UInt8 := dkwX0_sum_1 ++ dktX0_sum_2
def dkwX0_sum_0 : List UInt8 := [42, 180, 0, 41, 182, 0, 102, 153, 0, 15, 27, 133, 9, 20, 0, 231, 184, 0, 5, 154, 0, 6, 16, 254]
abbrev dktX0_sum_0 : List UInt8 := dkwX0_sum_0 ++ dktX0_sum_1
theorem dksX0_sum_0 : cX0_sum.data.toList.drop 0 = dktX0_sum_0 := by decide +kernel
theorem dksX0_sum_1 : cX0_sum.data.toList.drop 24 = dktX0_sum_1 := dk_seg dksX0_sum_0 24 rfl rfl
theorem dksX0_sum_2 : cX0_sum.data.toList.drop 31 = dktX0_sum_2 := dk_seg dksX0_sum_1 7 rfl rfl
theorem dksX0_sum_3 : cX0_sum.data.toList.drop 76 = dktX0_sum_3 := dk_seg dksX0_sum_2 45 rfl rfl
theorem dksX0_sum_4 : cX0_sum.data.toList.drop 100 = dktX0_sum_4 := dk_seg dksX0_sum_3 24 rfl rfl
theorem dksX0_sum_5 : cX0_sum.data.toList.drop 124 = dktX0_sum_5 := dk_seg dksX0_sum_4 24 rfl rfl
theorem dksX0_sum_6 : cX0_sum.data.toList.drop 147 = dktX0_sum_6 := dk_seg dksX0_sum_5 23 rfl rfl
theorem dX0_sum_0 : decode cX0_sum 0 = .ok (.aload_n 0, 1) := dk_42 (dk_at dksX0_sum_0 0 rfl rfl)
theorem dX0_sum_1 : decode cX0_sum 1 = .ok (.getfield 41, 3) := dk_180 0 41 (dk_at dksX0_sum_0 1 rfl rfl)
theorem dX0_sum_4 : decode cX0_sum 4 = .ok (.invokevirtual 102, 3) := dk_182 0 102 (dk_at dksX0_sum_0 4 rfl rfl)
theorem dX0_sum_7 : decode cX0_sum 7 = .ok (.ifCond .eq 15, 3) := dk_153 0 15 (dk_at dksX0_sum_0 7 rfl rfl)
theorem dX0_sum_10 : decode cX0_sum 10 = .ok (.iload_n 1, 1) := dk_27 (dk_at dksX0_sum_0 10 rfl rfl)
theorem dX0_sum_11 : decode cX0_sum 11 = .ok (.i2l, 1) := dk_133 (dk_at dksX0_sum_0 11 rfl rfl)
theorem dX0_sum_12 : decode cX0_sum 12 = .ok (.lconst 0, 1) := dk_9 (dk_at dksX0_sum_0 12 rfl rfl)
theorem dX0_sum_13 : decode cX0_sum 13 = .ok (.ldc2_w 231, 3) := dk_20 0 231 (dk_at dksX0_sum_0 13 rfl rfl)
theorem dX0_sum_16 : decode cX0_sum 16 = .ok (.invokestatic 5, 3) := dk_184 0 5 (dk_at dksX0_sum_0 16 rfl rfl)
theorem dX0_sum_19 : decode cX0_sum 19 = .ok (.ifCond .ne 6, 3) := dk_154 0 6 (dk_at dksX0_sum_0 19 rfl rfl)
theorem dX0_sum_22 : decode cX0_sum 22 = .ok (.bipush (-2), 2) := dk_16 254 (dk_at dksX0_sum_0 22 rfl rfl)
theorem dX0_sum_24 : decode cX0_sum 24 = .ok (.ireturn, 1) := dk_172 (dk_at dksX0_sum_1 0 rfl rfl)
theorem dX0_sum_25 : decode cX0_sum 25 = .ok (.aload_n 0, 1) := dk_42 (dk_at dksX0_sum_1 1 rfl rfl)
theorem dX0_sum_26 : decode cX0_sum 26 = .ok (.invokevirtual 188, 3) := dk_182 0 188 (dk_at dksX0_sum_1 2 rfl rfl)
theorem dX0_sum_29 : decode cX0_sum 29 = .ok (.pop, 1) := dk_87 (dk_at dksX0_sum_1 5 rfl rfl)
theorem dX0_sum_30 : decode cX0_sum 30 = .ok (.iload_n 1, 1) := dk_27 (dk_at dksX0_sum_1 6 rfl rfl)
theorem dX0_sum_31 : decode cX0_sum 31 = .ok (.tableswitch 115 0 7 #[45, 53, 61, 69, 77, 85, 93, 104], 45) := by decide +kernel
theorem dX0_sum_76 : decode cX0_sum 76 = .ok (.aload_n 0, 1) := dk_42 (dk_at dksX0_sum_3 0 rfl rfl)
theorem dX0_sum_77 : decode cX0_sum 77 = .ok (.getfield 52, 3) := dk_180 0 52 (dk_at dksX0_sum_3 1 rfl rfl)
theorem dX0_sum_80 : decode cX0_sum 80 = .ok (.invokevirtual 233, 3) := dk_182 0 233 (dk_at dksX0_sum_3 4 rfl rfl)
theorem dX0_sum_83 : decode cX0_sum 83 = .ok (.ireturn, 1) := dk_172 (dk_at dksX0_sum_3 7 rfl rfl)
theorem dX0_sum_84 : decode cX0_sum 84 = .ok (.aload_n 0, 1) := dk_42 (dk_at dksX0_sum_3 8 rfl rfl)
theorem dX0_sum_85 : decode cX0_sum 85 = .ok (.getfield 52, 3) := dk_180 0 52 (dk_at dksX0_sum_3 9 rfl rfl)
theorem dX0_sum_88 : decode cX0_sum 88 = .ok (.invokevirtual 236, 3) := dk_182 0 236 (dk_at dksX0_sum_3 12 rfl rfl)
theorem dX0_sum_91 : decode cX0_sum 91 = .ok (.ireturn, 1) := dk_172 (dk_at dksX0_sum_3 15 rfl rfl)
theorem dX0_sum_92 : decode cX0_sum 92 = .ok (.aload_n 0, 1) := dk_42 (dk_at dksX0_sum_3 16 rfl rfl)
theorem dX0_sum_93 : decode cX0_sum 93 = .ok (.getfield 52, 3) := dk_180 0 52 (dk_at dksX0_sum_3 17 rfl rfl)
theorem dX0_sum_96 : decode cX0_sum 96 = .ok (.invokevirtual 239, 3) := dk_182 0 239 (dk_at dksX0_sum_3 20 rfl rfl)
theorem dX0_sum_99 : decode cX0_sum 99 = .ok (.ireturn, 1) := dk_172 (dk_at dksX0_sum_3 23 rfl rfl)
theorem dX0_sum_100 : decode cX0_sum 100 = .ok (.aload_n 0, 1) := dk_42 (dk_at dksX0_sum_4 0 rfl rfl)
theorem dX0_sum_101 : decode cX0_sum 101 = .ok (.getfield 52, 3) := dk_180 0 52 (dk_at dksX0_sum_4 1 rfl rfl)
theorem dX0_sum_104 : decode cX0_sum 104 = .ok (.getfield 242, 3) := dk_180 0 242 (dk_at dksX0_sum_4 4 rfl rfl)
theorem dX0_sum_107 : decode cX0_sum 107 = .ok (.ireturn, 1) := dk_172 (dk_at dksX0_sum_4 7 rfl rfl)
theorem dX0_sum_108 : decode cX0_sum 108 = .ok (.aload_n 0, 1) := dk_42 (dk_at dksX0_sum_4 8 rfl rfl)
theorem dX0_sum_109 : decode cX0_sum 109 = .ok (.getfield 52, 3) := dk_180 0 52 (dk_at dksX0_sum_4 9 rfl rfl)
theorem dX0_sum_112 : decode cX0_sum 112 = .ok (.getfield 245, 3) := dk_180 0 245 (dk_at dksX0_sum_4 12 rfl rfl)
theorem dX0_sum_115 : decode cX0_sum 115 = .ok (.ireturn, 1) := dk_172 (dk_at dksX0_sum_4 15 rfl rfl)
theorem dX0_sum_116 : decode cX0_sum 116 = .ok (.aload_n 0, 1) := dk_42 (dk_at dksX0_sum_4 16 rfl rfl)
theorem dX0_sum_117 : decode cX0_sum 117 = .ok (.getfield 52, 3) := dk_180 0 52 (dk_at dksX0_sum_4 17 rfl rfl)
theorem dX0_sum_120 : decode cX0_sum 120 = .ok (.getfield 248, 3) := dk_180 0 248 (dk_at dksX0_sum_4 20 rfl rfl)
theorem dX0_sum_123 : decode cX0_sum 123 = .ok (.ireturn, 1) := dk_172 (dk_at dksX0_sum_4 23 rfl rfl)
theorem dX0_sum_124 : decode cX0_sum 124 = .ok (.aload_n 0, 1) := dk_42 (dk_at dksX0_sum_5 0 rfl rfl)
theorem dX0_sum_125 : decode cX0_sum 125 = .ok (.getfield 52, 3) := dk_180 0 52 (dk_at dksX0_sum_5 1 rfl rfl)
theorem dX0_sum_128 : decode cX0_sum 128 = .ok (.getfield 194, 3) := dk_180 0 194 (dk_at dksX0_sum_5 4 rfl rfl)
theorem dX0_sum_131 : decode cX0_sum 131 = .ok (.invokestatic 251, 3) := dk_184 0 251 (dk_at dksX0_sum_5 7 rfl rfl)
theorem dX0_sum_134 : decode cX0_sum 134 = .ok (.ireturn, 1) := dk_172 (dk_at dksX0_sum_5 10 rfl rfl)
theorem dX0_sum_135 : decode cX0_sum 135 = .ok (.aload_n 0, 1) := dk_42 (dk_at dksX0_sum_5 11 rfl rfl)
theorem dX0_sum_136 : decode cX0_sum 136 = .ok (.getfield 52, 3) := dk_180 0 52 (dk_at dksX0_sum_5 12 rfl rfl)
theorem dX0_sum_139 : decode cX0_sum 139 = .ok (.getfield 200, 3) := dk_180 0 200 (dk_at dksX0_sum_5 15 rfl rfl)
theorem dX0_sum_142 : decode cX0_sum 142 = .ok (.invokestatic 251, 3) := dk_184 0 251 (dk_at dksX0_sum_5 18 rfl rfl)
theorem dX0_sum_145 : decode cX0_sum 145 = .ok (.ireturn, 1) := dk_172 (dk_at dksX0_sum_5 21 rfl rfl)
theorem dX0_sum_146 : decode cX0_sum 146 = .ok (.aload_n 0, 1) := dk_42 (dk_at dksX0_sum_5 22 rfl rfl)
theorem dX0_sum_147 : decode cX0_sum 147 = .ok (.invokevirtual 255, 3) := dk_182 0 255 (dk_at dksX0_sum_6 0 rfl rfl)
theorem dX0_sum_150 : decode cX0_sum 150 = .ok (.ireturn, 1) := dk_172 (dk_at dksX0_sum_6 3 rfl rfl)
abbrev cX0_together : ByteArray := prog_1_method_24_code
def yX0_together : MethodName := ⟨RX0, "together", "([I)I"⟩
def dkwX0_together_1 : List UInt8 := [21, 5, 96, 60, 132, 4, 1, 167, 255, 236, 27, 172]
abbrev dktX0_together_1 : List UInt8 := dkwX0_together_1 ++ []
def dkwX0_together_0 : List UInt8 := [3, 60, 42, 77, 44, 190, 62, 3, 54, 4, 21, 4, 29, 162, 0, 20, 44, 21, 4, 46, 54, 5, 27]
abbrev dktX0_together_0 : List UInt8 := dkwX0_together_0 ++ dktX0_together_1
theorem dksX0_together_0 : cX0_together.data.toList.drop 0 = dktX0_together_0 := by decide +kernel
theorem dksX0_together_1 : cX0_together.data.toList.drop 23 = dktX0_together_1 := dk_seg dksX0_together_0 23 rfl rfl
theorem dX0_together_0 : decode cX0_together 0 = .ok (.iconst 0, 1) := dk_3 (dk_at dksX0_together_0 0 rfl rfl)
theorem dX0_together_1 : decode cX0_together 1 = .ok (.istore_n 1, 1) := dk_60 (dk_at dksX0_together_0 1 rfl rfl)
theorem dX0_together_2 : decode cX0_together 2 = .ok (.aload_n 0, 1) := dk_42 (dk_at dksX0_together_0 2 rfl rfl)
theorem dX0_together_3 : decode cX0_together 3 = .ok (.astore_n 2, 1) := dk_77 (dk_at dksX0_together_0 3 rfl rfl)
theorem dX0_together_4 : decode cX0_together 4 = .ok (.aload_n 2, 1) := dk_44 (dk_at dksX0_together_0 4 rfl rfl)
theorem dX0_together_5 : decode cX0_together 5 = .ok (.arraylength, 1) := dk_190 (dk_at dksX0_together_0 5 rfl rfl)
theorem dX0_together_6 : decode cX0_together 6 = .ok (.istore_n 3, 1) := dk_62 (dk_at dksX0_together_0 6 rfl rfl)
theorem dX0_together_7 : decode cX0_together 7 = .ok (.iconst 0, 1) := dk_3 (dk_at dksX0_together_0 7 rfl rfl)
theorem dX0_together_8 : decode cX0_together 8 = .ok (.istore 4, 2) := dk_54 4 (dk_at dksX0_together_0 8 rfl rfl)
theorem dX0_together_10 : decode cX0_together 10 = .ok (.iload 4, 2) := dk_21 4 (dk_at dksX0_together_0 10 rfl rfl)
theorem dX0_together_12 : decode cX0_together 12 = .ok (.iload_n 3, 1) := dk_29 (dk_at dksX0_together_0 12 rfl rfl)
theorem dX0_together_13 : decode cX0_together 13 = .ok (.if_icmp .ge 20, 3) := dk_162 0 20 (dk_at dksX0_together_0 13 rfl rfl)
theorem dX0_together_16 : decode cX0_together 16 = .ok (.aload_n 2, 1) := dk_44 (dk_at dksX0_together_0 16 rfl rfl)
theorem dX0_together_17 : decode cX0_together 17 = .ok (.iload 4, 2) := dk_21 4 (dk_at dksX0_together_0 17 rfl rfl)
theorem dX0_together_19 : decode cX0_together 19 = .ok (.iaload, 1) := dk_46 (dk_at dksX0_together_0 19 rfl rfl)
theorem dX0_together_20 : decode cX0_together 20 = .ok (.istore 5, 2) := dk_54 5 (dk_at dksX0_together_0 20 rfl rfl)
theorem dX0_together_22 : decode cX0_together 22 = .ok (.iload_n 1, 1) := dk_27 (dk_at dksX0_together_0 22 rfl rfl)
theorem dX0_together_23 : decode cX0_together 23 = .ok (.iload 5, 2) := dk_21 5 (dk_at dksX0_together_1 0 rfl rfl)
theorem dX0_together_25 : decode cX0_together 25 = .ok (.iadd, 1) := dk_96 (dk_at dksX0_together_1 2 rfl rfl)
theorem dX0_together_26 : decode cX0_together 26 = .ok (.istore_n 1, 1) := dk_60 (dk_at dksX0_together_1 3 rfl rfl)
theorem dX0_together_27 : decode cX0_together 27 = .ok (.iinc 4 1, 3) := dk_132 4 1 (dk_at dksX0_together_1 4 rfl rfl)
theorem dX0_together_30 : decode cX0_together 30 = .ok (.goto (-20), 3) := dk_167 255 236 (dk_at dksX0_together_1 7 rfl rfl)
theorem dX0_together_33 : decode cX0_together 33 = .ok (.iload_n 1, 1) := dk_27 (dk_at dksX0_together_1 10 rfl rfl)
theorem dX0_together_34 : decode cX0_together 34 = .ok (.ireturn, 1) := dk_172 (dk_at dksX0_together_1 11 rfl rfl)
abbrev cX0_waterAtEnd : ByteArray := prog_1_method_25_code
def yX0_waterAtEnd : MethodName := ⟨RX0, "waterAtEnd", "()I"⟩
def dkwX0_waterAtEnd_1 : List UInt8 := [132, 2, 1, 167, 255, 233, 27, 172]
abbrev dktX0_waterAtEnd_1 : List UInt8 := dkwX0_waterAtEnd_1 ++ []
def dkwX0_waterAtEnd_0 : List UInt8 := [3, 60, 3, 61, 28, 42, 182, 0, 140, 162, 0, 21, 27, 42, 180, 0, 52, 180, 0, 229, 28, 46, 96, 60]
abbrev dktX0_waterAtEnd_0 : List UInt8 := dkwX0_waterAtEnd_0 ++ dktX0_waterAtEnd_1
theorem dksX0_waterAtEnd_0 : cX0_waterAtEnd.data.toList.drop 0 = dktX0_waterAtEnd_0 := by decide +kernel
theorem dksX0_waterAtEnd_1 : cX0_waterAtEnd.data.toList.drop 24 = dktX0_waterAtEnd_1 := dk_seg dksX0_waterAtEnd_0 24 rfl rfl
theorem dX0_waterAtEnd_0 : decode cX0_waterAtEnd 0 = .ok (.iconst 0, 1) := dk_3 (dk_at dksX0_waterAtEnd_0 0 rfl rfl)
theorem dX0_waterAtEnd_1 : decode cX0_waterAtEnd 1 = .ok (.istore_n 1, 1) := dk_60 (dk_at dksX0_waterAtEnd_0 1 rfl rfl)
theorem dX0_waterAtEnd_2 : decode cX0_waterAtEnd 2 = .ok (.iconst 0, 1) := dk_3 (dk_at dksX0_waterAtEnd_0 2 rfl rfl)
theorem dX0_waterAtEnd_3 : decode cX0_waterAtEnd 3 = .ok (.istore_n 2, 1) := dk_61 (dk_at dksX0_waterAtEnd_0 3 rfl rfl)
theorem dX0_waterAtEnd_4 : decode cX0_waterAtEnd 4 = .ok (.iload_n 2, 1) := dk_28 (dk_at dksX0_waterAtEnd_0 4 rfl rfl)
theorem dX0_waterAtEnd_5 : decode cX0_waterAtEnd 5 = .ok (.aload_n 0, 1) := dk_42 (dk_at dksX0_waterAtEnd_0 5 rfl rfl)
theorem dX0_waterAtEnd_6 : decode cX0_waterAtEnd 6 = .ok (.invokevirtual 140, 3) := dk_182 0 140 (dk_at dksX0_waterAtEnd_0 6 rfl rfl)
theorem dX0_waterAtEnd_9 : decode cX0_waterAtEnd 9 = .ok (.if_icmp .ge 21, 3) := dk_162 0 21 (dk_at dksX0_waterAtEnd_0 9 rfl rfl)
theorem dX0_waterAtEnd_12 : decode cX0_waterAtEnd 12 = .ok (.iload_n 1, 1) := dk_27 (dk_at dksX0_waterAtEnd_0 12 rfl rfl)
theorem dX0_waterAtEnd_13 : decode cX0_waterAtEnd 13 = .ok (.aload_n 0, 1) := dk_42 (dk_at dksX0_waterAtEnd_0 13 rfl rfl)
theorem dX0_waterAtEnd_14 : decode cX0_waterAtEnd 14 = .ok (.getfield 52, 3) := dk_180 0 52 (dk_at dksX0_waterAtEnd_0 14 rfl rfl)
theorem dX0_waterAtEnd_17 : decode cX0_waterAtEnd 17 = .ok (.getfield 229, 3) := dk_180 0 229 (dk_at dksX0_waterAtEnd_0 17 rfl rfl)
theorem dX0_waterAtEnd_20 : decode cX0_waterAtEnd 20 = .ok (.iload_n 2, 1) := dk_28 (dk_at dksX0_waterAtEnd_0 20 rfl rfl)
theorem dX0_waterAtEnd_21 : decode cX0_waterAtEnd 21 = .ok (.iaload, 1) := dk_46 (dk_at dksX0_waterAtEnd_0 21 rfl rfl)
theorem dX0_waterAtEnd_22 : decode cX0_waterAtEnd 22 = .ok (.iadd, 1) := dk_96 (dk_at dksX0_waterAtEnd_0 22 rfl rfl)
theorem dX0_waterAtEnd_23 : decode cX0_waterAtEnd 23 = .ok (.istore_n 1, 1) := dk_60 (dk_at dksX0_waterAtEnd_0 23 rfl rfl)
theorem dX0_waterAtEnd_24 : decode cX0_waterAtEnd 24 = .ok (.iinc 2 1, 3) := dk_132 2 1 (dk_at dksX0_waterAtEnd_1 0 rfl rfl)
theorem dX0_waterAtEnd_27 : decode cX0_waterAtEnd 27 = .ok (.goto (-23), 3) := dk_167 255 233 (dk_at dksX0_waterAtEnd_1 3 rfl rfl)
theorem dX0_waterAtEnd_30 : decode cX0_waterAtEnd 30 = .ok (.iload_n 1, 1) := dk_27 (dk_at dksX0_waterAtEnd_1 6 rfl rfl)
theorem dX0_waterAtEnd_31 : decode cX0_waterAtEnd 31 = .ok (.ireturn, 1) := dk_172 (dk_at dksX0_waterAtEnd_1 7 rfl rfl)
abbrev cX0_first : ByteArray := prog_1_method_27_code
def yX0_first : MethodName := ⟨RX0, "first", "()I"⟩
def dkwX0_first_0 : List UInt8 := [42, 180, 0, 41, 182, 0, 102, 153, 0, 13, 42, 182, 0, 188, 180, 1, 2, 167, 0, 5, 16, 254, 172]
abbrev dktX0_first_0 : List UInt8 := dkwX0_first_0 ++ []
theorem dksX0_first_0 : cX0_first.data.toList.drop 0 = dktX0_first_0 := by decide +kernel
theorem dX0_first_0 : decode cX0_first 0 = .ok (.aload_n 0, 1) := dk_42 (dk_at dksX0_first_0 0 rfl rfl)
theorem dX0_first_1 : decode cX0_first 1 = .ok (.getfield 41, 3) := dk_180 0 41 (dk_at dksX0_first_0 1 rfl rfl)
theorem dX0_first_4 : decode cX0_first 4 = .ok (.invokevirtual 102, 3) := dk_182 0 102 (dk_at dksX0_first_0 4 rfl rfl)
theorem dX0_first_7 : decode cX0_first 7 = .ok (.ifCond .eq 13, 3) := dk_153 0 13 (dk_at dksX0_first_0 7 rfl rfl)
theorem dX0_first_10 : decode cX0_first 10 = .ok (.aload_n 0, 1) := dk_42 (dk_at dksX0_first_0 10 rfl rfl)
theorem dX0_first_11 : decode cX0_first 11 = .ok (.invokevirtual 188, 3) := dk_182 0 188 (dk_at dksX0_first_0 11 rfl rfl)
theorem dX0_first_14 : decode cX0_first 14 = .ok (.getfield 258, 3) := dk_180 1 2 (dk_at dksX0_first_0 14 rfl rfl)
theorem dX0_first_17 : decode cX0_first 17 = .ok (.goto 5, 3) := dk_167 0 5 (dk_at dksX0_first_0 17 rfl rfl)
theorem dX0_first_20 : decode cX0_first 20 = .ok (.bipush (-2), 2) := dk_16 254 (dk_at dksX0_first_0 20 rfl rfl)
theorem dX0_first_22 : decode cX0_first 22 = .ok (.ireturn, 1) := dk_172 (dk_at dksX0_first_0 22 rfl rfl)
abbrev cX0_best : ByteArray := prog_1_method_32_code
def yX0_best : MethodName := ⟨RX0, "best", "()I"⟩
def dkwX0_best_0 : List UInt8 := [42, 180, 0, 41, 182, 0, 102, 154, 0, 6, 16, 254, 172, 42, 182, 1, 22, 87, 42, 180, 1, 9, 172]
abbrev dktX0_best_0 : List UInt8 := dkwX0_best_0 ++ []
theorem dksX0_best_0 : cX0_best.data.toList.drop 0 = dktX0_best_0 := by decide +kernel
theorem dX0_best_0 : decode cX0_best 0 = .ok (.aload_n 0, 1) := dk_42 (dk_at dksX0_best_0 0 rfl rfl)
theorem dX0_best_1 : decode cX0_best 1 = .ok (.getfield 41, 3) := dk_180 0 41 (dk_at dksX0_best_0 1 rfl rfl)
theorem dX0_best_4 : decode cX0_best 4 = .ok (.invokevirtual 102, 3) := dk_182 0 102 (dk_at dksX0_best_0 4 rfl rfl)
theorem dX0_best_7 : decode cX0_best 7 = .ok (.ifCond .ne 6, 3) := dk_154 0 6 (dk_at dksX0_best_0 7 rfl rfl)
theorem dX0_best_10 : decode cX0_best 10 = .ok (.bipush (-2), 2) := dk_16 254 (dk_at dksX0_best_0 10 rfl rfl)
theorem dX0_best_12 : decode cX0_best 12 = .ok (.ireturn, 1) := dk_172 (dk_at dksX0_best_0 12 rfl rfl)
theorem dX0_best_13 : decode cX0_best 13 = .ok (.aload_n 0, 1) := dk_42 (dk_at dksX0_best_0 13 rfl rfl)
theorem dX0_best_14 : decode cX0_best 14 = .ok (.invokevirtual 278, 3) := dk_182 1 22 (dk_at dksX0_best_0 14 rfl rfl)
theorem dX0_best_17 : decode cX0_best 17 = .ok (.pop, 1) := dk_87 (dk_at dksX0_best_0 17 rfl rfl)
theorem dX0_best_18 : decode cX0_best 18 = .ok (.aload_n 0, 1) := dk_42 (dk_at dksX0_best_0 18 rfl rfl)
theorem dX0_best_19 : decode cX0_best 19 = .ok (.getfield 265, 3) := dk_180 1 9 (dk_at dksX0_best_0 19 rfl rfl)
theorem dX0_best_22 : decode cX0_best 22 = .ok (.ireturn, 1) := dk_172 (dk_at dksX0_best_0 22 rfl rfl)
abbrev cX0_bestOf : ByteArray := prog_1_method_31_code
def yX0_bestOf : MethodName := ⟨RX0, "bestOf", "()I"⟩
def dkwX0_bestOf_2 : List UInt8 := [167, 0, 16, 28, 60, 42, 42, 180, 0, 52, 182, 0, 233, 181, 1, 9, 132, 2, 1, 167, 255, 199, 27, 172]
abbrev dktX0_bestOf_2 : List UInt8 := dkwX0_bestOf_2 ++ []
def dkwX0_bestOf_1 : List UInt8 := [180, 0, 52, 182, 1, 19, 157, 0, 33, 42, 180, 0, 52, 182, 0, 233, 42, 180, 1, 9, 163, 0, 6]
abbrev dktX0_bestOf_1 : List UInt8 := dkwX0_bestOf_1 ++ dktX0_bestOf_2
def dkwX0_bestOf_0 : List UInt8 := [2, 60, 42, 2, 181, 1, 9, 3, 61, 28, 42, 182, 1, 12, 162, 0, 55, 42, 28, 182, 1, 15, 87, 42]
abbrev dktX0_bestOf_0 : List UInt8 := dkwX0_bestOf_0 ++ dktX0_bestOf_1
theorem dksX0_bestOf_0 : cX0_bestOf.data.toList.drop 0 = dktX0_bestOf_0 := by decide +kernel
theorem dksX0_bestOf_1 : cX0_bestOf.data.toList.drop 24 = dktX0_bestOf_1 := dk_seg dksX0_bestOf_0 24 rfl rfl
theorem dksX0_bestOf_2 : cX0_bestOf.data.toList.drop 47 = dktX0_bestOf_2 := dk_seg dksX0_bestOf_1 23 rfl rfl
theorem dX0_bestOf_0 : decode cX0_bestOf 0 = .ok (.iconst (-1), 1) := dk_2 (dk_at dksX0_bestOf_0 0 rfl rfl)
theorem dX0_bestOf_1 : decode cX0_bestOf 1 = .ok (.istore_n 1, 1) := dk_60 (dk_at dksX0_bestOf_0 1 rfl rfl)
theorem dX0_bestOf_2 : decode cX0_bestOf 2 = .ok (.aload_n 0, 1) := dk_42 (dk_at dksX0_bestOf_0 2 rfl rfl)
theorem dX0_bestOf_3 : decode cX0_bestOf 3 = .ok (.iconst (-1), 1) := dk_2 (dk_at dksX0_bestOf_0 3 rfl rfl)
theorem dX0_bestOf_4 : decode cX0_bestOf 4 = .ok (.putfield 265, 3) := dk_181 1 9 (dk_at dksX0_bestOf_0 4 rfl rfl)
theorem dX0_bestOf_7 : decode cX0_bestOf 7 = .ok (.iconst 0, 1) := dk_3 (dk_at dksX0_bestOf_0 7 rfl rfl)
theorem dX0_bestOf_8 : decode cX0_bestOf 8 = .ok (.istore_n 2, 1) := dk_61 (dk_at dksX0_bestOf_0 8 rfl rfl)
theorem dX0_bestOf_9 : decode cX0_bestOf 9 = .ok (.iload_n 2, 1) := dk_28 (dk_at dksX0_bestOf_0 9 rfl rfl)
theorem dX0_bestOf_10 : decode cX0_bestOf 10 = .ok (.aload_n 0, 1) := dk_42 (dk_at dksX0_bestOf_0 10 rfl rfl)
theorem dX0_bestOf_11 : decode cX0_bestOf 11 = .ok (.invokevirtual 268, 3) := dk_182 1 12 (dk_at dksX0_bestOf_0 11 rfl rfl)
theorem dX0_bestOf_14 : decode cX0_bestOf 14 = .ok (.if_icmp .ge 55, 3) := dk_162 0 55 (dk_at dksX0_bestOf_0 14 rfl rfl)
theorem dX0_bestOf_17 : decode cX0_bestOf 17 = .ok (.aload_n 0, 1) := dk_42 (dk_at dksX0_bestOf_0 17 rfl rfl)
theorem dX0_bestOf_18 : decode cX0_bestOf 18 = .ok (.iload_n 2, 1) := dk_28 (dk_at dksX0_bestOf_0 18 rfl rfl)
theorem dX0_bestOf_19 : decode cX0_bestOf 19 = .ok (.invokevirtual 271, 3) := dk_182 1 15 (dk_at dksX0_bestOf_0 19 rfl rfl)
theorem dX0_bestOf_22 : decode cX0_bestOf 22 = .ok (.pop, 1) := dk_87 (dk_at dksX0_bestOf_0 22 rfl rfl)
theorem dX0_bestOf_23 : decode cX0_bestOf 23 = .ok (.aload_n 0, 1) := dk_42 (dk_at dksX0_bestOf_0 23 rfl rfl)
theorem dX0_bestOf_24 : decode cX0_bestOf 24 = .ok (.getfield 52, 3) := dk_180 0 52 (dk_at dksX0_bestOf_1 0 rfl rfl)
theorem dX0_bestOf_27 : decode cX0_bestOf 27 = .ok (.invokevirtual 275, 3) := dk_182 1 19 (dk_at dksX0_bestOf_1 3 rfl rfl)
theorem dX0_bestOf_30 : decode cX0_bestOf 30 = .ok (.ifCond .gt 33, 3) := dk_157 0 33 (dk_at dksX0_bestOf_1 6 rfl rfl)
theorem dX0_bestOf_33 : decode cX0_bestOf 33 = .ok (.aload_n 0, 1) := dk_42 (dk_at dksX0_bestOf_1 9 rfl rfl)
theorem dX0_bestOf_34 : decode cX0_bestOf 34 = .ok (.getfield 52, 3) := dk_180 0 52 (dk_at dksX0_bestOf_1 10 rfl rfl)
theorem dX0_bestOf_37 : decode cX0_bestOf 37 = .ok (.invokevirtual 233, 3) := dk_182 0 233 (dk_at dksX0_bestOf_1 13 rfl rfl)
theorem dX0_bestOf_40 : decode cX0_bestOf 40 = .ok (.aload_n 0, 1) := dk_42 (dk_at dksX0_bestOf_1 16 rfl rfl)
theorem dX0_bestOf_41 : decode cX0_bestOf 41 = .ok (.getfield 265, 3) := dk_180 1 9 (dk_at dksX0_bestOf_1 17 rfl rfl)
theorem dX0_bestOf_44 : decode cX0_bestOf 44 = .ok (.if_icmp .gt 6, 3) := dk_163 0 6 (dk_at dksX0_bestOf_1 20 rfl rfl)
theorem dX0_bestOf_47 : decode cX0_bestOf 47 = .ok (.goto 16, 3) := dk_167 0 16 (dk_at dksX0_bestOf_2 0 rfl rfl)
theorem dX0_bestOf_50 : decode cX0_bestOf 50 = .ok (.iload_n 2, 1) := dk_28 (dk_at dksX0_bestOf_2 3 rfl rfl)
theorem dX0_bestOf_51 : decode cX0_bestOf 51 = .ok (.istore_n 1, 1) := dk_60 (dk_at dksX0_bestOf_2 4 rfl rfl)
theorem dX0_bestOf_52 : decode cX0_bestOf 52 = .ok (.aload_n 0, 1) := dk_42 (dk_at dksX0_bestOf_2 5 rfl rfl)
theorem dX0_bestOf_53 : decode cX0_bestOf 53 = .ok (.aload_n 0, 1) := dk_42 (dk_at dksX0_bestOf_2 6 rfl rfl)
theorem dX0_bestOf_54 : decode cX0_bestOf 54 = .ok (.getfield 52, 3) := dk_180 0 52 (dk_at dksX0_bestOf_2 7 rfl rfl)
theorem dX0_bestOf_57 : decode cX0_bestOf 57 = .ok (.invokevirtual 233, 3) := dk_182 0 233 (dk_at dksX0_bestOf_2 10 rfl rfl)
theorem dX0_bestOf_60 : decode cX0_bestOf 60 = .ok (.putfield 265, 3) := dk_181 1 9 (dk_at dksX0_bestOf_2 13 rfl rfl)
theorem dX0_bestOf_63 : decode cX0_bestOf 63 = .ok (.iinc 2 1, 3) := dk_132 2 1 (dk_at dksX0_bestOf_2 16 rfl rfl)
theorem dX0_bestOf_66 : decode cX0_bestOf 66 = .ok (.goto (-57), 3) := dk_167 255 199 (dk_at dksX0_bestOf_2 19 rfl rfl)
theorem dX0_bestOf_69 : decode cX0_bestOf 69 = .ok (.iload_n 1, 1) := dk_27 (dk_at dksX0_bestOf_2 22 rfl rfl)
theorem dX0_bestOf_70 : decode cX0_bestOf 70 = .ok (.ireturn, 1) := dk_172 (dk_at dksX0_bestOf_2 23 rfl rfl)
abbrev cX0_manyTakers : ByteArray := prog_1_method_28_code
def yX0_manyTakers : MethodName := ⟨RX0, "manyTakers", "()I"⟩
def dkwX0_manyTakers_1 : List UInt8 := [182, 0, 140, 4, 96, 104, 60, 132, 2, 1, 167, 255, 228, 27, 172]
abbrev dktX0_manyTakers_1 : List UInt8 := dkwX0_manyTakers_1 ++ []
def dkwX0_manyTakers_0 : List UInt8 := [4, 60, 3, 61, 28, 42, 180, 0, 41, 180, 0, 149, 185, 0, 134, 1, 0, 162, 0, 18, 27, 42]
abbrev dktX0_manyTakers_0 : List UInt8 := dkwX0_manyTakers_0 ++ dktX0_manyTakers_1
theorem dksX0_manyTakers_0 : cX0_manyTakers.data.toList.drop 0 = dktX0_manyTakers_0 := by decide +kernel
theorem dksX0_manyTakers_1 : cX0_manyTakers.data.toList.drop 22 = dktX0_manyTakers_1 := dk_seg dksX0_manyTakers_0 22 rfl rfl
theorem dX0_manyTakers_0 : decode cX0_manyTakers 0 = .ok (.iconst 1, 1) := dk_4 (dk_at dksX0_manyTakers_0 0 rfl rfl)
theorem dX0_manyTakers_1 : decode cX0_manyTakers 1 = .ok (.istore_n 1, 1) := dk_60 (dk_at dksX0_manyTakers_0 1 rfl rfl)
theorem dX0_manyTakers_2 : decode cX0_manyTakers 2 = .ok (.iconst 0, 1) := dk_3 (dk_at dksX0_manyTakers_0 2 rfl rfl)
theorem dX0_manyTakers_3 : decode cX0_manyTakers 3 = .ok (.istore_n 2, 1) := dk_61 (dk_at dksX0_manyTakers_0 3 rfl rfl)
theorem dX0_manyTakers_4 : decode cX0_manyTakers 4 = .ok (.iload_n 2, 1) := dk_28 (dk_at dksX0_manyTakers_0 4 rfl rfl)
theorem dX0_manyTakers_5 : decode cX0_manyTakers 5 = .ok (.aload_n 0, 1) := dk_42 (dk_at dksX0_manyTakers_0 5 rfl rfl)
theorem dX0_manyTakers_6 : decode cX0_manyTakers 6 = .ok (.getfield 41, 3) := dk_180 0 41 (dk_at dksX0_manyTakers_0 6 rfl rfl)
theorem dX0_manyTakers_9 : decode cX0_manyTakers 9 = .ok (.getfield 149, 3) := dk_180 0 149 (dk_at dksX0_manyTakers_0 9 rfl rfl)
theorem dX0_manyTakers_12 : decode cX0_manyTakers 12 = .ok (.invokeinterface 134 1, 5) := by decide +kernel
theorem dX0_manyTakers_17 : decode cX0_manyTakers 17 = .ok (.if_icmp .ge 18, 3) := dk_162 0 18 (dk_at dksX0_manyTakers_0 17 rfl rfl)
theorem dX0_manyTakers_20 : decode cX0_manyTakers 20 = .ok (.iload_n 1, 1) := dk_27 (dk_at dksX0_manyTakers_0 20 rfl rfl)
theorem dX0_manyTakers_21 : decode cX0_manyTakers 21 = .ok (.aload_n 0, 1) := dk_42 (dk_at dksX0_manyTakers_0 21 rfl rfl)
theorem dX0_manyTakers_22 : decode cX0_manyTakers 22 = .ok (.invokevirtual 140, 3) := dk_182 0 140 (dk_at dksX0_manyTakers_1 0 rfl rfl)
theorem dX0_manyTakers_25 : decode cX0_manyTakers 25 = .ok (.iconst 1, 1) := dk_4 (dk_at dksX0_manyTakers_1 3 rfl rfl)
theorem dX0_manyTakers_26 : decode cX0_manyTakers 26 = .ok (.iadd, 1) := dk_96 (dk_at dksX0_manyTakers_1 4 rfl rfl)
theorem dX0_manyTakers_27 : decode cX0_manyTakers 27 = .ok (.imul, 1) := dk_104 (dk_at dksX0_manyTakers_1 5 rfl rfl)
theorem dX0_manyTakers_28 : decode cX0_manyTakers 28 = .ok (.istore_n 1, 1) := dk_60 (dk_at dksX0_manyTakers_1 6 rfl rfl)
theorem dX0_manyTakers_29 : decode cX0_manyTakers 29 = .ok (.iinc 2 1, 3) := dk_132 2 1 (dk_at dksX0_manyTakers_1 7 rfl rfl)
theorem dX0_manyTakers_32 : decode cX0_manyTakers 32 = .ok (.goto (-28), 3) := dk_167 255 228 (dk_at dksX0_manyTakers_1 10 rfl rfl)
theorem dX0_manyTakers_35 : decode cX0_manyTakers 35 = .ok (.iload_n 1, 1) := dk_27 (dk_at dksX0_manyTakers_1 13 rfl rfl)
theorem dX0_manyTakers_36 : decode cX0_manyTakers 36 = .ok (.ireturn, 1) := dk_172 (dk_at dksX0_manyTakers_1 14 rfl rfl)
abbrev cX0_by : ByteArray := prog_1_method_30_code
def yX0_by : MethodName := ⟨RX0, "by", "(I)LFloodLent$Year;"⟩
def dkwX0_by_1 : List UInt8 := [42, 180, 0, 52, 182, 0, 155, 176]
abbrev dktX0_by_1 : List UInt8 := dkwX0_by_1 ++ []
def dkwX0_by_0 : List UInt8 := [42, 27, 182, 1, 5, 42, 180, 0, 52, 42, 180, 0, 41, 42, 180, 0, 70, 42, 180, 0, 109, 182, 0, 152]
abbrev dktX0_by_0 : List UInt8 := dkwX0_by_0 ++ dktX0_by_1
theorem dksX0_by_0 : cX0_by.data.toList.drop 0 = dktX0_by_0 := by decide +kernel
theorem dksX0_by_1 : cX0_by.data.toList.drop 24 = dktX0_by_1 := dk_seg dksX0_by_0 24 rfl rfl
theorem dX0_by_0 : decode cX0_by 0 = .ok (.aload_n 0, 1) := dk_42 (dk_at dksX0_by_0 0 rfl rfl)
theorem dX0_by_1 : decode cX0_by 1 = .ok (.iload_n 1, 1) := dk_27 (dk_at dksX0_by_0 1 rfl rfl)
theorem dX0_by_2 : decode cX0_by 2 = .ok (.invokevirtual 261, 3) := dk_182 1 5 (dk_at dksX0_by_0 2 rfl rfl)
theorem dX0_by_5 : decode cX0_by 5 = .ok (.aload_n 0, 1) := dk_42 (dk_at dksX0_by_0 5 rfl rfl)
theorem dX0_by_6 : decode cX0_by 6 = .ok (.getfield 52, 3) := dk_180 0 52 (dk_at dksX0_by_0 6 rfl rfl)
theorem dX0_by_9 : decode cX0_by 9 = .ok (.aload_n 0, 1) := dk_42 (dk_at dksX0_by_0 9 rfl rfl)
theorem dX0_by_10 : decode cX0_by 10 = .ok (.getfield 41, 3) := dk_180 0 41 (dk_at dksX0_by_0 10 rfl rfl)
theorem dX0_by_13 : decode cX0_by 13 = .ok (.aload_n 0, 1) := dk_42 (dk_at dksX0_by_0 13 rfl rfl)
theorem dX0_by_14 : decode cX0_by 14 = .ok (.getfield 70, 3) := dk_180 0 70 (dk_at dksX0_by_0 14 rfl rfl)
theorem dX0_by_17 : decode cX0_by 17 = .ok (.aload_n 0, 1) := dk_42 (dk_at dksX0_by_0 17 rfl rfl)
theorem dX0_by_18 : decode cX0_by 18 = .ok (.getfield 109, 3) := dk_180 0 109 (dk_at dksX0_by_0 18 rfl rfl)
theorem dX0_by_21 : decode cX0_by 21 = .ok (.invokevirtual 152, 3) := dk_182 0 152 (dk_at dksX0_by_0 21 rfl rfl)
theorem dX0_by_24 : decode cX0_by 24 = .ok (.aload_n 0, 1) := dk_42 (dk_at dksX0_by_1 0 rfl rfl)
theorem dX0_by_25 : decode cX0_by 25 = .ok (.getfield 52, 3) := dk_180 0 52 (dk_at dksX0_by_1 1 rfl rfl)
theorem dX0_by_28 : decode cX0_by 28 = .ok (.invokevirtual 155, 3) := dk_182 0 155 (dk_at dksX0_by_1 4 rfl rfl)
theorem dX0_by_31 : decode cX0_by 31 = .ok (.areturn, 1) := dk_176 (dk_at dksX0_by_1 7 rfl rfl)
abbrev cX0_lays : ByteArray := prog_1_method_29_code
def yX0_lays : MethodName := ⟨RX0, "lays", "(I)V"⟩
def dkwX0_lays_2 : List UInt8 := [182, 0, 140, 4, 96, 108, 61, 132, 3, 255, 167, 255, 224, 177]
abbrev dktX0_lays_2 : List UInt8 := dkwX0_lays_2 ++ []
def dkwX0_lays_1 : List UInt8 := [62, 29, 155, 0, 34, 42, 180, 0, 70, 29, 28, 42, 182, 0, 140, 4, 96, 112, 4, 100, 79, 28, 42]
abbrev dktX0_lays_1 : List UInt8 := dkwX0_lays_1 ++ dktX0_lays_2
def dkwX0_lays_0 : List UInt8 := [42, 180, 0, 70, 2, 184, 0, 110, 27, 61, 42, 180, 0, 41, 180, 0, 149, 185, 0, 134, 1, 0, 4, 100]
abbrev dktX0_lays_0 : List UInt8 := dkwX0_lays_0 ++ dktX0_lays_1
theorem dksX0_lays_0 : cX0_lays.data.toList.drop 0 = dktX0_lays_0 := by decide +kernel
theorem dksX0_lays_1 : cX0_lays.data.toList.drop 24 = dktX0_lays_1 := dk_seg dksX0_lays_0 24 rfl rfl
theorem dksX0_lays_2 : cX0_lays.data.toList.drop 47 = dktX0_lays_2 := dk_seg dksX0_lays_1 23 rfl rfl
theorem dX0_lays_0 : decode cX0_lays 0 = .ok (.aload_n 0, 1) := dk_42 (dk_at dksX0_lays_0 0 rfl rfl)
theorem dX0_lays_1 : decode cX0_lays 1 = .ok (.getfield 70, 3) := dk_180 0 70 (dk_at dksX0_lays_0 1 rfl rfl)
theorem dX0_lays_4 : decode cX0_lays 4 = .ok (.iconst (-1), 1) := dk_2 (dk_at dksX0_lays_0 4 rfl rfl)
theorem dX0_lays_5 : decode cX0_lays 5 = .ok (.invokestatic 110, 3) := dk_184 0 110 (dk_at dksX0_lays_0 5 rfl rfl)
theorem dX0_lays_8 : decode cX0_lays 8 = .ok (.iload_n 1, 1) := dk_27 (dk_at dksX0_lays_0 8 rfl rfl)
theorem dX0_lays_9 : decode cX0_lays 9 = .ok (.istore_n 2, 1) := dk_61 (dk_at dksX0_lays_0 9 rfl rfl)
theorem dX0_lays_10 : decode cX0_lays 10 = .ok (.aload_n 0, 1) := dk_42 (dk_at dksX0_lays_0 10 rfl rfl)
theorem dX0_lays_11 : decode cX0_lays 11 = .ok (.getfield 41, 3) := dk_180 0 41 (dk_at dksX0_lays_0 11 rfl rfl)
theorem dX0_lays_14 : decode cX0_lays 14 = .ok (.getfield 149, 3) := dk_180 0 149 (dk_at dksX0_lays_0 14 rfl rfl)
theorem dX0_lays_17 : decode cX0_lays 17 = .ok (.invokeinterface 134 1, 5) := by decide +kernel
theorem dX0_lays_22 : decode cX0_lays 22 = .ok (.iconst 1, 1) := dk_4 (dk_at dksX0_lays_0 22 rfl rfl)
theorem dX0_lays_23 : decode cX0_lays 23 = .ok (.isub, 1) := dk_100 (dk_at dksX0_lays_0 23 rfl rfl)
theorem dX0_lays_24 : decode cX0_lays 24 = .ok (.istore_n 3, 1) := dk_62 (dk_at dksX0_lays_1 0 rfl rfl)
theorem dX0_lays_25 : decode cX0_lays 25 = .ok (.iload_n 3, 1) := dk_29 (dk_at dksX0_lays_1 1 rfl rfl)
theorem dX0_lays_26 : decode cX0_lays 26 = .ok (.ifCond .lt 34, 3) := dk_155 0 34 (dk_at dksX0_lays_1 2 rfl rfl)
theorem dX0_lays_29 : decode cX0_lays 29 = .ok (.aload_n 0, 1) := dk_42 (dk_at dksX0_lays_1 5 rfl rfl)
theorem dX0_lays_30 : decode cX0_lays 30 = .ok (.getfield 70, 3) := dk_180 0 70 (dk_at dksX0_lays_1 6 rfl rfl)
theorem dX0_lays_33 : decode cX0_lays 33 = .ok (.iload_n 3, 1) := dk_29 (dk_at dksX0_lays_1 9 rfl rfl)
theorem dX0_lays_34 : decode cX0_lays 34 = .ok (.iload_n 2, 1) := dk_28 (dk_at dksX0_lays_1 10 rfl rfl)
theorem dX0_lays_35 : decode cX0_lays 35 = .ok (.aload_n 0, 1) := dk_42 (dk_at dksX0_lays_1 11 rfl rfl)
theorem dX0_lays_36 : decode cX0_lays 36 = .ok (.invokevirtual 140, 3) := dk_182 0 140 (dk_at dksX0_lays_1 12 rfl rfl)
theorem dX0_lays_39 : decode cX0_lays 39 = .ok (.iconst 1, 1) := dk_4 (dk_at dksX0_lays_1 15 rfl rfl)
theorem dX0_lays_40 : decode cX0_lays 40 = .ok (.iadd, 1) := dk_96 (dk_at dksX0_lays_1 16 rfl rfl)
theorem dX0_lays_41 : decode cX0_lays 41 = .ok (.irem, 1) := dk_112 (dk_at dksX0_lays_1 17 rfl rfl)
theorem dX0_lays_42 : decode cX0_lays 42 = .ok (.iconst 1, 1) := dk_4 (dk_at dksX0_lays_1 18 rfl rfl)
theorem dX0_lays_43 : decode cX0_lays 43 = .ok (.isub, 1) := dk_100 (dk_at dksX0_lays_1 19 rfl rfl)
theorem dX0_lays_44 : decode cX0_lays 44 = .ok (.iastore, 1) := dk_79 (dk_at dksX0_lays_1 20 rfl rfl)
theorem dX0_lays_45 : decode cX0_lays 45 = .ok (.iload_n 2, 1) := dk_28 (dk_at dksX0_lays_1 21 rfl rfl)
theorem dX0_lays_46 : decode cX0_lays 46 = .ok (.aload_n 0, 1) := dk_42 (dk_at dksX0_lays_1 22 rfl rfl)
theorem dX0_lays_47 : decode cX0_lays 47 = .ok (.invokevirtual 140, 3) := dk_182 0 140 (dk_at dksX0_lays_2 0 rfl rfl)
theorem dX0_lays_50 : decode cX0_lays 50 = .ok (.iconst 1, 1) := dk_4 (dk_at dksX0_lays_2 3 rfl rfl)
theorem dX0_lays_51 : decode cX0_lays 51 = .ok (.iadd, 1) := dk_96 (dk_at dksX0_lays_2 4 rfl rfl)
theorem dX0_lays_52 : decode cX0_lays 52 = .ok (.idiv, 1) := dk_108 (dk_at dksX0_lays_2 5 rfl rfl)
theorem dX0_lays_53 : decode cX0_lays 53 = .ok (.istore_n 2, 1) := dk_61 (dk_at dksX0_lays_2 6 rfl rfl)
theorem dX0_lays_54 : decode cX0_lays 54 = .ok (.iinc 3 (-1), 3) := dk_132 3 255 (dk_at dksX0_lays_2 7 rfl rfl)
theorem dX0_lays_57 : decode cX0_lays 57 = .ok (.goto (-32), 3) := dk_167 255 224 (dk_at dksX0_lays_2 10 rfl rfl)
theorem dX0_lays_60 : decode cX0_lays 60 = .ok (.return_, 1) := dk_177 (dk_at dksX0_lays_2 13 rfl rfl)
abbrev cX0_taker : ByteArray := prog_1_method_33_code
def yX0_taker : MethodName := ⟨RX0, "taker", "(I)I"⟩
def dkwX0_taker_1 : List UInt8 := [28, 182, 1, 5, 42, 180, 0, 70, 27, 46, 172]
abbrev dktX0_taker_1 : List UInt8 := dkwX0_taker_1 ++ []
def dkwX0_taker_0 : List UInt8 := [42, 27, 182, 0, 182, 154, 0, 6, 16, 254, 172, 42, 182, 1, 22, 61, 28, 2, 160, 0, 5, 2, 172, 42]
abbrev dktX0_taker_0 : List UInt8 := dkwX0_taker_0 ++ dktX0_taker_1
theorem dksX0_taker_0 : cX0_taker.data.toList.drop 0 = dktX0_taker_0 := by decide +kernel
theorem dksX0_taker_1 : cX0_taker.data.toList.drop 24 = dktX0_taker_1 := dk_seg dksX0_taker_0 24 rfl rfl
theorem dX0_taker_0 : decode cX0_taker 0 = .ok (.aload_n 0, 1) := dk_42 (dk_at dksX0_taker_0 0 rfl rfl)
theorem dX0_taker_1 : decode cX0_taker 1 = .ok (.iload_n 1, 1) := dk_27 (dk_at dksX0_taker_0 1 rfl rfl)
theorem dX0_taker_2 : decode cX0_taker 2 = .ok (.invokevirtual 182, 3) := dk_182 0 182 (dk_at dksX0_taker_0 2 rfl rfl)
theorem dX0_taker_5 : decode cX0_taker 5 = .ok (.ifCond .ne 6, 3) := dk_154 0 6 (dk_at dksX0_taker_0 5 rfl rfl)
theorem dX0_taker_8 : decode cX0_taker 8 = .ok (.bipush (-2), 2) := dk_16 254 (dk_at dksX0_taker_0 8 rfl rfl)
theorem dX0_taker_10 : decode cX0_taker 10 = .ok (.ireturn, 1) := dk_172 (dk_at dksX0_taker_0 10 rfl rfl)
theorem dX0_taker_11 : decode cX0_taker 11 = .ok (.aload_n 0, 1) := dk_42 (dk_at dksX0_taker_0 11 rfl rfl)
theorem dX0_taker_12 : decode cX0_taker 12 = .ok (.invokevirtual 278, 3) := dk_182 1 22 (dk_at dksX0_taker_0 12 rfl rfl)
theorem dX0_taker_15 : decode cX0_taker 15 = .ok (.istore_n 2, 1) := dk_61 (dk_at dksX0_taker_0 15 rfl rfl)
theorem dX0_taker_16 : decode cX0_taker 16 = .ok (.iload_n 2, 1) := dk_28 (dk_at dksX0_taker_0 16 rfl rfl)
theorem dX0_taker_17 : decode cX0_taker 17 = .ok (.iconst (-1), 1) := dk_2 (dk_at dksX0_taker_0 17 rfl rfl)
theorem dX0_taker_18 : decode cX0_taker 18 = .ok (.if_icmp .ne 5, 3) := dk_160 0 5 (dk_at dksX0_taker_0 18 rfl rfl)
theorem dX0_taker_21 : decode cX0_taker 21 = .ok (.iconst (-1), 1) := dk_2 (dk_at dksX0_taker_0 21 rfl rfl)
theorem dX0_taker_22 : decode cX0_taker 22 = .ok (.ireturn, 1) := dk_172 (dk_at dksX0_taker_0 22 rfl rfl)
theorem dX0_taker_23 : decode cX0_taker 23 = .ok (.aload_n 0, 1) := dk_42 (dk_at dksX0_taker_0 23 rfl rfl)
theorem dX0_taker_24 : decode cX0_taker 24 = .ok (.iload_n 2, 1) := dk_28 (dk_at dksX0_taker_1 0 rfl rfl)
theorem dX0_taker_25 : decode cX0_taker 25 = .ok (.invokevirtual 261, 3) := dk_182 1 5 (dk_at dksX0_taker_1 1 rfl rfl)
theorem dX0_taker_28 : decode cX0_taker 28 = .ok (.aload_n 0, 1) := dk_42 (dk_at dksX0_taker_1 4 rfl rfl)
theorem dX0_taker_29 : decode cX0_taker 29 = .ok (.getfield 70, 3) := dk_180 0 70 (dk_at dksX0_taker_1 5 rfl rfl)
theorem dX0_taker_32 : decode cX0_taker 32 = .ok (.iload_n 1, 1) := dk_27 (dk_at dksX0_taker_1 8 rfl rfl)
theorem dX0_taker_33 : decode cX0_taker 33 = .ok (.iaload, 1) := dk_46 (dk_at dksX0_taker_1 9 rfl rfl)
theorem dX0_taker_34 : decode cX0_taker 34 = .ok (.ireturn, 1) := dk_172 (dk_at dksX0_taker_1 10 rfl rfl)
abbrev cX0_safe : ByteArray := prog_1_method_34_code
def yX0_safe : MethodName := ⟨RX0, "safe", "()I"⟩
def dkwX0_safe_2 : List UInt8 := [132, 2, 1, 167, 255, 226, 27, 172]
abbrev dktX0_safe_2 : List UInt8 := dkwX0_safe_2 ++ []
def dkwX0_safe_1 : List UInt8 := [162, 0, 28, 27, 42, 28, 182, 1, 15, 182, 1, 19, 154, 0, 7, 4, 167, 0, 4, 3, 96, 60]
abbrev dktX0_safe_1 : List UInt8 := dkwX0_safe_1 ++ dktX0_safe_2
def dkwX0_safe_0 : List UInt8 := [42, 180, 0, 41, 182, 0, 102, 154, 0, 6, 16, 254, 172, 3, 60, 3, 61, 28, 42, 182, 1, 12]
abbrev dktX0_safe_0 : List UInt8 := dkwX0_safe_0 ++ dktX0_safe_1
theorem dksX0_safe_0 : cX0_safe.data.toList.drop 0 = dktX0_safe_0 := by decide +kernel
theorem dksX0_safe_1 : cX0_safe.data.toList.drop 22 = dktX0_safe_1 := dk_seg dksX0_safe_0 22 rfl rfl
theorem dksX0_safe_2 : cX0_safe.data.toList.drop 44 = dktX0_safe_2 := dk_seg dksX0_safe_1 22 rfl rfl
theorem dX0_safe_0 : decode cX0_safe 0 = .ok (.aload_n 0, 1) := dk_42 (dk_at dksX0_safe_0 0 rfl rfl)
theorem dX0_safe_1 : decode cX0_safe 1 = .ok (.getfield 41, 3) := dk_180 0 41 (dk_at dksX0_safe_0 1 rfl rfl)
theorem dX0_safe_4 : decode cX0_safe 4 = .ok (.invokevirtual 102, 3) := dk_182 0 102 (dk_at dksX0_safe_0 4 rfl rfl)
theorem dX0_safe_7 : decode cX0_safe 7 = .ok (.ifCond .ne 6, 3) := dk_154 0 6 (dk_at dksX0_safe_0 7 rfl rfl)
theorem dX0_safe_10 : decode cX0_safe 10 = .ok (.bipush (-2), 2) := dk_16 254 (dk_at dksX0_safe_0 10 rfl rfl)
theorem dX0_safe_12 : decode cX0_safe 12 = .ok (.ireturn, 1) := dk_172 (dk_at dksX0_safe_0 12 rfl rfl)
theorem dX0_safe_13 : decode cX0_safe 13 = .ok (.iconst 0, 1) := dk_3 (dk_at dksX0_safe_0 13 rfl rfl)
theorem dX0_safe_14 : decode cX0_safe 14 = .ok (.istore_n 1, 1) := dk_60 (dk_at dksX0_safe_0 14 rfl rfl)
theorem dX0_safe_15 : decode cX0_safe 15 = .ok (.iconst 0, 1) := dk_3 (dk_at dksX0_safe_0 15 rfl rfl)
theorem dX0_safe_16 : decode cX0_safe 16 = .ok (.istore_n 2, 1) := dk_61 (dk_at dksX0_safe_0 16 rfl rfl)
theorem dX0_safe_17 : decode cX0_safe 17 = .ok (.iload_n 2, 1) := dk_28 (dk_at dksX0_safe_0 17 rfl rfl)
theorem dX0_safe_18 : decode cX0_safe 18 = .ok (.aload_n 0, 1) := dk_42 (dk_at dksX0_safe_0 18 rfl rfl)
theorem dX0_safe_19 : decode cX0_safe 19 = .ok (.invokevirtual 268, 3) := dk_182 1 12 (dk_at dksX0_safe_0 19 rfl rfl)
theorem dX0_safe_22 : decode cX0_safe 22 = .ok (.if_icmp .ge 28, 3) := dk_162 0 28 (dk_at dksX0_safe_1 0 rfl rfl)
theorem dX0_safe_25 : decode cX0_safe 25 = .ok (.iload_n 1, 1) := dk_27 (dk_at dksX0_safe_1 3 rfl rfl)
theorem dX0_safe_26 : decode cX0_safe 26 = .ok (.aload_n 0, 1) := dk_42 (dk_at dksX0_safe_1 4 rfl rfl)
theorem dX0_safe_27 : decode cX0_safe 27 = .ok (.iload_n 2, 1) := dk_28 (dk_at dksX0_safe_1 5 rfl rfl)
theorem dX0_safe_28 : decode cX0_safe 28 = .ok (.invokevirtual 271, 3) := dk_182 1 15 (dk_at dksX0_safe_1 6 rfl rfl)
theorem dX0_safe_31 : decode cX0_safe 31 = .ok (.invokevirtual 275, 3) := dk_182 1 19 (dk_at dksX0_safe_1 9 rfl rfl)
theorem dX0_safe_34 : decode cX0_safe 34 = .ok (.ifCond .ne 7, 3) := dk_154 0 7 (dk_at dksX0_safe_1 12 rfl rfl)
theorem dX0_safe_37 : decode cX0_safe 37 = .ok (.iconst 1, 1) := dk_4 (dk_at dksX0_safe_1 15 rfl rfl)
theorem dX0_safe_38 : decode cX0_safe 38 = .ok (.goto 4, 3) := dk_167 0 4 (dk_at dksX0_safe_1 16 rfl rfl)
theorem dX0_safe_41 : decode cX0_safe 41 = .ok (.iconst 0, 1) := dk_3 (dk_at dksX0_safe_1 19 rfl rfl)
theorem dX0_safe_42 : decode cX0_safe 42 = .ok (.iadd, 1) := dk_96 (dk_at dksX0_safe_1 20 rfl rfl)
theorem dX0_safe_43 : decode cX0_safe 43 = .ok (.istore_n 1, 1) := dk_60 (dk_at dksX0_safe_1 21 rfl rfl)
theorem dX0_safe_44 : decode cX0_safe 44 = .ok (.iinc 2 1, 3) := dk_132 2 1 (dk_at dksX0_safe_2 0 rfl rfl)
theorem dX0_safe_47 : decode cX0_safe 47 = .ok (.goto (-30), 3) := dk_167 255 226 (dk_at dksX0_safe_2 3 rfl rfl)
theorem dX0_safe_50 : decode cX0_safe 50 = .ok (.iload_n 1, 1) := dk_27 (dk_at dksX0_safe_2 6 rfl rfl)
theorem dX0_safe_51 : decode cX0_safe 51 = .ok (.ireturn, 1) := dk_172 (dk_at dksX0_safe_2 7 rfl rfl)
abbrev cX0_hope : ByteArray := prog_1_method_38_code
def yX0_hope : MethodName := ⟨RX0, "hope", "(I)J"⟩
def dkwX0_hope_1 : List UInt8 := [180, 0, 45, 182, 1, 48, 27, 182, 1, 52, 167, 0, 6, 20, 1, 55, 173]
abbrev dktX0_hope_1 : List UInt8 := dkwX0_hope_1 ++ []
def dkwX0_hope_0 : List UInt8 := [42, 180, 0, 41, 182, 0, 102, 153, 0, 29, 27, 133, 9, 10, 184, 0, 5, 153, 0, 19, 42, 42, 42]
abbrev dktX0_hope_0 : List UInt8 := dkwX0_hope_0 ++ dktX0_hope_1
theorem dksX0_hope_0 : cX0_hope.data.toList.drop 0 = dktX0_hope_0 := by decide +kernel
theorem dksX0_hope_1 : cX0_hope.data.toList.drop 23 = dktX0_hope_1 := dk_seg dksX0_hope_0 23 rfl rfl
theorem dX0_hope_0 : decode cX0_hope 0 = .ok (.aload_n 0, 1) := dk_42 (dk_at dksX0_hope_0 0 rfl rfl)
theorem dX0_hope_1 : decode cX0_hope 1 = .ok (.getfield 41, 3) := dk_180 0 41 (dk_at dksX0_hope_0 1 rfl rfl)
theorem dX0_hope_4 : decode cX0_hope 4 = .ok (.invokevirtual 102, 3) := dk_182 0 102 (dk_at dksX0_hope_0 4 rfl rfl)
theorem dX0_hope_7 : decode cX0_hope 7 = .ok (.ifCond .eq 29, 3) := dk_153 0 29 (dk_at dksX0_hope_0 7 rfl rfl)
theorem dX0_hope_10 : decode cX0_hope 10 = .ok (.iload_n 1, 1) := dk_27 (dk_at dksX0_hope_0 10 rfl rfl)
theorem dX0_hope_11 : decode cX0_hope 11 = .ok (.i2l, 1) := dk_133 (dk_at dksX0_hope_0 11 rfl rfl)
theorem dX0_hope_12 : decode cX0_hope 12 = .ok (.lconst 0, 1) := dk_9 (dk_at dksX0_hope_0 12 rfl rfl)
theorem dX0_hope_13 : decode cX0_hope 13 = .ok (.lconst 1, 1) := dk_10 (dk_at dksX0_hope_0 13 rfl rfl)
theorem dX0_hope_14 : decode cX0_hope 14 = .ok (.invokestatic 5, 3) := dk_184 0 5 (dk_at dksX0_hope_0 14 rfl rfl)
theorem dX0_hope_17 : decode cX0_hope 17 = .ok (.ifCond .eq 19, 3) := dk_153 0 19 (dk_at dksX0_hope_0 17 rfl rfl)
theorem dX0_hope_20 : decode cX0_hope 20 = .ok (.aload_n 0, 1) := dk_42 (dk_at dksX0_hope_0 20 rfl rfl)
theorem dX0_hope_21 : decode cX0_hope 21 = .ok (.aload_n 0, 1) := dk_42 (dk_at dksX0_hope_0 21 rfl rfl)
theorem dX0_hope_22 : decode cX0_hope 22 = .ok (.aload_n 0, 1) := dk_42 (dk_at dksX0_hope_0 22 rfl rfl)
theorem dX0_hope_23 : decode cX0_hope 23 = .ok (.getfield 45, 3) := dk_180 0 45 (dk_at dksX0_hope_1 0 rfl rfl)
theorem dX0_hope_26 : decode cX0_hope 26 = .ok (.invokevirtual 304, 3) := dk_182 1 48 (dk_at dksX0_hope_1 3 rfl rfl)
theorem dX0_hope_29 : decode cX0_hope 29 = .ok (.iload_n 1, 1) := dk_27 (dk_at dksX0_hope_1 6 rfl rfl)
theorem dX0_hope_30 : decode cX0_hope 30 = .ok (.invokevirtual 308, 3) := dk_182 1 52 (dk_at dksX0_hope_1 7 rfl rfl)
theorem dX0_hope_33 : decode cX0_hope 33 = .ok (.goto 6, 3) := dk_167 0 6 (dk_at dksX0_hope_1 10 rfl rfl)
theorem dX0_hope_36 : decode cX0_hope 36 = .ok (.ldc2_w 311, 3) := dk_20 1 55 (dk_at dksX0_hope_1 13 rfl rfl)
theorem dX0_hope_39 : decode cX0_hope 39 = .ok (.lreturn, 1) := dk_173 (dk_at dksX0_hope_1 16 rfl rfl)
abbrev cX0_hopeBy : ByteArray := prog_1_method_35_code
def yX0_hopeBy : MethodName := ⟨RX0, "hopeBy", "([I)J"⟩
def dkwX0_hopeBy_7 : List UInt8 := [180, 0, 52, 182, 1, 19, 100, 133, 105, 97, 65, 132, 5, 1, 167, 255, 97, 32, 173]
abbrev dktX0_hopeBy_7 : List UInt8 := dkwX0_hopeBy_7 ++ []
def dkwX0_hopeBy_6 : List UInt8 := [21, 5, 181, 1, 33, 42, 180, 0, 52, 182, 0, 155, 87, 32, 22, 6, 42, 180, 0, 52, 182, 0, 233, 42]
abbrev dktX0_hopeBy_6 : List UInt8 := dkwX0_hopeBy_6 ++ dktX0_hopeBy_7
def dkwX0_hopeBy_5 : List UInt8 := [167, 0, 58, 42, 180, 0, 52, 42, 180, 0, 41, 43, 42, 180, 0, 109, 182, 0, 152, 42, 180, 0, 52]
abbrev dktX0_hopeBy_5 : List UInt8 := dkwX0_hopeBy_5 ++ dktX0_hopeBy_6
def dkwX0_hopeBy_4 : List UInt8 := [192, 1, 28, 180, 1, 30, 100, 133, 105, 55, 6, 132, 8, 1, 167, 255, 183, 22, 6, 9, 148, 154, 0, 6]
abbrev dktX0_hopeBy_4 : List UInt8 := dkwX0_hopeBy_4 ++ dktX0_hopeBy_5
def dkwX0_hopeBy_3 : List UInt8 := [180, 1, 30, 133, 167, 0, 27, 16, 100, 42, 180, 0, 41, 180, 0, 149, 21, 8, 185, 0, 161, 2, 0]
abbrev dktX0_hopeBy_3 : List UInt8 := dkwX0_hopeBy_3 ++ dktX0_hopeBy_4
def dkwX0_hopeBy_2 : List UInt8 := [184, 1, 25, 153, 0, 27, 42, 180, 0, 41, 180, 0, 149, 21, 8, 185, 0, 161, 2, 0, 192, 1, 28]
abbrev dktX0_hopeBy_2 : List UInt8 := dkwX0_hopeBy_2 ++ dktX0_hopeBy_3
def dkwX0_hopeBy_1 : List UInt8 := [120, 162, 0, 156, 10, 55, 6, 3, 54, 8, 21, 8, 21, 4, 162, 0, 72, 22, 6, 21, 5, 21, 8]
abbrev dktX0_hopeBy_1 : List UInt8 := dkwX0_hopeBy_1 ++ dktX0_hopeBy_2
def dkwX0_hopeBy_0 : List UInt8 := [9, 65, 42, 180, 0, 41, 180, 0, 149, 185, 0, 134, 1, 0, 54, 4, 3, 54, 5, 21, 5, 4, 21, 4]
abbrev dktX0_hopeBy_0 : List UInt8 := dkwX0_hopeBy_0 ++ dktX0_hopeBy_1
theorem dksX0_hopeBy_0 : cX0_hopeBy.data.toList.drop 0 = dktX0_hopeBy_0 := by decide +kernel
theorem dksX0_hopeBy_1 : cX0_hopeBy.data.toList.drop 24 = dktX0_hopeBy_1 := dk_seg dksX0_hopeBy_0 24 rfl rfl
theorem dksX0_hopeBy_2 : cX0_hopeBy.data.toList.drop 47 = dktX0_hopeBy_2 := dk_seg dksX0_hopeBy_1 23 rfl rfl
theorem dksX0_hopeBy_3 : cX0_hopeBy.data.toList.drop 70 = dktX0_hopeBy_3 := dk_seg dksX0_hopeBy_2 23 rfl rfl
theorem dksX0_hopeBy_4 : cX0_hopeBy.data.toList.drop 93 = dktX0_hopeBy_4 := dk_seg dksX0_hopeBy_3 23 rfl rfl
theorem dksX0_hopeBy_5 : cX0_hopeBy.data.toList.drop 117 = dktX0_hopeBy_5 := dk_seg dksX0_hopeBy_4 24 rfl rfl
theorem dksX0_hopeBy_6 : cX0_hopeBy.data.toList.drop 140 = dktX0_hopeBy_6 := dk_seg dksX0_hopeBy_5 23 rfl rfl
theorem dksX0_hopeBy_7 : cX0_hopeBy.data.toList.drop 164 = dktX0_hopeBy_7 := dk_seg dksX0_hopeBy_6 24 rfl rfl
theorem dX0_hopeBy_0 : decode cX0_hopeBy 0 = .ok (.lconst 0, 1) := dk_9 (dk_at dksX0_hopeBy_0 0 rfl rfl)
theorem dX0_hopeBy_1 : decode cX0_hopeBy 1 = .ok (.lstore_n 2, 1) := dk_65 (dk_at dksX0_hopeBy_0 1 rfl rfl)
theorem dX0_hopeBy_2 : decode cX0_hopeBy 2 = .ok (.aload_n 0, 1) := dk_42 (dk_at dksX0_hopeBy_0 2 rfl rfl)
theorem dX0_hopeBy_3 : decode cX0_hopeBy 3 = .ok (.getfield 41, 3) := dk_180 0 41 (dk_at dksX0_hopeBy_0 3 rfl rfl)
theorem dX0_hopeBy_6 : decode cX0_hopeBy 6 = .ok (.getfield 149, 3) := dk_180 0 149 (dk_at dksX0_hopeBy_0 6 rfl rfl)
theorem dX0_hopeBy_9 : decode cX0_hopeBy 9 = .ok (.invokeinterface 134 1, 5) := by decide +kernel
theorem dX0_hopeBy_14 : decode cX0_hopeBy 14 = .ok (.istore 4, 2) := dk_54 4 (dk_at dksX0_hopeBy_0 14 rfl rfl)
theorem dX0_hopeBy_16 : decode cX0_hopeBy 16 = .ok (.iconst 0, 1) := dk_3 (dk_at dksX0_hopeBy_0 16 rfl rfl)
theorem dX0_hopeBy_17 : decode cX0_hopeBy 17 = .ok (.istore 5, 2) := dk_54 5 (dk_at dksX0_hopeBy_0 17 rfl rfl)
theorem dX0_hopeBy_19 : decode cX0_hopeBy 19 = .ok (.iload 5, 2) := dk_21 5 (dk_at dksX0_hopeBy_0 19 rfl rfl)
theorem dX0_hopeBy_21 : decode cX0_hopeBy 21 = .ok (.iconst 1, 1) := dk_4 (dk_at dksX0_hopeBy_0 21 rfl rfl)
theorem dX0_hopeBy_22 : decode cX0_hopeBy 22 = .ok (.iload 4, 2) := dk_21 4 (dk_at dksX0_hopeBy_0 22 rfl rfl)
theorem dX0_hopeBy_24 : decode cX0_hopeBy 24 = .ok (.ishl, 1) := dk_120 (dk_at dksX0_hopeBy_1 0 rfl rfl)
theorem dX0_hopeBy_25 : decode cX0_hopeBy 25 = .ok (.if_icmp .ge 156, 3) := dk_162 0 156 (dk_at dksX0_hopeBy_1 1 rfl rfl)
theorem dX0_hopeBy_28 : decode cX0_hopeBy 28 = .ok (.lconst 1, 1) := dk_10 (dk_at dksX0_hopeBy_1 4 rfl rfl)
theorem dX0_hopeBy_29 : decode cX0_hopeBy 29 = .ok (.lstore 6, 2) := dk_55 6 (dk_at dksX0_hopeBy_1 5 rfl rfl)
theorem dX0_hopeBy_31 : decode cX0_hopeBy 31 = .ok (.iconst 0, 1) := dk_3 (dk_at dksX0_hopeBy_1 7 rfl rfl)
theorem dX0_hopeBy_32 : decode cX0_hopeBy 32 = .ok (.istore 8, 2) := dk_54 8 (dk_at dksX0_hopeBy_1 8 rfl rfl)
theorem dX0_hopeBy_34 : decode cX0_hopeBy 34 = .ok (.iload 8, 2) := dk_21 8 (dk_at dksX0_hopeBy_1 10 rfl rfl)
theorem dX0_hopeBy_36 : decode cX0_hopeBy 36 = .ok (.iload 4, 2) := dk_21 4 (dk_at dksX0_hopeBy_1 12 rfl rfl)
theorem dX0_hopeBy_38 : decode cX0_hopeBy 38 = .ok (.if_icmp .ge 72, 3) := dk_162 0 72 (dk_at dksX0_hopeBy_1 14 rfl rfl)
theorem dX0_hopeBy_41 : decode cX0_hopeBy 41 = .ok (.lload 6, 2) := dk_22 6 (dk_at dksX0_hopeBy_1 17 rfl rfl)
theorem dX0_hopeBy_43 : decode cX0_hopeBy 43 = .ok (.iload 5, 2) := dk_21 5 (dk_at dksX0_hopeBy_1 19 rfl rfl)
theorem dX0_hopeBy_45 : decode cX0_hopeBy 45 = .ok (.iload 8, 2) := dk_21 8 (dk_at dksX0_hopeBy_1 21 rfl rfl)
theorem dX0_hopeBy_47 : decode cX0_hopeBy 47 = .ok (.invokestatic 281, 3) := dk_184 1 25 (dk_at dksX0_hopeBy_2 0 rfl rfl)
theorem dX0_hopeBy_50 : decode cX0_hopeBy 50 = .ok (.ifCond .eq 27, 3) := dk_153 0 27 (dk_at dksX0_hopeBy_2 3 rfl rfl)
theorem dX0_hopeBy_53 : decode cX0_hopeBy 53 = .ok (.aload_n 0, 1) := dk_42 (dk_at dksX0_hopeBy_2 6 rfl rfl)
theorem dX0_hopeBy_54 : decode cX0_hopeBy 54 = .ok (.getfield 41, 3) := dk_180 0 41 (dk_at dksX0_hopeBy_2 7 rfl rfl)
theorem dX0_hopeBy_57 : decode cX0_hopeBy 57 = .ok (.getfield 149, 3) := dk_180 0 149 (dk_at dksX0_hopeBy_2 10 rfl rfl)
theorem dX0_hopeBy_60 : decode cX0_hopeBy 60 = .ok (.iload 8, 2) := dk_21 8 (dk_at dksX0_hopeBy_2 13 rfl rfl)
theorem dX0_hopeBy_62 : decode cX0_hopeBy 62 = .ok (.invokeinterface 161 2, 5) := by decide +kernel
theorem dX0_hopeBy_67 : decode cX0_hopeBy 67 = .ok (.checkcast 284, 3) := dk_192 1 28 (dk_at dksX0_hopeBy_2 20 rfl rfl)
theorem dX0_hopeBy_70 : decode cX0_hopeBy 70 = .ok (.getfield 286, 3) := dk_180 1 30 (dk_at dksX0_hopeBy_3 0 rfl rfl)
theorem dX0_hopeBy_73 : decode cX0_hopeBy 73 = .ok (.i2l, 1) := dk_133 (dk_at dksX0_hopeBy_3 3 rfl rfl)
theorem dX0_hopeBy_74 : decode cX0_hopeBy 74 = .ok (.goto 27, 3) := dk_167 0 27 (dk_at dksX0_hopeBy_3 4 rfl rfl)
theorem dX0_hopeBy_77 : decode cX0_hopeBy 77 = .ok (.bipush 100, 2) := dk_16 100 (dk_at dksX0_hopeBy_3 7 rfl rfl)
theorem dX0_hopeBy_79 : decode cX0_hopeBy 79 = .ok (.aload_n 0, 1) := dk_42 (dk_at dksX0_hopeBy_3 9 rfl rfl)
theorem dX0_hopeBy_80 : decode cX0_hopeBy 80 = .ok (.getfield 41, 3) := dk_180 0 41 (dk_at dksX0_hopeBy_3 10 rfl rfl)
theorem dX0_hopeBy_83 : decode cX0_hopeBy 83 = .ok (.getfield 149, 3) := dk_180 0 149 (dk_at dksX0_hopeBy_3 13 rfl rfl)
theorem dX0_hopeBy_86 : decode cX0_hopeBy 86 = .ok (.iload 8, 2) := dk_21 8 (dk_at dksX0_hopeBy_3 16 rfl rfl)
theorem dX0_hopeBy_88 : decode cX0_hopeBy 88 = .ok (.invokeinterface 161 2, 5) := by decide +kernel
theorem dX0_hopeBy_93 : decode cX0_hopeBy 93 = .ok (.checkcast 284, 3) := dk_192 1 28 (dk_at dksX0_hopeBy_4 0 rfl rfl)
theorem dX0_hopeBy_96 : decode cX0_hopeBy 96 = .ok (.getfield 286, 3) := dk_180 1 30 (dk_at dksX0_hopeBy_4 3 rfl rfl)
theorem dX0_hopeBy_99 : decode cX0_hopeBy 99 = .ok (.isub, 1) := dk_100 (dk_at dksX0_hopeBy_4 6 rfl rfl)
theorem dX0_hopeBy_100 : decode cX0_hopeBy 100 = .ok (.i2l, 1) := dk_133 (dk_at dksX0_hopeBy_4 7 rfl rfl)
theorem dX0_hopeBy_101 : decode cX0_hopeBy 101 = .ok (.lmul, 1) := dk_105 (dk_at dksX0_hopeBy_4 8 rfl rfl)
theorem dX0_hopeBy_102 : decode cX0_hopeBy 102 = .ok (.lstore 6, 2) := dk_55 6 (dk_at dksX0_hopeBy_4 9 rfl rfl)
theorem dX0_hopeBy_104 : decode cX0_hopeBy 104 = .ok (.iinc 8 1, 3) := dk_132 8 1 (dk_at dksX0_hopeBy_4 11 rfl rfl)
theorem dX0_hopeBy_107 : decode cX0_hopeBy 107 = .ok (.goto (-73), 3) := dk_167 255 183 (dk_at dksX0_hopeBy_4 14 rfl rfl)
theorem dX0_hopeBy_110 : decode cX0_hopeBy 110 = .ok (.lload 6, 2) := dk_22 6 (dk_at dksX0_hopeBy_4 17 rfl rfl)
theorem dX0_hopeBy_112 : decode cX0_hopeBy 112 = .ok (.lconst 0, 1) := dk_9 (dk_at dksX0_hopeBy_4 19 rfl rfl)
theorem dX0_hopeBy_113 : decode cX0_hopeBy 113 = .ok (.lcmp, 1) := dk_148 (dk_at dksX0_hopeBy_4 20 rfl rfl)
theorem dX0_hopeBy_114 : decode cX0_hopeBy 114 = .ok (.ifCond .ne 6, 3) := dk_154 0 6 (dk_at dksX0_hopeBy_4 21 rfl rfl)
theorem dX0_hopeBy_117 : decode cX0_hopeBy 117 = .ok (.goto 58, 3) := dk_167 0 58 (dk_at dksX0_hopeBy_5 0 rfl rfl)
theorem dX0_hopeBy_120 : decode cX0_hopeBy 120 = .ok (.aload_n 0, 1) := dk_42 (dk_at dksX0_hopeBy_5 3 rfl rfl)
theorem dX0_hopeBy_121 : decode cX0_hopeBy 121 = .ok (.getfield 52, 3) := dk_180 0 52 (dk_at dksX0_hopeBy_5 4 rfl rfl)
theorem dX0_hopeBy_124 : decode cX0_hopeBy 124 = .ok (.aload_n 0, 1) := dk_42 (dk_at dksX0_hopeBy_5 7 rfl rfl)
theorem dX0_hopeBy_125 : decode cX0_hopeBy 125 = .ok (.getfield 41, 3) := dk_180 0 41 (dk_at dksX0_hopeBy_5 8 rfl rfl)
theorem dX0_hopeBy_128 : decode cX0_hopeBy 128 = .ok (.aload_n 1, 1) := dk_43 (dk_at dksX0_hopeBy_5 11 rfl rfl)
theorem dX0_hopeBy_129 : decode cX0_hopeBy 129 = .ok (.aload_n 0, 1) := dk_42 (dk_at dksX0_hopeBy_5 12 rfl rfl)
theorem dX0_hopeBy_130 : decode cX0_hopeBy 130 = .ok (.getfield 109, 3) := dk_180 0 109 (dk_at dksX0_hopeBy_5 13 rfl rfl)
theorem dX0_hopeBy_133 : decode cX0_hopeBy 133 = .ok (.invokevirtual 152, 3) := dk_182 0 152 (dk_at dksX0_hopeBy_5 16 rfl rfl)
theorem dX0_hopeBy_136 : decode cX0_hopeBy 136 = .ok (.aload_n 0, 1) := dk_42 (dk_at dksX0_hopeBy_5 19 rfl rfl)
theorem dX0_hopeBy_137 : decode cX0_hopeBy 137 = .ok (.getfield 52, 3) := dk_180 0 52 (dk_at dksX0_hopeBy_5 20 rfl rfl)
theorem dX0_hopeBy_140 : decode cX0_hopeBy 140 = .ok (.iload 5, 2) := dk_21 5 (dk_at dksX0_hopeBy_6 0 rfl rfl)
theorem dX0_hopeBy_142 : decode cX0_hopeBy 142 = .ok (.putfield 289, 3) := dk_181 1 33 (dk_at dksX0_hopeBy_6 2 rfl rfl)
theorem dX0_hopeBy_145 : decode cX0_hopeBy 145 = .ok (.aload_n 0, 1) := dk_42 (dk_at dksX0_hopeBy_6 5 rfl rfl)
theorem dX0_hopeBy_146 : decode cX0_hopeBy 146 = .ok (.getfield 52, 3) := dk_180 0 52 (dk_at dksX0_hopeBy_6 6 rfl rfl)
theorem dX0_hopeBy_149 : decode cX0_hopeBy 149 = .ok (.invokevirtual 155, 3) := dk_182 0 155 (dk_at dksX0_hopeBy_6 9 rfl rfl)
theorem dX0_hopeBy_152 : decode cX0_hopeBy 152 = .ok (.pop, 1) := dk_87 (dk_at dksX0_hopeBy_6 12 rfl rfl)
theorem dX0_hopeBy_153 : decode cX0_hopeBy 153 = .ok (.lload_n 2, 1) := dk_32 (dk_at dksX0_hopeBy_6 13 rfl rfl)
theorem dX0_hopeBy_154 : decode cX0_hopeBy 154 = .ok (.lload 6, 2) := dk_22 6 (dk_at dksX0_hopeBy_6 14 rfl rfl)
theorem dX0_hopeBy_156 : decode cX0_hopeBy 156 = .ok (.aload_n 0, 1) := dk_42 (dk_at dksX0_hopeBy_6 16 rfl rfl)
theorem dX0_hopeBy_157 : decode cX0_hopeBy 157 = .ok (.getfield 52, 3) := dk_180 0 52 (dk_at dksX0_hopeBy_6 17 rfl rfl)
theorem dX0_hopeBy_160 : decode cX0_hopeBy 160 = .ok (.invokevirtual 233, 3) := dk_182 0 233 (dk_at dksX0_hopeBy_6 20 rfl rfl)
theorem dX0_hopeBy_163 : decode cX0_hopeBy 163 = .ok (.aload_n 0, 1) := dk_42 (dk_at dksX0_hopeBy_6 23 rfl rfl)
theorem dX0_hopeBy_164 : decode cX0_hopeBy 164 = .ok (.getfield 52, 3) := dk_180 0 52 (dk_at dksX0_hopeBy_7 0 rfl rfl)
theorem dX0_hopeBy_167 : decode cX0_hopeBy 167 = .ok (.invokevirtual 275, 3) := dk_182 1 19 (dk_at dksX0_hopeBy_7 3 rfl rfl)
theorem dX0_hopeBy_170 : decode cX0_hopeBy 170 = .ok (.isub, 1) := dk_100 (dk_at dksX0_hopeBy_7 6 rfl rfl)
theorem dX0_hopeBy_171 : decode cX0_hopeBy 171 = .ok (.i2l, 1) := dk_133 (dk_at dksX0_hopeBy_7 7 rfl rfl)
theorem dX0_hopeBy_172 : decode cX0_hopeBy 172 = .ok (.lmul, 1) := dk_105 (dk_at dksX0_hopeBy_7 8 rfl rfl)
theorem dX0_hopeBy_173 : decode cX0_hopeBy 173 = .ok (.ladd, 1) := dk_97 (dk_at dksX0_hopeBy_7 9 rfl rfl)
theorem dX0_hopeBy_174 : decode cX0_hopeBy 174 = .ok (.lstore_n 2, 1) := dk_65 (dk_at dksX0_hopeBy_7 10 rfl rfl)
theorem dX0_hopeBy_175 : decode cX0_hopeBy 175 = .ok (.iinc 5 1, 3) := dk_132 5 1 (dk_at dksX0_hopeBy_7 11 rfl rfl)
theorem dX0_hopeBy_178 : decode cX0_hopeBy 178 = .ok (.goto (-159), 3) := dk_167 255 97 (dk_at dksX0_hopeBy_7 14 rfl rfl)
theorem dX0_hopeBy_181 : decode cX0_hopeBy 181 = .ok (.lload_n 2, 1) := dk_32 (dk_at dksX0_hopeBy_7 17 rfl rfl)
theorem dX0_hopeBy_182 : decode cX0_hopeBy 182 = .ok (.lreturn, 1) := dk_173 (dk_at dksX0_hopeBy_7 18 rfl rfl)
abbrev cX0_told_2 : ByteArray := prog_1_method_37_code
def yX0_told_2 : MethodName := ⟨RX0, "told", "(JI)J"⟩
def dkwX0_told_2_2 : List UInt8 := [31, 184, 1, 42, 22, 4, 184, 1, 36, 109, 173]
abbrev dktX0_told_2_2 : List UInt8 := dkwX0_told_2_2 ++ []
def dkwX0_told_2_1 : List UInt8 := [22, 4, 20, 1, 40, 105, 55, 4, 132, 6, 1, 167, 255, 228, 29, 154, 0, 7, 31, 167, 0, 5, 22, 4]
abbrev dktX0_told_2_1 : List UInt8 := dkwX0_told_2_1 ++ dktX0_told_2_2
def dkwX0_told_2_0 : List UInt8 := [10, 55, 4, 3, 54, 6, 21, 6, 42, 180, 0, 41, 180, 0, 149, 185, 0, 134, 1, 0, 162, 0, 17]
abbrev dktX0_told_2_0 : List UInt8 := dkwX0_told_2_0 ++ dktX0_told_2_1
theorem dksX0_told_2_0 : cX0_told_2.data.toList.drop 0 = dktX0_told_2_0 := by decide +kernel
theorem dksX0_told_2_1 : cX0_told_2.data.toList.drop 23 = dktX0_told_2_1 := dk_seg dksX0_told_2_0 23 rfl rfl
theorem dksX0_told_2_2 : cX0_told_2.data.toList.drop 47 = dktX0_told_2_2 := dk_seg dksX0_told_2_1 24 rfl rfl
theorem dX0_told_2_0 : decode cX0_told_2 0 = .ok (.lconst 1, 1) := dk_10 (dk_at dksX0_told_2_0 0 rfl rfl)
theorem dX0_told_2_1 : decode cX0_told_2 1 = .ok (.lstore 4, 2) := dk_55 4 (dk_at dksX0_told_2_0 1 rfl rfl)
theorem dX0_told_2_3 : decode cX0_told_2 3 = .ok (.iconst 0, 1) := dk_3 (dk_at dksX0_told_2_0 3 rfl rfl)
theorem dX0_told_2_4 : decode cX0_told_2 4 = .ok (.istore 6, 2) := dk_54 6 (dk_at dksX0_told_2_0 4 rfl rfl)
theorem dX0_told_2_6 : decode cX0_told_2 6 = .ok (.iload 6, 2) := dk_21 6 (dk_at dksX0_told_2_0 6 rfl rfl)
theorem dX0_told_2_8 : decode cX0_told_2 8 = .ok (.aload_n 0, 1) := dk_42 (dk_at dksX0_told_2_0 8 rfl rfl)
theorem dX0_told_2_9 : decode cX0_told_2 9 = .ok (.getfield 41, 3) := dk_180 0 41 (dk_at dksX0_told_2_0 9 rfl rfl)
theorem dX0_told_2_12 : decode cX0_told_2 12 = .ok (.getfield 149, 3) := dk_180 0 149 (dk_at dksX0_told_2_0 12 rfl rfl)
theorem dX0_told_2_15 : decode cX0_told_2 15 = .ok (.invokeinterface 134 1, 5) := by decide +kernel
theorem dX0_told_2_20 : decode cX0_told_2 20 = .ok (.if_icmp .ge 17, 3) := dk_162 0 17 (dk_at dksX0_told_2_0 20 rfl rfl)
theorem dX0_told_2_23 : decode cX0_told_2 23 = .ok (.lload 4, 2) := dk_22 4 (dk_at dksX0_told_2_1 0 rfl rfl)
theorem dX0_told_2_25 : decode cX0_told_2 25 = .ok (.ldc2_w 296, 3) := dk_20 1 40 (dk_at dksX0_told_2_1 2 rfl rfl)
theorem dX0_told_2_28 : decode cX0_told_2 28 = .ok (.lmul, 1) := dk_105 (dk_at dksX0_told_2_1 5 rfl rfl)
theorem dX0_told_2_29 : decode cX0_told_2 29 = .ok (.lstore 4, 2) := dk_55 4 (dk_at dksX0_told_2_1 6 rfl rfl)
theorem dX0_told_2_31 : decode cX0_told_2 31 = .ok (.iinc 6 1, 3) := dk_132 6 1 (dk_at dksX0_told_2_1 8 rfl rfl)
theorem dX0_told_2_34 : decode cX0_told_2 34 = .ok (.goto (-28), 3) := dk_167 255 228 (dk_at dksX0_told_2_1 11 rfl rfl)
theorem dX0_told_2_37 : decode cX0_told_2 37 = .ok (.iload_n 3, 1) := dk_29 (dk_at dksX0_told_2_1 14 rfl rfl)
theorem dX0_told_2_38 : decode cX0_told_2 38 = .ok (.ifCond .ne 7, 3) := dk_154 0 7 (dk_at dksX0_told_2_1 15 rfl rfl)
theorem dX0_told_2_41 : decode cX0_told_2 41 = .ok (.lload_n 1, 1) := dk_31 (dk_at dksX0_told_2_1 18 rfl rfl)
theorem dX0_told_2_42 : decode cX0_told_2 42 = .ok (.goto 5, 3) := dk_167 0 5 (dk_at dksX0_told_2_1 19 rfl rfl)
theorem dX0_told_2_45 : decode cX0_told_2 45 = .ok (.lload 4, 2) := dk_22 4 (dk_at dksX0_told_2_1 22 rfl rfl)
theorem dX0_told_2_47 : decode cX0_told_2 47 = .ok (.lload_n 1, 1) := dk_31 (dk_at dksX0_told_2_2 0 rfl rfl)
theorem dX0_told_2_48 : decode cX0_told_2 48 = .ok (.invokestatic 298, 3) := dk_184 1 42 (dk_at dksX0_told_2_2 1 rfl rfl)
theorem dX0_told_2_51 : decode cX0_told_2 51 = .ok (.lload 4, 2) := dk_22 4 (dk_at dksX0_told_2_2 4 rfl rfl)
theorem dX0_told_2_53 : decode cX0_told_2 53 = .ok (.invokestatic 292, 3) := dk_184 1 36 (dk_at dksX0_told_2_2 6 rfl rfl)
theorem dX0_told_2_56 : decode cX0_told_2 56 = .ok (.ldiv, 1) := dk_109 (dk_at dksX0_told_2_2 9 rfl rfl)
theorem dX0_told_2_57 : decode cX0_told_2 57 = .ok (.lreturn, 1) := dk_173 (dk_at dksX0_told_2_2 10 rfl rfl)
abbrev cX0_common : ByteArray := prog_1_method_36_code
def yX0_common : MethodName := ⟨RX0, "common", "(JJ)J"⟩
def dkwX0_common_0 : List UInt8 := [32, 9, 148, 154, 0, 7, 30, 167, 0, 10, 32, 30, 32, 113, 184, 1, 36, 173]
abbrev dktX0_common_0 : List UInt8 := dkwX0_common_0 ++ []
theorem dksX0_common_0 : cX0_common.data.toList.drop 0 = dktX0_common_0 := by decide +kernel
theorem dX0_common_0 : decode cX0_common 0 = .ok (.lload_n 2, 1) := dk_32 (dk_at dksX0_common_0 0 rfl rfl)
theorem dX0_common_1 : decode cX0_common 1 = .ok (.lconst 0, 1) := dk_9 (dk_at dksX0_common_0 1 rfl rfl)
theorem dX0_common_2 : decode cX0_common 2 = .ok (.lcmp, 1) := dk_148 (dk_at dksX0_common_0 2 rfl rfl)
theorem dX0_common_3 : decode cX0_common 3 = .ok (.ifCond .ne 7, 3) := dk_154 0 7 (dk_at dksX0_common_0 3 rfl rfl)
theorem dX0_common_6 : decode cX0_common 6 = .ok (.lload_n 0, 1) := dk_30 (dk_at dksX0_common_0 6 rfl rfl)
theorem dX0_common_7 : decode cX0_common 7 = .ok (.goto 10, 3) := dk_167 0 10 (dk_at dksX0_common_0 7 rfl rfl)
theorem dX0_common_10 : decode cX0_common 10 = .ok (.lload_n 2, 1) := dk_32 (dk_at dksX0_common_0 10 rfl rfl)
theorem dX0_common_11 : decode cX0_common 11 = .ok (.lload_n 0, 1) := dk_30 (dk_at dksX0_common_0 11 rfl rfl)
theorem dX0_common_12 : decode cX0_common 12 = .ok (.lload_n 2, 1) := dk_32 (dk_at dksX0_common_0 12 rfl rfl)
theorem dX0_common_13 : decode cX0_common 13 = .ok (.lrem, 1) := dk_113 (dk_at dksX0_common_0 13 rfl rfl)
theorem dX0_common_14 : decode cX0_common 14 = .ok (.invokestatic 292, 3) := dk_184 1 36 (dk_at dksX0_common_0 14 rfl rfl)
theorem dX0_common_17 : decode cX0_common 17 = .ok (.lreturn, 1) := dk_173 (dk_at dksX0_common_0 17 rfl rfl)
abbrev cX0_wise : ByteArray := prog_1_method_40_code
def yX0_wise : MethodName := ⟨RX0, "wise", "(I)I"⟩
def dkwX0_wise_1 : List UInt8 := [46, 172]
abbrev dktX0_wise_1 : List UInt8 := dkwX0_wise_1 ++ []
def dkwX0_wise_0 : List UInt8 := [42, 27, 182, 0, 182, 154, 0, 6, 16, 254, 172, 42, 42, 182, 1, 61, 182, 1, 5, 42, 180, 0, 70, 27]
abbrev dktX0_wise_0 : List UInt8 := dkwX0_wise_0 ++ dktX0_wise_1
theorem dksX0_wise_0 : cX0_wise.data.toList.drop 0 = dktX0_wise_0 := by decide +kernel
theorem dksX0_wise_1 : cX0_wise.data.toList.drop 24 = dktX0_wise_1 := dk_seg dksX0_wise_0 24 rfl rfl
theorem dX0_wise_0 : decode cX0_wise 0 = .ok (.aload_n 0, 1) := dk_42 (dk_at dksX0_wise_0 0 rfl rfl)
theorem dX0_wise_1 : decode cX0_wise 1 = .ok (.iload_n 1, 1) := dk_27 (dk_at dksX0_wise_0 1 rfl rfl)
theorem dX0_wise_2 : decode cX0_wise 2 = .ok (.invokevirtual 182, 3) := dk_182 0 182 (dk_at dksX0_wise_0 2 rfl rfl)
theorem dX0_wise_5 : decode cX0_wise 5 = .ok (.ifCond .ne 6, 3) := dk_154 0 6 (dk_at dksX0_wise_0 5 rfl rfl)
theorem dX0_wise_8 : decode cX0_wise 8 = .ok (.bipush (-2), 2) := dk_16 254 (dk_at dksX0_wise_0 8 rfl rfl)
theorem dX0_wise_10 : decode cX0_wise 10 = .ok (.ireturn, 1) := dk_172 (dk_at dksX0_wise_0 10 rfl rfl)
theorem dX0_wise_11 : decode cX0_wise 11 = .ok (.aload_n 0, 1) := dk_42 (dk_at dksX0_wise_0 11 rfl rfl)
theorem dX0_wise_12 : decode cX0_wise 12 = .ok (.aload_n 0, 1) := dk_42 (dk_at dksX0_wise_0 12 rfl rfl)
theorem dX0_wise_13 : decode cX0_wise 13 = .ok (.invokevirtual 317, 3) := dk_182 1 61 (dk_at dksX0_wise_0 13 rfl rfl)
theorem dX0_wise_16 : decode cX0_wise 16 = .ok (.invokevirtual 261, 3) := dk_182 1 5 (dk_at dksX0_wise_0 16 rfl rfl)
theorem dX0_wise_19 : decode cX0_wise 19 = .ok (.aload_n 0, 1) := dk_42 (dk_at dksX0_wise_0 19 rfl rfl)
theorem dX0_wise_20 : decode cX0_wise 20 = .ok (.getfield 70, 3) := dk_180 0 70 (dk_at dksX0_wise_0 20 rfl rfl)
theorem dX0_wise_23 : decode cX0_wise 23 = .ok (.iload_n 1, 1) := dk_27 (dk_at dksX0_wise_0 23 rfl rfl)
theorem dX0_wise_24 : decode cX0_wise 24 = .ok (.iaload, 1) := dk_46 (dk_at dksX0_wise_1 0 rfl rfl)
theorem dX0_wise_25 : decode cX0_wise 25 = .ok (.ireturn, 1) := dk_172 (dk_at dksX0_wise_1 1 rfl rfl)
abbrev cX0_wisestOf : ByteArray := prog_1_method_39_code
def yX0_wisestOf : MethodName := ⟨RX0, "wisestOf", "()I"⟩
def dkwX0_wisestOf_2 : List UInt8 := [33, 181, 1, 57, 132, 2, 1, 167, 255, 207, 27, 172]
abbrev dktX0_wisestOf_2 : List UInt8 := dkwX0_wisestOf_2 ++ []
def dkwX0_wisestOf_1 : List UInt8 := [182, 1, 48, 66, 27, 2, 159, 0, 15, 33, 42, 180, 1, 57, 148, 157, 0, 6, 167, 0, 10, 28, 60, 42]
abbrev dktX0_wisestOf_1 : List UInt8 := dkwX0_wisestOf_1 ++ dktX0_wisestOf_2
def dkwX0_wisestOf_0 : List UInt8 := [2, 60, 3, 61, 28, 42, 182, 1, 12, 162, 0, 47, 42, 28, 182, 1, 5, 42, 42, 180, 0, 70]
abbrev dktX0_wisestOf_0 : List UInt8 := dkwX0_wisestOf_0 ++ dktX0_wisestOf_1
theorem dksX0_wisestOf_0 : cX0_wisestOf.data.toList.drop 0 = dktX0_wisestOf_0 := by decide +kernel
theorem dksX0_wisestOf_1 : cX0_wisestOf.data.toList.drop 22 = dktX0_wisestOf_1 := dk_seg dksX0_wisestOf_0 22 rfl rfl
theorem dksX0_wisestOf_2 : cX0_wisestOf.data.toList.drop 46 = dktX0_wisestOf_2 := dk_seg dksX0_wisestOf_1 24 rfl rfl
theorem dX0_wisestOf_0 : decode cX0_wisestOf 0 = .ok (.iconst (-1), 1) := dk_2 (dk_at dksX0_wisestOf_0 0 rfl rfl)
theorem dX0_wisestOf_1 : decode cX0_wisestOf 1 = .ok (.istore_n 1, 1) := dk_60 (dk_at dksX0_wisestOf_0 1 rfl rfl)
theorem dX0_wisestOf_2 : decode cX0_wisestOf 2 = .ok (.iconst 0, 1) := dk_3 (dk_at dksX0_wisestOf_0 2 rfl rfl)
theorem dX0_wisestOf_3 : decode cX0_wisestOf 3 = .ok (.istore_n 2, 1) := dk_61 (dk_at dksX0_wisestOf_0 3 rfl rfl)
theorem dX0_wisestOf_4 : decode cX0_wisestOf 4 = .ok (.iload_n 2, 1) := dk_28 (dk_at dksX0_wisestOf_0 4 rfl rfl)
theorem dX0_wisestOf_5 : decode cX0_wisestOf 5 = .ok (.aload_n 0, 1) := dk_42 (dk_at dksX0_wisestOf_0 5 rfl rfl)
theorem dX0_wisestOf_6 : decode cX0_wisestOf 6 = .ok (.invokevirtual 268, 3) := dk_182 1 12 (dk_at dksX0_wisestOf_0 6 rfl rfl)
theorem dX0_wisestOf_9 : decode cX0_wisestOf 9 = .ok (.if_icmp .ge 47, 3) := dk_162 0 47 (dk_at dksX0_wisestOf_0 9 rfl rfl)
theorem dX0_wisestOf_12 : decode cX0_wisestOf 12 = .ok (.aload_n 0, 1) := dk_42 (dk_at dksX0_wisestOf_0 12 rfl rfl)
theorem dX0_wisestOf_13 : decode cX0_wisestOf 13 = .ok (.iload_n 2, 1) := dk_28 (dk_at dksX0_wisestOf_0 13 rfl rfl)
theorem dX0_wisestOf_14 : decode cX0_wisestOf 14 = .ok (.invokevirtual 261, 3) := dk_182 1 5 (dk_at dksX0_wisestOf_0 14 rfl rfl)
theorem dX0_wisestOf_17 : decode cX0_wisestOf 17 = .ok (.aload_n 0, 1) := dk_42 (dk_at dksX0_wisestOf_0 17 rfl rfl)
theorem dX0_wisestOf_18 : decode cX0_wisestOf 18 = .ok (.aload_n 0, 1) := dk_42 (dk_at dksX0_wisestOf_0 18 rfl rfl)
theorem dX0_wisestOf_19 : decode cX0_wisestOf 19 = .ok (.getfield 70, 3) := dk_180 0 70 (dk_at dksX0_wisestOf_0 19 rfl rfl)
theorem dX0_wisestOf_22 : decode cX0_wisestOf 22 = .ok (.invokevirtual 304, 3) := dk_182 1 48 (dk_at dksX0_wisestOf_1 0 rfl rfl)
theorem dX0_wisestOf_25 : decode cX0_wisestOf 25 = .ok (.lstore_n 3, 1) := dk_66 (dk_at dksX0_wisestOf_1 3 rfl rfl)
theorem dX0_wisestOf_26 : decode cX0_wisestOf 26 = .ok (.iload_n 1, 1) := dk_27 (dk_at dksX0_wisestOf_1 4 rfl rfl)
theorem dX0_wisestOf_27 : decode cX0_wisestOf 27 = .ok (.iconst (-1), 1) := dk_2 (dk_at dksX0_wisestOf_1 5 rfl rfl)
theorem dX0_wisestOf_28 : decode cX0_wisestOf 28 = .ok (.if_icmp .eq 15, 3) := dk_159 0 15 (dk_at dksX0_wisestOf_1 6 rfl rfl)
theorem dX0_wisestOf_31 : decode cX0_wisestOf 31 = .ok (.lload_n 3, 1) := dk_33 (dk_at dksX0_wisestOf_1 9 rfl rfl)
theorem dX0_wisestOf_32 : decode cX0_wisestOf 32 = .ok (.aload_n 0, 1) := dk_42 (dk_at dksX0_wisestOf_1 10 rfl rfl)
theorem dX0_wisestOf_33 : decode cX0_wisestOf 33 = .ok (.getfield 313, 3) := dk_180 1 57 (dk_at dksX0_wisestOf_1 11 rfl rfl)
theorem dX0_wisestOf_36 : decode cX0_wisestOf 36 = .ok (.lcmp, 1) := dk_148 (dk_at dksX0_wisestOf_1 14 rfl rfl)
theorem dX0_wisestOf_37 : decode cX0_wisestOf 37 = .ok (.ifCond .gt 6, 3) := dk_157 0 6 (dk_at dksX0_wisestOf_1 15 rfl rfl)
theorem dX0_wisestOf_40 : decode cX0_wisestOf 40 = .ok (.goto 10, 3) := dk_167 0 10 (dk_at dksX0_wisestOf_1 18 rfl rfl)
theorem dX0_wisestOf_43 : decode cX0_wisestOf 43 = .ok (.iload_n 2, 1) := dk_28 (dk_at dksX0_wisestOf_1 21 rfl rfl)
theorem dX0_wisestOf_44 : decode cX0_wisestOf 44 = .ok (.istore_n 1, 1) := dk_60 (dk_at dksX0_wisestOf_1 22 rfl rfl)
theorem dX0_wisestOf_45 : decode cX0_wisestOf 45 = .ok (.aload_n 0, 1) := dk_42 (dk_at dksX0_wisestOf_1 23 rfl rfl)
theorem dX0_wisestOf_46 : decode cX0_wisestOf 46 = .ok (.lload_n 3, 1) := dk_33 (dk_at dksX0_wisestOf_2 0 rfl rfl)
theorem dX0_wisestOf_47 : decode cX0_wisestOf 47 = .ok (.putfield 313, 3) := dk_181 1 57 (dk_at dksX0_wisestOf_2 1 rfl rfl)
theorem dX0_wisestOf_50 : decode cX0_wisestOf 50 = .ok (.iinc 2 1, 3) := dk_132 2 1 (dk_at dksX0_wisestOf_2 4 rfl rfl)
theorem dX0_wisestOf_53 : decode cX0_wisestOf 53 = .ok (.goto (-49), 3) := dk_167 255 207 (dk_at dksX0_wisestOf_2 7 rfl rfl)
theorem dX0_wisestOf_56 : decode cX0_wisestOf 56 = .ok (.iload_n 1, 1) := dk_27 (dk_at dksX0_wisestOf_2 10 rfl rfl)
theorem dX0_wisestOf_57 : decode cX0_wisestOf 57 = .ok (.ireturn, 1) := dk_172 (dk_at dksX0_wisestOf_2 11 rfl rfl)
abbrev cX0_wisest : ByteArray := prog_1_method_41_code
def yX0_wisest : MethodName := ⟨RX0, "wisest", "(I)J"⟩
def dkwX0_wisest_1 : List UInt8 := [42, 182, 1, 61, 87, 42, 42, 180, 1, 57, 27, 182, 1, 52, 173]
abbrev dktX0_wisest_1 : List UInt8 := dkwX0_wisest_1 ++ []
def dkwX0_wisest_0 : List UInt8 := [42, 180, 0, 41, 182, 0, 102, 153, 0, 13, 27, 133, 9, 10, 184, 0, 5, 154, 0, 7, 20, 1, 55, 173]
abbrev dktX0_wisest_0 : List UInt8 := dkwX0_wisest_0 ++ dktX0_wisest_1
theorem dksX0_wisest_0 : cX0_wisest.data.toList.drop 0 = dktX0_wisest_0 := by decide +kernel
theorem dksX0_wisest_1 : cX0_wisest.data.toList.drop 24 = dktX0_wisest_1 := dk_seg dksX0_wisest_0 24 rfl rfl
theorem dX0_wisest_0 : decode cX0_wisest 0 = .ok (.aload_n 0, 1) := dk_42 (dk_at dksX0_wisest_0 0 rfl rfl)
theorem dX0_wisest_1 : decode cX0_wisest 1 = .ok (.getfield 41, 3) := dk_180 0 41 (dk_at dksX0_wisest_0 1 rfl rfl)
theorem dX0_wisest_4 : decode cX0_wisest 4 = .ok (.invokevirtual 102, 3) := dk_182 0 102 (dk_at dksX0_wisest_0 4 rfl rfl)
theorem dX0_wisest_7 : decode cX0_wisest 7 = .ok (.ifCond .eq 13, 3) := dk_153 0 13 (dk_at dksX0_wisest_0 7 rfl rfl)
theorem dX0_wisest_10 : decode cX0_wisest 10 = .ok (.iload_n 1, 1) := dk_27 (dk_at dksX0_wisest_0 10 rfl rfl)
theorem dX0_wisest_11 : decode cX0_wisest 11 = .ok (.i2l, 1) := dk_133 (dk_at dksX0_wisest_0 11 rfl rfl)
theorem dX0_wisest_12 : decode cX0_wisest 12 = .ok (.lconst 0, 1) := dk_9 (dk_at dksX0_wisest_0 12 rfl rfl)
theorem dX0_wisest_13 : decode cX0_wisest 13 = .ok (.lconst 1, 1) := dk_10 (dk_at dksX0_wisest_0 13 rfl rfl)
theorem dX0_wisest_14 : decode cX0_wisest 14 = .ok (.invokestatic 5, 3) := dk_184 0 5 (dk_at dksX0_wisest_0 14 rfl rfl)
theorem dX0_wisest_17 : decode cX0_wisest 17 = .ok (.ifCond .ne 7, 3) := dk_154 0 7 (dk_at dksX0_wisest_0 17 rfl rfl)
theorem dX0_wisest_20 : decode cX0_wisest 20 = .ok (.ldc2_w 311, 3) := dk_20 1 55 (dk_at dksX0_wisest_0 20 rfl rfl)
theorem dX0_wisest_23 : decode cX0_wisest 23 = .ok (.lreturn, 1) := dk_173 (dk_at dksX0_wisest_0 23 rfl rfl)
theorem dX0_wisest_24 : decode cX0_wisest 24 = .ok (.aload_n 0, 1) := dk_42 (dk_at dksX0_wisest_1 0 rfl rfl)
theorem dX0_wisest_25 : decode cX0_wisest 25 = .ok (.invokevirtual 317, 3) := dk_182 1 61 (dk_at dksX0_wisest_1 1 rfl rfl)
theorem dX0_wisest_28 : decode cX0_wisest 28 = .ok (.pop, 1) := dk_87 (dk_at dksX0_wisest_1 4 rfl rfl)
theorem dX0_wisest_29 : decode cX0_wisest 29 = .ok (.aload_n 0, 1) := dk_42 (dk_at dksX0_wisest_1 5 rfl rfl)
theorem dX0_wisest_30 : decode cX0_wisest 30 = .ok (.aload_n 0, 1) := dk_42 (dk_at dksX0_wisest_1 6 rfl rfl)
theorem dX0_wisest_31 : decode cX0_wisest 31 = .ok (.getfield 313, 3) := dk_180 1 57 (dk_at dksX0_wisest_1 7 rfl rfl)
theorem dX0_wisest_34 : decode cX0_wisest 34 = .ok (.iload_n 1, 1) := dk_27 (dk_at dksX0_wisest_1 10 rfl rfl)
theorem dX0_wisest_35 : decode cX0_wisest 35 = .ok (.invokevirtual 308, 3) := dk_182 1 52 (dk_at dksX0_wisest_1 11 rfl rfl)
theorem dX0_wisest_38 : decode cX0_wisest 38 = .ok (.lreturn, 1) := dk_173 (dk_at dksX0_wisest_1 14 rfl rfl)
abbrev cX0_agree : ByteArray := prog_1_method_45_code
def yX0_agree : MethodName := ⟨RX0, "agree", "(I)I"⟩
def dkwX0_agree_1 : List UInt8 := [182, 1, 83, 172]
abbrev dktX0_agree_1 : List UInt8 := dkwX0_agree_1 ++ []
def dkwX0_agree_0 : List UInt8 := [42, 27, 182, 1, 79, 61, 28, 153, 0, 7, 28, 167, 0, 14, 42, 42, 180, 0, 13, 27, 50, 2]
abbrev dktX0_agree_0 : List UInt8 := dkwX0_agree_0 ++ dktX0_agree_1
theorem dksX0_agree_0 : cX0_agree.data.toList.drop 0 = dktX0_agree_0 := by decide +kernel
theorem dksX0_agree_1 : cX0_agree.data.toList.drop 22 = dktX0_agree_1 := dk_seg dksX0_agree_0 22 rfl rfl
theorem dX0_agree_0 : decode cX0_agree 0 = .ok (.aload_n 0, 1) := dk_42 (dk_at dksX0_agree_0 0 rfl rfl)
theorem dX0_agree_1 : decode cX0_agree 1 = .ok (.iload_n 1, 1) := dk_27 (dk_at dksX0_agree_0 1 rfl rfl)
theorem dX0_agree_2 : decode cX0_agree 2 = .ok (.invokevirtual 335, 3) := dk_182 1 79 (dk_at dksX0_agree_0 2 rfl rfl)
theorem dX0_agree_5 : decode cX0_agree 5 = .ok (.istore_n 2, 1) := dk_61 (dk_at dksX0_agree_0 5 rfl rfl)
theorem dX0_agree_6 : decode cX0_agree 6 = .ok (.iload_n 2, 1) := dk_28 (dk_at dksX0_agree_0 6 rfl rfl)
theorem dX0_agree_7 : decode cX0_agree 7 = .ok (.ifCond .eq 7, 3) := dk_153 0 7 (dk_at dksX0_agree_0 7 rfl rfl)
theorem dX0_agree_10 : decode cX0_agree 10 = .ok (.iload_n 2, 1) := dk_28 (dk_at dksX0_agree_0 10 rfl rfl)
theorem dX0_agree_11 : decode cX0_agree 11 = .ok (.goto 14, 3) := dk_167 0 14 (dk_at dksX0_agree_0 11 rfl rfl)
theorem dX0_agree_14 : decode cX0_agree 14 = .ok (.aload_n 0, 1) := dk_42 (dk_at dksX0_agree_0 14 rfl rfl)
theorem dX0_agree_15 : decode cX0_agree 15 = .ok (.aload_n 0, 1) := dk_42 (dk_at dksX0_agree_0 15 rfl rfl)
theorem dX0_agree_16 : decode cX0_agree 16 = .ok (.getfield 13, 3) := dk_180 0 13 (dk_at dksX0_agree_0 16 rfl rfl)
theorem dX0_agree_19 : decode cX0_agree 19 = .ok (.iload_n 1, 1) := dk_27 (dk_at dksX0_agree_0 19 rfl rfl)
theorem dX0_agree_20 : decode cX0_agree 20 = .ok (.aaload, 1) := dk_50 (dk_at dksX0_agree_0 20 rfl rfl)
theorem dX0_agree_21 : decode cX0_agree 21 = .ok (.iconst (-1), 1) := dk_2 (dk_at dksX0_agree_0 21 rfl rfl)
theorem dX0_agree_22 : decode cX0_agree 22 = .ok (.invokevirtual 339, 3) := dk_182 1 83 (dk_at dksX0_agree_1 0 rfl rfl)
theorem dX0_agree_25 : decode cX0_agree 25 = .ok (.ireturn, 1) := dk_172 (dk_at dksX0_agree_1 3 rfl rfl)
abbrev cX0_whyNot : ByteArray := prog_1_method_42_code
def yX0_whyNot : MethodName := ⟨RX0, "whyNot", "(I)I"⟩
def dkwX0_whyNot_3 : List UInt8 := [44, 29, 4, 96, 182, 1, 71, 182, 0, 185, 154, 0, 6, 16, 254, 172, 132, 3, 3, 167, 255, 216, 3, 172]
abbrev dktX0_whyNot_3 : List UInt8 := dkwX0_whyNot_3 ++ []
def dkwX0_whyNot_2 : List UInt8 := [172, 3, 62, 29, 44, 182, 1, 68, 162, 0, 38, 42, 44, 29, 182, 1, 71, 182, 0, 142, 153, 0, 17, 42]
abbrev dktX0_whyNot_2 : List UInt8 := dkwX0_whyNot_2 ++ dktX0_whyNot_3
def dkwX0_whyNot_1 : List UInt8 := [27, 50, 77, 44, 180, 1, 64, 199, 0, 6, 16, 250, 172, 44, 182, 1, 68, 6, 112, 153, 0, 6, 16, 254]
abbrev dktX0_whyNot_1 : List UInt8 := dkwX0_whyNot_1 ++ dktX0_whyNot_2
def dkwX0_whyNot_0 : List UInt8 := [27, 184, 0, 9, 153, 0, 13, 42, 180, 0, 41, 182, 0, 102, 154, 0, 6, 16, 254, 172, 42, 180, 0, 13]
abbrev dktX0_whyNot_0 : List UInt8 := dkwX0_whyNot_0 ++ dktX0_whyNot_1
theorem dksX0_whyNot_0 : cX0_whyNot.data.toList.drop 0 = dktX0_whyNot_0 := by decide +kernel
theorem dksX0_whyNot_1 : cX0_whyNot.data.toList.drop 24 = dktX0_whyNot_1 := dk_seg dksX0_whyNot_0 24 rfl rfl
theorem dksX0_whyNot_2 : cX0_whyNot.data.toList.drop 48 = dktX0_whyNot_2 := dk_seg dksX0_whyNot_1 24 rfl rfl
theorem dksX0_whyNot_3 : cX0_whyNot.data.toList.drop 72 = dktX0_whyNot_3 := dk_seg dksX0_whyNot_2 24 rfl rfl
theorem dX0_whyNot_0 : decode cX0_whyNot 0 = .ok (.iload_n 1, 1) := dk_27 (dk_at dksX0_whyNot_0 0 rfl rfl)
theorem dX0_whyNot_1 : decode cX0_whyNot 1 = .ok (.invokestatic 9, 3) := dk_184 0 9 (dk_at dksX0_whyNot_0 1 rfl rfl)
theorem dX0_whyNot_4 : decode cX0_whyNot 4 = .ok (.ifCond .eq 13, 3) := dk_153 0 13 (dk_at dksX0_whyNot_0 4 rfl rfl)
theorem dX0_whyNot_7 : decode cX0_whyNot 7 = .ok (.aload_n 0, 1) := dk_42 (dk_at dksX0_whyNot_0 7 rfl rfl)
theorem dX0_whyNot_8 : decode cX0_whyNot 8 = .ok (.getfield 41, 3) := dk_180 0 41 (dk_at dksX0_whyNot_0 8 rfl rfl)
theorem dX0_whyNot_11 : decode cX0_whyNot 11 = .ok (.invokevirtual 102, 3) := dk_182 0 102 (dk_at dksX0_whyNot_0 11 rfl rfl)
theorem dX0_whyNot_14 : decode cX0_whyNot 14 = .ok (.ifCond .ne 6, 3) := dk_154 0 6 (dk_at dksX0_whyNot_0 14 rfl rfl)
theorem dX0_whyNot_17 : decode cX0_whyNot 17 = .ok (.bipush (-2), 2) := dk_16 254 (dk_at dksX0_whyNot_0 17 rfl rfl)
theorem dX0_whyNot_19 : decode cX0_whyNot 19 = .ok (.ireturn, 1) := dk_172 (dk_at dksX0_whyNot_0 19 rfl rfl)
theorem dX0_whyNot_20 : decode cX0_whyNot 20 = .ok (.aload_n 0, 1) := dk_42 (dk_at dksX0_whyNot_0 20 rfl rfl)
theorem dX0_whyNot_21 : decode cX0_whyNot 21 = .ok (.getfield 13, 3) := dk_180 0 13 (dk_at dksX0_whyNot_0 21 rfl rfl)
theorem dX0_whyNot_24 : decode cX0_whyNot 24 = .ok (.iload_n 1, 1) := dk_27 (dk_at dksX0_whyNot_1 0 rfl rfl)
theorem dX0_whyNot_25 : decode cX0_whyNot 25 = .ok (.aaload, 1) := dk_50 (dk_at dksX0_whyNot_1 1 rfl rfl)
theorem dX0_whyNot_26 : decode cX0_whyNot 26 = .ok (.astore_n 2, 1) := dk_77 (dk_at dksX0_whyNot_1 2 rfl rfl)
theorem dX0_whyNot_27 : decode cX0_whyNot 27 = .ok (.aload_n 2, 1) := dk_44 (dk_at dksX0_whyNot_1 3 rfl rfl)
theorem dX0_whyNot_28 : decode cX0_whyNot 28 = .ok (.getfield 320, 3) := dk_180 1 64 (dk_at dksX0_whyNot_1 4 rfl rfl)
theorem dX0_whyNot_31 : decode cX0_whyNot 31 = .ok (.ifnonnull 6, 3) := dk_199 0 6 (dk_at dksX0_whyNot_1 7 rfl rfl)
theorem dX0_whyNot_34 : decode cX0_whyNot 34 = .ok (.bipush (-6), 2) := dk_16 250 (dk_at dksX0_whyNot_1 10 rfl rfl)
theorem dX0_whyNot_36 : decode cX0_whyNot 36 = .ok (.ireturn, 1) := dk_172 (dk_at dksX0_whyNot_1 12 rfl rfl)
theorem dX0_whyNot_37 : decode cX0_whyNot 37 = .ok (.aload_n 2, 1) := dk_44 (dk_at dksX0_whyNot_1 13 rfl rfl)
theorem dX0_whyNot_38 : decode cX0_whyNot 38 = .ok (.invokevirtual 324, 3) := dk_182 1 68 (dk_at dksX0_whyNot_1 14 rfl rfl)
theorem dX0_whyNot_41 : decode cX0_whyNot 41 = .ok (.iconst 3, 1) := dk_6 (dk_at dksX0_whyNot_1 17 rfl rfl)
theorem dX0_whyNot_42 : decode cX0_whyNot 42 = .ok (.irem, 1) := dk_112 (dk_at dksX0_whyNot_1 18 rfl rfl)
theorem dX0_whyNot_43 : decode cX0_whyNot 43 = .ok (.ifCond .eq 6, 3) := dk_153 0 6 (dk_at dksX0_whyNot_1 19 rfl rfl)
theorem dX0_whyNot_46 : decode cX0_whyNot 46 = .ok (.bipush (-2), 2) := dk_16 254 (dk_at dksX0_whyNot_1 22 rfl rfl)
theorem dX0_whyNot_48 : decode cX0_whyNot 48 = .ok (.ireturn, 1) := dk_172 (dk_at dksX0_whyNot_2 0 rfl rfl)
theorem dX0_whyNot_49 : decode cX0_whyNot 49 = .ok (.iconst 0, 1) := dk_3 (dk_at dksX0_whyNot_2 1 rfl rfl)
theorem dX0_whyNot_50 : decode cX0_whyNot 50 = .ok (.istore_n 3, 1) := dk_62 (dk_at dksX0_whyNot_2 2 rfl rfl)
theorem dX0_whyNot_51 : decode cX0_whyNot 51 = .ok (.iload_n 3, 1) := dk_29 (dk_at dksX0_whyNot_2 3 rfl rfl)
theorem dX0_whyNot_52 : decode cX0_whyNot 52 = .ok (.aload_n 2, 1) := dk_44 (dk_at dksX0_whyNot_2 4 rfl rfl)
theorem dX0_whyNot_53 : decode cX0_whyNot 53 = .ok (.invokevirtual 324, 3) := dk_182 1 68 (dk_at dksX0_whyNot_2 5 rfl rfl)
theorem dX0_whyNot_56 : decode cX0_whyNot 56 = .ok (.if_icmp .ge 38, 3) := dk_162 0 38 (dk_at dksX0_whyNot_2 8 rfl rfl)
theorem dX0_whyNot_59 : decode cX0_whyNot 59 = .ok (.aload_n 0, 1) := dk_42 (dk_at dksX0_whyNot_2 11 rfl rfl)
theorem dX0_whyNot_60 : decode cX0_whyNot 60 = .ok (.aload_n 2, 1) := dk_44 (dk_at dksX0_whyNot_2 12 rfl rfl)
theorem dX0_whyNot_61 : decode cX0_whyNot 61 = .ok (.iload_n 3, 1) := dk_29 (dk_at dksX0_whyNot_2 13 rfl rfl)
theorem dX0_whyNot_62 : decode cX0_whyNot 62 = .ok (.invokevirtual 327, 3) := dk_182 1 71 (dk_at dksX0_whyNot_2 14 rfl rfl)
theorem dX0_whyNot_65 : decode cX0_whyNot 65 = .ok (.invokevirtual 142, 3) := dk_182 0 142 (dk_at dksX0_whyNot_2 17 rfl rfl)
theorem dX0_whyNot_68 : decode cX0_whyNot 68 = .ok (.ifCond .eq 17, 3) := dk_153 0 17 (dk_at dksX0_whyNot_2 20 rfl rfl)
theorem dX0_whyNot_71 : decode cX0_whyNot 71 = .ok (.aload_n 0, 1) := dk_42 (dk_at dksX0_whyNot_2 23 rfl rfl)
theorem dX0_whyNot_72 : decode cX0_whyNot 72 = .ok (.aload_n 2, 1) := dk_44 (dk_at dksX0_whyNot_3 0 rfl rfl)
theorem dX0_whyNot_73 : decode cX0_whyNot 73 = .ok (.iload_n 3, 1) := dk_29 (dk_at dksX0_whyNot_3 1 rfl rfl)
theorem dX0_whyNot_74 : decode cX0_whyNot 74 = .ok (.iconst 1, 1) := dk_4 (dk_at dksX0_whyNot_3 2 rfl rfl)
theorem dX0_whyNot_75 : decode cX0_whyNot 75 = .ok (.iadd, 1) := dk_96 (dk_at dksX0_whyNot_3 3 rfl rfl)
theorem dX0_whyNot_76 : decode cX0_whyNot 76 = .ok (.invokevirtual 327, 3) := dk_182 1 71 (dk_at dksX0_whyNot_3 4 rfl rfl)
theorem dX0_whyNot_79 : decode cX0_whyNot 79 = .ok (.invokevirtual 185, 3) := dk_182 0 185 (dk_at dksX0_whyNot_3 7 rfl rfl)
theorem dX0_whyNot_82 : decode cX0_whyNot 82 = .ok (.ifCond .ne 6, 3) := dk_154 0 6 (dk_at dksX0_whyNot_3 10 rfl rfl)
theorem dX0_whyNot_85 : decode cX0_whyNot 85 = .ok (.bipush (-2), 2) := dk_16 254 (dk_at dksX0_whyNot_3 13 rfl rfl)
theorem dX0_whyNot_87 : decode cX0_whyNot 87 = .ok (.ireturn, 1) := dk_172 (dk_at dksX0_whyNot_3 15 rfl rfl)
theorem dX0_whyNot_88 : decode cX0_whyNot 88 = .ok (.iinc 3 3, 3) := dk_132 3 3 (dk_at dksX0_whyNot_3 16 rfl rfl)
theorem dX0_whyNot_91 : decode cX0_whyNot 91 = .ok (.goto (-40), 3) := dk_167 255 216 (dk_at dksX0_whyNot_3 19 rfl rfl)
theorem dX0_whyNot_94 : decode cX0_whyNot 94 = .ok (.iconst 0, 1) := dk_3 (dk_at dksX0_whyNot_3 22 rfl rfl)
theorem dX0_whyNot_95 : decode cX0_whyNot 95 = .ok (.ireturn, 1) := dk_172 (dk_at dksX0_whyNot_3 23 rfl rfl)
abbrev cX0_agreeing : ByteArray := prog_1_method_44_code
def yX0_agreeing : MethodName := ⟨RX0, "agreeing", "(LFloodLent$Slot;I)I"⟩
def dkwX0_agreeing_1 : List UInt8 := [28, 182, 1, 75, 153, 0, 7, 4, 167, 0, 4, 3, 96, 62, 132, 4, 1, 167, 255, 220, 29, 172]
abbrev dktX0_agreeing_1 : List UInt8 := dkwX0_agreeing_1 ++ []
def dkwX0_agreeing_0 : List UInt8 := [3, 62, 3, 54, 4, 21, 4, 42, 182, 1, 12, 162, 0, 33, 42, 21, 4, 182, 1, 15, 87, 29, 42, 43]
abbrev dktX0_agreeing_0 : List UInt8 := dkwX0_agreeing_0 ++ dktX0_agreeing_1
theorem dksX0_agreeing_0 : cX0_agreeing.data.toList.drop 0 = dktX0_agreeing_0 := by decide +kernel
theorem dksX0_agreeing_1 : cX0_agreeing.data.toList.drop 24 = dktX0_agreeing_1 := dk_seg dksX0_agreeing_0 24 rfl rfl
theorem dX0_agreeing_0 : decode cX0_agreeing 0 = .ok (.iconst 0, 1) := dk_3 (dk_at dksX0_agreeing_0 0 rfl rfl)
theorem dX0_agreeing_1 : decode cX0_agreeing 1 = .ok (.istore_n 3, 1) := dk_62 (dk_at dksX0_agreeing_0 1 rfl rfl)
theorem dX0_agreeing_2 : decode cX0_agreeing 2 = .ok (.iconst 0, 1) := dk_3 (dk_at dksX0_agreeing_0 2 rfl rfl)
theorem dX0_agreeing_3 : decode cX0_agreeing 3 = .ok (.istore 4, 2) := dk_54 4 (dk_at dksX0_agreeing_0 3 rfl rfl)
theorem dX0_agreeing_5 : decode cX0_agreeing 5 = .ok (.iload 4, 2) := dk_21 4 (dk_at dksX0_agreeing_0 5 rfl rfl)
theorem dX0_agreeing_7 : decode cX0_agreeing 7 = .ok (.aload_n 0, 1) := dk_42 (dk_at dksX0_agreeing_0 7 rfl rfl)
theorem dX0_agreeing_8 : decode cX0_agreeing 8 = .ok (.invokevirtual 268, 3) := dk_182 1 12 (dk_at dksX0_agreeing_0 8 rfl rfl)
theorem dX0_agreeing_11 : decode cX0_agreeing 11 = .ok (.if_icmp .ge 33, 3) := dk_162 0 33 (dk_at dksX0_agreeing_0 11 rfl rfl)
theorem dX0_agreeing_14 : decode cX0_agreeing 14 = .ok (.aload_n 0, 1) := dk_42 (dk_at dksX0_agreeing_0 14 rfl rfl)
theorem dX0_agreeing_15 : decode cX0_agreeing 15 = .ok (.iload 4, 2) := dk_21 4 (dk_at dksX0_agreeing_0 15 rfl rfl)
theorem dX0_agreeing_17 : decode cX0_agreeing 17 = .ok (.invokevirtual 271, 3) := dk_182 1 15 (dk_at dksX0_agreeing_0 17 rfl rfl)
theorem dX0_agreeing_20 : decode cX0_agreeing 20 = .ok (.pop, 1) := dk_87 (dk_at dksX0_agreeing_0 20 rfl rfl)
theorem dX0_agreeing_21 : decode cX0_agreeing 21 = .ok (.iload_n 3, 1) := dk_29 (dk_at dksX0_agreeing_0 21 rfl rfl)
theorem dX0_agreeing_22 : decode cX0_agreeing 22 = .ok (.aload_n 0, 1) := dk_42 (dk_at dksX0_agreeing_0 22 rfl rfl)
theorem dX0_agreeing_23 : decode cX0_agreeing 23 = .ok (.aload_n 1, 1) := dk_43 (dk_at dksX0_agreeing_0 23 rfl rfl)
theorem dX0_agreeing_24 : decode cX0_agreeing 24 = .ok (.iload_n 2, 1) := dk_28 (dk_at dksX0_agreeing_1 0 rfl rfl)
theorem dX0_agreeing_25 : decode cX0_agreeing 25 = .ok (.invokevirtual 331, 3) := dk_182 1 75 (dk_at dksX0_agreeing_1 1 rfl rfl)
theorem dX0_agreeing_28 : decode cX0_agreeing 28 = .ok (.ifCond .eq 7, 3) := dk_153 0 7 (dk_at dksX0_agreeing_1 4 rfl rfl)
theorem dX0_agreeing_31 : decode cX0_agreeing 31 = .ok (.iconst 1, 1) := dk_4 (dk_at dksX0_agreeing_1 7 rfl rfl)
theorem dX0_agreeing_32 : decode cX0_agreeing 32 = .ok (.goto 4, 3) := dk_167 0 4 (dk_at dksX0_agreeing_1 8 rfl rfl)
theorem dX0_agreeing_35 : decode cX0_agreeing 35 = .ok (.iconst 0, 1) := dk_3 (dk_at dksX0_agreeing_1 11 rfl rfl)
theorem dX0_agreeing_36 : decode cX0_agreeing 36 = .ok (.iadd, 1) := dk_96 (dk_at dksX0_agreeing_1 12 rfl rfl)
theorem dX0_agreeing_37 : decode cX0_agreeing 37 = .ok (.istore_n 3, 1) := dk_62 (dk_at dksX0_agreeing_1 13 rfl rfl)
theorem dX0_agreeing_38 : decode cX0_agreeing 38 = .ok (.iinc 4 1, 3) := dk_132 4 1 (dk_at dksX0_agreeing_1 14 rfl rfl)
theorem dX0_agreeing_41 : decode cX0_agreeing 41 = .ok (.goto (-36), 3) := dk_167 255 220 (dk_at dksX0_agreeing_1 17 rfl rfl)
theorem dX0_agreeing_44 : decode cX0_agreeing 44 = .ok (.iload_n 3, 1) := dk_29 (dk_at dksX0_agreeing_1 20 rfl rfl)
theorem dX0_agreeing_45 : decode cX0_agreeing 45 = .ok (.ireturn, 1) := dk_172 (dk_at dksX0_agreeing_1 21 rfl rfl)
abbrev cX0_agrees : ByteArray := prog_1_method_43_code
def yX0_agrees : MethodName := ⟨RX0, "agrees", "(LFloodLent$Slot;I)Z"⟩
def dkwX0_agrees_2 : List UInt8 := [104, 5, 96, 182, 1, 71, 148, 153, 0, 5, 3, 172, 132, 3, 1, 167, 255, 195, 4, 172]
abbrev dktX0_agrees_2 : List UInt8 := dkwX0_agrees_2 ++ []
def dkwX0_agrees_1 : List UInt8 := [43, 6, 29, 104, 182, 1, 71, 136, 50, 43, 6, 29, 104, 4, 96, 182, 1, 71, 136, 46, 133, 43, 6, 29]
abbrev dktX0_agrees_1 : List UInt8 := dkwX0_agrees_1 ++ dktX0_agrees_2
def dkwX0_agrees_0 : List UInt8 := [3, 62, 6, 29, 104, 43, 182, 1, 68, 162, 0, 57, 29, 28, 159, 0, 46, 42, 180, 0, 52, 180, 0, 191]
abbrev dktX0_agrees_0 : List UInt8 := dkwX0_agrees_0 ++ dktX0_agrees_1
theorem dksX0_agrees_0 : cX0_agrees.data.toList.drop 0 = dktX0_agrees_0 := by decide +kernel
theorem dksX0_agrees_1 : cX0_agrees.data.toList.drop 24 = dktX0_agrees_1 := dk_seg dksX0_agrees_0 24 rfl rfl
theorem dksX0_agrees_2 : cX0_agrees.data.toList.drop 48 = dktX0_agrees_2 := dk_seg dksX0_agrees_1 24 rfl rfl
theorem dX0_agrees_0 : decode cX0_agrees 0 = .ok (.iconst 0, 1) := dk_3 (dk_at dksX0_agrees_0 0 rfl rfl)
theorem dX0_agrees_1 : decode cX0_agrees 1 = .ok (.istore_n 3, 1) := dk_62 (dk_at dksX0_agrees_0 1 rfl rfl)
theorem dX0_agrees_2 : decode cX0_agrees 2 = .ok (.iconst 3, 1) := dk_6 (dk_at dksX0_agrees_0 2 rfl rfl)
theorem dX0_agrees_3 : decode cX0_agrees 3 = .ok (.iload_n 3, 1) := dk_29 (dk_at dksX0_agrees_0 3 rfl rfl)
theorem dX0_agrees_4 : decode cX0_agrees 4 = .ok (.imul, 1) := dk_104 (dk_at dksX0_agrees_0 4 rfl rfl)
theorem dX0_agrees_5 : decode cX0_agrees 5 = .ok (.aload_n 1, 1) := dk_43 (dk_at dksX0_agrees_0 5 rfl rfl)
theorem dX0_agrees_6 : decode cX0_agrees 6 = .ok (.invokevirtual 324, 3) := dk_182 1 68 (dk_at dksX0_agrees_0 6 rfl rfl)
theorem dX0_agrees_9 : decode cX0_agrees 9 = .ok (.if_icmp .ge 57, 3) := dk_162 0 57 (dk_at dksX0_agrees_0 9 rfl rfl)
theorem dX0_agrees_12 : decode cX0_agrees 12 = .ok (.iload_n 3, 1) := dk_29 (dk_at dksX0_agrees_0 12 rfl rfl)
theorem dX0_agrees_13 : decode cX0_agrees 13 = .ok (.iload_n 2, 1) := dk_28 (dk_at dksX0_agrees_0 13 rfl rfl)
theorem dX0_agrees_14 : decode cX0_agrees 14 = .ok (.if_icmp .eq 46, 3) := dk_159 0 46 (dk_at dksX0_agrees_0 14 rfl rfl)
theorem dX0_agrees_17 : decode cX0_agrees 17 = .ok (.aload_n 0, 1) := dk_42 (dk_at dksX0_agrees_0 17 rfl rfl)
theorem dX0_agrees_18 : decode cX0_agrees 18 = .ok (.getfield 52, 3) := dk_180 0 52 (dk_at dksX0_agrees_0 18 rfl rfl)
theorem dX0_agrees_21 : decode cX0_agrees 21 = .ok (.getfield 191, 3) := dk_180 0 191 (dk_at dksX0_agrees_0 21 rfl rfl)
theorem dX0_agrees_24 : decode cX0_agrees 24 = .ok (.aload_n 1, 1) := dk_43 (dk_at dksX0_agrees_1 0 rfl rfl)
theorem dX0_agrees_25 : decode cX0_agrees 25 = .ok (.iconst 3, 1) := dk_6 (dk_at dksX0_agrees_1 1 rfl rfl)
theorem dX0_agrees_26 : decode cX0_agrees 26 = .ok (.iload_n 3, 1) := dk_29 (dk_at dksX0_agrees_1 2 rfl rfl)
theorem dX0_agrees_27 : decode cX0_agrees 27 = .ok (.imul, 1) := dk_104 (dk_at dksX0_agrees_1 3 rfl rfl)
theorem dX0_agrees_28 : decode cX0_agrees 28 = .ok (.invokevirtual 327, 3) := dk_182 1 71 (dk_at dksX0_agrees_1 4 rfl rfl)
theorem dX0_agrees_31 : decode cX0_agrees 31 = .ok (.l2i, 1) := dk_136 (dk_at dksX0_agrees_1 7 rfl rfl)
theorem dX0_agrees_32 : decode cX0_agrees 32 = .ok (.aaload, 1) := dk_50 (dk_at dksX0_agrees_1 8 rfl rfl)
theorem dX0_agrees_33 : decode cX0_agrees 33 = .ok (.aload_n 1, 1) := dk_43 (dk_at dksX0_agrees_1 9 rfl rfl)
theorem dX0_agrees_34 : decode cX0_agrees 34 = .ok (.iconst 3, 1) := dk_6 (dk_at dksX0_agrees_1 10 rfl rfl)
theorem dX0_agrees_35 : decode cX0_agrees 35 = .ok (.iload_n 3, 1) := dk_29 (dk_at dksX0_agrees_1 11 rfl rfl)
theorem dX0_agrees_36 : decode cX0_agrees 36 = .ok (.imul, 1) := dk_104 (dk_at dksX0_agrees_1 12 rfl rfl)
theorem dX0_agrees_37 : decode cX0_agrees 37 = .ok (.iconst 1, 1) := dk_4 (dk_at dksX0_agrees_1 13 rfl rfl)
theorem dX0_agrees_38 : decode cX0_agrees 38 = .ok (.iadd, 1) := dk_96 (dk_at dksX0_agrees_1 14 rfl rfl)
theorem dX0_agrees_39 : decode cX0_agrees 39 = .ok (.invokevirtual 327, 3) := dk_182 1 71 (dk_at dksX0_agrees_1 15 rfl rfl)
theorem dX0_agrees_42 : decode cX0_agrees 42 = .ok (.l2i, 1) := dk_136 (dk_at dksX0_agrees_1 18 rfl rfl)
theorem dX0_agrees_43 : decode cX0_agrees 43 = .ok (.iaload, 1) := dk_46 (dk_at dksX0_agrees_1 19 rfl rfl)
theorem dX0_agrees_44 : decode cX0_agrees 44 = .ok (.i2l, 1) := dk_133 (dk_at dksX0_agrees_1 20 rfl rfl)
theorem dX0_agrees_45 : decode cX0_agrees 45 = .ok (.aload_n 1, 1) := dk_43 (dk_at dksX0_agrees_1 21 rfl rfl)
theorem dX0_agrees_46 : decode cX0_agrees 46 = .ok (.iconst 3, 1) := dk_6 (dk_at dksX0_agrees_1 22 rfl rfl)
theorem dX0_agrees_47 : decode cX0_agrees 47 = .ok (.iload_n 3, 1) := dk_29 (dk_at dksX0_agrees_1 23 rfl rfl)
theorem dX0_agrees_48 : decode cX0_agrees 48 = .ok (.imul, 1) := dk_104 (dk_at dksX0_agrees_2 0 rfl rfl)
theorem dX0_agrees_49 : decode cX0_agrees 49 = .ok (.iconst 2, 1) := dk_5 (dk_at dksX0_agrees_2 1 rfl rfl)
theorem dX0_agrees_50 : decode cX0_agrees 50 = .ok (.iadd, 1) := dk_96 (dk_at dksX0_agrees_2 2 rfl rfl)
theorem dX0_agrees_51 : decode cX0_agrees 51 = .ok (.invokevirtual 327, 3) := dk_182 1 71 (dk_at dksX0_agrees_2 3 rfl rfl)
theorem dX0_agrees_54 : decode cX0_agrees 54 = .ok (.lcmp, 1) := dk_148 (dk_at dksX0_agrees_2 6 rfl rfl)
theorem dX0_agrees_55 : decode cX0_agrees 55 = .ok (.ifCond .eq 5, 3) := dk_153 0 5 (dk_at dksX0_agrees_2 7 rfl rfl)
theorem dX0_agrees_58 : decode cX0_agrees 58 = .ok (.iconst 0, 1) := dk_3 (dk_at dksX0_agrees_2 10 rfl rfl)
theorem dX0_agrees_59 : decode cX0_agrees 59 = .ok (.ireturn, 1) := dk_172 (dk_at dksX0_agrees_2 11 rfl rfl)
theorem dX0_agrees_60 : decode cX0_agrees 60 = .ok (.iinc 3 1, 3) := dk_132 3 1 (dk_at dksX0_agrees_2 12 rfl rfl)
theorem dX0_agrees_63 : decode cX0_agrees 63 = .ok (.goto (-61), 3) := dk_167 255 195 (dk_at dksX0_agrees_2 15 rfl rfl)
theorem dX0_agrees_66 : decode cX0_agrees 66 = .ok (.iconst 1, 1) := dk_4 (dk_at dksX0_agrees_2 18 rfl rfl)
theorem dX0_agrees_67 : decode cX0_agrees 67 = .ok (.ireturn, 1) := dk_172 (dk_at dksX0_agrees_2 19 rfl rfl)
abbrev cX0_who : ByteArray := prog_1_method_46_code
def yX0_who : MethodName := ⟨RX0, "who", "(II)I"⟩
def dkwX0_who_4 : List UInt8 := [21, 6, 159, 0, 5, 2, 172, 21, 6, 54, 4, 132, 5, 1, 167, 255, 178, 21, 4, 172]
abbrev dktX0_who_4 : List UInt8 := dkwX0_who_4 ++ []
def dkwX0_who_3 : List UInt8 := [160, 0, 8, 16, 9, 167, 0, 9, 42, 180, 0, 70, 28, 46, 54, 6, 21, 4, 2, 159, 0, 12, 21, 4]
abbrev dktX0_who_3 : List UInt8 := dkwX0_who_3 ++ dktX0_who_4
def dkwX0_who_2 : List UInt8 := [42, 180, 0, 13, 27, 50, 2, 182, 1, 75, 154, 0, 6, 167, 0, 45, 42, 180, 0, 70, 28, 46, 2]
abbrev dktX0_who_2 : List UInt8 := dkwX0_who_2 ++ dktX0_who_3
def dkwX0_who_1 : List UInt8 := [172, 2, 54, 4, 3, 54, 5, 21, 5, 42, 182, 1, 12, 162, 0, 75, 42, 21, 5, 182, 1, 15, 87, 42]
abbrev dktX0_who_1 : List UInt8 := dkwX0_who_1 ++ dktX0_who_2
def dkwX0_who_0 : List UInt8 := [42, 28, 182, 0, 182, 153, 0, 11, 42, 27, 182, 1, 79, 167, 0, 5, 16, 254, 62, 29, 153, 0, 5, 29]
abbrev dktX0_who_0 : List UInt8 := dkwX0_who_0 ++ dktX0_who_1
theorem dksX0_who_0 : cX0_who.data.toList.drop 0 = dktX0_who_0 := by decide +kernel
theorem dksX0_who_1 : cX0_who.data.toList.drop 24 = dktX0_who_1 := dk_seg dksX0_who_0 24 rfl rfl
theorem dksX0_who_2 : cX0_who.data.toList.drop 48 = dktX0_who_2 := dk_seg dksX0_who_1 24 rfl rfl
theorem dksX0_who_3 : cX0_who.data.toList.drop 71 = dktX0_who_3 := dk_seg dksX0_who_2 23 rfl rfl
theorem dksX0_who_4 : cX0_who.data.toList.drop 95 = dktX0_who_4 := dk_seg dksX0_who_3 24 rfl rfl
theorem dX0_who_0 : decode cX0_who 0 = .ok (.aload_n 0, 1) := dk_42 (dk_at dksX0_who_0 0 rfl rfl)
theorem dX0_who_1 : decode cX0_who 1 = .ok (.iload_n 2, 1) := dk_28 (dk_at dksX0_who_0 1 rfl rfl)
theorem dX0_who_2 : decode cX0_who 2 = .ok (.invokevirtual 182, 3) := dk_182 0 182 (dk_at dksX0_who_0 2 rfl rfl)
theorem dX0_who_5 : decode cX0_who 5 = .ok (.ifCond .eq 11, 3) := dk_153 0 11 (dk_at dksX0_who_0 5 rfl rfl)
theorem dX0_who_8 : decode cX0_who 8 = .ok (.aload_n 0, 1) := dk_42 (dk_at dksX0_who_0 8 rfl rfl)
theorem dX0_who_9 : decode cX0_who 9 = .ok (.iload_n 1, 1) := dk_27 (dk_at dksX0_who_0 9 rfl rfl)
theorem dX0_who_10 : decode cX0_who 10 = .ok (.invokevirtual 335, 3) := dk_182 1 79 (dk_at dksX0_who_0 10 rfl rfl)
theorem dX0_who_13 : decode cX0_who 13 = .ok (.goto 5, 3) := dk_167 0 5 (dk_at dksX0_who_0 13 rfl rfl)
theorem dX0_who_16 : decode cX0_who 16 = .ok (.bipush (-2), 2) := dk_16 254 (dk_at dksX0_who_0 16 rfl rfl)
theorem dX0_who_18 : decode cX0_who 18 = .ok (.istore_n 3, 1) := dk_62 (dk_at dksX0_who_0 18 rfl rfl)
theorem dX0_who_19 : decode cX0_who 19 = .ok (.iload_n 3, 1) := dk_29 (dk_at dksX0_who_0 19 rfl rfl)
theorem dX0_who_20 : decode cX0_who 20 = .ok (.ifCond .eq 5, 3) := dk_153 0 5 (dk_at dksX0_who_0 20 rfl rfl)
theorem dX0_who_23 : decode cX0_who 23 = .ok (.iload_n 3, 1) := dk_29 (dk_at dksX0_who_0 23 rfl rfl)
theorem dX0_who_24 : decode cX0_who 24 = .ok (.ireturn, 1) := dk_172 (dk_at dksX0_who_1 0 rfl rfl)
theorem dX0_who_25 : decode cX0_who 25 = .ok (.iconst (-1), 1) := dk_2 (dk_at dksX0_who_1 1 rfl rfl)
theorem dX0_who_26 : decode cX0_who 26 = .ok (.istore 4, 2) := dk_54 4 (dk_at dksX0_who_1 2 rfl rfl)
theorem dX0_who_28 : decode cX0_who 28 = .ok (.iconst 0, 1) := dk_3 (dk_at dksX0_who_1 4 rfl rfl)
theorem dX0_who_29 : decode cX0_who 29 = .ok (.istore 5, 2) := dk_54 5 (dk_at dksX0_who_1 5 rfl rfl)
theorem dX0_who_31 : decode cX0_who 31 = .ok (.iload 5, 2) := dk_21 5 (dk_at dksX0_who_1 7 rfl rfl)
theorem dX0_who_33 : decode cX0_who 33 = .ok (.aload_n 0, 1) := dk_42 (dk_at dksX0_who_1 9 rfl rfl)
theorem dX0_who_34 : decode cX0_who 34 = .ok (.invokevirtual 268, 3) := dk_182 1 12 (dk_at dksX0_who_1 10 rfl rfl)
theorem dX0_who_37 : decode cX0_who 37 = .ok (.if_icmp .ge 75, 3) := dk_162 0 75 (dk_at dksX0_who_1 13 rfl rfl)
theorem dX0_who_40 : decode cX0_who 40 = .ok (.aload_n 0, 1) := dk_42 (dk_at dksX0_who_1 16 rfl rfl)
theorem dX0_who_41 : decode cX0_who 41 = .ok (.iload 5, 2) := dk_21 5 (dk_at dksX0_who_1 17 rfl rfl)
theorem dX0_who_43 : decode cX0_who 43 = .ok (.invokevirtual 271, 3) := dk_182 1 15 (dk_at dksX0_who_1 19 rfl rfl)
theorem dX0_who_46 : decode cX0_who 46 = .ok (.pop, 1) := dk_87 (dk_at dksX0_who_1 22 rfl rfl)
theorem dX0_who_47 : decode cX0_who 47 = .ok (.aload_n 0, 1) := dk_42 (dk_at dksX0_who_1 23 rfl rfl)
theorem dX0_who_48 : decode cX0_who 48 = .ok (.aload_n 0, 1) := dk_42 (dk_at dksX0_who_2 0 rfl rfl)
theorem dX0_who_49 : decode cX0_who 49 = .ok (.getfield 13, 3) := dk_180 0 13 (dk_at dksX0_who_2 1 rfl rfl)
theorem dX0_who_52 : decode cX0_who 52 = .ok (.iload_n 1, 1) := dk_27 (dk_at dksX0_who_2 4 rfl rfl)
theorem dX0_who_53 : decode cX0_who 53 = .ok (.aaload, 1) := dk_50 (dk_at dksX0_who_2 5 rfl rfl)
theorem dX0_who_54 : decode cX0_who 54 = .ok (.iconst (-1), 1) := dk_2 (dk_at dksX0_who_2 6 rfl rfl)
theorem dX0_who_55 : decode cX0_who 55 = .ok (.invokevirtual 331, 3) := dk_182 1 75 (dk_at dksX0_who_2 7 rfl rfl)
theorem dX0_who_58 : decode cX0_who 58 = .ok (.ifCond .ne 6, 3) := dk_154 0 6 (dk_at dksX0_who_2 10 rfl rfl)
theorem dX0_who_61 : decode cX0_who 61 = .ok (.goto 45, 3) := dk_167 0 45 (dk_at dksX0_who_2 13 rfl rfl)
theorem dX0_who_64 : decode cX0_who 64 = .ok (.aload_n 0, 1) := dk_42 (dk_at dksX0_who_2 16 rfl rfl)
theorem dX0_who_65 : decode cX0_who 65 = .ok (.getfield 70, 3) := dk_180 0 70 (dk_at dksX0_who_2 17 rfl rfl)
theorem dX0_who_68 : decode cX0_who 68 = .ok (.iload_n 2, 1) := dk_28 (dk_at dksX0_who_2 20 rfl rfl)
theorem dX0_who_69 : decode cX0_who 69 = .ok (.iaload, 1) := dk_46 (dk_at dksX0_who_2 21 rfl rfl)
theorem dX0_who_70 : decode cX0_who 70 = .ok (.iconst (-1), 1) := dk_2 (dk_at dksX0_who_2 22 rfl rfl)
theorem dX0_who_71 : decode cX0_who 71 = .ok (.if_icmp .ne 8, 3) := dk_160 0 8 (dk_at dksX0_who_3 0 rfl rfl)
theorem dX0_who_74 : decode cX0_who 74 = .ok (.bipush 9, 2) := dk_16 9 (dk_at dksX0_who_3 3 rfl rfl)
theorem dX0_who_76 : decode cX0_who 76 = .ok (.goto 9, 3) := dk_167 0 9 (dk_at dksX0_who_3 5 rfl rfl)
theorem dX0_who_79 : decode cX0_who 79 = .ok (.aload_n 0, 1) := dk_42 (dk_at dksX0_who_3 8 rfl rfl)
theorem dX0_who_80 : decode cX0_who 80 = .ok (.getfield 70, 3) := dk_180 0 70 (dk_at dksX0_who_3 9 rfl rfl)
theorem dX0_who_83 : decode cX0_who 83 = .ok (.iload_n 2, 1) := dk_28 (dk_at dksX0_who_3 12 rfl rfl)
theorem dX0_who_84 : decode cX0_who 84 = .ok (.iaload, 1) := dk_46 (dk_at dksX0_who_3 13 rfl rfl)
theorem dX0_who_85 : decode cX0_who 85 = .ok (.istore 6, 2) := dk_54 6 (dk_at dksX0_who_3 14 rfl rfl)
theorem dX0_who_87 : decode cX0_who 87 = .ok (.iload 4, 2) := dk_21 4 (dk_at dksX0_who_3 16 rfl rfl)
theorem dX0_who_89 : decode cX0_who 89 = .ok (.iconst (-1), 1) := dk_2 (dk_at dksX0_who_3 18 rfl rfl)
theorem dX0_who_90 : decode cX0_who 90 = .ok (.if_icmp .eq 12, 3) := dk_159 0 12 (dk_at dksX0_who_3 19 rfl rfl)
theorem dX0_who_93 : decode cX0_who 93 = .ok (.iload 4, 2) := dk_21 4 (dk_at dksX0_who_3 22 rfl rfl)
theorem dX0_who_95 : decode cX0_who 95 = .ok (.iload 6, 2) := dk_21 6 (dk_at dksX0_who_4 0 rfl rfl)
theorem dX0_who_97 : decode cX0_who 97 = .ok (.if_icmp .eq 5, 3) := dk_159 0 5 (dk_at dksX0_who_4 2 rfl rfl)
theorem dX0_who_100 : decode cX0_who 100 = .ok (.iconst (-1), 1) := dk_2 (dk_at dksX0_who_4 5 rfl rfl)
theorem dX0_who_101 : decode cX0_who 101 = .ok (.ireturn, 1) := dk_172 (dk_at dksX0_who_4 6 rfl rfl)
theorem dX0_who_102 : decode cX0_who 102 = .ok (.iload 6, 2) := dk_21 6 (dk_at dksX0_who_4 7 rfl rfl)
theorem dX0_who_104 : decode cX0_who 104 = .ok (.istore 4, 2) := dk_54 4 (dk_at dksX0_who_4 9 rfl rfl)
theorem dX0_who_106 : decode cX0_who 106 = .ok (.iinc 5 1, 3) := dk_132 5 1 (dk_at dksX0_who_4 11 rfl rfl)
theorem dX0_who_109 : decode cX0_who 109 = .ok (.goto (-78), 3) := dk_167 255 178 (dk_at dksX0_who_4 14 rfl rfl)
theorem dX0_who_112 : decode cX0_who 112 = .ok (.iload 4, 2) := dk_21 4 (dk_at dksX0_who_4 17 rfl rfl)
theorem dX0_who_114 : decode cX0_who 114 = .ok (.ireturn, 1) := dk_172 (dk_at dksX0_who_4 19 rfl rfl)
abbrev cX0_sure : ByteArray := prog_1_method_47_code
def yX0_sure : MethodName := ⟨RX0, "sure", "(III)I"⟩
def dkwX0_sure_5 : List UInt8 := [167, 255, 183, 21, 5, 172]
abbrev dktX0_sure_5 : List UInt8 := dkwX0_sure_5 ++ []
def dkwX0_sure_4 : List UInt8 := [46, 159, 0, 5, 2, 172, 42, 180, 0, 52, 180, 0, 191, 28, 50, 29, 46, 54, 5, 132, 6, 1]
abbrev dktX0_sure_4 : List UInt8 := dkwX0_sure_4 ++ dktX0_sure_5
def dkwX0_sure_3 : List UInt8 := [154, 0, 6, 167, 0, 40, 21, 5, 2, 159, 0, 21, 21, 5, 42, 180, 0, 52, 180, 0, 191, 28, 50, 29]
abbrev dktX0_sure_3 : List UInt8 := dkwX0_sure_3 ++ dktX0_sure_4
def dkwX0_sure_2 : List UInt8 := [182, 1, 12, 162, 0, 70, 42, 21, 6, 182, 1, 15, 87, 42, 42, 180, 0, 13, 27, 50, 2, 182, 1, 75]
abbrev dktX0_sure_2 : List UInt8 := dkwX0_sure_2 ++ dktX0_sure_3
def dkwX0_sure_1 : List UInt8 := [167, 0, 5, 16, 254, 54, 4, 21, 4, 153, 0, 6, 21, 4, 172, 2, 54, 5, 3, 54, 6, 21, 6, 42]
abbrev dktX0_sure_1 : List UInt8 := dkwX0_sure_1 ++ dktX0_sure_2
def dkwX0_sure_0 : List UInt8 := [42, 28, 133, 182, 0, 142, 153, 0, 20, 42, 29, 133, 182, 0, 185, 153, 0, 11, 42, 27, 182, 1, 79]
abbrev dktX0_sure_0 : List UInt8 := dkwX0_sure_0 ++ dktX0_sure_1
theorem dksX0_sure_0 : cX0_sure.data.toList.drop 0 = dktX0_sure_0 := by decide +kernel
theorem dksX0_sure_1 : cX0_sure.data.toList.drop 23 = dktX0_sure_1 := dk_seg dksX0_sure_0 23 rfl rfl
theorem dksX0_sure_2 : cX0_sure.data.toList.drop 47 = dktX0_sure_2 := dk_seg dksX0_sure_1 24 rfl rfl
theorem dksX0_sure_3 : cX0_sure.data.toList.drop 71 = dktX0_sure_3 := dk_seg dksX0_sure_2 24 rfl rfl
theorem dksX0_sure_4 : cX0_sure.data.toList.drop 95 = dktX0_sure_4 := dk_seg dksX0_sure_3 24 rfl rfl
theorem dksX0_sure_5 : cX0_sure.data.toList.drop 117 = dktX0_sure_5 := dk_seg dksX0_sure_4 22 rfl rfl
theorem dX0_sure_0 : decode cX0_sure 0 = .ok (.aload_n 0, 1) := dk_42 (dk_at dksX0_sure_0 0 rfl rfl)
theorem dX0_sure_1 : decode cX0_sure 1 = .ok (.iload_n 2, 1) := dk_28 (dk_at dksX0_sure_0 1 rfl rfl)
theorem dX0_sure_2 : decode cX0_sure 2 = .ok (.i2l, 1) := dk_133 (dk_at dksX0_sure_0 2 rfl rfl)
theorem dX0_sure_3 : decode cX0_sure 3 = .ok (.invokevirtual 142, 3) := dk_182 0 142 (dk_at dksX0_sure_0 3 rfl rfl)
theorem dX0_sure_6 : decode cX0_sure 6 = .ok (.ifCond .eq 20, 3) := dk_153 0 20 (dk_at dksX0_sure_0 6 rfl rfl)
theorem dX0_sure_9 : decode cX0_sure 9 = .ok (.aload_n 0, 1) := dk_42 (dk_at dksX0_sure_0 9 rfl rfl)
theorem dX0_sure_10 : decode cX0_sure 10 = .ok (.iload_n 3, 1) := dk_29 (dk_at dksX0_sure_0 10 rfl rfl)
theorem dX0_sure_11 : decode cX0_sure 11 = .ok (.i2l, 1) := dk_133 (dk_at dksX0_sure_0 11 rfl rfl)
theorem dX0_sure_12 : decode cX0_sure 12 = .ok (.invokevirtual 185, 3) := dk_182 0 185 (dk_at dksX0_sure_0 12 rfl rfl)
theorem dX0_sure_15 : decode cX0_sure 15 = .ok (.ifCond .eq 11, 3) := dk_153 0 11 (dk_at dksX0_sure_0 15 rfl rfl)
theorem dX0_sure_18 : decode cX0_sure 18 = .ok (.aload_n 0, 1) := dk_42 (dk_at dksX0_sure_0 18 rfl rfl)
theorem dX0_sure_19 : decode cX0_sure 19 = .ok (.iload_n 1, 1) := dk_27 (dk_at dksX0_sure_0 19 rfl rfl)
theorem dX0_sure_20 : decode cX0_sure 20 = .ok (.invokevirtual 335, 3) := dk_182 1 79 (dk_at dksX0_sure_0 20 rfl rfl)
theorem dX0_sure_23 : decode cX0_sure 23 = .ok (.goto 5, 3) := dk_167 0 5 (dk_at dksX0_sure_1 0 rfl rfl)
theorem dX0_sure_26 : decode cX0_sure 26 = .ok (.bipush (-2), 2) := dk_16 254 (dk_at dksX0_sure_1 3 rfl rfl)
theorem dX0_sure_28 : decode cX0_sure 28 = .ok (.istore 4, 2) := dk_54 4 (dk_at dksX0_sure_1 5 rfl rfl)
theorem dX0_sure_30 : decode cX0_sure 30 = .ok (.iload 4, 2) := dk_21 4 (dk_at dksX0_sure_1 7 rfl rfl)
theorem dX0_sure_32 : decode cX0_sure 32 = .ok (.ifCond .eq 6, 3) := dk_153 0 6 (dk_at dksX0_sure_1 9 rfl rfl)
theorem dX0_sure_35 : decode cX0_sure 35 = .ok (.iload 4, 2) := dk_21 4 (dk_at dksX0_sure_1 12 rfl rfl)
theorem dX0_sure_37 : decode cX0_sure 37 = .ok (.ireturn, 1) := dk_172 (dk_at dksX0_sure_1 14 rfl rfl)
theorem dX0_sure_38 : decode cX0_sure 38 = .ok (.iconst (-1), 1) := dk_2 (dk_at dksX0_sure_1 15 rfl rfl)
theorem dX0_sure_39 : decode cX0_sure 39 = .ok (.istore 5, 2) := dk_54 5 (dk_at dksX0_sure_1 16 rfl rfl)
theorem dX0_sure_41 : decode cX0_sure 41 = .ok (.iconst 0, 1) := dk_3 (dk_at dksX0_sure_1 18 rfl rfl)
theorem dX0_sure_42 : decode cX0_sure 42 = .ok (.istore 6, 2) := dk_54 6 (dk_at dksX0_sure_1 19 rfl rfl)
theorem dX0_sure_44 : decode cX0_sure 44 = .ok (.iload 6, 2) := dk_21 6 (dk_at dksX0_sure_1 21 rfl rfl)
theorem dX0_sure_46 : decode cX0_sure 46 = .ok (.aload_n 0, 1) := dk_42 (dk_at dksX0_sure_1 23 rfl rfl)
theorem dX0_sure_47 : decode cX0_sure 47 = .ok (.invokevirtual 268, 3) := dk_182 1 12 (dk_at dksX0_sure_2 0 rfl rfl)
theorem dX0_sure_50 : decode cX0_sure 50 = .ok (.if_icmp .ge 70, 3) := dk_162 0 70 (dk_at dksX0_sure_2 3 rfl rfl)
theorem dX0_sure_53 : decode cX0_sure 53 = .ok (.aload_n 0, 1) := dk_42 (dk_at dksX0_sure_2 6 rfl rfl)
theorem dX0_sure_54 : decode cX0_sure 54 = .ok (.iload 6, 2) := dk_21 6 (dk_at dksX0_sure_2 7 rfl rfl)
theorem dX0_sure_56 : decode cX0_sure 56 = .ok (.invokevirtual 271, 3) := dk_182 1 15 (dk_at dksX0_sure_2 9 rfl rfl)
theorem dX0_sure_59 : decode cX0_sure 59 = .ok (.pop, 1) := dk_87 (dk_at dksX0_sure_2 12 rfl rfl)
theorem dX0_sure_60 : decode cX0_sure 60 = .ok (.aload_n 0, 1) := dk_42 (dk_at dksX0_sure_2 13 rfl rfl)
theorem dX0_sure_61 : decode cX0_sure 61 = .ok (.aload_n 0, 1) := dk_42 (dk_at dksX0_sure_2 14 rfl rfl)
theorem dX0_sure_62 : decode cX0_sure 62 = .ok (.getfield 13, 3) := dk_180 0 13 (dk_at dksX0_sure_2 15 rfl rfl)
theorem dX0_sure_65 : decode cX0_sure 65 = .ok (.iload_n 1, 1) := dk_27 (dk_at dksX0_sure_2 18 rfl rfl)
theorem dX0_sure_66 : decode cX0_sure 66 = .ok (.aaload, 1) := dk_50 (dk_at dksX0_sure_2 19 rfl rfl)
theorem dX0_sure_67 : decode cX0_sure 67 = .ok (.iconst (-1), 1) := dk_2 (dk_at dksX0_sure_2 20 rfl rfl)
theorem dX0_sure_68 : decode cX0_sure 68 = .ok (.invokevirtual 331, 3) := dk_182 1 75 (dk_at dksX0_sure_2 21 rfl rfl)
theorem dX0_sure_71 : decode cX0_sure 71 = .ok (.ifCond .ne 6, 3) := dk_154 0 6 (dk_at dksX0_sure_3 0 rfl rfl)
theorem dX0_sure_74 : decode cX0_sure 74 = .ok (.goto 40, 3) := dk_167 0 40 (dk_at dksX0_sure_3 3 rfl rfl)
theorem dX0_sure_77 : decode cX0_sure 77 = .ok (.iload 5, 2) := dk_21 5 (dk_at dksX0_sure_3 6 rfl rfl)
theorem dX0_sure_79 : decode cX0_sure 79 = .ok (.iconst (-1), 1) := dk_2 (dk_at dksX0_sure_3 8 rfl rfl)
theorem dX0_sure_80 : decode cX0_sure 80 = .ok (.if_icmp .eq 21, 3) := dk_159 0 21 (dk_at dksX0_sure_3 9 rfl rfl)
theorem dX0_sure_83 : decode cX0_sure 83 = .ok (.iload 5, 2) := dk_21 5 (dk_at dksX0_sure_3 12 rfl rfl)
theorem dX0_sure_85 : decode cX0_sure 85 = .ok (.aload_n 0, 1) := dk_42 (dk_at dksX0_sure_3 14 rfl rfl)
theorem dX0_sure_86 : decode cX0_sure 86 = .ok (.getfield 52, 3) := dk_180 0 52 (dk_at dksX0_sure_3 15 rfl rfl)
theorem dX0_sure_89 : decode cX0_sure 89 = .ok (.getfield 191, 3) := dk_180 0 191 (dk_at dksX0_sure_3 18 rfl rfl)
theorem dX0_sure_92 : decode cX0_sure 92 = .ok (.iload_n 2, 1) := dk_28 (dk_at dksX0_sure_3 21 rfl rfl)
theorem dX0_sure_93 : decode cX0_sure 93 = .ok (.aaload, 1) := dk_50 (dk_at dksX0_sure_3 22 rfl rfl)
theorem dX0_sure_94 : decode cX0_sure 94 = .ok (.iload_n 3, 1) := dk_29 (dk_at dksX0_sure_3 23 rfl rfl)
theorem dX0_sure_95 : decode cX0_sure 95 = .ok (.iaload, 1) := dk_46 (dk_at dksX0_sure_4 0 rfl rfl)
theorem dX0_sure_96 : decode cX0_sure 96 = .ok (.if_icmp .eq 5, 3) := dk_159 0 5 (dk_at dksX0_sure_4 1 rfl rfl)
theorem dX0_sure_99 : decode cX0_sure 99 = .ok (.iconst (-1), 1) := dk_2 (dk_at dksX0_sure_4 4 rfl rfl)
theorem dX0_sure_100 : decode cX0_sure 100 = .ok (.ireturn, 1) := dk_172 (dk_at dksX0_sure_4 5 rfl rfl)
theorem dX0_sure_101 : decode cX0_sure 101 = .ok (.aload_n 0, 1) := dk_42 (dk_at dksX0_sure_4 6 rfl rfl)
theorem dX0_sure_102 : decode cX0_sure 102 = .ok (.getfield 52, 3) := dk_180 0 52 (dk_at dksX0_sure_4 7 rfl rfl)
theorem dX0_sure_105 : decode cX0_sure 105 = .ok (.getfield 191, 3) := dk_180 0 191 (dk_at dksX0_sure_4 10 rfl rfl)
theorem dX0_sure_108 : decode cX0_sure 108 = .ok (.iload_n 2, 1) := dk_28 (dk_at dksX0_sure_4 13 rfl rfl)
theorem dX0_sure_109 : decode cX0_sure 109 = .ok (.aaload, 1) := dk_50 (dk_at dksX0_sure_4 14 rfl rfl)
theorem dX0_sure_110 : decode cX0_sure 110 = .ok (.iload_n 3, 1) := dk_29 (dk_at dksX0_sure_4 15 rfl rfl)
theorem dX0_sure_111 : decode cX0_sure 111 = .ok (.iaload, 1) := dk_46 (dk_at dksX0_sure_4 16 rfl rfl)
theorem dX0_sure_112 : decode cX0_sure 112 = .ok (.istore 5, 2) := dk_54 5 (dk_at dksX0_sure_4 17 rfl rfl)
theorem dX0_sure_114 : decode cX0_sure 114 = .ok (.iinc 6 1, 3) := dk_132 6 1 (dk_at dksX0_sure_4 19 rfl rfl)
theorem dX0_sure_117 : decode cX0_sure 117 = .ok (.goto (-73), 3) := dk_167 255 183 (dk_at dksX0_sure_5 0 rfl rfl)
theorem dX0_sure_120 : decode cX0_sure 120 = .ok (.iload 5, 2) := dk_21 5 (dk_at dksX0_sure_5 3 rfl rfl)
theorem dX0_sure_122 : decode cX0_sure 122 = .ok (.ireturn, 1) := dk_172 (dk_at dksX0_sure_5 5 rfl rfl)
abbrev cX0_needed : ByteArray := prog_1_method_48_code
def yX0_needed : MethodName := ⟨RX0, "needed", "(I)I"⟩
def dkwX0_needed_2 : List UInt8 := [27, 50, 21, 4, 182, 1, 83, 29, 164, 0, 6, 21, 4, 172, 132, 4, 1, 167, 255, 218, 2, 172]
abbrev dktX0_needed_2 : List UInt8 := dkwX0_needed_2 ++ []
def dkwX0_needed_1 : List UInt8 := [3, 54, 4, 6, 21, 4, 104, 42, 180, 0, 13, 27, 50, 182, 1, 68, 162, 0, 28, 42, 42, 180, 0, 13]
abbrev dktX0_needed_1 : List UInt8 := dkwX0_needed_1 ++ dktX0_needed_2
def dkwX0_needed_0 : List UInt8 := [42, 27, 182, 1, 79, 61, 28, 153, 0, 5, 28, 172, 42, 42, 180, 0, 13, 27, 50, 2, 182, 1, 83, 62]
abbrev dktX0_needed_0 : List UInt8 := dkwX0_needed_0 ++ dktX0_needed_1
theorem dksX0_needed_0 : cX0_needed.data.toList.drop 0 = dktX0_needed_0 := by decide +kernel
theorem dksX0_needed_1 : cX0_needed.data.toList.drop 24 = dktX0_needed_1 := dk_seg dksX0_needed_0 24 rfl rfl
theorem dksX0_needed_2 : cX0_needed.data.toList.drop 48 = dktX0_needed_2 := dk_seg dksX0_needed_1 24 rfl rfl
theorem dX0_needed_0 : decode cX0_needed 0 = .ok (.aload_n 0, 1) := dk_42 (dk_at dksX0_needed_0 0 rfl rfl)
theorem dX0_needed_1 : decode cX0_needed 1 = .ok (.iload_n 1, 1) := dk_27 (dk_at dksX0_needed_0 1 rfl rfl)
theorem dX0_needed_2 : decode cX0_needed 2 = .ok (.invokevirtual 335, 3) := dk_182 1 79 (dk_at dksX0_needed_0 2 rfl rfl)
theorem dX0_needed_5 : decode cX0_needed 5 = .ok (.istore_n 2, 1) := dk_61 (dk_at dksX0_needed_0 5 rfl rfl)
theorem dX0_needed_6 : decode cX0_needed 6 = .ok (.iload_n 2, 1) := dk_28 (dk_at dksX0_needed_0 6 rfl rfl)
theorem dX0_needed_7 : decode cX0_needed 7 = .ok (.ifCond .eq 5, 3) := dk_153 0 5 (dk_at dksX0_needed_0 7 rfl rfl)
theorem dX0_needed_10 : decode cX0_needed 10 = .ok (.iload_n 2, 1) := dk_28 (dk_at dksX0_needed_0 10 rfl rfl)
theorem dX0_needed_11 : decode cX0_needed 11 = .ok (.ireturn, 1) := dk_172 (dk_at dksX0_needed_0 11 rfl rfl)
theorem dX0_needed_12 : decode cX0_needed 12 = .ok (.aload_n 0, 1) := dk_42 (dk_at dksX0_needed_0 12 rfl rfl)
theorem dX0_needed_13 : decode cX0_needed 13 = .ok (.aload_n 0, 1) := dk_42 (dk_at dksX0_needed_0 13 rfl rfl)
theorem dX0_needed_14 : decode cX0_needed 14 = .ok (.getfield 13, 3) := dk_180 0 13 (dk_at dksX0_needed_0 14 rfl rfl)
theorem dX0_needed_17 : decode cX0_needed 17 = .ok (.iload_n 1, 1) := dk_27 (dk_at dksX0_needed_0 17 rfl rfl)
theorem dX0_needed_18 : decode cX0_needed 18 = .ok (.aaload, 1) := dk_50 (dk_at dksX0_needed_0 18 rfl rfl)
theorem dX0_needed_19 : decode cX0_needed 19 = .ok (.iconst (-1), 1) := dk_2 (dk_at dksX0_needed_0 19 rfl rfl)
theorem dX0_needed_20 : decode cX0_needed 20 = .ok (.invokevirtual 339, 3) := dk_182 1 83 (dk_at dksX0_needed_0 20 rfl rfl)
theorem dX0_needed_23 : decode cX0_needed 23 = .ok (.istore_n 3, 1) := dk_62 (dk_at dksX0_needed_0 23 rfl rfl)
theorem dX0_needed_24 : decode cX0_needed 24 = .ok (.iconst 0, 1) := dk_3 (dk_at dksX0_needed_1 0 rfl rfl)
theorem dX0_needed_25 : decode cX0_needed 25 = .ok (.istore 4, 2) := dk_54 4 (dk_at dksX0_needed_1 1 rfl rfl)
theorem dX0_needed_27 : decode cX0_needed 27 = .ok (.iconst 3, 1) := dk_6 (dk_at dksX0_needed_1 3 rfl rfl)
theorem dX0_needed_28 : decode cX0_needed 28 = .ok (.iload 4, 2) := dk_21 4 (dk_at dksX0_needed_1 4 rfl rfl)
theorem dX0_needed_30 : decode cX0_needed 30 = .ok (.imul, 1) := dk_104 (dk_at dksX0_needed_1 6 rfl rfl)
theorem dX0_needed_31 : decode cX0_needed 31 = .ok (.aload_n 0, 1) := dk_42 (dk_at dksX0_needed_1 7 rfl rfl)
theorem dX0_needed_32 : decode cX0_needed 32 = .ok (.getfield 13, 3) := dk_180 0 13 (dk_at dksX0_needed_1 8 rfl rfl)
theorem dX0_needed_35 : decode cX0_needed 35 = .ok (.iload_n 1, 1) := dk_27 (dk_at dksX0_needed_1 11 rfl rfl)
theorem dX0_needed_36 : decode cX0_needed 36 = .ok (.aaload, 1) := dk_50 (dk_at dksX0_needed_1 12 rfl rfl)
theorem dX0_needed_37 : decode cX0_needed 37 = .ok (.invokevirtual 324, 3) := dk_182 1 68 (dk_at dksX0_needed_1 13 rfl rfl)
theorem dX0_needed_40 : decode cX0_needed 40 = .ok (.if_icmp .ge 28, 3) := dk_162 0 28 (dk_at dksX0_needed_1 16 rfl rfl)
theorem dX0_needed_43 : decode cX0_needed 43 = .ok (.aload_n 0, 1) := dk_42 (dk_at dksX0_needed_1 19 rfl rfl)
theorem dX0_needed_44 : decode cX0_needed 44 = .ok (.aload_n 0, 1) := dk_42 (dk_at dksX0_needed_1 20 rfl rfl)
theorem dX0_needed_45 : decode cX0_needed 45 = .ok (.getfield 13, 3) := dk_180 0 13 (dk_at dksX0_needed_1 21 rfl rfl)
theorem dX0_needed_48 : decode cX0_needed 48 = .ok (.iload_n 1, 1) := dk_27 (dk_at dksX0_needed_2 0 rfl rfl)
theorem dX0_needed_49 : decode cX0_needed 49 = .ok (.aaload, 1) := dk_50 (dk_at dksX0_needed_2 1 rfl rfl)
theorem dX0_needed_50 : decode cX0_needed 50 = .ok (.iload 4, 2) := dk_21 4 (dk_at dksX0_needed_2 2 rfl rfl)
theorem dX0_needed_52 : decode cX0_needed 52 = .ok (.invokevirtual 339, 3) := dk_182 1 83 (dk_at dksX0_needed_2 4 rfl rfl)
theorem dX0_needed_55 : decode cX0_needed 55 = .ok (.iload_n 3, 1) := dk_29 (dk_at dksX0_needed_2 7 rfl rfl)
theorem dX0_needed_56 : decode cX0_needed 56 = .ok (.if_icmp .le 6, 3) := dk_164 0 6 (dk_at dksX0_needed_2 8 rfl rfl)
theorem dX0_needed_59 : decode cX0_needed 59 = .ok (.iload 4, 2) := dk_21 4 (dk_at dksX0_needed_2 11 rfl rfl)
theorem dX0_needed_61 : decode cX0_needed 61 = .ok (.ireturn, 1) := dk_172 (dk_at dksX0_needed_2 13 rfl rfl)
theorem dX0_needed_62 : decode cX0_needed 62 = .ok (.iinc 4 1, 3) := dk_132 4 1 (dk_at dksX0_needed_2 14 rfl rfl)
theorem dX0_needed_65 : decode cX0_needed 65 = .ok (.goto (-38), 3) := dk_167 255 218 (dk_at dksX0_needed_2 17 rfl rfl)
theorem dX0_needed_68 : decode cX0_needed 68 = .ok (.iconst (-1), 1) := dk_2 (dk_at dksX0_needed_2 20 rfl rfl)
theorem dX0_needed_69 : decode cX0_needed 69 = .ok (.ireturn, 1) := dk_172 (dk_at dksX0_needed_2 21 rfl rfl)
abbrev cX0_fair : ByteArray := prog_1_method_49_code
def yX0_fair : MethodName := ⟨RX0, "fair", "(I)I"⟩
def dkwX0_fair_4 : List UInt8 := [172]
abbrev dktX0_fair_4 : List UInt8 := dkwX0_fair_4 ++ []
def dkwX0_fair_3 : List UInt8 := [29, 42, 180, 0, 52, 182, 0, 155, 27, 182, 1, 87, 161, 0, 5, 28, 172, 132, 2, 1, 167, 255, 178, 2]
abbrev dktX0_fair_3 : List UInt8 := dkwX0_fair_3 ++ dktX0_fair_4
def dkwX0_fair_2 : List UInt8 := [42, 180, 0, 52, 42, 180, 0, 41, 42, 180, 0, 45, 28, 182, 0, 152, 42, 180, 0, 52, 27, 181, 1, 90]
abbrev dktX0_fair_2 : List UInt8 := dkwX0_fair_2 ++ dktX0_fair_3
def dkwX0_fair_1 : List UInt8 := [42, 180, 0, 41, 42, 180, 0, 45, 28, 182, 0, 152, 42, 180, 0, 52, 182, 0, 155, 27, 182, 1, 87, 62]
abbrev dktX0_fair_1 : List UInt8 := dkwX0_fair_1 ++ dktX0_fair_2
def dkwX0_fair_0 : List UInt8 := [42, 27, 133, 182, 0, 142, 154, 0, 6, 16, 254, 172, 3, 61, 28, 16, 100, 163, 0, 78, 42, 180, 0, 52]
abbrev dktX0_fair_0 : List UInt8 := dkwX0_fair_0 ++ dktX0_fair_1
theorem dksX0_fair_0 : cX0_fair.data.toList.drop 0 = dktX0_fair_0 := by decide +kernel
theorem dksX0_fair_1 : cX0_fair.data.toList.drop 24 = dktX0_fair_1 := dk_seg dksX0_fair_0 24 rfl rfl
theorem dksX0_fair_2 : cX0_fair.data.toList.drop 48 = dktX0_fair_2 := dk_seg dksX0_fair_1 24 rfl rfl
theorem dksX0_fair_3 : cX0_fair.data.toList.drop 72 = dktX0_fair_3 := dk_seg dksX0_fair_2 24 rfl rfl
theorem dksX0_fair_4 : cX0_fair.data.toList.drop 96 = dktX0_fair_4 := dk_seg dksX0_fair_3 24 rfl rfl
theorem dX0_fair_0 : decode cX0_fair 0 = .ok (.aload_n 0, 1) := dk_42 (dk_at dksX0_fair_0 0 rfl rfl)
theorem dX0_fair_1 : decode cX0_fair 1 = .ok (.iload_n 1, 1) := dk_27 (dk_at dksX0_fair_0 1 rfl rfl)
theorem dX0_fair_2 : decode cX0_fair 2 = .ok (.i2l, 1) := dk_133 (dk_at dksX0_fair_0 2 rfl rfl)
theorem dX0_fair_3 : decode cX0_fair 3 = .ok (.invokevirtual 142, 3) := dk_182 0 142 (dk_at dksX0_fair_0 3 rfl rfl)
theorem dX0_fair_6 : decode cX0_fair 6 = .ok (.ifCond .ne 6, 3) := dk_154 0 6 (dk_at dksX0_fair_0 6 rfl rfl)
theorem dX0_fair_9 : decode cX0_fair 9 = .ok (.bipush (-2), 2) := dk_16 254 (dk_at dksX0_fair_0 9 rfl rfl)
theorem dX0_fair_11 : decode cX0_fair 11 = .ok (.ireturn, 1) := dk_172 (dk_at dksX0_fair_0 11 rfl rfl)
theorem dX0_fair_12 : decode cX0_fair 12 = .ok (.iconst 0, 1) := dk_3 (dk_at dksX0_fair_0 12 rfl rfl)
theorem dX0_fair_13 : decode cX0_fair 13 = .ok (.istore_n 2, 1) := dk_61 (dk_at dksX0_fair_0 13 rfl rfl)
theorem dX0_fair_14 : decode cX0_fair 14 = .ok (.iload_n 2, 1) := dk_28 (dk_at dksX0_fair_0 14 rfl rfl)
theorem dX0_fair_15 : decode cX0_fair 15 = .ok (.bipush 100, 2) := dk_16 100 (dk_at dksX0_fair_0 15 rfl rfl)
theorem dX0_fair_17 : decode cX0_fair 17 = .ok (.if_icmp .gt 78, 3) := dk_163 0 78 (dk_at dksX0_fair_0 17 rfl rfl)
theorem dX0_fair_20 : decode cX0_fair 20 = .ok (.aload_n 0, 1) := dk_42 (dk_at dksX0_fair_0 20 rfl rfl)
theorem dX0_fair_21 : decode cX0_fair 21 = .ok (.getfield 52, 3) := dk_180 0 52 (dk_at dksX0_fair_0 21 rfl rfl)
theorem dX0_fair_24 : decode cX0_fair 24 = .ok (.aload_n 0, 1) := dk_42 (dk_at dksX0_fair_1 0 rfl rfl)
theorem dX0_fair_25 : decode cX0_fair 25 = .ok (.getfield 41, 3) := dk_180 0 41 (dk_at dksX0_fair_1 1 rfl rfl)
theorem dX0_fair_28 : decode cX0_fair 28 = .ok (.aload_n 0, 1) := dk_42 (dk_at dksX0_fair_1 4 rfl rfl)
theorem dX0_fair_29 : decode cX0_fair 29 = .ok (.getfield 45, 3) := dk_180 0 45 (dk_at dksX0_fair_1 5 rfl rfl)
theorem dX0_fair_32 : decode cX0_fair 32 = .ok (.iload_n 2, 1) := dk_28 (dk_at dksX0_fair_1 8 rfl rfl)
theorem dX0_fair_33 : decode cX0_fair 33 = .ok (.invokevirtual 152, 3) := dk_182 0 152 (dk_at dksX0_fair_1 9 rfl rfl)
theorem dX0_fair_36 : decode cX0_fair 36 = .ok (.aload_n 0, 1) := dk_42 (dk_at dksX0_fair_1 12 rfl rfl)
theorem dX0_fair_37 : decode cX0_fair 37 = .ok (.getfield 52, 3) := dk_180 0 52 (dk_at dksX0_fair_1 13 rfl rfl)
theorem dX0_fair_40 : decode cX0_fair 40 = .ok (.invokevirtual 155, 3) := dk_182 0 155 (dk_at dksX0_fair_1 16 rfl rfl)
theorem dX0_fair_43 : decode cX0_fair 43 = .ok (.iload_n 1, 1) := dk_27 (dk_at dksX0_fair_1 19 rfl rfl)
theorem dX0_fair_44 : decode cX0_fair 44 = .ok (.invokevirtual 343, 3) := dk_182 1 87 (dk_at dksX0_fair_1 20 rfl rfl)
theorem dX0_fair_47 : decode cX0_fair 47 = .ok (.istore_n 3, 1) := dk_62 (dk_at dksX0_fair_1 23 rfl rfl)
theorem dX0_fair_48 : decode cX0_fair 48 = .ok (.aload_n 0, 1) := dk_42 (dk_at dksX0_fair_2 0 rfl rfl)
theorem dX0_fair_49 : decode cX0_fair 49 = .ok (.getfield 52, 3) := dk_180 0 52 (dk_at dksX0_fair_2 1 rfl rfl)
theorem dX0_fair_52 : decode cX0_fair 52 = .ok (.aload_n 0, 1) := dk_42 (dk_at dksX0_fair_2 4 rfl rfl)
theorem dX0_fair_53 : decode cX0_fair 53 = .ok (.getfield 41, 3) := dk_180 0 41 (dk_at dksX0_fair_2 5 rfl rfl)
theorem dX0_fair_56 : decode cX0_fair 56 = .ok (.aload_n 0, 1) := dk_42 (dk_at dksX0_fair_2 8 rfl rfl)
theorem dX0_fair_57 : decode cX0_fair 57 = .ok (.getfield 45, 3) := dk_180 0 45 (dk_at dksX0_fair_2 9 rfl rfl)
theorem dX0_fair_60 : decode cX0_fair 60 = .ok (.iload_n 2, 1) := dk_28 (dk_at dksX0_fair_2 12 rfl rfl)
theorem dX0_fair_61 : decode cX0_fair 61 = .ok (.invokevirtual 152, 3) := dk_182 0 152 (dk_at dksX0_fair_2 13 rfl rfl)
theorem dX0_fair_64 : decode cX0_fair 64 = .ok (.aload_n 0, 1) := dk_42 (dk_at dksX0_fair_2 16 rfl rfl)
theorem dX0_fair_65 : decode cX0_fair 65 = .ok (.getfield 52, 3) := dk_180 0 52 (dk_at dksX0_fair_2 17 rfl rfl)
theorem dX0_fair_68 : decode cX0_fair 68 = .ok (.iload_n 1, 1) := dk_27 (dk_at dksX0_fair_2 20 rfl rfl)
theorem dX0_fair_69 : decode cX0_fair 69 = .ok (.putfield 346, 3) := dk_181 1 90 (dk_at dksX0_fair_2 21 rfl rfl)
theorem dX0_fair_72 : decode cX0_fair 72 = .ok (.iload_n 3, 1) := dk_29 (dk_at dksX0_fair_3 0 rfl rfl)
theorem dX0_fair_73 : decode cX0_fair 73 = .ok (.aload_n 0, 1) := dk_42 (dk_at dksX0_fair_3 1 rfl rfl)
theorem dX0_fair_74 : decode cX0_fair 74 = .ok (.getfield 52, 3) := dk_180 0 52 (dk_at dksX0_fair_3 2 rfl rfl)
theorem dX0_fair_77 : decode cX0_fair 77 = .ok (.invokevirtual 155, 3) := dk_182 0 155 (dk_at dksX0_fair_3 5 rfl rfl)
theorem dX0_fair_80 : decode cX0_fair 80 = .ok (.iload_n 1, 1) := dk_27 (dk_at dksX0_fair_3 8 rfl rfl)
theorem dX0_fair_81 : decode cX0_fair 81 = .ok (.invokevirtual 343, 3) := dk_182 1 87 (dk_at dksX0_fair_3 9 rfl rfl)
theorem dX0_fair_84 : decode cX0_fair 84 = .ok (.if_icmp .lt 5, 3) := dk_161 0 5 (dk_at dksX0_fair_3 12 rfl rfl)
theorem dX0_fair_87 : decode cX0_fair 87 = .ok (.iload_n 2, 1) := dk_28 (dk_at dksX0_fair_3 15 rfl rfl)
theorem dX0_fair_88 : decode cX0_fair 88 = .ok (.ireturn, 1) := dk_172 (dk_at dksX0_fair_3 16 rfl rfl)
theorem dX0_fair_89 : decode cX0_fair 89 = .ok (.iinc 2 1, 3) := dk_132 2 1 (dk_at dksX0_fair_3 17 rfl rfl)
theorem dX0_fair_92 : decode cX0_fair 92 = .ok (.goto (-78), 3) := dk_167 255 178 (dk_at dksX0_fair_3 20 rfl rfl)
theorem dX0_fair_95 : decode cX0_fair 95 = .ok (.iconst (-1), 1) := dk_2 (dk_at dksX0_fair_3 23 rfl rfl)
theorem dX0_fair_96 : decode cX0_fair 96 = .ok (.ireturn, 1) := dk_172 (dk_at dksX0_fair_4 0 rfl rfl)
abbrev cX0_more : ByteArray := prog_1_method_50_code
def yX0_more : MethodName := ⟨RX0, "more", "(I)I"⟩
def dkwX0_more_1 : List UInt8 := [172, 42, 180, 0, 109, 61, 42, 27, 181, 0, 109, 28, 172]
abbrev dktX0_more_1 : List UInt8 := dkwX0_more_1 ++ []
def dkwX0_more_0 : List UInt8 := [42, 180, 0, 41, 182, 0, 102, 153, 0, 15, 27, 133, 9, 20, 1, 40, 184, 0, 5, 154, 0, 6, 16, 254]
abbrev dktX0_more_0 : List UInt8 := dkwX0_more_0 ++ dktX0_more_1
theorem dksX0_more_0 : cX0_more.data.toList.drop 0 = dktX0_more_0 := by decide +kernel
theorem dksX0_more_1 : cX0_more.data.toList.drop 24 = dktX0_more_1 := dk_seg dksX0_more_0 24 rfl rfl
theorem dX0_more_0 : decode cX0_more 0 = .ok (.aload_n 0, 1) := dk_42 (dk_at dksX0_more_0 0 rfl rfl)
theorem dX0_more_1 : decode cX0_more 1 = .ok (.getfield 41, 3) := dk_180 0 41 (dk_at dksX0_more_0 1 rfl rfl)
theorem dX0_more_4 : decode cX0_more 4 = .ok (.invokevirtual 102, 3) := dk_182 0 102 (dk_at dksX0_more_0 4 rfl rfl)
theorem dX0_more_7 : decode cX0_more 7 = .ok (.ifCond .eq 15, 3) := dk_153 0 15 (dk_at dksX0_more_0 7 rfl rfl)
theorem dX0_more_10 : decode cX0_more 10 = .ok (.iload_n 1, 1) := dk_27 (dk_at dksX0_more_0 10 rfl rfl)
theorem dX0_more_11 : decode cX0_more 11 = .ok (.i2l, 1) := dk_133 (dk_at dksX0_more_0 11 rfl rfl)
theorem dX0_more_12 : decode cX0_more 12 = .ok (.lconst 0, 1) := dk_9 (dk_at dksX0_more_0 12 rfl rfl)
theorem dX0_more_13 : decode cX0_more 13 = .ok (.ldc2_w 296, 3) := dk_20 1 40 (dk_at dksX0_more_0 13 rfl rfl)
theorem dX0_more_16 : decode cX0_more 16 = .ok (.invokestatic 5, 3) := dk_184 0 5 (dk_at dksX0_more_0 16 rfl rfl)
theorem dX0_more_19 : decode cX0_more 19 = .ok (.ifCond .ne 6, 3) := dk_154 0 6 (dk_at dksX0_more_0 19 rfl rfl)
theorem dX0_more_22 : decode cX0_more 22 = .ok (.bipush (-2), 2) := dk_16 254 (dk_at dksX0_more_0 22 rfl rfl)
theorem dX0_more_24 : decode cX0_more 24 = .ok (.ireturn, 1) := dk_172 (dk_at dksX0_more_1 0 rfl rfl)
theorem dX0_more_25 : decode cX0_more 25 = .ok (.aload_n 0, 1) := dk_42 (dk_at dksX0_more_1 1 rfl rfl)
theorem dX0_more_26 : decode cX0_more 26 = .ok (.getfield 109, 3) := dk_180 0 109 (dk_at dksX0_more_1 2 rfl rfl)
theorem dX0_more_29 : decode cX0_more 29 = .ok (.istore_n 2, 1) := dk_61 (dk_at dksX0_more_1 5 rfl rfl)
theorem dX0_more_30 : decode cX0_more 30 = .ok (.aload_n 0, 1) := dk_42 (dk_at dksX0_more_1 6 rfl rfl)
theorem dX0_more_31 : decode cX0_more 31 = .ok (.iload_n 1, 1) := dk_27 (dk_at dksX0_more_1 7 rfl rfl)
theorem dX0_more_32 : decode cX0_more 32 = .ok (.putfield 109, 3) := dk_181 0 109 (dk_at dksX0_more_1 8 rfl rfl)
theorem dX0_more_35 : decode cX0_more 35 = .ok (.iload_n 2, 1) := dk_28 (dk_at dksX0_more_1 11 rfl rfl)
theorem dX0_more_36 : decode cX0_more 36 = .ok (.ireturn, 1) := dk_172 (dk_at dksX0_more_1 12 rfl rfl)
abbrev cX0_owes : ByteArray := prog_1_method_52_code
def yX0_owes : MethodName := ⟨RX0, "owes", "(II)I"⟩
def dkwX0_owes_1 : List UInt8 := [172]
abbrev dktX0_owes_1 : List UInt8 := dkwX0_owes_1 ++ []
def dkwX0_owes_0 : List UInt8 := [42, 27, 28, 182, 1, 97, 154, 0, 6, 16, 254, 172, 42, 182, 1, 100, 42, 180, 0, 75, 27, 50, 28, 46]
abbrev dktX0_owes_0 : List UInt8 := dkwX0_owes_0 ++ dktX0_owes_1
theorem dksX0_owes_0 : cX0_owes.data.toList.drop 0 = dktX0_owes_0 := by decide +kernel
theorem dksX0_owes_1 : cX0_owes.data.toList.drop 24 = dktX0_owes_1 := dk_seg dksX0_owes_0 24 rfl rfl
theorem dX0_owes_0 : decode cX0_owes 0 = .ok (.aload_n 0, 1) := dk_42 (dk_at dksX0_owes_0 0 rfl rfl)
theorem dX0_owes_1 : decode cX0_owes 1 = .ok (.iload_n 1, 1) := dk_27 (dk_at dksX0_owes_0 1 rfl rfl)
theorem dX0_owes_2 : decode cX0_owes 2 = .ok (.iload_n 2, 1) := dk_28 (dk_at dksX0_owes_0 2 rfl rfl)
theorem dX0_owes_3 : decode cX0_owes 3 = .ok (.invokevirtual 353, 3) := dk_182 1 97 (dk_at dksX0_owes_0 3 rfl rfl)
theorem dX0_owes_6 : decode cX0_owes 6 = .ok (.ifCond .ne 6, 3) := dk_154 0 6 (dk_at dksX0_owes_0 6 rfl rfl)
theorem dX0_owes_9 : decode cX0_owes 9 = .ok (.bipush (-2), 2) := dk_16 254 (dk_at dksX0_owes_0 9 rfl rfl)
theorem dX0_owes_11 : decode cX0_owes 11 = .ok (.ireturn, 1) := dk_172 (dk_at dksX0_owes_0 11 rfl rfl)
theorem dX0_owes_12 : decode cX0_owes 12 = .ok (.aload_n 0, 1) := dk_42 (dk_at dksX0_owes_0 12 rfl rfl)
theorem dX0_owes_13 : decode cX0_owes 13 = .ok (.invokevirtual 356, 3) := dk_182 1 100 (dk_at dksX0_owes_0 13 rfl rfl)
theorem dX0_owes_16 : decode cX0_owes 16 = .ok (.aload_n 0, 1) := dk_42 (dk_at dksX0_owes_0 16 rfl rfl)
theorem dX0_owes_17 : decode cX0_owes 17 = .ok (.getfield 75, 3) := dk_180 0 75 (dk_at dksX0_owes_0 17 rfl rfl)
theorem dX0_owes_20 : decode cX0_owes 20 = .ok (.iload_n 1, 1) := dk_27 (dk_at dksX0_owes_0 20 rfl rfl)
theorem dX0_owes_21 : decode cX0_owes 21 = .ok (.aaload, 1) := dk_50 (dk_at dksX0_owes_0 21 rfl rfl)
theorem dX0_owes_22 : decode cX0_owes 22 = .ok (.iload_n 2, 1) := dk_28 (dk_at dksX0_owes_0 22 rfl rfl)
theorem dX0_owes_23 : decode cX0_owes 23 = .ok (.iaload, 1) := dk_46 (dk_at dksX0_owes_0 23 rfl rfl)
theorem dX0_owes_24 : decode cX0_owes 24 = .ok (.ireturn, 1) := dk_172 (dk_at dksX0_owes_1 0 rfl rfl)
abbrev cX0_areTwo : ByteArray := prog_1_method_14_code
def yX0_areTwo : MethodName := ⟨RX0, "areTwo", "(II)Z"⟩
def dkwX0_areTwo_1 : List UInt8 := [167, 0, 4, 3, 172]
abbrev dktX0_areTwo_1 : List UInt8 := dkwX0_areTwo_1 ++ []
def dkwX0_areTwo_0 : List UInt8 := [42, 27, 133, 182, 0, 142, 153, 0, 21, 42, 28, 133, 182, 0, 142, 153, 0, 12, 27, 28, 159, 0, 7, 4]
abbrev dktX0_areTwo_0 : List UInt8 := dkwX0_areTwo_0 ++ dktX0_areTwo_1
theorem dksX0_areTwo_0 : cX0_areTwo.data.toList.drop 0 = dktX0_areTwo_0 := by decide +kernel
theorem dksX0_areTwo_1 : cX0_areTwo.data.toList.drop 24 = dktX0_areTwo_1 := dk_seg dksX0_areTwo_0 24 rfl rfl
theorem dX0_areTwo_0 : decode cX0_areTwo 0 = .ok (.aload_n 0, 1) := dk_42 (dk_at dksX0_areTwo_0 0 rfl rfl)
theorem dX0_areTwo_1 : decode cX0_areTwo 1 = .ok (.iload_n 1, 1) := dk_27 (dk_at dksX0_areTwo_0 1 rfl rfl)
theorem dX0_areTwo_2 : decode cX0_areTwo 2 = .ok (.i2l, 1) := dk_133 (dk_at dksX0_areTwo_0 2 rfl rfl)
theorem dX0_areTwo_3 : decode cX0_areTwo 3 = .ok (.invokevirtual 142, 3) := dk_182 0 142 (dk_at dksX0_areTwo_0 3 rfl rfl)
theorem dX0_areTwo_6 : decode cX0_areTwo 6 = .ok (.ifCond .eq 21, 3) := dk_153 0 21 (dk_at dksX0_areTwo_0 6 rfl rfl)
theorem dX0_areTwo_9 : decode cX0_areTwo 9 = .ok (.aload_n 0, 1) := dk_42 (dk_at dksX0_areTwo_0 9 rfl rfl)
theorem dX0_areTwo_10 : decode cX0_areTwo 10 = .ok (.iload_n 2, 1) := dk_28 (dk_at dksX0_areTwo_0 10 rfl rfl)
theorem dX0_areTwo_11 : decode cX0_areTwo 11 = .ok (.i2l, 1) := dk_133 (dk_at dksX0_areTwo_0 11 rfl rfl)
theorem dX0_areTwo_12 : decode cX0_areTwo 12 = .ok (.invokevirtual 142, 3) := dk_182 0 142 (dk_at dksX0_areTwo_0 12 rfl rfl)
theorem dX0_areTwo_15 : decode cX0_areTwo 15 = .ok (.ifCond .eq 12, 3) := dk_153 0 12 (dk_at dksX0_areTwo_0 15 rfl rfl)
theorem dX0_areTwo_18 : decode cX0_areTwo 18 = .ok (.iload_n 1, 1) := dk_27 (dk_at dksX0_areTwo_0 18 rfl rfl)
theorem dX0_areTwo_19 : decode cX0_areTwo 19 = .ok (.iload_n 2, 1) := dk_28 (dk_at dksX0_areTwo_0 19 rfl rfl)
theorem dX0_areTwo_20 : decode cX0_areTwo 20 = .ok (.if_icmp .eq 7, 3) := dk_159 0 7 (dk_at dksX0_areTwo_0 20 rfl rfl)
theorem dX0_areTwo_23 : decode cX0_areTwo 23 = .ok (.iconst 1, 1) := dk_4 (dk_at dksX0_areTwo_0 23 rfl rfl)
theorem dX0_areTwo_24 : decode cX0_areTwo 24 = .ok (.goto 4, 3) := dk_167 0 4 (dk_at dksX0_areTwo_1 0 rfl rfl)
theorem dX0_areTwo_27 : decode cX0_areTwo 27 = .ok (.iconst 0, 1) := dk_3 (dk_at dksX0_areTwo_1 3 rfl rfl)
theorem dX0_areTwo_28 : decode cX0_areTwo 28 = .ok (.ireturn, 1) := dk_172 (dk_at dksX0_areTwo_1 4 rfl rfl)
abbrev cX0_owing : ByteArray := prog_1_method_51_code
def yX0_owing : MethodName := ⟨RX0, "owing", "()V"⟩
def dkwX0_owing_0 : List UInt8 := [42, 182, 0, 188, 42, 180, 0, 75, 182, 1, 93, 177]
abbrev dktX0_owing_0 : List UInt8 := dkwX0_owing_0 ++ []
theorem dksX0_owing_0 : cX0_owing.data.toList.drop 0 = dktX0_owing_0 := by decide +kernel
theorem dX0_owing_0 : decode cX0_owing 0 = .ok (.aload_n 0, 1) := dk_42 (dk_at dksX0_owing_0 0 rfl rfl)
theorem dX0_owing_1 : decode cX0_owing 1 = .ok (.invokevirtual 188, 3) := dk_182 0 188 (dk_at dksX0_owing_0 1 rfl rfl)
theorem dX0_owing_4 : decode cX0_owing 4 = .ok (.aload_n 0, 1) := dk_42 (dk_at dksX0_owing_0 4 rfl rfl)
theorem dX0_owing_5 : decode cX0_owing 5 = .ok (.getfield 75, 3) := dk_180 0 75 (dk_at dksX0_owing_0 5 rfl rfl)
theorem dX0_owing_8 : decode cX0_owing 8 = .ok (.invokevirtual 349, 3) := dk_182 1 93 (dk_at dksX0_owing_0 8 rfl rfl)
theorem dX0_owing_11 : decode cX0_owing 11 = .ok (.return_, 1) := dk_177 (dk_at dksX0_owing_0 11 rfl rfl)
abbrev cX0_rings : ByteArray := prog_1_method_54_code
def yX0_rings : MethodName := ⟨RX0, "rings", "(I)I"⟩
def dkwX0_rings_2 : List UInt8 := [172]
abbrev dktX0_rings_2 : List UInt8 := dkwX0_rings_2 ++ []
def dkwX0_rings_1 : List UInt8 := [182, 1, 106, 27, 154, 0, 13, 42, 180, 0, 86, 180, 1, 107, 167, 0, 10, 42, 180, 0, 86, 180, 1, 109]
abbrev dktX0_rings_1 : List UInt8 := dkwX0_rings_1 ++ dktX0_rings_2
def dkwX0_rings_0 : List UInt8 := [42, 180, 0, 41, 182, 0, 102, 153, 0, 13, 27, 133, 9, 10, 184, 0, 5, 154, 0, 6, 16, 254, 172, 42]
abbrev dktX0_rings_0 : List UInt8 := dkwX0_rings_0 ++ dktX0_rings_1
theorem dksX0_rings_0 : cX0_rings.data.toList.drop 0 = dktX0_rings_0 := by decide +kernel
theorem dksX0_rings_1 : cX0_rings.data.toList.drop 24 = dktX0_rings_1 := dk_seg dksX0_rings_0 24 rfl rfl
theorem dksX0_rings_2 : cX0_rings.data.toList.drop 48 = dktX0_rings_2 := dk_seg dksX0_rings_1 24 rfl rfl
theorem dX0_rings_0 : decode cX0_rings 0 = .ok (.aload_n 0, 1) := dk_42 (dk_at dksX0_rings_0 0 rfl rfl)
theorem dX0_rings_1 : decode cX0_rings 1 = .ok (.getfield 41, 3) := dk_180 0 41 (dk_at dksX0_rings_0 1 rfl rfl)
theorem dX0_rings_4 : decode cX0_rings 4 = .ok (.invokevirtual 102, 3) := dk_182 0 102 (dk_at dksX0_rings_0 4 rfl rfl)
theorem dX0_rings_7 : decode cX0_rings 7 = .ok (.ifCond .eq 13, 3) := dk_153 0 13 (dk_at dksX0_rings_0 7 rfl rfl)
theorem dX0_rings_10 : decode cX0_rings 10 = .ok (.iload_n 1, 1) := dk_27 (dk_at dksX0_rings_0 10 rfl rfl)
theorem dX0_rings_11 : decode cX0_rings 11 = .ok (.i2l, 1) := dk_133 (dk_at dksX0_rings_0 11 rfl rfl)
theorem dX0_rings_12 : decode cX0_rings 12 = .ok (.lconst 0, 1) := dk_9 (dk_at dksX0_rings_0 12 rfl rfl)
theorem dX0_rings_13 : decode cX0_rings 13 = .ok (.lconst 1, 1) := dk_10 (dk_at dksX0_rings_0 13 rfl rfl)
theorem dX0_rings_14 : decode cX0_rings 14 = .ok (.invokestatic 5, 3) := dk_184 0 5 (dk_at dksX0_rings_0 14 rfl rfl)
theorem dX0_rings_17 : decode cX0_rings 17 = .ok (.ifCond .ne 6, 3) := dk_154 0 6 (dk_at dksX0_rings_0 17 rfl rfl)
theorem dX0_rings_20 : decode cX0_rings 20 = .ok (.bipush (-2), 2) := dk_16 254 (dk_at dksX0_rings_0 20 rfl rfl)
theorem dX0_rings_22 : decode cX0_rings 22 = .ok (.ireturn, 1) := dk_172 (dk_at dksX0_rings_0 22 rfl rfl)
theorem dX0_rings_23 : decode cX0_rings 23 = .ok (.aload_n 0, 1) := dk_42 (dk_at dksX0_rings_0 23 rfl rfl)
theorem dX0_rings_24 : decode cX0_rings 24 = .ok (.invokevirtual 362, 3) := dk_182 1 106 (dk_at dksX0_rings_1 0 rfl rfl)
theorem dX0_rings_27 : decode cX0_rings 27 = .ok (.iload_n 1, 1) := dk_27 (dk_at dksX0_rings_1 3 rfl rfl)
theorem dX0_rings_28 : decode cX0_rings 28 = .ok (.ifCond .ne 13, 3) := dk_154 0 13 (dk_at dksX0_rings_1 4 rfl rfl)
theorem dX0_rings_31 : decode cX0_rings 31 = .ok (.aload_n 0, 1) := dk_42 (dk_at dksX0_rings_1 7 rfl rfl)
theorem dX0_rings_32 : decode cX0_rings 32 = .ok (.getfield 86, 3) := dk_180 0 86 (dk_at dksX0_rings_1 8 rfl rfl)
theorem dX0_rings_35 : decode cX0_rings 35 = .ok (.getfield 363, 3) := dk_180 1 107 (dk_at dksX0_rings_1 11 rfl rfl)
theorem dX0_rings_38 : decode cX0_rings 38 = .ok (.goto 10, 3) := dk_167 0 10 (dk_at dksX0_rings_1 14 rfl rfl)
theorem dX0_rings_41 : decode cX0_rings 41 = .ok (.aload_n 0, 1) := dk_42 (dk_at dksX0_rings_1 17 rfl rfl)
theorem dX0_rings_42 : decode cX0_rings 42 = .ok (.getfield 86, 3) := dk_180 0 86 (dk_at dksX0_rings_1 18 rfl rfl)
theorem dX0_rings_45 : decode cX0_rings 45 = .ok (.getfield 365, 3) := dk_180 1 109 (dk_at dksX0_rings_1 21 rfl rfl)
theorem dX0_rings_48 : decode cX0_rings 48 = .ok (.ireturn, 1) := dk_172 (dk_at dksX0_rings_2 0 rfl rfl)
abbrev cX0_clears : ByteArray := prog_1_method_53_code
def yX0_clears : MethodName := ⟨RX0, "clears", "()V"⟩
def dkwX0_clears_0 : List UInt8 := [42, 182, 1, 100, 42, 180, 0, 86, 182, 1, 103, 177]
abbrev dktX0_clears_0 : List UInt8 := dkwX0_clears_0 ++ []
theorem dksX0_clears_0 : cX0_clears.data.toList.drop 0 = dktX0_clears_0 := by decide +kernel
theorem dX0_clears_0 : decode cX0_clears 0 = .ok (.aload_n 0, 1) := dk_42 (dk_at dksX0_clears_0 0 rfl rfl)
theorem dX0_clears_1 : decode cX0_clears 1 = .ok (.invokevirtual 356, 3) := dk_182 1 100 (dk_at dksX0_clears_0 1 rfl rfl)
theorem dX0_clears_4 : decode cX0_clears 4 = .ok (.aload_n 0, 1) := dk_42 (dk_at dksX0_clears_0 4 rfl rfl)
theorem dX0_clears_5 : decode cX0_clears 5 = .ok (.getfield 86, 3) := dk_180 0 86 (dk_at dksX0_clears_0 5 rfl rfl)
theorem dX0_clears_8 : decode cX0_clears 8 = .ok (.invokevirtual 359, 3) := dk_182 1 103 (dk_at dksX0_clears_0 8 rfl rfl)
theorem dX0_clears_11 : decode cX0_clears 11 = .ok (.return_, 1) := dk_177 (dk_at dksX0_clears_0 11 rfl rfl)
abbrev cX0_ring : ByteArray := prog_1_method_55_code
def yX0_ring : MethodName := ⟨RX0, "ring", "(I)I"⟩
def dkwX0_ring_2 : List UInt8 := [2, 172]
abbrev dktX0_ring_2 : List UInt8 := dkwX0_ring_2 ++ []
def dkwX0_ring_1 : List UInt8 := [180, 1, 107, 4, 100, 133, 184, 0, 5, 153, 0, 15, 42, 180, 0, 86, 180, 1, 112, 27, 46, 167, 0, 4]
abbrev dktX0_ring_1 : List UInt8 := dkwX0_ring_1 ++ dktX0_ring_2
def dkwX0_ring_0 : List UInt8 := [42, 180, 0, 41, 182, 0, 102, 154, 0, 6, 16, 254, 172, 42, 182, 1, 106, 27, 133, 9, 42, 180, 0, 86]
abbrev dktX0_ring_0 : List UInt8 := dkwX0_ring_0 ++ dktX0_ring_1
theorem dksX0_ring_0 : cX0_ring.data.toList.drop 0 = dktX0_ring_0 := by decide +kernel
theorem dksX0_ring_1 : cX0_ring.data.toList.drop 24 = dktX0_ring_1 := dk_seg dksX0_ring_0 24 rfl rfl
theorem dksX0_ring_2 : cX0_ring.data.toList.drop 48 = dktX0_ring_2 := dk_seg dksX0_ring_1 24 rfl rfl
theorem dX0_ring_0 : decode cX0_ring 0 = .ok (.aload_n 0, 1) := dk_42 (dk_at dksX0_ring_0 0 rfl rfl)
theorem dX0_ring_1 : decode cX0_ring 1 = .ok (.getfield 41, 3) := dk_180 0 41 (dk_at dksX0_ring_0 1 rfl rfl)
theorem dX0_ring_4 : decode cX0_ring 4 = .ok (.invokevirtual 102, 3) := dk_182 0 102 (dk_at dksX0_ring_0 4 rfl rfl)
theorem dX0_ring_7 : decode cX0_ring 7 = .ok (.ifCond .ne 6, 3) := dk_154 0 6 (dk_at dksX0_ring_0 7 rfl rfl)
theorem dX0_ring_10 : decode cX0_ring 10 = .ok (.bipush (-2), 2) := dk_16 254 (dk_at dksX0_ring_0 10 rfl rfl)
theorem dX0_ring_12 : decode cX0_ring 12 = .ok (.ireturn, 1) := dk_172 (dk_at dksX0_ring_0 12 rfl rfl)
theorem dX0_ring_13 : decode cX0_ring 13 = .ok (.aload_n 0, 1) := dk_42 (dk_at dksX0_ring_0 13 rfl rfl)
theorem dX0_ring_14 : decode cX0_ring 14 = .ok (.invokevirtual 362, 3) := dk_182 1 106 (dk_at dksX0_ring_0 14 rfl rfl)
theorem dX0_ring_17 : decode cX0_ring 17 = .ok (.iload_n 1, 1) := dk_27 (dk_at dksX0_ring_0 17 rfl rfl)
theorem dX0_ring_18 : decode cX0_ring 18 = .ok (.i2l, 1) := dk_133 (dk_at dksX0_ring_0 18 rfl rfl)
theorem dX0_ring_19 : decode cX0_ring 19 = .ok (.lconst 0, 1) := dk_9 (dk_at dksX0_ring_0 19 rfl rfl)
theorem dX0_ring_20 : decode cX0_ring 20 = .ok (.aload_n 0, 1) := dk_42 (dk_at dksX0_ring_0 20 rfl rfl)
theorem dX0_ring_21 : decode cX0_ring 21 = .ok (.getfield 86, 3) := dk_180 0 86 (dk_at dksX0_ring_0 21 rfl rfl)
theorem dX0_ring_24 : decode cX0_ring 24 = .ok (.getfield 363, 3) := dk_180 1 107 (dk_at dksX0_ring_1 0 rfl rfl)
theorem dX0_ring_27 : decode cX0_ring 27 = .ok (.iconst 1, 1) := dk_4 (dk_at dksX0_ring_1 3 rfl rfl)
theorem dX0_ring_28 : decode cX0_ring 28 = .ok (.isub, 1) := dk_100 (dk_at dksX0_ring_1 4 rfl rfl)
theorem dX0_ring_29 : decode cX0_ring 29 = .ok (.i2l, 1) := dk_133 (dk_at dksX0_ring_1 5 rfl rfl)
theorem dX0_ring_30 : decode cX0_ring 30 = .ok (.invokestatic 5, 3) := dk_184 0 5 (dk_at dksX0_ring_1 6 rfl rfl)
theorem dX0_ring_33 : decode cX0_ring 33 = .ok (.ifCond .eq 15, 3) := dk_153 0 15 (dk_at dksX0_ring_1 9 rfl rfl)
theorem dX0_ring_36 : decode cX0_ring 36 = .ok (.aload_n 0, 1) := dk_42 (dk_at dksX0_ring_1 12 rfl rfl)
theorem dX0_ring_37 : decode cX0_ring 37 = .ok (.getfield 86, 3) := dk_180 0 86 (dk_at dksX0_ring_1 13 rfl rfl)
theorem dX0_ring_40 : decode cX0_ring 40 = .ok (.getfield 368, 3) := dk_180 1 112 (dk_at dksX0_ring_1 16 rfl rfl)
theorem dX0_ring_43 : decode cX0_ring 43 = .ok (.iload_n 1, 1) := dk_27 (dk_at dksX0_ring_1 19 rfl rfl)
theorem dX0_ring_44 : decode cX0_ring 44 = .ok (.iaload, 1) := dk_46 (dk_at dksX0_ring_1 20 rfl rfl)
theorem dX0_ring_45 : decode cX0_ring 45 = .ok (.goto 4, 3) := dk_167 0 4 (dk_at dksX0_ring_1 21 rfl rfl)
theorem dX0_ring_48 : decode cX0_ring 48 = .ok (.iconst (-1), 1) := dk_2 (dk_at dksX0_ring_2 0 rfl rfl)
theorem dX0_ring_49 : decode cX0_ring 49 = .ok (.ireturn, 1) := dk_172 (dk_at dksX0_ring_2 1 rfl rfl)
abbrev cX0_left : ByteArray := prog_1_method_56_code
def yX0_left : MethodName := ⟨RX0, "left", "(II)I"⟩
def dkwX0_left_1 : List UInt8 := [172]
abbrev dktX0_left_1 : List UInt8 := dkwX0_left_1 ++ []
def dkwX0_left_0 : List UInt8 := [42, 27, 28, 182, 1, 97, 154, 0, 6, 16, 254, 172, 42, 182, 1, 106, 42, 180, 0, 75, 27, 50, 28, 46]
abbrev dktX0_left_0 : List UInt8 := dkwX0_left_0 ++ dktX0_left_1
theorem dksX0_left_0 : cX0_left.data.toList.drop 0 = dktX0_left_0 := by decide +kernel
theorem dksX0_left_1 : cX0_left.data.toList.drop 24 = dktX0_left_1 := dk_seg dksX0_left_0 24 rfl rfl
theorem dX0_left_0 : decode cX0_left 0 = .ok (.aload_n 0, 1) := dk_42 (dk_at dksX0_left_0 0 rfl rfl)
theorem dX0_left_1 : decode cX0_left 1 = .ok (.iload_n 1, 1) := dk_27 (dk_at dksX0_left_0 1 rfl rfl)
theorem dX0_left_2 : decode cX0_left 2 = .ok (.iload_n 2, 1) := dk_28 (dk_at dksX0_left_0 2 rfl rfl)
theorem dX0_left_3 : decode cX0_left 3 = .ok (.invokevirtual 353, 3) := dk_182 1 97 (dk_at dksX0_left_0 3 rfl rfl)
theorem dX0_left_6 : decode cX0_left 6 = .ok (.ifCond .ne 6, 3) := dk_154 0 6 (dk_at dksX0_left_0 6 rfl rfl)
theorem dX0_left_9 : decode cX0_left 9 = .ok (.bipush (-2), 2) := dk_16 254 (dk_at dksX0_left_0 9 rfl rfl)
theorem dX0_left_11 : decode cX0_left 11 = .ok (.ireturn, 1) := dk_172 (dk_at dksX0_left_0 11 rfl rfl)
theorem dX0_left_12 : decode cX0_left 12 = .ok (.aload_n 0, 1) := dk_42 (dk_at dksX0_left_0 12 rfl rfl)
theorem dX0_left_13 : decode cX0_left 13 = .ok (.invokevirtual 362, 3) := dk_182 1 106 (dk_at dksX0_left_0 13 rfl rfl)
theorem dX0_left_16 : decode cX0_left 16 = .ok (.aload_n 0, 1) := dk_42 (dk_at dksX0_left_0 16 rfl rfl)
theorem dX0_left_17 : decode cX0_left 17 = .ok (.getfield 75, 3) := dk_180 0 75 (dk_at dksX0_left_0 17 rfl rfl)
theorem dX0_left_20 : decode cX0_left 20 = .ok (.iload_n 1, 1) := dk_27 (dk_at dksX0_left_0 20 rfl rfl)
theorem dX0_left_21 : decode cX0_left 21 = .ok (.aaload, 1) := dk_50 (dk_at dksX0_left_0 21 rfl rfl)
theorem dX0_left_22 : decode cX0_left 22 = .ok (.iload_n 2, 1) := dk_28 (dk_at dksX0_left_0 22 rfl rfl)
theorem dX0_left_23 : decode cX0_left 23 = .ok (.iaload, 1) := dk_46 (dk_at dksX0_left_0 23 rfl rfl)
theorem dX0_left_24 : decode cX0_left 24 = .ok (.ireturn, 1) := dk_172 (dk_at dksX0_left_1 0 rfl rfl)
abbrev cX0_struck : ByteArray := prog_1_method_60_code
def yX0_struck : MethodName := ⟨RX0, "struck", "(II)I"⟩
def dkwX0_struck_3 : List UInt8 := [21, 4, 50, 184, 0, 251, 96, 62, 132, 4, 1, 167, 255, 231, 29, 172]
abbrev dktX0_struck_3 : List UInt8 := dkwX0_struck_3 ++ []
def dkwX0_struck_2 : List UInt8 := [182, 1, 126, 172, 3, 62, 3, 54, 4, 21, 4, 42, 182, 0, 140, 162, 0, 22, 29, 42, 180, 0, 78]
abbrev dktX0_struck_2 : List UInt8 := dkwX0_struck_2 ++ dktX0_struck_3
def dkwX0_struck_1 : List UInt8 := [9, 10, 184, 0, 5, 154, 0, 6, 16, 254, 172, 42, 27, 182, 1, 123, 28, 4, 160, 0, 8, 42]
abbrev dktX0_struck_1 : List UInt8 := dkwX0_struck_1 ++ dktX0_struck_2
def dkwX0_struck_0 : List UInt8 := [42, 180, 0, 41, 182, 0, 102, 153, 0, 25, 27, 133, 9, 20, 0, 218, 184, 0, 5, 153, 0, 13, 28, 133]
abbrev dktX0_struck_0 : List UInt8 := dkwX0_struck_0 ++ dktX0_struck_1
theorem dksX0_struck_0 : cX0_struck.data.toList.drop 0 = dktX0_struck_0 := by decide +kernel
theorem dksX0_struck_1 : cX0_struck.data.toList.drop 24 = dktX0_struck_1 := dk_seg dksX0_struck_0 24 rfl rfl
theorem dksX0_struck_2 : cX0_struck.data.toList.drop 46 = dktX0_struck_2 := dk_seg dksX0_struck_1 22 rfl rfl
theorem dksX0_struck_3 : cX0_struck.data.toList.drop 69 = dktX0_struck_3 := dk_seg dksX0_struck_2 23 rfl rfl
theorem dX0_struck_0 : decode cX0_struck 0 = .ok (.aload_n 0, 1) := dk_42 (dk_at dksX0_struck_0 0 rfl rfl)
theorem dX0_struck_1 : decode cX0_struck 1 = .ok (.getfield 41, 3) := dk_180 0 41 (dk_at dksX0_struck_0 1 rfl rfl)
theorem dX0_struck_4 : decode cX0_struck 4 = .ok (.invokevirtual 102, 3) := dk_182 0 102 (dk_at dksX0_struck_0 4 rfl rfl)
theorem dX0_struck_7 : decode cX0_struck 7 = .ok (.ifCond .eq 25, 3) := dk_153 0 25 (dk_at dksX0_struck_0 7 rfl rfl)
theorem dX0_struck_10 : decode cX0_struck 10 = .ok (.iload_n 1, 1) := dk_27 (dk_at dksX0_struck_0 10 rfl rfl)
theorem dX0_struck_11 : decode cX0_struck 11 = .ok (.i2l, 1) := dk_133 (dk_at dksX0_struck_0 11 rfl rfl)
theorem dX0_struck_12 : decode cX0_struck 12 = .ok (.lconst 0, 1) := dk_9 (dk_at dksX0_struck_0 12 rfl rfl)
theorem dX0_struck_13 : decode cX0_struck 13 = .ok (.ldc2_w 218, 3) := dk_20 0 218 (dk_at dksX0_struck_0 13 rfl rfl)
theorem dX0_struck_16 : decode cX0_struck 16 = .ok (.invokestatic 5, 3) := dk_184 0 5 (dk_at dksX0_struck_0 16 rfl rfl)
theorem dX0_struck_19 : decode cX0_struck 19 = .ok (.ifCond .eq 13, 3) := dk_153 0 13 (dk_at dksX0_struck_0 19 rfl rfl)
theorem dX0_struck_22 : decode cX0_struck 22 = .ok (.iload_n 2, 1) := dk_28 (dk_at dksX0_struck_0 22 rfl rfl)
theorem dX0_struck_23 : decode cX0_struck 23 = .ok (.i2l, 1) := dk_133 (dk_at dksX0_struck_0 23 rfl rfl)
theorem dX0_struck_24 : decode cX0_struck 24 = .ok (.lconst 0, 1) := dk_9 (dk_at dksX0_struck_1 0 rfl rfl)
theorem dX0_struck_25 : decode cX0_struck 25 = .ok (.lconst 1, 1) := dk_10 (dk_at dksX0_struck_1 1 rfl rfl)
theorem dX0_struck_26 : decode cX0_struck 26 = .ok (.invokestatic 5, 3) := dk_184 0 5 (dk_at dksX0_struck_1 2 rfl rfl)
theorem dX0_struck_29 : decode cX0_struck 29 = .ok (.ifCond .ne 6, 3) := dk_154 0 6 (dk_at dksX0_struck_1 5 rfl rfl)
theorem dX0_struck_32 : decode cX0_struck 32 = .ok (.bipush (-2), 2) := dk_16 254 (dk_at dksX0_struck_1 8 rfl rfl)
theorem dX0_struck_34 : decode cX0_struck 34 = .ok (.ireturn, 1) := dk_172 (dk_at dksX0_struck_1 10 rfl rfl)
theorem dX0_struck_35 : decode cX0_struck 35 = .ok (.aload_n 0, 1) := dk_42 (dk_at dksX0_struck_1 11 rfl rfl)
theorem dX0_struck_36 : decode cX0_struck 36 = .ok (.iload_n 1, 1) := dk_27 (dk_at dksX0_struck_1 12 rfl rfl)
theorem dX0_struck_37 : decode cX0_struck 37 = .ok (.invokevirtual 379, 3) := dk_182 1 123 (dk_at dksX0_struck_1 13 rfl rfl)
theorem dX0_struck_40 : decode cX0_struck 40 = .ok (.iload_n 2, 1) := dk_28 (dk_at dksX0_struck_1 16 rfl rfl)
theorem dX0_struck_41 : decode cX0_struck 41 = .ok (.iconst 1, 1) := dk_4 (dk_at dksX0_struck_1 17 rfl rfl)
theorem dX0_struck_42 : decode cX0_struck 42 = .ok (.if_icmp .ne 8, 3) := dk_160 0 8 (dk_at dksX0_struck_1 18 rfl rfl)
theorem dX0_struck_45 : decode cX0_struck 45 = .ok (.aload_n 0, 1) := dk_42 (dk_at dksX0_struck_1 21 rfl rfl)
theorem dX0_struck_46 : decode cX0_struck 46 = .ok (.invokevirtual 382, 3) := dk_182 1 126 (dk_at dksX0_struck_2 0 rfl rfl)
theorem dX0_struck_49 : decode cX0_struck 49 = .ok (.ireturn, 1) := dk_172 (dk_at dksX0_struck_2 3 rfl rfl)
theorem dX0_struck_50 : decode cX0_struck 50 = .ok (.iconst 0, 1) := dk_3 (dk_at dksX0_struck_2 4 rfl rfl)
theorem dX0_struck_51 : decode cX0_struck 51 = .ok (.istore_n 3, 1) := dk_62 (dk_at dksX0_struck_2 5 rfl rfl)
theorem dX0_struck_52 : decode cX0_struck 52 = .ok (.iconst 0, 1) := dk_3 (dk_at dksX0_struck_2 6 rfl rfl)
theorem dX0_struck_53 : decode cX0_struck 53 = .ok (.istore 4, 2) := dk_54 4 (dk_at dksX0_struck_2 7 rfl rfl)
theorem dX0_struck_55 : decode cX0_struck 55 = .ok (.iload 4, 2) := dk_21 4 (dk_at dksX0_struck_2 9 rfl rfl)
theorem dX0_struck_57 : decode cX0_struck 57 = .ok (.aload_n 0, 1) := dk_42 (dk_at dksX0_struck_2 11 rfl rfl)
theorem dX0_struck_58 : decode cX0_struck 58 = .ok (.invokevirtual 140, 3) := dk_182 0 140 (dk_at dksX0_struck_2 12 rfl rfl)
theorem dX0_struck_61 : decode cX0_struck 61 = .ok (.if_icmp .ge 22, 3) := dk_162 0 22 (dk_at dksX0_struck_2 15 rfl rfl)
theorem dX0_struck_64 : decode cX0_struck 64 = .ok (.iload_n 3, 1) := dk_29 (dk_at dksX0_struck_2 18 rfl rfl)
theorem dX0_struck_65 : decode cX0_struck 65 = .ok (.aload_n 0, 1) := dk_42 (dk_at dksX0_struck_2 19 rfl rfl)
theorem dX0_struck_66 : decode cX0_struck 66 = .ok (.getfield 78, 3) := dk_180 0 78 (dk_at dksX0_struck_2 20 rfl rfl)
theorem dX0_struck_69 : decode cX0_struck 69 = .ok (.iload 4, 2) := dk_21 4 (dk_at dksX0_struck_3 0 rfl rfl)
theorem dX0_struck_71 : decode cX0_struck 71 = .ok (.aaload, 1) := dk_50 (dk_at dksX0_struck_3 2 rfl rfl)
theorem dX0_struck_72 : decode cX0_struck 72 = .ok (.invokestatic 251, 3) := dk_184 0 251 (dk_at dksX0_struck_3 3 rfl rfl)
theorem dX0_struck_75 : decode cX0_struck 75 = .ok (.iadd, 1) := dk_96 (dk_at dksX0_struck_3 6 rfl rfl)
theorem dX0_struck_76 : decode cX0_struck 76 = .ok (.istore_n 3, 1) := dk_62 (dk_at dksX0_struck_3 7 rfl rfl)
theorem dX0_struck_77 : decode cX0_struck 77 = .ok (.iinc 4 1, 3) := dk_132 4 1 (dk_at dksX0_struck_3 8 rfl rfl)
theorem dX0_struck_80 : decode cX0_struck 80 = .ok (.goto (-25), 3) := dk_167 255 231 (dk_at dksX0_struck_3 11 rfl rfl)
theorem dX0_struck_83 : decode cX0_struck 83 = .ok (.iload_n 3, 1) := dk_29 (dk_at dksX0_struck_3 14 rfl rfl)
theorem dX0_struck_84 : decode cX0_struck 84 = .ok (.ireturn, 1) := dk_172 (dk_at dksX0_struck_3 15 rfl rfl)
abbrev cX0_strikes : ByteArray := prog_1_method_58_code
def yX0_strikes : MethodName := ⟨RX0, "strikes", "(I)V"⟩
def dkwX0_strikes_7 : List UInt8 := [167, 255, 149, 132, 2, 1, 167, 255, 91, 177]
abbrev dktX0_strikes_7 : List UInt8 := dkwX0_strikes_7 ++ []
def dkwX0_strikes_6 : List UInt8 := [29, 42, 180, 0, 78, 28, 50, 21, 6, 46, 100, 62, 42, 27, 28, 21, 5, 182, 1, 115, 54, 6]
abbrev dktX0_strikes_6 : List UInt8 := dkwX0_strikes_6 ++ dktX0_strikes_7
def dkwX0_strikes_5 : List UInt8 := [133, 105, 21, 4, 133, 109, 136, 167, 0, 16, 29, 42, 180, 0, 75, 28, 50, 21, 6, 46, 184, 1, 119, 79]
abbrev dktX0_strikes_5 : List UInt8 := dkwX0_strikes_5 ++ dktX0_strikes_6
def dkwX0_strikes_4 : List UInt8 := [21, 4, 162, 0, 32, 42, 180, 0, 75, 28, 50, 21, 6, 46, 133, 42, 180, 0, 52, 180, 0, 229, 28, 46]
abbrev dktX0_strikes_4 : List UInt8 := dkwX0_strikes_4 ++ dktX0_strikes_5
def dkwX0_strikes_3 : List UInt8 := [54, 5, 42, 180, 0, 78, 28, 50, 21, 6, 27, 5, 160, 0, 46, 42, 180, 0, 52, 180, 0, 229, 28, 46]
abbrev dktX0_strikes_3 : List UInt8 := dkwX0_strikes_3 ++ dktX0_strikes_4
def dkwX0_strikes_2 : List UInt8 := [42, 27, 28, 21, 5, 182, 1, 115, 54, 6, 21, 6, 2, 159, 0, 107, 21, 5, 4, 21, 6, 120, 128]
abbrev dktX0_strikes_2 : List UInt8 := dkwX0_strikes_2 ++ dktX0_strikes_3
def dkwX0_strikes_1 : List UInt8 := [42, 180, 0, 75, 28, 50, 184, 0, 251, 54, 4, 3, 54, 5, 42, 180, 0, 78, 28, 50, 3, 184, 0, 110]
abbrev dktX0_strikes_1 : List UInt8 := dkwX0_strikes_1 ++ dktX0_strikes_2
def dkwX0_strikes_0 : List UInt8 := [42, 182, 1, 100, 3, 61, 28, 42, 182, 0, 140, 162, 0, 163, 42, 180, 0, 52, 180, 0, 229, 28, 46, 62]
abbrev dktX0_strikes_0 : List UInt8 := dkwX0_strikes_0 ++ dktX0_strikes_1
theorem dksX0_strikes_0 : cX0_strikes.data.toList.drop 0 = dktX0_strikes_0 := by decide +kernel
theorem dksX0_strikes_1 : cX0_strikes.data.toList.drop 24 = dktX0_strikes_1 := dk_seg dksX0_strikes_0 24 rfl rfl
theorem dksX0_strikes_2 : cX0_strikes.data.toList.drop 48 = dktX0_strikes_2 := dk_seg dksX0_strikes_1 24 rfl rfl
theorem dksX0_strikes_3 : cX0_strikes.data.toList.drop 71 = dktX0_strikes_3 := dk_seg dksX0_strikes_2 23 rfl rfl
theorem dksX0_strikes_4 : cX0_strikes.data.toList.drop 95 = dktX0_strikes_4 := dk_seg dksX0_strikes_3 24 rfl rfl
theorem dksX0_strikes_5 : cX0_strikes.data.toList.drop 119 = dktX0_strikes_5 := dk_seg dksX0_strikes_4 24 rfl rfl
theorem dksX0_strikes_6 : cX0_strikes.data.toList.drop 143 = dktX0_strikes_6 := dk_seg dksX0_strikes_5 24 rfl rfl
theorem dksX0_strikes_7 : cX0_strikes.data.toList.drop 165 = dktX0_strikes_7 := dk_seg dksX0_strikes_6 22 rfl rfl
theorem dX0_strikes_0 : decode cX0_strikes 0 = .ok (.aload_n 0, 1) := dk_42 (dk_at dksX0_strikes_0 0 rfl rfl)
theorem dX0_strikes_1 : decode cX0_strikes 1 = .ok (.invokevirtual 356, 3) := dk_182 1 100 (dk_at dksX0_strikes_0 1 rfl rfl)
theorem dX0_strikes_4 : decode cX0_strikes 4 = .ok (.iconst 0, 1) := dk_3 (dk_at dksX0_strikes_0 4 rfl rfl)
theorem dX0_strikes_5 : decode cX0_strikes 5 = .ok (.istore_n 2, 1) := dk_61 (dk_at dksX0_strikes_0 5 rfl rfl)
theorem dX0_strikes_6 : decode cX0_strikes 6 = .ok (.iload_n 2, 1) := dk_28 (dk_at dksX0_strikes_0 6 rfl rfl)
theorem dX0_strikes_7 : decode cX0_strikes 7 = .ok (.aload_n 0, 1) := dk_42 (dk_at dksX0_strikes_0 7 rfl rfl)
theorem dX0_strikes_8 : decode cX0_strikes 8 = .ok (.invokevirtual 140, 3) := dk_182 0 140 (dk_at dksX0_strikes_0 8 rfl rfl)
theorem dX0_strikes_11 : decode cX0_strikes 11 = .ok (.if_icmp .ge 163, 3) := dk_162 0 163 (dk_at dksX0_strikes_0 11 rfl rfl)
theorem dX0_strikes_14 : decode cX0_strikes 14 = .ok (.aload_n 0, 1) := dk_42 (dk_at dksX0_strikes_0 14 rfl rfl)
theorem dX0_strikes_15 : decode cX0_strikes 15 = .ok (.getfield 52, 3) := dk_180 0 52 (dk_at dksX0_strikes_0 15 rfl rfl)
theorem dX0_strikes_18 : decode cX0_strikes 18 = .ok (.getfield 229, 3) := dk_180 0 229 (dk_at dksX0_strikes_0 18 rfl rfl)
theorem dX0_strikes_21 : decode cX0_strikes 21 = .ok (.iload_n 2, 1) := dk_28 (dk_at dksX0_strikes_0 21 rfl rfl)
theorem dX0_strikes_22 : decode cX0_strikes 22 = .ok (.iaload, 1) := dk_46 (dk_at dksX0_strikes_0 22 rfl rfl)
theorem dX0_strikes_23 : decode cX0_strikes 23 = .ok (.istore_n 3, 1) := dk_62 (dk_at dksX0_strikes_0 23 rfl rfl)
theorem dX0_strikes_24 : decode cX0_strikes 24 = .ok (.aload_n 0, 1) := dk_42 (dk_at dksX0_strikes_1 0 rfl rfl)
theorem dX0_strikes_25 : decode cX0_strikes 25 = .ok (.getfield 75, 3) := dk_180 0 75 (dk_at dksX0_strikes_1 1 rfl rfl)
theorem dX0_strikes_28 : decode cX0_strikes 28 = .ok (.iload_n 2, 1) := dk_28 (dk_at dksX0_strikes_1 4 rfl rfl)
theorem dX0_strikes_29 : decode cX0_strikes 29 = .ok (.aaload, 1) := dk_50 (dk_at dksX0_strikes_1 5 rfl rfl)
theorem dX0_strikes_30 : decode cX0_strikes 30 = .ok (.invokestatic 251, 3) := dk_184 0 251 (dk_at dksX0_strikes_1 6 rfl rfl)
theorem dX0_strikes_33 : decode cX0_strikes 33 = .ok (.istore 4, 2) := dk_54 4 (dk_at dksX0_strikes_1 9 rfl rfl)
theorem dX0_strikes_35 : decode cX0_strikes 35 = .ok (.iconst 0, 1) := dk_3 (dk_at dksX0_strikes_1 11 rfl rfl)
theorem dX0_strikes_36 : decode cX0_strikes 36 = .ok (.istore 5, 2) := dk_54 5 (dk_at dksX0_strikes_1 12 rfl rfl)
theorem dX0_strikes_38 : decode cX0_strikes 38 = .ok (.aload_n 0, 1) := dk_42 (dk_at dksX0_strikes_1 14 rfl rfl)
theorem dX0_strikes_39 : decode cX0_strikes 39 = .ok (.getfield 78, 3) := dk_180 0 78 (dk_at dksX0_strikes_1 15 rfl rfl)
theorem dX0_strikes_42 : decode cX0_strikes 42 = .ok (.iload_n 2, 1) := dk_28 (dk_at dksX0_strikes_1 18 rfl rfl)
theorem dX0_strikes_43 : decode cX0_strikes 43 = .ok (.aaload, 1) := dk_50 (dk_at dksX0_strikes_1 19 rfl rfl)
theorem dX0_strikes_44 : decode cX0_strikes 44 = .ok (.iconst 0, 1) := dk_3 (dk_at dksX0_strikes_1 20 rfl rfl)
theorem dX0_strikes_45 : decode cX0_strikes 45 = .ok (.invokestatic 110, 3) := dk_184 0 110 (dk_at dksX0_strikes_1 21 rfl rfl)
theorem dX0_strikes_48 : decode cX0_strikes 48 = .ok (.aload_n 0, 1) := dk_42 (dk_at dksX0_strikes_2 0 rfl rfl)
theorem dX0_strikes_49 : decode cX0_strikes 49 = .ok (.iload_n 1, 1) := dk_27 (dk_at dksX0_strikes_2 1 rfl rfl)
theorem dX0_strikes_50 : decode cX0_strikes 50 = .ok (.iload_n 2, 1) := dk_28 (dk_at dksX0_strikes_2 2 rfl rfl)
theorem dX0_strikes_51 : decode cX0_strikes 51 = .ok (.iload 5, 2) := dk_21 5 (dk_at dksX0_strikes_2 3 rfl rfl)
theorem dX0_strikes_53 : decode cX0_strikes 53 = .ok (.invokevirtual 371, 3) := dk_182 1 115 (dk_at dksX0_strikes_2 5 rfl rfl)
theorem dX0_strikes_56 : decode cX0_strikes 56 = .ok (.istore 6, 2) := dk_54 6 (dk_at dksX0_strikes_2 8 rfl rfl)
theorem dX0_strikes_58 : decode cX0_strikes 58 = .ok (.iload 6, 2) := dk_21 6 (dk_at dksX0_strikes_2 10 rfl rfl)
theorem dX0_strikes_60 : decode cX0_strikes 60 = .ok (.iconst (-1), 1) := dk_2 (dk_at dksX0_strikes_2 12 rfl rfl)
theorem dX0_strikes_61 : decode cX0_strikes 61 = .ok (.if_icmp .eq 107, 3) := dk_159 0 107 (dk_at dksX0_strikes_2 13 rfl rfl)
theorem dX0_strikes_64 : decode cX0_strikes 64 = .ok (.iload 5, 2) := dk_21 5 (dk_at dksX0_strikes_2 16 rfl rfl)
theorem dX0_strikes_66 : decode cX0_strikes 66 = .ok (.iconst 1, 1) := dk_4 (dk_at dksX0_strikes_2 18 rfl rfl)
theorem dX0_strikes_67 : decode cX0_strikes 67 = .ok (.iload 6, 2) := dk_21 6 (dk_at dksX0_strikes_2 19 rfl rfl)
theorem dX0_strikes_69 : decode cX0_strikes 69 = .ok (.ishl, 1) := dk_120 (dk_at dksX0_strikes_2 21 rfl rfl)
theorem dX0_strikes_70 : decode cX0_strikes 70 = .ok (.ior, 1) := dk_128 (dk_at dksX0_strikes_2 22 rfl rfl)
theorem dX0_strikes_71 : decode cX0_strikes 71 = .ok (.istore 5, 2) := dk_54 5 (dk_at dksX0_strikes_3 0 rfl rfl)
theorem dX0_strikes_73 : decode cX0_strikes 73 = .ok (.aload_n 0, 1) := dk_42 (dk_at dksX0_strikes_3 2 rfl rfl)
theorem dX0_strikes_74 : decode cX0_strikes 74 = .ok (.getfield 78, 3) := dk_180 0 78 (dk_at dksX0_strikes_3 3 rfl rfl)
theorem dX0_strikes_77 : decode cX0_strikes 77 = .ok (.iload_n 2, 1) := dk_28 (dk_at dksX0_strikes_3 6 rfl rfl)
theorem dX0_strikes_78 : decode cX0_strikes 78 = .ok (.aaload, 1) := dk_50 (dk_at dksX0_strikes_3 7 rfl rfl)
theorem dX0_strikes_79 : decode cX0_strikes 79 = .ok (.iload 6, 2) := dk_21 6 (dk_at dksX0_strikes_3 8 rfl rfl)
theorem dX0_strikes_81 : decode cX0_strikes 81 = .ok (.iload_n 1, 1) := dk_27 (dk_at dksX0_strikes_3 10 rfl rfl)
theorem dX0_strikes_82 : decode cX0_strikes 82 = .ok (.iconst 2, 1) := dk_5 (dk_at dksX0_strikes_3 11 rfl rfl)
theorem dX0_strikes_83 : decode cX0_strikes 83 = .ok (.if_icmp .ne 46, 3) := dk_160 0 46 (dk_at dksX0_strikes_3 12 rfl rfl)
theorem dX0_strikes_86 : decode cX0_strikes 86 = .ok (.aload_n 0, 1) := dk_42 (dk_at dksX0_strikes_3 15 rfl rfl)
theorem dX0_strikes_87 : decode cX0_strikes 87 = .ok (.getfield 52, 3) := dk_180 0 52 (dk_at dksX0_strikes_3 16 rfl rfl)
theorem dX0_strikes_90 : decode cX0_strikes 90 = .ok (.getfield 229, 3) := dk_180 0 229 (dk_at dksX0_strikes_3 19 rfl rfl)
theorem dX0_strikes_93 : decode cX0_strikes 93 = .ok (.iload_n 2, 1) := dk_28 (dk_at dksX0_strikes_3 22 rfl rfl)
theorem dX0_strikes_94 : decode cX0_strikes 94 = .ok (.iaload, 1) := dk_46 (dk_at dksX0_strikes_3 23 rfl rfl)
theorem dX0_strikes_95 : decode cX0_strikes 95 = .ok (.iload 4, 2) := dk_21 4 (dk_at dksX0_strikes_4 0 rfl rfl)
theorem dX0_strikes_97 : decode cX0_strikes 97 = .ok (.if_icmp .ge 32, 3) := dk_162 0 32 (dk_at dksX0_strikes_4 2 rfl rfl)
theorem dX0_strikes_100 : decode cX0_strikes 100 = .ok (.aload_n 0, 1) := dk_42 (dk_at dksX0_strikes_4 5 rfl rfl)
theorem dX0_strikes_101 : decode cX0_strikes 101 = .ok (.getfield 75, 3) := dk_180 0 75 (dk_at dksX0_strikes_4 6 rfl rfl)
theorem dX0_strikes_104 : decode cX0_strikes 104 = .ok (.iload_n 2, 1) := dk_28 (dk_at dksX0_strikes_4 9 rfl rfl)
theorem dX0_strikes_105 : decode cX0_strikes 105 = .ok (.aaload, 1) := dk_50 (dk_at dksX0_strikes_4 10 rfl rfl)
theorem dX0_strikes_106 : decode cX0_strikes 106 = .ok (.iload 6, 2) := dk_21 6 (dk_at dksX0_strikes_4 11 rfl rfl)
theorem dX0_strikes_108 : decode cX0_strikes 108 = .ok (.iaload, 1) := dk_46 (dk_at dksX0_strikes_4 13 rfl rfl)
theorem dX0_strikes_109 : decode cX0_strikes 109 = .ok (.i2l, 1) := dk_133 (dk_at dksX0_strikes_4 14 rfl rfl)
theorem dX0_strikes_110 : decode cX0_strikes 110 = .ok (.aload_n 0, 1) := dk_42 (dk_at dksX0_strikes_4 15 rfl rfl)
theorem dX0_strikes_111 : decode cX0_strikes 111 = .ok (.getfield 52, 3) := dk_180 0 52 (dk_at dksX0_strikes_4 16 rfl rfl)
theorem dX0_strikes_114 : decode cX0_strikes 114 = .ok (.getfield 229, 3) := dk_180 0 229 (dk_at dksX0_strikes_4 19 rfl rfl)
theorem dX0_strikes_117 : decode cX0_strikes 117 = .ok (.iload_n 2, 1) := dk_28 (dk_at dksX0_strikes_4 22 rfl rfl)
theorem dX0_strikes_118 : decode cX0_strikes 118 = .ok (.iaload, 1) := dk_46 (dk_at dksX0_strikes_4 23 rfl rfl)
theorem dX0_strikes_119 : decode cX0_strikes 119 = .ok (.i2l, 1) := dk_133 (dk_at dksX0_strikes_5 0 rfl rfl)
theorem dX0_strikes_120 : decode cX0_strikes 120 = .ok (.lmul, 1) := dk_105 (dk_at dksX0_strikes_5 1 rfl rfl)
theorem dX0_strikes_121 : decode cX0_strikes 121 = .ok (.iload 4, 2) := dk_21 4 (dk_at dksX0_strikes_5 2 rfl rfl)
theorem dX0_strikes_123 : decode cX0_strikes 123 = .ok (.i2l, 1) := dk_133 (dk_at dksX0_strikes_5 4 rfl rfl)
theorem dX0_strikes_124 : decode cX0_strikes 124 = .ok (.ldiv, 1) := dk_109 (dk_at dksX0_strikes_5 5 rfl rfl)
theorem dX0_strikes_125 : decode cX0_strikes 125 = .ok (.l2i, 1) := dk_136 (dk_at dksX0_strikes_5 6 rfl rfl)
theorem dX0_strikes_126 : decode cX0_strikes 126 = .ok (.goto 16, 3) := dk_167 0 16 (dk_at dksX0_strikes_5 7 rfl rfl)
theorem dX0_strikes_129 : decode cX0_strikes 129 = .ok (.iload_n 3, 1) := dk_29 (dk_at dksX0_strikes_5 10 rfl rfl)
theorem dX0_strikes_130 : decode cX0_strikes 130 = .ok (.aload_n 0, 1) := dk_42 (dk_at dksX0_strikes_5 11 rfl rfl)
theorem dX0_strikes_131 : decode cX0_strikes 131 = .ok (.getfield 75, 3) := dk_180 0 75 (dk_at dksX0_strikes_5 12 rfl rfl)
theorem dX0_strikes_134 : decode cX0_strikes 134 = .ok (.iload_n 2, 1) := dk_28 (dk_at dksX0_strikes_5 15 rfl rfl)
theorem dX0_strikes_135 : decode cX0_strikes 135 = .ok (.aaload, 1) := dk_50 (dk_at dksX0_strikes_5 16 rfl rfl)
theorem dX0_strikes_136 : decode cX0_strikes 136 = .ok (.iload 6, 2) := dk_21 6 (dk_at dksX0_strikes_5 17 rfl rfl)
theorem dX0_strikes_138 : decode cX0_strikes 138 = .ok (.iaload, 1) := dk_46 (dk_at dksX0_strikes_5 19 rfl rfl)
theorem dX0_strikes_139 : decode cX0_strikes 139 = .ok (.invokestatic 375, 3) := dk_184 1 119 (dk_at dksX0_strikes_5 20 rfl rfl)
theorem dX0_strikes_142 : decode cX0_strikes 142 = .ok (.iastore, 1) := dk_79 (dk_at dksX0_strikes_5 23 rfl rfl)
theorem dX0_strikes_143 : decode cX0_strikes 143 = .ok (.iload_n 3, 1) := dk_29 (dk_at dksX0_strikes_6 0 rfl rfl)
theorem dX0_strikes_144 : decode cX0_strikes 144 = .ok (.aload_n 0, 1) := dk_42 (dk_at dksX0_strikes_6 1 rfl rfl)
theorem dX0_strikes_145 : decode cX0_strikes 145 = .ok (.getfield 78, 3) := dk_180 0 78 (dk_at dksX0_strikes_6 2 rfl rfl)
theorem dX0_strikes_148 : decode cX0_strikes 148 = .ok (.iload_n 2, 1) := dk_28 (dk_at dksX0_strikes_6 5 rfl rfl)
theorem dX0_strikes_149 : decode cX0_strikes 149 = .ok (.aaload, 1) := dk_50 (dk_at dksX0_strikes_6 6 rfl rfl)
theorem dX0_strikes_150 : decode cX0_strikes 150 = .ok (.iload 6, 2) := dk_21 6 (dk_at dksX0_strikes_6 7 rfl rfl)
theorem dX0_strikes_152 : decode cX0_strikes 152 = .ok (.iaload, 1) := dk_46 (dk_at dksX0_strikes_6 9 rfl rfl)
theorem dX0_strikes_153 : decode cX0_strikes 153 = .ok (.isub, 1) := dk_100 (dk_at dksX0_strikes_6 10 rfl rfl)
theorem dX0_strikes_154 : decode cX0_strikes 154 = .ok (.istore_n 3, 1) := dk_62 (dk_at dksX0_strikes_6 11 rfl rfl)
theorem dX0_strikes_155 : decode cX0_strikes 155 = .ok (.aload_n 0, 1) := dk_42 (dk_at dksX0_strikes_6 12 rfl rfl)
theorem dX0_strikes_156 : decode cX0_strikes 156 = .ok (.iload_n 1, 1) := dk_27 (dk_at dksX0_strikes_6 13 rfl rfl)
theorem dX0_strikes_157 : decode cX0_strikes 157 = .ok (.iload_n 2, 1) := dk_28 (dk_at dksX0_strikes_6 14 rfl rfl)
theorem dX0_strikes_158 : decode cX0_strikes 158 = .ok (.iload 5, 2) := dk_21 5 (dk_at dksX0_strikes_6 15 rfl rfl)
theorem dX0_strikes_160 : decode cX0_strikes 160 = .ok (.invokevirtual 371, 3) := dk_182 1 115 (dk_at dksX0_strikes_6 17 rfl rfl)
theorem dX0_strikes_163 : decode cX0_strikes 163 = .ok (.istore 6, 2) := dk_54 6 (dk_at dksX0_strikes_6 20 rfl rfl)
theorem dX0_strikes_165 : decode cX0_strikes 165 = .ok (.goto (-107), 3) := dk_167 255 149 (dk_at dksX0_strikes_7 0 rfl rfl)
theorem dX0_strikes_168 : decode cX0_strikes 168 = .ok (.iinc 2 1, 3) := dk_132 2 1 (dk_at dksX0_strikes_7 3 rfl rfl)
theorem dX0_strikes_171 : decode cX0_strikes 171 = .ok (.goto (-165), 3) := dk_167 255 91 (dk_at dksX0_strikes_7 6 rfl rfl)
theorem dX0_strikes_174 : decode cX0_strikes 174 = .ok (.return_, 1) := dk_177 (dk_at dksX0_strikes_7 9 rfl rfl)
abbrev cX0_nextPaid : ByteArray := prog_1_method_57_code
def yX0_nextPaid : MethodName := ⟨RX0, "nextPaid", "(III)I"⟩
def dkwX0_nextPaid_3 : List UInt8 := [21, 5, 54, 4, 132, 5, 1, 167, 255, 184, 21, 4, 172]
abbrev dktX0_nextPaid_3 : List UInt8 := dkwX0_nextPaid_3 ++ []
def dkwX0_nextPaid_2 : List UInt8 := [160, 0, 28, 42, 180, 0, 75, 28, 50, 21, 5, 46, 42, 180, 0, 75, 28, 50, 21, 4, 46, 162, 0, 7]
abbrev dktX0_nextPaid_2 : List UInt8 := dkwX0_nextPaid_2 ++ dktX0_nextPaid_3
def dkwX0_nextPaid_1 : List UInt8 := [42, 180, 0, 75, 28, 50, 21, 5, 46, 154, 0, 6, 167, 0, 39, 21, 4, 2, 159, 0, 29, 27, 4]
abbrev dktX0_nextPaid_1 : List UInt8 := dkwX0_nextPaid_1 ++ dktX0_nextPaid_2
def dkwX0_nextPaid_0 : List UInt8 := [2, 54, 4, 3, 54, 5, 21, 5, 42, 182, 0, 140, 162, 0, 69, 29, 21, 5, 184, 1, 25, 154, 0, 54]
abbrev dktX0_nextPaid_0 : List UInt8 := dkwX0_nextPaid_0 ++ dktX0_nextPaid_1
theorem dksX0_nextPaid_0 : cX0_nextPaid.data.toList.drop 0 = dktX0_nextPaid_0 := by decide +kernel
theorem dksX0_nextPaid_1 : cX0_nextPaid.data.toList.drop 24 = dktX0_nextPaid_1 := dk_seg dksX0_nextPaid_0 24 rfl rfl
theorem dksX0_nextPaid_2 : cX0_nextPaid.data.toList.drop 47 = dktX0_nextPaid_2 := dk_seg dksX0_nextPaid_1 23 rfl rfl
theorem dksX0_nextPaid_3 : cX0_nextPaid.data.toList.drop 71 = dktX0_nextPaid_3 := dk_seg dksX0_nextPaid_2 24 rfl rfl
theorem dX0_nextPaid_0 : decode cX0_nextPaid 0 = .ok (.iconst (-1), 1) := dk_2 (dk_at dksX0_nextPaid_0 0 rfl rfl)
theorem dX0_nextPaid_1 : decode cX0_nextPaid 1 = .ok (.istore 4, 2) := dk_54 4 (dk_at dksX0_nextPaid_0 1 rfl rfl)
theorem dX0_nextPaid_3 : decode cX0_nextPaid 3 = .ok (.iconst 0, 1) := dk_3 (dk_at dksX0_nextPaid_0 3 rfl rfl)
theorem dX0_nextPaid_4 : decode cX0_nextPaid 4 = .ok (.istore 5, 2) := dk_54 5 (dk_at dksX0_nextPaid_0 4 rfl rfl)
theorem dX0_nextPaid_6 : decode cX0_nextPaid 6 = .ok (.iload 5, 2) := dk_21 5 (dk_at dksX0_nextPaid_0 6 rfl rfl)
theorem dX0_nextPaid_8 : decode cX0_nextPaid 8 = .ok (.aload_n 0, 1) := dk_42 (dk_at dksX0_nextPaid_0 8 rfl rfl)
theorem dX0_nextPaid_9 : decode cX0_nextPaid 9 = .ok (.invokevirtual 140, 3) := dk_182 0 140 (dk_at dksX0_nextPaid_0 9 rfl rfl)
theorem dX0_nextPaid_12 : decode cX0_nextPaid 12 = .ok (.if_icmp .ge 69, 3) := dk_162 0 69 (dk_at dksX0_nextPaid_0 12 rfl rfl)
theorem dX0_nextPaid_15 : decode cX0_nextPaid 15 = .ok (.iload_n 3, 1) := dk_29 (dk_at dksX0_nextPaid_0 15 rfl rfl)
theorem dX0_nextPaid_16 : decode cX0_nextPaid 16 = .ok (.iload 5, 2) := dk_21 5 (dk_at dksX0_nextPaid_0 16 rfl rfl)
theorem dX0_nextPaid_18 : decode cX0_nextPaid 18 = .ok (.invokestatic 281, 3) := dk_184 1 25 (dk_at dksX0_nextPaid_0 18 rfl rfl)
theorem dX0_nextPaid_21 : decode cX0_nextPaid 21 = .ok (.ifCond .ne 54, 3) := dk_154 0 54 (dk_at dksX0_nextPaid_0 21 rfl rfl)
theorem dX0_nextPaid_24 : decode cX0_nextPaid 24 = .ok (.aload_n 0, 1) := dk_42 (dk_at dksX0_nextPaid_1 0 rfl rfl)
theorem dX0_nextPaid_25 : decode cX0_nextPaid 25 = .ok (.getfield 75, 3) := dk_180 0 75 (dk_at dksX0_nextPaid_1 1 rfl rfl)
theorem dX0_nextPaid_28 : decode cX0_nextPaid 28 = .ok (.iload_n 2, 1) := dk_28 (dk_at dksX0_nextPaid_1 4 rfl rfl)
theorem dX0_nextPaid_29 : decode cX0_nextPaid 29 = .ok (.aaload, 1) := dk_50 (dk_at dksX0_nextPaid_1 5 rfl rfl)
theorem dX0_nextPaid_30 : decode cX0_nextPaid 30 = .ok (.iload 5, 2) := dk_21 5 (dk_at dksX0_nextPaid_1 6 rfl rfl)
theorem dX0_nextPaid_32 : decode cX0_nextPaid 32 = .ok (.iaload, 1) := dk_46 (dk_at dksX0_nextPaid_1 8 rfl rfl)
theorem dX0_nextPaid_33 : decode cX0_nextPaid 33 = .ok (.ifCond .ne 6, 3) := dk_154 0 6 (dk_at dksX0_nextPaid_1 9 rfl rfl)
theorem dX0_nextPaid_36 : decode cX0_nextPaid 36 = .ok (.goto 39, 3) := dk_167 0 39 (dk_at dksX0_nextPaid_1 12 rfl rfl)
theorem dX0_nextPaid_39 : decode cX0_nextPaid 39 = .ok (.iload 4, 2) := dk_21 4 (dk_at dksX0_nextPaid_1 15 rfl rfl)
theorem dX0_nextPaid_41 : decode cX0_nextPaid 41 = .ok (.iconst (-1), 1) := dk_2 (dk_at dksX0_nextPaid_1 17 rfl rfl)
theorem dX0_nextPaid_42 : decode cX0_nextPaid 42 = .ok (.if_icmp .eq 29, 3) := dk_159 0 29 (dk_at dksX0_nextPaid_1 18 rfl rfl)
theorem dX0_nextPaid_45 : decode cX0_nextPaid 45 = .ok (.iload_n 1, 1) := dk_27 (dk_at dksX0_nextPaid_1 21 rfl rfl)
theorem dX0_nextPaid_46 : decode cX0_nextPaid 46 = .ok (.iconst 1, 1) := dk_4 (dk_at dksX0_nextPaid_1 22 rfl rfl)
theorem dX0_nextPaid_47 : decode cX0_nextPaid 47 = .ok (.if_icmp .ne 28, 3) := dk_160 0 28 (dk_at dksX0_nextPaid_2 0 rfl rfl)
theorem dX0_nextPaid_50 : decode cX0_nextPaid 50 = .ok (.aload_n 0, 1) := dk_42 (dk_at dksX0_nextPaid_2 3 rfl rfl)
theorem dX0_nextPaid_51 : decode cX0_nextPaid 51 = .ok (.getfield 75, 3) := dk_180 0 75 (dk_at dksX0_nextPaid_2 4 rfl rfl)
theorem dX0_nextPaid_54 : decode cX0_nextPaid 54 = .ok (.iload_n 2, 1) := dk_28 (dk_at dksX0_nextPaid_2 7 rfl rfl)
theorem dX0_nextPaid_55 : decode cX0_nextPaid 55 = .ok (.aaload, 1) := dk_50 (dk_at dksX0_nextPaid_2 8 rfl rfl)
theorem dX0_nextPaid_56 : decode cX0_nextPaid 56 = .ok (.iload 5, 2) := dk_21 5 (dk_at dksX0_nextPaid_2 9 rfl rfl)
theorem dX0_nextPaid_58 : decode cX0_nextPaid 58 = .ok (.iaload, 1) := dk_46 (dk_at dksX0_nextPaid_2 11 rfl rfl)
theorem dX0_nextPaid_59 : decode cX0_nextPaid 59 = .ok (.aload_n 0, 1) := dk_42 (dk_at dksX0_nextPaid_2 12 rfl rfl)
theorem dX0_nextPaid_60 : decode cX0_nextPaid 60 = .ok (.getfield 75, 3) := dk_180 0 75 (dk_at dksX0_nextPaid_2 13 rfl rfl)
theorem dX0_nextPaid_63 : decode cX0_nextPaid 63 = .ok (.iload_n 2, 1) := dk_28 (dk_at dksX0_nextPaid_2 16 rfl rfl)
theorem dX0_nextPaid_64 : decode cX0_nextPaid 64 = .ok (.aaload, 1) := dk_50 (dk_at dksX0_nextPaid_2 17 rfl rfl)
theorem dX0_nextPaid_65 : decode cX0_nextPaid 65 = .ok (.iload 4, 2) := dk_21 4 (dk_at dksX0_nextPaid_2 18 rfl rfl)
theorem dX0_nextPaid_67 : decode cX0_nextPaid 67 = .ok (.iaload, 1) := dk_46 (dk_at dksX0_nextPaid_2 20 rfl rfl)
theorem dX0_nextPaid_68 : decode cX0_nextPaid 68 = .ok (.if_icmp .ge 7, 3) := dk_162 0 7 (dk_at dksX0_nextPaid_2 21 rfl rfl)
theorem dX0_nextPaid_71 : decode cX0_nextPaid 71 = .ok (.iload 5, 2) := dk_21 5 (dk_at dksX0_nextPaid_3 0 rfl rfl)
theorem dX0_nextPaid_73 : decode cX0_nextPaid 73 = .ok (.istore 4, 2) := dk_54 4 (dk_at dksX0_nextPaid_3 2 rfl rfl)
theorem dX0_nextPaid_75 : decode cX0_nextPaid 75 = .ok (.iinc 5 1, 3) := dk_132 5 1 (dk_at dksX0_nextPaid_3 4 rfl rfl)
theorem dX0_nextPaid_78 : decode cX0_nextPaid 78 = .ok (.goto (-72), 3) := dk_167 255 184 (dk_at dksX0_nextPaid_3 7 rfl rfl)
theorem dX0_nextPaid_81 : decode cX0_nextPaid 81 = .ok (.iload 4, 2) := dk_21 4 (dk_at dksX0_nextPaid_3 10 rfl rfl)
theorem dX0_nextPaid_83 : decode cX0_nextPaid 83 = .ok (.ireturn, 1) := dk_172 (dk_at dksX0_nextPaid_3 12 rfl rfl)
abbrev cX0_ruined : ByteArray := prog_1_method_59_code
def yX0_ruined : MethodName := ⟨RX0, "ruined", "()I"⟩
def dkwX0_ruined_3 : List UInt8 := [28, 120, 167, 0, 4, 3, 128, 60, 132, 2, 1, 167, 255, 178, 27, 172]
abbrev dktX0_ruined_3 : List UInt8 := dkwX0_ruined_3 ++ []
def dkwX0_ruined_2 : List UInt8 := [21, 5, 50, 28, 46, 96, 54, 4, 132, 5, 1, 167, 255, 218, 27, 5, 21, 4, 104, 29, 162, 0, 9, 4]
abbrev dktX0_ruined_2 : List UInt8 := dkwX0_ruined_2 ++ dktX0_ruined_3
def dkwX0_ruined_1 : List UInt8 := [182, 0, 140, 162, 0, 35, 29, 42, 180, 0, 75, 21, 5, 50, 28, 46, 96, 62, 21, 4, 42, 180, 0, 78]
abbrev dktX0_ruined_1 : List UInt8 := dkwX0_ruined_1 ++ dktX0_ruined_2
def dkwX0_ruined_0 : List UInt8 := [3, 60, 3, 61, 28, 42, 182, 0, 140, 162, 0, 76, 3, 62, 3, 54, 4, 3, 54, 5, 21, 5, 42]
abbrev dktX0_ruined_0 : List UInt8 := dkwX0_ruined_0 ++ dktX0_ruined_1
theorem dksX0_ruined_0 : cX0_ruined.data.toList.drop 0 = dktX0_ruined_0 := by decide +kernel
theorem dksX0_ruined_1 : cX0_ruined.data.toList.drop 23 = dktX0_ruined_1 := dk_seg dksX0_ruined_0 23 rfl rfl
theorem dksX0_ruined_2 : cX0_ruined.data.toList.drop 47 = dktX0_ruined_2 := dk_seg dksX0_ruined_1 24 rfl rfl
theorem dksX0_ruined_3 : cX0_ruined.data.toList.drop 71 = dktX0_ruined_3 := dk_seg dksX0_ruined_2 24 rfl rfl
theorem dX0_ruined_0 : decode cX0_ruined 0 = .ok (.iconst 0, 1) := dk_3 (dk_at dksX0_ruined_0 0 rfl rfl)
theorem dX0_ruined_1 : decode cX0_ruined 1 = .ok (.istore_n 1, 1) := dk_60 (dk_at dksX0_ruined_0 1 rfl rfl)
theorem dX0_ruined_2 : decode cX0_ruined 2 = .ok (.iconst 0, 1) := dk_3 (dk_at dksX0_ruined_0 2 rfl rfl)
theorem dX0_ruined_3 : decode cX0_ruined 3 = .ok (.istore_n 2, 1) := dk_61 (dk_at dksX0_ruined_0 3 rfl rfl)
theorem dX0_ruined_4 : decode cX0_ruined 4 = .ok (.iload_n 2, 1) := dk_28 (dk_at dksX0_ruined_0 4 rfl rfl)
theorem dX0_ruined_5 : decode cX0_ruined 5 = .ok (.aload_n 0, 1) := dk_42 (dk_at dksX0_ruined_0 5 rfl rfl)
theorem dX0_ruined_6 : decode cX0_ruined 6 = .ok (.invokevirtual 140, 3) := dk_182 0 140 (dk_at dksX0_ruined_0 6 rfl rfl)
theorem dX0_ruined_9 : decode cX0_ruined 9 = .ok (.if_icmp .ge 76, 3) := dk_162 0 76 (dk_at dksX0_ruined_0 9 rfl rfl)
theorem dX0_ruined_12 : decode cX0_ruined 12 = .ok (.iconst 0, 1) := dk_3 (dk_at dksX0_ruined_0 12 rfl rfl)
theorem dX0_ruined_13 : decode cX0_ruined 13 = .ok (.istore_n 3, 1) := dk_62 (dk_at dksX0_ruined_0 13 rfl rfl)
theorem dX0_ruined_14 : decode cX0_ruined 14 = .ok (.iconst 0, 1) := dk_3 (dk_at dksX0_ruined_0 14 rfl rfl)
theorem dX0_ruined_15 : decode cX0_ruined 15 = .ok (.istore 4, 2) := dk_54 4 (dk_at dksX0_ruined_0 15 rfl rfl)
theorem dX0_ruined_17 : decode cX0_ruined 17 = .ok (.iconst 0, 1) := dk_3 (dk_at dksX0_ruined_0 17 rfl rfl)
theorem dX0_ruined_18 : decode cX0_ruined 18 = .ok (.istore 5, 2) := dk_54 5 (dk_at dksX0_ruined_0 18 rfl rfl)
theorem dX0_ruined_20 : decode cX0_ruined 20 = .ok (.iload 5, 2) := dk_21 5 (dk_at dksX0_ruined_0 20 rfl rfl)
theorem dX0_ruined_22 : decode cX0_ruined 22 = .ok (.aload_n 0, 1) := dk_42 (dk_at dksX0_ruined_0 22 rfl rfl)
theorem dX0_ruined_23 : decode cX0_ruined 23 = .ok (.invokevirtual 140, 3) := dk_182 0 140 (dk_at dksX0_ruined_1 0 rfl rfl)
theorem dX0_ruined_26 : decode cX0_ruined 26 = .ok (.if_icmp .ge 35, 3) := dk_162 0 35 (dk_at dksX0_ruined_1 3 rfl rfl)
theorem dX0_ruined_29 : decode cX0_ruined 29 = .ok (.iload_n 3, 1) := dk_29 (dk_at dksX0_ruined_1 6 rfl rfl)
theorem dX0_ruined_30 : decode cX0_ruined 30 = .ok (.aload_n 0, 1) := dk_42 (dk_at dksX0_ruined_1 7 rfl rfl)
theorem dX0_ruined_31 : decode cX0_ruined 31 = .ok (.getfield 75, 3) := dk_180 0 75 (dk_at dksX0_ruined_1 8 rfl rfl)
theorem dX0_ruined_34 : decode cX0_ruined 34 = .ok (.iload 5, 2) := dk_21 5 (dk_at dksX0_ruined_1 11 rfl rfl)
theorem dX0_ruined_36 : decode cX0_ruined 36 = .ok (.aaload, 1) := dk_50 (dk_at dksX0_ruined_1 13 rfl rfl)
theorem dX0_ruined_37 : decode cX0_ruined 37 = .ok (.iload_n 2, 1) := dk_28 (dk_at dksX0_ruined_1 14 rfl rfl)
theorem dX0_ruined_38 : decode cX0_ruined 38 = .ok (.iaload, 1) := dk_46 (dk_at dksX0_ruined_1 15 rfl rfl)
theorem dX0_ruined_39 : decode cX0_ruined 39 = .ok (.iadd, 1) := dk_96 (dk_at dksX0_ruined_1 16 rfl rfl)
theorem dX0_ruined_40 : decode cX0_ruined 40 = .ok (.istore_n 3, 1) := dk_62 (dk_at dksX0_ruined_1 17 rfl rfl)
theorem dX0_ruined_41 : decode cX0_ruined 41 = .ok (.iload 4, 2) := dk_21 4 (dk_at dksX0_ruined_1 18 rfl rfl)
theorem dX0_ruined_43 : decode cX0_ruined 43 = .ok (.aload_n 0, 1) := dk_42 (dk_at dksX0_ruined_1 20 rfl rfl)
theorem dX0_ruined_44 : decode cX0_ruined 44 = .ok (.getfield 78, 3) := dk_180 0 78 (dk_at dksX0_ruined_1 21 rfl rfl)
theorem dX0_ruined_47 : decode cX0_ruined 47 = .ok (.iload 5, 2) := dk_21 5 (dk_at dksX0_ruined_2 0 rfl rfl)
theorem dX0_ruined_49 : decode cX0_ruined 49 = .ok (.aaload, 1) := dk_50 (dk_at dksX0_ruined_2 2 rfl rfl)
theorem dX0_ruined_50 : decode cX0_ruined 50 = .ok (.iload_n 2, 1) := dk_28 (dk_at dksX0_ruined_2 3 rfl rfl)
theorem dX0_ruined_51 : decode cX0_ruined 51 = .ok (.iaload, 1) := dk_46 (dk_at dksX0_ruined_2 4 rfl rfl)
theorem dX0_ruined_52 : decode cX0_ruined 52 = .ok (.iadd, 1) := dk_96 (dk_at dksX0_ruined_2 5 rfl rfl)
theorem dX0_ruined_53 : decode cX0_ruined 53 = .ok (.istore 4, 2) := dk_54 4 (dk_at dksX0_ruined_2 6 rfl rfl)
theorem dX0_ruined_55 : decode cX0_ruined 55 = .ok (.iinc 5 1, 3) := dk_132 5 1 (dk_at dksX0_ruined_2 8 rfl rfl)
theorem dX0_ruined_58 : decode cX0_ruined 58 = .ok (.goto (-38), 3) := dk_167 255 218 (dk_at dksX0_ruined_2 11 rfl rfl)
theorem dX0_ruined_61 : decode cX0_ruined 61 = .ok (.iload_n 1, 1) := dk_27 (dk_at dksX0_ruined_2 14 rfl rfl)
theorem dX0_ruined_62 : decode cX0_ruined 62 = .ok (.iconst 2, 1) := dk_5 (dk_at dksX0_ruined_2 15 rfl rfl)
theorem dX0_ruined_63 : decode cX0_ruined 63 = .ok (.iload 4, 2) := dk_21 4 (dk_at dksX0_ruined_2 16 rfl rfl)
theorem dX0_ruined_65 : decode cX0_ruined 65 = .ok (.imul, 1) := dk_104 (dk_at dksX0_ruined_2 18 rfl rfl)
theorem dX0_ruined_66 : decode cX0_ruined 66 = .ok (.iload_n 3, 1) := dk_29 (dk_at dksX0_ruined_2 19 rfl rfl)
theorem dX0_ruined_67 : decode cX0_ruined 67 = .ok (.if_icmp .ge 9, 3) := dk_162 0 9 (dk_at dksX0_ruined_2 20 rfl rfl)
theorem dX0_ruined_70 : decode cX0_ruined 70 = .ok (.iconst 1, 1) := dk_4 (dk_at dksX0_ruined_2 23 rfl rfl)
theorem dX0_ruined_71 : decode cX0_ruined 71 = .ok (.iload_n 2, 1) := dk_28 (dk_at dksX0_ruined_3 0 rfl rfl)
theorem dX0_ruined_72 : decode cX0_ruined 72 = .ok (.ishl, 1) := dk_120 (dk_at dksX0_ruined_3 1 rfl rfl)
theorem dX0_ruined_73 : decode cX0_ruined 73 = .ok (.goto 4, 3) := dk_167 0 4 (dk_at dksX0_ruined_3 2 rfl rfl)
theorem dX0_ruined_76 : decode cX0_ruined 76 = .ok (.iconst 0, 1) := dk_3 (dk_at dksX0_ruined_3 5 rfl rfl)
theorem dX0_ruined_77 : decode cX0_ruined 77 = .ok (.ior, 1) := dk_128 (dk_at dksX0_ruined_3 6 rfl rfl)
theorem dX0_ruined_78 : decode cX0_ruined 78 = .ok (.istore_n 1, 1) := dk_60 (dk_at dksX0_ruined_3 7 rfl rfl)
theorem dX0_ruined_79 : decode cX0_ruined 79 = .ok (.iinc 2 1, 3) := dk_132 2 1 (dk_at dksX0_ruined_3 8 rfl rfl)
theorem dX0_ruined_82 : decode cX0_ruined 82 = .ok (.goto (-78), 3) := dk_167 255 178 (dk_at dksX0_ruined_3 11 rfl rfl)
theorem dX0_ruined_85 : decode cX0_ruined 85 = .ok (.iload_n 1, 1) := dk_27 (dk_at dksX0_ruined_3 14 rfl rfl)
theorem dX0_ruined_86 : decode cX0_ruined 86 = .ok (.ireturn, 1) := dk_172 (dk_at dksX0_ruined_3 15 rfl rfl)
abbrev cX0_pays : ByteArray := prog_1_method_61_code
def yX0_pays : MethodName := ⟨RX0, "pays", "(III)I"⟩
def dkwX0_pays_1 : List UInt8 := [42, 27, 182, 1, 123, 42, 180, 0, 78, 28, 50, 29, 46, 172]
abbrev dktX0_pays_1 : List UInt8 := dkwX0_pays_1 ++ []
def dkwX0_pays_0 : List UInt8 := [27, 133, 9, 20, 0, 218, 184, 0, 5, 153, 0, 12, 42, 28, 29, 182, 1, 97, 154, 0, 6, 16, 254, 172]
abbrev dktX0_pays_0 : List UInt8 := dkwX0_pays_0 ++ dktX0_pays_1
theorem dksX0_pays_0 : cX0_pays.data.toList.drop 0 = dktX0_pays_0 := by decide +kernel
theorem dksX0_pays_1 : cX0_pays.data.toList.drop 24 = dktX0_pays_1 := dk_seg dksX0_pays_0 24 rfl rfl
theorem dX0_pays_0 : decode cX0_pays 0 = .ok (.iload_n 1, 1) := dk_27 (dk_at dksX0_pays_0 0 rfl rfl)
theorem dX0_pays_1 : decode cX0_pays 1 = .ok (.i2l, 1) := dk_133 (dk_at dksX0_pays_0 1 rfl rfl)
theorem dX0_pays_2 : decode cX0_pays 2 = .ok (.lconst 0, 1) := dk_9 (dk_at dksX0_pays_0 2 rfl rfl)
theorem dX0_pays_3 : decode cX0_pays 3 = .ok (.ldc2_w 218, 3) := dk_20 0 218 (dk_at dksX0_pays_0 3 rfl rfl)
theorem dX0_pays_6 : decode cX0_pays 6 = .ok (.invokestatic 5, 3) := dk_184 0 5 (dk_at dksX0_pays_0 6 rfl rfl)
theorem dX0_pays_9 : decode cX0_pays 9 = .ok (.ifCond .eq 12, 3) := dk_153 0 12 (dk_at dksX0_pays_0 9 rfl rfl)
theorem dX0_pays_12 : decode cX0_pays 12 = .ok (.aload_n 0, 1) := dk_42 (dk_at dksX0_pays_0 12 rfl rfl)
theorem dX0_pays_13 : decode cX0_pays 13 = .ok (.iload_n 2, 1) := dk_28 (dk_at dksX0_pays_0 13 rfl rfl)
theorem dX0_pays_14 : decode cX0_pays 14 = .ok (.iload_n 3, 1) := dk_29 (dk_at dksX0_pays_0 14 rfl rfl)
theorem dX0_pays_15 : decode cX0_pays 15 = .ok (.invokevirtual 353, 3) := dk_182 1 97 (dk_at dksX0_pays_0 15 rfl rfl)
theorem dX0_pays_18 : decode cX0_pays 18 = .ok (.ifCond .ne 6, 3) := dk_154 0 6 (dk_at dksX0_pays_0 18 rfl rfl)
theorem dX0_pays_21 : decode cX0_pays 21 = .ok (.bipush (-2), 2) := dk_16 254 (dk_at dksX0_pays_0 21 rfl rfl)
theorem dX0_pays_23 : decode cX0_pays 23 = .ok (.ireturn, 1) := dk_172 (dk_at dksX0_pays_0 23 rfl rfl)
theorem dX0_pays_24 : decode cX0_pays 24 = .ok (.aload_n 0, 1) := dk_42 (dk_at dksX0_pays_1 0 rfl rfl)
theorem dX0_pays_25 : decode cX0_pays 25 = .ok (.iload_n 1, 1) := dk_27 (dk_at dksX0_pays_1 1 rfl rfl)
theorem dX0_pays_26 : decode cX0_pays 26 = .ok (.invokevirtual 379, 3) := dk_182 1 123 (dk_at dksX0_pays_1 2 rfl rfl)
theorem dX0_pays_29 : decode cX0_pays 29 = .ok (.aload_n 0, 1) := dk_42 (dk_at dksX0_pays_1 5 rfl rfl)
theorem dX0_pays_30 : decode cX0_pays 30 = .ok (.getfield 78, 3) := dk_180 0 78 (dk_at dksX0_pays_1 6 rfl rfl)
theorem dX0_pays_33 : decode cX0_pays 33 = .ok (.iload_n 2, 1) := dk_28 (dk_at dksX0_pays_1 9 rfl rfl)
theorem dX0_pays_34 : decode cX0_pays 34 = .ok (.aaload, 1) := dk_50 (dk_at dksX0_pays_1 10 rfl rfl)
theorem dX0_pays_35 : decode cX0_pays 35 = .ok (.iload_n 3, 1) := dk_29 (dk_at dksX0_pays_1 11 rfl rfl)
theorem dX0_pays_36 : decode cX0_pays 36 = .ok (.iaload, 1) := dk_46 (dk_at dksX0_pays_1 12 rfl rfl)
theorem dX0_pays_37 : decode cX0_pays 37 = .ok (.ireturn, 1) := dk_172 (dk_at dksX0_pays_1 13 rfl rfl)
abbrev cX0_law : ByteArray := prog_1_method_62_code
def yX0_law : MethodName := ⟨RX0, "law", "()I"⟩
def dkwX0_law_2 : List UInt8 := [167, 0, 8, 21, 4, 61, 29, 60, 132, 3, 1, 167, 255, 220, 27, 172]
abbrev dktX0_law_2 : List UInt8 := dkwX0_law_2 ++ []
def dkwX0_law_1 : List UInt8 := [162, 0, 37, 42, 29, 182, 1, 123, 42, 182, 1, 126, 184, 1, 129, 54, 4, 21, 4, 28, 161, 0, 6]
abbrev dktX0_law_1 : List UInt8 := dkwX0_law_1 ++ dktX0_law_2
def dkwX0_law_0 : List UInt8 := [42, 180, 0, 41, 182, 0, 102, 154, 0, 6, 16, 254, 172, 3, 60, 16, 7, 61, 3, 62, 29, 6]
abbrev dktX0_law_0 : List UInt8 := dkwX0_law_0 ++ dktX0_law_1
theorem dksX0_law_0 : cX0_law.data.toList.drop 0 = dktX0_law_0 := by decide +kernel
theorem dksX0_law_1 : cX0_law.data.toList.drop 22 = dktX0_law_1 := dk_seg dksX0_law_0 22 rfl rfl
theorem dksX0_law_2 : cX0_law.data.toList.drop 45 = dktX0_law_2 := dk_seg dksX0_law_1 23 rfl rfl
theorem dX0_law_0 : decode cX0_law 0 = .ok (.aload_n 0, 1) := dk_42 (dk_at dksX0_law_0 0 rfl rfl)
theorem dX0_law_1 : decode cX0_law 1 = .ok (.getfield 41, 3) := dk_180 0 41 (dk_at dksX0_law_0 1 rfl rfl)
theorem dX0_law_4 : decode cX0_law 4 = .ok (.invokevirtual 102, 3) := dk_182 0 102 (dk_at dksX0_law_0 4 rfl rfl)
theorem dX0_law_7 : decode cX0_law 7 = .ok (.ifCond .ne 6, 3) := dk_154 0 6 (dk_at dksX0_law_0 7 rfl rfl)
theorem dX0_law_10 : decode cX0_law 10 = .ok (.bipush (-2), 2) := dk_16 254 (dk_at dksX0_law_0 10 rfl rfl)
theorem dX0_law_12 : decode cX0_law 12 = .ok (.ireturn, 1) := dk_172 (dk_at dksX0_law_0 12 rfl rfl)
theorem dX0_law_13 : decode cX0_law 13 = .ok (.iconst 0, 1) := dk_3 (dk_at dksX0_law_0 13 rfl rfl)
theorem dX0_law_14 : decode cX0_law 14 = .ok (.istore_n 1, 1) := dk_60 (dk_at dksX0_law_0 14 rfl rfl)
theorem dX0_law_15 : decode cX0_law 15 = .ok (.bipush 7, 2) := dk_16 7 (dk_at dksX0_law_0 15 rfl rfl)
theorem dX0_law_17 : decode cX0_law 17 = .ok (.istore_n 2, 1) := dk_61 (dk_at dksX0_law_0 17 rfl rfl)
theorem dX0_law_18 : decode cX0_law 18 = .ok (.iconst 0, 1) := dk_3 (dk_at dksX0_law_0 18 rfl rfl)
theorem dX0_law_19 : decode cX0_law 19 = .ok (.istore_n 3, 1) := dk_62 (dk_at dksX0_law_0 19 rfl rfl)
theorem dX0_law_20 : decode cX0_law 20 = .ok (.iload_n 3, 1) := dk_29 (dk_at dksX0_law_0 20 rfl rfl)
theorem dX0_law_21 : decode cX0_law 21 = .ok (.iconst 3, 1) := dk_6 (dk_at dksX0_law_0 21 rfl rfl)
theorem dX0_law_22 : decode cX0_law 22 = .ok (.if_icmp .ge 37, 3) := dk_162 0 37 (dk_at dksX0_law_1 0 rfl rfl)
theorem dX0_law_25 : decode cX0_law 25 = .ok (.aload_n 0, 1) := dk_42 (dk_at dksX0_law_1 3 rfl rfl)
theorem dX0_law_26 : decode cX0_law 26 = .ok (.iload_n 3, 1) := dk_29 (dk_at dksX0_law_1 4 rfl rfl)
theorem dX0_law_27 : decode cX0_law 27 = .ok (.invokevirtual 379, 3) := dk_182 1 123 (dk_at dksX0_law_1 5 rfl rfl)
theorem dX0_law_30 : decode cX0_law 30 = .ok (.aload_n 0, 1) := dk_42 (dk_at dksX0_law_1 8 rfl rfl)
theorem dX0_law_31 : decode cX0_law 31 = .ok (.invokevirtual 382, 3) := dk_182 1 126 (dk_at dksX0_law_1 9 rfl rfl)
theorem dX0_law_34 : decode cX0_law 34 = .ok (.invokestatic 385, 3) := dk_184 1 129 (dk_at dksX0_law_1 12 rfl rfl)
theorem dX0_law_37 : decode cX0_law 37 = .ok (.istore 4, 2) := dk_54 4 (dk_at dksX0_law_1 15 rfl rfl)
theorem dX0_law_39 : decode cX0_law 39 = .ok (.iload 4, 2) := dk_21 4 (dk_at dksX0_law_1 17 rfl rfl)
theorem dX0_law_41 : decode cX0_law 41 = .ok (.iload_n 2, 1) := dk_28 (dk_at dksX0_law_1 19 rfl rfl)
theorem dX0_law_42 : decode cX0_law 42 = .ok (.if_icmp .lt 6, 3) := dk_161 0 6 (dk_at dksX0_law_1 20 rfl rfl)
theorem dX0_law_45 : decode cX0_law 45 = .ok (.goto 8, 3) := dk_167 0 8 (dk_at dksX0_law_2 0 rfl rfl)
theorem dX0_law_48 : decode cX0_law 48 = .ok (.iload 4, 2) := dk_21 4 (dk_at dksX0_law_2 3 rfl rfl)
theorem dX0_law_50 : decode cX0_law 50 = .ok (.istore_n 2, 1) := dk_61 (dk_at dksX0_law_2 5 rfl rfl)
theorem dX0_law_51 : decode cX0_law 51 = .ok (.iload_n 3, 1) := dk_29 (dk_at dksX0_law_2 6 rfl rfl)
theorem dX0_law_52 : decode cX0_law 52 = .ok (.istore_n 1, 1) := dk_60 (dk_at dksX0_law_2 7 rfl rfl)
theorem dX0_law_53 : decode cX0_law 53 = .ok (.iinc 3 1, 3) := dk_132 3 1 (dk_at dksX0_law_2 8 rfl rfl)
theorem dX0_law_56 : decode cX0_law 56 = .ok (.goto (-36), 3) := dk_167 255 220 (dk_at dksX0_law_2 11 rfl rfl)
theorem dX0_law_59 : decode cX0_law 59 = .ok (.iload_n 1, 1) := dk_27 (dk_at dksX0_law_2 14 rfl rfl)
theorem dX0_law_60 : decode cX0_law 60 = .ok (.ireturn, 1) := dk_172 (dk_at dksX0_law_2 15 rfl rfl)
abbrev cX0_melons : ByteArray := prog_1_method_63_code
def yX0_melons : MethodName := ⟨RX0, "melons", "(I)I"⟩
def dkwX0_melons_11 : List UInt8 := [21, 4, 108, 172]
abbrev dktX0_melons_11 : List UInt8 := dkwX0_melons_11 ++ []
def dkwX0_melons_10 : List UInt8 := [180, 0, 215, 28, 185, 0, 161, 2, 0, 192, 1, 134, 180, 1, 142, 54, 4, 29, 21, 4, 96, 4, 100]
abbrev dktX0_melons_10 : List UInt8 := dkwX0_melons_10 ++ dktX0_melons_11
def dkwX0_melons_9 : List UInt8 := [180, 0, 200, 21, 4, 46, 100, 167, 0, 4, 3, 96, 62, 132, 4, 1, 167, 255, 197, 42, 180, 0, 41]
abbrev dktX0_melons_9 : List UInt8 := dkwX0_melons_9 ++ dktX0_melons_10
def dkwX0_melons_8 : List UInt8 := [180, 0, 45, 21, 4, 46, 27, 160, 0, 27, 42, 180, 0, 52, 180, 0, 197, 21, 4, 46, 42, 180, 0, 52]
abbrev dktX0_melons_8 : List UInt8 := dkwX0_melons_8 ++ dktX0_melons_9
def dkwX0_melons_7 : List UInt8 := [3, 54, 4, 21, 4, 42, 180, 0, 41, 180, 0, 149, 185, 0, 134, 1, 0, 162, 0, 48, 29, 42]
abbrev dktX0_melons_7 : List UInt8 := dkwX0_melons_7 ++ dktX0_melons_8
def dkwX0_melons_6 : List UInt8 := [46, 42, 180, 0, 52, 180, 0, 212, 21, 4, 46, 100, 167, 0, 4, 3, 96, 62, 132, 4, 1, 167, 255, 184]
abbrev dktX0_melons_6 : List UInt8 := dkwX0_melons_6 ++ dktX0_melons_7
def dkwX0_melons_5 : List UInt8 := [185, 0, 161, 2, 0, 192, 1, 28, 180, 1, 139, 27, 160, 0, 27, 42, 180, 0, 52, 180, 0, 209, 21, 4]
abbrev dktX0_melons_5 : List UInt8 := dkwX0_melons_5 ++ dktX0_melons_6
def dkwX0_melons_4 : List UInt8 := [180, 0, 41, 180, 0, 203, 185, 0, 134, 1, 0, 162, 0, 61, 29, 42, 180, 0, 41, 180, 0, 203, 21, 4]
abbrev dktX0_melons_4 : List UInt8 := dkwX0_melons_4 ++ dktX0_melons_5
def dkwX0_melons_3 : List UInt8 := [185, 0, 134, 1, 0, 160, 0, 5, 2, 172, 42, 182, 0, 188, 87, 3, 62, 3, 54, 4, 21, 4, 42]
abbrev dktX0_melons_3 : List UInt8 := dkwX0_melons_3 ++ dktX0_melons_4
def dkwX0_melons_2 : List UInt8 := [180, 1, 136, 27, 159, 0, 9, 132, 2, 1, 167, 255, 214, 28, 42, 180, 0, 41, 180, 0, 215]
abbrev dktX0_melons_2 : List UInt8 := dkwX0_melons_2 ++ dktX0_melons_3
def dkwX0_melons_1 : List UInt8 := [185, 0, 134, 1, 0, 162, 0, 32, 42, 180, 0, 41, 180, 0, 215, 28, 185, 0, 161, 2, 0, 192, 1, 134]
abbrev dktX0_melons_1 : List UInt8 := dkwX0_melons_1 ++ dktX0_melons_2
def dkwX0_melons_0 : List UInt8 := [42, 27, 133, 182, 0, 142, 154, 0, 6, 16, 254, 172, 3, 61, 28, 42, 180, 0, 41, 180, 0, 215]
abbrev dktX0_melons_0 : List UInt8 := dkwX0_melons_0 ++ dktX0_melons_1
theorem dksX0_melons_0 : cX0_melons.data.toList.drop 0 = dktX0_melons_0 := by decide +kernel
theorem dksX0_melons_1 : cX0_melons.data.toList.drop 22 = dktX0_melons_1 := dk_seg dksX0_melons_0 22 rfl rfl
theorem dksX0_melons_2 : cX0_melons.data.toList.drop 46 = dktX0_melons_2 := dk_seg dksX0_melons_1 24 rfl rfl
theorem dksX0_melons_3 : cX0_melons.data.toList.drop 67 = dktX0_melons_3 := dk_seg dksX0_melons_2 21 rfl rfl
theorem dksX0_melons_4 : cX0_melons.data.toList.drop 90 = dktX0_melons_4 := dk_seg dksX0_melons_3 23 rfl rfl
theorem dksX0_melons_5 : cX0_melons.data.toList.drop 114 = dktX0_melons_5 := dk_seg dksX0_melons_4 24 rfl rfl
theorem dksX0_melons_6 : cX0_melons.data.toList.drop 138 = dktX0_melons_6 := dk_seg dksX0_melons_5 24 rfl rfl
theorem dksX0_melons_7 : cX0_melons.data.toList.drop 162 = dktX0_melons_7 := dk_seg dksX0_melons_6 24 rfl rfl
theorem dksX0_melons_8 : cX0_melons.data.toList.drop 184 = dktX0_melons_8 := dk_seg dksX0_melons_7 22 rfl rfl
theorem dksX0_melons_9 : cX0_melons.data.toList.drop 208 = dktX0_melons_9 := dk_seg dksX0_melons_8 24 rfl rfl
theorem dksX0_melons_10 : cX0_melons.data.toList.drop 231 = dktX0_melons_10 := dk_seg dksX0_melons_9 23 rfl rfl
theorem dksX0_melons_11 : cX0_melons.data.toList.drop 254 = dktX0_melons_11 := dk_seg dksX0_melons_10 23 rfl rfl
theorem dX0_melons_0 : decode cX0_melons 0 = .ok (.aload_n 0, 1) := dk_42 (dk_at dksX0_melons_0 0 rfl rfl)
theorem dX0_melons_1 : decode cX0_melons 1 = .ok (.iload_n 1, 1) := dk_27 (dk_at dksX0_melons_0 1 rfl rfl)
theorem dX0_melons_2 : decode cX0_melons 2 = .ok (.i2l, 1) := dk_133 (dk_at dksX0_melons_0 2 rfl rfl)
theorem dX0_melons_3 : decode cX0_melons 3 = .ok (.invokevirtual 142, 3) := dk_182 0 142 (dk_at dksX0_melons_0 3 rfl rfl)
theorem dX0_melons_6 : decode cX0_melons 6 = .ok (.ifCond .ne 6, 3) := dk_154 0 6 (dk_at dksX0_melons_0 6 rfl rfl)
theorem dX0_melons_9 : decode cX0_melons 9 = .ok (.bipush (-2), 2) := dk_16 254 (dk_at dksX0_melons_0 9 rfl rfl)
theorem dX0_melons_11 : decode cX0_melons 11 = .ok (.ireturn, 1) := dk_172 (dk_at dksX0_melons_0 11 rfl rfl)
theorem dX0_melons_12 : decode cX0_melons 12 = .ok (.iconst 0, 1) := dk_3 (dk_at dksX0_melons_0 12 rfl rfl)
theorem dX0_melons_13 : decode cX0_melons 13 = .ok (.istore_n 2, 1) := dk_61 (dk_at dksX0_melons_0 13 rfl rfl)
theorem dX0_melons_14 : decode cX0_melons 14 = .ok (.iload_n 2, 1) := dk_28 (dk_at dksX0_melons_0 14 rfl rfl)
theorem dX0_melons_15 : decode cX0_melons 15 = .ok (.aload_n 0, 1) := dk_42 (dk_at dksX0_melons_0 15 rfl rfl)
theorem dX0_melons_16 : decode cX0_melons 16 = .ok (.getfield 41, 3) := dk_180 0 41 (dk_at dksX0_melons_0 16 rfl rfl)
theorem dX0_melons_19 : decode cX0_melons 19 = .ok (.getfield 215, 3) := dk_180 0 215 (dk_at dksX0_melons_0 19 rfl rfl)
theorem dX0_melons_22 : decode cX0_melons 22 = .ok (.invokeinterface 134 1, 5) := by decide +kernel
theorem dX0_melons_27 : decode cX0_melons 27 = .ok (.if_icmp .ge 32, 3) := dk_162 0 32 (dk_at dksX0_melons_1 5 rfl rfl)
theorem dX0_melons_30 : decode cX0_melons 30 = .ok (.aload_n 0, 1) := dk_42 (dk_at dksX0_melons_1 8 rfl rfl)
theorem dX0_melons_31 : decode cX0_melons 31 = .ok (.getfield 41, 3) := dk_180 0 41 (dk_at dksX0_melons_1 9 rfl rfl)
theorem dX0_melons_34 : decode cX0_melons 34 = .ok (.getfield 215, 3) := dk_180 0 215 (dk_at dksX0_melons_1 12 rfl rfl)
theorem dX0_melons_37 : decode cX0_melons 37 = .ok (.iload_n 2, 1) := dk_28 (dk_at dksX0_melons_1 15 rfl rfl)
theorem dX0_melons_38 : decode cX0_melons 38 = .ok (.invokeinterface 161 2, 5) := by decide +kernel
theorem dX0_melons_43 : decode cX0_melons 43 = .ok (.checkcast 390, 3) := dk_192 1 134 (dk_at dksX0_melons_1 21 rfl rfl)
theorem dX0_melons_46 : decode cX0_melons 46 = .ok (.getfield 392, 3) := dk_180 1 136 (dk_at dksX0_melons_2 0 rfl rfl)
theorem dX0_melons_49 : decode cX0_melons 49 = .ok (.iload_n 1, 1) := dk_27 (dk_at dksX0_melons_2 3 rfl rfl)
theorem dX0_melons_50 : decode cX0_melons 50 = .ok (.if_icmp .eq 9, 3) := dk_159 0 9 (dk_at dksX0_melons_2 4 rfl rfl)
theorem dX0_melons_53 : decode cX0_melons 53 = .ok (.iinc 2 1, 3) := dk_132 2 1 (dk_at dksX0_melons_2 7 rfl rfl)
theorem dX0_melons_56 : decode cX0_melons 56 = .ok (.goto (-42), 3) := dk_167 255 214 (dk_at dksX0_melons_2 10 rfl rfl)
theorem dX0_melons_59 : decode cX0_melons 59 = .ok (.iload_n 2, 1) := dk_28 (dk_at dksX0_melons_2 13 rfl rfl)
theorem dX0_melons_60 : decode cX0_melons 60 = .ok (.aload_n 0, 1) := dk_42 (dk_at dksX0_melons_2 14 rfl rfl)
theorem dX0_melons_61 : decode cX0_melons 61 = .ok (.getfield 41, 3) := dk_180 0 41 (dk_at dksX0_melons_2 15 rfl rfl)
theorem dX0_melons_64 : decode cX0_melons 64 = .ok (.getfield 215, 3) := dk_180 0 215 (dk_at dksX0_melons_2 18 rfl rfl)
theorem dX0_melons_67 : decode cX0_melons 67 = .ok (.invokeinterface 134 1, 5) := by decide +kernel
theorem dX0_melons_72 : decode cX0_melons 72 = .ok (.if_icmp .ne 5, 3) := dk_160 0 5 (dk_at dksX0_melons_3 5 rfl rfl)
theorem dX0_melons_75 : decode cX0_melons 75 = .ok (.iconst (-1), 1) := dk_2 (dk_at dksX0_melons_3 8 rfl rfl)
theorem dX0_melons_76 : decode cX0_melons 76 = .ok (.ireturn, 1) := dk_172 (dk_at dksX0_melons_3 9 rfl rfl)
theorem dX0_melons_77 : decode cX0_melons 77 = .ok (.aload_n 0, 1) := dk_42 (dk_at dksX0_melons_3 10 rfl rfl)
theorem dX0_melons_78 : decode cX0_melons 78 = .ok (.invokevirtual 188, 3) := dk_182 0 188 (dk_at dksX0_melons_3 11 rfl rfl)
theorem dX0_melons_81 : decode cX0_melons 81 = .ok (.pop, 1) := dk_87 (dk_at dksX0_melons_3 14 rfl rfl)
theorem dX0_melons_82 : decode cX0_melons 82 = .ok (.iconst 0, 1) := dk_3 (dk_at dksX0_melons_3 15 rfl rfl)
theorem dX0_melons_83 : decode cX0_melons 83 = .ok (.istore_n 3, 1) := dk_62 (dk_at dksX0_melons_3 16 rfl rfl)
theorem dX0_melons_84 : decode cX0_melons 84 = .ok (.iconst 0, 1) := dk_3 (dk_at dksX0_melons_3 17 rfl rfl)
theorem dX0_melons_85 : decode cX0_melons 85 = .ok (.istore 4, 2) := dk_54 4 (dk_at dksX0_melons_3 18 rfl rfl)
theorem dX0_melons_87 : decode cX0_melons 87 = .ok (.iload 4, 2) := dk_21 4 (dk_at dksX0_melons_3 20 rfl rfl)
theorem dX0_melons_89 : decode cX0_melons 89 = .ok (.aload_n 0, 1) := dk_42 (dk_at dksX0_melons_3 22 rfl rfl)
theorem dX0_melons_90 : decode cX0_melons 90 = .ok (.getfield 41, 3) := dk_180 0 41 (dk_at dksX0_melons_4 0 rfl rfl)
theorem dX0_melons_93 : decode cX0_melons 93 = .ok (.getfield 203, 3) := dk_180 0 203 (dk_at dksX0_melons_4 3 rfl rfl)
theorem dX0_melons_96 : decode cX0_melons 96 = .ok (.invokeinterface 134 1, 5) := by decide +kernel
theorem dX0_melons_101 : decode cX0_melons 101 = .ok (.if_icmp .ge 61, 3) := dk_162 0 61 (dk_at dksX0_melons_4 11 rfl rfl)
theorem dX0_melons_104 : decode cX0_melons 104 = .ok (.iload_n 3, 1) := dk_29 (dk_at dksX0_melons_4 14 rfl rfl)
theorem dX0_melons_105 : decode cX0_melons 105 = .ok (.aload_n 0, 1) := dk_42 (dk_at dksX0_melons_4 15 rfl rfl)
theorem dX0_melons_106 : decode cX0_melons 106 = .ok (.getfield 41, 3) := dk_180 0 41 (dk_at dksX0_melons_4 16 rfl rfl)
theorem dX0_melons_109 : decode cX0_melons 109 = .ok (.getfield 203, 3) := dk_180 0 203 (dk_at dksX0_melons_4 19 rfl rfl)
theorem dX0_melons_112 : decode cX0_melons 112 = .ok (.iload 4, 2) := dk_21 4 (dk_at dksX0_melons_4 22 rfl rfl)
theorem dX0_melons_114 : decode cX0_melons 114 = .ok (.invokeinterface 161 2, 5) := by decide +kernel
theorem dX0_melons_119 : decode cX0_melons 119 = .ok (.checkcast 284, 3) := dk_192 1 28 (dk_at dksX0_melons_5 5 rfl rfl)
theorem dX0_melons_122 : decode cX0_melons 122 = .ok (.getfield 395, 3) := dk_180 1 139 (dk_at dksX0_melons_5 8 rfl rfl)
theorem dX0_melons_125 : decode cX0_melons 125 = .ok (.iload_n 1, 1) := dk_27 (dk_at dksX0_melons_5 11 rfl rfl)
theorem dX0_melons_126 : decode cX0_melons 126 = .ok (.if_icmp .ne 27, 3) := dk_160 0 27 (dk_at dksX0_melons_5 12 rfl rfl)
theorem dX0_melons_129 : decode cX0_melons 129 = .ok (.aload_n 0, 1) := dk_42 (dk_at dksX0_melons_5 15 rfl rfl)
theorem dX0_melons_130 : decode cX0_melons 130 = .ok (.getfield 52, 3) := dk_180 0 52 (dk_at dksX0_melons_5 16 rfl rfl)
theorem dX0_melons_133 : decode cX0_melons 133 = .ok (.getfield 209, 3) := dk_180 0 209 (dk_at dksX0_melons_5 19 rfl rfl)
theorem dX0_melons_136 : decode cX0_melons 136 = .ok (.iload 4, 2) := dk_21 4 (dk_at dksX0_melons_5 22 rfl rfl)
theorem dX0_melons_138 : decode cX0_melons 138 = .ok (.iaload, 1) := dk_46 (dk_at dksX0_melons_6 0 rfl rfl)
theorem dX0_melons_139 : decode cX0_melons 139 = .ok (.aload_n 0, 1) := dk_42 (dk_at dksX0_melons_6 1 rfl rfl)
theorem dX0_melons_140 : decode cX0_melons 140 = .ok (.getfield 52, 3) := dk_180 0 52 (dk_at dksX0_melons_6 2 rfl rfl)
theorem dX0_melons_143 : decode cX0_melons 143 = .ok (.getfield 212, 3) := dk_180 0 212 (dk_at dksX0_melons_6 5 rfl rfl)
theorem dX0_melons_146 : decode cX0_melons 146 = .ok (.iload 4, 2) := dk_21 4 (dk_at dksX0_melons_6 8 rfl rfl)
theorem dX0_melons_148 : decode cX0_melons 148 = .ok (.iaload, 1) := dk_46 (dk_at dksX0_melons_6 10 rfl rfl)
theorem dX0_melons_149 : decode cX0_melons 149 = .ok (.isub, 1) := dk_100 (dk_at dksX0_melons_6 11 rfl rfl)
theorem dX0_melons_150 : decode cX0_melons 150 = .ok (.goto 4, 3) := dk_167 0 4 (dk_at dksX0_melons_6 12 rfl rfl)
theorem dX0_melons_153 : decode cX0_melons 153 = .ok (.iconst 0, 1) := dk_3 (dk_at dksX0_melons_6 15 rfl rfl)
theorem dX0_melons_154 : decode cX0_melons 154 = .ok (.iadd, 1) := dk_96 (dk_at dksX0_melons_6 16 rfl rfl)
theorem dX0_melons_155 : decode cX0_melons 155 = .ok (.istore_n 3, 1) := dk_62 (dk_at dksX0_melons_6 17 rfl rfl)
theorem dX0_melons_156 : decode cX0_melons 156 = .ok (.iinc 4 1, 3) := dk_132 4 1 (dk_at dksX0_melons_6 18 rfl rfl)
theorem dX0_melons_159 : decode cX0_melons 159 = .ok (.goto (-72), 3) := dk_167 255 184 (dk_at dksX0_melons_6 21 rfl rfl)
theorem dX0_melons_162 : decode cX0_melons 162 = .ok (.iconst 0, 1) := dk_3 (dk_at dksX0_melons_7 0 rfl rfl)
theorem dX0_melons_163 : decode cX0_melons 163 = .ok (.istore 4, 2) := dk_54 4 (dk_at dksX0_melons_7 1 rfl rfl)
theorem dX0_melons_165 : decode cX0_melons 165 = .ok (.iload 4, 2) := dk_21 4 (dk_at dksX0_melons_7 3 rfl rfl)
theorem dX0_melons_167 : decode cX0_melons 167 = .ok (.aload_n 0, 1) := dk_42 (dk_at dksX0_melons_7 5 rfl rfl)
theorem dX0_melons_168 : decode cX0_melons 168 = .ok (.getfield 41, 3) := dk_180 0 41 (dk_at dksX0_melons_7 6 rfl rfl)
theorem dX0_melons_171 : decode cX0_melons 171 = .ok (.getfield 149, 3) := dk_180 0 149 (dk_at dksX0_melons_7 9 rfl rfl)
theorem dX0_melons_174 : decode cX0_melons 174 = .ok (.invokeinterface 134 1, 5) := by decide +kernel
theorem dX0_melons_179 : decode cX0_melons 179 = .ok (.if_icmp .ge 48, 3) := dk_162 0 48 (dk_at dksX0_melons_7 17 rfl rfl)
theorem dX0_melons_182 : decode cX0_melons 182 = .ok (.iload_n 3, 1) := dk_29 (dk_at dksX0_melons_7 20 rfl rfl)
theorem dX0_melons_183 : decode cX0_melons 183 = .ok (.aload_n 0, 1) := dk_42 (dk_at dksX0_melons_7 21 rfl rfl)
theorem dX0_melons_184 : decode cX0_melons 184 = .ok (.getfield 45, 3) := dk_180 0 45 (dk_at dksX0_melons_8 0 rfl rfl)
theorem dX0_melons_187 : decode cX0_melons 187 = .ok (.iload 4, 2) := dk_21 4 (dk_at dksX0_melons_8 3 rfl rfl)
theorem dX0_melons_189 : decode cX0_melons 189 = .ok (.iaload, 1) := dk_46 (dk_at dksX0_melons_8 5 rfl rfl)
theorem dX0_melons_190 : decode cX0_melons 190 = .ok (.iload_n 1, 1) := dk_27 (dk_at dksX0_melons_8 6 rfl rfl)
theorem dX0_melons_191 : decode cX0_melons 191 = .ok (.if_icmp .ne 27, 3) := dk_160 0 27 (dk_at dksX0_melons_8 7 rfl rfl)
theorem dX0_melons_194 : decode cX0_melons 194 = .ok (.aload_n 0, 1) := dk_42 (dk_at dksX0_melons_8 10 rfl rfl)
theorem dX0_melons_195 : decode cX0_melons 195 = .ok (.getfield 52, 3) := dk_180 0 52 (dk_at dksX0_melons_8 11 rfl rfl)
theorem dX0_melons_198 : decode cX0_melons 198 = .ok (.getfield 197, 3) := dk_180 0 197 (dk_at dksX0_melons_8 14 rfl rfl)
theorem dX0_melons_201 : decode cX0_melons 201 = .ok (.iload 4, 2) := dk_21 4 (dk_at dksX0_melons_8 17 rfl rfl)
theorem dX0_melons_203 : decode cX0_melons 203 = .ok (.iaload, 1) := dk_46 (dk_at dksX0_melons_8 19 rfl rfl)
theorem dX0_melons_204 : decode cX0_melons 204 = .ok (.aload_n 0, 1) := dk_42 (dk_at dksX0_melons_8 20 rfl rfl)
theorem dX0_melons_205 : decode cX0_melons 205 = .ok (.getfield 52, 3) := dk_180 0 52 (dk_at dksX0_melons_8 21 rfl rfl)
theorem dX0_melons_208 : decode cX0_melons 208 = .ok (.getfield 200, 3) := dk_180 0 200 (dk_at dksX0_melons_9 0 rfl rfl)
theorem dX0_melons_211 : decode cX0_melons 211 = .ok (.iload 4, 2) := dk_21 4 (dk_at dksX0_melons_9 3 rfl rfl)
theorem dX0_melons_213 : decode cX0_melons 213 = .ok (.iaload, 1) := dk_46 (dk_at dksX0_melons_9 5 rfl rfl)
theorem dX0_melons_214 : decode cX0_melons 214 = .ok (.isub, 1) := dk_100 (dk_at dksX0_melons_9 6 rfl rfl)
theorem dX0_melons_215 : decode cX0_melons 215 = .ok (.goto 4, 3) := dk_167 0 4 (dk_at dksX0_melons_9 7 rfl rfl)
theorem dX0_melons_218 : decode cX0_melons 218 = .ok (.iconst 0, 1) := dk_3 (dk_at dksX0_melons_9 10 rfl rfl)
theorem dX0_melons_219 : decode cX0_melons 219 = .ok (.iadd, 1) := dk_96 (dk_at dksX0_melons_9 11 rfl rfl)
theorem dX0_melons_220 : decode cX0_melons 220 = .ok (.istore_n 3, 1) := dk_62 (dk_at dksX0_melons_9 12 rfl rfl)
theorem dX0_melons_221 : decode cX0_melons 221 = .ok (.iinc 4 1, 3) := dk_132 4 1 (dk_at dksX0_melons_9 13 rfl rfl)
theorem dX0_melons_224 : decode cX0_melons 224 = .ok (.goto (-59), 3) := dk_167 255 197 (dk_at dksX0_melons_9 16 rfl rfl)
theorem dX0_melons_227 : decode cX0_melons 227 = .ok (.aload_n 0, 1) := dk_42 (dk_at dksX0_melons_9 19 rfl rfl)
theorem dX0_melons_228 : decode cX0_melons 228 = .ok (.getfield 41, 3) := dk_180 0 41 (dk_at dksX0_melons_9 20 rfl rfl)
theorem dX0_melons_231 : decode cX0_melons 231 = .ok (.getfield 215, 3) := dk_180 0 215 (dk_at dksX0_melons_10 0 rfl rfl)
theorem dX0_melons_234 : decode cX0_melons 234 = .ok (.iload_n 2, 1) := dk_28 (dk_at dksX0_melons_10 3 rfl rfl)
theorem dX0_melons_235 : decode cX0_melons 235 = .ok (.invokeinterface 161 2, 5) := by decide +kernel
theorem dX0_melons_240 : decode cX0_melons 240 = .ok (.checkcast 390, 3) := dk_192 1 134 (dk_at dksX0_melons_10 9 rfl rfl)
theorem dX0_melons_243 : decode cX0_melons 243 = .ok (.getfield 398, 3) := dk_180 1 142 (dk_at dksX0_melons_10 12 rfl rfl)
theorem dX0_melons_246 : decode cX0_melons 246 = .ok (.istore 4, 2) := dk_54 4 (dk_at dksX0_melons_10 15 rfl rfl)
theorem dX0_melons_248 : decode cX0_melons 248 = .ok (.iload_n 3, 1) := dk_29 (dk_at dksX0_melons_10 17 rfl rfl)
theorem dX0_melons_249 : decode cX0_melons 249 = .ok (.iload 4, 2) := dk_21 4 (dk_at dksX0_melons_10 18 rfl rfl)
theorem dX0_melons_251 : decode cX0_melons 251 = .ok (.iadd, 1) := dk_96 (dk_at dksX0_melons_10 20 rfl rfl)
theorem dX0_melons_252 : decode cX0_melons 252 = .ok (.iconst 1, 1) := dk_4 (dk_at dksX0_melons_10 21 rfl rfl)
theorem dX0_melons_253 : decode cX0_melons 253 = .ok (.isub, 1) := dk_100 (dk_at dksX0_melons_10 22 rfl rfl)
theorem dX0_melons_254 : decode cX0_melons 254 = .ok (.iload 4, 2) := dk_21 4 (dk_at dksX0_melons_11 0 rfl rfl)
theorem dX0_melons_256 : decode cX0_melons 256 = .ok (.idiv, 1) := dk_108 (dk_at dksX0_melons_11 2 rfl rfl)
theorem dX0_melons_257 : decode cX0_melons 257 = .ok (.ireturn, 1) := dk_172 (dk_at dksX0_melons_11 3 rfl rfl)
abbrev cX0_share : ByteArray := prog_1_method_65_code
def yX0_share : MethodName := ⟨RX0, "share", "(I)I"⟩
def dkwX0_share_3 : List UInt8 := [167, 0, 4, 3, 100, 96, 61, 132, 3, 1, 167, 255, 208, 28, 172]
abbrev dktX0_share_3 : List UInt8 := dkwX0_share_3 ++ []
def dkwX0_share_2 : List UInt8 := [29, 185, 0, 161, 2, 0, 192, 0, 165, 180, 0, 179, 29, 27, 162, 0, 11, 42, 29, 182, 1, 145]
abbrev dktX0_share_2 : List UInt8 := dkwX0_share_2 ++ dktX0_share_3
def dkwX0_share_1 : List UInt8 := [182, 1, 145, 172, 3, 61, 3, 62, 29, 42, 182, 0, 140, 162, 0, 46, 28, 42, 180, 0, 41, 180, 0, 130]
abbrev dktX0_share_1 : List UInt8 := dkwX0_share_1 ++ dktX0_share_2
def dkwX0_share_0 : List UInt8 := [42, 27, 133, 182, 0, 142, 154, 0, 6, 16, 254, 172, 27, 42, 182, 0, 140, 4, 100, 162, 0, 9, 42, 27]
abbrev dktX0_share_0 : List UInt8 := dkwX0_share_0 ++ dktX0_share_1
theorem dksX0_share_0 : cX0_share.data.toList.drop 0 = dktX0_share_0 := by decide +kernel
theorem dksX0_share_1 : cX0_share.data.toList.drop 24 = dktX0_share_1 := dk_seg dksX0_share_0 24 rfl rfl
theorem dksX0_share_2 : cX0_share.data.toList.drop 48 = dktX0_share_2 := dk_seg dksX0_share_1 24 rfl rfl
theorem dksX0_share_3 : cX0_share.data.toList.drop 70 = dktX0_share_3 := dk_seg dksX0_share_2 22 rfl rfl
theorem dX0_share_0 : decode cX0_share 0 = .ok (.aload_n 0, 1) := dk_42 (dk_at dksX0_share_0 0 rfl rfl)
theorem dX0_share_1 : decode cX0_share 1 = .ok (.iload_n 1, 1) := dk_27 (dk_at dksX0_share_0 1 rfl rfl)
theorem dX0_share_2 : decode cX0_share 2 = .ok (.i2l, 1) := dk_133 (dk_at dksX0_share_0 2 rfl rfl)
theorem dX0_share_3 : decode cX0_share 3 = .ok (.invokevirtual 142, 3) := dk_182 0 142 (dk_at dksX0_share_0 3 rfl rfl)
theorem dX0_share_6 : decode cX0_share 6 = .ok (.ifCond .ne 6, 3) := dk_154 0 6 (dk_at dksX0_share_0 6 rfl rfl)
theorem dX0_share_9 : decode cX0_share 9 = .ok (.bipush (-2), 2) := dk_16 254 (dk_at dksX0_share_0 9 rfl rfl)
theorem dX0_share_11 : decode cX0_share 11 = .ok (.ireturn, 1) := dk_172 (dk_at dksX0_share_0 11 rfl rfl)
theorem dX0_share_12 : decode cX0_share 12 = .ok (.iload_n 1, 1) := dk_27 (dk_at dksX0_share_0 12 rfl rfl)
theorem dX0_share_13 : decode cX0_share 13 = .ok (.aload_n 0, 1) := dk_42 (dk_at dksX0_share_0 13 rfl rfl)
theorem dX0_share_14 : decode cX0_share 14 = .ok (.invokevirtual 140, 3) := dk_182 0 140 (dk_at dksX0_share_0 14 rfl rfl)
theorem dX0_share_17 : decode cX0_share 17 = .ok (.iconst 1, 1) := dk_4 (dk_at dksX0_share_0 17 rfl rfl)
theorem dX0_share_18 : decode cX0_share 18 = .ok (.isub, 1) := dk_100 (dk_at dksX0_share_0 18 rfl rfl)
theorem dX0_share_19 : decode cX0_share 19 = .ok (.if_icmp .ge 9, 3) := dk_162 0 9 (dk_at dksX0_share_0 19 rfl rfl)
theorem dX0_share_22 : decode cX0_share 22 = .ok (.aload_n 0, 1) := dk_42 (dk_at dksX0_share_0 22 rfl rfl)
theorem dX0_share_23 : decode cX0_share 23 = .ok (.iload_n 1, 1) := dk_27 (dk_at dksX0_share_0 23 rfl rfl)
theorem dX0_share_24 : decode cX0_share 24 = .ok (.invokevirtual 401, 3) := dk_182 1 145 (dk_at dksX0_share_1 0 rfl rfl)
theorem dX0_share_27 : decode cX0_share 27 = .ok (.ireturn, 1) := dk_172 (dk_at dksX0_share_1 3 rfl rfl)
theorem dX0_share_28 : decode cX0_share 28 = .ok (.iconst 0, 1) := dk_3 (dk_at dksX0_share_1 4 rfl rfl)
theorem dX0_share_29 : decode cX0_share 29 = .ok (.istore_n 2, 1) := dk_61 (dk_at dksX0_share_1 5 rfl rfl)
theorem dX0_share_30 : decode cX0_share 30 = .ok (.iconst 0, 1) := dk_3 (dk_at dksX0_share_1 6 rfl rfl)
theorem dX0_share_31 : decode cX0_share 31 = .ok (.istore_n 3, 1) := dk_62 (dk_at dksX0_share_1 7 rfl rfl)
theorem dX0_share_32 : decode cX0_share 32 = .ok (.iload_n 3, 1) := dk_29 (dk_at dksX0_share_1 8 rfl rfl)
theorem dX0_share_33 : decode cX0_share 33 = .ok (.aload_n 0, 1) := dk_42 (dk_at dksX0_share_1 9 rfl rfl)
theorem dX0_share_34 : decode cX0_share 34 = .ok (.invokevirtual 140, 3) := dk_182 0 140 (dk_at dksX0_share_1 10 rfl rfl)
theorem dX0_share_37 : decode cX0_share 37 = .ok (.if_icmp .ge 46, 3) := dk_162 0 46 (dk_at dksX0_share_1 13 rfl rfl)
theorem dX0_share_40 : decode cX0_share 40 = .ok (.iload_n 2, 1) := dk_28 (dk_at dksX0_share_1 16 rfl rfl)
theorem dX0_share_41 : decode cX0_share 41 = .ok (.aload_n 0, 1) := dk_42 (dk_at dksX0_share_1 17 rfl rfl)
theorem dX0_share_42 : decode cX0_share 42 = .ok (.getfield 41, 3) := dk_180 0 41 (dk_at dksX0_share_1 18 rfl rfl)
theorem dX0_share_45 : decode cX0_share 45 = .ok (.getfield 130, 3) := dk_180 0 130 (dk_at dksX0_share_1 21 rfl rfl)
theorem dX0_share_48 : decode cX0_share 48 = .ok (.iload_n 3, 1) := dk_29 (dk_at dksX0_share_2 0 rfl rfl)
theorem dX0_share_49 : decode cX0_share 49 = .ok (.invokeinterface 161 2, 5) := by decide +kernel
theorem dX0_share_54 : decode cX0_share 54 = .ok (.checkcast 165, 3) := dk_192 0 165 (dk_at dksX0_share_2 6 rfl rfl)
theorem dX0_share_57 : decode cX0_share 57 = .ok (.getfield 179, 3) := dk_180 0 179 (dk_at dksX0_share_2 9 rfl rfl)
theorem dX0_share_60 : decode cX0_share 60 = .ok (.iload_n 3, 1) := dk_29 (dk_at dksX0_share_2 12 rfl rfl)
theorem dX0_share_61 : decode cX0_share 61 = .ok (.iload_n 1, 1) := dk_27 (dk_at dksX0_share_2 13 rfl rfl)
theorem dX0_share_62 : decode cX0_share 62 = .ok (.if_icmp .ge 11, 3) := dk_162 0 11 (dk_at dksX0_share_2 14 rfl rfl)
theorem dX0_share_65 : decode cX0_share 65 = .ok (.aload_n 0, 1) := dk_42 (dk_at dksX0_share_2 17 rfl rfl)
theorem dX0_share_66 : decode cX0_share 66 = .ok (.iload_n 3, 1) := dk_29 (dk_at dksX0_share_2 18 rfl rfl)
theorem dX0_share_67 : decode cX0_share 67 = .ok (.invokevirtual 401, 3) := dk_182 1 145 (dk_at dksX0_share_2 19 rfl rfl)
theorem dX0_share_70 : decode cX0_share 70 = .ok (.goto 4, 3) := dk_167 0 4 (dk_at dksX0_share_3 0 rfl rfl)
theorem dX0_share_73 : decode cX0_share 73 = .ok (.iconst 0, 1) := dk_3 (dk_at dksX0_share_3 3 rfl rfl)
theorem dX0_share_74 : decode cX0_share 74 = .ok (.isub, 1) := dk_100 (dk_at dksX0_share_3 4 rfl rfl)
theorem dX0_share_75 : decode cX0_share 75 = .ok (.iadd, 1) := dk_96 (dk_at dksX0_share_3 5 rfl rfl)
theorem dX0_share_76 : decode cX0_share 76 = .ok (.istore_n 2, 1) := dk_61 (dk_at dksX0_share_3 6 rfl rfl)
theorem dX0_share_77 : decode cX0_share 77 = .ok (.iinc 3 1, 3) := dk_132 3 1 (dk_at dksX0_share_3 7 rfl rfl)
theorem dX0_share_80 : decode cX0_share 80 = .ok (.goto (-48), 3) := dk_167 255 208 (dk_at dksX0_share_3 10 rfl rfl)
theorem dX0_share_83 : decode cX0_share 83 = .ok (.iload_n 2, 1) := dk_28 (dk_at dksX0_share_3 13 rfl rfl)
theorem dX0_share_84 : decode cX0_share 84 = .ok (.ireturn, 1) := dk_172 (dk_at dksX0_share_3 14 rfl rfl)
abbrev cX0_shareOf : ByteArray := prog_1_method_64_code
def yX0_shareOf : MethodName := ⟨RX0, "shareOf", "(I)I"⟩
def dkwX0_shareOf_1 : List UInt8 := [192, 0, 165, 180, 0, 179, 42, 182, 0, 140, 29, 100, 108, 96, 61, 132, 3, 1, 167, 255, 219, 28, 172]
abbrev dktX0_shareOf_1 : List UInt8 := dkwX0_shareOf_1 ++ []
def dkwX0_shareOf_0 : List UInt8 := [3, 61, 3, 62, 29, 27, 163, 0, 38, 28, 42, 180, 0, 41, 180, 0, 130, 29, 185, 0, 161, 2, 0]
abbrev dktX0_shareOf_0 : List UInt8 := dkwX0_shareOf_0 ++ dktX0_shareOf_1
theorem dksX0_shareOf_0 : cX0_shareOf.data.toList.drop 0 = dktX0_shareOf_0 := by decide +kernel
theorem dksX0_shareOf_1 : cX0_shareOf.data.toList.drop 23 = dktX0_shareOf_1 := dk_seg dksX0_shareOf_0 23 rfl rfl
theorem dX0_shareOf_0 : decode cX0_shareOf 0 = .ok (.iconst 0, 1) := dk_3 (dk_at dksX0_shareOf_0 0 rfl rfl)
theorem dX0_shareOf_1 : decode cX0_shareOf 1 = .ok (.istore_n 2, 1) := dk_61 (dk_at dksX0_shareOf_0 1 rfl rfl)
theorem dX0_shareOf_2 : decode cX0_shareOf 2 = .ok (.iconst 0, 1) := dk_3 (dk_at dksX0_shareOf_0 2 rfl rfl)
theorem dX0_shareOf_3 : decode cX0_shareOf 3 = .ok (.istore_n 3, 1) := dk_62 (dk_at dksX0_shareOf_0 3 rfl rfl)
theorem dX0_shareOf_4 : decode cX0_shareOf 4 = .ok (.iload_n 3, 1) := dk_29 (dk_at dksX0_shareOf_0 4 rfl rfl)
theorem dX0_shareOf_5 : decode cX0_shareOf 5 = .ok (.iload_n 1, 1) := dk_27 (dk_at dksX0_shareOf_0 5 rfl rfl)
theorem dX0_shareOf_6 : decode cX0_shareOf 6 = .ok (.if_icmp .gt 38, 3) := dk_163 0 38 (dk_at dksX0_shareOf_0 6 rfl rfl)
theorem dX0_shareOf_9 : decode cX0_shareOf 9 = .ok (.iload_n 2, 1) := dk_28 (dk_at dksX0_shareOf_0 9 rfl rfl)
theorem dX0_shareOf_10 : decode cX0_shareOf 10 = .ok (.aload_n 0, 1) := dk_42 (dk_at dksX0_shareOf_0 10 rfl rfl)
theorem dX0_shareOf_11 : decode cX0_shareOf 11 = .ok (.getfield 41, 3) := dk_180 0 41 (dk_at dksX0_shareOf_0 11 rfl rfl)
theorem dX0_shareOf_14 : decode cX0_shareOf 14 = .ok (.getfield 130, 3) := dk_180 0 130 (dk_at dksX0_shareOf_0 14 rfl rfl)
theorem dX0_shareOf_17 : decode cX0_shareOf 17 = .ok (.iload_n 3, 1) := dk_29 (dk_at dksX0_shareOf_0 17 rfl rfl)
theorem dX0_shareOf_18 : decode cX0_shareOf 18 = .ok (.invokeinterface 161 2, 5) := by decide +kernel
theorem dX0_shareOf_23 : decode cX0_shareOf 23 = .ok (.checkcast 165, 3) := dk_192 0 165 (dk_at dksX0_shareOf_1 0 rfl rfl)
theorem dX0_shareOf_26 : decode cX0_shareOf 26 = .ok (.getfield 179, 3) := dk_180 0 179 (dk_at dksX0_shareOf_1 3 rfl rfl)
theorem dX0_shareOf_29 : decode cX0_shareOf 29 = .ok (.aload_n 0, 1) := dk_42 (dk_at dksX0_shareOf_1 6 rfl rfl)
theorem dX0_shareOf_30 : decode cX0_shareOf 30 = .ok (.invokevirtual 140, 3) := dk_182 0 140 (dk_at dksX0_shareOf_1 7 rfl rfl)
theorem dX0_shareOf_33 : decode cX0_shareOf 33 = .ok (.iload_n 3, 1) := dk_29 (dk_at dksX0_shareOf_1 10 rfl rfl)
theorem dX0_shareOf_34 : decode cX0_shareOf 34 = .ok (.isub, 1) := dk_100 (dk_at dksX0_shareOf_1 11 rfl rfl)
theorem dX0_shareOf_35 : decode cX0_shareOf 35 = .ok (.idiv, 1) := dk_108 (dk_at dksX0_shareOf_1 12 rfl rfl)
theorem dX0_shareOf_36 : decode cX0_shareOf 36 = .ok (.iadd, 1) := dk_96 (dk_at dksX0_shareOf_1 13 rfl rfl)
theorem dX0_shareOf_37 : decode cX0_shareOf 37 = .ok (.istore_n 2, 1) := dk_61 (dk_at dksX0_shareOf_1 14 rfl rfl)
theorem dX0_shareOf_38 : decode cX0_shareOf 38 = .ok (.iinc 3 1, 3) := dk_132 3 1 (dk_at dksX0_shareOf_1 15 rfl rfl)
theorem dX0_shareOf_41 : decode cX0_shareOf 41 = .ok (.goto (-37), 3) := dk_167 255 219 (dk_at dksX0_shareOf_1 18 rfl rfl)
theorem dX0_shareOf_44 : decode cX0_shareOf 44 = .ok (.iload_n 2, 1) := dk_28 (dk_at dksX0_shareOf_1 21 rfl rfl)
theorem dX0_shareOf_45 : decode cX0_shareOf 45 = .ok (.ireturn, 1) := dk_172 (dk_at dksX0_shareOf_1 22 rfl rfl)
abbrev cX0_enough : ByteArray := prog_1_method_67_code
def yX0_enough : MethodName := ⟨RX0, "enough", "(I)I"⟩
def dkwX0_enough_2 : List UInt8 := [172, 132, 2, 1, 167, 255, 219, 2, 172]
abbrev dktX0_enough_2 : List UInt8 := dkwX0_enough_2 ++ []
def dkwX0_enough_1 : List UInt8 := [185, 0, 161, 2, 0, 192, 0, 165, 180, 0, 167, 163, 0, 20, 42, 27, 28, 182, 1, 154, 154, 0, 5, 28]
abbrev dktX0_enough_1 : List UInt8 := dkwX0_enough_1 ++ dktX0_enough_2
def dkwX0_enough_0 : List UInt8 := [42, 27, 133, 182, 0, 142, 154, 0, 6, 16, 254, 172, 3, 61, 28, 42, 180, 0, 41, 180, 0, 130, 27]
abbrev dktX0_enough_0 : List UInt8 := dkwX0_enough_0 ++ dktX0_enough_1
theorem dksX0_enough_0 : cX0_enough.data.toList.drop 0 = dktX0_enough_0 := by decide +kernel
theorem dksX0_enough_1 : cX0_enough.data.toList.drop 23 = dktX0_enough_1 := dk_seg dksX0_enough_0 23 rfl rfl
theorem dksX0_enough_2 : cX0_enough.data.toList.drop 47 = dktX0_enough_2 := dk_seg dksX0_enough_1 24 rfl rfl
theorem dX0_enough_0 : decode cX0_enough 0 = .ok (.aload_n 0, 1) := dk_42 (dk_at dksX0_enough_0 0 rfl rfl)
theorem dX0_enough_1 : decode cX0_enough 1 = .ok (.iload_n 1, 1) := dk_27 (dk_at dksX0_enough_0 1 rfl rfl)
theorem dX0_enough_2 : decode cX0_enough 2 = .ok (.i2l, 1) := dk_133 (dk_at dksX0_enough_0 2 rfl rfl)
theorem dX0_enough_3 : decode cX0_enough 3 = .ok (.invokevirtual 142, 3) := dk_182 0 142 (dk_at dksX0_enough_0 3 rfl rfl)
theorem dX0_enough_6 : decode cX0_enough 6 = .ok (.ifCond .ne 6, 3) := dk_154 0 6 (dk_at dksX0_enough_0 6 rfl rfl)
theorem dX0_enough_9 : decode cX0_enough 9 = .ok (.bipush (-2), 2) := dk_16 254 (dk_at dksX0_enough_0 9 rfl rfl)
theorem dX0_enough_11 : decode cX0_enough 11 = .ok (.ireturn, 1) := dk_172 (dk_at dksX0_enough_0 11 rfl rfl)
theorem dX0_enough_12 : decode cX0_enough 12 = .ok (.iconst 0, 1) := dk_3 (dk_at dksX0_enough_0 12 rfl rfl)
theorem dX0_enough_13 : decode cX0_enough 13 = .ok (.istore_n 2, 1) := dk_61 (dk_at dksX0_enough_0 13 rfl rfl)
theorem dX0_enough_14 : decode cX0_enough 14 = .ok (.iload_n 2, 1) := dk_28 (dk_at dksX0_enough_0 14 rfl rfl)
theorem dX0_enough_15 : decode cX0_enough 15 = .ok (.aload_n 0, 1) := dk_42 (dk_at dksX0_enough_0 15 rfl rfl)
theorem dX0_enough_16 : decode cX0_enough 16 = .ok (.getfield 41, 3) := dk_180 0 41 (dk_at dksX0_enough_0 16 rfl rfl)
theorem dX0_enough_19 : decode cX0_enough 19 = .ok (.getfield 130, 3) := dk_180 0 130 (dk_at dksX0_enough_0 19 rfl rfl)
theorem dX0_enough_22 : decode cX0_enough 22 = .ok (.iload_n 1, 1) := dk_27 (dk_at dksX0_enough_0 22 rfl rfl)
theorem dX0_enough_23 : decode cX0_enough 23 = .ok (.invokeinterface 161 2, 5) := by decide +kernel
theorem dX0_enough_28 : decode cX0_enough 28 = .ok (.checkcast 165, 3) := dk_192 0 165 (dk_at dksX0_enough_1 5 rfl rfl)
theorem dX0_enough_31 : decode cX0_enough 31 = .ok (.getfield 167, 3) := dk_180 0 167 (dk_at dksX0_enough_1 8 rfl rfl)
theorem dX0_enough_34 : decode cX0_enough 34 = .ok (.if_icmp .gt 20, 3) := dk_163 0 20 (dk_at dksX0_enough_1 11 rfl rfl)
theorem dX0_enough_37 : decode cX0_enough 37 = .ok (.aload_n 0, 1) := dk_42 (dk_at dksX0_enough_1 14 rfl rfl)
theorem dX0_enough_38 : decode cX0_enough 38 = .ok (.iload_n 1, 1) := dk_27 (dk_at dksX0_enough_1 15 rfl rfl)
theorem dX0_enough_39 : decode cX0_enough 39 = .ok (.iload_n 2, 1) := dk_28 (dk_at dksX0_enough_1 16 rfl rfl)
theorem dX0_enough_40 : decode cX0_enough 40 = .ok (.invokevirtual 410, 3) := dk_182 1 154 (dk_at dksX0_enough_1 17 rfl rfl)
theorem dX0_enough_43 : decode cX0_enough 43 = .ok (.ifCond .ne 5, 3) := dk_154 0 5 (dk_at dksX0_enough_1 20 rfl rfl)
theorem dX0_enough_46 : decode cX0_enough 46 = .ok (.iload_n 2, 1) := dk_28 (dk_at dksX0_enough_1 23 rfl rfl)
theorem dX0_enough_47 : decode cX0_enough 47 = .ok (.ireturn, 1) := dk_172 (dk_at dksX0_enough_2 0 rfl rfl)
theorem dX0_enough_48 : decode cX0_enough 48 = .ok (.iinc 2 1, 3) := dk_132 2 1 (dk_at dksX0_enough_2 1 rfl rfl)
theorem dX0_enough_51 : decode cX0_enough 51 = .ok (.goto (-37), 3) := dk_167 255 219 (dk_at dksX0_enough_2 4 rfl rfl)
theorem dX0_enough_54 : decode cX0_enough 54 = .ok (.iconst (-1), 1) := dk_2 (dk_at dksX0_enough_2 7 rfl rfl)
theorem dX0_enough_55 : decode cX0_enough 55 = .ok (.ireturn, 1) := dk_172 (dk_at dksX0_enough_2 8 rfl rfl)
abbrev cX0_dryBy : ByteArray := prog_1_method_66_code
def yX0_dryBy : MethodName := ⟨RX0, "dryBy", "(II)I"⟩
def dkwX0_dryBy_4 : List UInt8 := [180, 0, 223, 21, 4, 46, 167, 0, 4, 3, 96, 62, 132, 4, 1, 167, 255, 195, 29, 172]
abbrev dktX0_dryBy_4 : List UInt8 := dkwX0_dryBy_4 ++ []
def dkwX0_dryBy_3 : List UInt8 := [180, 0, 215, 21, 4, 185, 0, 161, 2, 0, 192, 1, 134, 180, 1, 136, 27, 160, 0, 16, 42, 180, 0, 52]
abbrev dktX0_dryBy_3 : List UInt8 := dkwX0_dryBy_3 ++ dktX0_dryBy_4
def dkwX0_dryBy_2 : List UInt8 := [21, 4, 42, 180, 0, 41, 180, 0, 215, 185, 0, 134, 1, 0, 162, 0, 50, 29, 42, 180, 0, 41]
abbrev dktX0_dryBy_2 : List UInt8 := dkwX0_dryBy_2 ++ dktX0_dryBy_3
def dkwX0_dryBy_1 : List UInt8 := [181, 1, 148, 42, 180, 0, 52, 28, 181, 1, 151, 42, 180, 0, 52, 182, 0, 155, 87, 3, 62, 3, 54, 4]
abbrev dktX0_dryBy_1 : List UInt8 := dkwX0_dryBy_1 ++ dktX0_dryBy_2
def dkwX0_dryBy_0 : List UInt8 := [42, 180, 0, 52, 42, 180, 0, 41, 42, 180, 0, 45, 42, 180, 0, 109, 182, 0, 152, 42, 180, 0, 52, 27]
abbrev dktX0_dryBy_0 : List UInt8 := dkwX0_dryBy_0 ++ dktX0_dryBy_1
theorem dksX0_dryBy_0 : cX0_dryBy.data.toList.drop 0 = dktX0_dryBy_0 := by decide +kernel
theorem dksX0_dryBy_1 : cX0_dryBy.data.toList.drop 24 = dktX0_dryBy_1 := dk_seg dksX0_dryBy_0 24 rfl rfl
theorem dksX0_dryBy_2 : cX0_dryBy.data.toList.drop 48 = dktX0_dryBy_2 := dk_seg dksX0_dryBy_1 24 rfl rfl
theorem dksX0_dryBy_3 : cX0_dryBy.data.toList.drop 70 = dktX0_dryBy_3 := dk_seg dksX0_dryBy_2 22 rfl rfl
theorem dksX0_dryBy_4 : cX0_dryBy.data.toList.drop 94 = dktX0_dryBy_4 := dk_seg dksX0_dryBy_3 24 rfl rfl
theorem dX0_dryBy_0 : decode cX0_dryBy 0 = .ok (.aload_n 0, 1) := dk_42 (dk_at dksX0_dryBy_0 0 rfl rfl)
theorem dX0_dryBy_1 : decode cX0_dryBy 1 = .ok (.getfield 52, 3) := dk_180 0 52 (dk_at dksX0_dryBy_0 1 rfl rfl)
theorem dX0_dryBy_4 : decode cX0_dryBy 4 = .ok (.aload_n 0, 1) := dk_42 (dk_at dksX0_dryBy_0 4 rfl rfl)
theorem dX0_dryBy_5 : decode cX0_dryBy 5 = .ok (.getfield 41, 3) := dk_180 0 41 (dk_at dksX0_dryBy_0 5 rfl rfl)
theorem dX0_dryBy_8 : decode cX0_dryBy 8 = .ok (.aload_n 0, 1) := dk_42 (dk_at dksX0_dryBy_0 8 rfl rfl)
theorem dX0_dryBy_9 : decode cX0_dryBy 9 = .ok (.getfield 45, 3) := dk_180 0 45 (dk_at dksX0_dryBy_0 9 rfl rfl)
theorem dX0_dryBy_12 : decode cX0_dryBy 12 = .ok (.aload_n 0, 1) := dk_42 (dk_at dksX0_dryBy_0 12 rfl rfl)
theorem dX0_dryBy_13 : decode cX0_dryBy 13 = .ok (.getfield 109, 3) := dk_180 0 109 (dk_at dksX0_dryBy_0 13 rfl rfl)
theorem dX0_dryBy_16 : decode cX0_dryBy 16 = .ok (.invokevirtual 152, 3) := dk_182 0 152 (dk_at dksX0_dryBy_0 16 rfl rfl)
theorem dX0_dryBy_19 : decode cX0_dryBy 19 = .ok (.aload_n 0, 1) := dk_42 (dk_at dksX0_dryBy_0 19 rfl rfl)
theorem dX0_dryBy_20 : decode cX0_dryBy 20 = .ok (.getfield 52, 3) := dk_180 0 52 (dk_at dksX0_dryBy_0 20 rfl rfl)
theorem dX0_dryBy_23 : decode cX0_dryBy 23 = .ok (.iload_n 1, 1) := dk_27 (dk_at dksX0_dryBy_0 23 rfl rfl)
theorem dX0_dryBy_24 : decode cX0_dryBy 24 = .ok (.putfield 404, 3) := dk_181 1 148 (dk_at dksX0_dryBy_1 0 rfl rfl)
theorem dX0_dryBy_27 : decode cX0_dryBy 27 = .ok (.aload_n 0, 1) := dk_42 (dk_at dksX0_dryBy_1 3 rfl rfl)
theorem dX0_dryBy_28 : decode cX0_dryBy 28 = .ok (.getfield 52, 3) := dk_180 0 52 (dk_at dksX0_dryBy_1 4 rfl rfl)
theorem dX0_dryBy_31 : decode cX0_dryBy 31 = .ok (.iload_n 2, 1) := dk_28 (dk_at dksX0_dryBy_1 7 rfl rfl)
theorem dX0_dryBy_32 : decode cX0_dryBy 32 = .ok (.putfield 407, 3) := dk_181 1 151 (dk_at dksX0_dryBy_1 8 rfl rfl)
theorem dX0_dryBy_35 : decode cX0_dryBy 35 = .ok (.aload_n 0, 1) := dk_42 (dk_at dksX0_dryBy_1 11 rfl rfl)
theorem dX0_dryBy_36 : decode cX0_dryBy 36 = .ok (.getfield 52, 3) := dk_180 0 52 (dk_at dksX0_dryBy_1 12 rfl rfl)
theorem dX0_dryBy_39 : decode cX0_dryBy 39 = .ok (.invokevirtual 155, 3) := dk_182 0 155 (dk_at dksX0_dryBy_1 15 rfl rfl)
theorem dX0_dryBy_42 : decode cX0_dryBy 42 = .ok (.pop, 1) := dk_87 (dk_at dksX0_dryBy_1 18 rfl rfl)
theorem dX0_dryBy_43 : decode cX0_dryBy 43 = .ok (.iconst 0, 1) := dk_3 (dk_at dksX0_dryBy_1 19 rfl rfl)
theorem dX0_dryBy_44 : decode cX0_dryBy 44 = .ok (.istore_n 3, 1) := dk_62 (dk_at dksX0_dryBy_1 20 rfl rfl)
theorem dX0_dryBy_45 : decode cX0_dryBy 45 = .ok (.iconst 0, 1) := dk_3 (dk_at dksX0_dryBy_1 21 rfl rfl)
theorem dX0_dryBy_46 : decode cX0_dryBy 46 = .ok (.istore 4, 2) := dk_54 4 (dk_at dksX0_dryBy_1 22 rfl rfl)
theorem dX0_dryBy_48 : decode cX0_dryBy 48 = .ok (.iload 4, 2) := dk_21 4 (dk_at dksX0_dryBy_2 0 rfl rfl)
theorem dX0_dryBy_50 : decode cX0_dryBy 50 = .ok (.aload_n 0, 1) := dk_42 (dk_at dksX0_dryBy_2 2 rfl rfl)
theorem dX0_dryBy_51 : decode cX0_dryBy 51 = .ok (.getfield 41, 3) := dk_180 0 41 (dk_at dksX0_dryBy_2 3 rfl rfl)
theorem dX0_dryBy_54 : decode cX0_dryBy 54 = .ok (.getfield 215, 3) := dk_180 0 215 (dk_at dksX0_dryBy_2 6 rfl rfl)
theorem dX0_dryBy_57 : decode cX0_dryBy 57 = .ok (.invokeinterface 134 1, 5) := by decide +kernel
theorem dX0_dryBy_62 : decode cX0_dryBy 62 = .ok (.if_icmp .ge 50, 3) := dk_162 0 50 (dk_at dksX0_dryBy_2 14 rfl rfl)
theorem dX0_dryBy_65 : decode cX0_dryBy 65 = .ok (.iload_n 3, 1) := dk_29 (dk_at dksX0_dryBy_2 17 rfl rfl)
theorem dX0_dryBy_66 : decode cX0_dryBy 66 = .ok (.aload_n 0, 1) := dk_42 (dk_at dksX0_dryBy_2 18 rfl rfl)
theorem dX0_dryBy_67 : decode cX0_dryBy 67 = .ok (.getfield 41, 3) := dk_180 0 41 (dk_at dksX0_dryBy_2 19 rfl rfl)
theorem dX0_dryBy_70 : decode cX0_dryBy 70 = .ok (.getfield 215, 3) := dk_180 0 215 (dk_at dksX0_dryBy_3 0 rfl rfl)
theorem dX0_dryBy_73 : decode cX0_dryBy 73 = .ok (.iload 4, 2) := dk_21 4 (dk_at dksX0_dryBy_3 3 rfl rfl)
theorem dX0_dryBy_75 : decode cX0_dryBy 75 = .ok (.invokeinterface 161 2, 5) := by decide +kernel
theorem dX0_dryBy_80 : decode cX0_dryBy 80 = .ok (.checkcast 390, 3) := dk_192 1 134 (dk_at dksX0_dryBy_3 10 rfl rfl)
theorem dX0_dryBy_83 : decode cX0_dryBy 83 = .ok (.getfield 392, 3) := dk_180 1 136 (dk_at dksX0_dryBy_3 13 rfl rfl)
theorem dX0_dryBy_86 : decode cX0_dryBy 86 = .ok (.iload_n 1, 1) := dk_27 (dk_at dksX0_dryBy_3 16 rfl rfl)
theorem dX0_dryBy_87 : decode cX0_dryBy 87 = .ok (.if_icmp .ne 16, 3) := dk_160 0 16 (dk_at dksX0_dryBy_3 17 rfl rfl)
theorem dX0_dryBy_90 : decode cX0_dryBy 90 = .ok (.aload_n 0, 1) := dk_42 (dk_at dksX0_dryBy_3 20 rfl rfl)
theorem dX0_dryBy_91 : decode cX0_dryBy 91 = .ok (.getfield 52, 3) := dk_180 0 52 (dk_at dksX0_dryBy_3 21 rfl rfl)
theorem dX0_dryBy_94 : decode cX0_dryBy 94 = .ok (.getfield 223, 3) := dk_180 0 223 (dk_at dksX0_dryBy_4 0 rfl rfl)
theorem dX0_dryBy_97 : decode cX0_dryBy 97 = .ok (.iload 4, 2) := dk_21 4 (dk_at dksX0_dryBy_4 3 rfl rfl)
theorem dX0_dryBy_99 : decode cX0_dryBy 99 = .ok (.iaload, 1) := dk_46 (dk_at dksX0_dryBy_4 5 rfl rfl)
theorem dX0_dryBy_100 : decode cX0_dryBy 100 = .ok (.goto 4, 3) := dk_167 0 4 (dk_at dksX0_dryBy_4 6 rfl rfl)
theorem dX0_dryBy_103 : decode cX0_dryBy 103 = .ok (.iconst 0, 1) := dk_3 (dk_at dksX0_dryBy_4 9 rfl rfl)
theorem dX0_dryBy_104 : decode cX0_dryBy 104 = .ok (.iadd, 1) := dk_96 (dk_at dksX0_dryBy_4 10 rfl rfl)
theorem dX0_dryBy_105 : decode cX0_dryBy 105 = .ok (.istore_n 3, 1) := dk_62 (dk_at dksX0_dryBy_4 11 rfl rfl)
theorem dX0_dryBy_106 : decode cX0_dryBy 106 = .ok (.iinc 4 1, 3) := dk_132 4 1 (dk_at dksX0_dryBy_4 12 rfl rfl)
theorem dX0_dryBy_109 : decode cX0_dryBy 109 = .ok (.goto (-61), 3) := dk_167 255 195 (dk_at dksX0_dryBy_4 15 rfl rfl)
theorem dX0_dryBy_112 : decode cX0_dryBy 112 = .ok (.iload_n 3, 1) := dk_29 (dk_at dksX0_dryBy_4 18 rfl rfl)
theorem dX0_dryBy_113 : decode cX0_dryBy 113 = .ok (.ireturn, 1) := dk_172 (dk_at dksX0_dryBy_4 19 rfl rfl)
abbrev cX0_year : ByteArray := prog_1_method_70_code
def yX0_year : MethodName := ⟨RX0, "year", "(II)I"⟩
def dkwX0_year_2 : List UInt8 := [160, 0, 13, 42, 180, 0, 52, 182, 1, 19, 167, 0, 10, 42, 180, 0, 52, 180, 1, 33, 172]
abbrev dktX0_year_2 : List UInt8 := dkwX0_year_2 ++ []
def dkwX0_year_1 : List UInt8 := [27, 133, 182, 1, 170, 87, 28, 154, 0, 13, 42, 180, 0, 52, 182, 0, 233, 167, 0, 25, 28, 4]
abbrev dktX0_year_1 : List UInt8 := dkwX0_year_1 ++ dktX0_year_2
def dkwX0_year_0 : List UInt8 := [42, 27, 182, 1, 167, 153, 0, 15, 28, 133, 9, 20, 0, 218, 184, 0, 5, 154, 0, 6, 16, 254, 172, 42]
abbrev dktX0_year_0 : List UInt8 := dkwX0_year_0 ++ dktX0_year_1
theorem dksX0_year_0 : cX0_year.data.toList.drop 0 = dktX0_year_0 := by decide +kernel
theorem dksX0_year_1 : cX0_year.data.toList.drop 24 = dktX0_year_1 := dk_seg dksX0_year_0 24 rfl rfl
theorem dksX0_year_2 : cX0_year.data.toList.drop 46 = dktX0_year_2 := dk_seg dksX0_year_1 22 rfl rfl
theorem dX0_year_0 : decode cX0_year 0 = .ok (.aload_n 0, 1) := dk_42 (dk_at dksX0_year_0 0 rfl rfl)
theorem dX0_year_1 : decode cX0_year 1 = .ok (.iload_n 1, 1) := dk_27 (dk_at dksX0_year_0 1 rfl rfl)
theorem dX0_year_2 : decode cX0_year 2 = .ok (.invokevirtual 423, 3) := dk_182 1 167 (dk_at dksX0_year_0 2 rfl rfl)
theorem dX0_year_5 : decode cX0_year 5 = .ok (.ifCond .eq 15, 3) := dk_153 0 15 (dk_at dksX0_year_0 5 rfl rfl)
theorem dX0_year_8 : decode cX0_year 8 = .ok (.iload_n 2, 1) := dk_28 (dk_at dksX0_year_0 8 rfl rfl)
theorem dX0_year_9 : decode cX0_year 9 = .ok (.i2l, 1) := dk_133 (dk_at dksX0_year_0 9 rfl rfl)
theorem dX0_year_10 : decode cX0_year 10 = .ok (.lconst 0, 1) := dk_9 (dk_at dksX0_year_0 10 rfl rfl)
theorem dX0_year_11 : decode cX0_year 11 = .ok (.ldc2_w 218, 3) := dk_20 0 218 (dk_at dksX0_year_0 11 rfl rfl)
theorem dX0_year_14 : decode cX0_year 14 = .ok (.invokestatic 5, 3) := dk_184 0 5 (dk_at dksX0_year_0 14 rfl rfl)
theorem dX0_year_17 : decode cX0_year 17 = .ok (.ifCond .ne 6, 3) := dk_154 0 6 (dk_at dksX0_year_0 17 rfl rfl)
theorem dX0_year_20 : decode cX0_year 20 = .ok (.bipush (-2), 2) := dk_16 254 (dk_at dksX0_year_0 20 rfl rfl)
theorem dX0_year_22 : decode cX0_year 22 = .ok (.ireturn, 1) := dk_172 (dk_at dksX0_year_0 22 rfl rfl)
theorem dX0_year_23 : decode cX0_year 23 = .ok (.aload_n 0, 1) := dk_42 (dk_at dksX0_year_0 23 rfl rfl)
theorem dX0_year_24 : decode cX0_year 24 = .ok (.iload_n 1, 1) := dk_27 (dk_at dksX0_year_1 0 rfl rfl)
theorem dX0_year_25 : decode cX0_year 25 = .ok (.i2l, 1) := dk_133 (dk_at dksX0_year_1 1 rfl rfl)
theorem dX0_year_26 : decode cX0_year 26 = .ok (.invokevirtual 426, 3) := dk_182 1 170 (dk_at dksX0_year_1 2 rfl rfl)
theorem dX0_year_29 : decode cX0_year 29 = .ok (.pop, 1) := dk_87 (dk_at dksX0_year_1 5 rfl rfl)
theorem dX0_year_30 : decode cX0_year 30 = .ok (.iload_n 2, 1) := dk_28 (dk_at dksX0_year_1 6 rfl rfl)
theorem dX0_year_31 : decode cX0_year 31 = .ok (.ifCond .ne 13, 3) := dk_154 0 13 (dk_at dksX0_year_1 7 rfl rfl)
theorem dX0_year_34 : decode cX0_year 34 = .ok (.aload_n 0, 1) := dk_42 (dk_at dksX0_year_1 10 rfl rfl)
theorem dX0_year_35 : decode cX0_year 35 = .ok (.getfield 52, 3) := dk_180 0 52 (dk_at dksX0_year_1 11 rfl rfl)
theorem dX0_year_38 : decode cX0_year 38 = .ok (.invokevirtual 233, 3) := dk_182 0 233 (dk_at dksX0_year_1 14 rfl rfl)
theorem dX0_year_41 : decode cX0_year 41 = .ok (.goto 25, 3) := dk_167 0 25 (dk_at dksX0_year_1 17 rfl rfl)
theorem dX0_year_44 : decode cX0_year 44 = .ok (.iload_n 2, 1) := dk_28 (dk_at dksX0_year_1 20 rfl rfl)
theorem dX0_year_45 : decode cX0_year 45 = .ok (.iconst 1, 1) := dk_4 (dk_at dksX0_year_1 21 rfl rfl)
theorem dX0_year_46 : decode cX0_year 46 = .ok (.if_icmp .ne 13, 3) := dk_160 0 13 (dk_at dksX0_year_2 0 rfl rfl)
theorem dX0_year_49 : decode cX0_year 49 = .ok (.aload_n 0, 1) := dk_42 (dk_at dksX0_year_2 3 rfl rfl)
theorem dX0_year_50 : decode cX0_year 50 = .ok (.getfield 52, 3) := dk_180 0 52 (dk_at dksX0_year_2 4 rfl rfl)
theorem dX0_year_53 : decode cX0_year 53 = .ok (.invokevirtual 275, 3) := dk_182 1 19 (dk_at dksX0_year_2 7 rfl rfl)
theorem dX0_year_56 : decode cX0_year 56 = .ok (.goto 10, 3) := dk_167 0 10 (dk_at dksX0_year_2 10 rfl rfl)
theorem dX0_year_59 : decode cX0_year 59 = .ok (.aload_n 0, 1) := dk_42 (dk_at dksX0_year_2 13 rfl rfl)
theorem dX0_year_60 : decode cX0_year 60 = .ok (.getfield 52, 3) := dk_180 0 52 (dk_at dksX0_year_2 14 rfl rfl)
theorem dX0_year_63 : decode cX0_year 63 = .ok (.getfield 289, 3) := dk_180 1 33 (dk_at dksX0_year_2 17 rfl rfl)
theorem dX0_year_66 : decode cX0_year 66 = .ok (.ireturn, 1) := dk_172 (dk_at dksX0_year_2 20 rfl rfl)
abbrev cX0_isSeed : ByteArray := prog_1_method_69_code
def yX0_isSeed : MethodName := ⟨RX0, "isSeed", "(I)Z"⟩
def dkwX0_isSeed_1 : List UInt8 := [167, 0, 4, 3, 172]
abbrev dktX0_isSeed_1 : List UInt8 := dkwX0_isSeed_1 ++ []
def dkwX0_isSeed_0 : List UInt8 := [42, 180, 0, 41, 182, 0, 102, 153, 0, 19, 27, 133, 9, 20, 1, 165, 184, 0, 5, 153, 0, 7, 4]
abbrev dktX0_isSeed_0 : List UInt8 := dkwX0_isSeed_0 ++ dktX0_isSeed_1
theorem dksX0_isSeed_0 : cX0_isSeed.data.toList.drop 0 = dktX0_isSeed_0 := by decide +kernel
theorem dksX0_isSeed_1 : cX0_isSeed.data.toList.drop 23 = dktX0_isSeed_1 := dk_seg dksX0_isSeed_0 23 rfl rfl
theorem dX0_isSeed_0 : decode cX0_isSeed 0 = .ok (.aload_n 0, 1) := dk_42 (dk_at dksX0_isSeed_0 0 rfl rfl)
theorem dX0_isSeed_1 : decode cX0_isSeed 1 = .ok (.getfield 41, 3) := dk_180 0 41 (dk_at dksX0_isSeed_0 1 rfl rfl)
theorem dX0_isSeed_4 : decode cX0_isSeed 4 = .ok (.invokevirtual 102, 3) := dk_182 0 102 (dk_at dksX0_isSeed_0 4 rfl rfl)
theorem dX0_isSeed_7 : decode cX0_isSeed 7 = .ok (.ifCond .eq 19, 3) := dk_153 0 19 (dk_at dksX0_isSeed_0 7 rfl rfl)
theorem dX0_isSeed_10 : decode cX0_isSeed 10 = .ok (.iload_n 1, 1) := dk_27 (dk_at dksX0_isSeed_0 10 rfl rfl)
theorem dX0_isSeed_11 : decode cX0_isSeed 11 = .ok (.i2l, 1) := dk_133 (dk_at dksX0_isSeed_0 11 rfl rfl)
theorem dX0_isSeed_12 : decode cX0_isSeed 12 = .ok (.lconst 0, 1) := dk_9 (dk_at dksX0_isSeed_0 12 rfl rfl)
theorem dX0_isSeed_13 : decode cX0_isSeed 13 = .ok (.ldc2_w 421, 3) := dk_20 1 165 (dk_at dksX0_isSeed_0 13 rfl rfl)
theorem dX0_isSeed_16 : decode cX0_isSeed 16 = .ok (.invokestatic 5, 3) := dk_184 0 5 (dk_at dksX0_isSeed_0 16 rfl rfl)
theorem dX0_isSeed_19 : decode cX0_isSeed 19 = .ok (.ifCond .eq 7, 3) := dk_153 0 7 (dk_at dksX0_isSeed_0 19 rfl rfl)
theorem dX0_isSeed_22 : decode cX0_isSeed 22 = .ok (.iconst 1, 1) := dk_4 (dk_at dksX0_isSeed_0 22 rfl rfl)
theorem dX0_isSeed_23 : decode cX0_isSeed 23 = .ok (.goto 4, 3) := dk_167 0 4 (dk_at dksX0_isSeed_1 0 rfl rfl)
theorem dX0_isSeed_26 : decode cX0_isSeed 26 = .ok (.iconst 0, 1) := dk_3 (dk_at dksX0_isSeed_1 3 rfl rfl)
theorem dX0_isSeed_27 : decode cX0_isSeed 27 = .ok (.ireturn, 1) := dk_172 (dk_at dksX0_isSeed_1 4 rfl rfl)
abbrev cX0_drawn : ByteArray := prog_1_method_68_code
def yX0_drawn : MethodName := ⟨RX0, "drawn", "(J)LFloodLent$Year;"⟩
def dkwX0_drawn_5 : List UInt8 := [181, 1, 33, 42, 180, 0, 52, 182, 0, 155, 176]
abbrev dktX0_drawn_5 : List UInt8 := dkwX0_drawn_5 ++ []
def dkwX0_drawn_4 : List UInt8 := [180, 0, 52, 42, 180, 0, 41, 42, 180, 0, 45, 42, 180, 0, 109, 182, 0, 152, 42, 180, 0, 52, 21, 5]
abbrev dktX0_drawn_4 : List UInt8 := dkwX0_drawn_4 ++ dktX0_drawn_5
def dkwX0_drawn_3 : List UInt8 := [133, 148, 156, 0, 10, 4, 21, 6, 120, 167, 0, 4, 3, 128, 54, 5, 132, 6, 1, 167, 255, 175, 42]
abbrev dktX0_drawn_3 : List UInt8 := dkwX0_drawn_3 ++ dktX0_drawn_4
def dkwX0_drawn_2 : List UInt8 := [20, 1, 40, 113, 42, 180, 0, 41, 180, 0, 149, 21, 6, 185, 0, 161, 2, 0, 192, 1, 28, 180, 1, 30]
abbrev dktX0_drawn_2 : List UInt8 := dkwX0_drawn_2 ++ dktX0_drawn_3
def dkwX0_drawn_1 : List UInt8 := [162, 0, 70, 20, 1, 157, 33, 105, 20, 1, 159, 97, 20, 1, 161, 113, 66, 21, 5, 33, 20, 1, 163, 109]
abbrev dktX0_drawn_1 : List UInt8 := dkwX0_drawn_1 ++ dktX0_drawn_2
def dkwX0_drawn_0 : List UInt8 := [31, 66, 3, 54, 5, 3, 54, 6, 21, 6, 42, 180, 0, 41, 180, 0, 149, 185, 0, 134, 1, 0]
abbrev dktX0_drawn_0 : List UInt8 := dkwX0_drawn_0 ++ dktX0_drawn_1
theorem dksX0_drawn_0 : cX0_drawn.data.toList.drop 0 = dktX0_drawn_0 := by decide +kernel
theorem dksX0_drawn_1 : cX0_drawn.data.toList.drop 22 = dktX0_drawn_1 := dk_seg dksX0_drawn_0 22 rfl rfl
theorem dksX0_drawn_2 : cX0_drawn.data.toList.drop 46 = dktX0_drawn_2 := dk_seg dksX0_drawn_1 24 rfl rfl
theorem dksX0_drawn_3 : cX0_drawn.data.toList.drop 70 = dktX0_drawn_3 := dk_seg dksX0_drawn_2 24 rfl rfl
theorem dksX0_drawn_4 : cX0_drawn.data.toList.drop 93 = dktX0_drawn_4 := dk_seg dksX0_drawn_3 23 rfl rfl
theorem dksX0_drawn_5 : cX0_drawn.data.toList.drop 117 = dktX0_drawn_5 := dk_seg dksX0_drawn_4 24 rfl rfl
theorem dX0_drawn_0 : decode cX0_drawn 0 = .ok (.lload_n 1, 1) := dk_31 (dk_at dksX0_drawn_0 0 rfl rfl)
theorem dX0_drawn_1 : decode cX0_drawn 1 = .ok (.lstore_n 3, 1) := dk_66 (dk_at dksX0_drawn_0 1 rfl rfl)
theorem dX0_drawn_2 : decode cX0_drawn 2 = .ok (.iconst 0, 1) := dk_3 (dk_at dksX0_drawn_0 2 rfl rfl)
theorem dX0_drawn_3 : decode cX0_drawn 3 = .ok (.istore 5, 2) := dk_54 5 (dk_at dksX0_drawn_0 3 rfl rfl)
theorem dX0_drawn_5 : decode cX0_drawn 5 = .ok (.iconst 0, 1) := dk_3 (dk_at dksX0_drawn_0 5 rfl rfl)
theorem dX0_drawn_6 : decode cX0_drawn 6 = .ok (.istore 6, 2) := dk_54 6 (dk_at dksX0_drawn_0 6 rfl rfl)
theorem dX0_drawn_8 : decode cX0_drawn 8 = .ok (.iload 6, 2) := dk_21 6 (dk_at dksX0_drawn_0 8 rfl rfl)
theorem dX0_drawn_10 : decode cX0_drawn 10 = .ok (.aload_n 0, 1) := dk_42 (dk_at dksX0_drawn_0 10 rfl rfl)
theorem dX0_drawn_11 : decode cX0_drawn 11 = .ok (.getfield 41, 3) := dk_180 0 41 (dk_at dksX0_drawn_0 11 rfl rfl)
theorem dX0_drawn_14 : decode cX0_drawn 14 = .ok (.getfield 149, 3) := dk_180 0 149 (dk_at dksX0_drawn_0 14 rfl rfl)
theorem dX0_drawn_17 : decode cX0_drawn 17 = .ok (.invokeinterface 134 1, 5) := by decide +kernel
theorem dX0_drawn_22 : decode cX0_drawn 22 = .ok (.if_icmp .ge 70, 3) := dk_162 0 70 (dk_at dksX0_drawn_1 0 rfl rfl)
theorem dX0_drawn_25 : decode cX0_drawn 25 = .ok (.ldc2_w 413, 3) := dk_20 1 157 (dk_at dksX0_drawn_1 3 rfl rfl)
theorem dX0_drawn_28 : decode cX0_drawn 28 = .ok (.lload_n 3, 1) := dk_33 (dk_at dksX0_drawn_1 6 rfl rfl)
theorem dX0_drawn_29 : decode cX0_drawn 29 = .ok (.lmul, 1) := dk_105 (dk_at dksX0_drawn_1 7 rfl rfl)
theorem dX0_drawn_30 : decode cX0_drawn 30 = .ok (.ldc2_w 415, 3) := dk_20 1 159 (dk_at dksX0_drawn_1 8 rfl rfl)
theorem dX0_drawn_33 : decode cX0_drawn 33 = .ok (.ladd, 1) := dk_97 (dk_at dksX0_drawn_1 11 rfl rfl)
theorem dX0_drawn_34 : decode cX0_drawn 34 = .ok (.ldc2_w 417, 3) := dk_20 1 161 (dk_at dksX0_drawn_1 12 rfl rfl)
theorem dX0_drawn_37 : decode cX0_drawn 37 = .ok (.lrem, 1) := dk_113 (dk_at dksX0_drawn_1 15 rfl rfl)
theorem dX0_drawn_38 : decode cX0_drawn 38 = .ok (.lstore_n 3, 1) := dk_66 (dk_at dksX0_drawn_1 16 rfl rfl)
theorem dX0_drawn_39 : decode cX0_drawn 39 = .ok (.iload 5, 2) := dk_21 5 (dk_at dksX0_drawn_1 17 rfl rfl)
theorem dX0_drawn_41 : decode cX0_drawn 41 = .ok (.lload_n 3, 1) := dk_33 (dk_at dksX0_drawn_1 19 rfl rfl)
theorem dX0_drawn_42 : decode cX0_drawn 42 = .ok (.ldc2_w 419, 3) := dk_20 1 163 (dk_at dksX0_drawn_1 20 rfl rfl)
theorem dX0_drawn_45 : decode cX0_drawn 45 = .ok (.ldiv, 1) := dk_109 (dk_at dksX0_drawn_1 23 rfl rfl)
theorem dX0_drawn_46 : decode cX0_drawn 46 = .ok (.ldc2_w 296, 3) := dk_20 1 40 (dk_at dksX0_drawn_2 0 rfl rfl)
theorem dX0_drawn_49 : decode cX0_drawn 49 = .ok (.lrem, 1) := dk_113 (dk_at dksX0_drawn_2 3 rfl rfl)
theorem dX0_drawn_50 : decode cX0_drawn 50 = .ok (.aload_n 0, 1) := dk_42 (dk_at dksX0_drawn_2 4 rfl rfl)
theorem dX0_drawn_51 : decode cX0_drawn 51 = .ok (.getfield 41, 3) := dk_180 0 41 (dk_at dksX0_drawn_2 5 rfl rfl)
theorem dX0_drawn_54 : decode cX0_drawn 54 = .ok (.getfield 149, 3) := dk_180 0 149 (dk_at dksX0_drawn_2 8 rfl rfl)
theorem dX0_drawn_57 : decode cX0_drawn 57 = .ok (.iload 6, 2) := dk_21 6 (dk_at dksX0_drawn_2 11 rfl rfl)
theorem dX0_drawn_59 : decode cX0_drawn 59 = .ok (.invokeinterface 161 2, 5) := by decide +kernel
theorem dX0_drawn_64 : decode cX0_drawn 64 = .ok (.checkcast 284, 3) := dk_192 1 28 (dk_at dksX0_drawn_2 18 rfl rfl)
theorem dX0_drawn_67 : decode cX0_drawn 67 = .ok (.getfield 286, 3) := dk_180 1 30 (dk_at dksX0_drawn_2 21 rfl rfl)
theorem dX0_drawn_70 : decode cX0_drawn 70 = .ok (.i2l, 1) := dk_133 (dk_at dksX0_drawn_3 0 rfl rfl)
theorem dX0_drawn_71 : decode cX0_drawn 71 = .ok (.lcmp, 1) := dk_148 (dk_at dksX0_drawn_3 1 rfl rfl)
theorem dX0_drawn_72 : decode cX0_drawn 72 = .ok (.ifCond .ge 10, 3) := dk_156 0 10 (dk_at dksX0_drawn_3 2 rfl rfl)
theorem dX0_drawn_75 : decode cX0_drawn 75 = .ok (.iconst 1, 1) := dk_4 (dk_at dksX0_drawn_3 5 rfl rfl)
theorem dX0_drawn_76 : decode cX0_drawn 76 = .ok (.iload 6, 2) := dk_21 6 (dk_at dksX0_drawn_3 6 rfl rfl)
theorem dX0_drawn_78 : decode cX0_drawn 78 = .ok (.ishl, 1) := dk_120 (dk_at dksX0_drawn_3 8 rfl rfl)
theorem dX0_drawn_79 : decode cX0_drawn 79 = .ok (.goto 4, 3) := dk_167 0 4 (dk_at dksX0_drawn_3 9 rfl rfl)
theorem dX0_drawn_82 : decode cX0_drawn 82 = .ok (.iconst 0, 1) := dk_3 (dk_at dksX0_drawn_3 12 rfl rfl)
theorem dX0_drawn_83 : decode cX0_drawn 83 = .ok (.ior, 1) := dk_128 (dk_at dksX0_drawn_3 13 rfl rfl)
theorem dX0_drawn_84 : decode cX0_drawn 84 = .ok (.istore 5, 2) := dk_54 5 (dk_at dksX0_drawn_3 14 rfl rfl)
theorem dX0_drawn_86 : decode cX0_drawn 86 = .ok (.iinc 6 1, 3) := dk_132 6 1 (dk_at dksX0_drawn_3 16 rfl rfl)
theorem dX0_drawn_89 : decode cX0_drawn 89 = .ok (.goto (-81), 3) := dk_167 255 175 (dk_at dksX0_drawn_3 19 rfl rfl)
theorem dX0_drawn_92 : decode cX0_drawn 92 = .ok (.aload_n 0, 1) := dk_42 (dk_at dksX0_drawn_3 22 rfl rfl)
theorem dX0_drawn_93 : decode cX0_drawn 93 = .ok (.getfield 52, 3) := dk_180 0 52 (dk_at dksX0_drawn_4 0 rfl rfl)
theorem dX0_drawn_96 : decode cX0_drawn 96 = .ok (.aload_n 0, 1) := dk_42 (dk_at dksX0_drawn_4 3 rfl rfl)
theorem dX0_drawn_97 : decode cX0_drawn 97 = .ok (.getfield 41, 3) := dk_180 0 41 (dk_at dksX0_drawn_4 4 rfl rfl)
theorem dX0_drawn_100 : decode cX0_drawn 100 = .ok (.aload_n 0, 1) := dk_42 (dk_at dksX0_drawn_4 7 rfl rfl)
theorem dX0_drawn_101 : decode cX0_drawn 101 = .ok (.getfield 45, 3) := dk_180 0 45 (dk_at dksX0_drawn_4 8 rfl rfl)
theorem dX0_drawn_104 : decode cX0_drawn 104 = .ok (.aload_n 0, 1) := dk_42 (dk_at dksX0_drawn_4 11 rfl rfl)
theorem dX0_drawn_105 : decode cX0_drawn 105 = .ok (.getfield 109, 3) := dk_180 0 109 (dk_at dksX0_drawn_4 12 rfl rfl)
theorem dX0_drawn_108 : decode cX0_drawn 108 = .ok (.invokevirtual 152, 3) := dk_182 0 152 (dk_at dksX0_drawn_4 15 rfl rfl)
theorem dX0_drawn_111 : decode cX0_drawn 111 = .ok (.aload_n 0, 1) := dk_42 (dk_at dksX0_drawn_4 18 rfl rfl)
theorem dX0_drawn_112 : decode cX0_drawn 112 = .ok (.getfield 52, 3) := dk_180 0 52 (dk_at dksX0_drawn_4 19 rfl rfl)
theorem dX0_drawn_115 : decode cX0_drawn 115 = .ok (.iload 5, 2) := dk_21 5 (dk_at dksX0_drawn_4 22 rfl rfl)
theorem dX0_drawn_117 : decode cX0_drawn 117 = .ok (.putfield 289, 3) := dk_181 1 33 (dk_at dksX0_drawn_5 0 rfl rfl)
theorem dX0_drawn_120 : decode cX0_drawn 120 = .ok (.aload_n 0, 1) := dk_42 (dk_at dksX0_drawn_5 3 rfl rfl)
theorem dX0_drawn_121 : decode cX0_drawn 121 = .ok (.getfield 52, 3) := dk_180 0 52 (dk_at dksX0_drawn_5 4 rfl rfl)
theorem dX0_drawn_124 : decode cX0_drawn 124 = .ok (.invokevirtual 155, 3) := dk_182 0 155 (dk_at dksX0_drawn_5 7 rfl rfl)
theorem dX0_drawn_127 : decode cX0_drawn 127 = .ok (.areturn, 1) := dk_176 (dk_at dksX0_drawn_5 10 rfl rfl)
abbrev cX0_years : ByteArray := prog_1_method_71_code
def yX0_years : MethodName := ⟨RX0, "years", "(II)I"⟩
def dkwX0_years_2 : List UInt8 := [154, 0, 7, 4, 167, 0, 4, 3, 96, 62, 132, 4, 1, 167, 255, 223, 29, 172]
abbrev dktX0_years_2 : List UInt8 := dkwX0_years_2 ++ []
def dkwX0_years_1 : List UInt8 := [62, 3, 54, 4, 21, 4, 28, 162, 0, 33, 29, 42, 27, 133, 21, 4, 133, 97, 182, 1, 170, 182, 1, 19]
abbrev dktX0_years_1 : List UInt8 := dkwX0_years_1 ++ dktX0_years_2
def dkwX0_years_0 : List UInt8 := [42, 27, 182, 1, 167, 153, 0, 15, 28, 133, 10, 20, 1, 174, 184, 0, 5, 154, 0, 6, 16, 254, 172, 3]
abbrev dktX0_years_0 : List UInt8 := dkwX0_years_0 ++ dktX0_years_1
theorem dksX0_years_0 : cX0_years.data.toList.drop 0 = dktX0_years_0 := by decide +kernel
theorem dksX0_years_1 : cX0_years.data.toList.drop 24 = dktX0_years_1 := dk_seg dksX0_years_0 24 rfl rfl
theorem dksX0_years_2 : cX0_years.data.toList.drop 48 = dktX0_years_2 := dk_seg dksX0_years_1 24 rfl rfl
theorem dX0_years_0 : decode cX0_years 0 = .ok (.aload_n 0, 1) := dk_42 (dk_at dksX0_years_0 0 rfl rfl)
theorem dX0_years_1 : decode cX0_years 1 = .ok (.iload_n 1, 1) := dk_27 (dk_at dksX0_years_0 1 rfl rfl)
theorem dX0_years_2 : decode cX0_years 2 = .ok (.invokevirtual 423, 3) := dk_182 1 167 (dk_at dksX0_years_0 2 rfl rfl)
theorem dX0_years_5 : decode cX0_years 5 = .ok (.ifCond .eq 15, 3) := dk_153 0 15 (dk_at dksX0_years_0 5 rfl rfl)
theorem dX0_years_8 : decode cX0_years 8 = .ok (.iload_n 2, 1) := dk_28 (dk_at dksX0_years_0 8 rfl rfl)
theorem dX0_years_9 : decode cX0_years 9 = .ok (.i2l, 1) := dk_133 (dk_at dksX0_years_0 9 rfl rfl)
theorem dX0_years_10 : decode cX0_years 10 = .ok (.lconst 1, 1) := dk_10 (dk_at dksX0_years_0 10 rfl rfl)
theorem dX0_years_11 : decode cX0_years 11 = .ok (.ldc2_w 430, 3) := dk_20 1 174 (dk_at dksX0_years_0 11 rfl rfl)
theorem dX0_years_14 : decode cX0_years 14 = .ok (.invokestatic 5, 3) := dk_184 0 5 (dk_at dksX0_years_0 14 rfl rfl)
theorem dX0_years_17 : decode cX0_years 17 = .ok (.ifCond .ne 6, 3) := dk_154 0 6 (dk_at dksX0_years_0 17 rfl rfl)
theorem dX0_years_20 : decode cX0_years 20 = .ok (.bipush (-2), 2) := dk_16 254 (dk_at dksX0_years_0 20 rfl rfl)
theorem dX0_years_22 : decode cX0_years 22 = .ok (.ireturn, 1) := dk_172 (dk_at dksX0_years_0 22 rfl rfl)
theorem dX0_years_23 : decode cX0_years 23 = .ok (.iconst 0, 1) := dk_3 (dk_at dksX0_years_0 23 rfl rfl)
theorem dX0_years_24 : decode cX0_years 24 = .ok (.istore_n 3, 1) := dk_62 (dk_at dksX0_years_1 0 rfl rfl)
theorem dX0_years_25 : decode cX0_years 25 = .ok (.iconst 0, 1) := dk_3 (dk_at dksX0_years_1 1 rfl rfl)
theorem dX0_years_26 : decode cX0_years 26 = .ok (.istore 4, 2) := dk_54 4 (dk_at dksX0_years_1 2 rfl rfl)
theorem dX0_years_28 : decode cX0_years 28 = .ok (.iload 4, 2) := dk_21 4 (dk_at dksX0_years_1 4 rfl rfl)
theorem dX0_years_30 : decode cX0_years 30 = .ok (.iload_n 2, 1) := dk_28 (dk_at dksX0_years_1 6 rfl rfl)
theorem dX0_years_31 : decode cX0_years 31 = .ok (.if_icmp .ge 33, 3) := dk_162 0 33 (dk_at dksX0_years_1 7 rfl rfl)
theorem dX0_years_34 : decode cX0_years 34 = .ok (.iload_n 3, 1) := dk_29 (dk_at dksX0_years_1 10 rfl rfl)
theorem dX0_years_35 : decode cX0_years 35 = .ok (.aload_n 0, 1) := dk_42 (dk_at dksX0_years_1 11 rfl rfl)
theorem dX0_years_36 : decode cX0_years 36 = .ok (.iload_n 1, 1) := dk_27 (dk_at dksX0_years_1 12 rfl rfl)
theorem dX0_years_37 : decode cX0_years 37 = .ok (.i2l, 1) := dk_133 (dk_at dksX0_years_1 13 rfl rfl)
theorem dX0_years_38 : decode cX0_years 38 = .ok (.iload 4, 2) := dk_21 4 (dk_at dksX0_years_1 14 rfl rfl)
theorem dX0_years_40 : decode cX0_years 40 = .ok (.i2l, 1) := dk_133 (dk_at dksX0_years_1 16 rfl rfl)
theorem dX0_years_41 : decode cX0_years 41 = .ok (.ladd, 1) := dk_97 (dk_at dksX0_years_1 17 rfl rfl)
theorem dX0_years_42 : decode cX0_years 42 = .ok (.invokevirtual 426, 3) := dk_182 1 170 (dk_at dksX0_years_1 18 rfl rfl)
theorem dX0_years_45 : decode cX0_years 45 = .ok (.invokevirtual 275, 3) := dk_182 1 19 (dk_at dksX0_years_1 21 rfl rfl)
theorem dX0_years_48 : decode cX0_years 48 = .ok (.ifCond .ne 7, 3) := dk_154 0 7 (dk_at dksX0_years_2 0 rfl rfl)
theorem dX0_years_51 : decode cX0_years 51 = .ok (.iconst 1, 1) := dk_4 (dk_at dksX0_years_2 3 rfl rfl)
theorem dX0_years_52 : decode cX0_years 52 = .ok (.goto 4, 3) := dk_167 0 4 (dk_at dksX0_years_2 4 rfl rfl)
theorem dX0_years_55 : decode cX0_years 55 = .ok (.iconst 0, 1) := dk_3 (dk_at dksX0_years_2 7 rfl rfl)
theorem dX0_years_56 : decode cX0_years 56 = .ok (.iadd, 1) := dk_96 (dk_at dksX0_years_2 8 rfl rfl)
theorem dX0_years_57 : decode cX0_years 57 = .ok (.istore_n 3, 1) := dk_62 (dk_at dksX0_years_2 9 rfl rfl)
theorem dX0_years_58 : decode cX0_years 58 = .ok (.iinc 4 1, 3) := dk_132 4 1 (dk_at dksX0_years_2 10 rfl rfl)
theorem dX0_years_61 : decode cX0_years 61 = .ok (.goto (-33), 3) := dk_167 255 223 (dk_at dksX0_years_2 13 rfl rfl)
theorem dX0_years_64 : decode cX0_years 64 = .ok (.iload_n 3, 1) := dk_29 (dk_at dksX0_years_2 16 rfl rfl)
theorem dX0_years_65 : decode cX0_years 65 = .ok (.ireturn, 1) := dk_172 (dk_at dksX0_years_2 17 rfl rfl)
abbrev cX0_count : ByteArray := prog_1_method_72_code
def yX0_count : MethodName := ⟨RX0, "count", "(I)I"⟩
def dkwX0_count_7 : List UInt8 := [3, 167, 0, 4, 4, 96, 61, 132, 5, 1, 167, 255, 224, 28, 172, 2, 172]
abbrev dktX0_count_7 : List UInt8 := dkwX0_count_7 ++ []
def dkwX0_count_6 : List UInt8 := [54, 5, 21, 5, 21, 4, 162, 0, 31, 45, 21, 5, 50, 58, 6, 28, 25, 6, 180, 1, 64, 199, 0, 7]
abbrev dktX0_count_6 : List UInt8 := dkwX0_count_6 ++ dktX0_count_7
def dkwX0_count_5 : List UInt8 := [180, 0, 109, 172, 42, 180, 0, 41, 180, 1, 176, 172, 3, 61, 42, 180, 0, 13, 78, 45, 190, 54, 4, 3]
abbrev dktX0_count_5 : List UInt8 := dkwX0_count_5 ++ dktX0_count_6
def dkwX0_count_4 : List UInt8 := [180, 0, 203, 185, 0, 134, 1, 0, 172, 42, 180, 0, 41, 180, 0, 119, 172, 42, 180, 0, 90, 172, 42]
abbrev dktX0_count_4 : List UInt8 := dkwX0_count_4 ++ dktX0_count_5
def dkwX0_count_3 : List UInt8 := [185, 0, 134, 1, 0, 172, 42, 180, 0, 41, 180, 0, 149, 185, 0, 134, 1, 0, 172, 42, 180, 0, 41]
abbrev dktX0_count_3 : List UInt8 := dkwX0_count_3 ++ dktX0_count_4
def dkwX0_count_2 : List UInt8 := [42, 180, 0, 41, 180, 0, 146, 172, 42, 182, 0, 140, 172, 42, 180, 0, 41, 180, 0, 215]
abbrev dktX0_count_2 : List UInt8 := dkwX0_count_2 ++ dktX0_count_3
def dkwX0_count_1 : List UInt8 := [170, 0, 0, 0, 0, 0, 184, 0, 0, 0, 0, 0, 0, 0, 9, 0, 0, 0, 55, 0, 0, 0, 63, 0, 0, 0, 68, 0, 0, 0, 81, 0, 0, 0, 94, 0, 0, 0, 107, 0, 0, 0, 115, 0, 0, 0, 120, 0, 0, 0, 125, 0, 0, 0, 133]
abbrev dktX0_count_1 : List UInt8 := dkwX0_count_1 ++ dktX0_count_2
def dkwX0_count_0 : List UInt8 := [27]
abbrev dktX0_count_0 : List UInt8 := dkwX0_count_0 ++ dktX0_count_1
theorem dksX0_count_0 : cX0_count.data.toList.drop 0 = dktX0_count_0 := by decide +kernel
theorem dksX0_count_1 : cX0_count.data.toList.drop 1 = dktX0_count_1 := dk_seg dksX0_count_0 1 rfl rfl
theorem dksX0_count_2 : cX0_count.data.toList.drop 56 = dktX0_count_2 := dk_seg dksX0_count_1 55 rfl rfl
theorem dksX0_count_3 : cX0_count.data.toList.drop 76 = dktX0_count_3 := dk_seg dksX0_count_2 20 rfl rfl
theorem dksX0_count_4 : cX0_count.data.toList.drop 99 = dktX0_count_4 := dk_seg dksX0_count_3 23 rfl rfl
theorem dksX0_count_5 : cX0_count.data.toList.drop 122 = dktX0_count_5 := dk_seg dksX0_count_4 23 rfl rfl
theorem dksX0_count_6 : cX0_count.data.toList.drop 146 = dktX0_count_6 := dk_seg dksX0_count_5 24 rfl rfl
theorem dksX0_count_7 : cX0_count.data.toList.drop 170 = dktX0_count_7 := dk_seg dksX0_count_6 24 rfl rfl
theorem dX0_count_0 : decode cX0_count 0 = .ok (.iload_n 1, 1) := dk_27 (dk_at dksX0_count_0 0 rfl rfl)
theorem dX0_count_1 : decode cX0_count 1 = .ok (.tableswitch 184 0 9 #[55, 63, 68, 81, 94, 107, 115, 120, 125, 133], 55) := by decide +kernel
theorem dX0_count_56 : decode cX0_count 56 = .ok (.aload_n 0, 1) := dk_42 (dk_at dksX0_count_2 0 rfl rfl)
theorem dX0_count_57 : decode cX0_count 57 = .ok (.getfield 41, 3) := dk_180 0 41 (dk_at dksX0_count_2 1 rfl rfl)
theorem dX0_count_60 : decode cX0_count 60 = .ok (.getfield 146, 3) := dk_180 0 146 (dk_at dksX0_count_2 4 rfl rfl)
theorem dX0_count_63 : decode cX0_count 63 = .ok (.ireturn, 1) := dk_172 (dk_at dksX0_count_2 7 rfl rfl)
theorem dX0_count_64 : decode cX0_count 64 = .ok (.aload_n 0, 1) := dk_42 (dk_at dksX0_count_2 8 rfl rfl)
theorem dX0_count_65 : decode cX0_count 65 = .ok (.invokevirtual 140, 3) := dk_182 0 140 (dk_at dksX0_count_2 9 rfl rfl)
theorem dX0_count_68 : decode cX0_count 68 = .ok (.ireturn, 1) := dk_172 (dk_at dksX0_count_2 12 rfl rfl)
theorem dX0_count_69 : decode cX0_count 69 = .ok (.aload_n 0, 1) := dk_42 (dk_at dksX0_count_2 13 rfl rfl)
theorem dX0_count_70 : decode cX0_count 70 = .ok (.getfield 41, 3) := dk_180 0 41 (dk_at dksX0_count_2 14 rfl rfl)
theorem dX0_count_73 : decode cX0_count 73 = .ok (.getfield 215, 3) := dk_180 0 215 (dk_at dksX0_count_2 17 rfl rfl)
theorem dX0_count_76 : decode cX0_count 76 = .ok (.invokeinterface 134 1, 5) := by decide +kernel
theorem dX0_count_81 : decode cX0_count 81 = .ok (.ireturn, 1) := dk_172 (dk_at dksX0_count_3 5 rfl rfl)
theorem dX0_count_82 : decode cX0_count 82 = .ok (.aload_n 0, 1) := dk_42 (dk_at dksX0_count_3 6 rfl rfl)
theorem dX0_count_83 : decode cX0_count 83 = .ok (.getfield 41, 3) := dk_180 0 41 (dk_at dksX0_count_3 7 rfl rfl)
theorem dX0_count_86 : decode cX0_count 86 = .ok (.getfield 149, 3) := dk_180 0 149 (dk_at dksX0_count_3 10 rfl rfl)
theorem dX0_count_89 : decode cX0_count 89 = .ok (.invokeinterface 134 1, 5) := by decide +kernel
theorem dX0_count_94 : decode cX0_count 94 = .ok (.ireturn, 1) := dk_172 (dk_at dksX0_count_3 18 rfl rfl)
theorem dX0_count_95 : decode cX0_count 95 = .ok (.aload_n 0, 1) := dk_42 (dk_at dksX0_count_3 19 rfl rfl)
theorem dX0_count_96 : decode cX0_count 96 = .ok (.getfield 41, 3) := dk_180 0 41 (dk_at dksX0_count_3 20 rfl rfl)
theorem dX0_count_99 : decode cX0_count 99 = .ok (.getfield 203, 3) := dk_180 0 203 (dk_at dksX0_count_4 0 rfl rfl)
theorem dX0_count_102 : decode cX0_count 102 = .ok (.invokeinterface 134 1, 5) := by decide +kernel
theorem dX0_count_107 : decode cX0_count 107 = .ok (.ireturn, 1) := dk_172 (dk_at dksX0_count_4 8 rfl rfl)
theorem dX0_count_108 : decode cX0_count 108 = .ok (.aload_n 0, 1) := dk_42 (dk_at dksX0_count_4 9 rfl rfl)
theorem dX0_count_109 : decode cX0_count 109 = .ok (.getfield 41, 3) := dk_180 0 41 (dk_at dksX0_count_4 10 rfl rfl)
theorem dX0_count_112 : decode cX0_count 112 = .ok (.getfield 119, 3) := dk_180 0 119 (dk_at dksX0_count_4 13 rfl rfl)
theorem dX0_count_115 : decode cX0_count 115 = .ok (.ireturn, 1) := dk_172 (dk_at dksX0_count_4 16 rfl rfl)
theorem dX0_count_116 : decode cX0_count 116 = .ok (.aload_n 0, 1) := dk_42 (dk_at dksX0_count_4 17 rfl rfl)
theorem dX0_count_117 : decode cX0_count 117 = .ok (.getfield 90, 3) := dk_180 0 90 (dk_at dksX0_count_4 18 rfl rfl)
theorem dX0_count_120 : decode cX0_count 120 = .ok (.ireturn, 1) := dk_172 (dk_at dksX0_count_4 21 rfl rfl)
theorem dX0_count_121 : decode cX0_count 121 = .ok (.aload_n 0, 1) := dk_42 (dk_at dksX0_count_4 22 rfl rfl)
theorem dX0_count_122 : decode cX0_count 122 = .ok (.getfield 109, 3) := dk_180 0 109 (dk_at dksX0_count_5 0 rfl rfl)
theorem dX0_count_125 : decode cX0_count 125 = .ok (.ireturn, 1) := dk_172 (dk_at dksX0_count_5 3 rfl rfl)
theorem dX0_count_126 : decode cX0_count 126 = .ok (.aload_n 0, 1) := dk_42 (dk_at dksX0_count_5 4 rfl rfl)
theorem dX0_count_127 : decode cX0_count 127 = .ok (.getfield 41, 3) := dk_180 0 41 (dk_at dksX0_count_5 5 rfl rfl)
theorem dX0_count_130 : decode cX0_count 130 = .ok (.getfield 432, 3) := dk_180 1 176 (dk_at dksX0_count_5 8 rfl rfl)
theorem dX0_count_133 : decode cX0_count 133 = .ok (.ireturn, 1) := dk_172 (dk_at dksX0_count_5 11 rfl rfl)
theorem dX0_count_134 : decode cX0_count 134 = .ok (.iconst 0, 1) := dk_3 (dk_at dksX0_count_5 12 rfl rfl)
theorem dX0_count_135 : decode cX0_count 135 = .ok (.istore_n 2, 1) := dk_61 (dk_at dksX0_count_5 13 rfl rfl)
theorem dX0_count_136 : decode cX0_count 136 = .ok (.aload_n 0, 1) := dk_42 (dk_at dksX0_count_5 14 rfl rfl)
theorem dX0_count_137 : decode cX0_count 137 = .ok (.getfield 13, 3) := dk_180 0 13 (dk_at dksX0_count_5 15 rfl rfl)
theorem dX0_count_140 : decode cX0_count 140 = .ok (.astore_n 3, 1) := dk_78 (dk_at dksX0_count_5 18 rfl rfl)
theorem dX0_count_141 : decode cX0_count 141 = .ok (.aload_n 3, 1) := dk_45 (dk_at dksX0_count_5 19 rfl rfl)
theorem dX0_count_142 : decode cX0_count 142 = .ok (.arraylength, 1) := dk_190 (dk_at dksX0_count_5 20 rfl rfl)
theorem dX0_count_143 : decode cX0_count 143 = .ok (.istore 4, 2) := dk_54 4 (dk_at dksX0_count_5 21 rfl rfl)
theorem dX0_count_145 : decode cX0_count 145 = .ok (.iconst 0, 1) := dk_3 (dk_at dksX0_count_5 23 rfl rfl)
theorem dX0_count_146 : decode cX0_count 146 = .ok (.istore 5, 2) := dk_54 5 (dk_at dksX0_count_6 0 rfl rfl)
theorem dX0_count_148 : decode cX0_count 148 = .ok (.iload 5, 2) := dk_21 5 (dk_at dksX0_count_6 2 rfl rfl)
theorem dX0_count_150 : decode cX0_count 150 = .ok (.iload 4, 2) := dk_21 4 (dk_at dksX0_count_6 4 rfl rfl)
theorem dX0_count_152 : decode cX0_count 152 = .ok (.if_icmp .ge 31, 3) := dk_162 0 31 (dk_at dksX0_count_6 6 rfl rfl)
theorem dX0_count_155 : decode cX0_count 155 = .ok (.aload_n 3, 1) := dk_45 (dk_at dksX0_count_6 9 rfl rfl)
theorem dX0_count_156 : decode cX0_count 156 = .ok (.iload 5, 2) := dk_21 5 (dk_at dksX0_count_6 10 rfl rfl)
theorem dX0_count_158 : decode cX0_count 158 = .ok (.aaload, 1) := dk_50 (dk_at dksX0_count_6 12 rfl rfl)
theorem dX0_count_159 : decode cX0_count 159 = .ok (.astore 6, 2) := dk_58 6 (dk_at dksX0_count_6 13 rfl rfl)
theorem dX0_count_161 : decode cX0_count 161 = .ok (.iload_n 2, 1) := dk_28 (dk_at dksX0_count_6 15 rfl rfl)
theorem dX0_count_162 : decode cX0_count 162 = .ok (.aload 6, 2) := dk_25 6 (dk_at dksX0_count_6 16 rfl rfl)
theorem dX0_count_164 : decode cX0_count 164 = .ok (.getfield 320, 3) := dk_180 1 64 (dk_at dksX0_count_6 18 rfl rfl)
theorem dX0_count_167 : decode cX0_count 167 = .ok (.ifnonnull 7, 3) := dk_199 0 7 (dk_at dksX0_count_6 21 rfl rfl)
theorem dX0_count_170 : decode cX0_count 170 = .ok (.iconst 0, 1) := dk_3 (dk_at dksX0_count_7 0 rfl rfl)
theorem dX0_count_171 : decode cX0_count 171 = .ok (.goto 4, 3) := dk_167 0 4 (dk_at dksX0_count_7 1 rfl rfl)
theorem dX0_count_174 : decode cX0_count 174 = .ok (.iconst 1, 1) := dk_4 (dk_at dksX0_count_7 4 rfl rfl)
theorem dX0_count_175 : decode cX0_count 175 = .ok (.iadd, 1) := dk_96 (dk_at dksX0_count_7 5 rfl rfl)
theorem dX0_count_176 : decode cX0_count 176 = .ok (.istore_n 2, 1) := dk_61 (dk_at dksX0_count_7 6 rfl rfl)
theorem dX0_count_177 : decode cX0_count 177 = .ok (.iinc 5 1, 3) := dk_132 5 1 (dk_at dksX0_count_7 7 rfl rfl)
theorem dX0_count_180 : decode cX0_count 180 = .ok (.goto (-32), 3) := dk_167 255 224 (dk_at dksX0_count_7 10 rfl rfl)
theorem dX0_count_183 : decode cX0_count 183 = .ok (.iload_n 2, 1) := dk_28 (dk_at dksX0_count_7 13 rfl rfl)
theorem dX0_count_184 : decode cX0_count 184 = .ok (.ireturn, 1) := dk_172 (dk_at dksX0_count_7 14 rfl rfl)
theorem dX0_count_185 : decode cX0_count 185 = .ok (.iconst (-1), 1) := dk_2 (dk_at dksX0_count_7 15 rfl rfl)
theorem dX0_count_186 : decode cX0_count 186 = .ok (.ireturn, 1) := dk_172 (dk_at dksX0_count_7 16 rfl rfl)
abbrev cX0_image : ByteArray := prog_1_method_73_code
def yX0_image : MethodName := ⟨RX0, "image", "(I)I"⟩
def dkwX0_image_3 : List UInt8 := [180, 0, 58, 27, 50, 180, 1, 184, 3, 6, 184, 1, 185, 3, 172]
abbrev dktX0_image_3 : List UInt8 := dkwX0_image_3 ++ []
def dkwX0_image_2 : List UInt8 := [181, 1, 180, 42, 180, 0, 58, 27, 50, 42, 180, 0, 109, 181, 1, 183, 42, 180, 0, 45, 3, 42]
abbrev dktX0_image_2 : List UInt8 := dkwX0_image_2 ++ dktX0_image_3
def dkwX0_image_1 : List UInt8 := [42, 180, 0, 58, 27, 187, 0, 56, 89, 183, 1, 179, 83, 42, 180, 0, 58, 27, 50, 42, 180, 0, 41]
abbrev dktX0_image_1 : List UInt8 := dkwX0_image_1 ++ dktX0_image_2
def dkwX0_image_0 : List UInt8 := [27, 133, 9, 20, 0, 218, 184, 0, 5, 154, 0, 6, 16, 254, 172, 42, 180, 0, 58, 27, 50, 199, 0, 16]
abbrev dktX0_image_0 : List UInt8 := dkwX0_image_0 ++ dktX0_image_1
theorem dksX0_image_0 : cX0_image.data.toList.drop 0 = dktX0_image_0 := by decide +kernel
theorem dksX0_image_1 : cX0_image.data.toList.drop 24 = dktX0_image_1 := dk_seg dksX0_image_0 24 rfl rfl
theorem dksX0_image_2 : cX0_image.data.toList.drop 47 = dktX0_image_2 := dk_seg dksX0_image_1 23 rfl rfl
theorem dksX0_image_3 : cX0_image.data.toList.drop 69 = dktX0_image_3 := dk_seg dksX0_image_2 22 rfl rfl
theorem dX0_image_0 : decode cX0_image 0 = .ok (.iload_n 1, 1) := dk_27 (dk_at dksX0_image_0 0 rfl rfl)
theorem dX0_image_1 : decode cX0_image 1 = .ok (.i2l, 1) := dk_133 (dk_at dksX0_image_0 1 rfl rfl)
theorem dX0_image_2 : decode cX0_image 2 = .ok (.lconst 0, 1) := dk_9 (dk_at dksX0_image_0 2 rfl rfl)
theorem dX0_image_3 : decode cX0_image 3 = .ok (.ldc2_w 218, 3) := dk_20 0 218 (dk_at dksX0_image_0 3 rfl rfl)
theorem dX0_image_6 : decode cX0_image 6 = .ok (.invokestatic 5, 3) := dk_184 0 5 (dk_at dksX0_image_0 6 rfl rfl)
theorem dX0_image_9 : decode cX0_image 9 = .ok (.ifCond .ne 6, 3) := dk_154 0 6 (dk_at dksX0_image_0 9 rfl rfl)
theorem dX0_image_12 : decode cX0_image 12 = .ok (.bipush (-2), 2) := dk_16 254 (dk_at dksX0_image_0 12 rfl rfl)
theorem dX0_image_14 : decode cX0_image 14 = .ok (.ireturn, 1) := dk_172 (dk_at dksX0_image_0 14 rfl rfl)
theorem dX0_image_15 : decode cX0_image 15 = .ok (.aload_n 0, 1) := dk_42 (dk_at dksX0_image_0 15 rfl rfl)
theorem dX0_image_16 : decode cX0_image 16 = .ok (.getfield 58, 3) := dk_180 0 58 (dk_at dksX0_image_0 16 rfl rfl)
theorem dX0_image_19 : decode cX0_image 19 = .ok (.iload_n 1, 1) := dk_27 (dk_at dksX0_image_0 19 rfl rfl)
theorem dX0_image_20 : decode cX0_image 20 = .ok (.aaload, 1) := dk_50 (dk_at dksX0_image_0 20 rfl rfl)
theorem dX0_image_21 : decode cX0_image 21 = .ok (.ifnonnull 16, 3) := dk_199 0 16 (dk_at dksX0_image_0 21 rfl rfl)
theorem dX0_image_24 : decode cX0_image 24 = .ok (.aload_n 0, 1) := dk_42 (dk_at dksX0_image_1 0 rfl rfl)
theorem dX0_image_25 : decode cX0_image 25 = .ok (.getfield 58, 3) := dk_180 0 58 (dk_at dksX0_image_1 1 rfl rfl)
theorem dX0_image_28 : decode cX0_image 28 = .ok (.iload_n 1, 1) := dk_27 (dk_at dksX0_image_1 4 rfl rfl)
theorem dX0_image_29 : decode cX0_image 29 = .ok (.new 56, 3) := dk_187 0 56 (dk_at dksX0_image_1 5 rfl rfl)
theorem dX0_image_32 : decode cX0_image 32 = .ok (.dup, 1) := dk_89 (dk_at dksX0_image_1 8 rfl rfl)
theorem dX0_image_33 : decode cX0_image 33 = .ok (.invokespecial 435, 3) := dk_183 1 179 (dk_at dksX0_image_1 9 rfl rfl)
theorem dX0_image_36 : decode cX0_image 36 = .ok (.aastore, 1) := dk_83 (dk_at dksX0_image_1 12 rfl rfl)
theorem dX0_image_37 : decode cX0_image 37 = .ok (.aload_n 0, 1) := dk_42 (dk_at dksX0_image_1 13 rfl rfl)
theorem dX0_image_38 : decode cX0_image 38 = .ok (.getfield 58, 3) := dk_180 0 58 (dk_at dksX0_image_1 14 rfl rfl)
theorem dX0_image_41 : decode cX0_image 41 = .ok (.iload_n 1, 1) := dk_27 (dk_at dksX0_image_1 17 rfl rfl)
theorem dX0_image_42 : decode cX0_image 42 = .ok (.aaload, 1) := dk_50 (dk_at dksX0_image_1 18 rfl rfl)
theorem dX0_image_43 : decode cX0_image 43 = .ok (.aload_n 0, 1) := dk_42 (dk_at dksX0_image_1 19 rfl rfl)
theorem dX0_image_44 : decode cX0_image 44 = .ok (.getfield 41, 3) := dk_180 0 41 (dk_at dksX0_image_1 20 rfl rfl)
theorem dX0_image_47 : decode cX0_image 47 = .ok (.putfield 436, 3) := dk_181 1 180 (dk_at dksX0_image_2 0 rfl rfl)
theorem dX0_image_50 : decode cX0_image 50 = .ok (.aload_n 0, 1) := dk_42 (dk_at dksX0_image_2 3 rfl rfl)
theorem dX0_image_51 : decode cX0_image 51 = .ok (.getfield 58, 3) := dk_180 0 58 (dk_at dksX0_image_2 4 rfl rfl)
theorem dX0_image_54 : decode cX0_image 54 = .ok (.iload_n 1, 1) := dk_27 (dk_at dksX0_image_2 7 rfl rfl)
theorem dX0_image_55 : decode cX0_image 55 = .ok (.aaload, 1) := dk_50 (dk_at dksX0_image_2 8 rfl rfl)
theorem dX0_image_56 : decode cX0_image 56 = .ok (.aload_n 0, 1) := dk_42 (dk_at dksX0_image_2 9 rfl rfl)
theorem dX0_image_57 : decode cX0_image 57 = .ok (.getfield 109, 3) := dk_180 0 109 (dk_at dksX0_image_2 10 rfl rfl)
theorem dX0_image_60 : decode cX0_image 60 = .ok (.putfield 439, 3) := dk_181 1 183 (dk_at dksX0_image_2 13 rfl rfl)
theorem dX0_image_63 : decode cX0_image 63 = .ok (.aload_n 0, 1) := dk_42 (dk_at dksX0_image_2 16 rfl rfl)
theorem dX0_image_64 : decode cX0_image 64 = .ok (.getfield 45, 3) := dk_180 0 45 (dk_at dksX0_image_2 17 rfl rfl)
theorem dX0_image_67 : decode cX0_image 67 = .ok (.iconst 0, 1) := dk_3 (dk_at dksX0_image_2 20 rfl rfl)
theorem dX0_image_68 : decode cX0_image 68 = .ok (.aload_n 0, 1) := dk_42 (dk_at dksX0_image_2 21 rfl rfl)
theorem dX0_image_69 : decode cX0_image 69 = .ok (.getfield 58, 3) := dk_180 0 58 (dk_at dksX0_image_3 0 rfl rfl)
theorem dX0_image_72 : decode cX0_image 72 = .ok (.iload_n 1, 1) := dk_27 (dk_at dksX0_image_3 3 rfl rfl)
theorem dX0_image_73 : decode cX0_image 73 = .ok (.aaload, 1) := dk_50 (dk_at dksX0_image_3 4 rfl rfl)
theorem dX0_image_74 : decode cX0_image 74 = .ok (.getfield 440, 3) := dk_180 1 184 (dk_at dksX0_image_3 5 rfl rfl)
theorem dX0_image_77 : decode cX0_image 77 = .ok (.iconst 0, 1) := dk_3 (dk_at dksX0_image_3 8 rfl rfl)
theorem dX0_image_78 : decode cX0_image 78 = .ok (.iconst 3, 1) := dk_6 (dk_at dksX0_image_3 9 rfl rfl)
theorem dX0_image_79 : decode cX0_image 79 = .ok (.invokestatic 441, 3) := dk_184 1 185 (dk_at dksX0_image_3 10 rfl rfl)
theorem dX0_image_82 : decode cX0_image 82 = .ok (.iconst 0, 1) := dk_3 (dk_at dksX0_image_3 13 rfl rfl)
theorem dX0_image_83 : decode cX0_image 83 = .ok (.ireturn, 1) := dk_172 (dk_at dksX0_image_3 14 rfl rfl)
abbrev cX0_restore : ByteArray := prog_1_method_74_code
def yX0_restore : MethodName := ⟨RX0, "restore", "(I)I"⟩
def dkwX0_restore_3 : List UInt8 := [184, 1, 185, 3, 172]
abbrev dktX0_restore_3 : List UInt8 := dkwX0_restore_3 ++ []
def dkwX0_restore_2 : List UInt8 := [180, 1, 183, 181, 0, 109, 42, 180, 0, 58, 27, 50, 180, 1, 184, 3, 42, 180, 0, 45, 3, 6]
abbrev dktX0_restore_2 : List UInt8 := dkwX0_restore_2 ++ dktX0_restore_3
def dkwX0_restore_1 : List UInt8 := [16, 250, 172, 42, 42, 180, 0, 58, 27, 50, 180, 1, 180, 181, 0, 41, 42, 42, 180, 0, 58, 27, 50]
abbrev dktX0_restore_1 : List UInt8 := dkwX0_restore_1 ++ dktX0_restore_2
def dkwX0_restore_0 : List UInt8 := [27, 133, 9, 20, 0, 218, 184, 0, 5, 154, 0, 6, 16, 254, 172, 42, 180, 0, 58, 27, 50, 199, 0, 6]
abbrev dktX0_restore_0 : List UInt8 := dkwX0_restore_0 ++ dktX0_restore_1
theorem dksX0_restore_0 : cX0_restore.data.toList.drop 0 = dktX0_restore_0 := by decide +kernel
theorem dksX0_restore_1 : cX0_restore.data.toList.drop 24 = dktX0_restore_1 := dk_seg dksX0_restore_0 24 rfl rfl
theorem dksX0_restore_2 : cX0_restore.data.toList.drop 47 = dktX0_restore_2 := dk_seg dksX0_restore_1 23 rfl rfl
theorem dksX0_restore_3 : cX0_restore.data.toList.drop 69 = dktX0_restore_3 := dk_seg dksX0_restore_2 22 rfl rfl
theorem dX0_restore_0 : decode cX0_restore 0 = .ok (.iload_n 1, 1) := dk_27 (dk_at dksX0_restore_0 0 rfl rfl)
theorem dX0_restore_1 : decode cX0_restore 1 = .ok (.i2l, 1) := dk_133 (dk_at dksX0_restore_0 1 rfl rfl)
theorem dX0_restore_2 : decode cX0_restore 2 = .ok (.lconst 0, 1) := dk_9 (dk_at dksX0_restore_0 2 rfl rfl)
theorem dX0_restore_3 : decode cX0_restore 3 = .ok (.ldc2_w 218, 3) := dk_20 0 218 (dk_at dksX0_restore_0 3 rfl rfl)
theorem dX0_restore_6 : decode cX0_restore 6 = .ok (.invokestatic 5, 3) := dk_184 0 5 (dk_at dksX0_restore_0 6 rfl rfl)
theorem dX0_restore_9 : decode cX0_restore 9 = .ok (.ifCond .ne 6, 3) := dk_154 0 6 (dk_at dksX0_restore_0 9 rfl rfl)
theorem dX0_restore_12 : decode cX0_restore 12 = .ok (.bipush (-2), 2) := dk_16 254 (dk_at dksX0_restore_0 12 rfl rfl)
theorem dX0_restore_14 : decode cX0_restore 14 = .ok (.ireturn, 1) := dk_172 (dk_at dksX0_restore_0 14 rfl rfl)
theorem dX0_restore_15 : decode cX0_restore 15 = .ok (.aload_n 0, 1) := dk_42 (dk_at dksX0_restore_0 15 rfl rfl)
theorem dX0_restore_16 : decode cX0_restore 16 = .ok (.getfield 58, 3) := dk_180 0 58 (dk_at dksX0_restore_0 16 rfl rfl)
theorem dX0_restore_19 : decode cX0_restore 19 = .ok (.iload_n 1, 1) := dk_27 (dk_at dksX0_restore_0 19 rfl rfl)
theorem dX0_restore_20 : decode cX0_restore 20 = .ok (.aaload, 1) := dk_50 (dk_at dksX0_restore_0 20 rfl rfl)
theorem dX0_restore_21 : decode cX0_restore 21 = .ok (.ifnonnull 6, 3) := dk_199 0 6 (dk_at dksX0_restore_0 21 rfl rfl)
theorem dX0_restore_24 : decode cX0_restore 24 = .ok (.bipush (-6), 2) := dk_16 250 (dk_at dksX0_restore_1 0 rfl rfl)
theorem dX0_restore_26 : decode cX0_restore 26 = .ok (.ireturn, 1) := dk_172 (dk_at dksX0_restore_1 2 rfl rfl)
theorem dX0_restore_27 : decode cX0_restore 27 = .ok (.aload_n 0, 1) := dk_42 (dk_at dksX0_restore_1 3 rfl rfl)
theorem dX0_restore_28 : decode cX0_restore 28 = .ok (.aload_n 0, 1) := dk_42 (dk_at dksX0_restore_1 4 rfl rfl)
theorem dX0_restore_29 : decode cX0_restore 29 = .ok (.getfield 58, 3) := dk_180 0 58 (dk_at dksX0_restore_1 5 rfl rfl)
theorem dX0_restore_32 : decode cX0_restore 32 = .ok (.iload_n 1, 1) := dk_27 (dk_at dksX0_restore_1 8 rfl rfl)
theorem dX0_restore_33 : decode cX0_restore 33 = .ok (.aaload, 1) := dk_50 (dk_at dksX0_restore_1 9 rfl rfl)
theorem dX0_restore_34 : decode cX0_restore 34 = .ok (.getfield 436, 3) := dk_180 1 180 (dk_at dksX0_restore_1 10 rfl rfl)
theorem dX0_restore_37 : decode cX0_restore 37 = .ok (.putfield 41, 3) := dk_181 0 41 (dk_at dksX0_restore_1 13 rfl rfl)
theorem dX0_restore_40 : decode cX0_restore 40 = .ok (.aload_n 0, 1) := dk_42 (dk_at dksX0_restore_1 16 rfl rfl)
theorem dX0_restore_41 : decode cX0_restore 41 = .ok (.aload_n 0, 1) := dk_42 (dk_at dksX0_restore_1 17 rfl rfl)
theorem dX0_restore_42 : decode cX0_restore 42 = .ok (.getfield 58, 3) := dk_180 0 58 (dk_at dksX0_restore_1 18 rfl rfl)
theorem dX0_restore_45 : decode cX0_restore 45 = .ok (.iload_n 1, 1) := dk_27 (dk_at dksX0_restore_1 21 rfl rfl)
theorem dX0_restore_46 : decode cX0_restore 46 = .ok (.aaload, 1) := dk_50 (dk_at dksX0_restore_1 22 rfl rfl)
theorem dX0_restore_47 : decode cX0_restore 47 = .ok (.getfield 439, 3) := dk_180 1 183 (dk_at dksX0_restore_2 0 rfl rfl)
theorem dX0_restore_50 : decode cX0_restore 50 = .ok (.putfield 109, 3) := dk_181 0 109 (dk_at dksX0_restore_2 3 rfl rfl)
theorem dX0_restore_53 : decode cX0_restore 53 = .ok (.aload_n 0, 1) := dk_42 (dk_at dksX0_restore_2 6 rfl rfl)
theorem dX0_restore_54 : decode cX0_restore 54 = .ok (.getfield 58, 3) := dk_180 0 58 (dk_at dksX0_restore_2 7 rfl rfl)
theorem dX0_restore_57 : decode cX0_restore 57 = .ok (.iload_n 1, 1) := dk_27 (dk_at dksX0_restore_2 10 rfl rfl)
theorem dX0_restore_58 : decode cX0_restore 58 = .ok (.aaload, 1) := dk_50 (dk_at dksX0_restore_2 11 rfl rfl)
theorem dX0_restore_59 : decode cX0_restore 59 = .ok (.getfield 440, 3) := dk_180 1 184 (dk_at dksX0_restore_2 12 rfl rfl)
theorem dX0_restore_62 : decode cX0_restore 62 = .ok (.iconst 0, 1) := dk_3 (dk_at dksX0_restore_2 15 rfl rfl)
theorem dX0_restore_63 : decode cX0_restore 63 = .ok (.aload_n 0, 1) := dk_42 (dk_at dksX0_restore_2 16 rfl rfl)
theorem dX0_restore_64 : decode cX0_restore 64 = .ok (.getfield 45, 3) := dk_180 0 45 (dk_at dksX0_restore_2 17 rfl rfl)
theorem dX0_restore_67 : decode cX0_restore 67 = .ok (.iconst 0, 1) := dk_3 (dk_at dksX0_restore_2 20 rfl rfl)
theorem dX0_restore_68 : decode cX0_restore 68 = .ok (.iconst 3, 1) := dk_6 (dk_at dksX0_restore_2 21 rfl rfl)
theorem dX0_restore_69 : decode cX0_restore 69 = .ok (.invokestatic 441, 3) := dk_184 1 185 (dk_at dksX0_restore_3 0 rfl rfl)
theorem dX0_restore_72 : decode cX0_restore 72 = .ok (.iconst 0, 1) := dk_3 (dk_at dksX0_restore_3 3 rfl rfl)
theorem dX0_restore_73 : decode cX0_restore 73 = .ok (.ireturn, 1) := dk_172 (dk_at dksX0_restore_3 4 rfl rfl)
theorem q133 : (Jvm.Cond.initialized "FloodLent") ∈ lw_all := lw_g (lw_at lw_m1 1 rfl) rfl
theorem q167 : (Jvm.Cond.instanceMethod ({ cls := "FloodLent", name := "row", desc := "(III)I" } : Jvm.MethodName)) ∈ lw_all := lw_g (lw_at lw_m1 35 rfl) rfl
theorem q168 : (Jvm.Cond.selects "FloodLent" ({ cls := "FloodLent", name := "row", desc := "(III)I" } : Jvm.MethodName) ({ cls := "FloodLent", name := "row", desc := "(III)I" } : Jvm.MethodName)) ∈ lw_all := lw_g (lw_at lw_m1 36 rfl) rfl
theorem q169 : (Jvm.Cond.code ({ cls := "FloodLent", name := "row", desc := "(III)I" } : Jvm.MethodName) prog_1_method_4_code (4 : Nat) (Option.some Jvm.ClassFile.FieldType.int)) ∈ lw_all := lw_g (lw_at lw_m1 37 rfl) rfl
theorem q170 : (Jvm.Cond.methodLink "FloodLent" (9 : Nat) ({ cls := "FloodLent", name := "isSlot", desc := "(I)Z" } : Jvm.MethodName)) ∈ lw_all := lw_g (lw_at lw_m1 38 rfl) rfl
theorem q171 : (Jvm.Cond.static ({ cls := "FloodLent", name := "isSlot", desc := "(I)Z" } : Jvm.MethodName)) ∈ lw_all := lw_g (lw_at lw_m1 39 rfl) rfl
theorem q172 : (Jvm.Cond.code ({ cls := "FloodLent", name := "isSlot", desc := "(I)Z" } : Jvm.MethodName) prog_1_method_3_code (1 : Nat) (Option.some Jvm.ClassFile.FieldType.boolean)) ∈ lw_all := lw_g (lw_at lw_m1 40 rfl) rfl
theorem q173 : (Jvm.Cond.constantLong "FloodLent" (3 : Nat) (3 : Int64)) ∈ lw_all := lw_g (lw_at lw_m1 41 rfl) rfl
theorem q174 : (Jvm.Cond.methodLink "FloodLent" (5 : Nat) ({ cls := "FloodLent", name := "in", desc := "(JJJ)Z" } : Jvm.MethodName)) ∈ lw_all := lw_g (lw_at lw_m1 42 rfl) rfl
theorem q175 : (Jvm.Cond.static ({ cls := "FloodLent", name := "in", desc := "(JJJ)Z" } : Jvm.MethodName)) ∈ lw_all := lw_g (lw_at lw_m1 43 rfl) rfl
theorem q176 : (Jvm.Cond.code ({ cls := "FloodLent", name := "in", desc := "(JJJ)Z" } : Jvm.MethodName) prog_1_method_1_code (6 : Nat) (Option.some Jvm.ClassFile.FieldType.boolean)) ∈ lw_all := lw_g (lw_at lw_m1 44 rfl) rfl
theorem q177 : (Jvm.Cond.methodLink "FloodLent" (17 : Nat) ({ cls := "FloodLent$Slot", name := "begins", desc := "(II)Z" } : Jvm.MethodName)) ∈ lw_all := lw_g (lw_at lw_m1 45 rfl) rfl
theorem q273 : (Jvm.Cond.instanceMethod ({ cls := "FloodLent", name := "write", desc := "(IIJ)I" } : Jvm.MethodName)) ∈ lw_all := lw_g (lw_at lw_m1 141 rfl) rfl
theorem q274 : (Jvm.Cond.selects "FloodLent" ({ cls := "FloodLent", name := "write", desc := "(IIJ)I" } : Jvm.MethodName) ({ cls := "FloodLent", name := "write", desc := "(IIJ)I" } : Jvm.MethodName)) ∈ lw_all := lw_g (lw_at lw_m1 142 rfl) rfl
theorem q275 : (Jvm.Cond.code ({ cls := "FloodLent", name := "write", desc := "(IIJ)I" } : Jvm.MethodName) prog_1_method_5_code (5 : Nat) (Option.some Jvm.ClassFile.FieldType.int)) ∈ lw_all := lw_g (lw_at lw_m1 143 rfl) rfl
theorem q276 : (Jvm.Cond.methodLink "FloodLent" (23 : Nat) ({ cls := "FloodLent$Slot", name := "puts", desc := "(IJ)I" } : Jvm.MethodName)) ∈ lw_all := lw_g (lw_at lw_m1 144 rfl) rfl
theorem q352 : (Jvm.Cond.instanceMethod ({ cls := "FloodLent", name := "paste", desc := "(IIIII)I" } : Jvm.MethodName)) ∈ lw_all := lw_g (lw_at lw_m1 220 rfl) rfl
theorem q353 : (Jvm.Cond.selects "FloodLent" ({ cls := "FloodLent", name := "paste", desc := "(IIIII)I" } : Jvm.MethodName) ({ cls := "FloodLent", name := "paste", desc := "(IIIII)I" } : Jvm.MethodName)) ∈ lw_all := lw_g (lw_at lw_m1 221 rfl) rfl
theorem q354 : (Jvm.Cond.code ({ cls := "FloodLent", name := "paste", desc := "(IIIII)I" } : Jvm.MethodName) prog_1_method_6_code (6 : Nat) (Option.some Jvm.ClassFile.FieldType.int)) ∈ lw_all := lw_g (lw_at lw_m1 222 rfl) rfl
theorem q355 : (Jvm.Cond.methodLink "FloodLent" (27 : Nat) ({ cls := "FloodLent$Slot", name := "pastes", desc := "(ILFloodLent$Slot;II)I" } : Jvm.MethodName)) ∈ lw_all := lw_g (lw_at lw_m1 223 rfl) rfl
theorem q368 : (Jvm.Cond.instantiable "FloodLent" (16 : Nat)) ∈ lw_all := lw_g (lw_at lw_m1 236 rfl) rfl
theorem q370 : (Jvm.Cond.instanceMethod ({ cls := "FloodLent", name := "<init>", desc := "()V" } : Jvm.MethodName)) ∈ lw_all := lw_g (lw_at lw_m1 238 rfl) rfl
theorem q371 : (Jvm.Cond.code ({ cls := "FloodLent", name := "<init>", desc := "()V" } : Jvm.MethodName) prog_1_method_7_code (1 : Nat) (Option.none : Option Jvm.ClassFile.FieldType)) ∈ lw_all := lw_g (lw_at lw_m1 239 rfl) rfl
theorem q372 : (Jvm.Cond.methodLink "FloodLent" (31 : Nat) ({ cls := "java/lang/Object", name := "<init>", desc := "()V" } : Jvm.MethodName)) ∈ lw_all := lw_g (lw_at lw_m2 0 rfl) rfl
theorem q373 : (Jvm.Cond.classLink "FloodLent" (18 : Nat) "FloodLent$Slot") ∈ lw_all := lw_g (lw_at lw_m2 1 rfl) rfl
theorem q375 : (Jvm.Cond.methodLinkNest "FloodLent" (37 : Nat) ({ cls := "FloodLent$Slot", name := "<init>", desc := "()V" } : Jvm.MethodName) "FloodLent") ∈ lw_tbl := lw_at lw_m2 3 rfl
theorem q380 : (Jvm.Cond.fieldLinkNest "FloodLent" (320 : Nat) "FloodLent$Slot" "held" "Ljava/lang/Object;" "FloodLent") ∈ lw_tbl := lw_at lw_m2 8 rfl
theorem q384 : (Jvm.Cond.classLink "FloodLent" (38 : Nat) "FloodLent$Plain") ∈ lw_all := lw_g (lw_at lw_m2 12 rfl) rfl
theorem q386 : (Jvm.Cond.methodLinkNest "FloodLent" (40 : Nat) ({ cls := "FloodLent$Plain", name := "<init>", desc := "()V" } : Jvm.MethodName) "FloodLent") ∈ lw_tbl := lw_at lw_m2 14 rfl
theorem q421 : (Jvm.Cond.fieldLinkNest "FloodLent" (130 : Nat) "FloodLent$Plain" "villages" "Ljava/util/List;" "FloodLent") ∈ lw_tbl := lw_at lw_m2 49 rfl
theorem q425 : (Jvm.Cond.fieldLinkNest "FloodLent" (215 : Nat) "FloodLent$Plain" "crops" "Ljava/util/List;" "FloodLent") ∈ lw_tbl := lw_at lw_m2 53 rfl
theorem q429 : (Jvm.Cond.fieldLinkNest "FloodLent" (149 : Nat) "FloodLent$Plain" "floods" "Ljava/util/List;" "FloodLent") ∈ lw_tbl := lw_at lw_m2 57 rfl
theorem q433 : (Jvm.Cond.fieldLinkNest "FloodLent" (203 : Nat) "FloodLent$Plain" "loans" "Ljava/util/List;" "FloodLent") ∈ lw_tbl := lw_at lw_m2 61 rfl
theorem q439 : (Jvm.Cond.fieldLinkNest "FloodLent" (146 : Nat) "FloodLent$Plain" "weeks" "I" "FloodLent") ∈ lw_tbl := lw_at lw_m2 67 rfl
theorem q440 : (Jvm.Cond.fieldLinkNest "FloodLent" (106 : Nat) "FloodLent$Plain" "more" "I" "FloodLent") ∈ lw_tbl := lw_at lw_m2 68 rfl
theorem q444 : (Jvm.Cond.fieldLinkNest "FloodLent" (432 : Nat) "FloodLent$Plain" "back" "I" "FloodLent") ∈ lw_tbl := lw_at lw_m2 72 rfl
theorem q446 : (Jvm.Cond.fieldLinkNest "FloodLent" (119 : Nat) "FloodLent$Plain" "lines" "I" "FloodLent") ∈ lw_tbl := lw_at lw_m2 74 rfl
theorem q467 : (Jvm.Cond.classLink "FloodLent" (49 : Nat) "FloodLent$Year") ∈ lw_all := lw_g (lw_at lw_m2 95 rfl) rfl
theorem q469 : (Jvm.Cond.methodLinkNest "FloodLent" (51 : Nat) ({ cls := "FloodLent$Year", name := "<init>", desc := "()V" } : Jvm.MethodName) "FloodLent") ∈ lw_tbl := lw_at lw_m2 97 rfl
theorem q477 : (Jvm.Cond.fieldLinkNest "FloodLent" (191 : Nat) "FloodLent$Year" "behind" "[[I" "FloodLent") ∈ lw_tbl := lw_at lw_m2 105 rfl
theorem q479 : (Jvm.Cond.fieldLinkNest "FloodLent" (229 : Nat) "FloodLent$Year" "water" "[I" "FloodLent") ∈ lw_tbl := lw_at lw_m2 107 rfl
theorem q482 : (Jvm.Cond.fieldLinkNest "FloodLent" (194 : Nat) "FloodLent$Year" "taken" "[I" "FloodLent") ∈ lw_tbl := lw_at lw_m2 110 rfl
theorem q484 : (Jvm.Cond.fieldLinkNest "FloodLent" (197 : Nat) "FloodLent$Year" "owedFlood" "[I" "FloodLent") ∈ lw_tbl := lw_at lw_m2 112 rfl
theorem q486 : (Jvm.Cond.fieldLinkNest "FloodLent" (200 : Nat) "FloodLent$Year" "paidFlood" "[I" "FloodLent") ∈ lw_tbl := lw_at lw_m2 114 rfl
theorem q488 : (Jvm.Cond.fieldLinkNest "FloodLent" (206 : Nat) "FloodLent$Year" "lent" "[I" "FloodLent") ∈ lw_tbl := lw_at lw_m2 116 rfl
theorem q490 : (Jvm.Cond.fieldLinkNest "FloodLent" (209 : Nat) "FloodLent$Year" "owed" "[I" "FloodLent") ∈ lw_tbl := lw_at lw_m2 118 rfl
theorem q492 : (Jvm.Cond.fieldLinkNest "FloodLent" (212 : Nat) "FloodLent$Year" "paid" "[I" "FloodLent") ∈ lw_tbl := lw_at lw_m2 120 rfl
theorem q494 : (Jvm.Cond.fieldLinkNest "FloodLent" (220 : Nat) "FloodLent$Year" "brought" "[I" "FloodLent") ∈ lw_tbl := lw_at lw_m2 122 rfl
theorem q496 : (Jvm.Cond.fieldLinkNest "FloodLent" (223 : Nat) "FloodLent$Year" "dry" "[I" "FloodLent") ∈ lw_tbl := lw_at lw_m2 124 rfl
theorem q498 : (Jvm.Cond.fieldLinkNest "FloodLent" (226 : Nat) "FloodLent$Year" "firstDry" "[I" "FloodLent") ∈ lw_tbl := lw_at lw_m2 126 rfl
theorem q502 : (Jvm.Cond.fieldLinkNest "FloodLent" (289 : Nat) "FloodLent$Year" "comes" "I" "FloodLent") ∈ lw_tbl := lw_at lw_m2 130 rfl
theorem q505 : (Jvm.Cond.fieldLinkNest "FloodLent" (242 : Nat) "FloodLent$Year" "sky" "I" "FloodLent") ∈ lw_tbl := lw_at lw_m2 133 rfl
theorem q507 : (Jvm.Cond.fieldLinkNest "FloodLent" (245 : Nat) "FloodLent$Year" "sea" "I" "FloodLent") ∈ lw_tbl := lw_at lw_m2 135 rfl
theorem q509 : (Jvm.Cond.fieldLinkNest "FloodLent" (248 : Nat) "FloodLent$Year" "drunk" "I" "FloodLent") ∈ lw_tbl := lw_at lw_m2 137 rfl
theorem q511 : (Jvm.Cond.fieldLinkNest "FloodLent" (258 : Nat) "FloodLent$Year" "bad" "I" "FloodLent") ∈ lw_tbl := lw_at lw_m2 139 rfl
theorem q513 : (Jvm.Cond.fieldLinkNest "FloodLent" (346 : Nat) "FloodLent$Year" "miser" "I" "FloodLent") ∈ lw_tbl := lw_at lw_m2 141 rfl
theorem q515 : (Jvm.Cond.fieldLinkNest "FloodLent" (404 : Nat) "FloodLent$Year" "other" "I" "FloodLent") ∈ lw_tbl := lw_at lw_m2 143 rfl
theorem q517 : (Jvm.Cond.fieldLinkNest "FloodLent" (407 : Nat) "FloodLent$Year" "otherWater" "I" "FloodLent") ∈ lw_tbl := lw_at lw_m2 145 rfl
theorem q565 : (Jvm.Cond.classLink "FloodLent" (56 : Nat) "FloodLent$Image") ∈ lw_all := lw_g (lw_at lw_m2 193 rfl) rfl
theorem q567 : (Jvm.Cond.classLink "FloodLent" (73 : Nat) "[[I") ∈ lw_all := lw_g (lw_at lw_m2 195 rfl) rfl
theorem q568 : (Jvm.Cond.classLink "FloodLent" (81 : Nat) "FloodLent$Rings") ∈ lw_all := lw_g (lw_at lw_m2 196 rfl) rfl
theorem q570 : (Jvm.Cond.methodLinkNest "FloodLent" (83 : Nat) ({ cls := "FloodLent$Rings", name := "<init>", desc := "(LFloodLent;)V" } : Jvm.MethodName) "FloodLent") ∈ lw_tbl := lw_at lw_m2 198 rfl
theorem q577 : (Jvm.Cond.fieldLinkNest "FloodLent" (368 : Nat) "FloodLent$Rings" "cleared" "[I" "FloodLent") ∈ lw_tbl := lw_at lw_m2 205 rfl
theorem q580 : (Jvm.Cond.fieldLinkNest "FloodLent" (363 : Nat) "FloodLent$Rings" "many" "I" "FloodLent") ∈ lw_tbl := lw_at lw_m2 208 rfl
theorem q582 : (Jvm.Cond.fieldLinkNest "FloodLent" (365 : Nat) "FloodLent$Rings" "less" "I" "FloodLent") ∈ lw_tbl := lw_at lw_m2 210 rfl
theorem q599 : (Jvm.Cond.fieldLink "FloodLent" (13 : Nat) "FloodLent" "slots" "[LFloodLent$Slot;") ∈ lw_all := lw_g (lw_at lw_m2 227 rfl) rfl
theorem q600 : (Jvm.Cond.fieldLink "FloodLent" (41 : Nat) "FloodLent" "now" "LFloodLent$Plain;") ∈ lw_all := lw_g (lw_at lw_m2 228 rfl) rfl
theorem q601 : (Jvm.Cond.fieldLink "FloodLent" (109 : Nat) "FloodLent" "more" "I") ∈ lw_all := lw_g (lw_at lw_m2 229 rfl) rfl
theorem q602 : (Jvm.Cond.fieldLink "FloodLent" (45 : Nat) "FloodLent" "takers" "[I") ∈ lw_all := lw_g (lw_at lw_m2 230 rfl) rfl
theorem q603 : (Jvm.Cond.fieldLink "FloodLent" (52 : Nat) "FloodLent" "year" "LFloodLent$Year;") ∈ lw_all := lw_g (lw_at lw_m2 231 rfl) rfl
theorem q604 : (Jvm.Cond.fieldLink "FloodLent" (58 : Nat) "FloodLent" "images" "[LFloodLent$Image;") ∈ lw_all := lw_g (lw_at lw_m2 232 rfl) rfl
theorem q605 : (Jvm.Cond.fieldLink "FloodLent" (62 : Nat) "FloodLent" "tape" "[B") ∈ lw_all := lw_g (lw_at lw_m2 233 rfl) rfl
theorem q606 : (Jvm.Cond.fieldLink "FloodLent" (90 : Nat) "FloodLent" "taped" "I") ∈ lw_all := lw_g (lw_at lw_m2 234 rfl) rfl
theorem q607 : (Jvm.Cond.fieldLink "FloodLent" (116 : Nat) "FloodLent" "faultKind" "I") ∈ lw_all := lw_g (lw_at lw_m2 235 rfl) rfl
theorem q608 : (Jvm.Cond.fieldLink "FloodLent" (66 : Nat) "FloodLent" "faultPlace" "I") ∈ lw_all := lw_g (lw_at lw_m2 236 rfl) rfl
theorem q609 : (Jvm.Cond.fieldLink "FloodLent" (70 : Nat) "FloodLent" "trial" "[I") ∈ lw_all := lw_g (lw_at lw_m2 237 rfl) rfl
theorem q610 : (Jvm.Cond.fieldLink "FloodLent" (265 : Nat) "FloodLent" "bestBrought" "I") ∈ lw_all := lw_g (lw_at lw_m2 238 rfl) rfl
theorem q611 : (Jvm.Cond.fieldLink "FloodLent" (313 : Nat) "FloodLent" "most" "J") ∈ lw_all := lw_g (lw_at lw_m2 239 rfl) rfl
theorem q613 : (Jvm.Cond.fieldLink "FloodLent" (75 : Nat) "FloodLent" "debt" "[[I") ∈ lw_all := lw_g (lw_at lw_m3 1 rfl) rfl
theorem q614 : (Jvm.Cond.fieldLink "FloodLent" (78 : Nat) "FloodLent" "paying" "[[I") ∈ lw_all := lw_g (lw_at lw_m3 2 rfl) rfl
theorem q615 : (Jvm.Cond.fieldLink "FloodLent" (86 : Nat) "FloodLent" "rings" "LFloodLent$Rings;") ∈ lw_all := lw_g (lw_at lw_m3 3 rfl) rfl
theorem q616 : (Jvm.Cond.laysFinal "FloodLent" "FloodLent" "slots" "[LFloodLent$Slot;") ∈ lw_all := lw_g (lw_at lw_m3 4 rfl) rfl
theorem q617 : (Jvm.Cond.soleField "FloodLent" "slots") ∈ lw_all := lw_g (lw_at lw_m3 5 rfl) rfl
theorem q618 : (Jvm.Cond.lays "FloodLent" "FloodLent" "now" "LFloodLent$Plain;") ∈ lw_all := lw_g (lw_at lw_m3 6 rfl) rfl
theorem q619 : (Jvm.Cond.soleField "FloodLent" "now") ∈ lw_all := lw_g (lw_at lw_m3 7 rfl) rfl
theorem q620 : (Jvm.Cond.lays "FloodLent" "FloodLent" "more" "I") ∈ lw_all := lw_g (lw_at lw_m3 8 rfl) rfl
theorem q621 : (Jvm.Cond.soleField "FloodLent" "more") ∈ lw_all := lw_g (lw_at lw_m3 9 rfl) rfl
theorem q622 : (Jvm.Cond.laysFinal "FloodLent" "FloodLent" "takers" "[I") ∈ lw_all := lw_g (lw_at lw_m3 10 rfl) rfl
theorem q623 : (Jvm.Cond.soleField "FloodLent" "takers") ∈ lw_all := lw_g (lw_at lw_m3 11 rfl) rfl
theorem q624 : (Jvm.Cond.laysFinal "FloodLent" "FloodLent" "year" "LFloodLent$Year;") ∈ lw_all := lw_g (lw_at lw_m3 12 rfl) rfl
theorem q625 : (Jvm.Cond.soleField "FloodLent" "year") ∈ lw_all := lw_g (lw_at lw_m3 13 rfl) rfl
theorem q626 : (Jvm.Cond.laysFinal "FloodLent" "FloodLent" "images" "[LFloodLent$Image;") ∈ lw_all := lw_g (lw_at lw_m3 14 rfl) rfl
theorem q627 : (Jvm.Cond.soleField "FloodLent" "images") ∈ lw_all := lw_g (lw_at lw_m3 15 rfl) rfl
theorem q628 : (Jvm.Cond.laysFinal "FloodLent" "FloodLent" "tape" "[B") ∈ lw_all := lw_g (lw_at lw_m3 16 rfl) rfl
theorem q629 : (Jvm.Cond.soleField "FloodLent" "tape") ∈ lw_all := lw_g (lw_at lw_m3 17 rfl) rfl
theorem q630 : (Jvm.Cond.lays "FloodLent" "FloodLent" "taped" "I") ∈ lw_all := lw_g (lw_at lw_m3 18 rfl) rfl
theorem q631 : (Jvm.Cond.soleField "FloodLent" "taped") ∈ lw_all := lw_g (lw_at lw_m3 19 rfl) rfl
theorem q632 : (Jvm.Cond.lays "FloodLent" "FloodLent" "faultKind" "I") ∈ lw_all := lw_g (lw_at lw_m3 20 rfl) rfl
theorem q633 : (Jvm.Cond.soleField "FloodLent" "faultKind") ∈ lw_all := lw_g (lw_at lw_m3 21 rfl) rfl
theorem q634 : (Jvm.Cond.lays "FloodLent" "FloodLent" "faultPlace" "I") ∈ lw_all := lw_g (lw_at lw_m3 22 rfl) rfl
theorem q635 : (Jvm.Cond.soleField "FloodLent" "faultPlace") ∈ lw_all := lw_g (lw_at lw_m3 23 rfl) rfl
theorem q636 : (Jvm.Cond.laysFinal "FloodLent" "FloodLent" "trial" "[I") ∈ lw_all := lw_g (lw_at lw_m3 24 rfl) rfl
theorem q637 : (Jvm.Cond.soleField "FloodLent" "trial") ∈ lw_all := lw_g (lw_at lw_m3 25 rfl) rfl
theorem q638 : (Jvm.Cond.lays "FloodLent" "FloodLent" "bestBrought" "I") ∈ lw_all := lw_g (lw_at lw_m3 26 rfl) rfl
theorem q639 : (Jvm.Cond.soleField "FloodLent" "bestBrought") ∈ lw_all := lw_g (lw_at lw_m3 27 rfl) rfl
theorem q640 : (Jvm.Cond.lays "FloodLent" "FloodLent" "most" "J") ∈ lw_all := lw_g (lw_at lw_m3 28 rfl) rfl
theorem q641 : (Jvm.Cond.soleField "FloodLent" "most") ∈ lw_all := lw_g (lw_at lw_m3 29 rfl) rfl
theorem q642 : (Jvm.Cond.laysFinal "FloodLent" "FloodLent" "debt" "[[I") ∈ lw_all := lw_g (lw_at lw_m3 30 rfl) rfl
theorem q643 : (Jvm.Cond.soleField "FloodLent" "debt") ∈ lw_all := lw_g (lw_at lw_m3 31 rfl) rfl
theorem q644 : (Jvm.Cond.laysFinal "FloodLent" "FloodLent" "paying" "[[I") ∈ lw_all := lw_g (lw_at lw_m3 32 rfl) rfl
theorem q645 : (Jvm.Cond.soleField "FloodLent" "paying") ∈ lw_all := lw_g (lw_at lw_m3 33 rfl) rfl
theorem q646 : (Jvm.Cond.laysFinal "FloodLent" "FloodLent" "rings" "LFloodLent$Rings;") ∈ lw_all := lw_g (lw_at lw_m3 34 rfl) rfl
theorem q647 : (Jvm.Cond.soleField "FloodLent" "rings") ∈ lw_all := lw_g (lw_at lw_m3 35 rfl) rfl
theorem q648 : (Jvm.Cond.superclass "FloodLent" "java/lang/Object") ∈ lw_all := lw_g (lw_at lw_m3 36 rfl) rfl
theorem q650 : (Jvm.Cond.instanceMethod ({ cls := "FloodLent", name := "feed", desc := "(IIIII)I" } : Jvm.MethodName)) ∈ lw_all := lw_g (lw_at lw_m3 38 rfl) rfl
theorem q651 : (Jvm.Cond.selects "FloodLent" ({ cls := "FloodLent", name := "feed", desc := "(IIIII)I" } : Jvm.MethodName) ({ cls := "FloodLent", name := "feed", desc := "(IIIII)I" } : Jvm.MethodName)) ∈ lw_all := lw_g (lw_at lw_m3 39 rfl) rfl
theorem q652 : (Jvm.Cond.code ({ cls := "FloodLent", name := "feed", desc := "(IIIII)I" } : Jvm.MethodName) prog_1_method_8_code (8 : Nat) (Option.some Jvm.ClassFile.FieldType.int)) ∈ lw_all := lw_g (lw_at lw_m3 40 rfl) rfl
theorem q654 : (Jvm.Cond.instanceMethod ({ cls := "FloodLent", name := "end", desc := "(I)I" } : Jvm.MethodName)) ∈ lw_all := lw_g (lw_at lw_m3 42 rfl) rfl
theorem q655 : (Jvm.Cond.selects "FloodLent" ({ cls := "FloodLent", name := "end", desc := "(I)I" } : Jvm.MethodName) ({ cls := "FloodLent", name := "end", desc := "(I)I" } : Jvm.MethodName)) ∈ lw_all := lw_g (lw_at lw_m3 43 rfl) rfl
theorem q656 : (Jvm.Cond.code ({ cls := "FloodLent", name := "end", desc := "(I)I" } : Jvm.MethodName) prog_1_method_9_code (2 : Nat) (Option.some Jvm.ClassFile.FieldType.int)) ∈ lw_all := lw_g (lw_at lw_m3 44 rfl) rfl
theorem q658 : (Jvm.Cond.instanceMethod ({ cls := "FloodLent", name := "plain", desc := "()I" } : Jvm.MethodName)) ∈ lw_all := lw_g (lw_at lw_m3 46 rfl) rfl
theorem q659 : (Jvm.Cond.selects "FloodLent" ({ cls := "FloodLent", name := "plain", desc := "()I" } : Jvm.MethodName) ({ cls := "FloodLent", name := "plain", desc := "()I" } : Jvm.MethodName)) ∈ lw_all := lw_g (lw_at lw_m3 47 rfl) rfl
theorem q660 : (Jvm.Cond.codeWith ({ cls := "FloodLent", name := "plain", desc := "()I" } : Jvm.MethodName) prog_1_method_10_code (4 : Nat) (Option.some Jvm.ClassFile.FieldType.int) [((0 : Nat), (78 : Nat), (85 : Nat), (122 : Nat)), ((0 : Nat), (78 : Nat), (112 : Nat), (0 : Nat)), ((85 : Nat), (105 : Nat), (112 : Nat), (0 : Nat))]) ∈ lw_all := lw_g (lw_at lw_m3 48 rfl) rfl
theorem q661 : (Jvm.Cond.classLink "FloodLent" (122 : Nat) "FloodLent$Fault") ∈ lw_all := lw_g (lw_at lw_m3 49 rfl) rfl
theorem q662 : (Jvm.Cond.classLink "FloodLent" (93 : Nat) "FloodLent$Reader") ∈ lw_all := lw_g (lw_at lw_m3 50 rfl) rfl
theorem q664 : (Jvm.Cond.methodLink "FloodLent" (95 : Nat) ({ cls := "FloodLent$Reader", name := "<init>", desc := "([BI)V" } : Jvm.MethodName)) ∈ lw_all := lw_g (lw_at lw_m3 52 rfl) rfl
theorem q705 : (Jvm.Cond.methodLink "FloodLent" (98 : Nat) ({ cls := "FloodLent$Reader", name := "reads", desc := "()LFloodLent$Plain;" } : Jvm.MethodName)) ∈ lw_all := lw_g (lw_at lw_m3 93 rfl) rfl
theorem q796 : (Jvm.Cond.fieldLinkNest "FloodLent" (124 : Nat) "FloodLent$Fault" "kind" "I" "FloodLent") ∈ lw_tbl := lw_at lw_m3 184 rfl
theorem q798 : (Jvm.Cond.fieldLinkNest "FloodLent" (127 : Nat) "FloodLent$Fault" "place" "I" "FloodLent") ∈ lw_tbl := lw_at lw_m3 186 rfl
theorem q855 : (Jvm.Cond.fieldLinkNest "FloodLent" (167 : Nat) "FloodLent$Village" "pond" "I" "FloodLent") ∈ lw_tbl := lw_at lw_m4 3 rfl
theorem q858 : (Jvm.Cond.fieldLinkNest "FloodLent" (170 : Nat) "FloodLent$Village" "water" "I" "FloodLent") ∈ lw_tbl := lw_at lw_m4 6 rfl
theorem q861 : (Jvm.Cond.fieldLinkNest "FloodLent" (173 : Nat) "FloodLent$Village" "face" "I" "FloodLent") ∈ lw_tbl := lw_at lw_m4 9 rfl
theorem q864 : (Jvm.Cond.fieldLinkNest "FloodLent" (176 : Nat) "FloodLent$Village" "seep" "I" "FloodLent") ∈ lw_tbl := lw_at lw_m4 12 rfl
theorem q866 : (Jvm.Cond.fieldLinkNest "FloodLent" (179 : Nat) "FloodLent$Village" "cost" "I" "FloodLent") ∈ lw_tbl := lw_at lw_m4 14 rfl
theorem q917 : (Jvm.Cond.selects "FloodLent" ({ cls := "java/lang/Object", name := "getClass", desc := "()Ljava/lang/Class;" } : Jvm.MethodName) ({ cls := "java/lang/Object", name := "getClass", desc := "()Ljava/lang/Class;" } : Jvm.MethodName)) ∈ lw_all := lw_g (lw_at lw_m4 65 rfl) rfl
theorem q964 : (Jvm.Cond.fieldLinkNest "FloodLent" (392 : Nat) "FloodLent$Crop" "village" "I" "FloodLent") ∈ lw_tbl := lw_at lw_m4 112 rfl
theorem q967 : (Jvm.Cond.fieldLinkNest "FloodLent" (398 : Nat) "FloodLent$Crop" "drinks" "I" "FloodLent") ∈ lw_tbl := lw_at lw_m4 115 rfl
theorem q1001 : (Jvm.Cond.fieldLinkNest "FloodLent" (395 : Nat) "FloodLent$Lent" "to" "I" "FloodLent") ∈ lw_tbl := lw_at lw_m4 149 rfl
theorem q1009 : (Jvm.Cond.fieldLinkNest "FloodLent" (286 : Nat) "FloodLent$Lent" "odds" "I" "FloodLent") ∈ lw_tbl := lw_at lw_m4 157 rfl
theorem q1052 : (Jvm.Cond.methodLink "FloodLent" (102 : Nat) ({ cls := "FloodLent$Plain", name := "is", desc := "()Z" } : Jvm.MethodName)) ∈ lw_all := lw_g (lw_at lw_m4 200 rfl) rfl
theorem q1056 : (Jvm.Cond.methodLink "FloodLent" (110 : Nat) ({ cls := "java/util/Arrays", name := "fill", desc := "([II)V" } : Jvm.MethodName)) ∈ lw_all := lw_g (lw_at lw_m4 204 rfl) rfl
theorem q1060 : (Jvm.Cond.instanceMethod ({ cls := "FloodLent", name := "fault", desc := "(I)I" } : Jvm.MethodName)) ∈ lw_all := lw_g (lw_at lw_m4 208 rfl) rfl
theorem q1061 : (Jvm.Cond.selects "FloodLent" ({ cls := "FloodLent", name := "fault", desc := "(I)I" } : Jvm.MethodName) ({ cls := "FloodLent", name := "fault", desc := "(I)I" } : Jvm.MethodName)) ∈ lw_all := lw_g (lw_at lw_m4 209 rfl) rfl
theorem q1062 : (Jvm.Cond.code ({ cls := "FloodLent", name := "fault", desc := "(I)I" } : Jvm.MethodName) prog_1_method_11_code (2 : Nat) (Option.some Jvm.ClassFile.FieldType.int)) ∈ lw_all := lw_g (lw_at lw_m4 210 rfl) rfl
theorem q1064 : (Jvm.Cond.instanceMethod ({ cls := "FloodLent", name := "village", desc := "(II)I" } : Jvm.MethodName)) ∈ lw_all := lw_g (lw_at lw_m4 212 rfl) rfl
theorem q1065 : (Jvm.Cond.selects "FloodLent" ({ cls := "FloodLent", name := "village", desc := "(II)I" } : Jvm.MethodName) ({ cls := "FloodLent", name := "village", desc := "(II)I" } : Jvm.MethodName)) ∈ lw_all := lw_g (lw_at lw_m4 213 rfl) rfl
theorem q1066 : (Jvm.Cond.code ({ cls := "FloodLent", name := "village", desc := "(II)I" } : Jvm.MethodName) prog_1_method_18_code (4 : Nat) (Option.some Jvm.ClassFile.FieldType.int)) ∈ lw_all := lw_g (lw_at lw_m4 214 rfl) rfl
theorem q1067 : (Jvm.Cond.methodLink "FloodLent" (142 : Nat) ({ cls := "FloodLent", name := "isVillage", desc := "(J)Z" } : Jvm.MethodName)) ∈ lw_all := lw_g (lw_at lw_m4 215 rfl) rfl
theorem q1068 : (Jvm.Cond.privateMethod ({ cls := "FloodLent", name := "isVillage", desc := "(J)Z" } : Jvm.MethodName)) ∈ lw_tbl := lw_at lw_m4 216 rfl
theorem q1069 : (Jvm.Cond.instanceMethod ({ cls := "FloodLent", name := "isVillage", desc := "(J)Z" } : Jvm.MethodName)) ∈ lw_all := lw_g (lw_at lw_m4 217 rfl) rfl
theorem q1070 : (Jvm.Cond.code ({ cls := "FloodLent", name := "isVillage", desc := "(J)Z" } : Jvm.MethodName) prog_1_method_13_code (3 : Nat) (Option.some Jvm.ClassFile.FieldType.boolean)) ∈ lw_all := lw_g (lw_at lw_m4 218 rfl) rfl
theorem q1071 : (Jvm.Cond.methodLink "FloodLent" (140 : Nat) ({ cls := "FloodLent", name := "villages", desc := "()I" } : Jvm.MethodName)) ∈ lw_all := lw_g (lw_at lw_m4 219 rfl) rfl
theorem q1072 : (Jvm.Cond.privateMethod ({ cls := "FloodLent", name := "villages", desc := "()I" } : Jvm.MethodName)) ∈ lw_tbl := lw_at lw_m4 220 rfl
theorem q1073 : (Jvm.Cond.instanceMethod ({ cls := "FloodLent", name := "villages", desc := "()I" } : Jvm.MethodName)) ∈ lw_all := lw_g (lw_at lw_m4 221 rfl) rfl
theorem q1074 : (Jvm.Cond.code ({ cls := "FloodLent", name := "villages", desc := "()I" } : Jvm.MethodName) prog_1_method_12_code (1 : Nat) (Option.some Jvm.ClassFile.FieldType.int)) ∈ lw_all := lw_g (lw_at lw_m4 222 rfl) rfl
theorem q1075 : (Jvm.Cond.interfaceEntry "FloodLent" (134 : Nat)) ∈ lw_tbl := lw_at lw_m4 223 rfl
theorem q1076 : (Jvm.Cond.methodLink "FloodLent" (134 : Nat) ({ cls := "java/util/List", name := "size", desc := "()I" } : Jvm.MethodName)) ∈ lw_all := lw_g (lw_at lw_m4 224 rfl) rfl
theorem q1077 : (Jvm.Cond.constantLong "FloodLent" (159 : Nat) (4 : Int64)) ∈ lw_all := lw_g (lw_at lw_m4 225 rfl) rfl
theorem q1078 : (Jvm.Cond.interfaceEntry "FloodLent" (161 : Nat)) ∈ lw_tbl := lw_at lw_m4 226 rfl
theorem q1079 : (Jvm.Cond.methodLink "FloodLent" (161 : Nat) ({ cls := "java/util/List", name := "get", desc := "(I)Ljava/lang/Object;" } : Jvm.MethodName)) ∈ lw_all := lw_g (lw_at lw_m4 227 rfl) rfl
theorem q1080 : (Jvm.Cond.classLink "FloodLent" (165 : Nat) "FloodLent$Village") ∈ lw_all := lw_g (lw_at lw_m4 228 rfl) rfl
theorem q1082 : (Jvm.Cond.instanceMethod ({ cls := "FloodLent", name := "takes", desc := "(II)I" } : Jvm.MethodName)) ∈ lw_all := lw_g (lw_at lw_m4 230 rfl) rfl
theorem q1083 : (Jvm.Cond.selects "FloodLent" ({ cls := "FloodLent", name := "takes", desc := "(II)I" } : Jvm.MethodName) ({ cls := "FloodLent", name := "takes", desc := "(II)I" } : Jvm.MethodName)) ∈ lw_all := lw_g (lw_at lw_m4 231 rfl) rfl
theorem q1084 : (Jvm.Cond.code ({ cls := "FloodLent", name := "takes", desc := "(II)I" } : Jvm.MethodName) prog_1_method_19_code (4 : Nat) (Option.some Jvm.ClassFile.FieldType.int)) ∈ lw_all := lw_g (lw_at lw_m4 232 rfl) rfl
theorem q1085 : (Jvm.Cond.methodLink "FloodLent" (182 : Nat) ({ cls := "FloodLent", name := "isFlood", desc := "(I)Z" } : Jvm.MethodName)) ∈ lw_all := lw_g (lw_at lw_m4 233 rfl) rfl
theorem q1086 : (Jvm.Cond.privateMethod ({ cls := "FloodLent", name := "isFlood", desc := "(I)Z" } : Jvm.MethodName)) ∈ lw_tbl := lw_at lw_m4 234 rfl
theorem q1087 : (Jvm.Cond.instanceMethod ({ cls := "FloodLent", name := "isFlood", desc := "(I)Z" } : Jvm.MethodName)) ∈ lw_all := lw_g (lw_at lw_m4 235 rfl) rfl
theorem q1088 : (Jvm.Cond.code ({ cls := "FloodLent", name := "isFlood", desc := "(I)Z" } : Jvm.MethodName) prog_1_method_16_code (2 : Nat) (Option.some Jvm.ClassFile.FieldType.boolean)) ∈ lw_all := lw_g (lw_at lw_m4 236 rfl) rfl
theorem q1090 : (Jvm.Cond.instanceMethod ({ cls := "FloodLent", name := "water", desc := "(II)I" } : Jvm.MethodName)) ∈ lw_all := lw_g (lw_at lw_m4 238 rfl) rfl
theorem q1091 : (Jvm.Cond.selects "FloodLent" ({ cls := "FloodLent", name := "water", desc := "(II)I" } : Jvm.MethodName) ({ cls := "FloodLent", name := "water", desc := "(II)I" } : Jvm.MethodName)) ∈ lw_all := lw_g (lw_at lw_m4 239 rfl) rfl
theorem q1092 : (Jvm.Cond.code ({ cls := "FloodLent", name := "water", desc := "(II)I" } : Jvm.MethodName) prog_1_method_20_code (3 : Nat) (Option.some Jvm.ClassFile.FieldType.int)) ∈ lw_all := lw_g (lw_at lw_m5 0 rfl) rfl
theorem q1093 : (Jvm.Cond.methodLink "FloodLent" (185 : Nat) ({ cls := "FloodLent", name := "isWeek", desc := "(J)Z" } : Jvm.MethodName)) ∈ lw_all := lw_g (lw_at lw_m5 1 rfl) rfl
theorem q1094 : (Jvm.Cond.privateMethod ({ cls := "FloodLent", name := "isWeek", desc := "(J)Z" } : Jvm.MethodName)) ∈ lw_tbl := lw_at lw_m5 2 rfl
theorem q1095 : (Jvm.Cond.instanceMethod ({ cls := "FloodLent", name := "isWeek", desc := "(J)Z" } : Jvm.MethodName)) ∈ lw_all := lw_g (lw_at lw_m5 3 rfl) rfl
theorem q1096 : (Jvm.Cond.code ({ cls := "FloodLent", name := "isWeek", desc := "(J)Z" } : Jvm.MethodName) prog_1_method_15_code (3 : Nat) (Option.some Jvm.ClassFile.FieldType.boolean)) ∈ lw_all := lw_g (lw_at lw_m5 4 rfl) rfl
theorem q1097 : (Jvm.Cond.methodLink "FloodLent" (188 : Nat) ({ cls := "FloodLent", name := "told", desc := "()LFloodLent$Year;" } : Jvm.MethodName)) ∈ lw_all := lw_g (lw_at lw_m5 5 rfl) rfl
theorem q1098 : (Jvm.Cond.privateMethod ({ cls := "FloodLent", name := "told", desc := "()LFloodLent$Year;" } : Jvm.MethodName)) ∈ lw_tbl := lw_at lw_m5 6 rfl
theorem q1099 : (Jvm.Cond.instanceMethod ({ cls := "FloodLent", name := "told", desc := "()LFloodLent$Year;" } : Jvm.MethodName)) ∈ lw_all := lw_g (lw_at lw_m5 7 rfl) rfl
theorem q1100 : (Jvm.Cond.code ({ cls := "FloodLent", name := "told", desc := "()LFloodLent$Year;" } : Jvm.MethodName) prog_1_method_17_code (1 : Nat) (Option.some (Jvm.ClassFile.FieldType.object "FloodLent$Year"))) ∈ lw_all := lw_g (lw_at lw_m5 8 rfl) rfl
theorem q1101 : (Jvm.Cond.methodLink "FloodLent" (152 : Nat) ({ cls := "FloodLent$Year", name := "begins", desc := "(LFloodLent$Plain;[II)V" } : Jvm.MethodName)) ∈ lw_all := lw_g (lw_at lw_m5 9 rfl) rfl
theorem q1106 : (Jvm.Cond.methodLink "FloodLent" (155 : Nat) ({ cls := "FloodLent$Year", name := "goes", desc := "()LFloodLent$Year;" } : Jvm.MethodName)) ∈ lw_all := lw_g (lw_at lw_m5 14 rfl) rfl
theorem q1122 : (Jvm.Cond.static ({ cls := "FloodLent", name := "isOn", desc := "(II)Z" } : Jvm.MethodName)) ∈ lw_all := lw_g (lw_at lw_m5 30 rfl) rfl
theorem q1123 : (Jvm.Cond.code ({ cls := "FloodLent", name := "isOn", desc := "(II)Z" } : Jvm.MethodName) prog_1_method_2_code (2 : Nat) (Option.some Jvm.ClassFile.FieldType.boolean)) ∈ lw_all := lw_g (lw_at lw_m5 31 rfl) rfl
theorem q1158 : (Jvm.Cond.instanceMethod ({ cls := "FloodLent", name := "flood", desc := "(II)I" } : Jvm.MethodName)) ∈ lw_all := lw_g (lw_at lw_m5 66 rfl) rfl
theorem q1159 : (Jvm.Cond.selects "FloodLent" ({ cls := "FloodLent", name := "flood", desc := "(II)I" } : Jvm.MethodName) ({ cls := "FloodLent", name := "flood", desc := "(II)I" } : Jvm.MethodName)) ∈ lw_all := lw_g (lw_at lw_m5 67 rfl) rfl
theorem q1160 : (Jvm.Cond.code ({ cls := "FloodLent", name := "flood", desc := "(II)I" } : Jvm.MethodName) prog_1_method_21_code (3 : Nat) (Option.some Jvm.ClassFile.FieldType.int)) ∈ lw_all := lw_g (lw_at lw_m5 68 rfl) rfl
theorem q1162 : (Jvm.Cond.instanceMethod ({ cls := "FloodLent", name := "loan", desc := "(II)I" } : Jvm.MethodName)) ∈ lw_all := lw_g (lw_at lw_m5 70 rfl) rfl
theorem q1163 : (Jvm.Cond.selects "FloodLent" ({ cls := "FloodLent", name := "loan", desc := "(II)I" } : Jvm.MethodName) ({ cls := "FloodLent", name := "loan", desc := "(II)I" } : Jvm.MethodName)) ∈ lw_all := lw_g (lw_at lw_m5 71 rfl) rfl
theorem q1164 : (Jvm.Cond.code ({ cls := "FloodLent", name := "loan", desc := "(II)I" } : Jvm.MethodName) prog_1_method_22_code (3 : Nat) (Option.some Jvm.ClassFile.FieldType.int)) ∈ lw_all := lw_g (lw_at lw_m5 72 rfl) rfl
theorem q1166 : (Jvm.Cond.instanceMethod ({ cls := "FloodLent", name := "crop", desc := "(II)I" } : Jvm.MethodName)) ∈ lw_all := lw_g (lw_at lw_m5 74 rfl) rfl
theorem q1167 : (Jvm.Cond.selects "FloodLent" ({ cls := "FloodLent", name := "crop", desc := "(II)I" } : Jvm.MethodName) ({ cls := "FloodLent", name := "crop", desc := "(II)I" } : Jvm.MethodName)) ∈ lw_all := lw_g (lw_at lw_m5 75 rfl) rfl
theorem q1168 : (Jvm.Cond.code ({ cls := "FloodLent", name := "crop", desc := "(II)I" } : Jvm.MethodName) prog_1_method_23_code (3 : Nat) (Option.some Jvm.ClassFile.FieldType.int)) ∈ lw_all := lw_g (lw_at lw_m5 76 rfl) rfl
theorem q1169 : (Jvm.Cond.constantLong "FloodLent" (218 : Nat) (2 : Int64)) ∈ lw_all := lw_g (lw_at lw_m5 77 rfl) rfl
theorem q1171 : (Jvm.Cond.instanceMethod ({ cls := "FloodLent", name := "sum", desc := "(I)I" } : Jvm.MethodName)) ∈ lw_all := lw_g (lw_at lw_m5 79 rfl) rfl
theorem q1172 : (Jvm.Cond.selects "FloodLent" ({ cls := "FloodLent", name := "sum", desc := "(I)I" } : Jvm.MethodName) ({ cls := "FloodLent", name := "sum", desc := "(I)I" } : Jvm.MethodName)) ∈ lw_all := lw_g (lw_at lw_m5 80 rfl) rfl
theorem q1173 : (Jvm.Cond.code ({ cls := "FloodLent", name := "sum", desc := "(I)I" } : Jvm.MethodName) prog_1_method_26_code (2 : Nat) (Option.some Jvm.ClassFile.FieldType.int)) ∈ lw_all := lw_g (lw_at lw_m5 81 rfl) rfl
theorem q1174 : (Jvm.Cond.constantLong "FloodLent" (231 : Nat) (8 : Int64)) ∈ lw_all := lw_g (lw_at lw_m5 82 rfl) rfl
theorem q1175 : (Jvm.Cond.methodLink "FloodLent" (233 : Nat) ({ cls := "FloodLent$Year", name := "broughtInAll", desc := "()I" } : Jvm.MethodName)) ∈ lw_all := lw_g (lw_at lw_m5 83 rfl) rfl
theorem q1179 : (Jvm.Cond.methodLink "FloodLent" (236 : Nat) ({ cls := "FloodLent$Year", name := "shortOfFloods", desc := "()I" } : Jvm.MethodName)) ∈ lw_all := lw_g (lw_at lw_m5 87 rfl) rfl
theorem q1183 : (Jvm.Cond.methodLink "FloodLent" (239 : Nat) ({ cls := "FloodLent$Year", name := "shortOfLoans", desc := "()I" } : Jvm.MethodName)) ∈ lw_all := lw_g (lw_at lw_m5 91 rfl) rfl
theorem q1187 : (Jvm.Cond.methodLink "FloodLent" (251 : Nat) ({ cls := "FloodLent", name := "together", desc := "([I)I" } : Jvm.MethodName)) ∈ lw_all := lw_g (lw_at lw_m5 95 rfl) rfl
theorem q1188 : (Jvm.Cond.static ({ cls := "FloodLent", name := "together", desc := "([I)I" } : Jvm.MethodName)) ∈ lw_all := lw_g (lw_at lw_m5 96 rfl) rfl
theorem q1189 : (Jvm.Cond.code ({ cls := "FloodLent", name := "together", desc := "([I)I" } : Jvm.MethodName) prog_1_method_24_code (6 : Nat) (Option.some Jvm.ClassFile.FieldType.int)) ∈ lw_all := lw_g (lw_at lw_m5 97 rfl) rfl
theorem q1190 : (Jvm.Cond.methodLink "FloodLent" (255 : Nat) ({ cls := "FloodLent", name := "waterAtEnd", desc := "()I" } : Jvm.MethodName)) ∈ lw_all := lw_g (lw_at lw_m5 98 rfl) rfl
theorem q1191 : (Jvm.Cond.privateMethod ({ cls := "FloodLent", name := "waterAtEnd", desc := "()I" } : Jvm.MethodName)) ∈ lw_tbl := lw_at lw_m5 99 rfl
theorem q1192 : (Jvm.Cond.instanceMethod ({ cls := "FloodLent", name := "waterAtEnd", desc := "()I" } : Jvm.MethodName)) ∈ lw_all := lw_g (lw_at lw_m5 100 rfl) rfl
theorem q1193 : (Jvm.Cond.code ({ cls := "FloodLent", name := "waterAtEnd", desc := "()I" } : Jvm.MethodName) prog_1_method_25_code (3 : Nat) (Option.some Jvm.ClassFile.FieldType.int)) ∈ lw_all := lw_g (lw_at lw_m5 101 rfl) rfl
theorem q1195 : (Jvm.Cond.instanceMethod ({ cls := "FloodLent", name := "first", desc := "()I" } : Jvm.MethodName)) ∈ lw_all := lw_g (lw_at lw_m5 103 rfl) rfl
theorem q1196 : (Jvm.Cond.selects "FloodLent" ({ cls := "FloodLent", name := "first", desc := "()I" } : Jvm.MethodName) ({ cls := "FloodLent", name := "first", desc := "()I" } : Jvm.MethodName)) ∈ lw_all := lw_g (lw_at lw_m5 104 rfl) rfl
theorem q1197 : (Jvm.Cond.code ({ cls := "FloodLent", name := "first", desc := "()I" } : Jvm.MethodName) prog_1_method_27_code (1 : Nat) (Option.some Jvm.ClassFile.FieldType.int)) ∈ lw_all := lw_g (lw_at lw_m5 105 rfl) rfl
theorem q1199 : (Jvm.Cond.instanceMethod ({ cls := "FloodLent", name := "best", desc := "()I" } : Jvm.MethodName)) ∈ lw_all := lw_g (lw_at lw_m5 107 rfl) rfl
theorem q1200 : (Jvm.Cond.selects "FloodLent" ({ cls := "FloodLent", name := "best", desc := "()I" } : Jvm.MethodName) ({ cls := "FloodLent", name := "best", desc := "()I" } : Jvm.MethodName)) ∈ lw_all := lw_g (lw_at lw_m5 108 rfl) rfl
theorem q1201 : (Jvm.Cond.code ({ cls := "FloodLent", name := "best", desc := "()I" } : Jvm.MethodName) prog_1_method_32_code (1 : Nat) (Option.some Jvm.ClassFile.FieldType.int)) ∈ lw_all := lw_g (lw_at lw_m5 109 rfl) rfl
theorem q1202 : (Jvm.Cond.methodLink "FloodLent" (278 : Nat) ({ cls := "FloodLent", name := "bestOf", desc := "()I" } : Jvm.MethodName)) ∈ lw_all := lw_g (lw_at lw_m5 110 rfl) rfl
theorem q1203 : (Jvm.Cond.privateMethod ({ cls := "FloodLent", name := "bestOf", desc := "()I" } : Jvm.MethodName)) ∈ lw_tbl := lw_at lw_m5 111 rfl
theorem q1204 : (Jvm.Cond.instanceMethod ({ cls := "FloodLent", name := "bestOf", desc := "()I" } : Jvm.MethodName)) ∈ lw_all := lw_g (lw_at lw_m5 112 rfl) rfl
theorem q1205 : (Jvm.Cond.code ({ cls := "FloodLent", name := "bestOf", desc := "()I" } : Jvm.MethodName) prog_1_method_31_code (3 : Nat) (Option.some Jvm.ClassFile.FieldType.int)) ∈ lw_all := lw_g (lw_at lw_m5 113 rfl) rfl
theorem q1206 : (Jvm.Cond.methodLink "FloodLent" (268 : Nat) ({ cls := "FloodLent", name := "manyTakers", desc := "()I" } : Jvm.MethodName)) ∈ lw_all := lw_g (lw_at lw_m5 114 rfl) rfl
theorem q1207 : (Jvm.Cond.privateMethod ({ cls := "FloodLent", name := "manyTakers", desc := "()I" } : Jvm.MethodName)) ∈ lw_tbl := lw_at lw_m5 115 rfl
theorem q1208 : (Jvm.Cond.instanceMethod ({ cls := "FloodLent", name := "manyTakers", desc := "()I" } : Jvm.MethodName)) ∈ lw_all := lw_g (lw_at lw_m5 116 rfl) rfl
theorem q1209 : (Jvm.Cond.code ({ cls := "FloodLent", name := "manyTakers", desc := "()I" } : Jvm.MethodName) prog_1_method_28_code (3 : Nat) (Option.some Jvm.ClassFile.FieldType.int)) ∈ lw_all := lw_g (lw_at lw_m5 117 rfl) rfl
theorem q1210 : (Jvm.Cond.methodLink "FloodLent" (271 : Nat) ({ cls := "FloodLent", name := "by", desc := "(I)LFloodLent$Year;" } : Jvm.MethodName)) ∈ lw_all := lw_g (lw_at lw_m5 118 rfl) rfl
theorem q1211 : (Jvm.Cond.privateMethod ({ cls := "FloodLent", name := "by", desc := "(I)LFloodLent$Year;" } : Jvm.MethodName)) ∈ lw_tbl := lw_at lw_m5 119 rfl
theorem q1212 : (Jvm.Cond.instanceMethod ({ cls := "FloodLent", name := "by", desc := "(I)LFloodLent$Year;" } : Jvm.MethodName)) ∈ lw_all := lw_g (lw_at lw_m5 120 rfl) rfl
theorem q1213 : (Jvm.Cond.code ({ cls := "FloodLent", name := "by", desc := "(I)LFloodLent$Year;" } : Jvm.MethodName) prog_1_method_30_code (2 : Nat) (Option.some (Jvm.ClassFile.FieldType.object "FloodLent$Year"))) ∈ lw_all := lw_g (lw_at lw_m5 121 rfl) rfl
theorem q1214 : (Jvm.Cond.methodLink "FloodLent" (261 : Nat) ({ cls := "FloodLent", name := "lays", desc := "(I)V" } : Jvm.MethodName)) ∈ lw_all := lw_g (lw_at lw_m5 122 rfl) rfl
theorem q1215 : (Jvm.Cond.privateMethod ({ cls := "FloodLent", name := "lays", desc := "(I)V" } : Jvm.MethodName)) ∈ lw_tbl := lw_at lw_m5 123 rfl
theorem q1216 : (Jvm.Cond.instanceMethod ({ cls := "FloodLent", name := "lays", desc := "(I)V" } : Jvm.MethodName)) ∈ lw_all := lw_g (lw_at lw_m5 124 rfl) rfl
theorem q1217 : (Jvm.Cond.code ({ cls := "FloodLent", name := "lays", desc := "(I)V" } : Jvm.MethodName) prog_1_method_29_code (4 : Nat) (Option.none : Option Jvm.ClassFile.FieldType)) ∈ lw_all := lw_g (lw_at lw_m5 125 rfl) rfl
theorem q1218 : (Jvm.Cond.methodLink "FloodLent" (275 : Nat) ({ cls := "FloodLent$Year", name := "allShort", desc := "()I" } : Jvm.MethodName)) ∈ lw_all := lw_g (lw_at lw_m5 126 rfl) rfl
theorem q1225 : (Jvm.Cond.instanceMethod ({ cls := "FloodLent", name := "taker", desc := "(I)I" } : Jvm.MethodName)) ∈ lw_all := lw_g (lw_at lw_m5 133 rfl) rfl
theorem q1226 : (Jvm.Cond.selects "FloodLent" ({ cls := "FloodLent", name := "taker", desc := "(I)I" } : Jvm.MethodName) ({ cls := "FloodLent", name := "taker", desc := "(I)I" } : Jvm.MethodName)) ∈ lw_all := lw_g (lw_at lw_m5 134 rfl) rfl
theorem q1227 : (Jvm.Cond.code ({ cls := "FloodLent", name := "taker", desc := "(I)I" } : Jvm.MethodName) prog_1_method_33_code (3 : Nat) (Option.some Jvm.ClassFile.FieldType.int)) ∈ lw_all := lw_g (lw_at lw_m5 135 rfl) rfl
theorem q1229 : (Jvm.Cond.instanceMethod ({ cls := "FloodLent", name := "safe", desc := "()I" } : Jvm.MethodName)) ∈ lw_all := lw_g (lw_at lw_m5 137 rfl) rfl
theorem q1230 : (Jvm.Cond.selects "FloodLent" ({ cls := "FloodLent", name := "safe", desc := "()I" } : Jvm.MethodName) ({ cls := "FloodLent", name := "safe", desc := "()I" } : Jvm.MethodName)) ∈ lw_all := lw_g (lw_at lw_m5 138 rfl) rfl
theorem q1231 : (Jvm.Cond.code ({ cls := "FloodLent", name := "safe", desc := "()I" } : Jvm.MethodName) prog_1_method_34_code (3 : Nat) (Option.some Jvm.ClassFile.FieldType.int)) ∈ lw_all := lw_g (lw_at lw_m5 139 rfl) rfl
theorem q1233 : (Jvm.Cond.instanceMethod ({ cls := "FloodLent", name := "hope", desc := "(I)J" } : Jvm.MethodName)) ∈ lw_all := lw_g (lw_at lw_m5 141 rfl) rfl
theorem q1234 : (Jvm.Cond.selects "FloodLent" ({ cls := "FloodLent", name := "hope", desc := "(I)J" } : Jvm.MethodName) ({ cls := "FloodLent", name := "hope", desc := "(I)J" } : Jvm.MethodName)) ∈ lw_all := lw_g (lw_at lw_m5 142 rfl) rfl
theorem q1235 : (Jvm.Cond.code ({ cls := "FloodLent", name := "hope", desc := "(I)J" } : Jvm.MethodName) prog_1_method_38_code (2 : Nat) (Option.some Jvm.ClassFile.FieldType.long)) ∈ lw_all := lw_g (lw_at lw_m5 143 rfl) rfl
theorem q1236 : (Jvm.Cond.methodLink "FloodLent" (304 : Nat) ({ cls := "FloodLent", name := "hopeBy", desc := "([I)J" } : Jvm.MethodName)) ∈ lw_all := lw_g (lw_at lw_m5 144 rfl) rfl
theorem q1237 : (Jvm.Cond.privateMethod ({ cls := "FloodLent", name := "hopeBy", desc := "([I)J" } : Jvm.MethodName)) ∈ lw_tbl := lw_at lw_m5 145 rfl
theorem q1238 : (Jvm.Cond.instanceMethod ({ cls := "FloodLent", name := "hopeBy", desc := "([I)J" } : Jvm.MethodName)) ∈ lw_all := lw_g (lw_at lw_m5 146 rfl) rfl
theorem q1239 : (Jvm.Cond.code ({ cls := "FloodLent", name := "hopeBy", desc := "([I)J" } : Jvm.MethodName) prog_1_method_35_code (9 : Nat) (Option.some Jvm.ClassFile.FieldType.long)) ∈ lw_all := lw_g (lw_at lw_m5 147 rfl) rfl
theorem q1240 : (Jvm.Cond.methodLink "FloodLent" (281 : Nat) ({ cls := "FloodLent", name := "isOn", desc := "(II)Z" } : Jvm.MethodName)) ∈ lw_all := lw_g (lw_at lw_m5 148 rfl) rfl
theorem q1241 : (Jvm.Cond.classLink "FloodLent" (284 : Nat) "FloodLent$Lent") ∈ lw_all := lw_g (lw_at lw_m5 149 rfl) rfl
theorem q1242 : (Jvm.Cond.methodLink "FloodLent" (308 : Nat) ({ cls := "FloodLent", name := "told", desc := "(JI)J" } : Jvm.MethodName)) ∈ lw_all := lw_g (lw_at lw_m5 150 rfl) rfl
theorem q1243 : (Jvm.Cond.privateMethod ({ cls := "FloodLent", name := "told", desc := "(JI)J" } : Jvm.MethodName)) ∈ lw_tbl := lw_at lw_m5 151 rfl
theorem q1244 : (Jvm.Cond.instanceMethod ({ cls := "FloodLent", name := "told", desc := "(JI)J" } : Jvm.MethodName)) ∈ lw_all := lw_g (lw_at lw_m5 152 rfl) rfl
theorem q1245 : (Jvm.Cond.code ({ cls := "FloodLent", name := "told", desc := "(JI)J" } : Jvm.MethodName) prog_1_method_37_code (7 : Nat) (Option.some Jvm.ClassFile.FieldType.long)) ∈ lw_all := lw_g (lw_at lw_m5 153 rfl) rfl
theorem q1246 : (Jvm.Cond.constantLong "FloodLent" (296 : Nat) (100 : Int64)) ∈ lw_all := lw_g (lw_at lw_m5 154 rfl) rfl
theorem q1247 : (Jvm.Cond.methodLink "FloodLent" (298 : Nat) ({ cls := "java/lang/Math", name := "abs", desc := "(J)J" } : Jvm.MethodName)) ∈ lw_all := lw_g (lw_at lw_m5 155 rfl) rfl
theorem q1250 : (Jvm.Cond.methodLink "FloodLent" (292 : Nat) ({ cls := "FloodLent", name := "common", desc := "(JJ)J" } : Jvm.MethodName)) ∈ lw_all := lw_g (lw_at lw_m5 158 rfl) rfl
theorem q1251 : (Jvm.Cond.static ({ cls := "FloodLent", name := "common", desc := "(JJ)J" } : Jvm.MethodName)) ∈ lw_all := lw_g (lw_at lw_m5 159 rfl) rfl
theorem q1252 : (Jvm.Cond.code ({ cls := "FloodLent", name := "common", desc := "(JJ)J" } : Jvm.MethodName) prog_1_method_36_code (4 : Nat) (Option.some Jvm.ClassFile.FieldType.long)) ∈ lw_all := lw_g (lw_at lw_m5 160 rfl) rfl
theorem q1253 : (Jvm.Cond.constantLong "FloodLent" (311 : Nat) (-2 : Int64)) ∈ lw_all := lw_g (lw_at lw_m5 161 rfl) rfl
theorem q1255 : (Jvm.Cond.instanceMethod ({ cls := "FloodLent", name := "wise", desc := "(I)I" } : Jvm.MethodName)) ∈ lw_all := lw_g (lw_at lw_m5 163 rfl) rfl
theorem q1256 : (Jvm.Cond.selects "FloodLent" ({ cls := "FloodLent", name := "wise", desc := "(I)I" } : Jvm.MethodName) ({ cls := "FloodLent", name := "wise", desc := "(I)I" } : Jvm.MethodName)) ∈ lw_all := lw_g (lw_at lw_m5 164 rfl) rfl
theorem q1257 : (Jvm.Cond.code ({ cls := "FloodLent", name := "wise", desc := "(I)I" } : Jvm.MethodName) prog_1_method_40_code (2 : Nat) (Option.some Jvm.ClassFile.FieldType.int)) ∈ lw_all := lw_g (lw_at lw_m5 165 rfl) rfl
theorem q1258 : (Jvm.Cond.methodLink "FloodLent" (317 : Nat) ({ cls := "FloodLent", name := "wisestOf", desc := "()I" } : Jvm.MethodName)) ∈ lw_all := lw_g (lw_at lw_m5 166 rfl) rfl
theorem q1259 : (Jvm.Cond.privateMethod ({ cls := "FloodLent", name := "wisestOf", desc := "()I" } : Jvm.MethodName)) ∈ lw_tbl := lw_at lw_m5 167 rfl
theorem q1260 : (Jvm.Cond.instanceMethod ({ cls := "FloodLent", name := "wisestOf", desc := "()I" } : Jvm.MethodName)) ∈ lw_all := lw_g (lw_at lw_m5 168 rfl) rfl
theorem q1261 : (Jvm.Cond.code ({ cls := "FloodLent", name := "wisestOf", desc := "()I" } : Jvm.MethodName) prog_1_method_39_code (5 : Nat) (Option.some Jvm.ClassFile.FieldType.int)) ∈ lw_all := lw_g (lw_at lw_m5 169 rfl) rfl
theorem q1263 : (Jvm.Cond.instanceMethod ({ cls := "FloodLent", name := "wisest", desc := "(I)J" } : Jvm.MethodName)) ∈ lw_all := lw_g (lw_at lw_m5 171 rfl) rfl
theorem q1264 : (Jvm.Cond.selects "FloodLent" ({ cls := "FloodLent", name := "wisest", desc := "(I)J" } : Jvm.MethodName) ({ cls := "FloodLent", name := "wisest", desc := "(I)J" } : Jvm.MethodName)) ∈ lw_all := lw_g (lw_at lw_m5 172 rfl) rfl
theorem q1265 : (Jvm.Cond.code ({ cls := "FloodLent", name := "wisest", desc := "(I)J" } : Jvm.MethodName) prog_1_method_41_code (2 : Nat) (Option.some Jvm.ClassFile.FieldType.long)) ∈ lw_all := lw_g (lw_at lw_m5 173 rfl) rfl
theorem q1267 : (Jvm.Cond.instanceMethod ({ cls := "FloodLent", name := "agree", desc := "(I)I" } : Jvm.MethodName)) ∈ lw_all := lw_g (lw_at lw_m5 175 rfl) rfl
theorem q1268 : (Jvm.Cond.selects "FloodLent" ({ cls := "FloodLent", name := "agree", desc := "(I)I" } : Jvm.MethodName) ({ cls := "FloodLent", name := "agree", desc := "(I)I" } : Jvm.MethodName)) ∈ lw_all := lw_g (lw_at lw_m5 176 rfl) rfl
theorem q1269 : (Jvm.Cond.code ({ cls := "FloodLent", name := "agree", desc := "(I)I" } : Jvm.MethodName) prog_1_method_45_code (3 : Nat) (Option.some Jvm.ClassFile.FieldType.int)) ∈ lw_all := lw_g (lw_at lw_m5 177 rfl) rfl
theorem q1270 : (Jvm.Cond.methodLink "FloodLent" (335 : Nat) ({ cls := "FloodLent", name := "whyNot", desc := "(I)I" } : Jvm.MethodName)) ∈ lw_all := lw_g (lw_at lw_m5 178 rfl) rfl
theorem q1271 : (Jvm.Cond.privateMethod ({ cls := "FloodLent", name := "whyNot", desc := "(I)I" } : Jvm.MethodName)) ∈ lw_tbl := lw_at lw_m5 179 rfl
theorem q1272 : (Jvm.Cond.instanceMethod ({ cls := "FloodLent", name := "whyNot", desc := "(I)I" } : Jvm.MethodName)) ∈ lw_all := lw_g (lw_at lw_m5 180 rfl) rfl
theorem q1273 : (Jvm.Cond.code ({ cls := "FloodLent", name := "whyNot", desc := "(I)I" } : Jvm.MethodName) prog_1_method_42_code (4 : Nat) (Option.some Jvm.ClassFile.FieldType.int)) ∈ lw_all := lw_g (lw_at lw_m5 181 rfl) rfl
theorem q1274 : (Jvm.Cond.methodLink "FloodLent" (324 : Nat) ({ cls := "FloodLent$Slot", name := "many", desc := "()I" } : Jvm.MethodName)) ∈ lw_all := lw_g (lw_at lw_m5 182 rfl) rfl
theorem q1278 : (Jvm.Cond.methodLink "FloodLent" (327 : Nat) ({ cls := "FloodLent$Slot", name := "number", desc := "(I)J" } : Jvm.MethodName)) ∈ lw_all := lw_g (lw_at lw_m5 186 rfl) rfl
theorem q1282 : (Jvm.Cond.methodLink "FloodLent" (339 : Nat) ({ cls := "FloodLent", name := "agreeing", desc := "(LFloodLent$Slot;I)I" } : Jvm.MethodName)) ∈ lw_all := lw_g (lw_at lw_m5 190 rfl) rfl
theorem q1283 : (Jvm.Cond.privateMethod ({ cls := "FloodLent", name := "agreeing", desc := "(LFloodLent$Slot;I)I" } : Jvm.MethodName)) ∈ lw_tbl := lw_at lw_m5 191 rfl
theorem q1284 : (Jvm.Cond.instanceMethod ({ cls := "FloodLent", name := "agreeing", desc := "(LFloodLent$Slot;I)I" } : Jvm.MethodName)) ∈ lw_all := lw_g (lw_at lw_m5 192 rfl) rfl
theorem q1285 : (Jvm.Cond.code ({ cls := "FloodLent", name := "agreeing", desc := "(LFloodLent$Slot;I)I" } : Jvm.MethodName) prog_1_method_44_code (5 : Nat) (Option.some Jvm.ClassFile.FieldType.int)) ∈ lw_all := lw_g (lw_at lw_m5 193 rfl) rfl
theorem q1286 : (Jvm.Cond.methodLink "FloodLent" (331 : Nat) ({ cls := "FloodLent", name := "agrees", desc := "(LFloodLent$Slot;I)Z" } : Jvm.MethodName)) ∈ lw_all := lw_g (lw_at lw_m5 194 rfl) rfl
theorem q1287 : (Jvm.Cond.privateMethod ({ cls := "FloodLent", name := "agrees", desc := "(LFloodLent$Slot;I)Z" } : Jvm.MethodName)) ∈ lw_tbl := lw_at lw_m5 195 rfl
theorem q1288 : (Jvm.Cond.instanceMethod ({ cls := "FloodLent", name := "agrees", desc := "(LFloodLent$Slot;I)Z" } : Jvm.MethodName)) ∈ lw_all := lw_g (lw_at lw_m5 196 rfl) rfl
theorem q1289 : (Jvm.Cond.code ({ cls := "FloodLent", name := "agrees", desc := "(LFloodLent$Slot;I)Z" } : Jvm.MethodName) prog_1_method_43_code (4 : Nat) (Option.some Jvm.ClassFile.FieldType.boolean)) ∈ lw_all := lw_g (lw_at lw_m5 197 rfl) rfl
theorem q1291 : (Jvm.Cond.instanceMethod ({ cls := "FloodLent", name := "who", desc := "(II)I" } : Jvm.MethodName)) ∈ lw_all := lw_g (lw_at lw_m5 199 rfl) rfl
theorem q1292 : (Jvm.Cond.selects "FloodLent" ({ cls := "FloodLent", name := "who", desc := "(II)I" } : Jvm.MethodName) ({ cls := "FloodLent", name := "who", desc := "(II)I" } : Jvm.MethodName)) ∈ lw_all := lw_g (lw_at lw_m5 200 rfl) rfl
theorem q1293 : (Jvm.Cond.code ({ cls := "FloodLent", name := "who", desc := "(II)I" } : Jvm.MethodName) prog_1_method_46_code (7 : Nat) (Option.some Jvm.ClassFile.FieldType.int)) ∈ lw_all := lw_g (lw_at lw_m5 201 rfl) rfl
theorem q1295 : (Jvm.Cond.instanceMethod ({ cls := "FloodLent", name := "sure", desc := "(III)I" } : Jvm.MethodName)) ∈ lw_all := lw_g (lw_at lw_m5 203 rfl) rfl
theorem q1296 : (Jvm.Cond.selects "FloodLent" ({ cls := "FloodLent", name := "sure", desc := "(III)I" } : Jvm.MethodName) ({ cls := "FloodLent", name := "sure", desc := "(III)I" } : Jvm.MethodName)) ∈ lw_all := lw_g (lw_at lw_m5 204 rfl) rfl
theorem q1297 : (Jvm.Cond.code ({ cls := "FloodLent", name := "sure", desc := "(III)I" } : Jvm.MethodName) prog_1_method_47_code (7 : Nat) (Option.some Jvm.ClassFile.FieldType.int)) ∈ lw_all := lw_g (lw_at lw_m5 205 rfl) rfl
theorem q1299 : (Jvm.Cond.instanceMethod ({ cls := "FloodLent", name := "needed", desc := "(I)I" } : Jvm.MethodName)) ∈ lw_all := lw_g (lw_at lw_m5 207 rfl) rfl
theorem q1300 : (Jvm.Cond.selects "FloodLent" ({ cls := "FloodLent", name := "needed", desc := "(I)I" } : Jvm.MethodName) ({ cls := "FloodLent", name := "needed", desc := "(I)I" } : Jvm.MethodName)) ∈ lw_all := lw_g (lw_at lw_m5 208 rfl) rfl
theorem q1301 : (Jvm.Cond.code ({ cls := "FloodLent", name := "needed", desc := "(I)I" } : Jvm.MethodName) prog_1_method_48_code (5 : Nat) (Option.some Jvm.ClassFile.FieldType.int)) ∈ lw_all := lw_g (lw_at lw_m5 209 rfl) rfl
theorem q1303 : (Jvm.Cond.instanceMethod ({ cls := "FloodLent", name := "fair", desc := "(I)I" } : Jvm.MethodName)) ∈ lw_all := lw_g (lw_at lw_m5 211 rfl) rfl
theorem q1304 : (Jvm.Cond.selects "FloodLent" ({ cls := "FloodLent", name := "fair", desc := "(I)I" } : Jvm.MethodName) ({ cls := "FloodLent", name := "fair", desc := "(I)I" } : Jvm.MethodName)) ∈ lw_all := lw_g (lw_at lw_m5 212 rfl) rfl
theorem q1305 : (Jvm.Cond.code ({ cls := "FloodLent", name := "fair", desc := "(I)I" } : Jvm.MethodName) prog_1_method_49_code (4 : Nat) (Option.some Jvm.ClassFile.FieldType.int)) ∈ lw_all := lw_g (lw_at lw_m5 213 rfl) rfl
theorem q1306 : (Jvm.Cond.methodLink "FloodLent" (343 : Nat) ({ cls := "FloodLent$Year", name := "has", desc := "(I)I" } : Jvm.MethodName)) ∈ lw_all := lw_g (lw_at lw_m5 214 rfl) rfl
theorem q1311 : (Jvm.Cond.instanceMethod ({ cls := "FloodLent", name := "more", desc := "(I)I" } : Jvm.MethodName)) ∈ lw_all := lw_g (lw_at lw_m5 219 rfl) rfl
theorem q1312 : (Jvm.Cond.selects "FloodLent" ({ cls := "FloodLent", name := "more", desc := "(I)I" } : Jvm.MethodName) ({ cls := "FloodLent", name := "more", desc := "(I)I" } : Jvm.MethodName)) ∈ lw_all := lw_g (lw_at lw_m5 220 rfl) rfl
theorem q1313 : (Jvm.Cond.code ({ cls := "FloodLent", name := "more", desc := "(I)I" } : Jvm.MethodName) prog_1_method_50_code (3 : Nat) (Option.some Jvm.ClassFile.FieldType.int)) ∈ lw_all := lw_g (lw_at lw_m5 221 rfl) rfl
theorem q1315 : (Jvm.Cond.instanceMethod ({ cls := "FloodLent", name := "owes", desc := "(II)I" } : Jvm.MethodName)) ∈ lw_all := lw_g (lw_at lw_m5 223 rfl) rfl
theorem q1316 : (Jvm.Cond.selects "FloodLent" ({ cls := "FloodLent", name := "owes", desc := "(II)I" } : Jvm.MethodName) ({ cls := "FloodLent", name := "owes", desc := "(II)I" } : Jvm.MethodName)) ∈ lw_all := lw_g (lw_at lw_m5 224 rfl) rfl
theorem q1317 : (Jvm.Cond.code ({ cls := "FloodLent", name := "owes", desc := "(II)I" } : Jvm.MethodName) prog_1_method_52_code (3 : Nat) (Option.some Jvm.ClassFile.FieldType.int)) ∈ lw_all := lw_g (lw_at lw_m5 225 rfl) rfl
theorem q1318 : (Jvm.Cond.methodLink "FloodLent" (353 : Nat) ({ cls := "FloodLent", name := "areTwo", desc := "(II)Z" } : Jvm.MethodName)) ∈ lw_all := lw_g (lw_at lw_m5 226 rfl) rfl
theorem q1319 : (Jvm.Cond.privateMethod ({ cls := "FloodLent", name := "areTwo", desc := "(II)Z" } : Jvm.MethodName)) ∈ lw_tbl := lw_at lw_m5 227 rfl
theorem q1320 : (Jvm.Cond.instanceMethod ({ cls := "FloodLent", name := "areTwo", desc := "(II)Z" } : Jvm.MethodName)) ∈ lw_all := lw_g (lw_at lw_m5 228 rfl) rfl
theorem q1321 : (Jvm.Cond.code ({ cls := "FloodLent", name := "areTwo", desc := "(II)Z" } : Jvm.MethodName) prog_1_method_14_code (3 : Nat) (Option.some Jvm.ClassFile.FieldType.boolean)) ∈ lw_all := lw_g (lw_at lw_m5 229 rfl) rfl
theorem q1322 : (Jvm.Cond.methodLink "FloodLent" (356 : Nat) ({ cls := "FloodLent", name := "owing", desc := "()V" } : Jvm.MethodName)) ∈ lw_all := lw_g (lw_at lw_m5 230 rfl) rfl
theorem q1323 : (Jvm.Cond.privateMethod ({ cls := "FloodLent", name := "owing", desc := "()V" } : Jvm.MethodName)) ∈ lw_tbl := lw_at lw_m5 231 rfl
theorem q1324 : (Jvm.Cond.instanceMethod ({ cls := "FloodLent", name := "owing", desc := "()V" } : Jvm.MethodName)) ∈ lw_all := lw_g (lw_at lw_m5 232 rfl) rfl
theorem q1325 : (Jvm.Cond.code ({ cls := "FloodLent", name := "owing", desc := "()V" } : Jvm.MethodName) prog_1_method_51_code (1 : Nat) (Option.none : Option Jvm.ClassFile.FieldType)) ∈ lw_all := lw_g (lw_at lw_m5 233 rfl) rfl
theorem q1326 : (Jvm.Cond.methodLink "FloodLent" (349 : Nat) ({ cls := "FloodLent$Year", name := "debts", desc := "([[I)V" } : Jvm.MethodName)) ∈ lw_all := lw_g (lw_at lw_m5 234 rfl) rfl
theorem q1331 : (Jvm.Cond.instanceMethod ({ cls := "FloodLent", name := "rings", desc := "(I)I" } : Jvm.MethodName)) ∈ lw_all := lw_g (lw_at lw_m5 239 rfl) rfl
theorem q1332 : (Jvm.Cond.selects "FloodLent" ({ cls := "FloodLent", name := "rings", desc := "(I)I" } : Jvm.MethodName) ({ cls := "FloodLent", name := "rings", desc := "(I)I" } : Jvm.MethodName)) ∈ lw_all := lw_g (lw_at lw_m6 0 rfl) rfl
theorem q1333 : (Jvm.Cond.code ({ cls := "FloodLent", name := "rings", desc := "(I)I" } : Jvm.MethodName) prog_1_method_54_code (2 : Nat) (Option.some Jvm.ClassFile.FieldType.int)) ∈ lw_all := lw_g (lw_at lw_m6 1 rfl) rfl
theorem q1334 : (Jvm.Cond.methodLink "FloodLent" (362 : Nat) ({ cls := "FloodLent", name := "clears", desc := "()V" } : Jvm.MethodName)) ∈ lw_all := lw_g (lw_at lw_m6 2 rfl) rfl
theorem q1335 : (Jvm.Cond.privateMethod ({ cls := "FloodLent", name := "clears", desc := "()V" } : Jvm.MethodName)) ∈ lw_tbl := lw_at lw_m6 3 rfl
theorem q1336 : (Jvm.Cond.instanceMethod ({ cls := "FloodLent", name := "clears", desc := "()V" } : Jvm.MethodName)) ∈ lw_all := lw_g (lw_at lw_m6 4 rfl) rfl
theorem q1337 : (Jvm.Cond.code ({ cls := "FloodLent", name := "clears", desc := "()V" } : Jvm.MethodName) prog_1_method_53_code (1 : Nat) (Option.none : Option Jvm.ClassFile.FieldType)) ∈ lw_all := lw_g (lw_at lw_m6 5 rfl) rfl
theorem q1338 : (Jvm.Cond.methodLink "FloodLent" (359 : Nat) ({ cls := "FloodLent$Rings", name := "clears", desc := "()V" } : Jvm.MethodName)) ∈ lw_all := lw_g (lw_at lw_m6 6 rfl) rfl
theorem q1356 : (Jvm.Cond.instanceMethod ({ cls := "FloodLent", name := "ring", desc := "(I)I" } : Jvm.MethodName)) ∈ lw_all := lw_g (lw_at lw_m6 24 rfl) rfl
theorem q1357 : (Jvm.Cond.selects "FloodLent" ({ cls := "FloodLent", name := "ring", desc := "(I)I" } : Jvm.MethodName) ({ cls := "FloodLent", name := "ring", desc := "(I)I" } : Jvm.MethodName)) ∈ lw_all := lw_g (lw_at lw_m6 25 rfl) rfl
theorem q1358 : (Jvm.Cond.code ({ cls := "FloodLent", name := "ring", desc := "(I)I" } : Jvm.MethodName) prog_1_method_55_code (2 : Nat) (Option.some Jvm.ClassFile.FieldType.int)) ∈ lw_all := lw_g (lw_at lw_m6 26 rfl) rfl
theorem q1360 : (Jvm.Cond.instanceMethod ({ cls := "FloodLent", name := "left", desc := "(II)I" } : Jvm.MethodName)) ∈ lw_all := lw_g (lw_at lw_m6 28 rfl) rfl
theorem q1361 : (Jvm.Cond.selects "FloodLent" ({ cls := "FloodLent", name := "left", desc := "(II)I" } : Jvm.MethodName) ({ cls := "FloodLent", name := "left", desc := "(II)I" } : Jvm.MethodName)) ∈ lw_all := lw_g (lw_at lw_m6 29 rfl) rfl
theorem q1362 : (Jvm.Cond.code ({ cls := "FloodLent", name := "left", desc := "(II)I" } : Jvm.MethodName) prog_1_method_56_code (3 : Nat) (Option.some Jvm.ClassFile.FieldType.int)) ∈ lw_all := lw_g (lw_at lw_m6 30 rfl) rfl
theorem q1364 : (Jvm.Cond.instanceMethod ({ cls := "FloodLent", name := "struck", desc := "(II)I" } : Jvm.MethodName)) ∈ lw_all := lw_g (lw_at lw_m6 32 rfl) rfl
theorem q1365 : (Jvm.Cond.selects "FloodLent" ({ cls := "FloodLent", name := "struck", desc := "(II)I" } : Jvm.MethodName) ({ cls := "FloodLent", name := "struck", desc := "(II)I" } : Jvm.MethodName)) ∈ lw_all := lw_g (lw_at lw_m6 33 rfl) rfl
theorem q1366 : (Jvm.Cond.code ({ cls := "FloodLent", name := "struck", desc := "(II)I" } : Jvm.MethodName) prog_1_method_60_code (5 : Nat) (Option.some Jvm.ClassFile.FieldType.int)) ∈ lw_all := lw_g (lw_at lw_m6 34 rfl) rfl
theorem q1367 : (Jvm.Cond.methodLink "FloodLent" (379 : Nat) ({ cls := "FloodLent", name := "strikes", desc := "(I)V" } : Jvm.MethodName)) ∈ lw_all := lw_g (lw_at lw_m6 35 rfl) rfl
theorem q1368 : (Jvm.Cond.privateMethod ({ cls := "FloodLent", name := "strikes", desc := "(I)V" } : Jvm.MethodName)) ∈ lw_tbl := lw_at lw_m6 36 rfl
theorem q1369 : (Jvm.Cond.instanceMethod ({ cls := "FloodLent", name := "strikes", desc := "(I)V" } : Jvm.MethodName)) ∈ lw_all := lw_g (lw_at lw_m6 37 rfl) rfl
theorem q1370 : (Jvm.Cond.code ({ cls := "FloodLent", name := "strikes", desc := "(I)V" } : Jvm.MethodName) prog_1_method_58_code (7 : Nat) (Option.none : Option Jvm.ClassFile.FieldType)) ∈ lw_all := lw_g (lw_at lw_m6 38 rfl) rfl
theorem q1371 : (Jvm.Cond.methodLink "FloodLent" (371 : Nat) ({ cls := "FloodLent", name := "nextPaid", desc := "(III)I" } : Jvm.MethodName)) ∈ lw_all := lw_g (lw_at lw_m6 39 rfl) rfl
theorem q1372 : (Jvm.Cond.privateMethod ({ cls := "FloodLent", name := "nextPaid", desc := "(III)I" } : Jvm.MethodName)) ∈ lw_tbl := lw_at lw_m6 40 rfl
theorem q1373 : (Jvm.Cond.instanceMethod ({ cls := "FloodLent", name := "nextPaid", desc := "(III)I" } : Jvm.MethodName)) ∈ lw_all := lw_g (lw_at lw_m6 41 rfl) rfl
theorem q1374 : (Jvm.Cond.code ({ cls := "FloodLent", name := "nextPaid", desc := "(III)I" } : Jvm.MethodName) prog_1_method_57_code (6 : Nat) (Option.some Jvm.ClassFile.FieldType.int)) ∈ lw_all := lw_g (lw_at lw_m6 42 rfl) rfl
theorem q1375 : (Jvm.Cond.methodLink "FloodLent" (375 : Nat) ({ cls := "java/lang/Math", name := "min", desc := "(II)I" } : Jvm.MethodName)) ∈ lw_all := lw_g (lw_at lw_m6 43 rfl) rfl
theorem q1376 : (Jvm.Cond.methodLink "FloodLent" (382 : Nat) ({ cls := "FloodLent", name := "ruined", desc := "()I" } : Jvm.MethodName)) ∈ lw_all := lw_g (lw_at lw_m6 44 rfl) rfl
theorem q1377 : (Jvm.Cond.privateMethod ({ cls := "FloodLent", name := "ruined", desc := "()I" } : Jvm.MethodName)) ∈ lw_tbl := lw_at lw_m6 45 rfl
theorem q1378 : (Jvm.Cond.instanceMethod ({ cls := "FloodLent", name := "ruined", desc := "()I" } : Jvm.MethodName)) ∈ lw_all := lw_g (lw_at lw_m6 46 rfl) rfl
theorem q1379 : (Jvm.Cond.code ({ cls := "FloodLent", name := "ruined", desc := "()I" } : Jvm.MethodName) prog_1_method_59_code (6 : Nat) (Option.some Jvm.ClassFile.FieldType.int)) ∈ lw_all := lw_g (lw_at lw_m6 47 rfl) rfl
theorem q1381 : (Jvm.Cond.instanceMethod ({ cls := "FloodLent", name := "pays", desc := "(III)I" } : Jvm.MethodName)) ∈ lw_all := lw_g (lw_at lw_m6 49 rfl) rfl
theorem q1382 : (Jvm.Cond.selects "FloodLent" ({ cls := "FloodLent", name := "pays", desc := "(III)I" } : Jvm.MethodName) ({ cls := "FloodLent", name := "pays", desc := "(III)I" } : Jvm.MethodName)) ∈ lw_all := lw_g (lw_at lw_m6 50 rfl) rfl
theorem q1383 : (Jvm.Cond.code ({ cls := "FloodLent", name := "pays", desc := "(III)I" } : Jvm.MethodName) prog_1_method_61_code (4 : Nat) (Option.some Jvm.ClassFile.FieldType.int)) ∈ lw_all := lw_g (lw_at lw_m6 51 rfl) rfl
theorem q1385 : (Jvm.Cond.instanceMethod ({ cls := "FloodLent", name := "law", desc := "()I" } : Jvm.MethodName)) ∈ lw_all := lw_g (lw_at lw_m6 53 rfl) rfl
theorem q1386 : (Jvm.Cond.selects "FloodLent" ({ cls := "FloodLent", name := "law", desc := "()I" } : Jvm.MethodName) ({ cls := "FloodLent", name := "law", desc := "()I" } : Jvm.MethodName)) ∈ lw_all := lw_g (lw_at lw_m6 54 rfl) rfl
theorem q1387 : (Jvm.Cond.code ({ cls := "FloodLent", name := "law", desc := "()I" } : Jvm.MethodName) prog_1_method_62_code (5 : Nat) (Option.some Jvm.ClassFile.FieldType.int)) ∈ lw_all := lw_g (lw_at lw_m6 55 rfl) rfl
theorem q1388 : (Jvm.Cond.methodLink "FloodLent" (385 : Nat) ({ cls := "java/lang/Integer", name := "bitCount", desc := "(I)I" } : Jvm.MethodName)) ∈ lw_all := lw_g (lw_at lw_m6 56 rfl) rfl
theorem q1395 : (Jvm.Cond.instanceMethod ({ cls := "FloodLent", name := "melons", desc := "(I)I" } : Jvm.MethodName)) ∈ lw_all := lw_g (lw_at lw_m6 63 rfl) rfl
theorem q1396 : (Jvm.Cond.selects "FloodLent" ({ cls := "FloodLent", name := "melons", desc := "(I)I" } : Jvm.MethodName) ({ cls := "FloodLent", name := "melons", desc := "(I)I" } : Jvm.MethodName)) ∈ lw_all := lw_g (lw_at lw_m6 64 rfl) rfl
theorem q1397 : (Jvm.Cond.code ({ cls := "FloodLent", name := "melons", desc := "(I)I" } : Jvm.MethodName) prog_1_method_63_code (5 : Nat) (Option.some Jvm.ClassFile.FieldType.int)) ∈ lw_all := lw_g (lw_at lw_m6 65 rfl) rfl
theorem q1398 : (Jvm.Cond.classLink "FloodLent" (390 : Nat) "FloodLent$Crop") ∈ lw_all := lw_g (lw_at lw_m6 66 rfl) rfl
theorem q1400 : (Jvm.Cond.instanceMethod ({ cls := "FloodLent", name := "share", desc := "(I)I" } : Jvm.MethodName)) ∈ lw_all := lw_g (lw_at lw_m6 68 rfl) rfl
theorem q1401 : (Jvm.Cond.selects "FloodLent" ({ cls := "FloodLent", name := "share", desc := "(I)I" } : Jvm.MethodName) ({ cls := "FloodLent", name := "share", desc := "(I)I" } : Jvm.MethodName)) ∈ lw_all := lw_g (lw_at lw_m6 69 rfl) rfl
theorem q1402 : (Jvm.Cond.code ({ cls := "FloodLent", name := "share", desc := "(I)I" } : Jvm.MethodName) prog_1_method_65_code (4 : Nat) (Option.some Jvm.ClassFile.FieldType.int)) ∈ lw_all := lw_g (lw_at lw_m6 70 rfl) rfl
theorem q1403 : (Jvm.Cond.methodLink "FloodLent" (401 : Nat) ({ cls := "FloodLent", name := "shareOf", desc := "(I)I" } : Jvm.MethodName)) ∈ lw_all := lw_g (lw_at lw_m6 71 rfl) rfl
theorem q1404 : (Jvm.Cond.privateMethod ({ cls := "FloodLent", name := "shareOf", desc := "(I)I" } : Jvm.MethodName)) ∈ lw_tbl := lw_at lw_m6 72 rfl
theorem q1405 : (Jvm.Cond.instanceMethod ({ cls := "FloodLent", name := "shareOf", desc := "(I)I" } : Jvm.MethodName)) ∈ lw_all := lw_g (lw_at lw_m6 73 rfl) rfl
theorem q1406 : (Jvm.Cond.code ({ cls := "FloodLent", name := "shareOf", desc := "(I)I" } : Jvm.MethodName) prog_1_method_64_code (4 : Nat) (Option.some Jvm.ClassFile.FieldType.int)) ∈ lw_all := lw_g (lw_at lw_m6 74 rfl) rfl
theorem q1408 : (Jvm.Cond.instanceMethod ({ cls := "FloodLent", name := "enough", desc := "(I)I" } : Jvm.MethodName)) ∈ lw_all := lw_g (lw_at lw_m6 76 rfl) rfl
theorem q1409 : (Jvm.Cond.selects "FloodLent" ({ cls := "FloodLent", name := "enough", desc := "(I)I" } : Jvm.MethodName) ({ cls := "FloodLent", name := "enough", desc := "(I)I" } : Jvm.MethodName)) ∈ lw_all := lw_g (lw_at lw_m6 77 rfl) rfl
theorem q1410 : (Jvm.Cond.code ({ cls := "FloodLent", name := "enough", desc := "(I)I" } : Jvm.MethodName) prog_1_method_67_code (3 : Nat) (Option.some Jvm.ClassFile.FieldType.int)) ∈ lw_all := lw_g (lw_at lw_m6 78 rfl) rfl
theorem q1411 : (Jvm.Cond.methodLink "FloodLent" (410 : Nat) ({ cls := "FloodLent", name := "dryBy", desc := "(II)I" } : Jvm.MethodName)) ∈ lw_all := lw_g (lw_at lw_m6 79 rfl) rfl
theorem q1412 : (Jvm.Cond.privateMethod ({ cls := "FloodLent", name := "dryBy", desc := "(II)I" } : Jvm.MethodName)) ∈ lw_tbl := lw_at lw_m6 80 rfl
theorem q1413 : (Jvm.Cond.instanceMethod ({ cls := "FloodLent", name := "dryBy", desc := "(II)I" } : Jvm.MethodName)) ∈ lw_all := lw_g (lw_at lw_m6 81 rfl) rfl
theorem q1414 : (Jvm.Cond.code ({ cls := "FloodLent", name := "dryBy", desc := "(II)I" } : Jvm.MethodName) prog_1_method_66_code (5 : Nat) (Option.some Jvm.ClassFile.FieldType.int)) ∈ lw_all := lw_g (lw_at lw_m6 82 rfl) rfl
theorem q1416 : (Jvm.Cond.instanceMethod ({ cls := "FloodLent", name := "year", desc := "(II)I" } : Jvm.MethodName)) ∈ lw_all := lw_g (lw_at lw_m6 84 rfl) rfl
theorem q1417 : (Jvm.Cond.selects "FloodLent" ({ cls := "FloodLent", name := "year", desc := "(II)I" } : Jvm.MethodName) ({ cls := "FloodLent", name := "year", desc := "(II)I" } : Jvm.MethodName)) ∈ lw_all := lw_g (lw_at lw_m6 85 rfl) rfl
theorem q1418 : (Jvm.Cond.code ({ cls := "FloodLent", name := "year", desc := "(II)I" } : Jvm.MethodName) prog_1_method_70_code (3 : Nat) (Option.some Jvm.ClassFile.FieldType.int)) ∈ lw_all := lw_g (lw_at lw_m6 86 rfl) rfl
theorem q1419 : (Jvm.Cond.methodLink "FloodLent" (423 : Nat) ({ cls := "FloodLent", name := "isSeed", desc := "(I)Z" } : Jvm.MethodName)) ∈ lw_all := lw_g (lw_at lw_m6 87 rfl) rfl
theorem q1420 : (Jvm.Cond.privateMethod ({ cls := "FloodLent", name := "isSeed", desc := "(I)Z" } : Jvm.MethodName)) ∈ lw_tbl := lw_at lw_m6 88 rfl
theorem q1421 : (Jvm.Cond.instanceMethod ({ cls := "FloodLent", name := "isSeed", desc := "(I)Z" } : Jvm.MethodName)) ∈ lw_all := lw_g (lw_at lw_m6 89 rfl) rfl
theorem q1422 : (Jvm.Cond.code ({ cls := "FloodLent", name := "isSeed", desc := "(I)Z" } : Jvm.MethodName) prog_1_method_69_code (2 : Nat) (Option.some Jvm.ClassFile.FieldType.boolean)) ∈ lw_all := lw_g (lw_at lw_m6 90 rfl) rfl
theorem q1423 : (Jvm.Cond.constantLong "FloodLent" (421 : Nat) (2000000000 : Int64)) ∈ lw_all := lw_g (lw_at lw_m6 91 rfl) rfl
theorem q1424 : (Jvm.Cond.methodLink "FloodLent" (426 : Nat) ({ cls := "FloodLent", name := "drawn", desc := "(J)LFloodLent$Year;" } : Jvm.MethodName)) ∈ lw_all := lw_g (lw_at lw_m6 92 rfl) rfl
theorem q1425 : (Jvm.Cond.privateMethod ({ cls := "FloodLent", name := "drawn", desc := "(J)LFloodLent$Year;" } : Jvm.MethodName)) ∈ lw_tbl := lw_at lw_m6 93 rfl
theorem q1426 : (Jvm.Cond.instanceMethod ({ cls := "FloodLent", name := "drawn", desc := "(J)LFloodLent$Year;" } : Jvm.MethodName)) ∈ lw_all := lw_g (lw_at lw_m6 94 rfl) rfl
theorem q1427 : (Jvm.Cond.code ({ cls := "FloodLent", name := "drawn", desc := "(J)LFloodLent$Year;" } : Jvm.MethodName) prog_1_method_68_code (7 : Nat) (Option.some (Jvm.ClassFile.FieldType.object "FloodLent$Year"))) ∈ lw_all := lw_g (lw_at lw_m6 95 rfl) rfl
theorem q1428 : (Jvm.Cond.constantLong "FloodLent" (413 : Nat) (1103515245 : Int64)) ∈ lw_all := lw_g (lw_at lw_m6 96 rfl) rfl
theorem q1429 : (Jvm.Cond.constantLong "FloodLent" (415 : Nat) (12345 : Int64)) ∈ lw_all := lw_g (lw_at lw_m6 97 rfl) rfl
theorem q1430 : (Jvm.Cond.constantLong "FloodLent" (417 : Nat) (2147483648 : Int64)) ∈ lw_all := lw_g (lw_at lw_m6 98 rfl) rfl
theorem q1431 : (Jvm.Cond.constantLong "FloodLent" (419 : Nat) (65536 : Int64)) ∈ lw_all := lw_g (lw_at lw_m6 99 rfl) rfl
theorem q1433 : (Jvm.Cond.instanceMethod ({ cls := "FloodLent", name := "years", desc := "(II)I" } : Jvm.MethodName)) ∈ lw_all := lw_g (lw_at lw_m6 101 rfl) rfl
theorem q1434 : (Jvm.Cond.selects "FloodLent" ({ cls := "FloodLent", name := "years", desc := "(II)I" } : Jvm.MethodName) ({ cls := "FloodLent", name := "years", desc := "(II)I" } : Jvm.MethodName)) ∈ lw_all := lw_g (lw_at lw_m6 102 rfl) rfl
theorem q1435 : (Jvm.Cond.code ({ cls := "FloodLent", name := "years", desc := "(II)I" } : Jvm.MethodName) prog_1_method_71_code (5 : Nat) (Option.some Jvm.ClassFile.FieldType.int)) ∈ lw_all := lw_g (lw_at lw_m6 103 rfl) rfl
theorem q1436 : (Jvm.Cond.constantLong "FloodLent" (430 : Nat) (20 : Int64)) ∈ lw_all := lw_g (lw_at lw_m6 104 rfl) rfl
theorem q1438 : (Jvm.Cond.instanceMethod ({ cls := "FloodLent", name := "count", desc := "(I)I" } : Jvm.MethodName)) ∈ lw_all := lw_g (lw_at lw_m6 106 rfl) rfl
theorem q1439 : (Jvm.Cond.selects "FloodLent" ({ cls := "FloodLent", name := "count", desc := "(I)I" } : Jvm.MethodName) ({ cls := "FloodLent", name := "count", desc := "(I)I" } : Jvm.MethodName)) ∈ lw_all := lw_g (lw_at lw_m6 107 rfl) rfl
theorem q1440 : (Jvm.Cond.code ({ cls := "FloodLent", name := "count", desc := "(I)I" } : Jvm.MethodName) prog_1_method_72_code (7 : Nat) (Option.some Jvm.ClassFile.FieldType.int)) ∈ lw_all := lw_g (lw_at lw_m6 108 rfl) rfl
theorem q1442 : (Jvm.Cond.instanceMethod ({ cls := "FloodLent", name := "image", desc := "(I)I" } : Jvm.MethodName)) ∈ lw_all := lw_g (lw_at lw_m6 110 rfl) rfl
theorem q1443 : (Jvm.Cond.selects "FloodLent" ({ cls := "FloodLent", name := "image", desc := "(I)I" } : Jvm.MethodName) ({ cls := "FloodLent", name := "image", desc := "(I)I" } : Jvm.MethodName)) ∈ lw_all := lw_g (lw_at lw_m6 111 rfl) rfl
theorem q1444 : (Jvm.Cond.code ({ cls := "FloodLent", name := "image", desc := "(I)I" } : Jvm.MethodName) prog_1_method_73_code (2 : Nat) (Option.some Jvm.ClassFile.FieldType.int)) ∈ lw_all := lw_g (lw_at lw_m6 112 rfl) rfl
theorem q1446 : (Jvm.Cond.methodLinkNest "FloodLent" (435 : Nat) ({ cls := "FloodLent$Image", name := "<init>", desc := "()V" } : Jvm.MethodName) "FloodLent") ∈ lw_tbl := lw_at lw_m6 114 rfl
theorem q1451 : (Jvm.Cond.fieldLinkNest "FloodLent" (440 : Nat) "FloodLent$Image" "takers" "[I" "FloodLent") ∈ lw_tbl := lw_at lw_m6 119 rfl
theorem q1452 : (Jvm.Cond.fieldLinkNest "FloodLent" (436 : Nat) "FloodLent$Image" "plain" "LFloodLent$Plain;" "FloodLent") ∈ lw_tbl := lw_at lw_m6 120 rfl
theorem q1453 : (Jvm.Cond.fieldLinkNest "FloodLent" (439 : Nat) "FloodLent$Image" "more" "I" "FloodLent") ∈ lw_tbl := lw_at lw_m6 121 rfl
theorem q1461 : (Jvm.Cond.methodLink "FloodLent" (441 : Nat) ({ cls := "java/lang/System", name := "arraycopy", desc := "(Ljava/lang/Object;ILjava/lang/Object;II)V" } : Jvm.MethodName)) ∈ lw_all := lw_g (lw_at lw_m6 129 rfl) rfl
theorem q1463 : (Jvm.Cond.instanceMethod ({ cls := "FloodLent", name := "restore", desc := "(I)I" } : Jvm.MethodName)) ∈ lw_all := lw_g (lw_at lw_m6 131 rfl) rfl
theorem q1464 : (Jvm.Cond.selects "FloodLent" ({ cls := "FloodLent", name := "restore", desc := "(I)I" } : Jvm.MethodName) ({ cls := "FloodLent", name := "restore", desc := "(I)I" } : Jvm.MethodName)) ∈ lw_all := lw_g (lw_at lw_m6 132 rfl) rfl
theorem q1465 : (Jvm.Cond.code ({ cls := "FloodLent", name := "restore", desc := "(I)I" } : Jvm.MethodName) prog_1_method_74_code (2 : Nat) (Option.some Jvm.ClassFile.FieldType.int)) ∈ lw_all := lw_g (lw_at lw_m6 133 rfl) rfl
theorem q2115 : (Jvm.Cond.castable "FloodLent" "java/lang/Object") ∈ lw_tbl := lw_at lw_m9 63 rfl
theorem in_X0 : ∀ w ∈ wsX00, w ∈ lw_all := lw_in wsX00 [616, 618, 620, 622, 624, 626, 628, 630, 632, 634, 636, 638, 640, 642, 644, 646] (by decide +kernel) (by decide +kernel)
