/-! FrostRing -/
set_option maxRecDepth 100000
def RX0 : String := "FrostRing"
def TX0 : u_T := fun k => match k with
  | 0 => ("FrostRing", "slots", "[LFrostRing$Slot;", true)
  | 1 => ("FrostRing", "now", "LFrostRing$Field;", true)
  | 2 => ("FrostRing", "trial", "LFrostRing$Field;", true)
  | 3 => ("FrostRing", "images", "[LFrostRing$Field;", true)
  | 4 => ("FrostRing", "tape", "[B", true)
  | 5 => ("FrostRing", "taped", "I", false)
  | 6 => ("FrostRing", "faultKind", "I", false)
  | 7 => ("FrostRing", "faultPlace", "I", false)
  | 8 => ("FrostRing", "toldGaps", "[I", true)
  | 9 => ("FrostRing", "gapMany", "I", false)
  | _ => ("FrostRing", "chosenBits", "I", false)
def tyX0 : Nat → FieldType := fun k => match k with
  | 0 => .array (.object "FrostRing$Slot")
  | 1 => .object "FrostRing$Field"
  | 2 => .object "FrostRing$Field"
  | 3 => .array (.object "FrostRing$Field")
  | 4 => .array .byte
  | 5 => .int
  | 6 => .int
  | 7 => .int
  | 8 => .array .int
  | 9 => .int
  | _ => .int
abbrev wsX00 : List Cond := u_ws RX0 TX0 11
theorem nmX0 : ∀ a, a < 11 → ∀ b, b < 11 → a ≠ b → (TX0 a).2.1 ≠ (TX0 b).2.1 := by decide +kernel
theorem tyX0_ok : ∀ k, k < 11 → parseFieldDescriptor (TX0 k).2.2.1 = some (tyX0 k) := by decide +kernel
abbrev cX0_row : ByteArray := prog_1_method_6_code
def yX0_row : MethodName := ⟨RX0, "row", "(III)I"⟩
def dkwX0_row_2 : List UInt8 := [16, 253, 172]
abbrev dktX0_row_2 : List UInt8 := dkwX0_row_2 ++ []
def dkwX0_row_1 : List UInt8 := [164, 0, 6, 16, 254, 172, 42, 180, 0, 15, 27, 50, 28, 29, 182, 0, 19, 153, 0, 7, 3, 167, 0, 5]
abbrev dktX0_row_1 : List UInt8 := dkwX0_row_1 ++ dktX0_row_2
def dkwX0_row_0 : List UInt8 := [27, 184, 0, 11, 153, 0, 21, 28, 133, 9, 20, 0, 9, 184, 0, 5, 153, 0, 9, 29, 16, 60]
abbrev dktX0_row_0 : List UInt8 := dkwX0_row_0 ++ dktX0_row_1
theorem dksX0_row_0 : cX0_row.data.toList.drop 0 = dktX0_row_0 := by decide +kernel
theorem dksX0_row_1 : cX0_row.data.toList.drop 22 = dktX0_row_1 := dk_seg dksX0_row_0 22 rfl rfl
theorem dksX0_row_2 : cX0_row.data.toList.drop 46 = dktX0_row_2 := dk_seg dksX0_row_1 24 rfl rfl
theorem dX0_row_0 : decode cX0_row 0 = .ok (.iload_n 1, 1) := dk_27 (dk_at dksX0_row_0 0 rfl rfl)
theorem dX0_row_1 : decode cX0_row 1 = .ok (.invokestatic 11, 3) := dk_184 0 11 (dk_at dksX0_row_0 1 rfl rfl)
theorem dX0_row_4 : decode cX0_row 4 = .ok (.ifCond .eq 21, 3) := dk_153 0 21 (dk_at dksX0_row_0 4 rfl rfl)
theorem dX0_row_7 : decode cX0_row 7 = .ok (.iload_n 2, 1) := dk_28 (dk_at dksX0_row_0 7 rfl rfl)
theorem dX0_row_8 : decode cX0_row 8 = .ok (.i2l, 1) := dk_133 (dk_at dksX0_row_0 8 rfl rfl)
theorem dX0_row_9 : decode cX0_row 9 = .ok (.lconst 0, 1) := dk_9 (dk_at dksX0_row_0 9 rfl rfl)
theorem dX0_row_10 : decode cX0_row 10 = .ok (.ldc2_w 9, 3) := dk_20 0 9 (dk_at dksX0_row_0 10 rfl rfl)
theorem dX0_row_13 : decode cX0_row 13 = .ok (.invokestatic 5, 3) := dk_184 0 5 (dk_at dksX0_row_0 13 rfl rfl)
theorem dX0_row_16 : decode cX0_row 16 = .ok (.ifCond .eq 9, 3) := dk_153 0 9 (dk_at dksX0_row_0 16 rfl rfl)
theorem dX0_row_19 : decode cX0_row 19 = .ok (.iload_n 3, 1) := dk_29 (dk_at dksX0_row_0 19 rfl rfl)
theorem dX0_row_20 : decode cX0_row 20 = .ok (.bipush 60, 2) := dk_16 60 (dk_at dksX0_row_0 20 rfl rfl)
theorem dX0_row_22 : decode cX0_row 22 = .ok (.if_icmp .le 6, 3) := dk_164 0 6 (dk_at dksX0_row_1 0 rfl rfl)
theorem dX0_row_25 : decode cX0_row 25 = .ok (.bipush (-2), 2) := dk_16 254 (dk_at dksX0_row_1 3 rfl rfl)
theorem dX0_row_27 : decode cX0_row 27 = .ok (.ireturn, 1) := dk_172 (dk_at dksX0_row_1 5 rfl rfl)
theorem dX0_row_28 : decode cX0_row 28 = .ok (.aload_n 0, 1) := dk_42 (dk_at dksX0_row_1 6 rfl rfl)
theorem dX0_row_29 : decode cX0_row 29 = .ok (.getfield 15, 3) := dk_180 0 15 (dk_at dksX0_row_1 7 rfl rfl)
theorem dX0_row_32 : decode cX0_row 32 = .ok (.iload_n 1, 1) := dk_27 (dk_at dksX0_row_1 10 rfl rfl)
theorem dX0_row_33 : decode cX0_row 33 = .ok (.aaload, 1) := dk_50 (dk_at dksX0_row_1 11 rfl rfl)
theorem dX0_row_34 : decode cX0_row 34 = .ok (.iload_n 2, 1) := dk_28 (dk_at dksX0_row_1 12 rfl rfl)
theorem dX0_row_35 : decode cX0_row 35 = .ok (.iload_n 3, 1) := dk_29 (dk_at dksX0_row_1 13 rfl rfl)
theorem dX0_row_36 : decode cX0_row 36 = .ok (.invokevirtual 19, 3) := dk_182 0 19 (dk_at dksX0_row_1 14 rfl rfl)
theorem dX0_row_39 : decode cX0_row 39 = .ok (.ifCond .eq 7, 3) := dk_153 0 7 (dk_at dksX0_row_1 17 rfl rfl)
theorem dX0_row_42 : decode cX0_row 42 = .ok (.iconst 0, 1) := dk_3 (dk_at dksX0_row_1 20 rfl rfl)
theorem dX0_row_43 : decode cX0_row 43 = .ok (.goto 5, 3) := dk_167 0 5 (dk_at dksX0_row_1 21 rfl rfl)
theorem dX0_row_46 : decode cX0_row 46 = .ok (.bipush (-3), 2) := dk_16 253 (dk_at dksX0_row_2 0 rfl rfl)
theorem dX0_row_48 : decode cX0_row 48 = .ok (.ireturn, 1) := dk_172 (dk_at dksX0_row_2 2 rfl rfl)
abbrev cX0_isSlot : ByteArray := prog_1_method_5_code
def yX0_isSlot : MethodName := ⟨RX0, "isSlot", "(I)Z"⟩
def dkwX0_isSlot_0 : List UInt8 := [26, 133, 9, 20, 0, 9, 184, 0, 5, 172]
abbrev dktX0_isSlot_0 : List UInt8 := dkwX0_isSlot_0 ++ []
theorem dksX0_isSlot_0 : cX0_isSlot.data.toList.drop 0 = dktX0_isSlot_0 := by decide +kernel
theorem dX0_isSlot_0 : decode cX0_isSlot 0 = .ok (.iload_n 0, 1) := dk_26 (dk_at dksX0_isSlot_0 0 rfl rfl)
theorem dX0_isSlot_1 : decode cX0_isSlot 1 = .ok (.i2l, 1) := dk_133 (dk_at dksX0_isSlot_0 1 rfl rfl)
theorem dX0_isSlot_2 : decode cX0_isSlot 2 = .ok (.lconst 0, 1) := dk_9 (dk_at dksX0_isSlot_0 2 rfl rfl)
theorem dX0_isSlot_3 : decode cX0_isSlot 3 = .ok (.ldc2_w 9, 3) := dk_20 0 9 (dk_at dksX0_isSlot_0 3 rfl rfl)
theorem dX0_isSlot_6 : decode cX0_isSlot 6 = .ok (.invokestatic 5, 3) := dk_184 0 5 (dk_at dksX0_isSlot_0 6 rfl rfl)
theorem dX0_isSlot_9 : decode cX0_isSlot 9 = .ok (.ireturn, 1) := dk_172 (dk_at dksX0_isSlot_0 9 rfl rfl)
abbrev cX0_in : ByteArray := prog_1_method_1_code
def yX0_in : MethodName := ⟨RX0, "in", "(JJJ)Z"⟩
def dkwX0_in_0 : List UInt8 := [30, 32, 148, 155, 0, 14, 30, 22, 4, 148, 157, 0, 7, 4, 167, 0, 4, 3, 172]
abbrev dktX0_in_0 : List UInt8 := dkwX0_in_0 ++ []
theorem dksX0_in_0 : cX0_in.data.toList.drop 0 = dktX0_in_0 := by decide +kernel
theorem dX0_in_0 : decode cX0_in 0 = .ok (.lload_n 0, 1) := dk_30 (dk_at dksX0_in_0 0 rfl rfl)
theorem dX0_in_1 : decode cX0_in 1 = .ok (.lload_n 2, 1) := dk_32 (dk_at dksX0_in_0 1 rfl rfl)
theorem dX0_in_2 : decode cX0_in 2 = .ok (.lcmp, 1) := dk_148 (dk_at dksX0_in_0 2 rfl rfl)
theorem dX0_in_3 : decode cX0_in 3 = .ok (.ifCond .lt 14, 3) := dk_155 0 14 (dk_at dksX0_in_0 3 rfl rfl)
theorem dX0_in_6 : decode cX0_in 6 = .ok (.lload_n 0, 1) := dk_30 (dk_at dksX0_in_0 6 rfl rfl)
theorem dX0_in_7 : decode cX0_in 7 = .ok (.lload 4, 2) := dk_22 4 (dk_at dksX0_in_0 7 rfl rfl)
theorem dX0_in_9 : decode cX0_in 9 = .ok (.lcmp, 1) := dk_148 (dk_at dksX0_in_0 9 rfl rfl)
theorem dX0_in_10 : decode cX0_in 10 = .ok (.ifCond .gt 7, 3) := dk_157 0 7 (dk_at dksX0_in_0 10 rfl rfl)
theorem dX0_in_13 : decode cX0_in 13 = .ok (.iconst 1, 1) := dk_4 (dk_at dksX0_in_0 13 rfl rfl)
theorem dX0_in_14 : decode cX0_in 14 = .ok (.goto 4, 3) := dk_167 0 4 (dk_at dksX0_in_0 14 rfl rfl)
theorem dX0_in_17 : decode cX0_in 17 = .ok (.iconst 0, 1) := dk_3 (dk_at dksX0_in_0 17 rfl rfl)
theorem dX0_in_18 : decode cX0_in 18 = .ok (.ireturn, 1) := dk_172 (dk_at dksX0_in_0 18 rfl rfl)
abbrev cX0_write : ByteArray := prog_1_method_7_code
def yX0_write : MethodName := ⟨RX0, "write", "(IIJ)I"⟩
def dkwX0_write_0 : List UInt8 := [27, 184, 0, 11, 153, 0, 17, 42, 180, 0, 15, 27, 50, 28, 33, 182, 0, 25, 167, 0, 5, 16, 254, 172]
abbrev dktX0_write_0 : List UInt8 := dkwX0_write_0 ++ []
theorem dksX0_write_0 : cX0_write.data.toList.drop 0 = dktX0_write_0 := by decide +kernel
theorem dX0_write_0 : decode cX0_write 0 = .ok (.iload_n 1, 1) := dk_27 (dk_at dksX0_write_0 0 rfl rfl)
theorem dX0_write_1 : decode cX0_write 1 = .ok (.invokestatic 11, 3) := dk_184 0 11 (dk_at dksX0_write_0 1 rfl rfl)
theorem dX0_write_4 : decode cX0_write 4 = .ok (.ifCond .eq 17, 3) := dk_153 0 17 (dk_at dksX0_write_0 4 rfl rfl)
theorem dX0_write_7 : decode cX0_write 7 = .ok (.aload_n 0, 1) := dk_42 (dk_at dksX0_write_0 7 rfl rfl)
theorem dX0_write_8 : decode cX0_write 8 = .ok (.getfield 15, 3) := dk_180 0 15 (dk_at dksX0_write_0 8 rfl rfl)
theorem dX0_write_11 : decode cX0_write 11 = .ok (.iload_n 1, 1) := dk_27 (dk_at dksX0_write_0 11 rfl rfl)
theorem dX0_write_12 : decode cX0_write 12 = .ok (.aaload, 1) := dk_50 (dk_at dksX0_write_0 12 rfl rfl)
theorem dX0_write_13 : decode cX0_write 13 = .ok (.iload_n 2, 1) := dk_28 (dk_at dksX0_write_0 13 rfl rfl)
theorem dX0_write_14 : decode cX0_write 14 = .ok (.lload_n 3, 1) := dk_33 (dk_at dksX0_write_0 14 rfl rfl)
theorem dX0_write_15 : decode cX0_write 15 = .ok (.invokevirtual 25, 3) := dk_182 0 25 (dk_at dksX0_write_0 15 rfl rfl)
theorem dX0_write_18 : decode cX0_write 18 = .ok (.goto 5, 3) := dk_167 0 5 (dk_at dksX0_write_0 18 rfl rfl)
theorem dX0_write_21 : decode cX0_write 21 = .ok (.bipush (-2), 2) := dk_16 254 (dk_at dksX0_write_0 21 rfl rfl)
theorem dX0_write_23 : decode cX0_write 23 = .ok (.ireturn, 1) := dk_172 (dk_at dksX0_write_0 23 rfl rfl)
abbrev cX0_paste : ByteArray := prog_1_method_8_code
def yX0_paste : MethodName := ⟨RX0, "paste", "(IIIII)I"⟩
def dkwX0_paste_1 : List UInt8 := [180, 0, 15, 29, 50, 21, 4, 21, 5, 182, 0, 29, 167, 0, 5, 16, 254, 172]
abbrev dktX0_paste_1 : List UInt8 := dkwX0_paste_1 ++ []
def dkwX0_paste_0 : List UInt8 := [27, 184, 0, 11, 153, 0, 33, 29, 184, 0, 11, 153, 0, 26, 42, 180, 0, 15, 27, 50, 28, 42]
abbrev dktX0_paste_0 : List UInt8 := dkwX0_paste_0 ++ dktX0_paste_1
theorem dksX0_paste_0 : cX0_paste.data.toList.drop 0 = dktX0_paste_0 := by decide +kernel
theorem dksX0_paste_1 : cX0_paste.data.toList.drop 22 = dktX0_paste_1 := dk_seg dksX0_paste_0 22 rfl rfl
theorem dX0_paste_0 : decode cX0_paste 0 = .ok (.iload_n 1, 1) := dk_27 (dk_at dksX0_paste_0 0 rfl rfl)
theorem dX0_paste_1 : decode cX0_paste 1 = .ok (.invokestatic 11, 3) := dk_184 0 11 (dk_at dksX0_paste_0 1 rfl rfl)
theorem dX0_paste_4 : decode cX0_paste 4 = .ok (.ifCond .eq 33, 3) := dk_153 0 33 (dk_at dksX0_paste_0 4 rfl rfl)
theorem dX0_paste_7 : decode cX0_paste 7 = .ok (.iload_n 3, 1) := dk_29 (dk_at dksX0_paste_0 7 rfl rfl)
theorem dX0_paste_8 : decode cX0_paste 8 = .ok (.invokestatic 11, 3) := dk_184 0 11 (dk_at dksX0_paste_0 8 rfl rfl)
theorem dX0_paste_11 : decode cX0_paste 11 = .ok (.ifCond .eq 26, 3) := dk_153 0 26 (dk_at dksX0_paste_0 11 rfl rfl)
theorem dX0_paste_14 : decode cX0_paste 14 = .ok (.aload_n 0, 1) := dk_42 (dk_at dksX0_paste_0 14 rfl rfl)
theorem dX0_paste_15 : decode cX0_paste 15 = .ok (.getfield 15, 3) := dk_180 0 15 (dk_at dksX0_paste_0 15 rfl rfl)
theorem dX0_paste_18 : decode cX0_paste 18 = .ok (.iload_n 1, 1) := dk_27 (dk_at dksX0_paste_0 18 rfl rfl)
theorem dX0_paste_19 : decode cX0_paste 19 = .ok (.aaload, 1) := dk_50 (dk_at dksX0_paste_0 19 rfl rfl)
theorem dX0_paste_20 : decode cX0_paste 20 = .ok (.iload_n 2, 1) := dk_28 (dk_at dksX0_paste_0 20 rfl rfl)
theorem dX0_paste_21 : decode cX0_paste 21 = .ok (.aload_n 0, 1) := dk_42 (dk_at dksX0_paste_0 21 rfl rfl)
theorem dX0_paste_22 : decode cX0_paste 22 = .ok (.getfield 15, 3) := dk_180 0 15 (dk_at dksX0_paste_1 0 rfl rfl)
theorem dX0_paste_25 : decode cX0_paste 25 = .ok (.iload_n 3, 1) := dk_29 (dk_at dksX0_paste_1 3 rfl rfl)
theorem dX0_paste_26 : decode cX0_paste 26 = .ok (.aaload, 1) := dk_50 (dk_at dksX0_paste_1 4 rfl rfl)
theorem dX0_paste_27 : decode cX0_paste 27 = .ok (.iload 4, 2) := dk_21 4 (dk_at dksX0_paste_1 5 rfl rfl)
theorem dX0_paste_29 : decode cX0_paste 29 = .ok (.iload 5, 2) := dk_21 5 (dk_at dksX0_paste_1 7 rfl rfl)
theorem dX0_paste_31 : decode cX0_paste 31 = .ok (.invokevirtual 29, 3) := dk_182 0 29 (dk_at dksX0_paste_1 9 rfl rfl)
theorem dX0_paste_34 : decode cX0_paste 34 = .ok (.goto 5, 3) := dk_167 0 5 (dk_at dksX0_paste_1 12 rfl rfl)
theorem dX0_paste_37 : decode cX0_paste 37 = .ok (.bipush (-2), 2) := dk_16 254 (dk_at dksX0_paste_1 15 rfl rfl)
theorem dX0_paste_39 : decode cX0_paste 39 = .ok (.ireturn, 1) := dk_172 (dk_at dksX0_paste_1 17 rfl rfl)
abbrev cX0_init : ByteArray := prog_1_method_9_code
def yX0_init : MethodName := ⟨RX0, "<init>", "()V"⟩
def dkwX0_init_4 : List UInt8 := [27, 187, 0, 20, 89, 183, 0, 76, 83, 132, 1, 1, 167, 255, 235, 177]
abbrev dktX0_init_4 : List UInt8 := dkwX0_init_4 ++ []
def dkwX0_init_3 : List UInt8 := [2, 181, 0, 68, 42, 17, 0, 144, 188, 10, 181, 0, 72, 3, 60, 27, 7, 162, 0, 22, 42, 180, 0, 15]
abbrev dktX0_init_3 : List UInt8 := dkwX0_init_3 ++ dktX0_init_4
def dkwX0_init_2 : List UInt8 := [183, 0, 50, 181, 0, 57, 42, 6, 189, 0, 39, 181, 0, 60, 42, 17, 2, 188, 188, 8, 181, 0, 64, 42]
abbrev dktX0_init_2 : List UInt8 := dkwX0_init_2 ++ dktX0_init_3
def dkwX0_init_1 : List UInt8 := [184, 0, 44, 183, 0, 50, 181, 0, 53, 42, 187, 0, 39, 89, 187, 0, 41, 89, 183, 0, 43, 184, 0, 44]
abbrev dktX0_init_1 : List UInt8 := dkwX0_init_1 ++ dktX0_init_2
def dkwX0_init_0 : List UInt8 := [42, 183, 0, 33, 42, 7, 189, 0, 20, 181, 0, 15, 42, 187, 0, 39, 89, 187, 0, 41, 89, 183, 0, 43]
abbrev dktX0_init_0 : List UInt8 := dkwX0_init_0 ++ dktX0_init_1
theorem dksX0_init_0 : cX0_init.data.toList.drop 0 = dktX0_init_0 := by decide +kernel
theorem dksX0_init_1 : cX0_init.data.toList.drop 24 = dktX0_init_1 := dk_seg dksX0_init_0 24 rfl rfl
theorem dksX0_init_2 : cX0_init.data.toList.drop 48 = dktX0_init_2 := dk_seg dksX0_init_1 24 rfl rfl
theorem dksX0_init_3 : cX0_init.data.toList.drop 72 = dktX0_init_3 := dk_seg dksX0_init_2 24 rfl rfl
theorem dksX0_init_4 : cX0_init.data.toList.drop 96 = dktX0_init_4 := dk_seg dksX0_init_3 24 rfl rfl
theorem dX0_init_0 : decode cX0_init 0 = .ok (.aload_n 0, 1) := dk_42 (dk_at dksX0_init_0 0 rfl rfl)
theorem dX0_init_1 : decode cX0_init 1 = .ok (.invokespecial 33, 3) := dk_183 0 33 (dk_at dksX0_init_0 1 rfl rfl)
theorem dX0_init_4 : decode cX0_init 4 = .ok (.aload_n 0, 1) := dk_42 (dk_at dksX0_init_0 4 rfl rfl)
theorem dX0_init_5 : decode cX0_init 5 = .ok (.iconst 4, 1) := dk_7 (dk_at dksX0_init_0 5 rfl rfl)
theorem dX0_init_6 : decode cX0_init 6 = .ok (.anewarray 20, 3) := dk_189 0 20 (dk_at dksX0_init_0 6 rfl rfl)
theorem dX0_init_9 : decode cX0_init 9 = .ok (.putfield 15, 3) := dk_181 0 15 (dk_at dksX0_init_0 9 rfl rfl)
theorem dX0_init_12 : decode cX0_init 12 = .ok (.aload_n 0, 1) := dk_42 (dk_at dksX0_init_0 12 rfl rfl)
theorem dX0_init_13 : decode cX0_init 13 = .ok (.new 39, 3) := dk_187 0 39 (dk_at dksX0_init_0 13 rfl rfl)
theorem dX0_init_16 : decode cX0_init 16 = .ok (.dup, 1) := dk_89 (dk_at dksX0_init_0 16 rfl rfl)
theorem dX0_init_17 : decode cX0_init 17 = .ok (.new 41, 3) := dk_187 0 41 (dk_at dksX0_init_0 17 rfl rfl)
theorem dX0_init_20 : decode cX0_init 20 = .ok (.dup, 1) := dk_89 (dk_at dksX0_init_0 20 rfl rfl)
theorem dX0_init_21 : decode cX0_init 21 = .ok (.invokespecial 43, 3) := dk_183 0 43 (dk_at dksX0_init_0 21 rfl rfl)
theorem dX0_init_24 : decode cX0_init 24 = .ok (.invokestatic 44, 3) := dk_184 0 44 (dk_at dksX0_init_1 0 rfl rfl)
theorem dX0_init_27 : decode cX0_init 27 = .ok (.invokespecial 50, 3) := dk_183 0 50 (dk_at dksX0_init_1 3 rfl rfl)
theorem dX0_init_30 : decode cX0_init 30 = .ok (.putfield 53, 3) := dk_181 0 53 (dk_at dksX0_init_1 6 rfl rfl)
theorem dX0_init_33 : decode cX0_init 33 = .ok (.aload_n 0, 1) := dk_42 (dk_at dksX0_init_1 9 rfl rfl)
theorem dX0_init_34 : decode cX0_init 34 = .ok (.new 39, 3) := dk_187 0 39 (dk_at dksX0_init_1 10 rfl rfl)
theorem dX0_init_37 : decode cX0_init 37 = .ok (.dup, 1) := dk_89 (dk_at dksX0_init_1 13 rfl rfl)
theorem dX0_init_38 : decode cX0_init 38 = .ok (.new 41, 3) := dk_187 0 41 (dk_at dksX0_init_1 14 rfl rfl)
theorem dX0_init_41 : decode cX0_init 41 = .ok (.dup, 1) := dk_89 (dk_at dksX0_init_1 17 rfl rfl)
theorem dX0_init_42 : decode cX0_init 42 = .ok (.invokespecial 43, 3) := dk_183 0 43 (dk_at dksX0_init_1 18 rfl rfl)
theorem dX0_init_45 : decode cX0_init 45 = .ok (.invokestatic 44, 3) := dk_184 0 44 (dk_at dksX0_init_1 21 rfl rfl)
theorem dX0_init_48 : decode cX0_init 48 = .ok (.invokespecial 50, 3) := dk_183 0 50 (dk_at dksX0_init_2 0 rfl rfl)
theorem dX0_init_51 : decode cX0_init 51 = .ok (.putfield 57, 3) := dk_181 0 57 (dk_at dksX0_init_2 3 rfl rfl)
theorem dX0_init_54 : decode cX0_init 54 = .ok (.aload_n 0, 1) := dk_42 (dk_at dksX0_init_2 6 rfl rfl)
theorem dX0_init_55 : decode cX0_init 55 = .ok (.iconst 3, 1) := dk_6 (dk_at dksX0_init_2 7 rfl rfl)
theorem dX0_init_56 : decode cX0_init 56 = .ok (.anewarray 39, 3) := dk_189 0 39 (dk_at dksX0_init_2 8 rfl rfl)
theorem dX0_init_59 : decode cX0_init 59 = .ok (.putfield 60, 3) := dk_181 0 60 (dk_at dksX0_init_2 11 rfl rfl)
theorem dX0_init_62 : decode cX0_init 62 = .ok (.aload_n 0, 1) := dk_42 (dk_at dksX0_init_2 14 rfl rfl)
theorem dX0_init_63 : decode cX0_init 63 = .ok (.sipush 700, 3) := dk_17 2 188 (dk_at dksX0_init_2 15 rfl rfl)
theorem dX0_init_66 : decode cX0_init 66 = .ok (.newarray .byte, 2) := dk_188_8 (dk_at dksX0_init_2 18 rfl rfl)
theorem dX0_init_68 : decode cX0_init 68 = .ok (.putfield 64, 3) := dk_181 0 64 (dk_at dksX0_init_2 20 rfl rfl)
theorem dX0_init_71 : decode cX0_init 71 = .ok (.aload_n 0, 1) := dk_42 (dk_at dksX0_init_2 23 rfl rfl)
theorem dX0_init_72 : decode cX0_init 72 = .ok (.iconst (-1), 1) := dk_2 (dk_at dksX0_init_3 0 rfl rfl)
theorem dX0_init_73 : decode cX0_init 73 = .ok (.putfield 68, 3) := dk_181 0 68 (dk_at dksX0_init_3 1 rfl rfl)
theorem dX0_init_76 : decode cX0_init 76 = .ok (.aload_n 0, 1) := dk_42 (dk_at dksX0_init_3 4 rfl rfl)
theorem dX0_init_77 : decode cX0_init 77 = .ok (.sipush 144, 3) := dk_17 0 144 (dk_at dksX0_init_3 5 rfl rfl)
theorem dX0_init_80 : decode cX0_init 80 = .ok (.newarray .int, 2) := dk_188_10 (dk_at dksX0_init_3 8 rfl rfl)
theorem dX0_init_82 : decode cX0_init 82 = .ok (.putfield 72, 3) := dk_181 0 72 (dk_at dksX0_init_3 10 rfl rfl)
theorem dX0_init_85 : decode cX0_init 85 = .ok (.iconst 0, 1) := dk_3 (dk_at dksX0_init_3 13 rfl rfl)
theorem dX0_init_86 : decode cX0_init 86 = .ok (.istore_n 1, 1) := dk_60 (dk_at dksX0_init_3 14 rfl rfl)
theorem dX0_init_87 : decode cX0_init 87 = .ok (.iload_n 1, 1) := dk_27 (dk_at dksX0_init_3 15 rfl rfl)
theorem dX0_init_88 : decode cX0_init 88 = .ok (.iconst 4, 1) := dk_7 (dk_at dksX0_init_3 16 rfl rfl)
theorem dX0_init_89 : decode cX0_init 89 = .ok (.if_icmp .ge 22, 3) := dk_162 0 22 (dk_at dksX0_init_3 17 rfl rfl)
theorem dX0_init_92 : decode cX0_init 92 = .ok (.aload_n 0, 1) := dk_42 (dk_at dksX0_init_3 20 rfl rfl)
theorem dX0_init_93 : decode cX0_init 93 = .ok (.getfield 15, 3) := dk_180 0 15 (dk_at dksX0_init_3 21 rfl rfl)
theorem dX0_init_96 : decode cX0_init 96 = .ok (.iload_n 1, 1) := dk_27 (dk_at dksX0_init_4 0 rfl rfl)
theorem dX0_init_97 : decode cX0_init 97 = .ok (.new 20, 3) := dk_187 0 20 (dk_at dksX0_init_4 1 rfl rfl)
theorem dX0_init_100 : decode cX0_init 100 = .ok (.dup, 1) := dk_89 (dk_at dksX0_init_4 4 rfl rfl)
theorem dX0_init_101 : decode cX0_init 101 = .ok (.invokespecial 76, 3) := dk_183 0 76 (dk_at dksX0_init_4 5 rfl rfl)
theorem dX0_init_104 : decode cX0_init 104 = .ok (.aastore, 1) := dk_83 (dk_at dksX0_init_4 8 rfl rfl)
theorem dX0_init_105 : decode cX0_init 105 = .ok (.iinc 1 1, 3) := dk_132 1 1 (dk_at dksX0_init_4 9 rfl rfl)
theorem dX0_init_108 : decode cX0_init 108 = .ok (.goto (-21), 3) := dk_167 255 235 (dk_at dksX0_init_4 12 rfl rfl)
theorem dX0_init_111 : decode cX0_init 111 = .ok (.return_, 1) := dk_177 (dk_at dksX0_init_4 15 rfl rfl)
abbrev cX0_feed : ByteArray := prog_1_method_10_code
def yX0_feed : MethodName := ⟨RX0, "feed", "(IIIII)I"⟩
def dkwX0_feed_2 : List UInt8 := [172]
abbrev dktX0_feed_2 : List UInt8 := dkwX0_feed_2 ++ []
def dkwX0_feed_1 : List UInt8 := [182, 0, 80, 42, 29, 182, 0, 80, 42, 21, 4, 182, 0, 80, 42, 21, 5, 182, 0, 80, 42, 180, 0, 77]
abbrev dktX0_feed_1 : List UInt8 := dkwX0_feed_1 ++ dktX0_feed_2
def dkwX0_feed_0 : List UInt8 := [42, 180, 0, 77, 16, 20, 96, 17, 2, 188, 164, 0, 5, 2, 172, 42, 27, 182, 0, 80, 42, 28]
abbrev dktX0_feed_0 : List UInt8 := dkwX0_feed_0 ++ dktX0_feed_1
theorem dksX0_feed_0 : cX0_feed.data.toList.drop 0 = dktX0_feed_0 := by decide +kernel
theorem dksX0_feed_1 : cX0_feed.data.toList.drop 22 = dktX0_feed_1 := dk_seg dksX0_feed_0 22 rfl rfl
theorem dksX0_feed_2 : cX0_feed.data.toList.drop 46 = dktX0_feed_2 := dk_seg dksX0_feed_1 24 rfl rfl
theorem dX0_feed_0 : decode cX0_feed 0 = .ok (.aload_n 0, 1) := dk_42 (dk_at dksX0_feed_0 0 rfl rfl)
theorem dX0_feed_1 : decode cX0_feed 1 = .ok (.getfield 77, 3) := dk_180 0 77 (dk_at dksX0_feed_0 1 rfl rfl)
theorem dX0_feed_4 : decode cX0_feed 4 = .ok (.bipush 20, 2) := dk_16 20 (dk_at dksX0_feed_0 4 rfl rfl)
theorem dX0_feed_6 : decode cX0_feed 6 = .ok (.iadd, 1) := dk_96 (dk_at dksX0_feed_0 6 rfl rfl)
theorem dX0_feed_7 : decode cX0_feed 7 = .ok (.sipush 700, 3) := dk_17 2 188 (dk_at dksX0_feed_0 7 rfl rfl)
theorem dX0_feed_10 : decode cX0_feed 10 = .ok (.if_icmp .le 5, 3) := dk_164 0 5 (dk_at dksX0_feed_0 10 rfl rfl)
theorem dX0_feed_13 : decode cX0_feed 13 = .ok (.iconst (-1), 1) := dk_2 (dk_at dksX0_feed_0 13 rfl rfl)
theorem dX0_feed_14 : decode cX0_feed 14 = .ok (.ireturn, 1) := dk_172 (dk_at dksX0_feed_0 14 rfl rfl)
theorem dX0_feed_15 : decode cX0_feed 15 = .ok (.aload_n 0, 1) := dk_42 (dk_at dksX0_feed_0 15 rfl rfl)
theorem dX0_feed_16 : decode cX0_feed 16 = .ok (.iload_n 1, 1) := dk_27 (dk_at dksX0_feed_0 16 rfl rfl)
theorem dX0_feed_17 : decode cX0_feed 17 = .ok (.invokevirtual 80, 3) := dk_182 0 80 (dk_at dksX0_feed_0 17 rfl rfl)
theorem dX0_feed_20 : decode cX0_feed 20 = .ok (.aload_n 0, 1) := dk_42 (dk_at dksX0_feed_0 20 rfl rfl)
theorem dX0_feed_21 : decode cX0_feed 21 = .ok (.iload_n 2, 1) := dk_28 (dk_at dksX0_feed_0 21 rfl rfl)
theorem dX0_feed_22 : decode cX0_feed 22 = .ok (.invokevirtual 80, 3) := dk_182 0 80 (dk_at dksX0_feed_1 0 rfl rfl)
theorem dX0_feed_25 : decode cX0_feed 25 = .ok (.aload_n 0, 1) := dk_42 (dk_at dksX0_feed_1 3 rfl rfl)
theorem dX0_feed_26 : decode cX0_feed 26 = .ok (.iload_n 3, 1) := dk_29 (dk_at dksX0_feed_1 4 rfl rfl)
theorem dX0_feed_27 : decode cX0_feed 27 = .ok (.invokevirtual 80, 3) := dk_182 0 80 (dk_at dksX0_feed_1 5 rfl rfl)
theorem dX0_feed_30 : decode cX0_feed 30 = .ok (.aload_n 0, 1) := dk_42 (dk_at dksX0_feed_1 8 rfl rfl)
theorem dX0_feed_31 : decode cX0_feed 31 = .ok (.iload 4, 2) := dk_21 4 (dk_at dksX0_feed_1 9 rfl rfl)
theorem dX0_feed_33 : decode cX0_feed 33 = .ok (.invokevirtual 80, 3) := dk_182 0 80 (dk_at dksX0_feed_1 11 rfl rfl)
theorem dX0_feed_36 : decode cX0_feed 36 = .ok (.aload_n 0, 1) := dk_42 (dk_at dksX0_feed_1 14 rfl rfl)
theorem dX0_feed_37 : decode cX0_feed 37 = .ok (.iload 5, 2) := dk_21 5 (dk_at dksX0_feed_1 15 rfl rfl)
theorem dX0_feed_39 : decode cX0_feed 39 = .ok (.invokevirtual 80, 3) := dk_182 0 80 (dk_at dksX0_feed_1 17 rfl rfl)
theorem dX0_feed_42 : decode cX0_feed 42 = .ok (.aload_n 0, 1) := dk_42 (dk_at dksX0_feed_1 20 rfl rfl)
theorem dX0_feed_43 : decode cX0_feed 43 = .ok (.getfield 77, 3) := dk_180 0 77 (dk_at dksX0_feed_1 21 rfl rfl)
theorem dX0_feed_46 : decode cX0_feed 46 = .ok (.ireturn, 1) := dk_172 (dk_at dksX0_feed_2 0 rfl rfl)
abbrev cX0_puts : ByteArray := prog_1_method_11_code
def yX0_puts : MethodName := ⟨RX0, "puts", "(I)V"⟩
def dkwX0_puts_1 : List UInt8 := [180, 0, 77, 4, 96, 181, 0, 77, 132, 2, 248, 167, 255, 226, 177]
abbrev dktX0_puts_1 : List UInt8 := dkwX0_puts_1 ++ []
def dkwX0_puts_0 : List UInt8 := [16, 24, 61, 28, 155, 0, 32, 42, 180, 0, 64, 42, 180, 0, 77, 27, 28, 122, 145, 84, 42, 89]
abbrev dktX0_puts_0 : List UInt8 := dkwX0_puts_0 ++ dktX0_puts_1
theorem dksX0_puts_0 : cX0_puts.data.toList.drop 0 = dktX0_puts_0 := by decide +kernel
theorem dksX0_puts_1 : cX0_puts.data.toList.drop 22 = dktX0_puts_1 := dk_seg dksX0_puts_0 22 rfl rfl
theorem dX0_puts_0 : decode cX0_puts 0 = .ok (.bipush 24, 2) := dk_16 24 (dk_at dksX0_puts_0 0 rfl rfl)
theorem dX0_puts_2 : decode cX0_puts 2 = .ok (.istore_n 2, 1) := dk_61 (dk_at dksX0_puts_0 2 rfl rfl)
theorem dX0_puts_3 : decode cX0_puts 3 = .ok (.iload_n 2, 1) := dk_28 (dk_at dksX0_puts_0 3 rfl rfl)
theorem dX0_puts_4 : decode cX0_puts 4 = .ok (.ifCond .lt 32, 3) := dk_155 0 32 (dk_at dksX0_puts_0 4 rfl rfl)
theorem dX0_puts_7 : decode cX0_puts 7 = .ok (.aload_n 0, 1) := dk_42 (dk_at dksX0_puts_0 7 rfl rfl)
theorem dX0_puts_8 : decode cX0_puts 8 = .ok (.getfield 64, 3) := dk_180 0 64 (dk_at dksX0_puts_0 8 rfl rfl)
theorem dX0_puts_11 : decode cX0_puts 11 = .ok (.aload_n 0, 1) := dk_42 (dk_at dksX0_puts_0 11 rfl rfl)
theorem dX0_puts_12 : decode cX0_puts 12 = .ok (.getfield 77, 3) := dk_180 0 77 (dk_at dksX0_puts_0 12 rfl rfl)
theorem dX0_puts_15 : decode cX0_puts 15 = .ok (.iload_n 1, 1) := dk_27 (dk_at dksX0_puts_0 15 rfl rfl)
theorem dX0_puts_16 : decode cX0_puts 16 = .ok (.iload_n 2, 1) := dk_28 (dk_at dksX0_puts_0 16 rfl rfl)
theorem dX0_puts_17 : decode cX0_puts 17 = .ok (.ishr, 1) := dk_122 (dk_at dksX0_puts_0 17 rfl rfl)
theorem dX0_puts_18 : decode cX0_puts 18 = .ok (.i2b, 1) := dk_145 (dk_at dksX0_puts_0 18 rfl rfl)
theorem dX0_puts_19 : decode cX0_puts 19 = .ok (.bastore, 1) := dk_84 (dk_at dksX0_puts_0 19 rfl rfl)
theorem dX0_puts_20 : decode cX0_puts 20 = .ok (.aload_n 0, 1) := dk_42 (dk_at dksX0_puts_0 20 rfl rfl)
theorem dX0_puts_21 : decode cX0_puts 21 = .ok (.dup, 1) := dk_89 (dk_at dksX0_puts_0 21 rfl rfl)
theorem dX0_puts_22 : decode cX0_puts 22 = .ok (.getfield 77, 3) := dk_180 0 77 (dk_at dksX0_puts_1 0 rfl rfl)
theorem dX0_puts_25 : decode cX0_puts 25 = .ok (.iconst 1, 1) := dk_4 (dk_at dksX0_puts_1 3 rfl rfl)
theorem dX0_puts_26 : decode cX0_puts 26 = .ok (.iadd, 1) := dk_96 (dk_at dksX0_puts_1 4 rfl rfl)
theorem dX0_puts_27 : decode cX0_puts 27 = .ok (.putfield 77, 3) := dk_181 0 77 (dk_at dksX0_puts_1 5 rfl rfl)
theorem dX0_puts_30 : decode cX0_puts 30 = .ok (.iinc 2 (-8), 3) := dk_132 2 248 (dk_at dksX0_puts_1 8 rfl rfl)
theorem dX0_puts_33 : decode cX0_puts 33 = .ok (.goto (-30), 3) := dk_167 255 226 (dk_at dksX0_puts_1 11 rfl rfl)
theorem dX0_puts_36 : decode cX0_puts 36 = .ok (.return_, 1) := dk_177 (dk_at dksX0_puts_1 14 rfl rfl)
abbrev cX0_end : ByteArray := prog_1_method_12_code
def yX0_end : MethodName := ⟨RX0, "end", "(I)I"⟩
def dkwX0_end_0 : List UInt8 := [27, 133, 9, 42, 180, 0, 77, 133, 184, 0, 5, 154, 0, 5, 2, 172, 42, 27, 181, 0, 77, 27, 172]
abbrev dktX0_end_0 : List UInt8 := dkwX0_end_0 ++ []
theorem dksX0_end_0 : cX0_end.data.toList.drop 0 = dktX0_end_0 := by decide +kernel
theorem dX0_end_0 : decode cX0_end 0 = .ok (.iload_n 1, 1) := dk_27 (dk_at dksX0_end_0 0 rfl rfl)
theorem dX0_end_1 : decode cX0_end 1 = .ok (.i2l, 1) := dk_133 (dk_at dksX0_end_0 1 rfl rfl)
theorem dX0_end_2 : decode cX0_end 2 = .ok (.lconst 0, 1) := dk_9 (dk_at dksX0_end_0 2 rfl rfl)
theorem dX0_end_3 : decode cX0_end 3 = .ok (.aload_n 0, 1) := dk_42 (dk_at dksX0_end_0 3 rfl rfl)
theorem dX0_end_4 : decode cX0_end 4 = .ok (.getfield 77, 3) := dk_180 0 77 (dk_at dksX0_end_0 4 rfl rfl)
theorem dX0_end_7 : decode cX0_end 7 = .ok (.i2l, 1) := dk_133 (dk_at dksX0_end_0 7 rfl rfl)
theorem dX0_end_8 : decode cX0_end 8 = .ok (.invokestatic 5, 3) := dk_184 0 5 (dk_at dksX0_end_0 8 rfl rfl)
theorem dX0_end_11 : decode cX0_end 11 = .ok (.ifCond .ne 5, 3) := dk_154 0 5 (dk_at dksX0_end_0 11 rfl rfl)
theorem dX0_end_14 : decode cX0_end 14 = .ok (.iconst (-1), 1) := dk_2 (dk_at dksX0_end_0 14 rfl rfl)
theorem dX0_end_15 : decode cX0_end 15 = .ok (.ireturn, 1) := dk_172 (dk_at dksX0_end_0 15 rfl rfl)
theorem dX0_end_16 : decode cX0_end 16 = .ok (.aload_n 0, 1) := dk_42 (dk_at dksX0_end_0 16 rfl rfl)
theorem dX0_end_17 : decode cX0_end 17 = .ok (.iload_n 1, 1) := dk_27 (dk_at dksX0_end_0 17 rfl rfl)
theorem dX0_end_18 : decode cX0_end 18 = .ok (.putfield 77, 3) := dk_181 0 77 (dk_at dksX0_end_0 18 rfl rfl)
theorem dX0_end_21 : decode cX0_end 21 = .ok (.iload_n 1, 1) := dk_27 (dk_at dksX0_end_0 21 rfl rfl)
theorem dX0_end_22 : decode cX0_end 22 = .ok (.ireturn, 1) := dk_172 (dk_at dksX0_end_0 22 rfl rfl)
abbrev cX0_text : ByteArray := prog_1_method_13_code
def yX0_text : MethodName := ⟨RX0, "text", "()I"⟩
def dkwX0_text_3 : List UInt8 := [61, 42, 3, 181, 0, 77, 28, 172, 78, 42, 3, 181, 0, 77, 45, 191]
abbrev dktX0_text_3 : List UInt8 := dkwX0_text_3 ++ []
def dkwX0_text_2 : List UInt8 := [181, 0, 77, 28, 172, 76, 42, 43, 180, 0, 99, 181, 0, 83, 42, 43, 180, 0, 102, 181, 0, 68, 16, 252]
abbrev dktX0_text_2 : List UInt8 := dkwX0_text_2 ++ dktX0_text_3
def dkwX0_text_1 : List UInt8 := [183, 0, 86, 182, 0, 89, 76, 42, 180, 0, 53, 43, 182, 0, 92, 43, 180, 0, 94, 61, 42, 3]
abbrev dktX0_text_1 : List UInt8 := dkwX0_text_1 ++ dktX0_text_2
def dkwX0_text_0 : List UInt8 := [42, 3, 181, 0, 83, 42, 2, 181, 0, 68, 187, 0, 45, 89, 42, 180, 0, 64, 42, 180, 0, 77]
abbrev dktX0_text_0 : List UInt8 := dkwX0_text_0 ++ dktX0_text_1
theorem dksX0_text_0 : cX0_text.data.toList.drop 0 = dktX0_text_0 := by decide +kernel
theorem dksX0_text_1 : cX0_text.data.toList.drop 22 = dktX0_text_1 := dk_seg dksX0_text_0 22 rfl rfl
theorem dksX0_text_2 : cX0_text.data.toList.drop 44 = dktX0_text_2 := dk_seg dksX0_text_1 22 rfl rfl
theorem dksX0_text_3 : cX0_text.data.toList.drop 68 = dktX0_text_3 := dk_seg dksX0_text_2 24 rfl rfl
theorem dX0_text_0 : decode cX0_text 0 = .ok (.aload_n 0, 1) := dk_42 (dk_at dksX0_text_0 0 rfl rfl)
theorem dX0_text_1 : decode cX0_text 1 = .ok (.iconst 0, 1) := dk_3 (dk_at dksX0_text_0 1 rfl rfl)
theorem dX0_text_2 : decode cX0_text 2 = .ok (.putfield 83, 3) := dk_181 0 83 (dk_at dksX0_text_0 2 rfl rfl)
theorem dX0_text_5 : decode cX0_text 5 = .ok (.aload_n 0, 1) := dk_42 (dk_at dksX0_text_0 5 rfl rfl)
theorem dX0_text_6 : decode cX0_text 6 = .ok (.iconst (-1), 1) := dk_2 (dk_at dksX0_text_0 6 rfl rfl)
theorem dX0_text_7 : decode cX0_text 7 = .ok (.putfield 68, 3) := dk_181 0 68 (dk_at dksX0_text_0 7 rfl rfl)
theorem dX0_text_10 : decode cX0_text 10 = .ok (.new 45, 3) := dk_187 0 45 (dk_at dksX0_text_0 10 rfl rfl)
theorem dX0_text_13 : decode cX0_text 13 = .ok (.dup, 1) := dk_89 (dk_at dksX0_text_0 13 rfl rfl)
theorem dX0_text_14 : decode cX0_text 14 = .ok (.aload_n 0, 1) := dk_42 (dk_at dksX0_text_0 14 rfl rfl)
theorem dX0_text_15 : decode cX0_text 15 = .ok (.getfield 64, 3) := dk_180 0 64 (dk_at dksX0_text_0 15 rfl rfl)
theorem dX0_text_18 : decode cX0_text 18 = .ok (.aload_n 0, 1) := dk_42 (dk_at dksX0_text_0 18 rfl rfl)
theorem dX0_text_19 : decode cX0_text 19 = .ok (.getfield 77, 3) := dk_180 0 77 (dk_at dksX0_text_0 19 rfl rfl)
theorem dX0_text_22 : decode cX0_text 22 = .ok (.invokespecial 86, 3) := dk_183 0 86 (dk_at dksX0_text_1 0 rfl rfl)
theorem dX0_text_25 : decode cX0_text 25 = .ok (.invokevirtual 89, 3) := dk_182 0 89 (dk_at dksX0_text_1 3 rfl rfl)
theorem dX0_text_28 : decode cX0_text 28 = .ok (.astore_n 1, 1) := dk_76 (dk_at dksX0_text_1 6 rfl rfl)
theorem dX0_text_29 : decode cX0_text 29 = .ok (.aload_n 0, 1) := dk_42 (dk_at dksX0_text_1 7 rfl rfl)
theorem dX0_text_30 : decode cX0_text 30 = .ok (.getfield 53, 3) := dk_180 0 53 (dk_at dksX0_text_1 8 rfl rfl)
theorem dX0_text_33 : decode cX0_text 33 = .ok (.aload_n 1, 1) := dk_43 (dk_at dksX0_text_1 11 rfl rfl)
theorem dX0_text_34 : decode cX0_text 34 = .ok (.invokevirtual 92, 3) := dk_182 0 92 (dk_at dksX0_text_1 12 rfl rfl)
theorem dX0_text_37 : decode cX0_text 37 = .ok (.aload_n 1, 1) := dk_43 (dk_at dksX0_text_1 15 rfl rfl)
theorem dX0_text_38 : decode cX0_text 38 = .ok (.getfield 94, 3) := dk_180 0 94 (dk_at dksX0_text_1 16 rfl rfl)
theorem dX0_text_41 : decode cX0_text 41 = .ok (.istore_n 2, 1) := dk_61 (dk_at dksX0_text_1 19 rfl rfl)
theorem dX0_text_42 : decode cX0_text 42 = .ok (.aload_n 0, 1) := dk_42 (dk_at dksX0_text_1 20 rfl rfl)
theorem dX0_text_43 : decode cX0_text 43 = .ok (.iconst 0, 1) := dk_3 (dk_at dksX0_text_1 21 rfl rfl)
theorem dX0_text_44 : decode cX0_text 44 = .ok (.putfield 77, 3) := dk_181 0 77 (dk_at dksX0_text_2 0 rfl rfl)
theorem dX0_text_47 : decode cX0_text 47 = .ok (.iload_n 2, 1) := dk_28 (dk_at dksX0_text_2 3 rfl rfl)
theorem dX0_text_48 : decode cX0_text 48 = .ok (.ireturn, 1) := dk_172 (dk_at dksX0_text_2 4 rfl rfl)
theorem dX0_text_49 : decode cX0_text 49 = .ok (.astore_n 1, 1) := dk_76 (dk_at dksX0_text_2 5 rfl rfl)
theorem dX0_text_50 : decode cX0_text 50 = .ok (.aload_n 0, 1) := dk_42 (dk_at dksX0_text_2 6 rfl rfl)
theorem dX0_text_51 : decode cX0_text 51 = .ok (.aload_n 1, 1) := dk_43 (dk_at dksX0_text_2 7 rfl rfl)
theorem dX0_text_52 : decode cX0_text 52 = .ok (.getfield 99, 3) := dk_180 0 99 (dk_at dksX0_text_2 8 rfl rfl)
theorem dX0_text_55 : decode cX0_text 55 = .ok (.putfield 83, 3) := dk_181 0 83 (dk_at dksX0_text_2 11 rfl rfl)
theorem dX0_text_58 : decode cX0_text 58 = .ok (.aload_n 0, 1) := dk_42 (dk_at dksX0_text_2 14 rfl rfl)
theorem dX0_text_59 : decode cX0_text 59 = .ok (.aload_n 1, 1) := dk_43 (dk_at dksX0_text_2 15 rfl rfl)
theorem dX0_text_60 : decode cX0_text 60 = .ok (.getfield 102, 3) := dk_180 0 102 (dk_at dksX0_text_2 16 rfl rfl)
theorem dX0_text_63 : decode cX0_text 63 = .ok (.putfield 68, 3) := dk_181 0 68 (dk_at dksX0_text_2 19 rfl rfl)
theorem dX0_text_66 : decode cX0_text 66 = .ok (.bipush (-4), 2) := dk_16 252 (dk_at dksX0_text_2 22 rfl rfl)
theorem dX0_text_68 : decode cX0_text 68 = .ok (.istore_n 2, 1) := dk_61 (dk_at dksX0_text_3 0 rfl rfl)
theorem dX0_text_69 : decode cX0_text 69 = .ok (.aload_n 0, 1) := dk_42 (dk_at dksX0_text_3 1 rfl rfl)
theorem dX0_text_70 : decode cX0_text 70 = .ok (.iconst 0, 1) := dk_3 (dk_at dksX0_text_3 2 rfl rfl)
theorem dX0_text_71 : decode cX0_text 71 = .ok (.putfield 77, 3) := dk_181 0 77 (dk_at dksX0_text_3 3 rfl rfl)
theorem dX0_text_74 : decode cX0_text 74 = .ok (.iload_n 2, 1) := dk_28 (dk_at dksX0_text_3 6 rfl rfl)
theorem dX0_text_75 : decode cX0_text 75 = .ok (.ireturn, 1) := dk_172 (dk_at dksX0_text_3 7 rfl rfl)
theorem dX0_text_76 : decode cX0_text 76 = .ok (.astore_n 3, 1) := dk_78 (dk_at dksX0_text_3 8 rfl rfl)
theorem dX0_text_77 : decode cX0_text 77 = .ok (.aload_n 0, 1) := dk_42 (dk_at dksX0_text_3 9 rfl rfl)
theorem dX0_text_78 : decode cX0_text 78 = .ok (.iconst 0, 1) := dk_3 (dk_at dksX0_text_3 10 rfl rfl)
theorem dX0_text_79 : decode cX0_text 79 = .ok (.putfield 77, 3) := dk_181 0 77 (dk_at dksX0_text_3 11 rfl rfl)
theorem dX0_text_82 : decode cX0_text 82 = .ok (.aload_n 3, 1) := dk_45 (dk_at dksX0_text_3 14 rfl rfl)
theorem dX0_text_83 : decode cX0_text 83 = .ok (.athrow, 1) := dk_191 (dk_at dksX0_text_3 15 rfl rfl)
abbrev cX0_fault : ByteArray := prog_1_method_14_code
def yX0_fault : MethodName := ⟨RX0, "fault", "(I)I"⟩
def dkwX0_fault_1 : List UInt8 := [172]
abbrev dktX0_fault_1 : List UInt8 := dkwX0_fault_1 ++ []
def dkwX0_fault_0 : List UInt8 := [27, 154, 0, 10, 42, 180, 0, 83, 167, 0, 16, 27, 4, 160, 0, 10, 42, 180, 0, 68, 167, 0, 4, 2]
abbrev dktX0_fault_0 : List UInt8 := dkwX0_fault_0 ++ dktX0_fault_1
theorem dksX0_fault_0 : cX0_fault.data.toList.drop 0 = dktX0_fault_0 := by decide +kernel
theorem dksX0_fault_1 : cX0_fault.data.toList.drop 24 = dktX0_fault_1 := dk_seg dksX0_fault_0 24 rfl rfl
theorem dX0_fault_0 : decode cX0_fault 0 = .ok (.iload_n 1, 1) := dk_27 (dk_at dksX0_fault_0 0 rfl rfl)
theorem dX0_fault_1 : decode cX0_fault 1 = .ok (.ifCond .ne 10, 3) := dk_154 0 10 (dk_at dksX0_fault_0 1 rfl rfl)
theorem dX0_fault_4 : decode cX0_fault 4 = .ok (.aload_n 0, 1) := dk_42 (dk_at dksX0_fault_0 4 rfl rfl)
theorem dX0_fault_5 : decode cX0_fault 5 = .ok (.getfield 83, 3) := dk_180 0 83 (dk_at dksX0_fault_0 5 rfl rfl)
theorem dX0_fault_8 : decode cX0_fault 8 = .ok (.goto 16, 3) := dk_167 0 16 (dk_at dksX0_fault_0 8 rfl rfl)
theorem dX0_fault_11 : decode cX0_fault 11 = .ok (.iload_n 1, 1) := dk_27 (dk_at dksX0_fault_0 11 rfl rfl)
theorem dX0_fault_12 : decode cX0_fault 12 = .ok (.iconst 1, 1) := dk_4 (dk_at dksX0_fault_0 12 rfl rfl)
theorem dX0_fault_13 : decode cX0_fault 13 = .ok (.if_icmp .ne 10, 3) := dk_160 0 10 (dk_at dksX0_fault_0 13 rfl rfl)
theorem dX0_fault_16 : decode cX0_fault 16 = .ok (.aload_n 0, 1) := dk_42 (dk_at dksX0_fault_0 16 rfl rfl)
theorem dX0_fault_17 : decode cX0_fault 17 = .ok (.getfield 68, 3) := dk_180 0 68 (dk_at dksX0_fault_0 17 rfl rfl)
theorem dX0_fault_20 : decode cX0_fault 20 = .ok (.goto 4, 3) := dk_167 0 4 (dk_at dksX0_fault_0 20 rfl rfl)
theorem dX0_fault_23 : decode cX0_fault 23 = .ok (.iconst (-1), 1) := dk_2 (dk_at dksX0_fault_0 23 rfl rfl)
theorem dX0_fault_24 : decode cX0_fault 24 = .ok (.ireturn, 1) := dk_172 (dk_at dksX0_fault_1 0 rfl rfl)
abbrev cX0_tick : ByteArray := prog_1_method_15_code
def yX0_tick : MethodName := ⟨RX0, "tick", "(I)I"⟩
def dkwX0_tick_2 : List UInt8 := [132, 2, 1, 167, 255, 241, 42, 180, 0, 53, 180, 0, 107, 172]
abbrev dktX0_tick_2 : List UInt8 := dkwX0_tick_2 ++ []
def dkwX0_tick_1 : List UInt8 := [17, 7, 208, 164, 0, 6, 16, 253, 172, 3, 61, 28, 27, 162, 0, 16, 42, 180, 0, 53, 182, 0, 110]
abbrev dktX0_tick_1 : List UInt8 := dkwX0_tick_1 ++ dktX0_tick_2
def dkwX0_tick_0 : List UInt8 := [27, 133, 10, 20, 0, 105, 184, 0, 5, 154, 0, 6, 16, 254, 172, 42, 180, 0, 53, 180, 0, 107, 27, 96]
abbrev dktX0_tick_0 : List UInt8 := dkwX0_tick_0 ++ dktX0_tick_1
theorem dksX0_tick_0 : cX0_tick.data.toList.drop 0 = dktX0_tick_0 := by decide +kernel
theorem dksX0_tick_1 : cX0_tick.data.toList.drop 24 = dktX0_tick_1 := dk_seg dksX0_tick_0 24 rfl rfl
theorem dksX0_tick_2 : cX0_tick.data.toList.drop 47 = dktX0_tick_2 := dk_seg dksX0_tick_1 23 rfl rfl
theorem dX0_tick_0 : decode cX0_tick 0 = .ok (.iload_n 1, 1) := dk_27 (dk_at dksX0_tick_0 0 rfl rfl)
theorem dX0_tick_1 : decode cX0_tick 1 = .ok (.i2l, 1) := dk_133 (dk_at dksX0_tick_0 1 rfl rfl)
theorem dX0_tick_2 : decode cX0_tick 2 = .ok (.lconst 1, 1) := dk_10 (dk_at dksX0_tick_0 2 rfl rfl)
theorem dX0_tick_3 : decode cX0_tick 3 = .ok (.ldc2_w 105, 3) := dk_20 0 105 (dk_at dksX0_tick_0 3 rfl rfl)
theorem dX0_tick_6 : decode cX0_tick 6 = .ok (.invokestatic 5, 3) := dk_184 0 5 (dk_at dksX0_tick_0 6 rfl rfl)
theorem dX0_tick_9 : decode cX0_tick 9 = .ok (.ifCond .ne 6, 3) := dk_154 0 6 (dk_at dksX0_tick_0 9 rfl rfl)
theorem dX0_tick_12 : decode cX0_tick 12 = .ok (.bipush (-2), 2) := dk_16 254 (dk_at dksX0_tick_0 12 rfl rfl)
theorem dX0_tick_14 : decode cX0_tick 14 = .ok (.ireturn, 1) := dk_172 (dk_at dksX0_tick_0 14 rfl rfl)
theorem dX0_tick_15 : decode cX0_tick 15 = .ok (.aload_n 0, 1) := dk_42 (dk_at dksX0_tick_0 15 rfl rfl)
theorem dX0_tick_16 : decode cX0_tick 16 = .ok (.getfield 53, 3) := dk_180 0 53 (dk_at dksX0_tick_0 16 rfl rfl)
theorem dX0_tick_19 : decode cX0_tick 19 = .ok (.getfield 107, 3) := dk_180 0 107 (dk_at dksX0_tick_0 19 rfl rfl)
theorem dX0_tick_22 : decode cX0_tick 22 = .ok (.iload_n 1, 1) := dk_27 (dk_at dksX0_tick_0 22 rfl rfl)
theorem dX0_tick_23 : decode cX0_tick 23 = .ok (.iadd, 1) := dk_96 (dk_at dksX0_tick_0 23 rfl rfl)
theorem dX0_tick_24 : decode cX0_tick 24 = .ok (.sipush 2000, 3) := dk_17 7 208 (dk_at dksX0_tick_1 0 rfl rfl)
theorem dX0_tick_27 : decode cX0_tick 27 = .ok (.if_icmp .le 6, 3) := dk_164 0 6 (dk_at dksX0_tick_1 3 rfl rfl)
theorem dX0_tick_30 : decode cX0_tick 30 = .ok (.bipush (-3), 2) := dk_16 253 (dk_at dksX0_tick_1 6 rfl rfl)
theorem dX0_tick_32 : decode cX0_tick 32 = .ok (.ireturn, 1) := dk_172 (dk_at dksX0_tick_1 8 rfl rfl)
theorem dX0_tick_33 : decode cX0_tick 33 = .ok (.iconst 0, 1) := dk_3 (dk_at dksX0_tick_1 9 rfl rfl)
theorem dX0_tick_34 : decode cX0_tick 34 = .ok (.istore_n 2, 1) := dk_61 (dk_at dksX0_tick_1 10 rfl rfl)
theorem dX0_tick_35 : decode cX0_tick 35 = .ok (.iload_n 2, 1) := dk_28 (dk_at dksX0_tick_1 11 rfl rfl)
theorem dX0_tick_36 : decode cX0_tick 36 = .ok (.iload_n 1, 1) := dk_27 (dk_at dksX0_tick_1 12 rfl rfl)
theorem dX0_tick_37 : decode cX0_tick 37 = .ok (.if_icmp .ge 16, 3) := dk_162 0 16 (dk_at dksX0_tick_1 13 rfl rfl)
theorem dX0_tick_40 : decode cX0_tick 40 = .ok (.aload_n 0, 1) := dk_42 (dk_at dksX0_tick_1 16 rfl rfl)
theorem dX0_tick_41 : decode cX0_tick 41 = .ok (.getfield 53, 3) := dk_180 0 53 (dk_at dksX0_tick_1 17 rfl rfl)
theorem dX0_tick_44 : decode cX0_tick 44 = .ok (.invokevirtual 110, 3) := dk_182 0 110 (dk_at dksX0_tick_1 20 rfl rfl)
theorem dX0_tick_47 : decode cX0_tick 47 = .ok (.iinc 2 1, 3) := dk_132 2 1 (dk_at dksX0_tick_2 0 rfl rfl)
theorem dX0_tick_50 : decode cX0_tick 50 = .ok (.goto (-15), 3) := dk_167 255 241 (dk_at dksX0_tick_2 3 rfl rfl)
theorem dX0_tick_53 : decode cX0_tick 53 = .ok (.aload_n 0, 1) := dk_42 (dk_at dksX0_tick_2 6 rfl rfl)
theorem dX0_tick_54 : decode cX0_tick 54 = .ok (.getfield 53, 3) := dk_180 0 53 (dk_at dksX0_tick_2 7 rfl rfl)
theorem dX0_tick_57 : decode cX0_tick 57 = .ok (.getfield 107, 3) := dk_180 0 107 (dk_at dksX0_tick_2 10 rfl rfl)
theorem dX0_tick_60 : decode cX0_tick 60 = .ok (.ireturn, 1) := dk_172 (dk_at dksX0_tick_2 13 rfl rfl)
abbrev cX0_beside : ByteArray := prog_1_method_4_code
def yX0_beside : MethodName := ⟨RX0, "beside", "(II)I"⟩
def dkwX0_beside_4 : List UInt8 := [17, 0, 132, 161, 0, 7, 2, 167, 0, 7, 26, 16, 12, 96, 172]
abbrev dktX0_beside_4 : List UInt8 := dkwX0_beside_4 ++ []
def dkwX0_beside_3 : List UInt8 := [2, 167, 0, 6, 26, 4, 100, 172, 26, 16, 12, 162, 0, 7, 2, 167, 0, 7, 26, 16, 12, 100, 172, 26]
abbrev dktX0_beside_3 : List UInt8 := dkwX0_beside_3 ++ dktX0_beside_4
def dkwX0_beside_2 : List UInt8 := [26, 16, 12, 112, 16, 11, 160, 0, 7, 2, 167, 0, 6, 26, 4, 96, 172, 26, 16, 12, 112, 154, 0, 7]
abbrev dktX0_beside_2 : List UInt8 := dkwX0_beside_2 ++ dktX0_beside_3
def dkwX0_beside_1 : List UInt8 := [170, 0, 0, 0, 0, 0, 74, 0, 0, 0, 0, 0, 0, 0, 2, 0, 0, 0, 27, 0, 0, 0, 44, 0, 0, 0, 59]
abbrev dktX0_beside_1 : List UInt8 := dkwX0_beside_1 ++ dktX0_beside_2
def dkwX0_beside_0 : List UInt8 := [27]
abbrev dktX0_beside_0 : List UInt8 := dkwX0_beside_0 ++ dktX0_beside_1
theorem dksX0_beside_0 : cX0_beside.data.toList.drop 0 = dktX0_beside_0 := by decide +kernel
theorem dksX0_beside_1 : cX0_beside.data.toList.drop 1 = dktX0_beside_1 := dk_seg dksX0_beside_0 1 rfl rfl
theorem dksX0_beside_2 : cX0_beside.data.toList.drop 28 = dktX0_beside_2 := dk_seg dksX0_beside_1 27 rfl rfl
theorem dksX0_beside_3 : cX0_beside.data.toList.drop 52 = dktX0_beside_3 := dk_seg dksX0_beside_2 24 rfl rfl
theorem dksX0_beside_4 : cX0_beside.data.toList.drop 76 = dktX0_beside_4 := dk_seg dksX0_beside_3 24 rfl rfl
theorem dX0_beside_0 : decode cX0_beside 0 = .ok (.iload_n 1, 1) := dk_27 (dk_at dksX0_beside_0 0 rfl rfl)
theorem dX0_beside_1 : decode cX0_beside 1 = .ok (.tableswitch 74 0 2 #[27, 44, 59], 27) := by decide +kernel
theorem dX0_beside_28 : decode cX0_beside 28 = .ok (.iload_n 0, 1) := dk_26 (dk_at dksX0_beside_2 0 rfl rfl)
theorem dX0_beside_29 : decode cX0_beside 29 = .ok (.bipush 12, 2) := dk_16 12 (dk_at dksX0_beside_2 1 rfl rfl)
theorem dX0_beside_31 : decode cX0_beside 31 = .ok (.irem, 1) := dk_112 (dk_at dksX0_beside_2 3 rfl rfl)
theorem dX0_beside_32 : decode cX0_beside 32 = .ok (.bipush 11, 2) := dk_16 11 (dk_at dksX0_beside_2 4 rfl rfl)
theorem dX0_beside_34 : decode cX0_beside 34 = .ok (.if_icmp .ne 7, 3) := dk_160 0 7 (dk_at dksX0_beside_2 6 rfl rfl)
theorem dX0_beside_37 : decode cX0_beside 37 = .ok (.iconst (-1), 1) := dk_2 (dk_at dksX0_beside_2 9 rfl rfl)
theorem dX0_beside_38 : decode cX0_beside 38 = .ok (.goto 6, 3) := dk_167 0 6 (dk_at dksX0_beside_2 10 rfl rfl)
theorem dX0_beside_41 : decode cX0_beside 41 = .ok (.iload_n 0, 1) := dk_26 (dk_at dksX0_beside_2 13 rfl rfl)
theorem dX0_beside_42 : decode cX0_beside 42 = .ok (.iconst 1, 1) := dk_4 (dk_at dksX0_beside_2 14 rfl rfl)
theorem dX0_beside_43 : decode cX0_beside 43 = .ok (.iadd, 1) := dk_96 (dk_at dksX0_beside_2 15 rfl rfl)
theorem dX0_beside_44 : decode cX0_beside 44 = .ok (.ireturn, 1) := dk_172 (dk_at dksX0_beside_2 16 rfl rfl)
theorem dX0_beside_45 : decode cX0_beside 45 = .ok (.iload_n 0, 1) := dk_26 (dk_at dksX0_beside_2 17 rfl rfl)
theorem dX0_beside_46 : decode cX0_beside 46 = .ok (.bipush 12, 2) := dk_16 12 (dk_at dksX0_beside_2 18 rfl rfl)
theorem dX0_beside_48 : decode cX0_beside 48 = .ok (.irem, 1) := dk_112 (dk_at dksX0_beside_2 20 rfl rfl)
theorem dX0_beside_49 : decode cX0_beside 49 = .ok (.ifCond .ne 7, 3) := dk_154 0 7 (dk_at dksX0_beside_2 21 rfl rfl)
theorem dX0_beside_52 : decode cX0_beside 52 = .ok (.iconst (-1), 1) := dk_2 (dk_at dksX0_beside_3 0 rfl rfl)
theorem dX0_beside_53 : decode cX0_beside 53 = .ok (.goto 6, 3) := dk_167 0 6 (dk_at dksX0_beside_3 1 rfl rfl)
theorem dX0_beside_56 : decode cX0_beside 56 = .ok (.iload_n 0, 1) := dk_26 (dk_at dksX0_beside_3 4 rfl rfl)
theorem dX0_beside_57 : decode cX0_beside 57 = .ok (.iconst 1, 1) := dk_4 (dk_at dksX0_beside_3 5 rfl rfl)
theorem dX0_beside_58 : decode cX0_beside 58 = .ok (.isub, 1) := dk_100 (dk_at dksX0_beside_3 6 rfl rfl)
theorem dX0_beside_59 : decode cX0_beside 59 = .ok (.ireturn, 1) := dk_172 (dk_at dksX0_beside_3 7 rfl rfl)
theorem dX0_beside_60 : decode cX0_beside 60 = .ok (.iload_n 0, 1) := dk_26 (dk_at dksX0_beside_3 8 rfl rfl)
theorem dX0_beside_61 : decode cX0_beside 61 = .ok (.bipush 12, 2) := dk_16 12 (dk_at dksX0_beside_3 9 rfl rfl)
theorem dX0_beside_63 : decode cX0_beside 63 = .ok (.if_icmp .ge 7, 3) := dk_162 0 7 (dk_at dksX0_beside_3 11 rfl rfl)
theorem dX0_beside_66 : decode cX0_beside 66 = .ok (.iconst (-1), 1) := dk_2 (dk_at dksX0_beside_3 14 rfl rfl)
theorem dX0_beside_67 : decode cX0_beside 67 = .ok (.goto 7, 3) := dk_167 0 7 (dk_at dksX0_beside_3 15 rfl rfl)
theorem dX0_beside_70 : decode cX0_beside 70 = .ok (.iload_n 0, 1) := dk_26 (dk_at dksX0_beside_3 18 rfl rfl)
theorem dX0_beside_71 : decode cX0_beside 71 = .ok (.bipush 12, 2) := dk_16 12 (dk_at dksX0_beside_3 19 rfl rfl)
theorem dX0_beside_73 : decode cX0_beside 73 = .ok (.isub, 1) := dk_100 (dk_at dksX0_beside_3 21 rfl rfl)
theorem dX0_beside_74 : decode cX0_beside 74 = .ok (.ireturn, 1) := dk_172 (dk_at dksX0_beside_3 22 rfl rfl)
theorem dX0_beside_75 : decode cX0_beside 75 = .ok (.iload_n 0, 1) := dk_26 (dk_at dksX0_beside_3 23 rfl rfl)
theorem dX0_beside_76 : decode cX0_beside 76 = .ok (.sipush 132, 3) := dk_17 0 132 (dk_at dksX0_beside_4 0 rfl rfl)
theorem dX0_beside_79 : decode cX0_beside 79 = .ok (.if_icmp .lt 7, 3) := dk_161 0 7 (dk_at dksX0_beside_4 3 rfl rfl)
theorem dX0_beside_82 : decode cX0_beside 82 = .ok (.iconst (-1), 1) := dk_2 (dk_at dksX0_beside_4 6 rfl rfl)
theorem dX0_beside_83 : decode cX0_beside 83 = .ok (.goto 7, 3) := dk_167 0 7 (dk_at dksX0_beside_4 7 rfl rfl)
theorem dX0_beside_86 : decode cX0_beside 86 = .ok (.iload_n 0, 1) := dk_26 (dk_at dksX0_beside_4 10 rfl rfl)
theorem dX0_beside_87 : decode cX0_beside 87 = .ok (.bipush 12, 2) := dk_16 12 (dk_at dksX0_beside_4 11 rfl rfl)
theorem dX0_beside_89 : decode cX0_beside 89 = .ok (.iadd, 1) := dk_96 (dk_at dksX0_beside_4 13 rfl rfl)
theorem dX0_beside_90 : decode cX0_beside 90 = .ok (.ireturn, 1) := dk_172 (dk_at dksX0_beside_4 14 rfl rfl)
abbrev cX0_isRim : ByteArray := prog_1_method_3_code
def yX0_isRim : MethodName := ⟨RX0, "isRim", "(I)Z"⟩
def dkwX0_isRim_1 : List UInt8 := [17, 0, 132, 161, 0, 7, 4, 167, 0, 4, 3, 172]
abbrev dktX0_isRim_1 : List UInt8 := dkwX0_isRim_1 ++ []
def dkwX0_isRim_0 : List UInt8 := [26, 16, 12, 112, 153, 0, 25, 26, 16, 12, 112, 16, 11, 159, 0, 16, 26, 16, 12, 161, 0, 10, 26]
abbrev dktX0_isRim_0 : List UInt8 := dkwX0_isRim_0 ++ dktX0_isRim_1
theorem dksX0_isRim_0 : cX0_isRim.data.toList.drop 0 = dktX0_isRim_0 := by decide +kernel
theorem dksX0_isRim_1 : cX0_isRim.data.toList.drop 23 = dktX0_isRim_1 := dk_seg dksX0_isRim_0 23 rfl rfl
theorem dX0_isRim_0 : decode cX0_isRim 0 = .ok (.iload_n 0, 1) := dk_26 (dk_at dksX0_isRim_0 0 rfl rfl)
theorem dX0_isRim_1 : decode cX0_isRim 1 = .ok (.bipush 12, 2) := dk_16 12 (dk_at dksX0_isRim_0 1 rfl rfl)
theorem dX0_isRim_3 : decode cX0_isRim 3 = .ok (.irem, 1) := dk_112 (dk_at dksX0_isRim_0 3 rfl rfl)
theorem dX0_isRim_4 : decode cX0_isRim 4 = .ok (.ifCond .eq 25, 3) := dk_153 0 25 (dk_at dksX0_isRim_0 4 rfl rfl)
theorem dX0_isRim_7 : decode cX0_isRim 7 = .ok (.iload_n 0, 1) := dk_26 (dk_at dksX0_isRim_0 7 rfl rfl)
theorem dX0_isRim_8 : decode cX0_isRim 8 = .ok (.bipush 12, 2) := dk_16 12 (dk_at dksX0_isRim_0 8 rfl rfl)
theorem dX0_isRim_10 : decode cX0_isRim 10 = .ok (.irem, 1) := dk_112 (dk_at dksX0_isRim_0 10 rfl rfl)
theorem dX0_isRim_11 : decode cX0_isRim 11 = .ok (.bipush 11, 2) := dk_16 11 (dk_at dksX0_isRim_0 11 rfl rfl)
theorem dX0_isRim_13 : decode cX0_isRim 13 = .ok (.if_icmp .eq 16, 3) := dk_159 0 16 (dk_at dksX0_isRim_0 13 rfl rfl)
theorem dX0_isRim_16 : decode cX0_isRim 16 = .ok (.iload_n 0, 1) := dk_26 (dk_at dksX0_isRim_0 16 rfl rfl)
theorem dX0_isRim_17 : decode cX0_isRim 17 = .ok (.bipush 12, 2) := dk_16 12 (dk_at dksX0_isRim_0 17 rfl rfl)
theorem dX0_isRim_19 : decode cX0_isRim 19 = .ok (.if_icmp .lt 10, 3) := dk_161 0 10 (dk_at dksX0_isRim_0 19 rfl rfl)
theorem dX0_isRim_22 : decode cX0_isRim 22 = .ok (.iload_n 0, 1) := dk_26 (dk_at dksX0_isRim_0 22 rfl rfl)
theorem dX0_isRim_23 : decode cX0_isRim 23 = .ok (.sipush 132, 3) := dk_17 0 132 (dk_at dksX0_isRim_1 0 rfl rfl)
theorem dX0_isRim_26 : decode cX0_isRim 26 = .ok (.if_icmp .lt 7, 3) := dk_161 0 7 (dk_at dksX0_isRim_1 3 rfl rfl)
theorem dX0_isRim_29 : decode cX0_isRim 29 = .ok (.iconst 1, 1) := dk_4 (dk_at dksX0_isRim_1 6 rfl rfl)
theorem dX0_isRim_30 : decode cX0_isRim 30 = .ok (.goto 4, 3) := dk_167 0 4 (dk_at dksX0_isRim_1 7 rfl rfl)
theorem dX0_isRim_33 : decode cX0_isRim 33 = .ok (.iconst 0, 1) := dk_3 (dk_at dksX0_isRim_1 10 rfl rfl)
theorem dX0_isRim_34 : decode cX0_isRim 34 = .ok (.ireturn, 1) := dk_172 (dk_at dksX0_isRim_1 11 rfl rfl)
abbrev cX0_cell : ByteArray := prog_1_method_17_code
def yX0_cell : MethodName := ⟨RX0, "cell", "(III)I"⟩
def dkwX0_cell_6 : List UInt8 := [167, 0, 4, 3, 172, 18, 135, 172]
abbrev dktX0_cell_6 : List UInt8 := dkwX0_cell_6 ++ []
def dkwX0_cell_5 : List UInt8 := [172, 42, 21, 4, 182, 0, 156, 172, 42, 180, 0, 53, 180, 0, 136, 21, 4, 182, 0, 160, 153, 0, 7, 4]
abbrev dktX0_cell_5 : List UInt8 := dkwX0_cell_5 ++ dktX0_cell_6
def dkwX0_cell_4 : List UInt8 := [153, 0, 7, 5, 167, 0, 20, 42, 180, 0, 53, 21, 4, 182, 0, 153, 153, 0, 7, 4, 167, 0, 4, 3]
abbrev dktX0_cell_4 : List UInt8 := dkwX0_cell_4 ++ dktX0_cell_5
def dkwX0_cell_3 : List UInt8 := [172, 42, 180, 0, 53, 180, 0, 146, 21, 4, 46, 172, 42, 180, 0, 53, 180, 0, 149, 21, 4, 51]
abbrev dktX0_cell_3 : List UInt8 := dkwX0_cell_3 ++ dktX0_cell_4
def dkwX0_cell_2 : List UInt8 := [42, 180, 0, 53, 180, 0, 136, 180, 0, 140, 21, 4, 46, 172, 42, 180, 0, 53, 180, 0, 143, 21, 4, 46]
abbrev dktX0_cell_2 : List UInt8 := dkwX0_cell_2 ++ dktX0_cell_3
def dkwX0_cell_1 : List UInt8 := [170, 0, 0, 0, 0, 0, 0, 139, 0, 0, 0, 0, 0, 0, 0, 5, 0, 0, 0, 40, 0, 0, 0, 54, 0, 0, 0, 65, 0, 0, 0, 76, 0, 0, 0, 111, 0, 0, 0, 118]
abbrev dktX0_cell_1 : List UInt8 := dkwX0_cell_1 ++ dktX0_cell_2
def dkwX0_cell_0 : List UInt8 := [27, 28, 184, 0, 132, 154, 0, 6, 18, 135, 172, 16, 12, 28, 104, 27, 96, 54, 4, 29]
abbrev dktX0_cell_0 : List UInt8 := dkwX0_cell_0 ++ dktX0_cell_1
theorem dksX0_cell_0 : cX0_cell.data.toList.drop 0 = dktX0_cell_0 := by decide +kernel
theorem dksX0_cell_1 : cX0_cell.data.toList.drop 20 = dktX0_cell_1 := dk_seg dksX0_cell_0 20 rfl rfl
theorem dksX0_cell_2 : cX0_cell.data.toList.drop 60 = dktX0_cell_2 := dk_seg dksX0_cell_1 40 rfl rfl
theorem dksX0_cell_3 : cX0_cell.data.toList.drop 84 = dktX0_cell_3 := dk_seg dksX0_cell_2 24 rfl rfl
theorem dksX0_cell_4 : cX0_cell.data.toList.drop 106 = dktX0_cell_4 := dk_seg dksX0_cell_3 22 rfl rfl
theorem dksX0_cell_5 : cX0_cell.data.toList.drop 130 = dktX0_cell_5 := dk_seg dksX0_cell_4 24 rfl rfl
theorem dksX0_cell_6 : cX0_cell.data.toList.drop 154 = dktX0_cell_6 := dk_seg dksX0_cell_5 24 rfl rfl
theorem dX0_cell_0 : decode cX0_cell 0 = .ok (.iload_n 1, 1) := dk_27 (dk_at dksX0_cell_0 0 rfl rfl)
theorem dX0_cell_1 : decode cX0_cell 1 = .ok (.iload_n 2, 1) := dk_28 (dk_at dksX0_cell_0 1 rfl rfl)
theorem dX0_cell_2 : decode cX0_cell 2 = .ok (.invokestatic 132, 3) := dk_184 0 132 (dk_at dksX0_cell_0 2 rfl rfl)
theorem dX0_cell_5 : decode cX0_cell 5 = .ok (.ifCond .ne 6, 3) := dk_154 0 6 (dk_at dksX0_cell_0 5 rfl rfl)
theorem dX0_cell_8 : decode cX0_cell 8 = .ok (.ldc 135, 2) := dk_18 135 (dk_at dksX0_cell_0 8 rfl rfl)
theorem dX0_cell_10 : decode cX0_cell 10 = .ok (.ireturn, 1) := dk_172 (dk_at dksX0_cell_0 10 rfl rfl)
theorem dX0_cell_11 : decode cX0_cell 11 = .ok (.bipush 12, 2) := dk_16 12 (dk_at dksX0_cell_0 11 rfl rfl)
theorem dX0_cell_13 : decode cX0_cell 13 = .ok (.iload_n 2, 1) := dk_28 (dk_at dksX0_cell_0 13 rfl rfl)
theorem dX0_cell_14 : decode cX0_cell 14 = .ok (.imul, 1) := dk_104 (dk_at dksX0_cell_0 14 rfl rfl)
theorem dX0_cell_15 : decode cX0_cell 15 = .ok (.iload_n 1, 1) := dk_27 (dk_at dksX0_cell_0 15 rfl rfl)
theorem dX0_cell_16 : decode cX0_cell 16 = .ok (.iadd, 1) := dk_96 (dk_at dksX0_cell_0 16 rfl rfl)
theorem dX0_cell_17 : decode cX0_cell 17 = .ok (.istore 4, 2) := dk_54 4 (dk_at dksX0_cell_0 17 rfl rfl)
theorem dX0_cell_19 : decode cX0_cell 19 = .ok (.iload_n 3, 1) := dk_29 (dk_at dksX0_cell_0 19 rfl rfl)
theorem dX0_cell_20 : decode cX0_cell 20 = .ok (.tableswitch 139 0 5 #[40, 54, 65, 76, 111, 118], 40) := by decide +kernel
theorem dX0_cell_60 : decode cX0_cell 60 = .ok (.aload_n 0, 1) := dk_42 (dk_at dksX0_cell_2 0 rfl rfl)
theorem dX0_cell_61 : decode cX0_cell 61 = .ok (.getfield 53, 3) := dk_180 0 53 (dk_at dksX0_cell_2 1 rfl rfl)
theorem dX0_cell_64 : decode cX0_cell 64 = .ok (.getfield 136, 3) := dk_180 0 136 (dk_at dksX0_cell_2 4 rfl rfl)
theorem dX0_cell_67 : decode cX0_cell 67 = .ok (.getfield 140, 3) := dk_180 0 140 (dk_at dksX0_cell_2 7 rfl rfl)
theorem dX0_cell_70 : decode cX0_cell 70 = .ok (.iload 4, 2) := dk_21 4 (dk_at dksX0_cell_2 10 rfl rfl)
theorem dX0_cell_72 : decode cX0_cell 72 = .ok (.iaload, 1) := dk_46 (dk_at dksX0_cell_2 12 rfl rfl)
theorem dX0_cell_73 : decode cX0_cell 73 = .ok (.ireturn, 1) := dk_172 (dk_at dksX0_cell_2 13 rfl rfl)
theorem dX0_cell_74 : decode cX0_cell 74 = .ok (.aload_n 0, 1) := dk_42 (dk_at dksX0_cell_2 14 rfl rfl)
theorem dX0_cell_75 : decode cX0_cell 75 = .ok (.getfield 53, 3) := dk_180 0 53 (dk_at dksX0_cell_2 15 rfl rfl)
theorem dX0_cell_78 : decode cX0_cell 78 = .ok (.getfield 143, 3) := dk_180 0 143 (dk_at dksX0_cell_2 18 rfl rfl)
theorem dX0_cell_81 : decode cX0_cell 81 = .ok (.iload 4, 2) := dk_21 4 (dk_at dksX0_cell_2 21 rfl rfl)
theorem dX0_cell_83 : decode cX0_cell 83 = .ok (.iaload, 1) := dk_46 (dk_at dksX0_cell_2 23 rfl rfl)
theorem dX0_cell_84 : decode cX0_cell 84 = .ok (.ireturn, 1) := dk_172 (dk_at dksX0_cell_3 0 rfl rfl)
theorem dX0_cell_85 : decode cX0_cell 85 = .ok (.aload_n 0, 1) := dk_42 (dk_at dksX0_cell_3 1 rfl rfl)
theorem dX0_cell_86 : decode cX0_cell 86 = .ok (.getfield 53, 3) := dk_180 0 53 (dk_at dksX0_cell_3 2 rfl rfl)
theorem dX0_cell_89 : decode cX0_cell 89 = .ok (.getfield 146, 3) := dk_180 0 146 (dk_at dksX0_cell_3 5 rfl rfl)
theorem dX0_cell_92 : decode cX0_cell 92 = .ok (.iload 4, 2) := dk_21 4 (dk_at dksX0_cell_3 8 rfl rfl)
theorem dX0_cell_94 : decode cX0_cell 94 = .ok (.iaload, 1) := dk_46 (dk_at dksX0_cell_3 10 rfl rfl)
theorem dX0_cell_95 : decode cX0_cell 95 = .ok (.ireturn, 1) := dk_172 (dk_at dksX0_cell_3 11 rfl rfl)
theorem dX0_cell_96 : decode cX0_cell 96 = .ok (.aload_n 0, 1) := dk_42 (dk_at dksX0_cell_3 12 rfl rfl)
theorem dX0_cell_97 : decode cX0_cell 97 = .ok (.getfield 53, 3) := dk_180 0 53 (dk_at dksX0_cell_3 13 rfl rfl)
theorem dX0_cell_100 : decode cX0_cell 100 = .ok (.getfield 149, 3) := dk_180 0 149 (dk_at dksX0_cell_3 16 rfl rfl)
theorem dX0_cell_103 : decode cX0_cell 103 = .ok (.iload 4, 2) := dk_21 4 (dk_at dksX0_cell_3 19 rfl rfl)
theorem dX0_cell_105 : decode cX0_cell 105 = .ok (.baload, 1) := dk_51 (dk_at dksX0_cell_3 21 rfl rfl)
theorem dX0_cell_106 : decode cX0_cell 106 = .ok (.ifCond .eq 7, 3) := dk_153 0 7 (dk_at dksX0_cell_4 0 rfl rfl)
theorem dX0_cell_109 : decode cX0_cell 109 = .ok (.iconst 2, 1) := dk_5 (dk_at dksX0_cell_4 3 rfl rfl)
theorem dX0_cell_110 : decode cX0_cell 110 = .ok (.goto 20, 3) := dk_167 0 20 (dk_at dksX0_cell_4 4 rfl rfl)
theorem dX0_cell_113 : decode cX0_cell 113 = .ok (.aload_n 0, 1) := dk_42 (dk_at dksX0_cell_4 7 rfl rfl)
theorem dX0_cell_114 : decode cX0_cell 114 = .ok (.getfield 53, 3) := dk_180 0 53 (dk_at dksX0_cell_4 8 rfl rfl)
theorem dX0_cell_117 : decode cX0_cell 117 = .ok (.iload 4, 2) := dk_21 4 (dk_at dksX0_cell_4 11 rfl rfl)
theorem dX0_cell_119 : decode cX0_cell 119 = .ok (.invokevirtual 153, 3) := dk_182 0 153 (dk_at dksX0_cell_4 13 rfl rfl)
theorem dX0_cell_122 : decode cX0_cell 122 = .ok (.ifCond .eq 7, 3) := dk_153 0 7 (dk_at dksX0_cell_4 16 rfl rfl)
theorem dX0_cell_125 : decode cX0_cell 125 = .ok (.iconst 1, 1) := dk_4 (dk_at dksX0_cell_4 19 rfl rfl)
theorem dX0_cell_126 : decode cX0_cell 126 = .ok (.goto 4, 3) := dk_167 0 4 (dk_at dksX0_cell_4 20 rfl rfl)
theorem dX0_cell_129 : decode cX0_cell 129 = .ok (.iconst 0, 1) := dk_3 (dk_at dksX0_cell_4 23 rfl rfl)
theorem dX0_cell_130 : decode cX0_cell 130 = .ok (.ireturn, 1) := dk_172 (dk_at dksX0_cell_5 0 rfl rfl)
theorem dX0_cell_131 : decode cX0_cell 131 = .ok (.aload_n 0, 1) := dk_42 (dk_at dksX0_cell_5 1 rfl rfl)
theorem dX0_cell_132 : decode cX0_cell 132 = .ok (.iload 4, 2) := dk_21 4 (dk_at dksX0_cell_5 2 rfl rfl)
theorem dX0_cell_134 : decode cX0_cell 134 = .ok (.invokevirtual 156, 3) := dk_182 0 156 (dk_at dksX0_cell_5 4 rfl rfl)
theorem dX0_cell_137 : decode cX0_cell 137 = .ok (.ireturn, 1) := dk_172 (dk_at dksX0_cell_5 7 rfl rfl)
theorem dX0_cell_138 : decode cX0_cell 138 = .ok (.aload_n 0, 1) := dk_42 (dk_at dksX0_cell_5 8 rfl rfl)
theorem dX0_cell_139 : decode cX0_cell 139 = .ok (.getfield 53, 3) := dk_180 0 53 (dk_at dksX0_cell_5 9 rfl rfl)
theorem dX0_cell_142 : decode cX0_cell 142 = .ok (.getfield 136, 3) := dk_180 0 136 (dk_at dksX0_cell_5 12 rfl rfl)
theorem dX0_cell_145 : decode cX0_cell 145 = .ok (.iload 4, 2) := dk_21 4 (dk_at dksX0_cell_5 15 rfl rfl)
theorem dX0_cell_147 : decode cX0_cell 147 = .ok (.invokevirtual 160, 3) := dk_182 0 160 (dk_at dksX0_cell_5 17 rfl rfl)
theorem dX0_cell_150 : decode cX0_cell 150 = .ok (.ifCond .eq 7, 3) := dk_153 0 7 (dk_at dksX0_cell_5 20 rfl rfl)
theorem dX0_cell_153 : decode cX0_cell 153 = .ok (.iconst 1, 1) := dk_4 (dk_at dksX0_cell_5 23 rfl rfl)
theorem dX0_cell_154 : decode cX0_cell 154 = .ok (.goto 4, 3) := dk_167 0 4 (dk_at dksX0_cell_6 0 rfl rfl)
theorem dX0_cell_157 : decode cX0_cell 157 = .ok (.iconst 0, 1) := dk_3 (dk_at dksX0_cell_6 3 rfl rfl)
theorem dX0_cell_158 : decode cX0_cell 158 = .ok (.ireturn, 1) := dk_172 (dk_at dksX0_cell_6 4 rfl rfl)
theorem dX0_cell_159 : decode cX0_cell 159 = .ok (.ldc 135, 2) := dk_18 135 (dk_at dksX0_cell_6 5 rfl rfl)
theorem dX0_cell_161 : decode cX0_cell 161 = .ok (.ireturn, 1) := dk_172 (dk_at dksX0_cell_6 7 rfl rfl)
abbrev cX0_isCell : ByteArray := prog_1_method_2_code
def yX0_isCell : MethodName := ⟨RX0, "isCell", "(II)Z"⟩
def dkwX0_isCell_1 : List UInt8 := [4, 167, 0, 4, 3, 172]
abbrev dktX0_isCell_1 : List UInt8 := dkwX0_isCell_1 ++ []
def dkwX0_isCell_0 : List UInt8 := [26, 133, 9, 20, 0, 3, 184, 0, 5, 153, 0, 19, 27, 133, 9, 20, 0, 3, 184, 0, 5, 153, 0, 7]
abbrev dktX0_isCell_0 : List UInt8 := dkwX0_isCell_0 ++ dktX0_isCell_1
theorem dksX0_isCell_0 : cX0_isCell.data.toList.drop 0 = dktX0_isCell_0 := by decide +kernel
theorem dksX0_isCell_1 : cX0_isCell.data.toList.drop 24 = dktX0_isCell_1 := dk_seg dksX0_isCell_0 24 rfl rfl
theorem dX0_isCell_0 : decode cX0_isCell 0 = .ok (.iload_n 0, 1) := dk_26 (dk_at dksX0_isCell_0 0 rfl rfl)
theorem dX0_isCell_1 : decode cX0_isCell 1 = .ok (.i2l, 1) := dk_133 (dk_at dksX0_isCell_0 1 rfl rfl)
theorem dX0_isCell_2 : decode cX0_isCell 2 = .ok (.lconst 0, 1) := dk_9 (dk_at dksX0_isCell_0 2 rfl rfl)
theorem dX0_isCell_3 : decode cX0_isCell 3 = .ok (.ldc2_w 3, 3) := dk_20 0 3 (dk_at dksX0_isCell_0 3 rfl rfl)
theorem dX0_isCell_6 : decode cX0_isCell 6 = .ok (.invokestatic 5, 3) := dk_184 0 5 (dk_at dksX0_isCell_0 6 rfl rfl)
theorem dX0_isCell_9 : decode cX0_isCell 9 = .ok (.ifCond .eq 19, 3) := dk_153 0 19 (dk_at dksX0_isCell_0 9 rfl rfl)
theorem dX0_isCell_12 : decode cX0_isCell 12 = .ok (.iload_n 1, 1) := dk_27 (dk_at dksX0_isCell_0 12 rfl rfl)
theorem dX0_isCell_13 : decode cX0_isCell 13 = .ok (.i2l, 1) := dk_133 (dk_at dksX0_isCell_0 13 rfl rfl)
theorem dX0_isCell_14 : decode cX0_isCell 14 = .ok (.lconst 0, 1) := dk_9 (dk_at dksX0_isCell_0 14 rfl rfl)
theorem dX0_isCell_15 : decode cX0_isCell 15 = .ok (.ldc2_w 3, 3) := dk_20 0 3 (dk_at dksX0_isCell_0 15 rfl rfl)
theorem dX0_isCell_18 : decode cX0_isCell 18 = .ok (.invokestatic 5, 3) := dk_184 0 5 (dk_at dksX0_isCell_0 18 rfl rfl)
theorem dX0_isCell_21 : decode cX0_isCell 21 = .ok (.ifCond .eq 7, 3) := dk_153 0 7 (dk_at dksX0_isCell_0 21 rfl rfl)
theorem dX0_isCell_24 : decode cX0_isCell 24 = .ok (.iconst 1, 1) := dk_4 (dk_at dksX0_isCell_1 0 rfl rfl)
theorem dX0_isCell_25 : decode cX0_isCell 25 = .ok (.goto 4, 3) := dk_167 0 4 (dk_at dksX0_isCell_1 1 rfl rfl)
theorem dX0_isCell_28 : decode cX0_isCell 28 = .ok (.iconst 0, 1) := dk_3 (dk_at dksX0_isCell_1 4 rfl rfl)
theorem dX0_isCell_29 : decode cX0_isCell 29 = .ok (.ireturn, 1) := dk_172 (dk_at dksX0_isCell_1 5 rfl rfl)
abbrev cX0_pipeAt : ByteArray := prog_1_method_16_code
def yX0_pipeAt : MethodName := ⟨RX0, "pipeAt", "(I)I"⟩
def dkwX0_pipeAt_2 : List UInt8 := [167, 255, 212, 2, 172]
abbrev dktX0_pipeAt_2 : List UInt8 := dkwX0_pipeAt_2 ++ []
def dkwX0_pipeAt_1 : List UInt8 := [180, 0, 113, 28, 185, 0, 123, 2, 0, 192, 0, 127, 180, 0, 129, 27, 160, 0, 5, 28, 172, 132, 2, 1]
abbrev dktX0_pipeAt_1 : List UInt8 := dkwX0_pipeAt_1 ++ dktX0_pipeAt_2
def dkwX0_pipeAt_0 : List UInt8 := [3, 61, 28, 42, 180, 0, 53, 180, 0, 113, 185, 0, 117, 1, 0, 162, 0, 34, 42, 180, 0, 53]
abbrev dktX0_pipeAt_0 : List UInt8 := dkwX0_pipeAt_0 ++ dktX0_pipeAt_1
theorem dksX0_pipeAt_0 : cX0_pipeAt.data.toList.drop 0 = dktX0_pipeAt_0 := by decide +kernel
theorem dksX0_pipeAt_1 : cX0_pipeAt.data.toList.drop 22 = dktX0_pipeAt_1 := dk_seg dksX0_pipeAt_0 22 rfl rfl
theorem dksX0_pipeAt_2 : cX0_pipeAt.data.toList.drop 46 = dktX0_pipeAt_2 := dk_seg dksX0_pipeAt_1 24 rfl rfl
theorem dX0_pipeAt_0 : decode cX0_pipeAt 0 = .ok (.iconst 0, 1) := dk_3 (dk_at dksX0_pipeAt_0 0 rfl rfl)
theorem dX0_pipeAt_1 : decode cX0_pipeAt 1 = .ok (.istore_n 2, 1) := dk_61 (dk_at dksX0_pipeAt_0 1 rfl rfl)
theorem dX0_pipeAt_2 : decode cX0_pipeAt 2 = .ok (.iload_n 2, 1) := dk_28 (dk_at dksX0_pipeAt_0 2 rfl rfl)
theorem dX0_pipeAt_3 : decode cX0_pipeAt 3 = .ok (.aload_n 0, 1) := dk_42 (dk_at dksX0_pipeAt_0 3 rfl rfl)
theorem dX0_pipeAt_4 : decode cX0_pipeAt 4 = .ok (.getfield 53, 3) := dk_180 0 53 (dk_at dksX0_pipeAt_0 4 rfl rfl)
theorem dX0_pipeAt_7 : decode cX0_pipeAt 7 = .ok (.getfield 113, 3) := dk_180 0 113 (dk_at dksX0_pipeAt_0 7 rfl rfl)
theorem dX0_pipeAt_10 : decode cX0_pipeAt 10 = .ok (.invokeinterface 117 1, 5) := by decide +kernel
theorem dX0_pipeAt_15 : decode cX0_pipeAt 15 = .ok (.if_icmp .ge 34, 3) := dk_162 0 34 (dk_at dksX0_pipeAt_0 15 rfl rfl)
theorem dX0_pipeAt_18 : decode cX0_pipeAt 18 = .ok (.aload_n 0, 1) := dk_42 (dk_at dksX0_pipeAt_0 18 rfl rfl)
theorem dX0_pipeAt_19 : decode cX0_pipeAt 19 = .ok (.getfield 53, 3) := dk_180 0 53 (dk_at dksX0_pipeAt_0 19 rfl rfl)
theorem dX0_pipeAt_22 : decode cX0_pipeAt 22 = .ok (.getfield 113, 3) := dk_180 0 113 (dk_at dksX0_pipeAt_1 0 rfl rfl)
theorem dX0_pipeAt_25 : decode cX0_pipeAt 25 = .ok (.iload_n 2, 1) := dk_28 (dk_at dksX0_pipeAt_1 3 rfl rfl)
theorem dX0_pipeAt_26 : decode cX0_pipeAt 26 = .ok (.invokeinterface 123 2, 5) := by decide +kernel
theorem dX0_pipeAt_31 : decode cX0_pipeAt 31 = .ok (.checkcast 127, 3) := dk_192 0 127 (dk_at dksX0_pipeAt_1 9 rfl rfl)
theorem dX0_pipeAt_34 : decode cX0_pipeAt 34 = .ok (.getfield 129, 3) := dk_180 0 129 (dk_at dksX0_pipeAt_1 12 rfl rfl)
theorem dX0_pipeAt_37 : decode cX0_pipeAt 37 = .ok (.iload_n 1, 1) := dk_27 (dk_at dksX0_pipeAt_1 15 rfl rfl)
theorem dX0_pipeAt_38 : decode cX0_pipeAt 38 = .ok (.if_icmp .ne 5, 3) := dk_160 0 5 (dk_at dksX0_pipeAt_1 16 rfl rfl)
theorem dX0_pipeAt_41 : decode cX0_pipeAt 41 = .ok (.iload_n 2, 1) := dk_28 (dk_at dksX0_pipeAt_1 19 rfl rfl)
theorem dX0_pipeAt_42 : decode cX0_pipeAt 42 = .ok (.ireturn, 1) := dk_172 (dk_at dksX0_pipeAt_1 20 rfl rfl)
theorem dX0_pipeAt_43 : decode cX0_pipeAt 43 = .ok (.iinc 2 1, 3) := dk_132 2 1 (dk_at dksX0_pipeAt_1 21 rfl rfl)
theorem dX0_pipeAt_46 : decode cX0_pipeAt 46 = .ok (.goto (-44), 3) := dk_167 255 212 (dk_at dksX0_pipeAt_2 0 rfl rfl)
theorem dX0_pipeAt_49 : decode cX0_pipeAt 49 = .ok (.iconst (-1), 1) := dk_2 (dk_at dksX0_pipeAt_2 3 rfl rfl)
theorem dX0_pipeAt_50 : decode cX0_pipeAt 50 = .ok (.ireturn, 1) := dk_172 (dk_at dksX0_pipeAt_2 4 rfl rfl)
abbrev cX0_heat : ByteArray := prog_1_method_18_code
def yX0_heat : MethodName := ⟨RX0, "heat", "(I)I"⟩
def dkwX0_heat_4 : List UInt8 := [18, 135, 172]
abbrev dktX0_heat_4 : List UInt8 := dkwX0_heat_4 ++ []
def dkwX0_heat_3 : List UInt8 := [42, 180, 0, 53, 180, 0, 172, 172, 42, 180, 0, 53, 180, 0, 175, 172, 42, 180, 0, 53, 180, 0, 178, 172]
abbrev dktX0_heat_3 : List UInt8 := dkwX0_heat_3 ++ dktX0_heat_4
def dkwX0_heat_2 : List UInt8 := [42, 180, 0, 53, 182, 0, 163, 172, 42, 180, 0, 53, 180, 0, 166, 172, 42, 180, 0, 53, 180, 0, 169, 172]
abbrev dktX0_heat_2 : List UInt8 := dkwX0_heat_2 ++ dktX0_heat_3
def dkwX0_heat_1 : List UInt8 := [170, 0, 0, 0, 0, 0, 87, 0, 0, 0, 0, 0, 0, 0, 5, 0, 0, 0, 39, 0, 0, 0, 47, 0, 0, 0, 55, 0, 0, 0, 63, 0, 0, 0, 71, 0, 0, 0, 79]
abbrev dktX0_heat_1 : List UInt8 := dkwX0_heat_1 ++ dktX0_heat_2
def dkwX0_heat_0 : List UInt8 := [27]
abbrev dktX0_heat_0 : List UInt8 := dkwX0_heat_0 ++ dktX0_heat_1
theorem dksX0_heat_0 : cX0_heat.data.toList.drop 0 = dktX0_heat_0 := by decide +kernel
theorem dksX0_heat_1 : cX0_heat.data.toList.drop 1 = dktX0_heat_1 := dk_seg dksX0_heat_0 1 rfl rfl
theorem dksX0_heat_2 : cX0_heat.data.toList.drop 40 = dktX0_heat_2 := dk_seg dksX0_heat_1 39 rfl rfl
theorem dksX0_heat_3 : cX0_heat.data.toList.drop 64 = dktX0_heat_3 := dk_seg dksX0_heat_2 24 rfl rfl
theorem dksX0_heat_4 : cX0_heat.data.toList.drop 88 = dktX0_heat_4 := dk_seg dksX0_heat_3 24 rfl rfl
theorem dX0_heat_0 : decode cX0_heat 0 = .ok (.iload_n 1, 1) := dk_27 (dk_at dksX0_heat_0 0 rfl rfl)
theorem dX0_heat_1 : decode cX0_heat 1 = .ok (.tableswitch 87 0 5 #[39, 47, 55, 63, 71, 79], 39) := by decide +kernel
theorem dX0_heat_40 : decode cX0_heat 40 = .ok (.aload_n 0, 1) := dk_42 (dk_at dksX0_heat_2 0 rfl rfl)
theorem dX0_heat_41 : decode cX0_heat 41 = .ok (.getfield 53, 3) := dk_180 0 53 (dk_at dksX0_heat_2 1 rfl rfl)
theorem dX0_heat_44 : decode cX0_heat 44 = .ok (.invokevirtual 163, 3) := dk_182 0 163 (dk_at dksX0_heat_2 4 rfl rfl)
theorem dX0_heat_47 : decode cX0_heat 47 = .ok (.ireturn, 1) := dk_172 (dk_at dksX0_heat_2 7 rfl rfl)
theorem dX0_heat_48 : decode cX0_heat 48 = .ok (.aload_n 0, 1) := dk_42 (dk_at dksX0_heat_2 8 rfl rfl)
theorem dX0_heat_49 : decode cX0_heat 49 = .ok (.getfield 53, 3) := dk_180 0 53 (dk_at dksX0_heat_2 9 rfl rfl)
theorem dX0_heat_52 : decode cX0_heat 52 = .ok (.getfield 166, 3) := dk_180 0 166 (dk_at dksX0_heat_2 12 rfl rfl)
theorem dX0_heat_55 : decode cX0_heat 55 = .ok (.ireturn, 1) := dk_172 (dk_at dksX0_heat_2 15 rfl rfl)
theorem dX0_heat_56 : decode cX0_heat 56 = .ok (.aload_n 0, 1) := dk_42 (dk_at dksX0_heat_2 16 rfl rfl)
theorem dX0_heat_57 : decode cX0_heat 57 = .ok (.getfield 53, 3) := dk_180 0 53 (dk_at dksX0_heat_2 17 rfl rfl)
theorem dX0_heat_60 : decode cX0_heat 60 = .ok (.getfield 169, 3) := dk_180 0 169 (dk_at dksX0_heat_2 20 rfl rfl)
theorem dX0_heat_63 : decode cX0_heat 63 = .ok (.ireturn, 1) := dk_172 (dk_at dksX0_heat_2 23 rfl rfl)
theorem dX0_heat_64 : decode cX0_heat 64 = .ok (.aload_n 0, 1) := dk_42 (dk_at dksX0_heat_3 0 rfl rfl)
theorem dX0_heat_65 : decode cX0_heat 65 = .ok (.getfield 53, 3) := dk_180 0 53 (dk_at dksX0_heat_3 1 rfl rfl)
theorem dX0_heat_68 : decode cX0_heat 68 = .ok (.getfield 172, 3) := dk_180 0 172 (dk_at dksX0_heat_3 4 rfl rfl)
theorem dX0_heat_71 : decode cX0_heat 71 = .ok (.ireturn, 1) := dk_172 (dk_at dksX0_heat_3 7 rfl rfl)
theorem dX0_heat_72 : decode cX0_heat 72 = .ok (.aload_n 0, 1) := dk_42 (dk_at dksX0_heat_3 8 rfl rfl)
theorem dX0_heat_73 : decode cX0_heat 73 = .ok (.getfield 53, 3) := dk_180 0 53 (dk_at dksX0_heat_3 9 rfl rfl)
theorem dX0_heat_76 : decode cX0_heat 76 = .ok (.getfield 175, 3) := dk_180 0 175 (dk_at dksX0_heat_3 12 rfl rfl)
theorem dX0_heat_79 : decode cX0_heat 79 = .ok (.ireturn, 1) := dk_172 (dk_at dksX0_heat_3 15 rfl rfl)
theorem dX0_heat_80 : decode cX0_heat 80 = .ok (.aload_n 0, 1) := dk_42 (dk_at dksX0_heat_3 16 rfl rfl)
theorem dX0_heat_81 : decode cX0_heat 81 = .ok (.getfield 53, 3) := dk_180 0 53 (dk_at dksX0_heat_3 17 rfl rfl)
theorem dX0_heat_84 : decode cX0_heat 84 = .ok (.getfield 178, 3) := dk_180 0 178 (dk_at dksX0_heat_3 20 rfl rfl)
theorem dX0_heat_87 : decode cX0_heat 87 = .ok (.ireturn, 1) := dk_172 (dk_at dksX0_heat_3 23 rfl rfl)
theorem dX0_heat_88 : decode cX0_heat 88 = .ok (.ldc 135, 2) := dk_18 135 (dk_at dksX0_heat_4 0 rfl rfl)
theorem dX0_heat_90 : decode cX0_heat 90 = .ok (.ireturn, 1) := dk_172 (dk_at dksX0_heat_4 2 rfl rfl)
abbrev cX0_run : ByteArray := prog_1_method_20_code
def yX0_run : MethodName := ⟨RX0, "run", "(IZ)Z"⟩
def dkwX0_run_2 : List UInt8 := [192, 0, 127, 28, 181, 0, 184, 4, 172]
abbrev dktX0_run_2 : List UInt8 := dkwX0_run_2 ++ []
def dkwX0_run_1 : List UInt8 := [180, 0, 184, 28, 160, 0, 5, 3, 172, 42, 180, 0, 53, 180, 0, 113, 27, 185, 0, 123, 2, 0]
abbrev dktX0_run_1 : List UInt8 := dkwX0_run_1 ++ dktX0_run_2
def dkwX0_run_0 : List UInt8 := [42, 27, 182, 0, 181, 153, 0, 26, 42, 180, 0, 53, 180, 0, 113, 27, 185, 0, 123, 2, 0, 192, 0, 127]
abbrev dktX0_run_0 : List UInt8 := dkwX0_run_0 ++ dktX0_run_1
theorem dksX0_run_0 : cX0_run.data.toList.drop 0 = dktX0_run_0 := by decide +kernel
theorem dksX0_run_1 : cX0_run.data.toList.drop 24 = dktX0_run_1 := dk_seg dksX0_run_0 24 rfl rfl
theorem dksX0_run_2 : cX0_run.data.toList.drop 46 = dktX0_run_2 := dk_seg dksX0_run_1 22 rfl rfl
theorem dX0_run_0 : decode cX0_run 0 = .ok (.aload_n 0, 1) := dk_42 (dk_at dksX0_run_0 0 rfl rfl)
theorem dX0_run_1 : decode cX0_run 1 = .ok (.iload_n 1, 1) := dk_27 (dk_at dksX0_run_0 1 rfl rfl)
theorem dX0_run_2 : decode cX0_run 2 = .ok (.invokevirtual 181, 3) := dk_182 0 181 (dk_at dksX0_run_0 2 rfl rfl)
theorem dX0_run_5 : decode cX0_run 5 = .ok (.ifCond .eq 26, 3) := dk_153 0 26 (dk_at dksX0_run_0 5 rfl rfl)
theorem dX0_run_8 : decode cX0_run 8 = .ok (.aload_n 0, 1) := dk_42 (dk_at dksX0_run_0 8 rfl rfl)
theorem dX0_run_9 : decode cX0_run 9 = .ok (.getfield 53, 3) := dk_180 0 53 (dk_at dksX0_run_0 9 rfl rfl)
theorem dX0_run_12 : decode cX0_run 12 = .ok (.getfield 113, 3) := dk_180 0 113 (dk_at dksX0_run_0 12 rfl rfl)
theorem dX0_run_15 : decode cX0_run 15 = .ok (.iload_n 1, 1) := dk_27 (dk_at dksX0_run_0 15 rfl rfl)
theorem dX0_run_16 : decode cX0_run 16 = .ok (.invokeinterface 123 2, 5) := by decide +kernel
theorem dX0_run_21 : decode cX0_run 21 = .ok (.checkcast 127, 3) := dk_192 0 127 (dk_at dksX0_run_0 21 rfl rfl)
theorem dX0_run_24 : decode cX0_run 24 = .ok (.getfield 184, 3) := dk_180 0 184 (dk_at dksX0_run_1 0 rfl rfl)
theorem dX0_run_27 : decode cX0_run 27 = .ok (.iload_n 2, 1) := dk_28 (dk_at dksX0_run_1 3 rfl rfl)
theorem dX0_run_28 : decode cX0_run 28 = .ok (.if_icmp .ne 5, 3) := dk_160 0 5 (dk_at dksX0_run_1 4 rfl rfl)
theorem dX0_run_31 : decode cX0_run 31 = .ok (.iconst 0, 1) := dk_3 (dk_at dksX0_run_1 7 rfl rfl)
theorem dX0_run_32 : decode cX0_run 32 = .ok (.ireturn, 1) := dk_172 (dk_at dksX0_run_1 8 rfl rfl)
theorem dX0_run_33 : decode cX0_run 33 = .ok (.aload_n 0, 1) := dk_42 (dk_at dksX0_run_1 9 rfl rfl)
theorem dX0_run_34 : decode cX0_run 34 = .ok (.getfield 53, 3) := dk_180 0 53 (dk_at dksX0_run_1 10 rfl rfl)
theorem dX0_run_37 : decode cX0_run 37 = .ok (.getfield 113, 3) := dk_180 0 113 (dk_at dksX0_run_1 13 rfl rfl)
theorem dX0_run_40 : decode cX0_run 40 = .ok (.iload_n 1, 1) := dk_27 (dk_at dksX0_run_1 16 rfl rfl)
theorem dX0_run_41 : decode cX0_run 41 = .ok (.invokeinterface 123 2, 5) := by decide +kernel
theorem dX0_run_46 : decode cX0_run 46 = .ok (.checkcast 127, 3) := dk_192 0 127 (dk_at dksX0_run_2 0 rfl rfl)
theorem dX0_run_49 : decode cX0_run 49 = .ok (.iload_n 2, 1) := dk_28 (dk_at dksX0_run_2 3 rfl rfl)
theorem dX0_run_50 : decode cX0_run 50 = .ok (.putfield 184, 3) := dk_181 0 184 (dk_at dksX0_run_2 4 rfl rfl)
theorem dX0_run_53 : decode cX0_run 53 = .ok (.iconst 1, 1) := dk_4 (dk_at dksX0_run_2 7 rfl rfl)
theorem dX0_run_54 : decode cX0_run 54 = .ok (.ireturn, 1) := dk_172 (dk_at dksX0_run_2 8 rfl rfl)
abbrev cX0_isPipe : ByteArray := prog_1_method_19_code
def yX0_isPipe : MethodName := ⟨RX0, "isPipe", "(I)Z"⟩
def dkwX0_isPipe_0 : List UInt8 := [27, 133, 9, 42, 180, 0, 53, 180, 0, 113, 185, 0, 117, 1, 0, 4, 100, 133, 184, 0, 5, 172]
abbrev dktX0_isPipe_0 : List UInt8 := dkwX0_isPipe_0 ++ []
theorem dksX0_isPipe_0 : cX0_isPipe.data.toList.drop 0 = dktX0_isPipe_0 := by decide +kernel
theorem dX0_isPipe_0 : decode cX0_isPipe 0 = .ok (.iload_n 1, 1) := dk_27 (dk_at dksX0_isPipe_0 0 rfl rfl)
theorem dX0_isPipe_1 : decode cX0_isPipe 1 = .ok (.i2l, 1) := dk_133 (dk_at dksX0_isPipe_0 1 rfl rfl)
theorem dX0_isPipe_2 : decode cX0_isPipe 2 = .ok (.lconst 0, 1) := dk_9 (dk_at dksX0_isPipe_0 2 rfl rfl)
theorem dX0_isPipe_3 : decode cX0_isPipe 3 = .ok (.aload_n 0, 1) := dk_42 (dk_at dksX0_isPipe_0 3 rfl rfl)
theorem dX0_isPipe_4 : decode cX0_isPipe 4 = .ok (.getfield 53, 3) := dk_180 0 53 (dk_at dksX0_isPipe_0 4 rfl rfl)
theorem dX0_isPipe_7 : decode cX0_isPipe 7 = .ok (.getfield 113, 3) := dk_180 0 113 (dk_at dksX0_isPipe_0 7 rfl rfl)
theorem dX0_isPipe_10 : decode cX0_isPipe 10 = .ok (.invokeinterface 117 1, 5) := by decide +kernel
theorem dX0_isPipe_15 : decode cX0_isPipe 15 = .ok (.iconst 1, 1) := dk_4 (dk_at dksX0_isPipe_0 15 rfl rfl)
theorem dX0_isPipe_16 : decode cX0_isPipe 16 = .ok (.isub, 1) := dk_100 (dk_at dksX0_isPipe_0 16 rfl rfl)
theorem dX0_isPipe_17 : decode cX0_isPipe 17 = .ok (.i2l, 1) := dk_133 (dk_at dksX0_isPipe_0 17 rfl rfl)
theorem dX0_isPipe_18 : decode cX0_isPipe 18 = .ok (.invokestatic 5, 3) := dk_184 0 5 (dk_at dksX0_isPipe_0 18 rfl rfl)
theorem dX0_isPipe_21 : decode cX0_isPipe 21 = .ok (.ireturn, 1) := dk_172 (dk_at dksX0_isPipe_0 21 rfl rfl)
abbrev cX0_pipe : ByteArray := prog_1_method_21_code
def yX0_pipe : MethodName := ⟨RX0, "pipe", "(II)I"⟩
def dkwX0_pipe_4 : List UInt8 := [167, 0, 4, 3, 172, 45, 180, 0, 194, 172, 45, 180, 0, 197, 172, 18, 135, 172]
abbrev dktX0_pipe_4 : List UInt8 := dkwX0_pipe_4 ++ []
def dkwX0_pipe_3 : List UInt8 := [45, 180, 0, 129, 172, 45, 180, 0, 188, 172, 45, 180, 0, 191, 172, 45, 180, 0, 184, 153, 0, 7, 4]
abbrev dktX0_pipe_3 : List UInt8 := dkwX0_pipe_3 ++ dktX0_pipe_4
def dkwX0_pipe_2 : List UInt8 := [170, 0, 0, 0, 0, 0, 77, 0, 0, 0, 0, 0, 0, 0, 5, 0, 0, 0, 39, 0, 0, 0, 44, 0, 0, 0, 49, 0, 0, 0, 54, 0, 0, 0, 67, 0, 0, 0, 72]
abbrev dktX0_pipe_2 : List UInt8 := dkwX0_pipe_2 ++ dktX0_pipe_3
def dkwX0_pipe_1 : List UInt8 := [192, 0, 127, 78, 28]
abbrev dktX0_pipe_1 : List UInt8 := dkwX0_pipe_1 ++ dktX0_pipe_2
def dkwX0_pipe_0 : List UInt8 := [42, 27, 182, 0, 181, 154, 0, 6, 18, 135, 172, 42, 180, 0, 53, 180, 0, 113, 27, 185, 0, 123, 2, 0]
abbrev dktX0_pipe_0 : List UInt8 := dkwX0_pipe_0 ++ dktX0_pipe_1
theorem dksX0_pipe_0 : cX0_pipe.data.toList.drop 0 = dktX0_pipe_0 := by decide +kernel
theorem dksX0_pipe_1 : cX0_pipe.data.toList.drop 24 = dktX0_pipe_1 := dk_seg dksX0_pipe_0 24 rfl rfl
theorem dksX0_pipe_2 : cX0_pipe.data.toList.drop 29 = dktX0_pipe_2 := dk_seg dksX0_pipe_1 5 rfl rfl
theorem dksX0_pipe_3 : cX0_pipe.data.toList.drop 68 = dktX0_pipe_3 := dk_seg dksX0_pipe_2 39 rfl rfl
theorem dksX0_pipe_4 : cX0_pipe.data.toList.drop 91 = dktX0_pipe_4 := dk_seg dksX0_pipe_3 23 rfl rfl
theorem dX0_pipe_0 : decode cX0_pipe 0 = .ok (.aload_n 0, 1) := dk_42 (dk_at dksX0_pipe_0 0 rfl rfl)
theorem dX0_pipe_1 : decode cX0_pipe 1 = .ok (.iload_n 1, 1) := dk_27 (dk_at dksX0_pipe_0 1 rfl rfl)
theorem dX0_pipe_2 : decode cX0_pipe 2 = .ok (.invokevirtual 181, 3) := dk_182 0 181 (dk_at dksX0_pipe_0 2 rfl rfl)
theorem dX0_pipe_5 : decode cX0_pipe 5 = .ok (.ifCond .ne 6, 3) := dk_154 0 6 (dk_at dksX0_pipe_0 5 rfl rfl)
theorem dX0_pipe_8 : decode cX0_pipe 8 = .ok (.ldc 135, 2) := dk_18 135 (dk_at dksX0_pipe_0 8 rfl rfl)
theorem dX0_pipe_10 : decode cX0_pipe 10 = .ok (.ireturn, 1) := dk_172 (dk_at dksX0_pipe_0 10 rfl rfl)
theorem dX0_pipe_11 : decode cX0_pipe 11 = .ok (.aload_n 0, 1) := dk_42 (dk_at dksX0_pipe_0 11 rfl rfl)
theorem dX0_pipe_12 : decode cX0_pipe 12 = .ok (.getfield 53, 3) := dk_180 0 53 (dk_at dksX0_pipe_0 12 rfl rfl)
theorem dX0_pipe_15 : decode cX0_pipe 15 = .ok (.getfield 113, 3) := dk_180 0 113 (dk_at dksX0_pipe_0 15 rfl rfl)
theorem dX0_pipe_18 : decode cX0_pipe 18 = .ok (.iload_n 1, 1) := dk_27 (dk_at dksX0_pipe_0 18 rfl rfl)
theorem dX0_pipe_19 : decode cX0_pipe 19 = .ok (.invokeinterface 123 2, 5) := by decide +kernel
theorem dX0_pipe_24 : decode cX0_pipe 24 = .ok (.checkcast 127, 3) := dk_192 0 127 (dk_at dksX0_pipe_1 0 rfl rfl)
theorem dX0_pipe_27 : decode cX0_pipe 27 = .ok (.astore_n 3, 1) := dk_78 (dk_at dksX0_pipe_1 3 rfl rfl)
theorem dX0_pipe_28 : decode cX0_pipe 28 = .ok (.iload_n 2, 1) := dk_28 (dk_at dksX0_pipe_1 4 rfl rfl)
theorem dX0_pipe_29 : decode cX0_pipe 29 = .ok (.tableswitch 77 0 5 #[39, 44, 49, 54, 67, 72], 39) := by decide +kernel
theorem dX0_pipe_68 : decode cX0_pipe 68 = .ok (.aload_n 3, 1) := dk_45 (dk_at dksX0_pipe_3 0 rfl rfl)
theorem dX0_pipe_69 : decode cX0_pipe 69 = .ok (.getfield 129, 3) := dk_180 0 129 (dk_at dksX0_pipe_3 1 rfl rfl)
theorem dX0_pipe_72 : decode cX0_pipe 72 = .ok (.ireturn, 1) := dk_172 (dk_at dksX0_pipe_3 4 rfl rfl)
theorem dX0_pipe_73 : decode cX0_pipe 73 = .ok (.aload_n 3, 1) := dk_45 (dk_at dksX0_pipe_3 5 rfl rfl)
theorem dX0_pipe_74 : decode cX0_pipe 74 = .ok (.getfield 188, 3) := dk_180 0 188 (dk_at dksX0_pipe_3 6 rfl rfl)
theorem dX0_pipe_77 : decode cX0_pipe 77 = .ok (.ireturn, 1) := dk_172 (dk_at dksX0_pipe_3 9 rfl rfl)
theorem dX0_pipe_78 : decode cX0_pipe 78 = .ok (.aload_n 3, 1) := dk_45 (dk_at dksX0_pipe_3 10 rfl rfl)
theorem dX0_pipe_79 : decode cX0_pipe 79 = .ok (.getfield 191, 3) := dk_180 0 191 (dk_at dksX0_pipe_3 11 rfl rfl)
theorem dX0_pipe_82 : decode cX0_pipe 82 = .ok (.ireturn, 1) := dk_172 (dk_at dksX0_pipe_3 14 rfl rfl)
theorem dX0_pipe_83 : decode cX0_pipe 83 = .ok (.aload_n 3, 1) := dk_45 (dk_at dksX0_pipe_3 15 rfl rfl)
theorem dX0_pipe_84 : decode cX0_pipe 84 = .ok (.getfield 184, 3) := dk_180 0 184 (dk_at dksX0_pipe_3 16 rfl rfl)
theorem dX0_pipe_87 : decode cX0_pipe 87 = .ok (.ifCond .eq 7, 3) := dk_153 0 7 (dk_at dksX0_pipe_3 19 rfl rfl)
theorem dX0_pipe_90 : decode cX0_pipe 90 = .ok (.iconst 1, 1) := dk_4 (dk_at dksX0_pipe_3 22 rfl rfl)
theorem dX0_pipe_91 : decode cX0_pipe 91 = .ok (.goto 4, 3) := dk_167 0 4 (dk_at dksX0_pipe_4 0 rfl rfl)
theorem dX0_pipe_94 : decode cX0_pipe 94 = .ok (.iconst 0, 1) := dk_3 (dk_at dksX0_pipe_4 3 rfl rfl)
theorem dX0_pipe_95 : decode cX0_pipe 95 = .ok (.ireturn, 1) := dk_172 (dk_at dksX0_pipe_4 4 rfl rfl)
theorem dX0_pipe_96 : decode cX0_pipe 96 = .ok (.aload_n 3, 1) := dk_45 (dk_at dksX0_pipe_4 5 rfl rfl)
theorem dX0_pipe_97 : decode cX0_pipe 97 = .ok (.getfield 194, 3) := dk_180 0 194 (dk_at dksX0_pipe_4 6 rfl rfl)
theorem dX0_pipe_100 : decode cX0_pipe 100 = .ok (.ireturn, 1) := dk_172 (dk_at dksX0_pipe_4 9 rfl rfl)
theorem dX0_pipe_101 : decode cX0_pipe 101 = .ok (.aload_n 3, 1) := dk_45 (dk_at dksX0_pipe_4 10 rfl rfl)
theorem dX0_pipe_102 : decode cX0_pipe 102 = .ok (.getfield 197, 3) := dk_180 0 197 (dk_at dksX0_pipe_4 11 rfl rfl)
theorem dX0_pipe_105 : decode cX0_pipe 105 = .ok (.ireturn, 1) := dk_172 (dk_at dksX0_pipe_4 14 rfl rfl)
theorem dX0_pipe_106 : decode cX0_pipe 106 = .ok (.ldc 135, 2) := dk_18 135 (dk_at dksX0_pipe_4 15 rfl rfl)
theorem dX0_pipe_108 : decode cX0_pipe 108 = .ok (.ireturn, 1) := dk_172 (dk_at dksX0_pipe_4 17 rfl rfl)
abbrev cX0_cold : ByteArray := prog_1_method_22_code
def yX0_cold : MethodName := ⟨RX0, "cold", "(I)I"⟩
def dkwX0_cold_1 : List UInt8 := [180, 0, 53, 27, 181, 0, 202, 28, 172]
abbrev dktX0_cold_1 : List UInt8 := dkwX0_cold_1 ++ []
def dkwX0_cold_0 : List UInt8 := [27, 133, 9, 20, 0, 200, 184, 0, 5, 154, 0, 6, 16, 254, 172, 42, 180, 0, 53, 180, 0, 202, 61, 42]
abbrev dktX0_cold_0 : List UInt8 := dkwX0_cold_0 ++ dktX0_cold_1
theorem dksX0_cold_0 : cX0_cold.data.toList.drop 0 = dktX0_cold_0 := by decide +kernel
theorem dksX0_cold_1 : cX0_cold.data.toList.drop 24 = dktX0_cold_1 := dk_seg dksX0_cold_0 24 rfl rfl
theorem dX0_cold_0 : decode cX0_cold 0 = .ok (.iload_n 1, 1) := dk_27 (dk_at dksX0_cold_0 0 rfl rfl)
theorem dX0_cold_1 : decode cX0_cold 1 = .ok (.i2l, 1) := dk_133 (dk_at dksX0_cold_0 1 rfl rfl)
theorem dX0_cold_2 : decode cX0_cold 2 = .ok (.lconst 0, 1) := dk_9 (dk_at dksX0_cold_0 2 rfl rfl)
theorem dX0_cold_3 : decode cX0_cold 3 = .ok (.ldc2_w 200, 3) := dk_20 0 200 (dk_at dksX0_cold_0 3 rfl rfl)
theorem dX0_cold_6 : decode cX0_cold 6 = .ok (.invokestatic 5, 3) := dk_184 0 5 (dk_at dksX0_cold_0 6 rfl rfl)
theorem dX0_cold_9 : decode cX0_cold 9 = .ok (.ifCond .ne 6, 3) := dk_154 0 6 (dk_at dksX0_cold_0 9 rfl rfl)
theorem dX0_cold_12 : decode cX0_cold 12 = .ok (.bipush (-2), 2) := dk_16 254 (dk_at dksX0_cold_0 12 rfl rfl)
theorem dX0_cold_14 : decode cX0_cold 14 = .ok (.ireturn, 1) := dk_172 (dk_at dksX0_cold_0 14 rfl rfl)
theorem dX0_cold_15 : decode cX0_cold 15 = .ok (.aload_n 0, 1) := dk_42 (dk_at dksX0_cold_0 15 rfl rfl)
theorem dX0_cold_16 : decode cX0_cold 16 = .ok (.getfield 53, 3) := dk_180 0 53 (dk_at dksX0_cold_0 16 rfl rfl)
theorem dX0_cold_19 : decode cX0_cold 19 = .ok (.getfield 202, 3) := dk_180 0 202 (dk_at dksX0_cold_0 19 rfl rfl)
theorem dX0_cold_22 : decode cX0_cold 22 = .ok (.istore_n 2, 1) := dk_61 (dk_at dksX0_cold_0 22 rfl rfl)
theorem dX0_cold_23 : decode cX0_cold 23 = .ok (.aload_n 0, 1) := dk_42 (dk_at dksX0_cold_0 23 rfl rfl)
theorem dX0_cold_24 : decode cX0_cold 24 = .ok (.getfield 53, 3) := dk_180 0 53 (dk_at dksX0_cold_1 0 rfl rfl)
theorem dX0_cold_27 : decode cX0_cold 27 = .ok (.iload_n 1, 1) := dk_27 (dk_at dksX0_cold_1 3 rfl rfl)
theorem dX0_cold_28 : decode cX0_cold 28 = .ok (.putfield 202, 3) := dk_181 0 202 (dk_at dksX0_cold_1 4 rfl rfl)
theorem dX0_cold_31 : decode cX0_cold 31 = .ok (.iload_n 2, 1) := dk_28 (dk_at dksX0_cold_1 7 rfl rfl)
theorem dX0_cold_32 : decode cX0_cold 32 = .ok (.ireturn, 1) := dk_172 (dk_at dksX0_cold_1 8 rfl rfl)
abbrev cX0_shut : ByteArray := prog_1_method_24_code
def yX0_shut : MethodName := ⟨RX0, "shut", "()I"⟩
def dkwX0_shut_1 : List UInt8 := [167, 0, 4, 3, 172]
abbrev dktX0_shut_1 : List UInt8 := dkwX0_shut_1 ++ []
def dkwX0_shut_0 : List UInt8 := [42, 182, 0, 209, 154, 0, 8, 16, 250, 167, 0, 18, 42, 180, 0, 53, 182, 0, 210, 153, 0, 7, 4]
abbrev dktX0_shut_0 : List UInt8 := dkwX0_shut_0 ++ dktX0_shut_1
theorem dksX0_shut_0 : cX0_shut.data.toList.drop 0 = dktX0_shut_0 := by decide +kernel
theorem dksX0_shut_1 : cX0_shut.data.toList.drop 23 = dktX0_shut_1 := dk_seg dksX0_shut_0 23 rfl rfl
theorem dX0_shut_0 : decode cX0_shut 0 = .ok (.aload_n 0, 1) := dk_42 (dk_at dksX0_shut_0 0 rfl rfl)
theorem dX0_shut_1 : decode cX0_shut 1 = .ok (.invokevirtual 209, 3) := dk_182 0 209 (dk_at dksX0_shut_0 1 rfl rfl)
theorem dX0_shut_4 : decode cX0_shut 4 = .ok (.ifCond .ne 8, 3) := dk_154 0 8 (dk_at dksX0_shut_0 4 rfl rfl)
theorem dX0_shut_7 : decode cX0_shut 7 = .ok (.bipush (-6), 2) := dk_16 250 (dk_at dksX0_shut_0 7 rfl rfl)
theorem dX0_shut_9 : decode cX0_shut 9 = .ok (.goto 18, 3) := dk_167 0 18 (dk_at dksX0_shut_0 9 rfl rfl)
theorem dX0_shut_12 : decode cX0_shut 12 = .ok (.aload_n 0, 1) := dk_42 (dk_at dksX0_shut_0 12 rfl rfl)
theorem dX0_shut_13 : decode cX0_shut 13 = .ok (.getfield 53, 3) := dk_180 0 53 (dk_at dksX0_shut_0 13 rfl rfl)
theorem dX0_shut_16 : decode cX0_shut 16 = .ok (.invokevirtual 210, 3) := dk_182 0 210 (dk_at dksX0_shut_0 16 rfl rfl)
theorem dX0_shut_19 : decode cX0_shut 19 = .ok (.ifCond .eq 7, 3) := dk_153 0 7 (dk_at dksX0_shut_0 19 rfl rfl)
theorem dX0_shut_22 : decode cX0_shut 22 = .ok (.iconst 1, 1) := dk_4 (dk_at dksX0_shut_0 22 rfl rfl)
theorem dX0_shut_23 : decode cX0_shut 23 = .ok (.goto 4, 3) := dk_167 0 4 (dk_at dksX0_shut_1 0 rfl rfl)
theorem dX0_shut_26 : decode cX0_shut 26 = .ok (.iconst 0, 1) := dk_3 (dk_at dksX0_shut_1 3 rfl rfl)
theorem dX0_shut_27 : decode cX0_shut 27 = .ok (.ireturn, 1) := dk_172 (dk_at dksX0_shut_1 4 rfl rfl)
abbrev cX0_hasShaft : ByteArray := prog_1_method_23_code
def yX0_hasShaft : MethodName := ⟨RX0, "hasShaft", "()Z"⟩
def dkwX0_hasShaft_0 : List UInt8 := [42, 180, 0, 53, 180, 0, 136, 182, 0, 205, 172]
abbrev dktX0_hasShaft_0 : List UInt8 := dkwX0_hasShaft_0 ++ []
theorem dksX0_hasShaft_0 : cX0_hasShaft.data.toList.drop 0 = dktX0_hasShaft_0 := by decide +kernel
theorem dX0_hasShaft_0 : decode cX0_hasShaft 0 = .ok (.aload_n 0, 1) := dk_42 (dk_at dksX0_hasShaft_0 0 rfl rfl)
theorem dX0_hasShaft_1 : decode cX0_hasShaft 1 = .ok (.getfield 53, 3) := dk_180 0 53 (dk_at dksX0_hasShaft_0 1 rfl rfl)
theorem dX0_hasShaft_4 : decode cX0_hasShaft 4 = .ok (.getfield 136, 3) := dk_180 0 136 (dk_at dksX0_hasShaft_0 4 rfl rfl)
theorem dX0_hasShaft_7 : decode cX0_hasShaft 7 = .ok (.invokevirtual 205, 3) := dk_182 0 205 (dk_at dksX0_hasShaft_0 7 rfl rfl)
theorem dX0_hasShaft_10 : decode cX0_hasShaft 10 = .ok (.ireturn, 1) := dk_172 (dk_at dksX0_hasShaft_0 10 rfl rfl)
abbrev cX0_way : ByteArray := prog_1_method_25_code
def yX0_way : MethodName := ⟨RX0, "way", "()I"⟩
def dkwX0_way_0 : List UInt8 := [42, 182, 0, 209, 153, 0, 13, 42, 180, 0, 53, 182, 0, 213, 167, 0, 5, 16, 250, 172]
abbrev dktX0_way_0 : List UInt8 := dkwX0_way_0 ++ []
theorem dksX0_way_0 : cX0_way.data.toList.drop 0 = dktX0_way_0 := by decide +kernel
theorem dX0_way_0 : decode cX0_way 0 = .ok (.aload_n 0, 1) := dk_42 (dk_at dksX0_way_0 0 rfl rfl)
theorem dX0_way_1 : decode cX0_way 1 = .ok (.invokevirtual 209, 3) := dk_182 0 209 (dk_at dksX0_way_0 1 rfl rfl)
theorem dX0_way_4 : decode cX0_way 4 = .ok (.ifCond .eq 13, 3) := dk_153 0 13 (dk_at dksX0_way_0 4 rfl rfl)
theorem dX0_way_7 : decode cX0_way 7 = .ok (.aload_n 0, 1) := dk_42 (dk_at dksX0_way_0 7 rfl rfl)
theorem dX0_way_8 : decode cX0_way 8 = .ok (.getfield 53, 3) := dk_180 0 53 (dk_at dksX0_way_0 8 rfl rfl)
theorem dX0_way_11 : decode cX0_way 11 = .ok (.invokevirtual 213, 3) := dk_182 0 213 (dk_at dksX0_way_0 11 rfl rfl)
theorem dX0_way_14 : decode cX0_way 14 = .ok (.goto 5, 3) := dk_167 0 5 (dk_at dksX0_way_0 14 rfl rfl)
theorem dX0_way_17 : decode cX0_way 17 = .ok (.bipush (-6), 2) := dk_16 250 (dk_at dksX0_way_0 17 rfl rfl)
theorem dX0_way_19 : decode cX0_way 19 = .ok (.ireturn, 1) := dk_172 (dk_at dksX0_way_0 19 rfl rfl)
abbrev cX0_gaps : ByteArray := prog_1_method_26_code
def yX0_gaps : MethodName := ⟨RX0, "gaps", "()I"⟩
def dkwX0_gaps_3 : List UInt8 := [167, 255, 215, 43, 180, 0, 227, 172]
abbrev dktX0_gaps_3 : List UInt8 := dkwX0_gaps_3 ++ []
def dkwX0_gaps_2 : List UInt8 := [180, 0, 72, 42, 180, 0, 221, 28, 79, 42, 89, 180, 0, 221, 4, 96, 181, 0, 221, 132, 2, 1]
abbrev dktX0_gaps_2 : List UInt8 := dkwX0_gaps_2 ++ dktX0_gaps_3
def dkwX0_gaps_1 : List UInt8 := [181, 0, 221, 3, 61, 28, 17, 0, 144, 162, 0, 40, 43, 28, 182, 0, 224, 154, 0, 6, 167, 0, 23, 42]
abbrev dktX0_gaps_1 : List UInt8 := dkwX0_gaps_1 ++ dktX0_gaps_2
def dkwX0_gaps_0 : List UInt8 := [42, 182, 0, 209, 154, 0, 6, 16, 250, 172, 187, 0, 216, 89, 42, 180, 0, 53, 183, 0, 218, 76, 42, 3]
abbrev dktX0_gaps_0 : List UInt8 := dkwX0_gaps_0 ++ dktX0_gaps_1
theorem dksX0_gaps_0 : cX0_gaps.data.toList.drop 0 = dktX0_gaps_0 := by decide +kernel
theorem dksX0_gaps_1 : cX0_gaps.data.toList.drop 24 = dktX0_gaps_1 := dk_seg dksX0_gaps_0 24 rfl rfl
theorem dksX0_gaps_2 : cX0_gaps.data.toList.drop 48 = dktX0_gaps_2 := dk_seg dksX0_gaps_1 24 rfl rfl
theorem dksX0_gaps_3 : cX0_gaps.data.toList.drop 70 = dktX0_gaps_3 := dk_seg dksX0_gaps_2 22 rfl rfl
theorem dX0_gaps_0 : decode cX0_gaps 0 = .ok (.aload_n 0, 1) := dk_42 (dk_at dksX0_gaps_0 0 rfl rfl)
theorem dX0_gaps_1 : decode cX0_gaps 1 = .ok (.invokevirtual 209, 3) := dk_182 0 209 (dk_at dksX0_gaps_0 1 rfl rfl)
theorem dX0_gaps_4 : decode cX0_gaps 4 = .ok (.ifCond .ne 6, 3) := dk_154 0 6 (dk_at dksX0_gaps_0 4 rfl rfl)
theorem dX0_gaps_7 : decode cX0_gaps 7 = .ok (.bipush (-6), 2) := dk_16 250 (dk_at dksX0_gaps_0 7 rfl rfl)
theorem dX0_gaps_9 : decode cX0_gaps 9 = .ok (.ireturn, 1) := dk_172 (dk_at dksX0_gaps_0 9 rfl rfl)
theorem dX0_gaps_10 : decode cX0_gaps 10 = .ok (.new 216, 3) := dk_187 0 216 (dk_at dksX0_gaps_0 10 rfl rfl)
theorem dX0_gaps_13 : decode cX0_gaps 13 = .ok (.dup, 1) := dk_89 (dk_at dksX0_gaps_0 13 rfl rfl)
theorem dX0_gaps_14 : decode cX0_gaps 14 = .ok (.aload_n 0, 1) := dk_42 (dk_at dksX0_gaps_0 14 rfl rfl)
theorem dX0_gaps_15 : decode cX0_gaps 15 = .ok (.getfield 53, 3) := dk_180 0 53 (dk_at dksX0_gaps_0 15 rfl rfl)
theorem dX0_gaps_18 : decode cX0_gaps 18 = .ok (.invokespecial 218, 3) := dk_183 0 218 (dk_at dksX0_gaps_0 18 rfl rfl)
theorem dX0_gaps_21 : decode cX0_gaps 21 = .ok (.astore_n 1, 1) := dk_76 (dk_at dksX0_gaps_0 21 rfl rfl)
theorem dX0_gaps_22 : decode cX0_gaps 22 = .ok (.aload_n 0, 1) := dk_42 (dk_at dksX0_gaps_0 22 rfl rfl)
theorem dX0_gaps_23 : decode cX0_gaps 23 = .ok (.iconst 0, 1) := dk_3 (dk_at dksX0_gaps_0 23 rfl rfl)
theorem dX0_gaps_24 : decode cX0_gaps 24 = .ok (.putfield 221, 3) := dk_181 0 221 (dk_at dksX0_gaps_1 0 rfl rfl)
theorem dX0_gaps_27 : decode cX0_gaps 27 = .ok (.iconst 0, 1) := dk_3 (dk_at dksX0_gaps_1 3 rfl rfl)
theorem dX0_gaps_28 : decode cX0_gaps 28 = .ok (.istore_n 2, 1) := dk_61 (dk_at dksX0_gaps_1 4 rfl rfl)
theorem dX0_gaps_29 : decode cX0_gaps 29 = .ok (.iload_n 2, 1) := dk_28 (dk_at dksX0_gaps_1 5 rfl rfl)
theorem dX0_gaps_30 : decode cX0_gaps 30 = .ok (.sipush 144, 3) := dk_17 0 144 (dk_at dksX0_gaps_1 6 rfl rfl)
theorem dX0_gaps_33 : decode cX0_gaps 33 = .ok (.if_icmp .ge 40, 3) := dk_162 0 40 (dk_at dksX0_gaps_1 9 rfl rfl)
theorem dX0_gaps_36 : decode cX0_gaps 36 = .ok (.aload_n 1, 1) := dk_43 (dk_at dksX0_gaps_1 12 rfl rfl)
theorem dX0_gaps_37 : decode cX0_gaps 37 = .ok (.iload_n 2, 1) := dk_28 (dk_at dksX0_gaps_1 13 rfl rfl)
theorem dX0_gaps_38 : decode cX0_gaps 38 = .ok (.invokevirtual 224, 3) := dk_182 0 224 (dk_at dksX0_gaps_1 14 rfl rfl)
theorem dX0_gaps_41 : decode cX0_gaps 41 = .ok (.ifCond .ne 6, 3) := dk_154 0 6 (dk_at dksX0_gaps_1 17 rfl rfl)
theorem dX0_gaps_44 : decode cX0_gaps 44 = .ok (.goto 23, 3) := dk_167 0 23 (dk_at dksX0_gaps_1 20 rfl rfl)
theorem dX0_gaps_47 : decode cX0_gaps 47 = .ok (.aload_n 0, 1) := dk_42 (dk_at dksX0_gaps_1 23 rfl rfl)
theorem dX0_gaps_48 : decode cX0_gaps 48 = .ok (.getfield 72, 3) := dk_180 0 72 (dk_at dksX0_gaps_2 0 rfl rfl)
theorem dX0_gaps_51 : decode cX0_gaps 51 = .ok (.aload_n 0, 1) := dk_42 (dk_at dksX0_gaps_2 3 rfl rfl)
theorem dX0_gaps_52 : decode cX0_gaps 52 = .ok (.getfield 221, 3) := dk_180 0 221 (dk_at dksX0_gaps_2 4 rfl rfl)
theorem dX0_gaps_55 : decode cX0_gaps 55 = .ok (.iload_n 2, 1) := dk_28 (dk_at dksX0_gaps_2 7 rfl rfl)
theorem dX0_gaps_56 : decode cX0_gaps 56 = .ok (.iastore, 1) := dk_79 (dk_at dksX0_gaps_2 8 rfl rfl)
theorem dX0_gaps_57 : decode cX0_gaps 57 = .ok (.aload_n 0, 1) := dk_42 (dk_at dksX0_gaps_2 9 rfl rfl)
theorem dX0_gaps_58 : decode cX0_gaps 58 = .ok (.dup, 1) := dk_89 (dk_at dksX0_gaps_2 10 rfl rfl)
theorem dX0_gaps_59 : decode cX0_gaps 59 = .ok (.getfield 221, 3) := dk_180 0 221 (dk_at dksX0_gaps_2 11 rfl rfl)
theorem dX0_gaps_62 : decode cX0_gaps 62 = .ok (.iconst 1, 1) := dk_4 (dk_at dksX0_gaps_2 14 rfl rfl)
theorem dX0_gaps_63 : decode cX0_gaps 63 = .ok (.iadd, 1) := dk_96 (dk_at dksX0_gaps_2 15 rfl rfl)
theorem dX0_gaps_64 : decode cX0_gaps 64 = .ok (.putfield 221, 3) := dk_181 0 221 (dk_at dksX0_gaps_2 16 rfl rfl)
theorem dX0_gaps_67 : decode cX0_gaps 67 = .ok (.iinc 2 1, 3) := dk_132 2 1 (dk_at dksX0_gaps_2 19 rfl rfl)
theorem dX0_gaps_70 : decode cX0_gaps 70 = .ok (.goto (-41), 3) := dk_167 255 215 (dk_at dksX0_gaps_3 0 rfl rfl)
theorem dX0_gaps_73 : decode cX0_gaps 73 = .ok (.aload_n 1, 1) := dk_43 (dk_at dksX0_gaps_3 3 rfl rfl)
theorem dX0_gaps_74 : decode cX0_gaps 74 = .ok (.getfield 227, 3) := dk_180 0 227 (dk_at dksX0_gaps_3 4 rfl rfl)
theorem dX0_gaps_77 : decode cX0_gaps 77 = .ok (.ireturn, 1) := dk_172 (dk_at dksX0_gaps_3 7 rfl rfl)
abbrev cX0_gap : ByteArray := prog_1_method_27_code
def yX0_gap : MethodName := ⟨RX0, "gap", "(I)I"⟩
def dkwX0_gap_1 : List UInt8 := [167, 0, 4, 2, 172]
abbrev dktX0_gap_1 : List UInt8 := dkwX0_gap_1 ++ []
def dkwX0_gap_0 : List UInt8 := [27, 133, 9, 42, 180, 0, 221, 4, 100, 133, 184, 0, 5, 153, 0, 12, 42, 180, 0, 72, 27, 46]
abbrev dktX0_gap_0 : List UInt8 := dkwX0_gap_0 ++ dktX0_gap_1
theorem dksX0_gap_0 : cX0_gap.data.toList.drop 0 = dktX0_gap_0 := by decide +kernel
theorem dksX0_gap_1 : cX0_gap.data.toList.drop 22 = dktX0_gap_1 := dk_seg dksX0_gap_0 22 rfl rfl
theorem dX0_gap_0 : decode cX0_gap 0 = .ok (.iload_n 1, 1) := dk_27 (dk_at dksX0_gap_0 0 rfl rfl)
theorem dX0_gap_1 : decode cX0_gap 1 = .ok (.i2l, 1) := dk_133 (dk_at dksX0_gap_0 1 rfl rfl)
theorem dX0_gap_2 : decode cX0_gap 2 = .ok (.lconst 0, 1) := dk_9 (dk_at dksX0_gap_0 2 rfl rfl)
theorem dX0_gap_3 : decode cX0_gap 3 = .ok (.aload_n 0, 1) := dk_42 (dk_at dksX0_gap_0 3 rfl rfl)
theorem dX0_gap_4 : decode cX0_gap 4 = .ok (.getfield 221, 3) := dk_180 0 221 (dk_at dksX0_gap_0 4 rfl rfl)
theorem dX0_gap_7 : decode cX0_gap 7 = .ok (.iconst 1, 1) := dk_4 (dk_at dksX0_gap_0 7 rfl rfl)
theorem dX0_gap_8 : decode cX0_gap 8 = .ok (.isub, 1) := dk_100 (dk_at dksX0_gap_0 8 rfl rfl)
theorem dX0_gap_9 : decode cX0_gap 9 = .ok (.i2l, 1) := dk_133 (dk_at dksX0_gap_0 9 rfl rfl)
theorem dX0_gap_10 : decode cX0_gap 10 = .ok (.invokestatic 5, 3) := dk_184 0 5 (dk_at dksX0_gap_0 10 rfl rfl)
theorem dX0_gap_13 : decode cX0_gap 13 = .ok (.ifCond .eq 12, 3) := dk_153 0 12 (dk_at dksX0_gap_0 13 rfl rfl)
theorem dX0_gap_16 : decode cX0_gap 16 = .ok (.aload_n 0, 1) := dk_42 (dk_at dksX0_gap_0 16 rfl rfl)
theorem dX0_gap_17 : decode cX0_gap 17 = .ok (.getfield 72, 3) := dk_180 0 72 (dk_at dksX0_gap_0 17 rfl rfl)
theorem dX0_gap_20 : decode cX0_gap 20 = .ok (.iload_n 1, 1) := dk_27 (dk_at dksX0_gap_0 20 rfl rfl)
theorem dX0_gap_21 : decode cX0_gap 21 = .ok (.iaload, 1) := dk_46 (dk_at dksX0_gap_0 21 rfl rfl)
theorem dX0_gap_22 : decode cX0_gap 22 = .ok (.goto 4, 3) := dk_167 0 4 (dk_at dksX0_gap_1 0 rfl rfl)
theorem dX0_gap_25 : decode cX0_gap 25 = .ok (.iconst (-1), 1) := dk_2 (dk_at dksX0_gap_1 3 rfl rfl)
theorem dX0_gap_26 : decode cX0_gap 26 = .ok (.ireturn, 1) := dk_172 (dk_at dksX0_gap_1 4 rfl rfl)
abbrev cX0_thick : ByteArray := prog_1_method_28_code
def yX0_thick : MethodName := ⟨RX0, "thick", "()I"⟩
def dkwX0_thick_0 : List UInt8 := [42, 182, 0, 209, 153, 0, 13, 42, 180, 0, 53, 182, 0, 230, 167, 0, 5, 16, 250, 172]
abbrev dktX0_thick_0 : List UInt8 := dkwX0_thick_0 ++ []
theorem dksX0_thick_0 : cX0_thick.data.toList.drop 0 = dktX0_thick_0 := by decide +kernel
theorem dX0_thick_0 : decode cX0_thick 0 = .ok (.aload_n 0, 1) := dk_42 (dk_at dksX0_thick_0 0 rfl rfl)
theorem dX0_thick_1 : decode cX0_thick 1 = .ok (.invokevirtual 209, 3) := dk_182 0 209 (dk_at dksX0_thick_0 1 rfl rfl)
theorem dX0_thick_4 : decode cX0_thick 4 = .ok (.ifCond .eq 13, 3) := dk_153 0 13 (dk_at dksX0_thick_0 4 rfl rfl)
theorem dX0_thick_7 : decode cX0_thick 7 = .ok (.aload_n 0, 1) := dk_42 (dk_at dksX0_thick_0 7 rfl rfl)
theorem dX0_thick_8 : decode cX0_thick 8 = .ok (.getfield 53, 3) := dk_180 0 53 (dk_at dksX0_thick_0 8 rfl rfl)
theorem dX0_thick_11 : decode cX0_thick 11 = .ok (.invokevirtual 230, 3) := dk_182 0 230 (dk_at dksX0_thick_0 11 rfl rfl)
theorem dX0_thick_14 : decode cX0_thick 14 = .ok (.goto 5, 3) := dk_167 0 5 (dk_at dksX0_thick_0 14 rfl rfl)
theorem dX0_thick_17 : decode cX0_thick 17 = .ok (.bipush (-6), 2) := dk_16 250 (dk_at dksX0_thick_0 17 rfl rfl)
theorem dX0_thick_19 : decode cX0_thick 19 = .ok (.ireturn, 1) := dk_172 (dk_at dksX0_thick_0 19 rfl rfl)
abbrev cX0_dig : ByteArray := prog_1_method_32_code
def yX0_dig : MethodName := ⟨RX0, "dig", "(II)I"⟩
def dkwX0_dig_7 : List UInt8 := [167, 255, 207, 21, 4, 172]
abbrev dktX0_dig_7 : List UInt8 := dkwX0_dig_7 ++ []
def dkwX0_dig_6 : List UInt8 := [180, 0, 53, 180, 0, 149, 21, 5, 51, 154, 0, 7, 4, 167, 0, 4, 3, 96, 54, 4, 132, 5, 1]
abbrev dktX0_dig_6 : List UInt8 := dkwX0_dig_6 ++ dktX0_dig_7
def dkwX0_dig_5 : List UInt8 := [17, 0, 144, 162, 0, 47, 21, 4, 42, 180, 0, 53, 180, 0, 136, 21, 5, 182, 0, 160, 153, 0, 20, 42]
abbrev dktX0_dig_5 : List UInt8 := dkwX0_dig_5 ++ dktX0_dig_6
def dkwX0_dig_4 : List UInt8 := [46, 100, 96, 181, 0, 175, 42, 180, 0, 53, 180, 0, 149, 29, 4, 84, 3, 54, 4, 3, 54, 5, 21, 5]
abbrev dktX0_dig_4 : List UInt8 := dkwX0_dig_4 ++ dktX0_dig_5
def dkwX0_dig_3 : List UInt8 := [180, 0, 53, 89, 180, 0, 175, 42, 180, 0, 53, 180, 0, 143, 29, 46, 42, 180, 0, 53, 180, 0, 146, 29]
abbrev dktX0_dig_3 : List UInt8 := dkwX0_dig_3 ++ dktX0_dig_4
def dkwX0_dig_2 : List UInt8 := [182, 1, 1, 154, 0, 6, 16, 251, 172, 42, 180, 0, 53, 180, 1, 4, 153, 0, 6, 16, 249, 172, 42]
abbrev dktX0_dig_2 : List UInt8 := dkwX0_dig_2 ++ dktX0_dig_3
def dkwX0_dig_1 : List UInt8 := [182, 0, 160, 153, 0, 15, 42, 180, 0, 53, 180, 0, 149, 29, 51, 153, 0, 6, 16, 254, 172, 42]
abbrev dktX0_dig_1 : List UInt8 := dkwX0_dig_1 ++ dktX0_dig_2
def dkwX0_dig_0 : List UInt8 := [16, 12, 28, 104, 27, 96, 62, 27, 28, 184, 0, 132, 153, 0, 29, 42, 180, 0, 53, 180, 0, 136, 29]
abbrev dktX0_dig_0 : List UInt8 := dkwX0_dig_0 ++ dktX0_dig_1
theorem dksX0_dig_0 : cX0_dig.data.toList.drop 0 = dktX0_dig_0 := by decide +kernel
theorem dksX0_dig_1 : cX0_dig.data.toList.drop 23 = dktX0_dig_1 := dk_seg dksX0_dig_0 23 rfl rfl
theorem dksX0_dig_2 : cX0_dig.data.toList.drop 45 = dktX0_dig_2 := dk_seg dksX0_dig_1 22 rfl rfl
theorem dksX0_dig_3 : cX0_dig.data.toList.drop 68 = dktX0_dig_3 := dk_seg dksX0_dig_2 23 rfl rfl
theorem dksX0_dig_4 : cX0_dig.data.toList.drop 92 = dktX0_dig_4 := dk_seg dksX0_dig_3 24 rfl rfl
theorem dksX0_dig_5 : cX0_dig.data.toList.drop 116 = dktX0_dig_5 := dk_seg dksX0_dig_4 24 rfl rfl
theorem dksX0_dig_6 : cX0_dig.data.toList.drop 140 = dktX0_dig_6 := dk_seg dksX0_dig_5 24 rfl rfl
theorem dksX0_dig_7 : cX0_dig.data.toList.drop 163 = dktX0_dig_7 := dk_seg dksX0_dig_6 23 rfl rfl
theorem dX0_dig_0 : decode cX0_dig 0 = .ok (.bipush 12, 2) := dk_16 12 (dk_at dksX0_dig_0 0 rfl rfl)
theorem dX0_dig_2 : decode cX0_dig 2 = .ok (.iload_n 2, 1) := dk_28 (dk_at dksX0_dig_0 2 rfl rfl)
theorem dX0_dig_3 : decode cX0_dig 3 = .ok (.imul, 1) := dk_104 (dk_at dksX0_dig_0 3 rfl rfl)
theorem dX0_dig_4 : decode cX0_dig 4 = .ok (.iload_n 1, 1) := dk_27 (dk_at dksX0_dig_0 4 rfl rfl)
theorem dX0_dig_5 : decode cX0_dig 5 = .ok (.iadd, 1) := dk_96 (dk_at dksX0_dig_0 5 rfl rfl)
theorem dX0_dig_6 : decode cX0_dig 6 = .ok (.istore_n 3, 1) := dk_62 (dk_at dksX0_dig_0 6 rfl rfl)
theorem dX0_dig_7 : decode cX0_dig 7 = .ok (.iload_n 1, 1) := dk_27 (dk_at dksX0_dig_0 7 rfl rfl)
theorem dX0_dig_8 : decode cX0_dig 8 = .ok (.iload_n 2, 1) := dk_28 (dk_at dksX0_dig_0 8 rfl rfl)
theorem dX0_dig_9 : decode cX0_dig 9 = .ok (.invokestatic 132, 3) := dk_184 0 132 (dk_at dksX0_dig_0 9 rfl rfl)
theorem dX0_dig_12 : decode cX0_dig 12 = .ok (.ifCond .eq 29, 3) := dk_153 0 29 (dk_at dksX0_dig_0 12 rfl rfl)
theorem dX0_dig_15 : decode cX0_dig 15 = .ok (.aload_n 0, 1) := dk_42 (dk_at dksX0_dig_0 15 rfl rfl)
theorem dX0_dig_16 : decode cX0_dig 16 = .ok (.getfield 53, 3) := dk_180 0 53 (dk_at dksX0_dig_0 16 rfl rfl)
theorem dX0_dig_19 : decode cX0_dig 19 = .ok (.getfield 136, 3) := dk_180 0 136 (dk_at dksX0_dig_0 19 rfl rfl)
theorem dX0_dig_22 : decode cX0_dig 22 = .ok (.iload_n 3, 1) := dk_29 (dk_at dksX0_dig_0 22 rfl rfl)
theorem dX0_dig_23 : decode cX0_dig 23 = .ok (.invokevirtual 160, 3) := dk_182 0 160 (dk_at dksX0_dig_1 0 rfl rfl)
theorem dX0_dig_26 : decode cX0_dig 26 = .ok (.ifCond .eq 15, 3) := dk_153 0 15 (dk_at dksX0_dig_1 3 rfl rfl)
theorem dX0_dig_29 : decode cX0_dig 29 = .ok (.aload_n 0, 1) := dk_42 (dk_at dksX0_dig_1 6 rfl rfl)
theorem dX0_dig_30 : decode cX0_dig 30 = .ok (.getfield 53, 3) := dk_180 0 53 (dk_at dksX0_dig_1 7 rfl rfl)
theorem dX0_dig_33 : decode cX0_dig 33 = .ok (.getfield 149, 3) := dk_180 0 149 (dk_at dksX0_dig_1 10 rfl rfl)
theorem dX0_dig_36 : decode cX0_dig 36 = .ok (.iload_n 3, 1) := dk_29 (dk_at dksX0_dig_1 13 rfl rfl)
theorem dX0_dig_37 : decode cX0_dig 37 = .ok (.baload, 1) := dk_51 (dk_at dksX0_dig_1 14 rfl rfl)
theorem dX0_dig_38 : decode cX0_dig 38 = .ok (.ifCond .eq 6, 3) := dk_153 0 6 (dk_at dksX0_dig_1 15 rfl rfl)
theorem dX0_dig_41 : decode cX0_dig 41 = .ok (.bipush (-2), 2) := dk_16 254 (dk_at dksX0_dig_1 18 rfl rfl)
theorem dX0_dig_43 : decode cX0_dig 43 = .ok (.ireturn, 1) := dk_172 (dk_at dksX0_dig_1 20 rfl rfl)
theorem dX0_dig_44 : decode cX0_dig 44 = .ok (.aload_n 0, 1) := dk_42 (dk_at dksX0_dig_1 21 rfl rfl)
theorem dX0_dig_45 : decode cX0_dig 45 = .ok (.invokevirtual 257, 3) := dk_182 1 1 (dk_at dksX0_dig_2 0 rfl rfl)
theorem dX0_dig_48 : decode cX0_dig 48 = .ok (.ifCond .ne 6, 3) := dk_154 0 6 (dk_at dksX0_dig_2 3 rfl rfl)
theorem dX0_dig_51 : decode cX0_dig 51 = .ok (.bipush (-5), 2) := dk_16 251 (dk_at dksX0_dig_2 6 rfl rfl)
theorem dX0_dig_53 : decode cX0_dig 53 = .ok (.ireturn, 1) := dk_172 (dk_at dksX0_dig_2 8 rfl rfl)
theorem dX0_dig_54 : decode cX0_dig 54 = .ok (.aload_n 0, 1) := dk_42 (dk_at dksX0_dig_2 9 rfl rfl)
theorem dX0_dig_55 : decode cX0_dig 55 = .ok (.getfield 53, 3) := dk_180 0 53 (dk_at dksX0_dig_2 10 rfl rfl)
theorem dX0_dig_58 : decode cX0_dig 58 = .ok (.getfield 260, 3) := dk_180 1 4 (dk_at dksX0_dig_2 13 rfl rfl)
theorem dX0_dig_61 : decode cX0_dig 61 = .ok (.ifCond .eq 6, 3) := dk_153 0 6 (dk_at dksX0_dig_2 16 rfl rfl)
theorem dX0_dig_64 : decode cX0_dig 64 = .ok (.bipush (-7), 2) := dk_16 249 (dk_at dksX0_dig_2 19 rfl rfl)
theorem dX0_dig_66 : decode cX0_dig 66 = .ok (.ireturn, 1) := dk_172 (dk_at dksX0_dig_2 21 rfl rfl)
theorem dX0_dig_67 : decode cX0_dig 67 = .ok (.aload_n 0, 1) := dk_42 (dk_at dksX0_dig_2 22 rfl rfl)
theorem dX0_dig_68 : decode cX0_dig 68 = .ok (.getfield 53, 3) := dk_180 0 53 (dk_at dksX0_dig_3 0 rfl rfl)
theorem dX0_dig_71 : decode cX0_dig 71 = .ok (.dup, 1) := dk_89 (dk_at dksX0_dig_3 3 rfl rfl)
theorem dX0_dig_72 : decode cX0_dig 72 = .ok (.getfield 175, 3) := dk_180 0 175 (dk_at dksX0_dig_3 4 rfl rfl)
theorem dX0_dig_75 : decode cX0_dig 75 = .ok (.aload_n 0, 1) := dk_42 (dk_at dksX0_dig_3 7 rfl rfl)
theorem dX0_dig_76 : decode cX0_dig 76 = .ok (.getfield 53, 3) := dk_180 0 53 (dk_at dksX0_dig_3 8 rfl rfl)
theorem dX0_dig_79 : decode cX0_dig 79 = .ok (.getfield 143, 3) := dk_180 0 143 (dk_at dksX0_dig_3 11 rfl rfl)
theorem dX0_dig_82 : decode cX0_dig 82 = .ok (.iload_n 3, 1) := dk_29 (dk_at dksX0_dig_3 14 rfl rfl)
theorem dX0_dig_83 : decode cX0_dig 83 = .ok (.iaload, 1) := dk_46 (dk_at dksX0_dig_3 15 rfl rfl)
theorem dX0_dig_84 : decode cX0_dig 84 = .ok (.aload_n 0, 1) := dk_42 (dk_at dksX0_dig_3 16 rfl rfl)
theorem dX0_dig_85 : decode cX0_dig 85 = .ok (.getfield 53, 3) := dk_180 0 53 (dk_at dksX0_dig_3 17 rfl rfl)
theorem dX0_dig_88 : decode cX0_dig 88 = .ok (.getfield 146, 3) := dk_180 0 146 (dk_at dksX0_dig_3 20 rfl rfl)
theorem dX0_dig_91 : decode cX0_dig 91 = .ok (.iload_n 3, 1) := dk_29 (dk_at dksX0_dig_3 23 rfl rfl)
theorem dX0_dig_92 : decode cX0_dig 92 = .ok (.iaload, 1) := dk_46 (dk_at dksX0_dig_4 0 rfl rfl)
theorem dX0_dig_93 : decode cX0_dig 93 = .ok (.isub, 1) := dk_100 (dk_at dksX0_dig_4 1 rfl rfl)
theorem dX0_dig_94 : decode cX0_dig 94 = .ok (.iadd, 1) := dk_96 (dk_at dksX0_dig_4 2 rfl rfl)
theorem dX0_dig_95 : decode cX0_dig 95 = .ok (.putfield 175, 3) := dk_181 0 175 (dk_at dksX0_dig_4 3 rfl rfl)
theorem dX0_dig_98 : decode cX0_dig 98 = .ok (.aload_n 0, 1) := dk_42 (dk_at dksX0_dig_4 6 rfl rfl)
theorem dX0_dig_99 : decode cX0_dig 99 = .ok (.getfield 53, 3) := dk_180 0 53 (dk_at dksX0_dig_4 7 rfl rfl)
theorem dX0_dig_102 : decode cX0_dig 102 = .ok (.getfield 149, 3) := dk_180 0 149 (dk_at dksX0_dig_4 10 rfl rfl)
theorem dX0_dig_105 : decode cX0_dig 105 = .ok (.iload_n 3, 1) := dk_29 (dk_at dksX0_dig_4 13 rfl rfl)
theorem dX0_dig_106 : decode cX0_dig 106 = .ok (.iconst 1, 1) := dk_4 (dk_at dksX0_dig_4 14 rfl rfl)
theorem dX0_dig_107 : decode cX0_dig 107 = .ok (.bastore, 1) := dk_84 (dk_at dksX0_dig_4 15 rfl rfl)
theorem dX0_dig_108 : decode cX0_dig 108 = .ok (.iconst 0, 1) := dk_3 (dk_at dksX0_dig_4 16 rfl rfl)
theorem dX0_dig_109 : decode cX0_dig 109 = .ok (.istore 4, 2) := dk_54 4 (dk_at dksX0_dig_4 17 rfl rfl)
theorem dX0_dig_111 : decode cX0_dig 111 = .ok (.iconst 0, 1) := dk_3 (dk_at dksX0_dig_4 19 rfl rfl)
theorem dX0_dig_112 : decode cX0_dig 112 = .ok (.istore 5, 2) := dk_54 5 (dk_at dksX0_dig_4 20 rfl rfl)
theorem dX0_dig_114 : decode cX0_dig 114 = .ok (.iload 5, 2) := dk_21 5 (dk_at dksX0_dig_4 22 rfl rfl)
theorem dX0_dig_116 : decode cX0_dig 116 = .ok (.sipush 144, 3) := dk_17 0 144 (dk_at dksX0_dig_5 0 rfl rfl)
theorem dX0_dig_119 : decode cX0_dig 119 = .ok (.if_icmp .ge 47, 3) := dk_162 0 47 (dk_at dksX0_dig_5 3 rfl rfl)
theorem dX0_dig_122 : decode cX0_dig 122 = .ok (.iload 4, 2) := dk_21 4 (dk_at dksX0_dig_5 6 rfl rfl)
theorem dX0_dig_124 : decode cX0_dig 124 = .ok (.aload_n 0, 1) := dk_42 (dk_at dksX0_dig_5 8 rfl rfl)
theorem dX0_dig_125 : decode cX0_dig 125 = .ok (.getfield 53, 3) := dk_180 0 53 (dk_at dksX0_dig_5 9 rfl rfl)
theorem dX0_dig_128 : decode cX0_dig 128 = .ok (.getfield 136, 3) := dk_180 0 136 (dk_at dksX0_dig_5 12 rfl rfl)
theorem dX0_dig_131 : decode cX0_dig 131 = .ok (.iload 5, 2) := dk_21 5 (dk_at dksX0_dig_5 15 rfl rfl)
theorem dX0_dig_133 : decode cX0_dig 133 = .ok (.invokevirtual 160, 3) := dk_182 0 160 (dk_at dksX0_dig_5 17 rfl rfl)
theorem dX0_dig_136 : decode cX0_dig 136 = .ok (.ifCond .eq 20, 3) := dk_153 0 20 (dk_at dksX0_dig_5 20 rfl rfl)
theorem dX0_dig_139 : decode cX0_dig 139 = .ok (.aload_n 0, 1) := dk_42 (dk_at dksX0_dig_5 23 rfl rfl)
theorem dX0_dig_140 : decode cX0_dig 140 = .ok (.getfield 53, 3) := dk_180 0 53 (dk_at dksX0_dig_6 0 rfl rfl)
theorem dX0_dig_143 : decode cX0_dig 143 = .ok (.getfield 149, 3) := dk_180 0 149 (dk_at dksX0_dig_6 3 rfl rfl)
theorem dX0_dig_146 : decode cX0_dig 146 = .ok (.iload 5, 2) := dk_21 5 (dk_at dksX0_dig_6 6 rfl rfl)
theorem dX0_dig_148 : decode cX0_dig 148 = .ok (.baload, 1) := dk_51 (dk_at dksX0_dig_6 8 rfl rfl)
theorem dX0_dig_149 : decode cX0_dig 149 = .ok (.ifCond .ne 7, 3) := dk_154 0 7 (dk_at dksX0_dig_6 9 rfl rfl)
theorem dX0_dig_152 : decode cX0_dig 152 = .ok (.iconst 1, 1) := dk_4 (dk_at dksX0_dig_6 12 rfl rfl)
theorem dX0_dig_153 : decode cX0_dig 153 = .ok (.goto 4, 3) := dk_167 0 4 (dk_at dksX0_dig_6 13 rfl rfl)
theorem dX0_dig_156 : decode cX0_dig 156 = .ok (.iconst 0, 1) := dk_3 (dk_at dksX0_dig_6 16 rfl rfl)
theorem dX0_dig_157 : decode cX0_dig 157 = .ok (.iadd, 1) := dk_96 (dk_at dksX0_dig_6 17 rfl rfl)
theorem dX0_dig_158 : decode cX0_dig 158 = .ok (.istore 4, 2) := dk_54 4 (dk_at dksX0_dig_6 18 rfl rfl)
theorem dX0_dig_160 : decode cX0_dig 160 = .ok (.iinc 5 1, 3) := dk_132 5 1 (dk_at dksX0_dig_6 20 rfl rfl)
theorem dX0_dig_163 : decode cX0_dig 163 = .ok (.goto (-49), 3) := dk_167 255 207 (dk_at dksX0_dig_7 0 rfl rfl)
theorem dX0_dig_166 : decode cX0_dig 166 = .ok (.iload 4, 2) := dk_21 4 (dk_at dksX0_dig_7 3 rfl rfl)
theorem dX0_dig_168 : decode cX0_dig 168 = .ok (.ireturn, 1) := dk_172 (dk_at dksX0_dig_7 5 rfl rfl)
abbrev cX0_mayDig : ByteArray := prog_1_method_31_code
def yX0_mayDig : MethodName := ⟨RX0, "mayDig", "()Z"⟩
def dkwX0_mayDig_3 : List UInt8 := [167, 0, 4, 3, 60, 132, 2, 1, 167, 255, 198, 27, 172]
abbrev dktX0_mayDig_3 : List UInt8 := dkwX0_mayDig_3 ++ []
def dkwX0_mayDig_2 : List UInt8 := [180, 0, 136, 180, 0, 245, 28, 185, 0, 123, 2, 0, 192, 0, 251, 42, 182, 0, 253, 154, 0, 7, 4]
abbrev dktX0_mayDig_2 : List UInt8 := dkwX0_mayDig_2 ++ dktX0_mayDig_3
def dkwX0_mayDig_1 : List UInt8 := [180, 0, 136, 180, 0, 245, 185, 0, 117, 1, 0, 162, 0, 45, 27, 154, 0, 29, 42, 180, 0, 53]
abbrev dktX0_mayDig_1 : List UInt8 := dkwX0_mayDig_1 ++ dktX0_mayDig_2
def dkwX0_mayDig_0 : List UInt8 := [42, 180, 0, 53, 180, 0, 136, 180, 0, 245, 185, 0, 248, 1, 0, 60, 3, 61, 28, 42, 180, 0, 53]
abbrev dktX0_mayDig_0 : List UInt8 := dkwX0_mayDig_0 ++ dktX0_mayDig_1
theorem dksX0_mayDig_0 : cX0_mayDig.data.toList.drop 0 = dktX0_mayDig_0 := by decide +kernel
theorem dksX0_mayDig_1 : cX0_mayDig.data.toList.drop 23 = dktX0_mayDig_1 := dk_seg dksX0_mayDig_0 23 rfl rfl
theorem dksX0_mayDig_2 : cX0_mayDig.data.toList.drop 45 = dktX0_mayDig_2 := dk_seg dksX0_mayDig_1 22 rfl rfl
theorem dksX0_mayDig_3 : cX0_mayDig.data.toList.drop 68 = dktX0_mayDig_3 := dk_seg dksX0_mayDig_2 23 rfl rfl
theorem dX0_mayDig_0 : decode cX0_mayDig 0 = .ok (.aload_n 0, 1) := dk_42 (dk_at dksX0_mayDig_0 0 rfl rfl)
theorem dX0_mayDig_1 : decode cX0_mayDig 1 = .ok (.getfield 53, 3) := dk_180 0 53 (dk_at dksX0_mayDig_0 1 rfl rfl)
theorem dX0_mayDig_4 : decode cX0_mayDig 4 = .ok (.getfield 136, 3) := dk_180 0 136 (dk_at dksX0_mayDig_0 4 rfl rfl)
theorem dX0_mayDig_7 : decode cX0_mayDig 7 = .ok (.getfield 245, 3) := dk_180 0 245 (dk_at dksX0_mayDig_0 7 rfl rfl)
theorem dX0_mayDig_10 : decode cX0_mayDig 10 = .ok (.invokeinterface 248 1, 5) := by decide +kernel
theorem dX0_mayDig_15 : decode cX0_mayDig 15 = .ok (.istore_n 1, 1) := dk_60 (dk_at dksX0_mayDig_0 15 rfl rfl)
theorem dX0_mayDig_16 : decode cX0_mayDig 16 = .ok (.iconst 0, 1) := dk_3 (dk_at dksX0_mayDig_0 16 rfl rfl)
theorem dX0_mayDig_17 : decode cX0_mayDig 17 = .ok (.istore_n 2, 1) := dk_61 (dk_at dksX0_mayDig_0 17 rfl rfl)
theorem dX0_mayDig_18 : decode cX0_mayDig 18 = .ok (.iload_n 2, 1) := dk_28 (dk_at dksX0_mayDig_0 18 rfl rfl)
theorem dX0_mayDig_19 : decode cX0_mayDig 19 = .ok (.aload_n 0, 1) := dk_42 (dk_at dksX0_mayDig_0 19 rfl rfl)
theorem dX0_mayDig_20 : decode cX0_mayDig 20 = .ok (.getfield 53, 3) := dk_180 0 53 (dk_at dksX0_mayDig_0 20 rfl rfl)
theorem dX0_mayDig_23 : decode cX0_mayDig 23 = .ok (.getfield 136, 3) := dk_180 0 136 (dk_at dksX0_mayDig_1 0 rfl rfl)
theorem dX0_mayDig_26 : decode cX0_mayDig 26 = .ok (.getfield 245, 3) := dk_180 0 245 (dk_at dksX0_mayDig_1 3 rfl rfl)
theorem dX0_mayDig_29 : decode cX0_mayDig 29 = .ok (.invokeinterface 117 1, 5) := by decide +kernel
theorem dX0_mayDig_34 : decode cX0_mayDig 34 = .ok (.if_icmp .ge 45, 3) := dk_162 0 45 (dk_at dksX0_mayDig_1 11 rfl rfl)
theorem dX0_mayDig_37 : decode cX0_mayDig 37 = .ok (.iload_n 1, 1) := dk_27 (dk_at dksX0_mayDig_1 14 rfl rfl)
theorem dX0_mayDig_38 : decode cX0_mayDig 38 = .ok (.ifCond .ne 29, 3) := dk_154 0 29 (dk_at dksX0_mayDig_1 15 rfl rfl)
theorem dX0_mayDig_41 : decode cX0_mayDig 41 = .ok (.aload_n 0, 1) := dk_42 (dk_at dksX0_mayDig_1 18 rfl rfl)
theorem dX0_mayDig_42 : decode cX0_mayDig 42 = .ok (.getfield 53, 3) := dk_180 0 53 (dk_at dksX0_mayDig_1 19 rfl rfl)
theorem dX0_mayDig_45 : decode cX0_mayDig 45 = .ok (.getfield 136, 3) := dk_180 0 136 (dk_at dksX0_mayDig_2 0 rfl rfl)
theorem dX0_mayDig_48 : decode cX0_mayDig 48 = .ok (.getfield 245, 3) := dk_180 0 245 (dk_at dksX0_mayDig_2 3 rfl rfl)
theorem dX0_mayDig_51 : decode cX0_mayDig 51 = .ok (.iload_n 2, 1) := dk_28 (dk_at dksX0_mayDig_2 6 rfl rfl)
theorem dX0_mayDig_52 : decode cX0_mayDig 52 = .ok (.invokeinterface 123 2, 5) := by decide +kernel
theorem dX0_mayDig_57 : decode cX0_mayDig 57 = .ok (.checkcast 251, 3) := dk_192 0 251 (dk_at dksX0_mayDig_2 12 rfl rfl)
theorem dX0_mayDig_60 : decode cX0_mayDig 60 = .ok (.aload_n 0, 1) := dk_42 (dk_at dksX0_mayDig_2 15 rfl rfl)
theorem dX0_mayDig_61 : decode cX0_mayDig 61 = .ok (.invokevirtual 253, 3) := dk_182 0 253 (dk_at dksX0_mayDig_2 16 rfl rfl)
theorem dX0_mayDig_64 : decode cX0_mayDig 64 = .ok (.ifCond .ne 7, 3) := dk_154 0 7 (dk_at dksX0_mayDig_2 19 rfl rfl)
theorem dX0_mayDig_67 : decode cX0_mayDig 67 = .ok (.iconst 1, 1) := dk_4 (dk_at dksX0_mayDig_2 22 rfl rfl)
theorem dX0_mayDig_68 : decode cX0_mayDig 68 = .ok (.goto 4, 3) := dk_167 0 4 (dk_at dksX0_mayDig_3 0 rfl rfl)
theorem dX0_mayDig_71 : decode cX0_mayDig 71 = .ok (.iconst 0, 1) := dk_3 (dk_at dksX0_mayDig_3 3 rfl rfl)
theorem dX0_mayDig_72 : decode cX0_mayDig 72 = .ok (.istore_n 1, 1) := dk_60 (dk_at dksX0_mayDig_3 4 rfl rfl)
theorem dX0_mayDig_73 : decode cX0_mayDig 73 = .ok (.iinc 2 1, 3) := dk_132 2 1 (dk_at dksX0_mayDig_3 5 rfl rfl)
theorem dX0_mayDig_76 : decode cX0_mayDig 76 = .ok (.goto (-58), 3) := dk_167 255 198 (dk_at dksX0_mayDig_3 8 rfl rfl)
theorem dX0_mayDig_79 : decode cX0_mayDig 79 = .ok (.iload_n 1, 1) := dk_27 (dk_at dksX0_mayDig_3 11 rfl rfl)
theorem dX0_mayDig_80 : decode cX0_mayDig 80 = .ok (.ireturn, 1) := dk_172 (dk_at dksX0_mayDig_3 12 rfl rfl)
abbrev cX0_measured : ByteArray := prog_1_method_30_code
def yX0_measured : MethodName := ⟨RX0, "measured", "(I)I"⟩
def dkwX0_measured_4 : List UInt8 := [180, 0, 53, 180, 0, 107, 172, 42, 182, 0, 242, 172]
abbrev dktX0_measured_4 : List UInt8 := dkwX0_measured_4 ++ []
def dkwX0_measured_3 : List UInt8 := [153, 0, 20, 187, 0, 216, 89, 42, 180, 0, 53, 183, 0, 218, 180, 0, 227, 167, 0, 4, 3, 172, 42]
abbrev dktX0_measured_3 : List UInt8 := dkwX0_measured_3 ++ dktX0_measured_4
def dkwX0_measured_2 : List UInt8 := [42, 182, 0, 209, 153, 0, 13, 42, 180, 0, 53, 182, 0, 230, 167, 0, 4, 3, 172, 42, 182, 0, 209]
abbrev dktX0_measured_2 : List UInt8 := dkwX0_measured_2 ++ dktX0_measured_3
def dkwX0_measured_1 : List UInt8 := [170, 0, 0, 0, 0, 0, 80, 0, 0, 0, 0, 0, 0, 0, 2, 0, 0, 0, 27, 0, 0, 0, 46, 0, 0, 0, 72]
abbrev dktX0_measured_1 : List UInt8 := dkwX0_measured_1 ++ dktX0_measured_2
def dkwX0_measured_0 : List UInt8 := [27]
abbrev dktX0_measured_0 : List UInt8 := dkwX0_measured_0 ++ dktX0_measured_1
theorem dksX0_measured_0 : cX0_measured.data.toList.drop 0 = dktX0_measured_0 := by decide +kernel
theorem dksX0_measured_1 : cX0_measured.data.toList.drop 1 = dktX0_measured_1 := dk_seg dksX0_measured_0 1 rfl rfl
theorem dksX0_measured_2 : cX0_measured.data.toList.drop 28 = dktX0_measured_2 := dk_seg dksX0_measured_1 27 rfl rfl
theorem dksX0_measured_3 : cX0_measured.data.toList.drop 51 = dktX0_measured_3 := dk_seg dksX0_measured_2 23 rfl rfl
theorem dksX0_measured_4 : cX0_measured.data.toList.drop 74 = dktX0_measured_4 := dk_seg dksX0_measured_3 23 rfl rfl
theorem dX0_measured_0 : decode cX0_measured 0 = .ok (.iload_n 1, 1) := dk_27 (dk_at dksX0_measured_0 0 rfl rfl)
theorem dX0_measured_1 : decode cX0_measured 1 = .ok (.tableswitch 80 0 2 #[27, 46, 72], 27) := by decide +kernel
theorem dX0_measured_28 : decode cX0_measured 28 = .ok (.aload_n 0, 1) := dk_42 (dk_at dksX0_measured_2 0 rfl rfl)
theorem dX0_measured_29 : decode cX0_measured 29 = .ok (.invokevirtual 209, 3) := dk_182 0 209 (dk_at dksX0_measured_2 1 rfl rfl)
theorem dX0_measured_32 : decode cX0_measured 32 = .ok (.ifCond .eq 13, 3) := dk_153 0 13 (dk_at dksX0_measured_2 4 rfl rfl)
theorem dX0_measured_35 : decode cX0_measured 35 = .ok (.aload_n 0, 1) := dk_42 (dk_at dksX0_measured_2 7 rfl rfl)
theorem dX0_measured_36 : decode cX0_measured 36 = .ok (.getfield 53, 3) := dk_180 0 53 (dk_at dksX0_measured_2 8 rfl rfl)
theorem dX0_measured_39 : decode cX0_measured 39 = .ok (.invokevirtual 230, 3) := dk_182 0 230 (dk_at dksX0_measured_2 11 rfl rfl)
theorem dX0_measured_42 : decode cX0_measured 42 = .ok (.goto 4, 3) := dk_167 0 4 (dk_at dksX0_measured_2 14 rfl rfl)
theorem dX0_measured_45 : decode cX0_measured 45 = .ok (.iconst 0, 1) := dk_3 (dk_at dksX0_measured_2 17 rfl rfl)
theorem dX0_measured_46 : decode cX0_measured 46 = .ok (.ireturn, 1) := dk_172 (dk_at dksX0_measured_2 18 rfl rfl)
theorem dX0_measured_47 : decode cX0_measured 47 = .ok (.aload_n 0, 1) := dk_42 (dk_at dksX0_measured_2 19 rfl rfl)
theorem dX0_measured_48 : decode cX0_measured 48 = .ok (.invokevirtual 209, 3) := dk_182 0 209 (dk_at dksX0_measured_2 20 rfl rfl)
theorem dX0_measured_51 : decode cX0_measured 51 = .ok (.ifCond .eq 20, 3) := dk_153 0 20 (dk_at dksX0_measured_3 0 rfl rfl)
theorem dX0_measured_54 : decode cX0_measured 54 = .ok (.new 216, 3) := dk_187 0 216 (dk_at dksX0_measured_3 3 rfl rfl)
theorem dX0_measured_57 : decode cX0_measured 57 = .ok (.dup, 1) := dk_89 (dk_at dksX0_measured_3 6 rfl rfl)
theorem dX0_measured_58 : decode cX0_measured 58 = .ok (.aload_n 0, 1) := dk_42 (dk_at dksX0_measured_3 7 rfl rfl)
theorem dX0_measured_59 : decode cX0_measured 59 = .ok (.getfield 53, 3) := dk_180 0 53 (dk_at dksX0_measured_3 8 rfl rfl)
theorem dX0_measured_62 : decode cX0_measured 62 = .ok (.invokespecial 218, 3) := dk_183 0 218 (dk_at dksX0_measured_3 11 rfl rfl)
theorem dX0_measured_65 : decode cX0_measured 65 = .ok (.getfield 227, 3) := dk_180 0 227 (dk_at dksX0_measured_3 14 rfl rfl)
theorem dX0_measured_68 : decode cX0_measured 68 = .ok (.goto 4, 3) := dk_167 0 4 (dk_at dksX0_measured_3 17 rfl rfl)
theorem dX0_measured_71 : decode cX0_measured 71 = .ok (.iconst 0, 1) := dk_3 (dk_at dksX0_measured_3 20 rfl rfl)
theorem dX0_measured_72 : decode cX0_measured 72 = .ok (.ireturn, 1) := dk_172 (dk_at dksX0_measured_3 21 rfl rfl)
theorem dX0_measured_73 : decode cX0_measured 73 = .ok (.aload_n 0, 1) := dk_42 (dk_at dksX0_measured_3 22 rfl rfl)
theorem dX0_measured_74 : decode cX0_measured 74 = .ok (.getfield 53, 3) := dk_180 0 53 (dk_at dksX0_measured_4 0 rfl rfl)
theorem dX0_measured_77 : decode cX0_measured 77 = .ok (.getfield 107, 3) := dk_180 0 107 (dk_at dksX0_measured_4 3 rfl rfl)
theorem dX0_measured_80 : decode cX0_measured 80 = .ok (.ireturn, 1) := dk_172 (dk_at dksX0_measured_4 6 rfl rfl)
theorem dX0_measured_81 : decode cX0_measured 81 = .ok (.aload_n 0, 1) := dk_42 (dk_at dksX0_measured_4 7 rfl rfl)
theorem dX0_measured_82 : decode cX0_measured 82 = .ok (.invokevirtual 242, 3) := dk_182 0 242 (dk_at dksX0_measured_4 8 rfl rfl)
theorem dX0_measured_85 : decode cX0_measured 85 = .ok (.ireturn, 1) := dk_172 (dk_at dksX0_measured_4 11 rfl rfl)
abbrev cX0_greatestLift : ByteArray := prog_1_method_29_code
def yX0_greatestLift : MethodName := ⟨RX0, "greatestLift", "()I"⟩
def dkwX0_greatestLift_1 : List UInt8 := [132, 2, 1, 167, 255, 234, 27, 172]
abbrev dktX0_greatestLift_1 : List UInt8 := dkwX0_greatestLift_1 ++ []
def dkwX0_greatestLift_0 : List UInt8 := [3, 60, 3, 61, 28, 16, 12, 162, 0, 22, 27, 42, 180, 0, 53, 28, 182, 0, 233, 184, 0, 236, 60]
abbrev dktX0_greatestLift_0 : List UInt8 := dkwX0_greatestLift_0 ++ dktX0_greatestLift_1
theorem dksX0_greatestLift_0 : cX0_greatestLift.data.toList.drop 0 = dktX0_greatestLift_0 := by decide +kernel
theorem dksX0_greatestLift_1 : cX0_greatestLift.data.toList.drop 23 = dktX0_greatestLift_1 := dk_seg dksX0_greatestLift_0 23 rfl rfl
theorem dX0_greatestLift_0 : decode cX0_greatestLift 0 = .ok (.iconst 0, 1) := dk_3 (dk_at dksX0_greatestLift_0 0 rfl rfl)
theorem dX0_greatestLift_1 : decode cX0_greatestLift 1 = .ok (.istore_n 1, 1) := dk_60 (dk_at dksX0_greatestLift_0 1 rfl rfl)
theorem dX0_greatestLift_2 : decode cX0_greatestLift 2 = .ok (.iconst 0, 1) := dk_3 (dk_at dksX0_greatestLift_0 2 rfl rfl)
theorem dX0_greatestLift_3 : decode cX0_greatestLift 3 = .ok (.istore_n 2, 1) := dk_61 (dk_at dksX0_greatestLift_0 3 rfl rfl)
theorem dX0_greatestLift_4 : decode cX0_greatestLift 4 = .ok (.iload_n 2, 1) := dk_28 (dk_at dksX0_greatestLift_0 4 rfl rfl)
theorem dX0_greatestLift_5 : decode cX0_greatestLift 5 = .ok (.bipush 12, 2) := dk_16 12 (dk_at dksX0_greatestLift_0 5 rfl rfl)
theorem dX0_greatestLift_7 : decode cX0_greatestLift 7 = .ok (.if_icmp .ge 22, 3) := dk_162 0 22 (dk_at dksX0_greatestLift_0 7 rfl rfl)
theorem dX0_greatestLift_10 : decode cX0_greatestLift 10 = .ok (.iload_n 1, 1) := dk_27 (dk_at dksX0_greatestLift_0 10 rfl rfl)
theorem dX0_greatestLift_11 : decode cX0_greatestLift 11 = .ok (.aload_n 0, 1) := dk_42 (dk_at dksX0_greatestLift_0 11 rfl rfl)
theorem dX0_greatestLift_12 : decode cX0_greatestLift 12 = .ok (.getfield 53, 3) := dk_180 0 53 (dk_at dksX0_greatestLift_0 12 rfl rfl)
theorem dX0_greatestLift_15 : decode cX0_greatestLift 15 = .ok (.iload_n 2, 1) := dk_28 (dk_at dksX0_greatestLift_0 15 rfl rfl)
theorem dX0_greatestLift_16 : decode cX0_greatestLift 16 = .ok (.invokevirtual 233, 3) := dk_182 0 233 (dk_at dksX0_greatestLift_0 16 rfl rfl)
theorem dX0_greatestLift_19 : decode cX0_greatestLift 19 = .ok (.invokestatic 236, 3) := dk_184 0 236 (dk_at dksX0_greatestLift_0 19 rfl rfl)
theorem dX0_greatestLift_22 : decode cX0_greatestLift 22 = .ok (.istore_n 1, 1) := dk_60 (dk_at dksX0_greatestLift_0 22 rfl rfl)
theorem dX0_greatestLift_23 : decode cX0_greatestLift 23 = .ok (.iinc 2 1, 3) := dk_132 2 1 (dk_at dksX0_greatestLift_1 0 rfl rfl)
theorem dX0_greatestLift_26 : decode cX0_greatestLift 26 = .ok (.goto (-22), 3) := dk_167 255 234 (dk_at dksX0_greatestLift_1 3 rfl rfl)
theorem dX0_greatestLift_29 : decode cX0_greatestLift 29 = .ok (.iload_n 1, 1) := dk_27 (dk_at dksX0_greatestLift_1 6 rfl rfl)
theorem dX0_greatestLift_30 : decode cX0_greatestLift 30 = .ok (.ireturn, 1) := dk_172 (dk_at dksX0_greatestLift_1 7 rfl rfl)
abbrev cX0_lacks : ByteArray := prog_1_method_33_code
def yX0_lacks : MethodName := ⟨RX0, "lacks", "(I)I"⟩
def dkwX0_lacks_2 : List UInt8 := [182, 0, 253, 167, 0, 4, 2, 172]
abbrev dktX0_lacks_2 : List UInt8 := dkwX0_lacks_2 ++ []
def dkwX0_lacks_1 : List UInt8 := [153, 0, 29, 42, 180, 0, 53, 180, 0, 136, 180, 0, 245, 27, 185, 0, 123, 2, 0, 192, 0, 251, 42]
abbrev dktX0_lacks_1 : List UInt8 := dkwX0_lacks_1 ++ dktX0_lacks_2
def dkwX0_lacks_0 : List UInt8 := [27, 133, 9, 42, 180, 0, 53, 180, 0, 136, 180, 0, 245, 185, 0, 117, 1, 0, 4, 100, 133, 184, 0, 5]
abbrev dktX0_lacks_0 : List UInt8 := dkwX0_lacks_0 ++ dktX0_lacks_1
theorem dksX0_lacks_0 : cX0_lacks.data.toList.drop 0 = dktX0_lacks_0 := by decide +kernel
theorem dksX0_lacks_1 : cX0_lacks.data.toList.drop 24 = dktX0_lacks_1 := dk_seg dksX0_lacks_0 24 rfl rfl
theorem dksX0_lacks_2 : cX0_lacks.data.toList.drop 47 = dktX0_lacks_2 := dk_seg dksX0_lacks_1 23 rfl rfl
theorem dX0_lacks_0 : decode cX0_lacks 0 = .ok (.iload_n 1, 1) := dk_27 (dk_at dksX0_lacks_0 0 rfl rfl)
theorem dX0_lacks_1 : decode cX0_lacks 1 = .ok (.i2l, 1) := dk_133 (dk_at dksX0_lacks_0 1 rfl rfl)
theorem dX0_lacks_2 : decode cX0_lacks 2 = .ok (.lconst 0, 1) := dk_9 (dk_at dksX0_lacks_0 2 rfl rfl)
theorem dX0_lacks_3 : decode cX0_lacks 3 = .ok (.aload_n 0, 1) := dk_42 (dk_at dksX0_lacks_0 3 rfl rfl)
theorem dX0_lacks_4 : decode cX0_lacks 4 = .ok (.getfield 53, 3) := dk_180 0 53 (dk_at dksX0_lacks_0 4 rfl rfl)
theorem dX0_lacks_7 : decode cX0_lacks 7 = .ok (.getfield 136, 3) := dk_180 0 136 (dk_at dksX0_lacks_0 7 rfl rfl)
theorem dX0_lacks_10 : decode cX0_lacks 10 = .ok (.getfield 245, 3) := dk_180 0 245 (dk_at dksX0_lacks_0 10 rfl rfl)
theorem dX0_lacks_13 : decode cX0_lacks 13 = .ok (.invokeinterface 117 1, 5) := by decide +kernel
theorem dX0_lacks_18 : decode cX0_lacks 18 = .ok (.iconst 1, 1) := dk_4 (dk_at dksX0_lacks_0 18 rfl rfl)
theorem dX0_lacks_19 : decode cX0_lacks 19 = .ok (.isub, 1) := dk_100 (dk_at dksX0_lacks_0 19 rfl rfl)
theorem dX0_lacks_20 : decode cX0_lacks 20 = .ok (.i2l, 1) := dk_133 (dk_at dksX0_lacks_0 20 rfl rfl)
theorem dX0_lacks_21 : decode cX0_lacks 21 = .ok (.invokestatic 5, 3) := dk_184 0 5 (dk_at dksX0_lacks_0 21 rfl rfl)
theorem dX0_lacks_24 : decode cX0_lacks 24 = .ok (.ifCond .eq 29, 3) := dk_153 0 29 (dk_at dksX0_lacks_1 0 rfl rfl)
theorem dX0_lacks_27 : decode cX0_lacks 27 = .ok (.aload_n 0, 1) := dk_42 (dk_at dksX0_lacks_1 3 rfl rfl)
theorem dX0_lacks_28 : decode cX0_lacks 28 = .ok (.getfield 53, 3) := dk_180 0 53 (dk_at dksX0_lacks_1 4 rfl rfl)
theorem dX0_lacks_31 : decode cX0_lacks 31 = .ok (.getfield 136, 3) := dk_180 0 136 (dk_at dksX0_lacks_1 7 rfl rfl)
theorem dX0_lacks_34 : decode cX0_lacks 34 = .ok (.getfield 245, 3) := dk_180 0 245 (dk_at dksX0_lacks_1 10 rfl rfl)
theorem dX0_lacks_37 : decode cX0_lacks 37 = .ok (.iload_n 1, 1) := dk_27 (dk_at dksX0_lacks_1 13 rfl rfl)
theorem dX0_lacks_38 : decode cX0_lacks 38 = .ok (.invokeinterface 123 2, 5) := by decide +kernel
theorem dX0_lacks_43 : decode cX0_lacks 43 = .ok (.checkcast 251, 3) := dk_192 0 251 (dk_at dksX0_lacks_1 19 rfl rfl)
theorem dX0_lacks_46 : decode cX0_lacks 46 = .ok (.aload_n 0, 1) := dk_42 (dk_at dksX0_lacks_1 22 rfl rfl)
theorem dX0_lacks_47 : decode cX0_lacks 47 = .ok (.invokevirtual 253, 3) := dk_182 0 253 (dk_at dksX0_lacks_2 0 rfl rfl)
theorem dX0_lacks_50 : decode cX0_lacks 50 = .ok (.goto 4, 3) := dk_167 0 4 (dk_at dksX0_lacks_2 3 rfl rfl)
theorem dX0_lacks_53 : decode cX0_lacks 53 = .ok (.iconst (-1), 1) := dk_2 (dk_at dksX0_lacks_2 6 rfl rfl)
theorem dX0_lacks_54 : decode cX0_lacks 54 = .ok (.ireturn, 1) := dk_172 (dk_at dksX0_lacks_2 7 rfl rfl)
abbrev cX0_pump : ByteArray := prog_1_method_34_code
def yX0_pump : MethodName := ⟨RX0, "pump", "()I"⟩
def dkwX0_pump_1 : List UInt8 := [180, 0, 53, 182, 0, 210, 154, 0, 6, 16, 248, 172, 42, 180, 0, 53, 3, 181, 1, 4, 3, 172]
abbrev dktX0_pump_1 : List UInt8 := dkwX0_pump_1 ++ []
def dkwX0_pump_0 : List UInt8 := [42, 182, 0, 209, 154, 0, 6, 16, 250, 172, 42, 180, 0, 53, 180, 1, 4, 154, 0, 6, 16, 251, 172, 42]
abbrev dktX0_pump_0 : List UInt8 := dkwX0_pump_0 ++ dktX0_pump_1
theorem dksX0_pump_0 : cX0_pump.data.toList.drop 0 = dktX0_pump_0 := by decide +kernel
theorem dksX0_pump_1 : cX0_pump.data.toList.drop 24 = dktX0_pump_1 := dk_seg dksX0_pump_0 24 rfl rfl
theorem dX0_pump_0 : decode cX0_pump 0 = .ok (.aload_n 0, 1) := dk_42 (dk_at dksX0_pump_0 0 rfl rfl)
theorem dX0_pump_1 : decode cX0_pump 1 = .ok (.invokevirtual 209, 3) := dk_182 0 209 (dk_at dksX0_pump_0 1 rfl rfl)
theorem dX0_pump_4 : decode cX0_pump 4 = .ok (.ifCond .ne 6, 3) := dk_154 0 6 (dk_at dksX0_pump_0 4 rfl rfl)
theorem dX0_pump_7 : decode cX0_pump 7 = .ok (.bipush (-6), 2) := dk_16 250 (dk_at dksX0_pump_0 7 rfl rfl)
theorem dX0_pump_9 : decode cX0_pump 9 = .ok (.ireturn, 1) := dk_172 (dk_at dksX0_pump_0 9 rfl rfl)
theorem dX0_pump_10 : decode cX0_pump 10 = .ok (.aload_n 0, 1) := dk_42 (dk_at dksX0_pump_0 10 rfl rfl)
theorem dX0_pump_11 : decode cX0_pump 11 = .ok (.getfield 53, 3) := dk_180 0 53 (dk_at dksX0_pump_0 11 rfl rfl)
theorem dX0_pump_14 : decode cX0_pump 14 = .ok (.getfield 260, 3) := dk_180 1 4 (dk_at dksX0_pump_0 14 rfl rfl)
theorem dX0_pump_17 : decode cX0_pump 17 = .ok (.ifCond .ne 6, 3) := dk_154 0 6 (dk_at dksX0_pump_0 17 rfl rfl)
theorem dX0_pump_20 : decode cX0_pump 20 = .ok (.bipush (-5), 2) := dk_16 251 (dk_at dksX0_pump_0 20 rfl rfl)
theorem dX0_pump_22 : decode cX0_pump 22 = .ok (.ireturn, 1) := dk_172 (dk_at dksX0_pump_0 22 rfl rfl)
theorem dX0_pump_23 : decode cX0_pump 23 = .ok (.aload_n 0, 1) := dk_42 (dk_at dksX0_pump_0 23 rfl rfl)
theorem dX0_pump_24 : decode cX0_pump 24 = .ok (.getfield 53, 3) := dk_180 0 53 (dk_at dksX0_pump_1 0 rfl rfl)
theorem dX0_pump_27 : decode cX0_pump 27 = .ok (.invokevirtual 210, 3) := dk_182 0 210 (dk_at dksX0_pump_1 3 rfl rfl)
theorem dX0_pump_30 : decode cX0_pump 30 = .ok (.ifCond .ne 6, 3) := dk_154 0 6 (dk_at dksX0_pump_1 6 rfl rfl)
theorem dX0_pump_33 : decode cX0_pump 33 = .ok (.bipush (-8), 2) := dk_16 248 (dk_at dksX0_pump_1 9 rfl rfl)
theorem dX0_pump_35 : decode cX0_pump 35 = .ok (.ireturn, 1) := dk_172 (dk_at dksX0_pump_1 11 rfl rfl)
theorem dX0_pump_36 : decode cX0_pump 36 = .ok (.aload_n 0, 1) := dk_42 (dk_at dksX0_pump_1 12 rfl rfl)
theorem dX0_pump_37 : decode cX0_pump 37 = .ok (.getfield 53, 3) := dk_180 0 53 (dk_at dksX0_pump_1 13 rfl rfl)
theorem dX0_pump_40 : decode cX0_pump 40 = .ok (.iconst 0, 1) := dk_3 (dk_at dksX0_pump_1 16 rfl rfl)
theorem dX0_pump_41 : decode cX0_pump 41 = .ok (.putfield 260, 3) := dk_181 1 4 (dk_at dksX0_pump_1 17 rfl rfl)
theorem dX0_pump_44 : decode cX0_pump 44 = .ok (.iconst 0, 1) := dk_3 (dk_at dksX0_pump_1 20 rfl rfl)
theorem dX0_pump_45 : decode cX0_pump 45 = .ok (.ireturn, 1) := dk_172 (dk_at dksX0_pump_1 21 rfl rfl)
abbrev cX0_lift : ByteArray := prog_1_method_35_code
def yX0_lift : MethodName := ⟨RX0, "lift", "(I)I"⟩
def dkwX0_lift_1 : List UInt8 := [18, 135, 172]
abbrev dktX0_lift_1 : List UInt8 := dkwX0_lift_1 ++ []
def dkwX0_lift_0 : List UInt8 := [27, 133, 9, 20, 0, 3, 184, 0, 5, 153, 0, 14, 42, 180, 0, 53, 27, 182, 0, 233, 167, 0, 5]
abbrev dktX0_lift_0 : List UInt8 := dkwX0_lift_0 ++ dktX0_lift_1
theorem dksX0_lift_0 : cX0_lift.data.toList.drop 0 = dktX0_lift_0 := by decide +kernel
theorem dksX0_lift_1 : cX0_lift.data.toList.drop 23 = dktX0_lift_1 := dk_seg dksX0_lift_0 23 rfl rfl
theorem dX0_lift_0 : decode cX0_lift 0 = .ok (.iload_n 1, 1) := dk_27 (dk_at dksX0_lift_0 0 rfl rfl)
theorem dX0_lift_1 : decode cX0_lift 1 = .ok (.i2l, 1) := dk_133 (dk_at dksX0_lift_0 1 rfl rfl)
theorem dX0_lift_2 : decode cX0_lift 2 = .ok (.lconst 0, 1) := dk_9 (dk_at dksX0_lift_0 2 rfl rfl)
theorem dX0_lift_3 : decode cX0_lift 3 = .ok (.ldc2_w 3, 3) := dk_20 0 3 (dk_at dksX0_lift_0 3 rfl rfl)
theorem dX0_lift_6 : decode cX0_lift 6 = .ok (.invokestatic 5, 3) := dk_184 0 5 (dk_at dksX0_lift_0 6 rfl rfl)
theorem dX0_lift_9 : decode cX0_lift 9 = .ok (.ifCond .eq 14, 3) := dk_153 0 14 (dk_at dksX0_lift_0 9 rfl rfl)
theorem dX0_lift_12 : decode cX0_lift 12 = .ok (.aload_n 0, 1) := dk_42 (dk_at dksX0_lift_0 12 rfl rfl)
theorem dX0_lift_13 : decode cX0_lift 13 = .ok (.getfield 53, 3) := dk_180 0 53 (dk_at dksX0_lift_0 13 rfl rfl)
theorem dX0_lift_16 : decode cX0_lift 16 = .ok (.iload_n 1, 1) := dk_27 (dk_at dksX0_lift_0 16 rfl rfl)
theorem dX0_lift_17 : decode cX0_lift 17 = .ok (.invokevirtual 233, 3) := dk_182 0 233 (dk_at dksX0_lift_0 17 rfl rfl)
theorem dX0_lift_20 : decode cX0_lift 20 = .ok (.goto 5, 3) := dk_167 0 5 (dk_at dksX0_lift_0 20 rfl rfl)
theorem dX0_lift_23 : decode cX0_lift 23 = .ok (.ldc 135, 2) := dk_18 135 (dk_at dksX0_lift_1 0 rfl rfl)
theorem dX0_lift_25 : decode cX0_lift 25 = .ok (.ireturn, 1) := dk_172 (dk_at dksX0_lift_1 2 rfl rfl)
abbrev cX0_cracks : ByteArray := prog_1_method_36_code
def yX0_cracks : MethodName := ⟨RX0, "cracks", "()I"⟩
def dkwX0_cracks_2 : List UInt8 := [120, 167, 0, 4, 3, 128, 60, 132, 2, 1, 167, 255, 204, 27, 172]
abbrev dktX0_cracks_2 : List UInt8 := dkwX0_cracks_2 ++ []
def dkwX0_cracks_1 : List UInt8 := [180, 0, 53, 180, 1, 7, 28, 185, 0, 123, 2, 0, 192, 1, 10, 180, 1, 12, 2, 159, 0, 9, 4, 28]
abbrev dktX0_cracks_1 : List UInt8 := dkwX0_cracks_1 ++ dktX0_cracks_2
def dkwX0_cracks_0 : List UInt8 := [3, 60, 3, 61, 28, 42, 180, 0, 53, 180, 1, 7, 185, 0, 117, 1, 0, 162, 0, 42, 27, 42]
abbrev dktX0_cracks_0 : List UInt8 := dkwX0_cracks_0 ++ dktX0_cracks_1
theorem dksX0_cracks_0 : cX0_cracks.data.toList.drop 0 = dktX0_cracks_0 := by decide +kernel
theorem dksX0_cracks_1 : cX0_cracks.data.toList.drop 22 = dktX0_cracks_1 := dk_seg dksX0_cracks_0 22 rfl rfl
theorem dksX0_cracks_2 : cX0_cracks.data.toList.drop 46 = dktX0_cracks_2 := dk_seg dksX0_cracks_1 24 rfl rfl
theorem dX0_cracks_0 : decode cX0_cracks 0 = .ok (.iconst 0, 1) := dk_3 (dk_at dksX0_cracks_0 0 rfl rfl)
theorem dX0_cracks_1 : decode cX0_cracks 1 = .ok (.istore_n 1, 1) := dk_60 (dk_at dksX0_cracks_0 1 rfl rfl)
theorem dX0_cracks_2 : decode cX0_cracks 2 = .ok (.iconst 0, 1) := dk_3 (dk_at dksX0_cracks_0 2 rfl rfl)
theorem dX0_cracks_3 : decode cX0_cracks 3 = .ok (.istore_n 2, 1) := dk_61 (dk_at dksX0_cracks_0 3 rfl rfl)
theorem dX0_cracks_4 : decode cX0_cracks 4 = .ok (.iload_n 2, 1) := dk_28 (dk_at dksX0_cracks_0 4 rfl rfl)
theorem dX0_cracks_5 : decode cX0_cracks 5 = .ok (.aload_n 0, 1) := dk_42 (dk_at dksX0_cracks_0 5 rfl rfl)
theorem dX0_cracks_6 : decode cX0_cracks 6 = .ok (.getfield 53, 3) := dk_180 0 53 (dk_at dksX0_cracks_0 6 rfl rfl)
theorem dX0_cracks_9 : decode cX0_cracks 9 = .ok (.getfield 263, 3) := dk_180 1 7 (dk_at dksX0_cracks_0 9 rfl rfl)
theorem dX0_cracks_12 : decode cX0_cracks 12 = .ok (.invokeinterface 117 1, 5) := by decide +kernel
theorem dX0_cracks_17 : decode cX0_cracks 17 = .ok (.if_icmp .ge 42, 3) := dk_162 0 42 (dk_at dksX0_cracks_0 17 rfl rfl)
theorem dX0_cracks_20 : decode cX0_cracks 20 = .ok (.iload_n 1, 1) := dk_27 (dk_at dksX0_cracks_0 20 rfl rfl)
theorem dX0_cracks_21 : decode cX0_cracks 21 = .ok (.aload_n 0, 1) := dk_42 (dk_at dksX0_cracks_0 21 rfl rfl)
theorem dX0_cracks_22 : decode cX0_cracks 22 = .ok (.getfield 53, 3) := dk_180 0 53 (dk_at dksX0_cracks_1 0 rfl rfl)
theorem dX0_cracks_25 : decode cX0_cracks 25 = .ok (.getfield 263, 3) := dk_180 1 7 (dk_at dksX0_cracks_1 3 rfl rfl)
theorem dX0_cracks_28 : decode cX0_cracks 28 = .ok (.iload_n 2, 1) := dk_28 (dk_at dksX0_cracks_1 6 rfl rfl)
theorem dX0_cracks_29 : decode cX0_cracks 29 = .ok (.invokeinterface 123 2, 5) := by decide +kernel
theorem dX0_cracks_34 : decode cX0_cracks 34 = .ok (.checkcast 266, 3) := dk_192 1 10 (dk_at dksX0_cracks_1 12 rfl rfl)
theorem dX0_cracks_37 : decode cX0_cracks 37 = .ok (.getfield 268, 3) := dk_180 1 12 (dk_at dksX0_cracks_1 15 rfl rfl)
theorem dX0_cracks_40 : decode cX0_cracks 40 = .ok (.iconst (-1), 1) := dk_2 (dk_at dksX0_cracks_1 18 rfl rfl)
theorem dX0_cracks_41 : decode cX0_cracks 41 = .ok (.if_icmp .eq 9, 3) := dk_159 0 9 (dk_at dksX0_cracks_1 19 rfl rfl)
theorem dX0_cracks_44 : decode cX0_cracks 44 = .ok (.iconst 1, 1) := dk_4 (dk_at dksX0_cracks_1 22 rfl rfl)
theorem dX0_cracks_45 : decode cX0_cracks 45 = .ok (.iload_n 2, 1) := dk_28 (dk_at dksX0_cracks_1 23 rfl rfl)
theorem dX0_cracks_46 : decode cX0_cracks 46 = .ok (.ishl, 1) := dk_120 (dk_at dksX0_cracks_2 0 rfl rfl)
theorem dX0_cracks_47 : decode cX0_cracks 47 = .ok (.goto 4, 3) := dk_167 0 4 (dk_at dksX0_cracks_2 1 rfl rfl)
theorem dX0_cracks_50 : decode cX0_cracks 50 = .ok (.iconst 0, 1) := dk_3 (dk_at dksX0_cracks_2 4 rfl rfl)
theorem dX0_cracks_51 : decode cX0_cracks 51 = .ok (.ior, 1) := dk_128 (dk_at dksX0_cracks_2 5 rfl rfl)
theorem dX0_cracks_52 : decode cX0_cracks 52 = .ok (.istore_n 1, 1) := dk_60 (dk_at dksX0_cracks_2 6 rfl rfl)
theorem dX0_cracks_53 : decode cX0_cracks 53 = .ok (.iinc 2 1, 3) := dk_132 2 1 (dk_at dksX0_cracks_2 7 rfl rfl)
theorem dX0_cracks_56 : decode cX0_cracks 56 = .ok (.goto (-52), 3) := dk_167 255 204 (dk_at dksX0_cracks_2 10 rfl rfl)
theorem dX0_cracks_59 : decode cX0_cracks 59 = .ok (.iload_n 1, 1) := dk_27 (dk_at dksX0_cracks_2 13 rfl rfl)
theorem dX0_cracks_60 : decode cX0_cracks 60 = .ok (.ireturn, 1) := dk_172 (dk_at dksX0_cracks_2 14 rfl rfl)
abbrev cX0_house : ByteArray := prog_1_method_37_code
def yX0_house : MethodName := ⟨RX0, "house", "(II)I"⟩
def dkwX0_house_3 : List UInt8 := [45, 180, 1, 12, 167, 0, 5, 18, 135, 172]
abbrev dktX0_house_3 : List UInt8 := dkwX0_house_3 ++ []
def dkwX0_house_2 : List UInt8 := [45, 180, 1, 15, 167, 0, 29, 28, 4, 160, 0, 10, 45, 180, 1, 18, 167, 0, 17, 28, 5, 160, 0, 10]
abbrev dktX0_house_2 : List UInt8 := dkwX0_house_2 ++ dktX0_house_3
def dkwX0_house_1 : List UInt8 := [18, 135, 172, 42, 180, 0, 53, 180, 1, 7, 27, 185, 0, 123, 2, 0, 192, 1, 10, 78, 28, 154, 0, 10]
abbrev dktX0_house_1 : List UInt8 := dkwX0_house_1 ++ dktX0_house_2
def dkwX0_house_0 : List UInt8 := [27, 133, 9, 42, 180, 0, 53, 180, 1, 7, 185, 0, 117, 1, 0, 4, 100, 133, 184, 0, 5, 154, 0, 6]
abbrev dktX0_house_0 : List UInt8 := dkwX0_house_0 ++ dktX0_house_1
theorem dksX0_house_0 : cX0_house.data.toList.drop 0 = dktX0_house_0 := by decide +kernel
theorem dksX0_house_1 : cX0_house.data.toList.drop 24 = dktX0_house_1 := dk_seg dksX0_house_0 24 rfl rfl
theorem dksX0_house_2 : cX0_house.data.toList.drop 48 = dktX0_house_2 := dk_seg dksX0_house_1 24 rfl rfl
theorem dksX0_house_3 : cX0_house.data.toList.drop 72 = dktX0_house_3 := dk_seg dksX0_house_2 24 rfl rfl
theorem dX0_house_0 : decode cX0_house 0 = .ok (.iload_n 1, 1) := dk_27 (dk_at dksX0_house_0 0 rfl rfl)
theorem dX0_house_1 : decode cX0_house 1 = .ok (.i2l, 1) := dk_133 (dk_at dksX0_house_0 1 rfl rfl)
theorem dX0_house_2 : decode cX0_house 2 = .ok (.lconst 0, 1) := dk_9 (dk_at dksX0_house_0 2 rfl rfl)
theorem dX0_house_3 : decode cX0_house 3 = .ok (.aload_n 0, 1) := dk_42 (dk_at dksX0_house_0 3 rfl rfl)
theorem dX0_house_4 : decode cX0_house 4 = .ok (.getfield 53, 3) := dk_180 0 53 (dk_at dksX0_house_0 4 rfl rfl)
theorem dX0_house_7 : decode cX0_house 7 = .ok (.getfield 263, 3) := dk_180 1 7 (dk_at dksX0_house_0 7 rfl rfl)
theorem dX0_house_10 : decode cX0_house 10 = .ok (.invokeinterface 117 1, 5) := by decide +kernel
theorem dX0_house_15 : decode cX0_house 15 = .ok (.iconst 1, 1) := dk_4 (dk_at dksX0_house_0 15 rfl rfl)
theorem dX0_house_16 : decode cX0_house 16 = .ok (.isub, 1) := dk_100 (dk_at dksX0_house_0 16 rfl rfl)
theorem dX0_house_17 : decode cX0_house 17 = .ok (.i2l, 1) := dk_133 (dk_at dksX0_house_0 17 rfl rfl)
theorem dX0_house_18 : decode cX0_house 18 = .ok (.invokestatic 5, 3) := dk_184 0 5 (dk_at dksX0_house_0 18 rfl rfl)
theorem dX0_house_21 : decode cX0_house 21 = .ok (.ifCond .ne 6, 3) := dk_154 0 6 (dk_at dksX0_house_0 21 rfl rfl)
theorem dX0_house_24 : decode cX0_house 24 = .ok (.ldc 135, 2) := dk_18 135 (dk_at dksX0_house_1 0 rfl rfl)
theorem dX0_house_26 : decode cX0_house 26 = .ok (.ireturn, 1) := dk_172 (dk_at dksX0_house_1 2 rfl rfl)
theorem dX0_house_27 : decode cX0_house 27 = .ok (.aload_n 0, 1) := dk_42 (dk_at dksX0_house_1 3 rfl rfl)
theorem dX0_house_28 : decode cX0_house 28 = .ok (.getfield 53, 3) := dk_180 0 53 (dk_at dksX0_house_1 4 rfl rfl)
theorem dX0_house_31 : decode cX0_house 31 = .ok (.getfield 263, 3) := dk_180 1 7 (dk_at dksX0_house_1 7 rfl rfl)
theorem dX0_house_34 : decode cX0_house 34 = .ok (.iload_n 1, 1) := dk_27 (dk_at dksX0_house_1 10 rfl rfl)
theorem dX0_house_35 : decode cX0_house 35 = .ok (.invokeinterface 123 2, 5) := by decide +kernel
theorem dX0_house_40 : decode cX0_house 40 = .ok (.checkcast 266, 3) := dk_192 1 10 (dk_at dksX0_house_1 16 rfl rfl)
theorem dX0_house_43 : decode cX0_house 43 = .ok (.astore_n 3, 1) := dk_78 (dk_at dksX0_house_1 19 rfl rfl)
theorem dX0_house_44 : decode cX0_house 44 = .ok (.iload_n 2, 1) := dk_28 (dk_at dksX0_house_1 20 rfl rfl)
theorem dX0_house_45 : decode cX0_house 45 = .ok (.ifCond .ne 10, 3) := dk_154 0 10 (dk_at dksX0_house_1 21 rfl rfl)
theorem dX0_house_48 : decode cX0_house 48 = .ok (.aload_n 3, 1) := dk_45 (dk_at dksX0_house_2 0 rfl rfl)
theorem dX0_house_49 : decode cX0_house 49 = .ok (.getfield 271, 3) := dk_180 1 15 (dk_at dksX0_house_2 1 rfl rfl)
theorem dX0_house_52 : decode cX0_house 52 = .ok (.goto 29, 3) := dk_167 0 29 (dk_at dksX0_house_2 4 rfl rfl)
theorem dX0_house_55 : decode cX0_house 55 = .ok (.iload_n 2, 1) := dk_28 (dk_at dksX0_house_2 7 rfl rfl)
theorem dX0_house_56 : decode cX0_house 56 = .ok (.iconst 1, 1) := dk_4 (dk_at dksX0_house_2 8 rfl rfl)
theorem dX0_house_57 : decode cX0_house 57 = .ok (.if_icmp .ne 10, 3) := dk_160 0 10 (dk_at dksX0_house_2 9 rfl rfl)
theorem dX0_house_60 : decode cX0_house 60 = .ok (.aload_n 3, 1) := dk_45 (dk_at dksX0_house_2 12 rfl rfl)
theorem dX0_house_61 : decode cX0_house 61 = .ok (.getfield 274, 3) := dk_180 1 18 (dk_at dksX0_house_2 13 rfl rfl)
theorem dX0_house_64 : decode cX0_house 64 = .ok (.goto 17, 3) := dk_167 0 17 (dk_at dksX0_house_2 16 rfl rfl)
theorem dX0_house_67 : decode cX0_house 67 = .ok (.iload_n 2, 1) := dk_28 (dk_at dksX0_house_2 19 rfl rfl)
theorem dX0_house_68 : decode cX0_house 68 = .ok (.iconst 2, 1) := dk_5 (dk_at dksX0_house_2 20 rfl rfl)
theorem dX0_house_69 : decode cX0_house 69 = .ok (.if_icmp .ne 10, 3) := dk_160 0 10 (dk_at dksX0_house_2 21 rfl rfl)
theorem dX0_house_72 : decode cX0_house 72 = .ok (.aload_n 3, 1) := dk_45 (dk_at dksX0_house_3 0 rfl rfl)
theorem dX0_house_73 : decode cX0_house 73 = .ok (.getfield 268, 3) := dk_180 1 12 (dk_at dksX0_house_3 1 rfl rfl)
theorem dX0_house_76 : decode cX0_house 76 = .ok (.goto 5, 3) := dk_167 0 5 (dk_at dksX0_house_3 4 rfl rfl)
theorem dX0_house_79 : decode cX0_house 79 = .ok (.ldc 135, 2) := dk_18 135 (dk_at dksX0_house_3 7 rfl rfl)
theorem dX0_house_81 : decode cX0_house 81 = .ok (.ireturn, 1) := dk_172 (dk_at dksX0_house_3 9 rfl rfl)
abbrev cX0_foretell : ByteArray := prog_1_method_38_code
def yX0_foretell : MethodName := ⟨RX0, "foretell", "()I"⟩
def dkwX0_foretell_2 : List UInt8 := [132, 1, 1, 167, 255, 228, 2, 172]
abbrev dktX0_foretell_2 : List UInt8 := dkwX0_foretell_2 ++ []
def dkwX0_foretell_1 : List UInt8 := [16, 60, 163, 0, 28, 42, 180, 0, 57, 182, 0, 210, 153, 0, 5, 27, 172, 42, 180, 0, 57, 182, 0, 110]
abbrev dktX0_foretell_1 : List UInt8 := dkwX0_foretell_1 ++ dktX0_foretell_2
def dkwX0_foretell_0 : List UInt8 := [42, 182, 0, 209, 154, 0, 6, 16, 250, 172, 42, 180, 0, 57, 42, 180, 0, 53, 182, 1, 21, 3, 60, 27]
abbrev dktX0_foretell_0 : List UInt8 := dkwX0_foretell_0 ++ dktX0_foretell_1
theorem dksX0_foretell_0 : cX0_foretell.data.toList.drop 0 = dktX0_foretell_0 := by decide +kernel
theorem dksX0_foretell_1 : cX0_foretell.data.toList.drop 24 = dktX0_foretell_1 := dk_seg dksX0_foretell_0 24 rfl rfl
theorem dksX0_foretell_2 : cX0_foretell.data.toList.drop 48 = dktX0_foretell_2 := dk_seg dksX0_foretell_1 24 rfl rfl
theorem dX0_foretell_0 : decode cX0_foretell 0 = .ok (.aload_n 0, 1) := dk_42 (dk_at dksX0_foretell_0 0 rfl rfl)
theorem dX0_foretell_1 : decode cX0_foretell 1 = .ok (.invokevirtual 209, 3) := dk_182 0 209 (dk_at dksX0_foretell_0 1 rfl rfl)
theorem dX0_foretell_4 : decode cX0_foretell 4 = .ok (.ifCond .ne 6, 3) := dk_154 0 6 (dk_at dksX0_foretell_0 4 rfl rfl)
theorem dX0_foretell_7 : decode cX0_foretell 7 = .ok (.bipush (-6), 2) := dk_16 250 (dk_at dksX0_foretell_0 7 rfl rfl)
theorem dX0_foretell_9 : decode cX0_foretell 9 = .ok (.ireturn, 1) := dk_172 (dk_at dksX0_foretell_0 9 rfl rfl)
theorem dX0_foretell_10 : decode cX0_foretell 10 = .ok (.aload_n 0, 1) := dk_42 (dk_at dksX0_foretell_0 10 rfl rfl)
theorem dX0_foretell_11 : decode cX0_foretell 11 = .ok (.getfield 57, 3) := dk_180 0 57 (dk_at dksX0_foretell_0 11 rfl rfl)
theorem dX0_foretell_14 : decode cX0_foretell 14 = .ok (.aload_n 0, 1) := dk_42 (dk_at dksX0_foretell_0 14 rfl rfl)
theorem dX0_foretell_15 : decode cX0_foretell 15 = .ok (.getfield 53, 3) := dk_180 0 53 (dk_at dksX0_foretell_0 15 rfl rfl)
theorem dX0_foretell_18 : decode cX0_foretell 18 = .ok (.invokevirtual 277, 3) := dk_182 1 21 (dk_at dksX0_foretell_0 18 rfl rfl)
theorem dX0_foretell_21 : decode cX0_foretell 21 = .ok (.iconst 0, 1) := dk_3 (dk_at dksX0_foretell_0 21 rfl rfl)
theorem dX0_foretell_22 : decode cX0_foretell 22 = .ok (.istore_n 1, 1) := dk_60 (dk_at dksX0_foretell_0 22 rfl rfl)
theorem dX0_foretell_23 : decode cX0_foretell 23 = .ok (.iload_n 1, 1) := dk_27 (dk_at dksX0_foretell_0 23 rfl rfl)
theorem dX0_foretell_24 : decode cX0_foretell 24 = .ok (.bipush 60, 2) := dk_16 60 (dk_at dksX0_foretell_1 0 rfl rfl)
theorem dX0_foretell_26 : decode cX0_foretell 26 = .ok (.if_icmp .gt 28, 3) := dk_163 0 28 (dk_at dksX0_foretell_1 2 rfl rfl)
theorem dX0_foretell_29 : decode cX0_foretell 29 = .ok (.aload_n 0, 1) := dk_42 (dk_at dksX0_foretell_1 5 rfl rfl)
theorem dX0_foretell_30 : decode cX0_foretell 30 = .ok (.getfield 57, 3) := dk_180 0 57 (dk_at dksX0_foretell_1 6 rfl rfl)
theorem dX0_foretell_33 : decode cX0_foretell 33 = .ok (.invokevirtual 210, 3) := dk_182 0 210 (dk_at dksX0_foretell_1 9 rfl rfl)
theorem dX0_foretell_36 : decode cX0_foretell 36 = .ok (.ifCond .eq 5, 3) := dk_153 0 5 (dk_at dksX0_foretell_1 12 rfl rfl)
theorem dX0_foretell_39 : decode cX0_foretell 39 = .ok (.iload_n 1, 1) := dk_27 (dk_at dksX0_foretell_1 15 rfl rfl)
theorem dX0_foretell_40 : decode cX0_foretell 40 = .ok (.ireturn, 1) := dk_172 (dk_at dksX0_foretell_1 16 rfl rfl)
theorem dX0_foretell_41 : decode cX0_foretell 41 = .ok (.aload_n 0, 1) := dk_42 (dk_at dksX0_foretell_1 17 rfl rfl)
theorem dX0_foretell_42 : decode cX0_foretell 42 = .ok (.getfield 57, 3) := dk_180 0 57 (dk_at dksX0_foretell_1 18 rfl rfl)
theorem dX0_foretell_45 : decode cX0_foretell 45 = .ok (.invokevirtual 110, 3) := dk_182 0 110 (dk_at dksX0_foretell_1 21 rfl rfl)
theorem dX0_foretell_48 : decode cX0_foretell 48 = .ok (.iinc 1 1, 3) := dk_132 1 1 (dk_at dksX0_foretell_2 0 rfl rfl)
theorem dX0_foretell_51 : decode cX0_foretell 51 = .ok (.goto (-28), 3) := dk_167 255 228 (dk_at dksX0_foretell_2 3 rfl rfl)
theorem dX0_foretell_54 : decode cX0_foretell 54 = .ok (.iconst (-1), 1) := dk_2 (dk_at dksX0_foretell_2 6 rfl rfl)
theorem dX0_foretell_55 : decode cX0_foretell 55 = .ok (.ireturn, 1) := dk_172 (dk_at dksX0_foretell_2 7 rfl rfl)
abbrev cX0_off : ByteArray := prog_1_method_39_code
def yX0_off : MethodName := ⟨RX0, "off", "()I"⟩
def dkwX0_off_4 : List UInt8 := [182, 0, 110, 42, 180, 0, 57, 182, 0, 210, 154, 0, 5, 27, 172, 132, 1, 1, 167, 255, 228, 2, 172]
abbrev dktX0_off_4 : List UInt8 := dkwX0_off_4 ++ []
def dkwX0_off_3 : List UInt8 := [3, 181, 0, 184, 132, 1, 1, 167, 255, 217, 4, 60, 27, 16, 60, 163, 0, 28, 42, 180, 0, 57]
abbrev dktX0_off_3 : List UInt8 := dkwX0_off_3 ++ dktX0_off_4
def dkwX0_off_2 : List UInt8 := [185, 0, 117, 1, 0, 162, 0, 29, 42, 180, 0, 57, 180, 0, 113, 27, 185, 0, 123, 2, 0, 192, 0, 127]
abbrev dktX0_off_2 : List UInt8 := dkwX0_off_2 ++ dktX0_off_3
def dkwX0_off_1 : List UInt8 := [180, 0, 57, 42, 180, 0, 53, 182, 1, 21, 3, 60, 27, 42, 180, 0, 57, 180, 0, 113]
abbrev dktX0_off_1 : List UInt8 := dkwX0_off_1 ++ dktX0_off_2
def dkwX0_off_0 : List UInt8 := [42, 182, 0, 209, 154, 0, 6, 16, 250, 172, 42, 180, 0, 53, 182, 0, 210, 154, 0, 6, 16, 251, 172, 42]
abbrev dktX0_off_0 : List UInt8 := dkwX0_off_0 ++ dktX0_off_1
theorem dksX0_off_0 : cX0_off.data.toList.drop 0 = dktX0_off_0 := by decide +kernel
theorem dksX0_off_1 : cX0_off.data.toList.drop 24 = dktX0_off_1 := dk_seg dksX0_off_0 24 rfl rfl
theorem dksX0_off_2 : cX0_off.data.toList.drop 44 = dktX0_off_2 := dk_seg dksX0_off_1 20 rfl rfl
theorem dksX0_off_3 : cX0_off.data.toList.drop 68 = dktX0_off_3 := dk_seg dksX0_off_2 24 rfl rfl
theorem dksX0_off_4 : cX0_off.data.toList.drop 90 = dktX0_off_4 := dk_seg dksX0_off_3 22 rfl rfl
theorem dX0_off_0 : decode cX0_off 0 = .ok (.aload_n 0, 1) := dk_42 (dk_at dksX0_off_0 0 rfl rfl)
theorem dX0_off_1 : decode cX0_off 1 = .ok (.invokevirtual 209, 3) := dk_182 0 209 (dk_at dksX0_off_0 1 rfl rfl)
theorem dX0_off_4 : decode cX0_off 4 = .ok (.ifCond .ne 6, 3) := dk_154 0 6 (dk_at dksX0_off_0 4 rfl rfl)
theorem dX0_off_7 : decode cX0_off 7 = .ok (.bipush (-6), 2) := dk_16 250 (dk_at dksX0_off_0 7 rfl rfl)
theorem dX0_off_9 : decode cX0_off 9 = .ok (.ireturn, 1) := dk_172 (dk_at dksX0_off_0 9 rfl rfl)
theorem dX0_off_10 : decode cX0_off 10 = .ok (.aload_n 0, 1) := dk_42 (dk_at dksX0_off_0 10 rfl rfl)
theorem dX0_off_11 : decode cX0_off 11 = .ok (.getfield 53, 3) := dk_180 0 53 (dk_at dksX0_off_0 11 rfl rfl)
theorem dX0_off_14 : decode cX0_off 14 = .ok (.invokevirtual 210, 3) := dk_182 0 210 (dk_at dksX0_off_0 14 rfl rfl)
theorem dX0_off_17 : decode cX0_off 17 = .ok (.ifCond .ne 6, 3) := dk_154 0 6 (dk_at dksX0_off_0 17 rfl rfl)
theorem dX0_off_20 : decode cX0_off 20 = .ok (.bipush (-5), 2) := dk_16 251 (dk_at dksX0_off_0 20 rfl rfl)
theorem dX0_off_22 : decode cX0_off 22 = .ok (.ireturn, 1) := dk_172 (dk_at dksX0_off_0 22 rfl rfl)
theorem dX0_off_23 : decode cX0_off 23 = .ok (.aload_n 0, 1) := dk_42 (dk_at dksX0_off_0 23 rfl rfl)
theorem dX0_off_24 : decode cX0_off 24 = .ok (.getfield 57, 3) := dk_180 0 57 (dk_at dksX0_off_1 0 rfl rfl)
theorem dX0_off_27 : decode cX0_off 27 = .ok (.aload_n 0, 1) := dk_42 (dk_at dksX0_off_1 3 rfl rfl)
theorem dX0_off_28 : decode cX0_off 28 = .ok (.getfield 53, 3) := dk_180 0 53 (dk_at dksX0_off_1 4 rfl rfl)
theorem dX0_off_31 : decode cX0_off 31 = .ok (.invokevirtual 277, 3) := dk_182 1 21 (dk_at dksX0_off_1 7 rfl rfl)
theorem dX0_off_34 : decode cX0_off 34 = .ok (.iconst 0, 1) := dk_3 (dk_at dksX0_off_1 10 rfl rfl)
theorem dX0_off_35 : decode cX0_off 35 = .ok (.istore_n 1, 1) := dk_60 (dk_at dksX0_off_1 11 rfl rfl)
theorem dX0_off_36 : decode cX0_off 36 = .ok (.iload_n 1, 1) := dk_27 (dk_at dksX0_off_1 12 rfl rfl)
theorem dX0_off_37 : decode cX0_off 37 = .ok (.aload_n 0, 1) := dk_42 (dk_at dksX0_off_1 13 rfl rfl)
theorem dX0_off_38 : decode cX0_off 38 = .ok (.getfield 57, 3) := dk_180 0 57 (dk_at dksX0_off_1 14 rfl rfl)
theorem dX0_off_41 : decode cX0_off 41 = .ok (.getfield 113, 3) := dk_180 0 113 (dk_at dksX0_off_1 17 rfl rfl)
theorem dX0_off_44 : decode cX0_off 44 = .ok (.invokeinterface 117 1, 5) := by decide +kernel
theorem dX0_off_49 : decode cX0_off 49 = .ok (.if_icmp .ge 29, 3) := dk_162 0 29 (dk_at dksX0_off_2 5 rfl rfl)
theorem dX0_off_52 : decode cX0_off 52 = .ok (.aload_n 0, 1) := dk_42 (dk_at dksX0_off_2 8 rfl rfl)
theorem dX0_off_53 : decode cX0_off 53 = .ok (.getfield 57, 3) := dk_180 0 57 (dk_at dksX0_off_2 9 rfl rfl)
theorem dX0_off_56 : decode cX0_off 56 = .ok (.getfield 113, 3) := dk_180 0 113 (dk_at dksX0_off_2 12 rfl rfl)
theorem dX0_off_59 : decode cX0_off 59 = .ok (.iload_n 1, 1) := dk_27 (dk_at dksX0_off_2 15 rfl rfl)
theorem dX0_off_60 : decode cX0_off 60 = .ok (.invokeinterface 123 2, 5) := by decide +kernel
theorem dX0_off_65 : decode cX0_off 65 = .ok (.checkcast 127, 3) := dk_192 0 127 (dk_at dksX0_off_2 21 rfl rfl)
theorem dX0_off_68 : decode cX0_off 68 = .ok (.iconst 0, 1) := dk_3 (dk_at dksX0_off_3 0 rfl rfl)
theorem dX0_off_69 : decode cX0_off 69 = .ok (.putfield 184, 3) := dk_181 0 184 (dk_at dksX0_off_3 1 rfl rfl)
theorem dX0_off_72 : decode cX0_off 72 = .ok (.iinc 1 1, 3) := dk_132 1 1 (dk_at dksX0_off_3 4 rfl rfl)
theorem dX0_off_75 : decode cX0_off 75 = .ok (.goto (-39), 3) := dk_167 255 217 (dk_at dksX0_off_3 7 rfl rfl)
theorem dX0_off_78 : decode cX0_off 78 = .ok (.iconst 1, 1) := dk_4 (dk_at dksX0_off_3 10 rfl rfl)
theorem dX0_off_79 : decode cX0_off 79 = .ok (.istore_n 1, 1) := dk_60 (dk_at dksX0_off_3 11 rfl rfl)
theorem dX0_off_80 : decode cX0_off 80 = .ok (.iload_n 1, 1) := dk_27 (dk_at dksX0_off_3 12 rfl rfl)
theorem dX0_off_81 : decode cX0_off 81 = .ok (.bipush 60, 2) := dk_16 60 (dk_at dksX0_off_3 13 rfl rfl)
theorem dX0_off_83 : decode cX0_off 83 = .ok (.if_icmp .gt 28, 3) := dk_163 0 28 (dk_at dksX0_off_3 15 rfl rfl)
theorem dX0_off_86 : decode cX0_off 86 = .ok (.aload_n 0, 1) := dk_42 (dk_at dksX0_off_3 18 rfl rfl)
theorem dX0_off_87 : decode cX0_off 87 = .ok (.getfield 57, 3) := dk_180 0 57 (dk_at dksX0_off_3 19 rfl rfl)
theorem dX0_off_90 : decode cX0_off 90 = .ok (.invokevirtual 110, 3) := dk_182 0 110 (dk_at dksX0_off_4 0 rfl rfl)
theorem dX0_off_93 : decode cX0_off 93 = .ok (.aload_n 0, 1) := dk_42 (dk_at dksX0_off_4 3 rfl rfl)
theorem dX0_off_94 : decode cX0_off 94 = .ok (.getfield 57, 3) := dk_180 0 57 (dk_at dksX0_off_4 4 rfl rfl)
theorem dX0_off_97 : decode cX0_off 97 = .ok (.invokevirtual 210, 3) := dk_182 0 210 (dk_at dksX0_off_4 7 rfl rfl)
theorem dX0_off_100 : decode cX0_off 100 = .ok (.ifCond .ne 5, 3) := dk_154 0 5 (dk_at dksX0_off_4 10 rfl rfl)
theorem dX0_off_103 : decode cX0_off 103 = .ok (.iload_n 1, 1) := dk_27 (dk_at dksX0_off_4 13 rfl rfl)
theorem dX0_off_104 : decode cX0_off 104 = .ok (.ireturn, 1) := dk_172 (dk_at dksX0_off_4 14 rfl rfl)
theorem dX0_off_105 : decode cX0_off 105 = .ok (.iinc 1 1, 3) := dk_132 1 1 (dk_at dksX0_off_4 15 rfl rfl)
theorem dX0_off_108 : decode cX0_off 108 = .ok (.goto (-28), 3) := dk_167 255 228 (dk_at dksX0_off_4 18 rfl rfl)
theorem dX0_off_111 : decode cX0_off 111 = .ok (.iconst (-1), 1) := dk_2 (dk_at dksX0_off_4 21 rfl rfl)
theorem dX0_off_112 : decode cX0_off 112 = .ok (.ireturn, 1) := dk_172 (dk_at dksX0_off_4 22 rfl rfl)
abbrev cX0_more : ByteArray := prog_1_method_43_code
def yX0_more : MethodName := ⟨RX0, "more", "(II)I"⟩
def dkwX0_more_8 : List UInt8 := [181, 1, 62, 21, 4, 184, 1, 50, 172]
abbrev dktX0_more_8 : List UInt8 := dkwX0_more_8 ++ []
def dkwX0_more_7 : List UInt8 := [153, 0, 7, 21, 5, 54, 4, 132, 5, 1, 167, 255, 181, 21, 4, 2, 160, 0, 5, 2, 172, 42, 21, 4]
abbrev dktX0_more_7 : List UInt8 := dkwX0_more_7 ++ dktX0_more_8
def dkwX0_more_6 : List UInt8 := [160, 0, 16, 21, 5, 21, 4, 184, 1, 55, 154, 0, 6, 167, 0, 18, 42, 45, 21, 5, 28, 182, 1, 58]
abbrev dktX0_more_6 : List UInt8 := dkwX0_more_6 ++ dktX0_more_7
def dkwX0_more_5 : List UInt8 := [21, 4, 2, 159, 0, 36, 21, 6, 21, 4, 184, 1, 50, 163, 0, 41, 21, 6, 21, 4, 184, 1, 50]
abbrev dktX0_more_5 : List UInt8 := dkwX0_more_5 ++ dktX0_more_6
def dkwX0_more_4 : List UInt8 := [54, 4, 3, 54, 5, 21, 5, 4, 45, 182, 1, 24, 120, 162, 0, 70, 21, 5, 184, 1, 50, 54, 6]
abbrev dktX0_more_4 : List UInt8 := dkwX0_more_4 ++ dktX0_more_5
def dkwX0_more_3 : List UInt8 := [185, 0, 248, 1, 0, 153, 0, 6, 16, 250, 172, 42, 45, 182, 1, 46, 154, 0, 6, 16, 249, 172, 2]
abbrev dktX0_more_3 : List UInt8 := dkwX0_more_3 ++ dktX0_more_4
def dkwX0_more_2 : List UInt8 := [172, 45, 180, 1, 42, 198, 0, 25, 42, 182, 0, 209, 153, 0, 18, 42, 180, 0, 53, 180, 0, 113]
abbrev dktX0_more_2 : List UInt8 := dkwX0_more_2 ++ dktX0_more_3
def dkwX0_more_1 : List UInt8 := [180, 0, 15, 27, 50, 78, 45, 180, 1, 42, 198, 0, 15, 45, 182, 1, 24, 16, 6, 164, 0, 6, 16, 254]
abbrev dktX0_more_1 : List UInt8 := dkwX0_more_1 ++ dktX0_more_2
def dkwX0_more_0 : List UInt8 := [27, 184, 0, 11, 153, 0, 15, 28, 133, 10, 20, 1, 40, 184, 0, 5, 154, 0, 6, 16, 254, 172, 42]
abbrev dktX0_more_0 : List UInt8 := dkwX0_more_0 ++ dktX0_more_1
theorem dksX0_more_0 : cX0_more.data.toList.drop 0 = dktX0_more_0 := by decide +kernel
theorem dksX0_more_1 : cX0_more.data.toList.drop 23 = dktX0_more_1 := dk_seg dksX0_more_0 23 rfl rfl
theorem dksX0_more_2 : cX0_more.data.toList.drop 47 = dktX0_more_2 := dk_seg dksX0_more_1 24 rfl rfl
theorem dksX0_more_3 : cX0_more.data.toList.drop 69 = dktX0_more_3 := dk_seg dksX0_more_2 22 rfl rfl
theorem dksX0_more_4 : cX0_more.data.toList.drop 92 = dktX0_more_4 := dk_seg dksX0_more_3 23 rfl rfl
theorem dksX0_more_5 : cX0_more.data.toList.drop 115 = dktX0_more_5 := dk_seg dksX0_more_4 23 rfl rfl
theorem dksX0_more_6 : cX0_more.data.toList.drop 138 = dktX0_more_6 := dk_seg dksX0_more_5 23 rfl rfl
theorem dksX0_more_7 : cX0_more.data.toList.drop 162 = dktX0_more_7 := dk_seg dksX0_more_6 24 rfl rfl
theorem dksX0_more_8 : cX0_more.data.toList.drop 186 = dktX0_more_8 := dk_seg dksX0_more_7 24 rfl rfl
theorem dX0_more_0 : decode cX0_more 0 = .ok (.iload_n 1, 1) := dk_27 (dk_at dksX0_more_0 0 rfl rfl)
theorem dX0_more_1 : decode cX0_more 1 = .ok (.invokestatic 11, 3) := dk_184 0 11 (dk_at dksX0_more_0 1 rfl rfl)
theorem dX0_more_4 : decode cX0_more 4 = .ok (.ifCond .eq 15, 3) := dk_153 0 15 (dk_at dksX0_more_0 4 rfl rfl)
theorem dX0_more_7 : decode cX0_more 7 = .ok (.iload_n 2, 1) := dk_28 (dk_at dksX0_more_0 7 rfl rfl)
theorem dX0_more_8 : decode cX0_more 8 = .ok (.i2l, 1) := dk_133 (dk_at dksX0_more_0 8 rfl rfl)
theorem dX0_more_9 : decode cX0_more 9 = .ok (.lconst 1, 1) := dk_10 (dk_at dksX0_more_0 9 rfl rfl)
theorem dX0_more_10 : decode cX0_more 10 = .ok (.ldc2_w 296, 3) := dk_20 1 40 (dk_at dksX0_more_0 10 rfl rfl)
theorem dX0_more_13 : decode cX0_more 13 = .ok (.invokestatic 5, 3) := dk_184 0 5 (dk_at dksX0_more_0 13 rfl rfl)
theorem dX0_more_16 : decode cX0_more 16 = .ok (.ifCond .ne 6, 3) := dk_154 0 6 (dk_at dksX0_more_0 16 rfl rfl)
theorem dX0_more_19 : decode cX0_more 19 = .ok (.bipush (-2), 2) := dk_16 254 (dk_at dksX0_more_0 19 rfl rfl)
theorem dX0_more_21 : decode cX0_more 21 = .ok (.ireturn, 1) := dk_172 (dk_at dksX0_more_0 21 rfl rfl)
theorem dX0_more_22 : decode cX0_more 22 = .ok (.aload_n 0, 1) := dk_42 (dk_at dksX0_more_0 22 rfl rfl)
theorem dX0_more_23 : decode cX0_more 23 = .ok (.getfield 15, 3) := dk_180 0 15 (dk_at dksX0_more_1 0 rfl rfl)
theorem dX0_more_26 : decode cX0_more 26 = .ok (.iload_n 1, 1) := dk_27 (dk_at dksX0_more_1 3 rfl rfl)
theorem dX0_more_27 : decode cX0_more 27 = .ok (.aaload, 1) := dk_50 (dk_at dksX0_more_1 4 rfl rfl)
theorem dX0_more_28 : decode cX0_more 28 = .ok (.astore_n 3, 1) := dk_78 (dk_at dksX0_more_1 5 rfl rfl)
theorem dX0_more_29 : decode cX0_more 29 = .ok (.aload_n 3, 1) := dk_45 (dk_at dksX0_more_1 6 rfl rfl)
theorem dX0_more_30 : decode cX0_more 30 = .ok (.getfield 298, 3) := dk_180 1 42 (dk_at dksX0_more_1 7 rfl rfl)
theorem dX0_more_33 : decode cX0_more 33 = .ok (.ifnull 15, 3) := dk_198 0 15 (dk_at dksX0_more_1 10 rfl rfl)
theorem dX0_more_36 : decode cX0_more 36 = .ok (.aload_n 3, 1) := dk_45 (dk_at dksX0_more_1 13 rfl rfl)
theorem dX0_more_37 : decode cX0_more 37 = .ok (.invokevirtual 280, 3) := dk_182 1 24 (dk_at dksX0_more_1 14 rfl rfl)
theorem dX0_more_40 : decode cX0_more 40 = .ok (.bipush 6, 2) := dk_16 6 (dk_at dksX0_more_1 17 rfl rfl)
theorem dX0_more_42 : decode cX0_more 42 = .ok (.if_icmp .le 6, 3) := dk_164 0 6 (dk_at dksX0_more_1 19 rfl rfl)
theorem dX0_more_45 : decode cX0_more 45 = .ok (.bipush (-2), 2) := dk_16 254 (dk_at dksX0_more_1 22 rfl rfl)
theorem dX0_more_47 : decode cX0_more 47 = .ok (.ireturn, 1) := dk_172 (dk_at dksX0_more_2 0 rfl rfl)
theorem dX0_more_48 : decode cX0_more 48 = .ok (.aload_n 3, 1) := dk_45 (dk_at dksX0_more_2 1 rfl rfl)
theorem dX0_more_49 : decode cX0_more 49 = .ok (.getfield 298, 3) := dk_180 1 42 (dk_at dksX0_more_2 2 rfl rfl)
theorem dX0_more_52 : decode cX0_more 52 = .ok (.ifnull 25, 3) := dk_198 0 25 (dk_at dksX0_more_2 5 rfl rfl)
theorem dX0_more_55 : decode cX0_more 55 = .ok (.aload_n 0, 1) := dk_42 (dk_at dksX0_more_2 8 rfl rfl)
theorem dX0_more_56 : decode cX0_more 56 = .ok (.invokevirtual 209, 3) := dk_182 0 209 (dk_at dksX0_more_2 9 rfl rfl)
theorem dX0_more_59 : decode cX0_more 59 = .ok (.ifCond .eq 18, 3) := dk_153 0 18 (dk_at dksX0_more_2 12 rfl rfl)
theorem dX0_more_62 : decode cX0_more 62 = .ok (.aload_n 0, 1) := dk_42 (dk_at dksX0_more_2 15 rfl rfl)
theorem dX0_more_63 : decode cX0_more 63 = .ok (.getfield 53, 3) := dk_180 0 53 (dk_at dksX0_more_2 16 rfl rfl)
theorem dX0_more_66 : decode cX0_more 66 = .ok (.getfield 113, 3) := dk_180 0 113 (dk_at dksX0_more_2 19 rfl rfl)
theorem dX0_more_69 : decode cX0_more 69 = .ok (.invokeinterface 248 1, 5) := by decide +kernel
theorem dX0_more_74 : decode cX0_more 74 = .ok (.ifCond .eq 6, 3) := dk_153 0 6 (dk_at dksX0_more_3 5 rfl rfl)
theorem dX0_more_77 : decode cX0_more 77 = .ok (.bipush (-6), 2) := dk_16 250 (dk_at dksX0_more_3 8 rfl rfl)
theorem dX0_more_79 : decode cX0_more 79 = .ok (.ireturn, 1) := dk_172 (dk_at dksX0_more_3 10 rfl rfl)
theorem dX0_more_80 : decode cX0_more 80 = .ok (.aload_n 0, 1) := dk_42 (dk_at dksX0_more_3 11 rfl rfl)
theorem dX0_more_81 : decode cX0_more 81 = .ok (.aload_n 3, 1) := dk_45 (dk_at dksX0_more_3 12 rfl rfl)
theorem dX0_more_82 : decode cX0_more 82 = .ok (.invokevirtual 302, 3) := dk_182 1 46 (dk_at dksX0_more_3 13 rfl rfl)
theorem dX0_more_85 : decode cX0_more 85 = .ok (.ifCond .ne 6, 3) := dk_154 0 6 (dk_at dksX0_more_3 16 rfl rfl)
theorem dX0_more_88 : decode cX0_more 88 = .ok (.bipush (-7), 2) := dk_16 249 (dk_at dksX0_more_3 19 rfl rfl)
theorem dX0_more_90 : decode cX0_more 90 = .ok (.ireturn, 1) := dk_172 (dk_at dksX0_more_3 21 rfl rfl)
theorem dX0_more_91 : decode cX0_more 91 = .ok (.iconst (-1), 1) := dk_2 (dk_at dksX0_more_3 22 rfl rfl)
theorem dX0_more_92 : decode cX0_more 92 = .ok (.istore 4, 2) := dk_54 4 (dk_at dksX0_more_4 0 rfl rfl)
theorem dX0_more_94 : decode cX0_more 94 = .ok (.iconst 0, 1) := dk_3 (dk_at dksX0_more_4 2 rfl rfl)
theorem dX0_more_95 : decode cX0_more 95 = .ok (.istore 5, 2) := dk_54 5 (dk_at dksX0_more_4 3 rfl rfl)
theorem dX0_more_97 : decode cX0_more 97 = .ok (.iload 5, 2) := dk_21 5 (dk_at dksX0_more_4 5 rfl rfl)
theorem dX0_more_99 : decode cX0_more 99 = .ok (.iconst 1, 1) := dk_4 (dk_at dksX0_more_4 7 rfl rfl)
theorem dX0_more_100 : decode cX0_more 100 = .ok (.aload_n 3, 1) := dk_45 (dk_at dksX0_more_4 8 rfl rfl)
theorem dX0_more_101 : decode cX0_more 101 = .ok (.invokevirtual 280, 3) := dk_182 1 24 (dk_at dksX0_more_4 9 rfl rfl)
theorem dX0_more_104 : decode cX0_more 104 = .ok (.ishl, 1) := dk_120 (dk_at dksX0_more_4 12 rfl rfl)
theorem dX0_more_105 : decode cX0_more 105 = .ok (.if_icmp .ge 70, 3) := dk_162 0 70 (dk_at dksX0_more_4 13 rfl rfl)
theorem dX0_more_108 : decode cX0_more 108 = .ok (.iload 5, 2) := dk_21 5 (dk_at dksX0_more_4 16 rfl rfl)
theorem dX0_more_110 : decode cX0_more 110 = .ok (.invokestatic 306, 3) := dk_184 1 50 (dk_at dksX0_more_4 18 rfl rfl)
theorem dX0_more_113 : decode cX0_more 113 = .ok (.istore 6, 2) := dk_54 6 (dk_at dksX0_more_4 21 rfl rfl)
theorem dX0_more_115 : decode cX0_more 115 = .ok (.iload 4, 2) := dk_21 4 (dk_at dksX0_more_5 0 rfl rfl)
theorem dX0_more_117 : decode cX0_more 117 = .ok (.iconst (-1), 1) := dk_2 (dk_at dksX0_more_5 2 rfl rfl)
theorem dX0_more_118 : decode cX0_more 118 = .ok (.if_icmp .eq 36, 3) := dk_159 0 36 (dk_at dksX0_more_5 3 rfl rfl)
theorem dX0_more_121 : decode cX0_more 121 = .ok (.iload 6, 2) := dk_21 6 (dk_at dksX0_more_5 6 rfl rfl)
theorem dX0_more_123 : decode cX0_more 123 = .ok (.iload 4, 2) := dk_21 4 (dk_at dksX0_more_5 8 rfl rfl)
theorem dX0_more_125 : decode cX0_more 125 = .ok (.invokestatic 306, 3) := dk_184 1 50 (dk_at dksX0_more_5 10 rfl rfl)
theorem dX0_more_128 : decode cX0_more 128 = .ok (.if_icmp .gt 41, 3) := dk_163 0 41 (dk_at dksX0_more_5 13 rfl rfl)
theorem dX0_more_131 : decode cX0_more 131 = .ok (.iload 6, 2) := dk_21 6 (dk_at dksX0_more_5 16 rfl rfl)
theorem dX0_more_133 : decode cX0_more 133 = .ok (.iload 4, 2) := dk_21 4 (dk_at dksX0_more_5 18 rfl rfl)
theorem dX0_more_135 : decode cX0_more 135 = .ok (.invokestatic 306, 3) := dk_184 1 50 (dk_at dksX0_more_5 20 rfl rfl)
theorem dX0_more_138 : decode cX0_more 138 = .ok (.if_icmp .ne 16, 3) := dk_160 0 16 (dk_at dksX0_more_6 0 rfl rfl)
theorem dX0_more_141 : decode cX0_more 141 = .ok (.iload 5, 2) := dk_21 5 (dk_at dksX0_more_6 3 rfl rfl)
theorem dX0_more_143 : decode cX0_more 143 = .ok (.iload 4, 2) := dk_21 4 (dk_at dksX0_more_6 5 rfl rfl)
theorem dX0_more_145 : decode cX0_more 145 = .ok (.invokestatic 311, 3) := dk_184 1 55 (dk_at dksX0_more_6 7 rfl rfl)
theorem dX0_more_148 : decode cX0_more 148 = .ok (.ifCond .ne 6, 3) := dk_154 0 6 (dk_at dksX0_more_6 10 rfl rfl)
theorem dX0_more_151 : decode cX0_more 151 = .ok (.goto 18, 3) := dk_167 0 18 (dk_at dksX0_more_6 13 rfl rfl)
theorem dX0_more_154 : decode cX0_more 154 = .ok (.aload_n 0, 1) := dk_42 (dk_at dksX0_more_6 16 rfl rfl)
theorem dX0_more_155 : decode cX0_more 155 = .ok (.aload_n 3, 1) := dk_45 (dk_at dksX0_more_6 17 rfl rfl)
theorem dX0_more_156 : decode cX0_more 156 = .ok (.iload 5, 2) := dk_21 5 (dk_at dksX0_more_6 18 rfl rfl)
theorem dX0_more_158 : decode cX0_more 158 = .ok (.iload_n 2, 1) := dk_28 (dk_at dksX0_more_6 20 rfl rfl)
theorem dX0_more_159 : decode cX0_more 159 = .ok (.invokevirtual 314, 3) := dk_182 1 58 (dk_at dksX0_more_6 21 rfl rfl)
theorem dX0_more_162 : decode cX0_more 162 = .ok (.ifCond .eq 7, 3) := dk_153 0 7 (dk_at dksX0_more_7 0 rfl rfl)
theorem dX0_more_165 : decode cX0_more 165 = .ok (.iload 5, 2) := dk_21 5 (dk_at dksX0_more_7 3 rfl rfl)
theorem dX0_more_167 : decode cX0_more 167 = .ok (.istore 4, 2) := dk_54 4 (dk_at dksX0_more_7 5 rfl rfl)
theorem dX0_more_169 : decode cX0_more 169 = .ok (.iinc 5 1, 3) := dk_132 5 1 (dk_at dksX0_more_7 7 rfl rfl)
theorem dX0_more_172 : decode cX0_more 172 = .ok (.goto (-75), 3) := dk_167 255 181 (dk_at dksX0_more_7 10 rfl rfl)
theorem dX0_more_175 : decode cX0_more 175 = .ok (.iload 4, 2) := dk_21 4 (dk_at dksX0_more_7 13 rfl rfl)
theorem dX0_more_177 : decode cX0_more 177 = .ok (.iconst (-1), 1) := dk_2 (dk_at dksX0_more_7 15 rfl rfl)
theorem dX0_more_178 : decode cX0_more 178 = .ok (.if_icmp .ne 5, 3) := dk_160 0 5 (dk_at dksX0_more_7 16 rfl rfl)
theorem dX0_more_181 : decode cX0_more 181 = .ok (.iconst (-1), 1) := dk_2 (dk_at dksX0_more_7 19 rfl rfl)
theorem dX0_more_182 : decode cX0_more 182 = .ok (.ireturn, 1) := dk_172 (dk_at dksX0_more_7 20 rfl rfl)
theorem dX0_more_183 : decode cX0_more 183 = .ok (.aload_n 0, 1) := dk_42 (dk_at dksX0_more_7 21 rfl rfl)
theorem dX0_more_184 : decode cX0_more 184 = .ok (.iload 4, 2) := dk_21 4 (dk_at dksX0_more_7 22 rfl rfl)
theorem dX0_more_186 : decode cX0_more 186 = .ok (.putfield 318, 3) := dk_181 1 62 (dk_at dksX0_more_8 0 rfl rfl)
theorem dX0_more_189 : decode cX0_more 189 = .ok (.iload 4, 2) := dk_21 4 (dk_at dksX0_more_8 3 rfl rfl)
theorem dX0_more_191 : decode cX0_more 191 = .ok (.invokestatic 306, 3) := dk_184 1 50 (dk_at dksX0_more_8 5 rfl rfl)
theorem dX0_more_194 : decode cX0_more 194 = .ok (.ireturn, 1) := dk_172 (dk_at dksX0_more_8 8 rfl rfl)
abbrev cX0_mayHave : ByteArray := prog_1_method_41_code
def yX0_mayHave : MethodName := ⟨RX0, "mayHave", "(LFrostRing$Slot;)Z"⟩
def dkwX0_mayHave_4 : List UInt8 := [153, 0, 7, 4, 167, 0, 4, 3, 61, 132, 4, 1, 167, 255, 222, 132, 3, 1, 167, 255, 149, 28, 172]
abbrev dktX0_mayHave_4 : List UInt8 := dkwX0_mayHave_4 ++ []
def dkwX0_mayHave_3 : List UInt8 := [54, 4, 21, 4, 29, 162, 0, 34, 28, 153, 0, 22, 43, 21, 4, 182, 1, 27, 43, 29, 182, 1, 27, 148]
abbrev dktX0_mayHave_3 : List UInt8 := dkwX0_mayHave_3 ++ dktX0_mayHave_4
def dkwX0_mayHave_2 : List UInt8 := [180, 0, 53, 180, 0, 149, 43, 29, 182, 1, 27, 136, 51, 154, 0, 7, 4, 167, 0, 4, 3, 61, 3]
abbrev dktX0_mayHave_2 : List UInt8 := dkwX0_mayHave_2 ++ dktX0_mayHave_3
def dkwX0_mayHave_1 : List UInt8 := [20, 1, 38, 184, 0, 5, 153, 0, 38, 42, 43, 29, 182, 1, 27, 136, 182, 0, 156, 2, 160, 0, 24, 42]
abbrev dktX0_mayHave_1 : List UInt8 := dkwX0_mayHave_1 ++ dktX0_mayHave_2
def dkwX0_mayHave_0 : List UInt8 := [4, 61, 3, 62, 29, 43, 182, 1, 24, 162, 0, 105, 28, 153, 0, 53, 43, 29, 182, 1, 27, 9]
abbrev dktX0_mayHave_0 : List UInt8 := dkwX0_mayHave_0 ++ dktX0_mayHave_1
theorem dksX0_mayHave_0 : cX0_mayHave.data.toList.drop 0 = dktX0_mayHave_0 := by decide +kernel
theorem dksX0_mayHave_1 : cX0_mayHave.data.toList.drop 22 = dktX0_mayHave_1 := dk_seg dksX0_mayHave_0 22 rfl rfl
theorem dksX0_mayHave_2 : cX0_mayHave.data.toList.drop 46 = dktX0_mayHave_2 := dk_seg dksX0_mayHave_1 24 rfl rfl
theorem dksX0_mayHave_3 : cX0_mayHave.data.toList.drop 69 = dktX0_mayHave_3 := dk_seg dksX0_mayHave_2 23 rfl rfl
theorem dksX0_mayHave_4 : cX0_mayHave.data.toList.drop 93 = dktX0_mayHave_4 := dk_seg dksX0_mayHave_3 24 rfl rfl
theorem dX0_mayHave_0 : decode cX0_mayHave 0 = .ok (.iconst 1, 1) := dk_4 (dk_at dksX0_mayHave_0 0 rfl rfl)
theorem dX0_mayHave_1 : decode cX0_mayHave 1 = .ok (.istore_n 2, 1) := dk_61 (dk_at dksX0_mayHave_0 1 rfl rfl)
theorem dX0_mayHave_2 : decode cX0_mayHave 2 = .ok (.iconst 0, 1) := dk_3 (dk_at dksX0_mayHave_0 2 rfl rfl)
theorem dX0_mayHave_3 : decode cX0_mayHave 3 = .ok (.istore_n 3, 1) := dk_62 (dk_at dksX0_mayHave_0 3 rfl rfl)
theorem dX0_mayHave_4 : decode cX0_mayHave 4 = .ok (.iload_n 3, 1) := dk_29 (dk_at dksX0_mayHave_0 4 rfl rfl)
theorem dX0_mayHave_5 : decode cX0_mayHave 5 = .ok (.aload_n 1, 1) := dk_43 (dk_at dksX0_mayHave_0 5 rfl rfl)
theorem dX0_mayHave_6 : decode cX0_mayHave 6 = .ok (.invokevirtual 280, 3) := dk_182 1 24 (dk_at dksX0_mayHave_0 6 rfl rfl)
theorem dX0_mayHave_9 : decode cX0_mayHave 9 = .ok (.if_icmp .ge 105, 3) := dk_162 0 105 (dk_at dksX0_mayHave_0 9 rfl rfl)
theorem dX0_mayHave_12 : decode cX0_mayHave 12 = .ok (.iload_n 2, 1) := dk_28 (dk_at dksX0_mayHave_0 12 rfl rfl)
theorem dX0_mayHave_13 : decode cX0_mayHave 13 = .ok (.ifCond .eq 53, 3) := dk_153 0 53 (dk_at dksX0_mayHave_0 13 rfl rfl)
theorem dX0_mayHave_16 : decode cX0_mayHave 16 = .ok (.aload_n 1, 1) := dk_43 (dk_at dksX0_mayHave_0 16 rfl rfl)
theorem dX0_mayHave_17 : decode cX0_mayHave 17 = .ok (.iload_n 3, 1) := dk_29 (dk_at dksX0_mayHave_0 17 rfl rfl)
theorem dX0_mayHave_18 : decode cX0_mayHave 18 = .ok (.invokevirtual 283, 3) := dk_182 1 27 (dk_at dksX0_mayHave_0 18 rfl rfl)
theorem dX0_mayHave_21 : decode cX0_mayHave 21 = .ok (.lconst 0, 1) := dk_9 (dk_at dksX0_mayHave_0 21 rfl rfl)
theorem dX0_mayHave_22 : decode cX0_mayHave 22 = .ok (.ldc2_w 294, 3) := dk_20 1 38 (dk_at dksX0_mayHave_1 0 rfl rfl)
theorem dX0_mayHave_25 : decode cX0_mayHave 25 = .ok (.invokestatic 5, 3) := dk_184 0 5 (dk_at dksX0_mayHave_1 3 rfl rfl)
theorem dX0_mayHave_28 : decode cX0_mayHave 28 = .ok (.ifCond .eq 38, 3) := dk_153 0 38 (dk_at dksX0_mayHave_1 6 rfl rfl)
theorem dX0_mayHave_31 : decode cX0_mayHave 31 = .ok (.aload_n 0, 1) := dk_42 (dk_at dksX0_mayHave_1 9 rfl rfl)
theorem dX0_mayHave_32 : decode cX0_mayHave 32 = .ok (.aload_n 1, 1) := dk_43 (dk_at dksX0_mayHave_1 10 rfl rfl)
theorem dX0_mayHave_33 : decode cX0_mayHave 33 = .ok (.iload_n 3, 1) := dk_29 (dk_at dksX0_mayHave_1 11 rfl rfl)
theorem dX0_mayHave_34 : decode cX0_mayHave 34 = .ok (.invokevirtual 283, 3) := dk_182 1 27 (dk_at dksX0_mayHave_1 12 rfl rfl)
theorem dX0_mayHave_37 : decode cX0_mayHave 37 = .ok (.l2i, 1) := dk_136 (dk_at dksX0_mayHave_1 15 rfl rfl)
theorem dX0_mayHave_38 : decode cX0_mayHave 38 = .ok (.invokevirtual 156, 3) := dk_182 0 156 (dk_at dksX0_mayHave_1 16 rfl rfl)
theorem dX0_mayHave_41 : decode cX0_mayHave 41 = .ok (.iconst (-1), 1) := dk_2 (dk_at dksX0_mayHave_1 19 rfl rfl)
theorem dX0_mayHave_42 : decode cX0_mayHave 42 = .ok (.if_icmp .ne 24, 3) := dk_160 0 24 (dk_at dksX0_mayHave_1 20 rfl rfl)
theorem dX0_mayHave_45 : decode cX0_mayHave 45 = .ok (.aload_n 0, 1) := dk_42 (dk_at dksX0_mayHave_1 23 rfl rfl)
theorem dX0_mayHave_46 : decode cX0_mayHave 46 = .ok (.getfield 53, 3) := dk_180 0 53 (dk_at dksX0_mayHave_2 0 rfl rfl)
theorem dX0_mayHave_49 : decode cX0_mayHave 49 = .ok (.getfield 149, 3) := dk_180 0 149 (dk_at dksX0_mayHave_2 3 rfl rfl)
theorem dX0_mayHave_52 : decode cX0_mayHave 52 = .ok (.aload_n 1, 1) := dk_43 (dk_at dksX0_mayHave_2 6 rfl rfl)
theorem dX0_mayHave_53 : decode cX0_mayHave 53 = .ok (.iload_n 3, 1) := dk_29 (dk_at dksX0_mayHave_2 7 rfl rfl)
theorem dX0_mayHave_54 : decode cX0_mayHave 54 = .ok (.invokevirtual 283, 3) := dk_182 1 27 (dk_at dksX0_mayHave_2 8 rfl rfl)
theorem dX0_mayHave_57 : decode cX0_mayHave 57 = .ok (.l2i, 1) := dk_136 (dk_at dksX0_mayHave_2 11 rfl rfl)
theorem dX0_mayHave_58 : decode cX0_mayHave 58 = .ok (.baload, 1) := dk_51 (dk_at dksX0_mayHave_2 12 rfl rfl)
theorem dX0_mayHave_59 : decode cX0_mayHave 59 = .ok (.ifCond .ne 7, 3) := dk_154 0 7 (dk_at dksX0_mayHave_2 13 rfl rfl)
theorem dX0_mayHave_62 : decode cX0_mayHave 62 = .ok (.iconst 1, 1) := dk_4 (dk_at dksX0_mayHave_2 16 rfl rfl)
theorem dX0_mayHave_63 : decode cX0_mayHave 63 = .ok (.goto 4, 3) := dk_167 0 4 (dk_at dksX0_mayHave_2 17 rfl rfl)
theorem dX0_mayHave_66 : decode cX0_mayHave 66 = .ok (.iconst 0, 1) := dk_3 (dk_at dksX0_mayHave_2 20 rfl rfl)
theorem dX0_mayHave_67 : decode cX0_mayHave 67 = .ok (.istore_n 2, 1) := dk_61 (dk_at dksX0_mayHave_2 21 rfl rfl)
theorem dX0_mayHave_68 : decode cX0_mayHave 68 = .ok (.iconst 0, 1) := dk_3 (dk_at dksX0_mayHave_2 22 rfl rfl)
theorem dX0_mayHave_69 : decode cX0_mayHave 69 = .ok (.istore 4, 2) := dk_54 4 (dk_at dksX0_mayHave_3 0 rfl rfl)
theorem dX0_mayHave_71 : decode cX0_mayHave 71 = .ok (.iload 4, 2) := dk_21 4 (dk_at dksX0_mayHave_3 2 rfl rfl)
theorem dX0_mayHave_73 : decode cX0_mayHave 73 = .ok (.iload_n 3, 1) := dk_29 (dk_at dksX0_mayHave_3 4 rfl rfl)
theorem dX0_mayHave_74 : decode cX0_mayHave 74 = .ok (.if_icmp .ge 34, 3) := dk_162 0 34 (dk_at dksX0_mayHave_3 5 rfl rfl)
theorem dX0_mayHave_77 : decode cX0_mayHave 77 = .ok (.iload_n 2, 1) := dk_28 (dk_at dksX0_mayHave_3 8 rfl rfl)
theorem dX0_mayHave_78 : decode cX0_mayHave 78 = .ok (.ifCond .eq 22, 3) := dk_153 0 22 (dk_at dksX0_mayHave_3 9 rfl rfl)
theorem dX0_mayHave_81 : decode cX0_mayHave 81 = .ok (.aload_n 1, 1) := dk_43 (dk_at dksX0_mayHave_3 12 rfl rfl)
theorem dX0_mayHave_82 : decode cX0_mayHave 82 = .ok (.iload 4, 2) := dk_21 4 (dk_at dksX0_mayHave_3 13 rfl rfl)
theorem dX0_mayHave_84 : decode cX0_mayHave 84 = .ok (.invokevirtual 283, 3) := dk_182 1 27 (dk_at dksX0_mayHave_3 15 rfl rfl)
theorem dX0_mayHave_87 : decode cX0_mayHave 87 = .ok (.aload_n 1, 1) := dk_43 (dk_at dksX0_mayHave_3 18 rfl rfl)
theorem dX0_mayHave_88 : decode cX0_mayHave 88 = .ok (.iload_n 3, 1) := dk_29 (dk_at dksX0_mayHave_3 19 rfl rfl)
theorem dX0_mayHave_89 : decode cX0_mayHave 89 = .ok (.invokevirtual 283, 3) := dk_182 1 27 (dk_at dksX0_mayHave_3 20 rfl rfl)
theorem dX0_mayHave_92 : decode cX0_mayHave 92 = .ok (.lcmp, 1) := dk_148 (dk_at dksX0_mayHave_3 23 rfl rfl)
theorem dX0_mayHave_93 : decode cX0_mayHave 93 = .ok (.ifCond .eq 7, 3) := dk_153 0 7 (dk_at dksX0_mayHave_4 0 rfl rfl)
theorem dX0_mayHave_96 : decode cX0_mayHave 96 = .ok (.iconst 1, 1) := dk_4 (dk_at dksX0_mayHave_4 3 rfl rfl)
theorem dX0_mayHave_97 : decode cX0_mayHave 97 = .ok (.goto 4, 3) := dk_167 0 4 (dk_at dksX0_mayHave_4 4 rfl rfl)
theorem dX0_mayHave_100 : decode cX0_mayHave 100 = .ok (.iconst 0, 1) := dk_3 (dk_at dksX0_mayHave_4 7 rfl rfl)
theorem dX0_mayHave_101 : decode cX0_mayHave 101 = .ok (.istore_n 2, 1) := dk_61 (dk_at dksX0_mayHave_4 8 rfl rfl)
theorem dX0_mayHave_102 : decode cX0_mayHave 102 = .ok (.iinc 4 1, 3) := dk_132 4 1 (dk_at dksX0_mayHave_4 9 rfl rfl)
theorem dX0_mayHave_105 : decode cX0_mayHave 105 = .ok (.goto (-34), 3) := dk_167 255 222 (dk_at dksX0_mayHave_4 12 rfl rfl)
theorem dX0_mayHave_108 : decode cX0_mayHave 108 = .ok (.iinc 3 1, 3) := dk_132 3 1 (dk_at dksX0_mayHave_4 15 rfl rfl)
theorem dX0_mayHave_111 : decode cX0_mayHave 111 = .ok (.goto (-107), 3) := dk_167 255 149 (dk_at dksX0_mayHave_4 18 rfl rfl)
theorem dX0_mayHave_114 : decode cX0_mayHave 114 = .ok (.iload_n 2, 1) := dk_28 (dk_at dksX0_mayHave_4 21 rfl rfl)
theorem dX0_mayHave_115 : decode cX0_mayHave 115 = .ok (.ireturn, 1) := dk_172 (dk_at dksX0_mayHave_4 22 rfl rfl)
abbrev cX0_isAhead : ByteArray := prog_1_method_42_code
def yX0_isAhead : MethodName := ⟨RX0, "isAhead", "(II)Z"⟩
def dkwX0_isAhead_0 : List UInt8 := [26, 27, 130, 61, 26, 28, 126, 28, 116, 126, 153, 0, 7, 4, 167, 0, 4, 3, 172]
abbrev dktX0_isAhead_0 : List UInt8 := dkwX0_isAhead_0 ++ []
theorem dksX0_isAhead_0 : cX0_isAhead.data.toList.drop 0 = dktX0_isAhead_0 := by decide +kernel
theorem dX0_isAhead_0 : decode cX0_isAhead 0 = .ok (.iload_n 0, 1) := dk_26 (dk_at dksX0_isAhead_0 0 rfl rfl)
theorem dX0_isAhead_1 : decode cX0_isAhead 1 = .ok (.iload_n 1, 1) := dk_27 (dk_at dksX0_isAhead_0 1 rfl rfl)
theorem dX0_isAhead_2 : decode cX0_isAhead 2 = .ok (.ixor, 1) := dk_130 (dk_at dksX0_isAhead_0 2 rfl rfl)
theorem dX0_isAhead_3 : decode cX0_isAhead 3 = .ok (.istore_n 2, 1) := dk_61 (dk_at dksX0_isAhead_0 3 rfl rfl)
theorem dX0_isAhead_4 : decode cX0_isAhead 4 = .ok (.iload_n 0, 1) := dk_26 (dk_at dksX0_isAhead_0 4 rfl rfl)
theorem dX0_isAhead_5 : decode cX0_isAhead 5 = .ok (.iload_n 2, 1) := dk_28 (dk_at dksX0_isAhead_0 5 rfl rfl)
theorem dX0_isAhead_6 : decode cX0_isAhead 6 = .ok (.iand, 1) := dk_126 (dk_at dksX0_isAhead_0 6 rfl rfl)
theorem dX0_isAhead_7 : decode cX0_isAhead 7 = .ok (.iload_n 2, 1) := dk_28 (dk_at dksX0_isAhead_0 7 rfl rfl)
theorem dX0_isAhead_8 : decode cX0_isAhead 8 = .ok (.ineg, 1) := dk_116 (dk_at dksX0_isAhead_0 8 rfl rfl)
theorem dX0_isAhead_9 : decode cX0_isAhead 9 = .ok (.iand, 1) := dk_126 (dk_at dksX0_isAhead_0 9 rfl rfl)
theorem dX0_isAhead_10 : decode cX0_isAhead 10 = .ok (.ifCond .eq 7, 3) := dk_153 0 7 (dk_at dksX0_isAhead_0 10 rfl rfl)
theorem dX0_isAhead_13 : decode cX0_isAhead 13 = .ok (.iconst 1, 1) := dk_4 (dk_at dksX0_isAhead_0 13 rfl rfl)
theorem dX0_isAhead_14 : decode cX0_isAhead 14 = .ok (.goto 4, 3) := dk_167 0 4 (dk_at dksX0_isAhead_0 14 rfl rfl)
theorem dX0_isAhead_17 : decode cX0_isAhead 17 = .ok (.iconst 0, 1) := dk_3 (dk_at dksX0_isAhead_0 17 rfl rfl)
theorem dX0_isAhead_18 : decode cX0_isAhead 18 = .ok (.ireturn, 1) := dk_172 (dk_at dksX0_isAhead_0 18 rfl rfl)
abbrev cX0_shutsBy : ByteArray := prog_1_method_40_code
def yX0_shutsBy : MethodName := ⟨RX0, "shutsBy", "(LFrostRing$Slot;II)Z"⟩
def dkwX0_shutsBy_5 : List UInt8 := [180, 0, 57, 182, 0, 210, 172]
abbrev dktX0_shutsBy_5 : List UInt8 := dkwX0_shutsBy_5 ++ []
def dkwX0_shutsBy_4 : List UInt8 := [54, 5, 21, 5, 29, 162, 0, 16, 42, 180, 0, 57, 182, 0, 110, 132, 5, 1, 167, 255, 240, 42]
abbrev dktX0_shutsBy_4 : List UInt8 := dkwX0_shutsBy_4 ++ dktX0_shutsBy_5
def dkwX0_shutsBy_3 : List UInt8 := [180, 0, 188, 25, 4, 180, 0, 191, 183, 1, 31, 185, 1, 34, 2, 0, 87, 132, 5, 1, 167, 255, 197, 3]
abbrev dktX0_shutsBy_3 : List UInt8 := dkwX0_shutsBy_3 ++ dktX0_shutsBy_4
def dkwX0_shutsBy_2 : List UInt8 := [160, 0, 40, 42, 180, 0, 57, 180, 0, 113, 187, 0, 127, 89, 43, 21, 5, 182, 1, 27, 136, 25, 4]
abbrev dktX0_shutsBy_2 : List UInt8 := dkwX0_shutsBy_2 ++ dktX0_shutsBy_3
def dkwX0_shutsBy_1 : List UInt8 := [192, 0, 127, 58, 4, 3, 54, 5, 21, 5, 43, 182, 1, 24, 162, 0, 56, 28, 21, 5, 122, 4, 126, 4]
abbrev dktX0_shutsBy_1 : List UInt8 := dkwX0_shutsBy_1 ++ dktX0_shutsBy_2
def dkwX0_shutsBy_0 : List UInt8 := [42, 180, 0, 57, 42, 180, 0, 53, 182, 1, 21, 42, 180, 0, 53, 180, 0, 113, 3, 185, 0, 123, 2, 0]
abbrev dktX0_shutsBy_0 : List UInt8 := dkwX0_shutsBy_0 ++ dktX0_shutsBy_1
theorem dksX0_shutsBy_0 : cX0_shutsBy.data.toList.drop 0 = dktX0_shutsBy_0 := by decide +kernel
theorem dksX0_shutsBy_1 : cX0_shutsBy.data.toList.drop 24 = dktX0_shutsBy_1 := dk_seg dksX0_shutsBy_0 24 rfl rfl
theorem dksX0_shutsBy_2 : cX0_shutsBy.data.toList.drop 48 = dktX0_shutsBy_2 := dk_seg dksX0_shutsBy_1 24 rfl rfl
theorem dksX0_shutsBy_3 : cX0_shutsBy.data.toList.drop 71 = dktX0_shutsBy_3 := dk_seg dksX0_shutsBy_2 23 rfl rfl
theorem dksX0_shutsBy_4 : cX0_shutsBy.data.toList.drop 95 = dktX0_shutsBy_4 := dk_seg dksX0_shutsBy_3 24 rfl rfl
theorem dksX0_shutsBy_5 : cX0_shutsBy.data.toList.drop 117 = dktX0_shutsBy_5 := dk_seg dksX0_shutsBy_4 22 rfl rfl
theorem dX0_shutsBy_0 : decode cX0_shutsBy 0 = .ok (.aload_n 0, 1) := dk_42 (dk_at dksX0_shutsBy_0 0 rfl rfl)
theorem dX0_shutsBy_1 : decode cX0_shutsBy 1 = .ok (.getfield 57, 3) := dk_180 0 57 (dk_at dksX0_shutsBy_0 1 rfl rfl)
theorem dX0_shutsBy_4 : decode cX0_shutsBy 4 = .ok (.aload_n 0, 1) := dk_42 (dk_at dksX0_shutsBy_0 4 rfl rfl)
theorem dX0_shutsBy_5 : decode cX0_shutsBy 5 = .ok (.getfield 53, 3) := dk_180 0 53 (dk_at dksX0_shutsBy_0 5 rfl rfl)
theorem dX0_shutsBy_8 : decode cX0_shutsBy 8 = .ok (.invokevirtual 277, 3) := dk_182 1 21 (dk_at dksX0_shutsBy_0 8 rfl rfl)
theorem dX0_shutsBy_11 : decode cX0_shutsBy 11 = .ok (.aload_n 0, 1) := dk_42 (dk_at dksX0_shutsBy_0 11 rfl rfl)
theorem dX0_shutsBy_12 : decode cX0_shutsBy 12 = .ok (.getfield 53, 3) := dk_180 0 53 (dk_at dksX0_shutsBy_0 12 rfl rfl)
theorem dX0_shutsBy_15 : decode cX0_shutsBy 15 = .ok (.getfield 113, 3) := dk_180 0 113 (dk_at dksX0_shutsBy_0 15 rfl rfl)
theorem dX0_shutsBy_18 : decode cX0_shutsBy 18 = .ok (.iconst 0, 1) := dk_3 (dk_at dksX0_shutsBy_0 18 rfl rfl)
theorem dX0_shutsBy_19 : decode cX0_shutsBy 19 = .ok (.invokeinterface 123 2, 5) := by decide +kernel
theorem dX0_shutsBy_24 : decode cX0_shutsBy 24 = .ok (.checkcast 127, 3) := dk_192 0 127 (dk_at dksX0_shutsBy_1 0 rfl rfl)
theorem dX0_shutsBy_27 : decode cX0_shutsBy 27 = .ok (.astore 4, 2) := dk_58 4 (dk_at dksX0_shutsBy_1 3 rfl rfl)
theorem dX0_shutsBy_29 : decode cX0_shutsBy 29 = .ok (.iconst 0, 1) := dk_3 (dk_at dksX0_shutsBy_1 5 rfl rfl)
theorem dX0_shutsBy_30 : decode cX0_shutsBy 30 = .ok (.istore 5, 2) := dk_54 5 (dk_at dksX0_shutsBy_1 6 rfl rfl)
theorem dX0_shutsBy_32 : decode cX0_shutsBy 32 = .ok (.iload 5, 2) := dk_21 5 (dk_at dksX0_shutsBy_1 8 rfl rfl)
theorem dX0_shutsBy_34 : decode cX0_shutsBy 34 = .ok (.aload_n 1, 1) := dk_43 (dk_at dksX0_shutsBy_1 10 rfl rfl)
theorem dX0_shutsBy_35 : decode cX0_shutsBy 35 = .ok (.invokevirtual 280, 3) := dk_182 1 24 (dk_at dksX0_shutsBy_1 11 rfl rfl)
theorem dX0_shutsBy_38 : decode cX0_shutsBy 38 = .ok (.if_icmp .ge 56, 3) := dk_162 0 56 (dk_at dksX0_shutsBy_1 14 rfl rfl)
theorem dX0_shutsBy_41 : decode cX0_shutsBy 41 = .ok (.iload_n 2, 1) := dk_28 (dk_at dksX0_shutsBy_1 17 rfl rfl)
theorem dX0_shutsBy_42 : decode cX0_shutsBy 42 = .ok (.iload 5, 2) := dk_21 5 (dk_at dksX0_shutsBy_1 18 rfl rfl)
theorem dX0_shutsBy_44 : decode cX0_shutsBy 44 = .ok (.ishr, 1) := dk_122 (dk_at dksX0_shutsBy_1 20 rfl rfl)
theorem dX0_shutsBy_45 : decode cX0_shutsBy 45 = .ok (.iconst 1, 1) := dk_4 (dk_at dksX0_shutsBy_1 21 rfl rfl)
theorem dX0_shutsBy_46 : decode cX0_shutsBy 46 = .ok (.iand, 1) := dk_126 (dk_at dksX0_shutsBy_1 22 rfl rfl)
theorem dX0_shutsBy_47 : decode cX0_shutsBy 47 = .ok (.iconst 1, 1) := dk_4 (dk_at dksX0_shutsBy_1 23 rfl rfl)
theorem dX0_shutsBy_48 : decode cX0_shutsBy 48 = .ok (.if_icmp .ne 40, 3) := dk_160 0 40 (dk_at dksX0_shutsBy_2 0 rfl rfl)
theorem dX0_shutsBy_51 : decode cX0_shutsBy 51 = .ok (.aload_n 0, 1) := dk_42 (dk_at dksX0_shutsBy_2 3 rfl rfl)
theorem dX0_shutsBy_52 : decode cX0_shutsBy 52 = .ok (.getfield 57, 3) := dk_180 0 57 (dk_at dksX0_shutsBy_2 4 rfl rfl)
theorem dX0_shutsBy_55 : decode cX0_shutsBy 55 = .ok (.getfield 113, 3) := dk_180 0 113 (dk_at dksX0_shutsBy_2 7 rfl rfl)
theorem dX0_shutsBy_58 : decode cX0_shutsBy 58 = .ok (.new 127, 3) := dk_187 0 127 (dk_at dksX0_shutsBy_2 10 rfl rfl)
theorem dX0_shutsBy_61 : decode cX0_shutsBy 61 = .ok (.dup, 1) := dk_89 (dk_at dksX0_shutsBy_2 13 rfl rfl)
theorem dX0_shutsBy_62 : decode cX0_shutsBy 62 = .ok (.aload_n 1, 1) := dk_43 (dk_at dksX0_shutsBy_2 14 rfl rfl)
theorem dX0_shutsBy_63 : decode cX0_shutsBy 63 = .ok (.iload 5, 2) := dk_21 5 (dk_at dksX0_shutsBy_2 15 rfl rfl)
theorem dX0_shutsBy_65 : decode cX0_shutsBy 65 = .ok (.invokevirtual 283, 3) := dk_182 1 27 (dk_at dksX0_shutsBy_2 17 rfl rfl)
theorem dX0_shutsBy_68 : decode cX0_shutsBy 68 = .ok (.l2i, 1) := dk_136 (dk_at dksX0_shutsBy_2 20 rfl rfl)
theorem dX0_shutsBy_69 : decode cX0_shutsBy 69 = .ok (.aload 4, 2) := dk_25 4 (dk_at dksX0_shutsBy_2 21 rfl rfl)
theorem dX0_shutsBy_71 : decode cX0_shutsBy 71 = .ok (.getfield 188, 3) := dk_180 0 188 (dk_at dksX0_shutsBy_3 0 rfl rfl)
theorem dX0_shutsBy_74 : decode cX0_shutsBy 74 = .ok (.aload 4, 2) := dk_25 4 (dk_at dksX0_shutsBy_3 3 rfl rfl)
theorem dX0_shutsBy_76 : decode cX0_shutsBy 76 = .ok (.getfield 191, 3) := dk_180 0 191 (dk_at dksX0_shutsBy_3 5 rfl rfl)
theorem dX0_shutsBy_79 : decode cX0_shutsBy 79 = .ok (.invokespecial 287, 3) := dk_183 1 31 (dk_at dksX0_shutsBy_3 8 rfl rfl)
theorem dX0_shutsBy_82 : decode cX0_shutsBy 82 = .ok (.invokeinterface 290 2, 5) := by decide +kernel
theorem dX0_shutsBy_87 : decode cX0_shutsBy 87 = .ok (.pop, 1) := dk_87 (dk_at dksX0_shutsBy_3 16 rfl rfl)
theorem dX0_shutsBy_88 : decode cX0_shutsBy 88 = .ok (.iinc 5 1, 3) := dk_132 5 1 (dk_at dksX0_shutsBy_3 17 rfl rfl)
theorem dX0_shutsBy_91 : decode cX0_shutsBy 91 = .ok (.goto (-59), 3) := dk_167 255 197 (dk_at dksX0_shutsBy_3 20 rfl rfl)
theorem dX0_shutsBy_94 : decode cX0_shutsBy 94 = .ok (.iconst 0, 1) := dk_3 (dk_at dksX0_shutsBy_3 23 rfl rfl)
theorem dX0_shutsBy_95 : decode cX0_shutsBy 95 = .ok (.istore 5, 2) := dk_54 5 (dk_at dksX0_shutsBy_4 0 rfl rfl)
theorem dX0_shutsBy_97 : decode cX0_shutsBy 97 = .ok (.iload 5, 2) := dk_21 5 (dk_at dksX0_shutsBy_4 2 rfl rfl)
theorem dX0_shutsBy_99 : decode cX0_shutsBy 99 = .ok (.iload_n 3, 1) := dk_29 (dk_at dksX0_shutsBy_4 4 rfl rfl)
theorem dX0_shutsBy_100 : decode cX0_shutsBy 100 = .ok (.if_icmp .ge 16, 3) := dk_162 0 16 (dk_at dksX0_shutsBy_4 5 rfl rfl)
theorem dX0_shutsBy_103 : decode cX0_shutsBy 103 = .ok (.aload_n 0, 1) := dk_42 (dk_at dksX0_shutsBy_4 8 rfl rfl)
theorem dX0_shutsBy_104 : decode cX0_shutsBy 104 = .ok (.getfield 57, 3) := dk_180 0 57 (dk_at dksX0_shutsBy_4 9 rfl rfl)
theorem dX0_shutsBy_107 : decode cX0_shutsBy 107 = .ok (.invokevirtual 110, 3) := dk_182 0 110 (dk_at dksX0_shutsBy_4 12 rfl rfl)
theorem dX0_shutsBy_110 : decode cX0_shutsBy 110 = .ok (.iinc 5 1, 3) := dk_132 5 1 (dk_at dksX0_shutsBy_4 15 rfl rfl)
theorem dX0_shutsBy_113 : decode cX0_shutsBy 113 = .ok (.goto (-16), 3) := dk_167 255 240 (dk_at dksX0_shutsBy_4 18 rfl rfl)
theorem dX0_shutsBy_116 : decode cX0_shutsBy 116 = .ok (.aload_n 0, 1) := dk_42 (dk_at dksX0_shutsBy_4 21 rfl rfl)
theorem dX0_shutsBy_117 : decode cX0_shutsBy 117 = .ok (.getfield 57, 3) := dk_180 0 57 (dk_at dksX0_shutsBy_5 0 rfl rfl)
theorem dX0_shutsBy_120 : decode cX0_shutsBy 120 = .ok (.invokevirtual 210, 3) := dk_182 0 210 (dk_at dksX0_shutsBy_5 3 rfl rfl)
theorem dX0_shutsBy_123 : decode cX0_shutsBy 123 = .ok (.ireturn, 1) := dk_172 (dk_at dksX0_shutsBy_5 6 rfl rfl)
abbrev cX0_chosen : ByteArray := prog_1_method_44_code
def yX0_chosen : MethodName := ⟨RX0, "chosen", "()I"⟩
theorem dX0_chosen_0 : decode cX0_chosen 0 = .ok (.aload_n 0, 1) := by decide +kernel
theorem dX0_chosen_1 : decode cX0_chosen 1 = .ok (.getfield 318, 3) := by decide +kernel
theorem dX0_chosen_4 : decode cX0_chosen 4 = .ok (.ireturn, 1) := by decide +kernel
abbrev cX0_gauge : ByteArray := prog_1_method_45_code
def yX0_gauge : MethodName := ⟨RX0, "gauge", "(IIII)I"⟩
def dkwX0_gauge_2 : List UInt8 := [16, 12, 29, 104, 28, 96, 79, 42, 180, 0, 53, 180, 1, 74, 27, 21, 4, 79, 3, 172]
abbrev dktX0_gauge_2 : List UInt8 := dkwX0_gauge_2 ++ []
def dkwX0_gauge_1 : List UInt8 := [20, 1, 67, 20, 1, 69, 184, 0, 5, 154, 0, 6, 16, 254, 172, 42, 180, 0, 53, 180, 1, 71, 27]
abbrev dktX0_gauge_1 : List UInt8 := dkwX0_gauge_1 ++ dktX0_gauge_2
def dkwX0_gauge_0 : List UInt8 := [27, 133, 9, 20, 1, 65, 184, 0, 5, 153, 0, 26, 28, 29, 184, 0, 132, 153, 0, 18, 21, 4, 133]
abbrev dktX0_gauge_0 : List UInt8 := dkwX0_gauge_0 ++ dktX0_gauge_1
theorem dksX0_gauge_0 : cX0_gauge.data.toList.drop 0 = dktX0_gauge_0 := by decide +kernel
theorem dksX0_gauge_1 : cX0_gauge.data.toList.drop 23 = dktX0_gauge_1 := dk_seg dksX0_gauge_0 23 rfl rfl
theorem dksX0_gauge_2 : cX0_gauge.data.toList.drop 46 = dktX0_gauge_2 := dk_seg dksX0_gauge_1 23 rfl rfl
theorem dX0_gauge_0 : decode cX0_gauge 0 = .ok (.iload_n 1, 1) := dk_27 (dk_at dksX0_gauge_0 0 rfl rfl)
theorem dX0_gauge_1 : decode cX0_gauge 1 = .ok (.i2l, 1) := dk_133 (dk_at dksX0_gauge_0 1 rfl rfl)
theorem dX0_gauge_2 : decode cX0_gauge 2 = .ok (.lconst 0, 1) := dk_9 (dk_at dksX0_gauge_0 2 rfl rfl)
theorem dX0_gauge_3 : decode cX0_gauge 3 = .ok (.ldc2_w 321, 3) := dk_20 1 65 (dk_at dksX0_gauge_0 3 rfl rfl)
theorem dX0_gauge_6 : decode cX0_gauge 6 = .ok (.invokestatic 5, 3) := dk_184 0 5 (dk_at dksX0_gauge_0 6 rfl rfl)
theorem dX0_gauge_9 : decode cX0_gauge 9 = .ok (.ifCond .eq 26, 3) := dk_153 0 26 (dk_at dksX0_gauge_0 9 rfl rfl)
theorem dX0_gauge_12 : decode cX0_gauge 12 = .ok (.iload_n 2, 1) := dk_28 (dk_at dksX0_gauge_0 12 rfl rfl)
theorem dX0_gauge_13 : decode cX0_gauge 13 = .ok (.iload_n 3, 1) := dk_29 (dk_at dksX0_gauge_0 13 rfl rfl)
theorem dX0_gauge_14 : decode cX0_gauge 14 = .ok (.invokestatic 132, 3) := dk_184 0 132 (dk_at dksX0_gauge_0 14 rfl rfl)
theorem dX0_gauge_17 : decode cX0_gauge 17 = .ok (.ifCond .eq 18, 3) := dk_153 0 18 (dk_at dksX0_gauge_0 17 rfl rfl)
theorem dX0_gauge_20 : decode cX0_gauge 20 = .ok (.iload 4, 2) := dk_21 4 (dk_at dksX0_gauge_0 20 rfl rfl)
theorem dX0_gauge_22 : decode cX0_gauge 22 = .ok (.i2l, 1) := dk_133 (dk_at dksX0_gauge_0 22 rfl rfl)
theorem dX0_gauge_23 : decode cX0_gauge 23 = .ok (.ldc2_w 323, 3) := dk_20 1 67 (dk_at dksX0_gauge_1 0 rfl rfl)
theorem dX0_gauge_26 : decode cX0_gauge 26 = .ok (.ldc2_w 325, 3) := dk_20 1 69 (dk_at dksX0_gauge_1 3 rfl rfl)
theorem dX0_gauge_29 : decode cX0_gauge 29 = .ok (.invokestatic 5, 3) := dk_184 0 5 (dk_at dksX0_gauge_1 6 rfl rfl)
theorem dX0_gauge_32 : decode cX0_gauge 32 = .ok (.ifCond .ne 6, 3) := dk_154 0 6 (dk_at dksX0_gauge_1 9 rfl rfl)
theorem dX0_gauge_35 : decode cX0_gauge 35 = .ok (.bipush (-2), 2) := dk_16 254 (dk_at dksX0_gauge_1 12 rfl rfl)
theorem dX0_gauge_37 : decode cX0_gauge 37 = .ok (.ireturn, 1) := dk_172 (dk_at dksX0_gauge_1 14 rfl rfl)
theorem dX0_gauge_38 : decode cX0_gauge 38 = .ok (.aload_n 0, 1) := dk_42 (dk_at dksX0_gauge_1 15 rfl rfl)
theorem dX0_gauge_39 : decode cX0_gauge 39 = .ok (.getfield 53, 3) := dk_180 0 53 (dk_at dksX0_gauge_1 16 rfl rfl)
theorem dX0_gauge_42 : decode cX0_gauge 42 = .ok (.getfield 327, 3) := dk_180 1 71 (dk_at dksX0_gauge_1 19 rfl rfl)
theorem dX0_gauge_45 : decode cX0_gauge 45 = .ok (.iload_n 1, 1) := dk_27 (dk_at dksX0_gauge_1 22 rfl rfl)
theorem dX0_gauge_46 : decode cX0_gauge 46 = .ok (.bipush 12, 2) := dk_16 12 (dk_at dksX0_gauge_2 0 rfl rfl)
theorem dX0_gauge_48 : decode cX0_gauge 48 = .ok (.iload_n 3, 1) := dk_29 (dk_at dksX0_gauge_2 2 rfl rfl)
theorem dX0_gauge_49 : decode cX0_gauge 49 = .ok (.imul, 1) := dk_104 (dk_at dksX0_gauge_2 3 rfl rfl)
theorem dX0_gauge_50 : decode cX0_gauge 50 = .ok (.iload_n 2, 1) := dk_28 (dk_at dksX0_gauge_2 4 rfl rfl)
theorem dX0_gauge_51 : decode cX0_gauge 51 = .ok (.iadd, 1) := dk_96 (dk_at dksX0_gauge_2 5 rfl rfl)
theorem dX0_gauge_52 : decode cX0_gauge 52 = .ok (.iastore, 1) := dk_79 (dk_at dksX0_gauge_2 6 rfl rfl)
theorem dX0_gauge_53 : decode cX0_gauge 53 = .ok (.aload_n 0, 1) := dk_42 (dk_at dksX0_gauge_2 7 rfl rfl)
theorem dX0_gauge_54 : decode cX0_gauge 54 = .ok (.getfield 53, 3) := dk_180 0 53 (dk_at dksX0_gauge_2 8 rfl rfl)
theorem dX0_gauge_57 : decode cX0_gauge 57 = .ok (.getfield 330, 3) := dk_180 1 74 (dk_at dksX0_gauge_2 11 rfl rfl)
theorem dX0_gauge_60 : decode cX0_gauge 60 = .ok (.iload_n 1, 1) := dk_27 (dk_at dksX0_gauge_2 14 rfl rfl)
theorem dX0_gauge_61 : decode cX0_gauge 61 = .ok (.iload 4, 2) := dk_21 4 (dk_at dksX0_gauge_2 15 rfl rfl)
theorem dX0_gauge_63 : decode cX0_gauge 63 = .ok (.iastore, 1) := dk_79 (dk_at dksX0_gauge_2 17 rfl rfl)
theorem dX0_gauge_64 : decode cX0_gauge 64 = .ok (.iconst 0, 1) := dk_3 (dk_at dksX0_gauge_2 18 rfl rfl)
theorem dX0_gauge_65 : decode cX0_gauge 65 = .ok (.ireturn, 1) := dk_172 (dk_at dksX0_gauge_2 19 rfl rfl)
abbrev cX0_lies : ByteArray := prog_1_method_46_code
def yX0_lies : MethodName := ⟨RX0, "lies", "(I)I"⟩
def dkwX0_lies_4 : List UInt8 := [167, 255, 184, 28, 172]
abbrev dktX0_lies_4 : List UInt8 := dkwX0_lies_4 ++ []
def dkwX0_lies_3 : List UInt8 := [180, 1, 74, 29, 46, 100, 184, 1, 79, 27, 164, 0, 9, 28, 4, 29, 120, 128, 61, 132, 3, 1]
abbrev dktX0_lies_3 : List UInt8 := dkwX0_lies_3 ++ dktX0_lies_4
def dkwX0_lies_2 : List UInt8 := [180, 0, 149, 21, 4, 51, 154, 0, 30, 42, 180, 0, 53, 180, 0, 143, 21, 4, 46, 42, 180, 0, 53]
abbrev dktX0_lies_2 : List UInt8 := dkwX0_lies_2 ++ dktX0_lies_3
def dkwX0_lies_1 : List UInt8 := [162, 0, 72, 42, 180, 0, 53, 180, 1, 71, 29, 46, 54, 4, 21, 4, 2, 159, 0, 49, 42, 180, 0, 53]
abbrev dktX0_lies_1 : List UInt8 := dkwX0_lies_1 ++ dktX0_lies_2
def dkwX0_lies_0 : List UInt8 := [27, 133, 9, 20, 1, 77, 184, 0, 5, 154, 0, 6, 16, 254, 172, 3, 61, 3, 62, 29, 16, 10]
abbrev dktX0_lies_0 : List UInt8 := dkwX0_lies_0 ++ dktX0_lies_1
theorem dksX0_lies_0 : cX0_lies.data.toList.drop 0 = dktX0_lies_0 := by decide +kernel
theorem dksX0_lies_1 : cX0_lies.data.toList.drop 22 = dktX0_lies_1 := dk_seg dksX0_lies_0 22 rfl rfl
theorem dksX0_lies_2 : cX0_lies.data.toList.drop 46 = dktX0_lies_2 := dk_seg dksX0_lies_1 24 rfl rfl
theorem dksX0_lies_3 : cX0_lies.data.toList.drop 69 = dktX0_lies_3 := dk_seg dksX0_lies_2 23 rfl rfl
theorem dksX0_lies_4 : cX0_lies.data.toList.drop 91 = dktX0_lies_4 := dk_seg dksX0_lies_3 22 rfl rfl
theorem dX0_lies_0 : decode cX0_lies 0 = .ok (.iload_n 1, 1) := dk_27 (dk_at dksX0_lies_0 0 rfl rfl)
theorem dX0_lies_1 : decode cX0_lies 1 = .ok (.i2l, 1) := dk_133 (dk_at dksX0_lies_0 1 rfl rfl)
theorem dX0_lies_2 : decode cX0_lies 2 = .ok (.lconst 0, 1) := dk_9 (dk_at dksX0_lies_0 2 rfl rfl)
theorem dX0_lies_3 : decode cX0_lies 3 = .ok (.ldc2_w 333, 3) := dk_20 1 77 (dk_at dksX0_lies_0 3 rfl rfl)
theorem dX0_lies_6 : decode cX0_lies 6 = .ok (.invokestatic 5, 3) := dk_184 0 5 (dk_at dksX0_lies_0 6 rfl rfl)
theorem dX0_lies_9 : decode cX0_lies 9 = .ok (.ifCond .ne 6, 3) := dk_154 0 6 (dk_at dksX0_lies_0 9 rfl rfl)
theorem dX0_lies_12 : decode cX0_lies 12 = .ok (.bipush (-2), 2) := dk_16 254 (dk_at dksX0_lies_0 12 rfl rfl)
theorem dX0_lies_14 : decode cX0_lies 14 = .ok (.ireturn, 1) := dk_172 (dk_at dksX0_lies_0 14 rfl rfl)
theorem dX0_lies_15 : decode cX0_lies 15 = .ok (.iconst 0, 1) := dk_3 (dk_at dksX0_lies_0 15 rfl rfl)
theorem dX0_lies_16 : decode cX0_lies 16 = .ok (.istore_n 2, 1) := dk_61 (dk_at dksX0_lies_0 16 rfl rfl)
theorem dX0_lies_17 : decode cX0_lies 17 = .ok (.iconst 0, 1) := dk_3 (dk_at dksX0_lies_0 17 rfl rfl)
theorem dX0_lies_18 : decode cX0_lies 18 = .ok (.istore_n 3, 1) := dk_62 (dk_at dksX0_lies_0 18 rfl rfl)
theorem dX0_lies_19 : decode cX0_lies 19 = .ok (.iload_n 3, 1) := dk_29 (dk_at dksX0_lies_0 19 rfl rfl)
theorem dX0_lies_20 : decode cX0_lies 20 = .ok (.bipush 10, 2) := dk_16 10 (dk_at dksX0_lies_0 20 rfl rfl)
theorem dX0_lies_22 : decode cX0_lies 22 = .ok (.if_icmp .ge 72, 3) := dk_162 0 72 (dk_at dksX0_lies_1 0 rfl rfl)
theorem dX0_lies_25 : decode cX0_lies 25 = .ok (.aload_n 0, 1) := dk_42 (dk_at dksX0_lies_1 3 rfl rfl)
theorem dX0_lies_26 : decode cX0_lies 26 = .ok (.getfield 53, 3) := dk_180 0 53 (dk_at dksX0_lies_1 4 rfl rfl)
theorem dX0_lies_29 : decode cX0_lies 29 = .ok (.getfield 327, 3) := dk_180 1 71 (dk_at dksX0_lies_1 7 rfl rfl)
theorem dX0_lies_32 : decode cX0_lies 32 = .ok (.iload_n 3, 1) := dk_29 (dk_at dksX0_lies_1 10 rfl rfl)
theorem dX0_lies_33 : decode cX0_lies 33 = .ok (.iaload, 1) := dk_46 (dk_at dksX0_lies_1 11 rfl rfl)
theorem dX0_lies_34 : decode cX0_lies 34 = .ok (.istore 4, 2) := dk_54 4 (dk_at dksX0_lies_1 12 rfl rfl)
theorem dX0_lies_36 : decode cX0_lies 36 = .ok (.iload 4, 2) := dk_21 4 (dk_at dksX0_lies_1 14 rfl rfl)
theorem dX0_lies_38 : decode cX0_lies 38 = .ok (.iconst (-1), 1) := dk_2 (dk_at dksX0_lies_1 16 rfl rfl)
theorem dX0_lies_39 : decode cX0_lies 39 = .ok (.if_icmp .eq 49, 3) := dk_159 0 49 (dk_at dksX0_lies_1 17 rfl rfl)
theorem dX0_lies_42 : decode cX0_lies 42 = .ok (.aload_n 0, 1) := dk_42 (dk_at dksX0_lies_1 20 rfl rfl)
theorem dX0_lies_43 : decode cX0_lies 43 = .ok (.getfield 53, 3) := dk_180 0 53 (dk_at dksX0_lies_1 21 rfl rfl)
theorem dX0_lies_46 : decode cX0_lies 46 = .ok (.getfield 149, 3) := dk_180 0 149 (dk_at dksX0_lies_2 0 rfl rfl)
theorem dX0_lies_49 : decode cX0_lies 49 = .ok (.iload 4, 2) := dk_21 4 (dk_at dksX0_lies_2 3 rfl rfl)
theorem dX0_lies_51 : decode cX0_lies 51 = .ok (.baload, 1) := dk_51 (dk_at dksX0_lies_2 5 rfl rfl)
theorem dX0_lies_52 : decode cX0_lies 52 = .ok (.ifCond .ne 30, 3) := dk_154 0 30 (dk_at dksX0_lies_2 6 rfl rfl)
theorem dX0_lies_55 : decode cX0_lies 55 = .ok (.aload_n 0, 1) := dk_42 (dk_at dksX0_lies_2 9 rfl rfl)
theorem dX0_lies_56 : decode cX0_lies 56 = .ok (.getfield 53, 3) := dk_180 0 53 (dk_at dksX0_lies_2 10 rfl rfl)
theorem dX0_lies_59 : decode cX0_lies 59 = .ok (.getfield 143, 3) := dk_180 0 143 (dk_at dksX0_lies_2 13 rfl rfl)
theorem dX0_lies_62 : decode cX0_lies 62 = .ok (.iload 4, 2) := dk_21 4 (dk_at dksX0_lies_2 16 rfl rfl)
theorem dX0_lies_64 : decode cX0_lies 64 = .ok (.iaload, 1) := dk_46 (dk_at dksX0_lies_2 18 rfl rfl)
theorem dX0_lies_65 : decode cX0_lies 65 = .ok (.aload_n 0, 1) := dk_42 (dk_at dksX0_lies_2 19 rfl rfl)
theorem dX0_lies_66 : decode cX0_lies 66 = .ok (.getfield 53, 3) := dk_180 0 53 (dk_at dksX0_lies_2 20 rfl rfl)
theorem dX0_lies_69 : decode cX0_lies 69 = .ok (.getfield 330, 3) := dk_180 1 74 (dk_at dksX0_lies_3 0 rfl rfl)
theorem dX0_lies_72 : decode cX0_lies 72 = .ok (.iload_n 3, 1) := dk_29 (dk_at dksX0_lies_3 3 rfl rfl)
theorem dX0_lies_73 : decode cX0_lies 73 = .ok (.iaload, 1) := dk_46 (dk_at dksX0_lies_3 4 rfl rfl)
theorem dX0_lies_74 : decode cX0_lies 74 = .ok (.isub, 1) := dk_100 (dk_at dksX0_lies_3 5 rfl rfl)
theorem dX0_lies_75 : decode cX0_lies 75 = .ok (.invokestatic 335, 3) := dk_184 1 79 (dk_at dksX0_lies_3 6 rfl rfl)
theorem dX0_lies_78 : decode cX0_lies 78 = .ok (.iload_n 1, 1) := dk_27 (dk_at dksX0_lies_3 9 rfl rfl)
theorem dX0_lies_79 : decode cX0_lies 79 = .ok (.if_icmp .le 9, 3) := dk_164 0 9 (dk_at dksX0_lies_3 10 rfl rfl)
theorem dX0_lies_82 : decode cX0_lies 82 = .ok (.iload_n 2, 1) := dk_28 (dk_at dksX0_lies_3 13 rfl rfl)
theorem dX0_lies_83 : decode cX0_lies 83 = .ok (.iconst 1, 1) := dk_4 (dk_at dksX0_lies_3 14 rfl rfl)
theorem dX0_lies_84 : decode cX0_lies 84 = .ok (.iload_n 3, 1) := dk_29 (dk_at dksX0_lies_3 15 rfl rfl)
theorem dX0_lies_85 : decode cX0_lies 85 = .ok (.ishl, 1) := dk_120 (dk_at dksX0_lies_3 16 rfl rfl)
theorem dX0_lies_86 : decode cX0_lies 86 = .ok (.ior, 1) := dk_128 (dk_at dksX0_lies_3 17 rfl rfl)
theorem dX0_lies_87 : decode cX0_lies 87 = .ok (.istore_n 2, 1) := dk_61 (dk_at dksX0_lies_3 18 rfl rfl)
theorem dX0_lies_88 : decode cX0_lies 88 = .ok (.iinc 3 1, 3) := dk_132 3 1 (dk_at dksX0_lies_3 19 rfl rfl)
theorem dX0_lies_91 : decode cX0_lies 91 = .ok (.goto (-72), 3) := dk_167 255 184 (dk_at dksX0_lies_4 0 rfl rfl)
theorem dX0_lies_94 : decode cX0_lies 94 = .ok (.iload_n 2, 1) := dk_28 (dk_at dksX0_lies_4 3 rfl rfl)
theorem dX0_lies_95 : decode cX0_lies 95 = .ok (.ireturn, 1) := dk_172 (dk_at dksX0_lies_4 4 rfl rfl)
abbrev cX0_most : ByteArray := prog_1_method_47_code
def yX0_most : MethodName := ⟨RX0, "most", "(I)I"⟩
def dkwX0_most_4 : List UInt8 := [132, 3, 1, 167, 255, 175, 28, 172]
abbrev dktX0_most_4 : List UInt8 := dkwX0_most_4 ++ []
def dkwX0_most_3 : List UInt8 := [180, 0, 53, 180, 0, 143, 29, 46, 42, 180, 0, 53, 180, 0, 143, 28, 46, 164, 0, 5, 29, 61]
abbrev dktX0_most_3 : List UInt8 := dkwX0_most_3 ++ dktX0_most_4
def dkwX0_most_2 : List UInt8 := [180, 0, 53, 180, 0, 143, 29, 46, 42, 180, 0, 53, 180, 0, 143, 28, 46, 162, 0, 29, 167, 0, 24, 42]
abbrev dktX0_most_2 : List UInt8 := dkwX0_most_2 ++ dktX0_most_3
def dkwX0_most_1 : List UInt8 := [180, 0, 53, 180, 0, 149, 29, 51, 153, 0, 6, 167, 0, 59, 28, 2, 159, 0, 52, 27, 154, 0, 27, 42]
abbrev dktX0_most_1 : List UInt8 := dkwX0_most_1 ++ dktX0_most_2
def dkwX0_most_0 : List UInt8 := [27, 133, 9, 10, 184, 0, 5, 154, 0, 5, 2, 172, 2, 61, 3, 62, 29, 17, 0, 144, 162, 0, 80, 42]
abbrev dktX0_most_0 : List UInt8 := dkwX0_most_0 ++ dktX0_most_1
theorem dksX0_most_0 : cX0_most.data.toList.drop 0 = dktX0_most_0 := by decide +kernel
theorem dksX0_most_1 : cX0_most.data.toList.drop 24 = dktX0_most_1 := dk_seg dksX0_most_0 24 rfl rfl
theorem dksX0_most_2 : cX0_most.data.toList.drop 48 = dktX0_most_2 := dk_seg dksX0_most_1 24 rfl rfl
theorem dksX0_most_3 : cX0_most.data.toList.drop 72 = dktX0_most_3 := dk_seg dksX0_most_2 24 rfl rfl
theorem dksX0_most_4 : cX0_most.data.toList.drop 94 = dktX0_most_4 := dk_seg dksX0_most_3 22 rfl rfl
theorem dX0_most_0 : decode cX0_most 0 = .ok (.iload_n 1, 1) := dk_27 (dk_at dksX0_most_0 0 rfl rfl)
theorem dX0_most_1 : decode cX0_most 1 = .ok (.i2l, 1) := dk_133 (dk_at dksX0_most_0 1 rfl rfl)
theorem dX0_most_2 : decode cX0_most 2 = .ok (.lconst 0, 1) := dk_9 (dk_at dksX0_most_0 2 rfl rfl)
theorem dX0_most_3 : decode cX0_most 3 = .ok (.lconst 1, 1) := dk_10 (dk_at dksX0_most_0 3 rfl rfl)
theorem dX0_most_4 : decode cX0_most 4 = .ok (.invokestatic 5, 3) := dk_184 0 5 (dk_at dksX0_most_0 4 rfl rfl)
theorem dX0_most_7 : decode cX0_most 7 = .ok (.ifCond .ne 5, 3) := dk_154 0 5 (dk_at dksX0_most_0 7 rfl rfl)
theorem dX0_most_10 : decode cX0_most 10 = .ok (.iconst (-1), 1) := dk_2 (dk_at dksX0_most_0 10 rfl rfl)
theorem dX0_most_11 : decode cX0_most 11 = .ok (.ireturn, 1) := dk_172 (dk_at dksX0_most_0 11 rfl rfl)
theorem dX0_most_12 : decode cX0_most 12 = .ok (.iconst (-1), 1) := dk_2 (dk_at dksX0_most_0 12 rfl rfl)
theorem dX0_most_13 : decode cX0_most 13 = .ok (.istore_n 2, 1) := dk_61 (dk_at dksX0_most_0 13 rfl rfl)
theorem dX0_most_14 : decode cX0_most 14 = .ok (.iconst 0, 1) := dk_3 (dk_at dksX0_most_0 14 rfl rfl)
theorem dX0_most_15 : decode cX0_most 15 = .ok (.istore_n 3, 1) := dk_62 (dk_at dksX0_most_0 15 rfl rfl)
theorem dX0_most_16 : decode cX0_most 16 = .ok (.iload_n 3, 1) := dk_29 (dk_at dksX0_most_0 16 rfl rfl)
theorem dX0_most_17 : decode cX0_most 17 = .ok (.sipush 144, 3) := dk_17 0 144 (dk_at dksX0_most_0 17 rfl rfl)
theorem dX0_most_20 : decode cX0_most 20 = .ok (.if_icmp .ge 80, 3) := dk_162 0 80 (dk_at dksX0_most_0 20 rfl rfl)
theorem dX0_most_23 : decode cX0_most 23 = .ok (.aload_n 0, 1) := dk_42 (dk_at dksX0_most_0 23 rfl rfl)
theorem dX0_most_24 : decode cX0_most 24 = .ok (.getfield 53, 3) := dk_180 0 53 (dk_at dksX0_most_1 0 rfl rfl)
theorem dX0_most_27 : decode cX0_most 27 = .ok (.getfield 149, 3) := dk_180 0 149 (dk_at dksX0_most_1 3 rfl rfl)
theorem dX0_most_30 : decode cX0_most 30 = .ok (.iload_n 3, 1) := dk_29 (dk_at dksX0_most_1 6 rfl rfl)
theorem dX0_most_31 : decode cX0_most 31 = .ok (.baload, 1) := dk_51 (dk_at dksX0_most_1 7 rfl rfl)
theorem dX0_most_32 : decode cX0_most 32 = .ok (.ifCond .eq 6, 3) := dk_153 0 6 (dk_at dksX0_most_1 8 rfl rfl)
theorem dX0_most_35 : decode cX0_most 35 = .ok (.goto 59, 3) := dk_167 0 59 (dk_at dksX0_most_1 11 rfl rfl)
theorem dX0_most_38 : decode cX0_most 38 = .ok (.iload_n 2, 1) := dk_28 (dk_at dksX0_most_1 14 rfl rfl)
theorem dX0_most_39 : decode cX0_most 39 = .ok (.iconst (-1), 1) := dk_2 (dk_at dksX0_most_1 15 rfl rfl)
theorem dX0_most_40 : decode cX0_most 40 = .ok (.if_icmp .eq 52, 3) := dk_159 0 52 (dk_at dksX0_most_1 16 rfl rfl)
theorem dX0_most_43 : decode cX0_most 43 = .ok (.iload_n 1, 1) := dk_27 (dk_at dksX0_most_1 19 rfl rfl)
theorem dX0_most_44 : decode cX0_most 44 = .ok (.ifCond .ne 27, 3) := dk_154 0 27 (dk_at dksX0_most_1 20 rfl rfl)
theorem dX0_most_47 : decode cX0_most 47 = .ok (.aload_n 0, 1) := dk_42 (dk_at dksX0_most_1 23 rfl rfl)
theorem dX0_most_48 : decode cX0_most 48 = .ok (.getfield 53, 3) := dk_180 0 53 (dk_at dksX0_most_2 0 rfl rfl)
theorem dX0_most_51 : decode cX0_most 51 = .ok (.getfield 143, 3) := dk_180 0 143 (dk_at dksX0_most_2 3 rfl rfl)
theorem dX0_most_54 : decode cX0_most 54 = .ok (.iload_n 3, 1) := dk_29 (dk_at dksX0_most_2 6 rfl rfl)
theorem dX0_most_55 : decode cX0_most 55 = .ok (.iaload, 1) := dk_46 (dk_at dksX0_most_2 7 rfl rfl)
theorem dX0_most_56 : decode cX0_most 56 = .ok (.aload_n 0, 1) := dk_42 (dk_at dksX0_most_2 8 rfl rfl)
theorem dX0_most_57 : decode cX0_most 57 = .ok (.getfield 53, 3) := dk_180 0 53 (dk_at dksX0_most_2 9 rfl rfl)
theorem dX0_most_60 : decode cX0_most 60 = .ok (.getfield 143, 3) := dk_180 0 143 (dk_at dksX0_most_2 12 rfl rfl)
theorem dX0_most_63 : decode cX0_most 63 = .ok (.iload_n 2, 1) := dk_28 (dk_at dksX0_most_2 15 rfl rfl)
theorem dX0_most_64 : decode cX0_most 64 = .ok (.iaload, 1) := dk_46 (dk_at dksX0_most_2 16 rfl rfl)
theorem dX0_most_65 : decode cX0_most 65 = .ok (.if_icmp .ge 29, 3) := dk_162 0 29 (dk_at dksX0_most_2 17 rfl rfl)
theorem dX0_most_68 : decode cX0_most 68 = .ok (.goto 24, 3) := dk_167 0 24 (dk_at dksX0_most_2 20 rfl rfl)
theorem dX0_most_71 : decode cX0_most 71 = .ok (.aload_n 0, 1) := dk_42 (dk_at dksX0_most_2 23 rfl rfl)
theorem dX0_most_72 : decode cX0_most 72 = .ok (.getfield 53, 3) := dk_180 0 53 (dk_at dksX0_most_3 0 rfl rfl)
theorem dX0_most_75 : decode cX0_most 75 = .ok (.getfield 143, 3) := dk_180 0 143 (dk_at dksX0_most_3 3 rfl rfl)
theorem dX0_most_78 : decode cX0_most 78 = .ok (.iload_n 3, 1) := dk_29 (dk_at dksX0_most_3 6 rfl rfl)
theorem dX0_most_79 : decode cX0_most 79 = .ok (.iaload, 1) := dk_46 (dk_at dksX0_most_3 7 rfl rfl)
theorem dX0_most_80 : decode cX0_most 80 = .ok (.aload_n 0, 1) := dk_42 (dk_at dksX0_most_3 8 rfl rfl)
theorem dX0_most_81 : decode cX0_most 81 = .ok (.getfield 53, 3) := dk_180 0 53 (dk_at dksX0_most_3 9 rfl rfl)
theorem dX0_most_84 : decode cX0_most 84 = .ok (.getfield 143, 3) := dk_180 0 143 (dk_at dksX0_most_3 12 rfl rfl)
theorem dX0_most_87 : decode cX0_most 87 = .ok (.iload_n 2, 1) := dk_28 (dk_at dksX0_most_3 15 rfl rfl)
theorem dX0_most_88 : decode cX0_most 88 = .ok (.iaload, 1) := dk_46 (dk_at dksX0_most_3 16 rfl rfl)
theorem dX0_most_89 : decode cX0_most 89 = .ok (.if_icmp .le 5, 3) := dk_164 0 5 (dk_at dksX0_most_3 17 rfl rfl)
theorem dX0_most_92 : decode cX0_most 92 = .ok (.iload_n 3, 1) := dk_29 (dk_at dksX0_most_3 20 rfl rfl)
theorem dX0_most_93 : decode cX0_most 93 = .ok (.istore_n 2, 1) := dk_61 (dk_at dksX0_most_3 21 rfl rfl)
theorem dX0_most_94 : decode cX0_most 94 = .ok (.iinc 3 1, 3) := dk_132 3 1 (dk_at dksX0_most_4 0 rfl rfl)
theorem dX0_most_97 : decode cX0_most 97 = .ok (.goto (-81), 3) := dk_167 255 175 (dk_at dksX0_most_4 3 rfl rfl)
theorem dX0_most_100 : decode cX0_most 100 = .ok (.iload_n 2, 1) := dk_28 (dk_at dksX0_most_4 6 rfl rfl)
theorem dX0_most_101 : decode cX0_most 101 = .ok (.ireturn, 1) := dk_172 (dk_at dksX0_most_4 7 rfl rfl)
abbrev cX0_frost : ByteArray := prog_1_method_48_code
def yX0_frost : MethodName := ⟨RX0, "frost", "(I)I"⟩
def dkwX0_frost_2 : List UInt8 := [128, 61, 132, 3, 1, 167, 255, 221, 28, 172]
abbrev dktX0_frost_2 : List UInt8 := dkwX0_frost_2 ++ []
def dkwX0_frost_1 : List UInt8 := [28, 42, 180, 0, 53, 16, 12, 27, 104, 29, 96, 182, 0, 153, 153, 0, 9, 4, 29, 120, 167, 0, 4, 3]
abbrev dktX0_frost_1 : List UInt8 := dkwX0_frost_1 ++ dktX0_frost_2
def dkwX0_frost_0 : List UInt8 := [27, 133, 9, 20, 0, 3, 184, 0, 5, 154, 0, 5, 2, 172, 3, 61, 3, 62, 29, 16, 12, 162, 0, 35]
abbrev dktX0_frost_0 : List UInt8 := dkwX0_frost_0 ++ dktX0_frost_1
theorem dksX0_frost_0 : cX0_frost.data.toList.drop 0 = dktX0_frost_0 := by decide +kernel
theorem dksX0_frost_1 : cX0_frost.data.toList.drop 24 = dktX0_frost_1 := dk_seg dksX0_frost_0 24 rfl rfl
theorem dksX0_frost_2 : cX0_frost.data.toList.drop 48 = dktX0_frost_2 := dk_seg dksX0_frost_1 24 rfl rfl
theorem dX0_frost_0 : decode cX0_frost 0 = .ok (.iload_n 1, 1) := dk_27 (dk_at dksX0_frost_0 0 rfl rfl)
theorem dX0_frost_1 : decode cX0_frost 1 = .ok (.i2l, 1) := dk_133 (dk_at dksX0_frost_0 1 rfl rfl)
theorem dX0_frost_2 : decode cX0_frost 2 = .ok (.lconst 0, 1) := dk_9 (dk_at dksX0_frost_0 2 rfl rfl)
theorem dX0_frost_3 : decode cX0_frost 3 = .ok (.ldc2_w 3, 3) := dk_20 0 3 (dk_at dksX0_frost_0 3 rfl rfl)
theorem dX0_frost_6 : decode cX0_frost 6 = .ok (.invokestatic 5, 3) := dk_184 0 5 (dk_at dksX0_frost_0 6 rfl rfl)
theorem dX0_frost_9 : decode cX0_frost 9 = .ok (.ifCond .ne 5, 3) := dk_154 0 5 (dk_at dksX0_frost_0 9 rfl rfl)
theorem dX0_frost_12 : decode cX0_frost 12 = .ok (.iconst (-1), 1) := dk_2 (dk_at dksX0_frost_0 12 rfl rfl)
theorem dX0_frost_13 : decode cX0_frost 13 = .ok (.ireturn, 1) := dk_172 (dk_at dksX0_frost_0 13 rfl rfl)
theorem dX0_frost_14 : decode cX0_frost 14 = .ok (.iconst 0, 1) := dk_3 (dk_at dksX0_frost_0 14 rfl rfl)
theorem dX0_frost_15 : decode cX0_frost 15 = .ok (.istore_n 2, 1) := dk_61 (dk_at dksX0_frost_0 15 rfl rfl)
theorem dX0_frost_16 : decode cX0_frost 16 = .ok (.iconst 0, 1) := dk_3 (dk_at dksX0_frost_0 16 rfl rfl)
theorem dX0_frost_17 : decode cX0_frost 17 = .ok (.istore_n 3, 1) := dk_62 (dk_at dksX0_frost_0 17 rfl rfl)
theorem dX0_frost_18 : decode cX0_frost 18 = .ok (.iload_n 3, 1) := dk_29 (dk_at dksX0_frost_0 18 rfl rfl)
theorem dX0_frost_19 : decode cX0_frost 19 = .ok (.bipush 12, 2) := dk_16 12 (dk_at dksX0_frost_0 19 rfl rfl)
theorem dX0_frost_21 : decode cX0_frost 21 = .ok (.if_icmp .ge 35, 3) := dk_162 0 35 (dk_at dksX0_frost_0 21 rfl rfl)
theorem dX0_frost_24 : decode cX0_frost 24 = .ok (.iload_n 2, 1) := dk_28 (dk_at dksX0_frost_1 0 rfl rfl)
theorem dX0_frost_25 : decode cX0_frost 25 = .ok (.aload_n 0, 1) := dk_42 (dk_at dksX0_frost_1 1 rfl rfl)
theorem dX0_frost_26 : decode cX0_frost 26 = .ok (.getfield 53, 3) := dk_180 0 53 (dk_at dksX0_frost_1 2 rfl rfl)
theorem dX0_frost_29 : decode cX0_frost 29 = .ok (.bipush 12, 2) := dk_16 12 (dk_at dksX0_frost_1 5 rfl rfl)
theorem dX0_frost_31 : decode cX0_frost 31 = .ok (.iload_n 1, 1) := dk_27 (dk_at dksX0_frost_1 7 rfl rfl)
theorem dX0_frost_32 : decode cX0_frost 32 = .ok (.imul, 1) := dk_104 (dk_at dksX0_frost_1 8 rfl rfl)
theorem dX0_frost_33 : decode cX0_frost 33 = .ok (.iload_n 3, 1) := dk_29 (dk_at dksX0_frost_1 9 rfl rfl)
theorem dX0_frost_34 : decode cX0_frost 34 = .ok (.iadd, 1) := dk_96 (dk_at dksX0_frost_1 10 rfl rfl)
theorem dX0_frost_35 : decode cX0_frost 35 = .ok (.invokevirtual 153, 3) := dk_182 0 153 (dk_at dksX0_frost_1 11 rfl rfl)
theorem dX0_frost_38 : decode cX0_frost 38 = .ok (.ifCond .eq 9, 3) := dk_153 0 9 (dk_at dksX0_frost_1 14 rfl rfl)
theorem dX0_frost_41 : decode cX0_frost 41 = .ok (.iconst 1, 1) := dk_4 (dk_at dksX0_frost_1 17 rfl rfl)
theorem dX0_frost_42 : decode cX0_frost 42 = .ok (.iload_n 3, 1) := dk_29 (dk_at dksX0_frost_1 18 rfl rfl)
theorem dX0_frost_43 : decode cX0_frost 43 = .ok (.ishl, 1) := dk_120 (dk_at dksX0_frost_1 19 rfl rfl)
theorem dX0_frost_44 : decode cX0_frost 44 = .ok (.goto 4, 3) := dk_167 0 4 (dk_at dksX0_frost_1 20 rfl rfl)
theorem dX0_frost_47 : decode cX0_frost 47 = .ok (.iconst 0, 1) := dk_3 (dk_at dksX0_frost_1 23 rfl rfl)
theorem dX0_frost_48 : decode cX0_frost 48 = .ok (.ior, 1) := dk_128 (dk_at dksX0_frost_2 0 rfl rfl)
theorem dX0_frost_49 : decode cX0_frost 49 = .ok (.istore_n 2, 1) := dk_61 (dk_at dksX0_frost_2 1 rfl rfl)
theorem dX0_frost_50 : decode cX0_frost 50 = .ok (.iinc 3 1, 3) := dk_132 3 1 (dk_at dksX0_frost_2 2 rfl rfl)
theorem dX0_frost_53 : decode cX0_frost 53 = .ok (.goto (-35), 3) := dk_167 255 221 (dk_at dksX0_frost_2 5 rfl rfl)
theorem dX0_frost_56 : decode cX0_frost 56 = .ok (.iload_n 2, 1) := dk_28 (dk_at dksX0_frost_2 8 rfl rfl)
theorem dX0_frost_57 : decode cX0_frost 57 = .ok (.ireturn, 1) := dk_172 (dk_at dksX0_frost_2 9 rfl rfl)
abbrev cX0_count : ByteArray := prog_1_method_49_code
def yX0_count : MethodName := ⟨RX0, "count", "(I)I"⟩
def dkwX0_count_11 : List UInt8 := [180, 0, 53, 180, 1, 85, 172, 2, 172]
abbrev dktX0_count_11 : List UInt8 := dkwX0_count_11 ++ []
def dkwX0_count_10 : List UInt8 := [4, 96, 61, 132, 3, 1, 167, 255, 228, 28, 172, 42, 180, 0, 53, 180, 0, 136, 180, 1, 82, 172, 42]
abbrev dktX0_count_10 : List UInt8 := dkwX0_count_10 ++ dktX0_count_11
def dkwX0_count_9 : List UInt8 := [3, 62, 29, 7, 162, 0, 29, 28, 42, 180, 0, 15, 29, 50, 180, 1, 42, 199, 0, 7, 3, 167, 0, 4]
abbrev dktX0_count_9 : List UInt8 := dkwX0_count_9 ++ dktX0_count_10
def dkwX0_count_8 : List UInt8 := [42, 180, 0, 53, 180, 1, 4, 153, 0, 7, 4, 167, 0, 4, 3, 172, 42, 180, 0, 53, 180, 0, 202, 172]
abbrev dktX0_count_8 : List UInt8 := dkwX0_count_8 ++ dktX0_count_9
def dkwX0_count_7 : List UInt8 := [185, 0, 117, 1, 0, 172, 42, 180, 0, 77, 172, 42, 180, 0, 53, 180, 1, 7, 185, 0, 117, 1, 0, 172]
abbrev dktX0_count_7 : List UInt8 := dkwX0_count_7 ++ dktX0_count_8
def dkwX0_count_6 : List UInt8 := [96, 61, 132, 3, 1, 167, 255, 226, 28, 172, 42, 180, 0, 53, 180, 0, 136, 180, 0, 245]
abbrev dktX0_count_6 : List UInt8 := dkwX0_count_6 ++ dktX0_count_7
def dkwX0_count_5 : List UInt8 := [17, 0, 144, 162, 0, 29, 28, 42, 180, 0, 53, 180, 0, 149, 29, 51, 153, 0, 7, 4, 167, 0, 4, 3]
abbrev dktX0_count_5 : List UInt8 := dkwX0_count_5 ++ dktX0_count_6
def dkwX0_count_4 : List UInt8 := [182, 0, 153, 153, 0, 7, 4, 167, 0, 4, 3, 96, 61, 132, 3, 1, 167, 255, 227, 28, 172, 3, 62, 29]
abbrev dktX0_count_4 : List UInt8 := dkwX0_count_4 ++ dktX0_count_5
def dkwX0_count_3 : List UInt8 := [180, 0, 113, 185, 0, 117, 1, 0, 172, 3, 62, 29, 17, 0, 144, 162, 0, 28, 28, 42, 180, 0, 53, 29]
abbrev dktX0_count_3 : List UInt8 := dkwX0_count_3 ++ dktX0_count_4
def dkwX0_count_2 : List UInt8 := [42, 180, 0, 53, 180, 0, 136, 180, 0, 94, 172, 42, 180, 0, 53, 180, 0, 107, 172, 42, 180, 0, 53]
abbrev dktX0_count_2 : List UInt8 := dkwX0_count_2 ++ dktX0_count_3
def dkwX0_count_1 : List UInt8 := [170, 0, 0, 1, 26, 0, 0, 0, 0, 0, 0, 0, 12, 0, 0, 0, 65, 0, 0, 0, 76, 0, 0, 0, 84, 0, 0, 0, 97, 0, 0, 0, 133, 0, 0, 0, 170, 0, 0, 0, 186, 0, 0, 0, 191, 0, 0, 0, 204, 0, 0, 0, 220, 0, 0, 0, 228, 0, 0, 1, 7, 0, 0, 1, 18]
abbrev dktX0_count_1 : List UInt8 := dkwX0_count_1 ++ dktX0_count_2
def dkwX0_count_0 : List UInt8 := [3, 61, 27]
abbrev dktX0_count_0 : List UInt8 := dkwX0_count_0 ++ dktX0_count_1
theorem dksX0_count_0 : cX0_count.data.toList.drop 0 = dktX0_count_0 := by decide +kernel
theorem dksX0_count_1 : cX0_count.data.toList.drop 3 = dktX0_count_1 := dk_seg dksX0_count_0 3 rfl rfl
theorem dksX0_count_2 : cX0_count.data.toList.drop 68 = dktX0_count_2 := dk_seg dksX0_count_1 65 rfl rfl
theorem dksX0_count_3 : cX0_count.data.toList.drop 91 = dktX0_count_3 := dk_seg dksX0_count_2 23 rfl rfl
theorem dksX0_count_4 : cX0_count.data.toList.drop 115 = dktX0_count_4 := dk_seg dksX0_count_3 24 rfl rfl
theorem dksX0_count_5 : cX0_count.data.toList.drop 139 = dktX0_count_5 := dk_seg dksX0_count_4 24 rfl rfl
theorem dksX0_count_6 : cX0_count.data.toList.drop 163 = dktX0_count_6 := dk_seg dksX0_count_5 24 rfl rfl
theorem dksX0_count_7 : cX0_count.data.toList.drop 183 = dktX0_count_7 := dk_seg dksX0_count_6 20 rfl rfl
theorem dksX0_count_8 : cX0_count.data.toList.drop 207 = dktX0_count_8 := dk_seg dksX0_count_7 24 rfl rfl
theorem dksX0_count_9 : cX0_count.data.toList.drop 231 = dktX0_count_9 := dk_seg dksX0_count_8 24 rfl rfl
theorem dksX0_count_10 : cX0_count.data.toList.drop 255 = dktX0_count_10 := dk_seg dksX0_count_9 24 rfl rfl
theorem dksX0_count_11 : cX0_count.data.toList.drop 278 = dktX0_count_11 := dk_seg dksX0_count_10 23 rfl rfl
theorem dX0_count_0 : decode cX0_count 0 = .ok (.iconst 0, 1) := dk_3 (dk_at dksX0_count_0 0 rfl rfl)
theorem dX0_count_1 : decode cX0_count 1 = .ok (.istore_n 2, 1) := dk_61 (dk_at dksX0_count_0 1 rfl rfl)
theorem dX0_count_2 : decode cX0_count 2 = .ok (.iload_n 1, 1) := dk_27 (dk_at dksX0_count_0 2 rfl rfl)
theorem dX0_count_3 : decode cX0_count 3 = .ok (.tableswitch 282 0 12 #[65, 76, 84, 97, 133, 170, 186, 191, 204, 220, 228, 263, 274], 65) := by decide +kernel
theorem dX0_count_68 : decode cX0_count 68 = .ok (.aload_n 0, 1) := dk_42 (dk_at dksX0_count_2 0 rfl rfl)
theorem dX0_count_69 : decode cX0_count 69 = .ok (.getfield 53, 3) := dk_180 0 53 (dk_at dksX0_count_2 1 rfl rfl)
theorem dX0_count_72 : decode cX0_count 72 = .ok (.getfield 136, 3) := dk_180 0 136 (dk_at dksX0_count_2 4 rfl rfl)
theorem dX0_count_75 : decode cX0_count 75 = .ok (.getfield 94, 3) := dk_180 0 94 (dk_at dksX0_count_2 7 rfl rfl)
theorem dX0_count_78 : decode cX0_count 78 = .ok (.ireturn, 1) := dk_172 (dk_at dksX0_count_2 10 rfl rfl)
theorem dX0_count_79 : decode cX0_count 79 = .ok (.aload_n 0, 1) := dk_42 (dk_at dksX0_count_2 11 rfl rfl)
theorem dX0_count_80 : decode cX0_count 80 = .ok (.getfield 53, 3) := dk_180 0 53 (dk_at dksX0_count_2 12 rfl rfl)
theorem dX0_count_83 : decode cX0_count 83 = .ok (.getfield 107, 3) := dk_180 0 107 (dk_at dksX0_count_2 15 rfl rfl)
theorem dX0_count_86 : decode cX0_count 86 = .ok (.ireturn, 1) := dk_172 (dk_at dksX0_count_2 18 rfl rfl)
theorem dX0_count_87 : decode cX0_count 87 = .ok (.aload_n 0, 1) := dk_42 (dk_at dksX0_count_2 19 rfl rfl)
theorem dX0_count_88 : decode cX0_count 88 = .ok (.getfield 53, 3) := dk_180 0 53 (dk_at dksX0_count_2 20 rfl rfl)
theorem dX0_count_91 : decode cX0_count 91 = .ok (.getfield 113, 3) := dk_180 0 113 (dk_at dksX0_count_3 0 rfl rfl)
theorem dX0_count_94 : decode cX0_count 94 = .ok (.invokeinterface 117 1, 5) := by decide +kernel
theorem dX0_count_99 : decode cX0_count 99 = .ok (.ireturn, 1) := dk_172 (dk_at dksX0_count_3 8 rfl rfl)
theorem dX0_count_100 : decode cX0_count 100 = .ok (.iconst 0, 1) := dk_3 (dk_at dksX0_count_3 9 rfl rfl)
theorem dX0_count_101 : decode cX0_count 101 = .ok (.istore_n 3, 1) := dk_62 (dk_at dksX0_count_3 10 rfl rfl)
theorem dX0_count_102 : decode cX0_count 102 = .ok (.iload_n 3, 1) := dk_29 (dk_at dksX0_count_3 11 rfl rfl)
theorem dX0_count_103 : decode cX0_count 103 = .ok (.sipush 144, 3) := dk_17 0 144 (dk_at dksX0_count_3 12 rfl rfl)
theorem dX0_count_106 : decode cX0_count 106 = .ok (.if_icmp .ge 28, 3) := dk_162 0 28 (dk_at dksX0_count_3 15 rfl rfl)
theorem dX0_count_109 : decode cX0_count 109 = .ok (.iload_n 2, 1) := dk_28 (dk_at dksX0_count_3 18 rfl rfl)
theorem dX0_count_110 : decode cX0_count 110 = .ok (.aload_n 0, 1) := dk_42 (dk_at dksX0_count_3 19 rfl rfl)
theorem dX0_count_111 : decode cX0_count 111 = .ok (.getfield 53, 3) := dk_180 0 53 (dk_at dksX0_count_3 20 rfl rfl)
theorem dX0_count_114 : decode cX0_count 114 = .ok (.iload_n 3, 1) := dk_29 (dk_at dksX0_count_3 23 rfl rfl)
theorem dX0_count_115 : decode cX0_count 115 = .ok (.invokevirtual 153, 3) := dk_182 0 153 (dk_at dksX0_count_4 0 rfl rfl)
theorem dX0_count_118 : decode cX0_count 118 = .ok (.ifCond .eq 7, 3) := dk_153 0 7 (dk_at dksX0_count_4 3 rfl rfl)
theorem dX0_count_121 : decode cX0_count 121 = .ok (.iconst 1, 1) := dk_4 (dk_at dksX0_count_4 6 rfl rfl)
theorem dX0_count_122 : decode cX0_count 122 = .ok (.goto 4, 3) := dk_167 0 4 (dk_at dksX0_count_4 7 rfl rfl)
theorem dX0_count_125 : decode cX0_count 125 = .ok (.iconst 0, 1) := dk_3 (dk_at dksX0_count_4 10 rfl rfl)
theorem dX0_count_126 : decode cX0_count 126 = .ok (.iadd, 1) := dk_96 (dk_at dksX0_count_4 11 rfl rfl)
theorem dX0_count_127 : decode cX0_count 127 = .ok (.istore_n 2, 1) := dk_61 (dk_at dksX0_count_4 12 rfl rfl)
theorem dX0_count_128 : decode cX0_count 128 = .ok (.iinc 3 1, 3) := dk_132 3 1 (dk_at dksX0_count_4 13 rfl rfl)
theorem dX0_count_131 : decode cX0_count 131 = .ok (.goto (-29), 3) := dk_167 255 227 (dk_at dksX0_count_4 16 rfl rfl)
theorem dX0_count_134 : decode cX0_count 134 = .ok (.iload_n 2, 1) := dk_28 (dk_at dksX0_count_4 19 rfl rfl)
theorem dX0_count_135 : decode cX0_count 135 = .ok (.ireturn, 1) := dk_172 (dk_at dksX0_count_4 20 rfl rfl)
theorem dX0_count_136 : decode cX0_count 136 = .ok (.iconst 0, 1) := dk_3 (dk_at dksX0_count_4 21 rfl rfl)
theorem dX0_count_137 : decode cX0_count 137 = .ok (.istore_n 3, 1) := dk_62 (dk_at dksX0_count_4 22 rfl rfl)
theorem dX0_count_138 : decode cX0_count 138 = .ok (.iload_n 3, 1) := dk_29 (dk_at dksX0_count_4 23 rfl rfl)
theorem dX0_count_139 : decode cX0_count 139 = .ok (.sipush 144, 3) := dk_17 0 144 (dk_at dksX0_count_5 0 rfl rfl)
theorem dX0_count_142 : decode cX0_count 142 = .ok (.if_icmp .ge 29, 3) := dk_162 0 29 (dk_at dksX0_count_5 3 rfl rfl)
theorem dX0_count_145 : decode cX0_count 145 = .ok (.iload_n 2, 1) := dk_28 (dk_at dksX0_count_5 6 rfl rfl)
theorem dX0_count_146 : decode cX0_count 146 = .ok (.aload_n 0, 1) := dk_42 (dk_at dksX0_count_5 7 rfl rfl)
theorem dX0_count_147 : decode cX0_count 147 = .ok (.getfield 53, 3) := dk_180 0 53 (dk_at dksX0_count_5 8 rfl rfl)
theorem dX0_count_150 : decode cX0_count 150 = .ok (.getfield 149, 3) := dk_180 0 149 (dk_at dksX0_count_5 11 rfl rfl)
theorem dX0_count_153 : decode cX0_count 153 = .ok (.iload_n 3, 1) := dk_29 (dk_at dksX0_count_5 14 rfl rfl)
theorem dX0_count_154 : decode cX0_count 154 = .ok (.baload, 1) := dk_51 (dk_at dksX0_count_5 15 rfl rfl)
theorem dX0_count_155 : decode cX0_count 155 = .ok (.ifCond .eq 7, 3) := dk_153 0 7 (dk_at dksX0_count_5 16 rfl rfl)
theorem dX0_count_158 : decode cX0_count 158 = .ok (.iconst 1, 1) := dk_4 (dk_at dksX0_count_5 19 rfl rfl)
theorem dX0_count_159 : decode cX0_count 159 = .ok (.goto 4, 3) := dk_167 0 4 (dk_at dksX0_count_5 20 rfl rfl)
theorem dX0_count_162 : decode cX0_count 162 = .ok (.iconst 0, 1) := dk_3 (dk_at dksX0_count_5 23 rfl rfl)
theorem dX0_count_163 : decode cX0_count 163 = .ok (.iadd, 1) := dk_96 (dk_at dksX0_count_6 0 rfl rfl)
theorem dX0_count_164 : decode cX0_count 164 = .ok (.istore_n 2, 1) := dk_61 (dk_at dksX0_count_6 1 rfl rfl)
theorem dX0_count_165 : decode cX0_count 165 = .ok (.iinc 3 1, 3) := dk_132 3 1 (dk_at dksX0_count_6 2 rfl rfl)
theorem dX0_count_168 : decode cX0_count 168 = .ok (.goto (-30), 3) := dk_167 255 226 (dk_at dksX0_count_6 5 rfl rfl)
theorem dX0_count_171 : decode cX0_count 171 = .ok (.iload_n 2, 1) := dk_28 (dk_at dksX0_count_6 8 rfl rfl)
theorem dX0_count_172 : decode cX0_count 172 = .ok (.ireturn, 1) := dk_172 (dk_at dksX0_count_6 9 rfl rfl)
theorem dX0_count_173 : decode cX0_count 173 = .ok (.aload_n 0, 1) := dk_42 (dk_at dksX0_count_6 10 rfl rfl)
theorem dX0_count_174 : decode cX0_count 174 = .ok (.getfield 53, 3) := dk_180 0 53 (dk_at dksX0_count_6 11 rfl rfl)
theorem dX0_count_177 : decode cX0_count 177 = .ok (.getfield 136, 3) := dk_180 0 136 (dk_at dksX0_count_6 14 rfl rfl)
theorem dX0_count_180 : decode cX0_count 180 = .ok (.getfield 245, 3) := dk_180 0 245 (dk_at dksX0_count_6 17 rfl rfl)
theorem dX0_count_183 : decode cX0_count 183 = .ok (.invokeinterface 117 1, 5) := by decide +kernel
theorem dX0_count_188 : decode cX0_count 188 = .ok (.ireturn, 1) := dk_172 (dk_at dksX0_count_7 5 rfl rfl)
theorem dX0_count_189 : decode cX0_count 189 = .ok (.aload_n 0, 1) := dk_42 (dk_at dksX0_count_7 6 rfl rfl)
theorem dX0_count_190 : decode cX0_count 190 = .ok (.getfield 77, 3) := dk_180 0 77 (dk_at dksX0_count_7 7 rfl rfl)
theorem dX0_count_193 : decode cX0_count 193 = .ok (.ireturn, 1) := dk_172 (dk_at dksX0_count_7 10 rfl rfl)
theorem dX0_count_194 : decode cX0_count 194 = .ok (.aload_n 0, 1) := dk_42 (dk_at dksX0_count_7 11 rfl rfl)
theorem dX0_count_195 : decode cX0_count 195 = .ok (.getfield 53, 3) := dk_180 0 53 (dk_at dksX0_count_7 12 rfl rfl)
theorem dX0_count_198 : decode cX0_count 198 = .ok (.getfield 263, 3) := dk_180 1 7 (dk_at dksX0_count_7 15 rfl rfl)
theorem dX0_count_201 : decode cX0_count 201 = .ok (.invokeinterface 117 1, 5) := by decide +kernel
theorem dX0_count_206 : decode cX0_count 206 = .ok (.ireturn, 1) := dk_172 (dk_at dksX0_count_7 23 rfl rfl)
theorem dX0_count_207 : decode cX0_count 207 = .ok (.aload_n 0, 1) := dk_42 (dk_at dksX0_count_8 0 rfl rfl)
theorem dX0_count_208 : decode cX0_count 208 = .ok (.getfield 53, 3) := dk_180 0 53 (dk_at dksX0_count_8 1 rfl rfl)
theorem dX0_count_211 : decode cX0_count 211 = .ok (.getfield 260, 3) := dk_180 1 4 (dk_at dksX0_count_8 4 rfl rfl)
theorem dX0_count_214 : decode cX0_count 214 = .ok (.ifCond .eq 7, 3) := dk_153 0 7 (dk_at dksX0_count_8 7 rfl rfl)
theorem dX0_count_217 : decode cX0_count 217 = .ok (.iconst 1, 1) := dk_4 (dk_at dksX0_count_8 10 rfl rfl)
theorem dX0_count_218 : decode cX0_count 218 = .ok (.goto 4, 3) := dk_167 0 4 (dk_at dksX0_count_8 11 rfl rfl)
theorem dX0_count_221 : decode cX0_count 221 = .ok (.iconst 0, 1) := dk_3 (dk_at dksX0_count_8 14 rfl rfl)
theorem dX0_count_222 : decode cX0_count 222 = .ok (.ireturn, 1) := dk_172 (dk_at dksX0_count_8 15 rfl rfl)
theorem dX0_count_223 : decode cX0_count 223 = .ok (.aload_n 0, 1) := dk_42 (dk_at dksX0_count_8 16 rfl rfl)
theorem dX0_count_224 : decode cX0_count 224 = .ok (.getfield 53, 3) := dk_180 0 53 (dk_at dksX0_count_8 17 rfl rfl)
theorem dX0_count_227 : decode cX0_count 227 = .ok (.getfield 202, 3) := dk_180 0 202 (dk_at dksX0_count_8 20 rfl rfl)
theorem dX0_count_230 : decode cX0_count 230 = .ok (.ireturn, 1) := dk_172 (dk_at dksX0_count_8 23 rfl rfl)
theorem dX0_count_231 : decode cX0_count 231 = .ok (.iconst 0, 1) := dk_3 (dk_at dksX0_count_9 0 rfl rfl)
theorem dX0_count_232 : decode cX0_count 232 = .ok (.istore_n 3, 1) := dk_62 (dk_at dksX0_count_9 1 rfl rfl)
theorem dX0_count_233 : decode cX0_count 233 = .ok (.iload_n 3, 1) := dk_29 (dk_at dksX0_count_9 2 rfl rfl)
theorem dX0_count_234 : decode cX0_count 234 = .ok (.iconst 4, 1) := dk_7 (dk_at dksX0_count_9 3 rfl rfl)
theorem dX0_count_235 : decode cX0_count 235 = .ok (.if_icmp .ge 29, 3) := dk_162 0 29 (dk_at dksX0_count_9 4 rfl rfl)
theorem dX0_count_238 : decode cX0_count 238 = .ok (.iload_n 2, 1) := dk_28 (dk_at dksX0_count_9 7 rfl rfl)
theorem dX0_count_239 : decode cX0_count 239 = .ok (.aload_n 0, 1) := dk_42 (dk_at dksX0_count_9 8 rfl rfl)
theorem dX0_count_240 : decode cX0_count 240 = .ok (.getfield 15, 3) := dk_180 0 15 (dk_at dksX0_count_9 9 rfl rfl)
theorem dX0_count_243 : decode cX0_count 243 = .ok (.iload_n 3, 1) := dk_29 (dk_at dksX0_count_9 12 rfl rfl)
theorem dX0_count_244 : decode cX0_count 244 = .ok (.aaload, 1) := dk_50 (dk_at dksX0_count_9 13 rfl rfl)
theorem dX0_count_245 : decode cX0_count 245 = .ok (.getfield 298, 3) := dk_180 1 42 (dk_at dksX0_count_9 14 rfl rfl)
theorem dX0_count_248 : decode cX0_count 248 = .ok (.ifnonnull 7, 3) := dk_199 0 7 (dk_at dksX0_count_9 17 rfl rfl)
theorem dX0_count_251 : decode cX0_count 251 = .ok (.iconst 0, 1) := dk_3 (dk_at dksX0_count_9 20 rfl rfl)
theorem dX0_count_252 : decode cX0_count 252 = .ok (.goto 4, 3) := dk_167 0 4 (dk_at dksX0_count_9 21 rfl rfl)
theorem dX0_count_255 : decode cX0_count 255 = .ok (.iconst 1, 1) := dk_4 (dk_at dksX0_count_10 0 rfl rfl)
theorem dX0_count_256 : decode cX0_count 256 = .ok (.iadd, 1) := dk_96 (dk_at dksX0_count_10 1 rfl rfl)
theorem dX0_count_257 : decode cX0_count 257 = .ok (.istore_n 2, 1) := dk_61 (dk_at dksX0_count_10 2 rfl rfl)
theorem dX0_count_258 : decode cX0_count 258 = .ok (.iinc 3 1, 3) := dk_132 3 1 (dk_at dksX0_count_10 3 rfl rfl)
theorem dX0_count_261 : decode cX0_count 261 = .ok (.goto (-28), 3) := dk_167 255 228 (dk_at dksX0_count_10 6 rfl rfl)
theorem dX0_count_264 : decode cX0_count 264 = .ok (.iload_n 2, 1) := dk_28 (dk_at dksX0_count_10 9 rfl rfl)
theorem dX0_count_265 : decode cX0_count 265 = .ok (.ireturn, 1) := dk_172 (dk_at dksX0_count_10 10 rfl rfl)
theorem dX0_count_266 : decode cX0_count 266 = .ok (.aload_n 0, 1) := dk_42 (dk_at dksX0_count_10 11 rfl rfl)
theorem dX0_count_267 : decode cX0_count 267 = .ok (.getfield 53, 3) := dk_180 0 53 (dk_at dksX0_count_10 12 rfl rfl)
theorem dX0_count_270 : decode cX0_count 270 = .ok (.getfield 136, 3) := dk_180 0 136 (dk_at dksX0_count_10 15 rfl rfl)
theorem dX0_count_273 : decode cX0_count 273 = .ok (.getfield 338, 3) := dk_180 1 82 (dk_at dksX0_count_10 18 rfl rfl)
theorem dX0_count_276 : decode cX0_count 276 = .ok (.ireturn, 1) := dk_172 (dk_at dksX0_count_10 21 rfl rfl)
theorem dX0_count_277 : decode cX0_count 277 = .ok (.aload_n 0, 1) := dk_42 (dk_at dksX0_count_10 22 rfl rfl)
theorem dX0_count_278 : decode cX0_count 278 = .ok (.getfield 53, 3) := dk_180 0 53 (dk_at dksX0_count_11 0 rfl rfl)
theorem dX0_count_281 : decode cX0_count 281 = .ok (.getfield 341, 3) := dk_180 1 85 (dk_at dksX0_count_11 3 rfl rfl)
theorem dX0_count_284 : decode cX0_count 284 = .ok (.ireturn, 1) := dk_172 (dk_at dksX0_count_11 6 rfl rfl)
theorem dX0_count_285 : decode cX0_count 285 = .ok (.iconst (-1), 1) := dk_2 (dk_at dksX0_count_11 7 rfl rfl)
theorem dX0_count_286 : decode cX0_count 286 = .ok (.ireturn, 1) := dk_172 (dk_at dksX0_count_11 8 rfl rfl)
abbrev cX0_keep : ByteArray := prog_1_method_50_code
def yX0_keep : MethodName := ⟨RX0, "keep", "(I)I"⟩
def dkwX0_keep_2 : List UInt8 := [27, 50, 42, 180, 0, 53, 182, 1, 21, 3, 172]
abbrev dktX0_keep_2 : List UInt8 := dkwX0_keep_2 ++ []
def dkwX0_keep_1 : List UInt8 := [42, 180, 0, 60, 27, 187, 0, 39, 89, 42, 180, 0, 53, 180, 0, 136, 183, 0, 50, 83, 42, 180, 0, 60]
abbrev dktX0_keep_1 : List UInt8 := dkwX0_keep_1 ++ dktX0_keep_2
def dkwX0_keep_0 : List UInt8 := [27, 133, 9, 20, 1, 88, 184, 0, 5, 154, 0, 6, 16, 254, 172, 42, 180, 0, 60, 27, 50, 199, 0, 23]
abbrev dktX0_keep_0 : List UInt8 := dkwX0_keep_0 ++ dktX0_keep_1
theorem dksX0_keep_0 : cX0_keep.data.toList.drop 0 = dktX0_keep_0 := by decide +kernel
theorem dksX0_keep_1 : cX0_keep.data.toList.drop 24 = dktX0_keep_1 := dk_seg dksX0_keep_0 24 rfl rfl
theorem dksX0_keep_2 : cX0_keep.data.toList.drop 48 = dktX0_keep_2 := dk_seg dksX0_keep_1 24 rfl rfl
theorem dX0_keep_0 : decode cX0_keep 0 = .ok (.iload_n 1, 1) := dk_27 (dk_at dksX0_keep_0 0 rfl rfl)
theorem dX0_keep_1 : decode cX0_keep 1 = .ok (.i2l, 1) := dk_133 (dk_at dksX0_keep_0 1 rfl rfl)
theorem dX0_keep_2 : decode cX0_keep 2 = .ok (.lconst 0, 1) := dk_9 (dk_at dksX0_keep_0 2 rfl rfl)
theorem dX0_keep_3 : decode cX0_keep 3 = .ok (.ldc2_w 344, 3) := dk_20 1 88 (dk_at dksX0_keep_0 3 rfl rfl)
theorem dX0_keep_6 : decode cX0_keep 6 = .ok (.invokestatic 5, 3) := dk_184 0 5 (dk_at dksX0_keep_0 6 rfl rfl)
theorem dX0_keep_9 : decode cX0_keep 9 = .ok (.ifCond .ne 6, 3) := dk_154 0 6 (dk_at dksX0_keep_0 9 rfl rfl)
theorem dX0_keep_12 : decode cX0_keep 12 = .ok (.bipush (-2), 2) := dk_16 254 (dk_at dksX0_keep_0 12 rfl rfl)
theorem dX0_keep_14 : decode cX0_keep 14 = .ok (.ireturn, 1) := dk_172 (dk_at dksX0_keep_0 14 rfl rfl)
theorem dX0_keep_15 : decode cX0_keep 15 = .ok (.aload_n 0, 1) := dk_42 (dk_at dksX0_keep_0 15 rfl rfl)
theorem dX0_keep_16 : decode cX0_keep 16 = .ok (.getfield 60, 3) := dk_180 0 60 (dk_at dksX0_keep_0 16 rfl rfl)
theorem dX0_keep_19 : decode cX0_keep 19 = .ok (.iload_n 1, 1) := dk_27 (dk_at dksX0_keep_0 19 rfl rfl)
theorem dX0_keep_20 : decode cX0_keep 20 = .ok (.aaload, 1) := dk_50 (dk_at dksX0_keep_0 20 rfl rfl)
theorem dX0_keep_21 : decode cX0_keep 21 = .ok (.ifnonnull 23, 3) := dk_199 0 23 (dk_at dksX0_keep_0 21 rfl rfl)
theorem dX0_keep_24 : decode cX0_keep 24 = .ok (.aload_n 0, 1) := dk_42 (dk_at dksX0_keep_1 0 rfl rfl)
theorem dX0_keep_25 : decode cX0_keep 25 = .ok (.getfield 60, 3) := dk_180 0 60 (dk_at dksX0_keep_1 1 rfl rfl)
theorem dX0_keep_28 : decode cX0_keep 28 = .ok (.iload_n 1, 1) := dk_27 (dk_at dksX0_keep_1 4 rfl rfl)
theorem dX0_keep_29 : decode cX0_keep 29 = .ok (.new 39, 3) := dk_187 0 39 (dk_at dksX0_keep_1 5 rfl rfl)
theorem dX0_keep_32 : decode cX0_keep 32 = .ok (.dup, 1) := dk_89 (dk_at dksX0_keep_1 8 rfl rfl)
theorem dX0_keep_33 : decode cX0_keep 33 = .ok (.aload_n 0, 1) := dk_42 (dk_at dksX0_keep_1 9 rfl rfl)
theorem dX0_keep_34 : decode cX0_keep 34 = .ok (.getfield 53, 3) := dk_180 0 53 (dk_at dksX0_keep_1 10 rfl rfl)
theorem dX0_keep_37 : decode cX0_keep 37 = .ok (.getfield 136, 3) := dk_180 0 136 (dk_at dksX0_keep_1 13 rfl rfl)
theorem dX0_keep_40 : decode cX0_keep 40 = .ok (.invokespecial 50, 3) := dk_183 0 50 (dk_at dksX0_keep_1 16 rfl rfl)
theorem dX0_keep_43 : decode cX0_keep 43 = .ok (.aastore, 1) := dk_83 (dk_at dksX0_keep_1 19 rfl rfl)
theorem dX0_keep_44 : decode cX0_keep 44 = .ok (.aload_n 0, 1) := dk_42 (dk_at dksX0_keep_1 20 rfl rfl)
theorem dX0_keep_45 : decode cX0_keep 45 = .ok (.getfield 60, 3) := dk_180 0 60 (dk_at dksX0_keep_1 21 rfl rfl)
theorem dX0_keep_48 : decode cX0_keep 48 = .ok (.iload_n 1, 1) := dk_27 (dk_at dksX0_keep_2 0 rfl rfl)
theorem dX0_keep_49 : decode cX0_keep 49 = .ok (.aaload, 1) := dk_50 (dk_at dksX0_keep_2 1 rfl rfl)
theorem dX0_keep_50 : decode cX0_keep 50 = .ok (.aload_n 0, 1) := dk_42 (dk_at dksX0_keep_2 2 rfl rfl)
theorem dX0_keep_51 : decode cX0_keep 51 = .ok (.getfield 53, 3) := dk_180 0 53 (dk_at dksX0_keep_2 3 rfl rfl)
theorem dX0_keep_54 : decode cX0_keep 54 = .ok (.invokevirtual 277, 3) := dk_182 1 21 (dk_at dksX0_keep_2 6 rfl rfl)
theorem dX0_keep_57 : decode cX0_keep 57 = .ok (.iconst 0, 1) := dk_3 (dk_at dksX0_keep_2 9 rfl rfl)
theorem dX0_keep_58 : decode cX0_keep 58 = .ok (.ireturn, 1) := dk_172 (dk_at dksX0_keep_2 10 rfl rfl)
abbrev cX0_back : ByteArray := prog_1_method_51_code
def yX0_back : MethodName := ⟨RX0, "back", "(I)I"⟩
def dkwX0_back_1 : List UInt8 := [16, 250, 172, 42, 180, 0, 53, 42, 180, 0, 60, 27, 50, 182, 1, 21, 3, 172]
abbrev dktX0_back_1 : List UInt8 := dkwX0_back_1 ++ []
def dkwX0_back_0 : List UInt8 := [27, 133, 9, 20, 1, 88, 184, 0, 5, 154, 0, 6, 16, 254, 172, 42, 180, 0, 60, 27, 50, 199, 0, 6]
abbrev dktX0_back_0 : List UInt8 := dkwX0_back_0 ++ dktX0_back_1
theorem dksX0_back_0 : cX0_back.data.toList.drop 0 = dktX0_back_0 := by decide +kernel
theorem dksX0_back_1 : cX0_back.data.toList.drop 24 = dktX0_back_1 := dk_seg dksX0_back_0 24 rfl rfl
theorem dX0_back_0 : decode cX0_back 0 = .ok (.iload_n 1, 1) := dk_27 (dk_at dksX0_back_0 0 rfl rfl)
theorem dX0_back_1 : decode cX0_back 1 = .ok (.i2l, 1) := dk_133 (dk_at dksX0_back_0 1 rfl rfl)
theorem dX0_back_2 : decode cX0_back 2 = .ok (.lconst 0, 1) := dk_9 (dk_at dksX0_back_0 2 rfl rfl)
theorem dX0_back_3 : decode cX0_back 3 = .ok (.ldc2_w 344, 3) := dk_20 1 88 (dk_at dksX0_back_0 3 rfl rfl)
theorem dX0_back_6 : decode cX0_back 6 = .ok (.invokestatic 5, 3) := dk_184 0 5 (dk_at dksX0_back_0 6 rfl rfl)
theorem dX0_back_9 : decode cX0_back 9 = .ok (.ifCond .ne 6, 3) := dk_154 0 6 (dk_at dksX0_back_0 9 rfl rfl)
theorem dX0_back_12 : decode cX0_back 12 = .ok (.bipush (-2), 2) := dk_16 254 (dk_at dksX0_back_0 12 rfl rfl)
theorem dX0_back_14 : decode cX0_back 14 = .ok (.ireturn, 1) := dk_172 (dk_at dksX0_back_0 14 rfl rfl)
theorem dX0_back_15 : decode cX0_back 15 = .ok (.aload_n 0, 1) := dk_42 (dk_at dksX0_back_0 15 rfl rfl)
theorem dX0_back_16 : decode cX0_back 16 = .ok (.getfield 60, 3) := dk_180 0 60 (dk_at dksX0_back_0 16 rfl rfl)
theorem dX0_back_19 : decode cX0_back 19 = .ok (.iload_n 1, 1) := dk_27 (dk_at dksX0_back_0 19 rfl rfl)
theorem dX0_back_20 : decode cX0_back 20 = .ok (.aaload, 1) := dk_50 (dk_at dksX0_back_0 20 rfl rfl)
theorem dX0_back_21 : decode cX0_back 21 = .ok (.ifnonnull 6, 3) := dk_199 0 6 (dk_at dksX0_back_0 21 rfl rfl)
theorem dX0_back_24 : decode cX0_back 24 = .ok (.bipush (-6), 2) := dk_16 250 (dk_at dksX0_back_1 0 rfl rfl)
theorem dX0_back_26 : decode cX0_back 26 = .ok (.ireturn, 1) := dk_172 (dk_at dksX0_back_1 2 rfl rfl)
theorem dX0_back_27 : decode cX0_back 27 = .ok (.aload_n 0, 1) := dk_42 (dk_at dksX0_back_1 3 rfl rfl)
theorem dX0_back_28 : decode cX0_back 28 = .ok (.getfield 53, 3) := dk_180 0 53 (dk_at dksX0_back_1 4 rfl rfl)
theorem dX0_back_31 : decode cX0_back 31 = .ok (.aload_n 0, 1) := dk_42 (dk_at dksX0_back_1 7 rfl rfl)
theorem dX0_back_32 : decode cX0_back 32 = .ok (.getfield 60, 3) := dk_180 0 60 (dk_at dksX0_back_1 8 rfl rfl)
theorem dX0_back_35 : decode cX0_back 35 = .ok (.iload_n 1, 1) := dk_27 (dk_at dksX0_back_1 11 rfl rfl)
theorem dX0_back_36 : decode cX0_back 36 = .ok (.aaload, 1) := dk_50 (dk_at dksX0_back_1 12 rfl rfl)
theorem dX0_back_37 : decode cX0_back 37 = .ok (.invokevirtual 277, 3) := dk_182 1 21 (dk_at dksX0_back_1 13 rfl rfl)
theorem dX0_back_40 : decode cX0_back 40 = .ok (.iconst 0, 1) := dk_3 (dk_at dksX0_back_1 16 rfl rfl)
theorem dX0_back_41 : decode cX0_back 41 = .ok (.ireturn, 1) := dk_172 (dk_at dksX0_back_1 17 rfl rfl)
theorem q105 : (Jvm.Cond.initialized "FrostRing") ∈ lw_all := lw_g (lw_at lw_m1 1 rfl) rfl
theorem q142 : (Jvm.Cond.instanceMethod ({ cls := "FrostRing", name := "row", desc := "(III)I" } : Jvm.MethodName)) ∈ lw_all := lw_g (lw_at lw_m1 38 rfl) rfl
theorem q143 : (Jvm.Cond.selects "FrostRing" ({ cls := "FrostRing", name := "row", desc := "(III)I" } : Jvm.MethodName) ({ cls := "FrostRing", name := "row", desc := "(III)I" } : Jvm.MethodName)) ∈ lw_all := lw_g (lw_at lw_m1 39 rfl) rfl
theorem q144 : (Jvm.Cond.code ({ cls := "FrostRing", name := "row", desc := "(III)I" } : Jvm.MethodName) prog_1_method_6_code (4 : Nat) (Option.some Jvm.ClassFile.FieldType.int)) ∈ lw_all := lw_g (lw_at lw_m1 40 rfl) rfl
theorem q145 : (Jvm.Cond.methodLink "FrostRing" (11 : Nat) ({ cls := "FrostRing", name := "isSlot", desc := "(I)Z" } : Jvm.MethodName)) ∈ lw_all := lw_g (lw_at lw_m1 41 rfl) rfl
theorem q146 : (Jvm.Cond.static ({ cls := "FrostRing", name := "isSlot", desc := "(I)Z" } : Jvm.MethodName)) ∈ lw_all := lw_g (lw_at lw_m1 42 rfl) rfl
theorem q147 : (Jvm.Cond.code ({ cls := "FrostRing", name := "isSlot", desc := "(I)Z" } : Jvm.MethodName) prog_1_method_5_code (1 : Nat) (Option.some Jvm.ClassFile.FieldType.boolean)) ∈ lw_all := lw_g (lw_at lw_m1 43 rfl) rfl
theorem q148 : (Jvm.Cond.constantLong "FrostRing" (9 : Nat) (3 : Int64)) ∈ lw_all := lw_g (lw_at lw_m1 44 rfl) rfl
theorem q149 : (Jvm.Cond.methodLink "FrostRing" (5 : Nat) ({ cls := "FrostRing", name := "in", desc := "(JJJ)Z" } : Jvm.MethodName)) ∈ lw_all := lw_g (lw_at lw_m1 45 rfl) rfl
theorem q150 : (Jvm.Cond.static ({ cls := "FrostRing", name := "in", desc := "(JJJ)Z" } : Jvm.MethodName)) ∈ lw_all := lw_g (lw_at lw_m1 46 rfl) rfl
theorem q151 : (Jvm.Cond.code ({ cls := "FrostRing", name := "in", desc := "(JJJ)Z" } : Jvm.MethodName) prog_1_method_1_code (6 : Nat) (Option.some Jvm.ClassFile.FieldType.boolean)) ∈ lw_all := lw_g (lw_at lw_m1 47 rfl) rfl
theorem q152 : (Jvm.Cond.methodLink "FrostRing" (19 : Nat) ({ cls := "FrostRing$Slot", name := "begins", desc := "(II)Z" } : Jvm.MethodName)) ∈ lw_all := lw_g (lw_at lw_m1 48 rfl) rfl
theorem q248 : (Jvm.Cond.instanceMethod ({ cls := "FrostRing", name := "write", desc := "(IIJ)I" } : Jvm.MethodName)) ∈ lw_all := lw_g (lw_at lw_m1 144 rfl) rfl
theorem q249 : (Jvm.Cond.selects "FrostRing" ({ cls := "FrostRing", name := "write", desc := "(IIJ)I" } : Jvm.MethodName) ({ cls := "FrostRing", name := "write", desc := "(IIJ)I" } : Jvm.MethodName)) ∈ lw_all := lw_g (lw_at lw_m1 145 rfl) rfl
theorem q250 : (Jvm.Cond.code ({ cls := "FrostRing", name := "write", desc := "(IIJ)I" } : Jvm.MethodName) prog_1_method_7_code (5 : Nat) (Option.some Jvm.ClassFile.FieldType.int)) ∈ lw_all := lw_g (lw_at lw_m1 146 rfl) rfl
theorem q251 : (Jvm.Cond.methodLink "FrostRing" (25 : Nat) ({ cls := "FrostRing$Slot", name := "puts", desc := "(IJ)I" } : Jvm.MethodName)) ∈ lw_all := lw_g (lw_at lw_m1 147 rfl) rfl
theorem q327 : (Jvm.Cond.instanceMethod ({ cls := "FrostRing", name := "paste", desc := "(IIIII)I" } : Jvm.MethodName)) ∈ lw_all := lw_g (lw_at lw_m1 223 rfl) rfl
theorem q328 : (Jvm.Cond.selects "FrostRing" ({ cls := "FrostRing", name := "paste", desc := "(IIIII)I" } : Jvm.MethodName) ({ cls := "FrostRing", name := "paste", desc := "(IIIII)I" } : Jvm.MethodName)) ∈ lw_all := lw_g (lw_at lw_m1 224 rfl) rfl
theorem q329 : (Jvm.Cond.code ({ cls := "FrostRing", name := "paste", desc := "(IIIII)I" } : Jvm.MethodName) prog_1_method_8_code (6 : Nat) (Option.some Jvm.ClassFile.FieldType.int)) ∈ lw_all := lw_g (lw_at lw_m1 225 rfl) rfl
theorem q330 : (Jvm.Cond.methodLink "FrostRing" (29 : Nat) ({ cls := "FrostRing$Slot", name := "pastes", desc := "(ILFrostRing$Slot;II)I" } : Jvm.MethodName)) ∈ lw_all := lw_g (lw_at lw_m1 226 rfl) rfl
theorem q343 : (Jvm.Cond.instantiable "FrostRing" (11 : Nat)) ∈ lw_all := lw_g (lw_at lw_m1 239 rfl) rfl
theorem q345 : (Jvm.Cond.instanceMethod ({ cls := "FrostRing", name := "<init>", desc := "()V" } : Jvm.MethodName)) ∈ lw_all := lw_g (lw_at lw_m2 1 rfl) rfl
theorem q346 : (Jvm.Cond.code ({ cls := "FrostRing", name := "<init>", desc := "()V" } : Jvm.MethodName) prog_1_method_9_code (2 : Nat) (Option.none : Option Jvm.ClassFile.FieldType)) ∈ lw_all := lw_g (lw_at lw_m2 2 rfl) rfl
theorem q347 : (Jvm.Cond.methodLink "FrostRing" (33 : Nat) ({ cls := "java/lang/Object", name := "<init>", desc := "()V" } : Jvm.MethodName)) ∈ lw_all := lw_g (lw_at lw_m2 3 rfl) rfl
theorem q348 : (Jvm.Cond.classLink "FrostRing" (20 : Nat) "FrostRing$Slot") ∈ lw_all := lw_g (lw_at lw_m2 4 rfl) rfl
theorem q350 : (Jvm.Cond.classLink "FrostRing" (39 : Nat) "FrostRing$Field") ∈ lw_all := lw_g (lw_at lw_m2 6 rfl) rfl
theorem q352 : (Jvm.Cond.classLink "FrostRing" (41 : Nat) "FrostRing$Told") ∈ lw_all := lw_g (lw_at lw_m2 8 rfl) rfl
theorem q354 : (Jvm.Cond.methodLink "FrostRing" (43 : Nat) ({ cls := "FrostRing$Told", name := "<init>", desc := "()V" } : Jvm.MethodName)) ∈ lw_all := lw_g (lw_at lw_m2 10 rfl) rfl
theorem q393 : (Jvm.Cond.fieldLinkNest "FrostRing" (140 : Nat) "FrostRing$Told" "laid" "[I" "FrostRing") ∈ lw_tbl := lw_at lw_m2 49 rfl
theorem q405 : (Jvm.Cond.fieldLinkNest "FrostRing" (245 : Nat) "FrostRing$Told" "rules" "Ljava/util/List;" "FrostRing") ∈ lw_tbl := lw_at lw_m2 61 rfl
theorem q409 : (Jvm.Cond.fieldLinkNest "FrostRing" (338 : Nat) "FrostRing$Told" "far" "I" "FrostRing") ∈ lw_tbl := lw_at lw_m2 65 rfl
theorem q421 : (Jvm.Cond.fieldLinkNest "FrostRing" (94 : Nat) "FrostRing$Told" "lines" "I" "FrostRing") ∈ lw_tbl := lw_at lw_m2 77 rfl
theorem q450 : (Jvm.Cond.methodLink "FrostRing" (44 : Nat) ({ cls := "FrostRing$Reader", name := "whole", desc := "(LFrostRing$Told;)LFrostRing$Told;" } : Jvm.MethodName)) ∈ lw_all := lw_g (lw_at lw_m2 106 rfl) rfl
theorem q476 : (Jvm.Cond.methodLink "FrostRing" (50 : Nat) ({ cls := "FrostRing$Field", name := "<init>", desc := "(LFrostRing$Told;)V" } : Jvm.MethodName)) ∈ lw_all := lw_g (lw_at lw_m2 132 rfl) rfl
theorem q537 : (Jvm.Cond.fieldLinkNest "FrostRing" (129 : Nat) "FrostRing$Pipe" "cell" "I" "FrostRing") ∈ lw_tbl := lw_at lw_m2 193 rfl
theorem q541 : (Jvm.Cond.fieldLinkNest "FrostRing" (188 : Nat) "FrostRing$Pipe" "through" "I" "FrostRing") ∈ lw_tbl := lw_at lw_m2 197 rfl
theorem q544 : (Jvm.Cond.fieldLinkNest "FrostRing" (191 : Nat) "FrostRing$Pipe" "lead" "I" "FrostRing") ∈ lw_tbl := lw_at lw_m2 200 rfl
theorem q547 : (Jvm.Cond.fieldLinkNest "FrostRing" (184 : Nat) "FrostRing$Pipe" "runs" "Z" "FrostRing") ∈ lw_tbl := lw_at lw_m2 203 rfl
theorem q550 : (Jvm.Cond.fieldLinkNest "FrostRing" (194 : Nat) "FrostRing$Pipe" "took" "I" "FrostRing") ∈ lw_tbl := lw_at lw_m2 206 rfl
theorem q553 : (Jvm.Cond.fieldLinkNest "FrostRing" (197 : Nat) "FrostRing$Pipe" "all" "I" "FrostRing") ∈ lw_tbl := lw_at lw_m2 209 rfl
theorem q607 : (Jvm.Cond.selects "FrostRing" ({ cls := "java/lang/Object", name := "getClass", desc := "()Ljava/lang/Class;" } : Jvm.MethodName) ({ cls := "java/lang/Object", name := "getClass", desc := "()Ljava/lang/Class;" } : Jvm.MethodName)) ∈ lw_all := lw_g (lw_at lw_m3 23 rfl) rfl
theorem q650 : (Jvm.Cond.fieldLinkNest "FrostRing" (271 : Nat) "FrostRing$House" "column" "I" "FrostRing") ∈ lw_tbl := lw_at lw_m3 66 rfl
theorem q653 : (Jvm.Cond.fieldLinkNest "FrostRing" (274 : Nat) "FrostRing$House" "limit" "I" "FrostRing") ∈ lw_tbl := lw_at lw_m3 69 rfl
theorem q656 : (Jvm.Cond.fieldLinkNest "FrostRing" (268 : Nat) "FrostRing$House" "cracked" "I" "FrostRing") ∈ lw_tbl := lw_at lw_m3 72 rfl
theorem q667 : (Jvm.Cond.fieldLinkNest "FrostRing" (136 : Nat) "FrostRing$Field" "told" "LFrostRing$Told;" "FrostRing") ∈ lw_tbl := lw_at lw_m3 83 rfl
theorem q669 : (Jvm.Cond.fieldLinkNest "FrostRing" (143 : Nat) "FrostRing$Field" "warm" "[I" "FrostRing") ∈ lw_tbl := lw_at lw_m3 85 rfl
theorem q671 : (Jvm.Cond.fieldLinkNest "FrostRing" (146 : Nat) "FrostRing$Field" "ice" "[I" "FrostRing") ∈ lw_tbl := lw_at lw_m3 87 rfl
theorem q674 : (Jvm.Cond.fieldLinkNest "FrostRing" (149 : Nat) "FrostRing$Field" "dug" "[Z" "FrostRing") ∈ lw_tbl := lw_at lw_m3 90 rfl
theorem q676 : (Jvm.Cond.fieldLinkNest "FrostRing" (113 : Nat) "FrostRing$Field" "pipes" "Ljava/util/List;" "FrostRing") ∈ lw_tbl := lw_at lw_m3 92 rfl
theorem q678 : (Jvm.Cond.fieldLinkNest "FrostRing" (263 : Nat) "FrostRing$Field" "houses" "Ljava/util/List;" "FrostRing") ∈ lw_tbl := lw_at lw_m3 94 rfl
theorem q680 : (Jvm.Cond.fieldLinkNest "FrostRing" (327 : Nat) "FrostRing$Field" "gaugeAt" "[I" "FrostRing") ∈ lw_tbl := lw_at lw_m3 96 rfl
theorem q682 : (Jvm.Cond.fieldLinkNest "FrostRing" (330 : Nat) "FrostRing$Field" "reading" "[I" "FrostRing") ∈ lw_tbl := lw_at lw_m3 98 rfl
theorem q684 : (Jvm.Cond.fieldLinkNest "FrostRing" (107 : Nat) "FrostRing$Field" "tick" "I" "FrostRing") ∈ lw_tbl := lw_at lw_m3 100 rfl
theorem q686 : (Jvm.Cond.fieldLinkNest "FrostRing" (202 : Nat) "FrostRing$Field" "cold" "I" "FrostRing") ∈ lw_tbl := lw_at lw_m3 102 rfl
theorem q688 : (Jvm.Cond.fieldLinkNest "FrostRing" (166 : Nat) "FrostRing$Field" "taken" "I" "FrostRing") ∈ lw_tbl := lw_at lw_m3 104 rfl
theorem q690 : (Jvm.Cond.fieldLinkNest "FrostRing" (169 : Nat) "FrostRing$Field" "rim" "I" "FrostRing") ∈ lw_tbl := lw_at lw_m3 106 rfl
theorem q692 : (Jvm.Cond.fieldLinkNest "FrostRing" (172 : Nat) "FrostRing$Field" "brought" "I" "FrostRing") ∈ lw_tbl := lw_at lw_m3 108 rfl
theorem q694 : (Jvm.Cond.fieldLinkNest "FrostRing" (175 : Nat) "FrostRing$Field" "gone" "I" "FrostRing") ∈ lw_tbl := lw_at lw_m3 110 rfl
theorem q696 : (Jvm.Cond.fieldLinkNest "FrostRing" (178 : Nat) "FrostRing$Field" "begun" "I" "FrostRing") ∈ lw_tbl := lw_at lw_m3 112 rfl
theorem q698 : (Jvm.Cond.fieldLinkNest "FrostRing" (341 : Nat) "FrostRing$Field" "floods" "I" "FrostRing") ∈ lw_tbl := lw_at lw_m3 114 rfl
theorem q700 : (Jvm.Cond.fieldLinkNest "FrostRing" (260 : Nat) "FrostRing$Field" "isFlooded" "Z" "FrostRing") ∈ lw_tbl := lw_at lw_m3 116 rfl
theorem q745 : (Jvm.Cond.methodLinkNest "FrostRing" (76 : Nat) ({ cls := "FrostRing$Slot", name := "<init>", desc := "()V" } : Jvm.MethodName) "FrostRing") ∈ lw_tbl := lw_at lw_m3 161 rfl
theorem q750 : (Jvm.Cond.fieldLinkNest "FrostRing" (298 : Nat) "FrostRing$Slot" "held" "Ljava/lang/Object;" "FrostRing") ∈ lw_tbl := lw_at lw_m3 166 rfl
theorem q754 : (Jvm.Cond.fieldLink "FrostRing" (15 : Nat) "FrostRing" "slots" "[LFrostRing$Slot;") ∈ lw_all := lw_g (lw_at lw_m3 170 rfl) rfl
theorem q756 : (Jvm.Cond.fieldLink "FrostRing" (53 : Nat) "FrostRing" "now" "LFrostRing$Field;") ∈ lw_all := lw_g (lw_at lw_m3 172 rfl) rfl
theorem q757 : (Jvm.Cond.fieldLink "FrostRing" (57 : Nat) "FrostRing" "trial" "LFrostRing$Field;") ∈ lw_all := lw_g (lw_at lw_m3 173 rfl) rfl
theorem q758 : (Jvm.Cond.fieldLink "FrostRing" (60 : Nat) "FrostRing" "images" "[LFrostRing$Field;") ∈ lw_all := lw_g (lw_at lw_m3 174 rfl) rfl
theorem q759 : (Jvm.Cond.fieldLink "FrostRing" (64 : Nat) "FrostRing" "tape" "[B") ∈ lw_all := lw_g (lw_at lw_m3 175 rfl) rfl
theorem q760 : (Jvm.Cond.fieldLink "FrostRing" (77 : Nat) "FrostRing" "taped" "I") ∈ lw_all := lw_g (lw_at lw_m3 176 rfl) rfl
theorem q761 : (Jvm.Cond.fieldLink "FrostRing" (83 : Nat) "FrostRing" "faultKind" "I") ∈ lw_all := lw_g (lw_at lw_m3 177 rfl) rfl
theorem q762 : (Jvm.Cond.fieldLink "FrostRing" (68 : Nat) "FrostRing" "faultPlace" "I") ∈ lw_all := lw_g (lw_at lw_m3 178 rfl) rfl
theorem q763 : (Jvm.Cond.fieldLink "FrostRing" (72 : Nat) "FrostRing" "toldGaps" "[I") ∈ lw_all := lw_g (lw_at lw_m3 179 rfl) rfl
theorem q764 : (Jvm.Cond.fieldLink "FrostRing" (221 : Nat) "FrostRing" "gapMany" "I") ∈ lw_all := lw_g (lw_at lw_m3 180 rfl) rfl
theorem q765 : (Jvm.Cond.fieldLink "FrostRing" (318 : Nat) "FrostRing" "chosenBits" "I") ∈ lw_all := lw_g (lw_at lw_m3 181 rfl) rfl
theorem q766 : (Jvm.Cond.laysFinal "FrostRing" "FrostRing" "slots" "[LFrostRing$Slot;") ∈ lw_all := lw_g (lw_at lw_m3 182 rfl) rfl
theorem q767 : (Jvm.Cond.soleField "FrostRing" "slots") ∈ lw_all := lw_g (lw_at lw_m3 183 rfl) rfl
theorem q768 : (Jvm.Cond.laysFinal "FrostRing" "FrostRing" "now" "LFrostRing$Field;") ∈ lw_all := lw_g (lw_at lw_m3 184 rfl) rfl
theorem q769 : (Jvm.Cond.soleField "FrostRing" "now") ∈ lw_all := lw_g (lw_at lw_m3 185 rfl) rfl
theorem q770 : (Jvm.Cond.laysFinal "FrostRing" "FrostRing" "trial" "LFrostRing$Field;") ∈ lw_all := lw_g (lw_at lw_m3 186 rfl) rfl
theorem q771 : (Jvm.Cond.soleField "FrostRing" "trial") ∈ lw_all := lw_g (lw_at lw_m3 187 rfl) rfl
theorem q772 : (Jvm.Cond.laysFinal "FrostRing" "FrostRing" "images" "[LFrostRing$Field;") ∈ lw_all := lw_g (lw_at lw_m3 188 rfl) rfl
theorem q773 : (Jvm.Cond.soleField "FrostRing" "images") ∈ lw_all := lw_g (lw_at lw_m3 189 rfl) rfl
theorem q774 : (Jvm.Cond.laysFinal "FrostRing" "FrostRing" "tape" "[B") ∈ lw_all := lw_g (lw_at lw_m3 190 rfl) rfl
theorem q775 : (Jvm.Cond.soleField "FrostRing" "tape") ∈ lw_all := lw_g (lw_at lw_m3 191 rfl) rfl
theorem q776 : (Jvm.Cond.lays "FrostRing" "FrostRing" "taped" "I") ∈ lw_all := lw_g (lw_at lw_m3 192 rfl) rfl
theorem q777 : (Jvm.Cond.soleField "FrostRing" "taped") ∈ lw_all := lw_g (lw_at lw_m3 193 rfl) rfl
theorem q778 : (Jvm.Cond.lays "FrostRing" "FrostRing" "faultKind" "I") ∈ lw_all := lw_g (lw_at lw_m3 194 rfl) rfl
theorem q779 : (Jvm.Cond.soleField "FrostRing" "faultKind") ∈ lw_all := lw_g (lw_at lw_m3 195 rfl) rfl
theorem q780 : (Jvm.Cond.lays "FrostRing" "FrostRing" "faultPlace" "I") ∈ lw_all := lw_g (lw_at lw_m3 196 rfl) rfl
theorem q781 : (Jvm.Cond.soleField "FrostRing" "faultPlace") ∈ lw_all := lw_g (lw_at lw_m3 197 rfl) rfl
theorem q782 : (Jvm.Cond.laysFinal "FrostRing" "FrostRing" "toldGaps" "[I") ∈ lw_all := lw_g (lw_at lw_m3 198 rfl) rfl
theorem q783 : (Jvm.Cond.soleField "FrostRing" "toldGaps") ∈ lw_all := lw_g (lw_at lw_m3 199 rfl) rfl
theorem q784 : (Jvm.Cond.lays "FrostRing" "FrostRing" "gapMany" "I") ∈ lw_all := lw_g (lw_at lw_m3 200 rfl) rfl
theorem q785 : (Jvm.Cond.soleField "FrostRing" "gapMany") ∈ lw_all := lw_g (lw_at lw_m3 201 rfl) rfl
theorem q786 : (Jvm.Cond.lays "FrostRing" "FrostRing" "chosenBits" "I") ∈ lw_all := lw_g (lw_at lw_m3 202 rfl) rfl
theorem q787 : (Jvm.Cond.soleField "FrostRing" "chosenBits") ∈ lw_all := lw_g (lw_at lw_m3 203 rfl) rfl
theorem q788 : (Jvm.Cond.superclass "FrostRing" "java/lang/Object") ∈ lw_all := lw_g (lw_at lw_m3 204 rfl) rfl
theorem q790 : (Jvm.Cond.instanceMethod ({ cls := "FrostRing", name := "feed", desc := "(IIIII)I" } : Jvm.MethodName)) ∈ lw_all := lw_g (lw_at lw_m3 206 rfl) rfl
theorem q791 : (Jvm.Cond.selects "FrostRing" ({ cls := "FrostRing", name := "feed", desc := "(IIIII)I" } : Jvm.MethodName) ({ cls := "FrostRing", name := "feed", desc := "(IIIII)I" } : Jvm.MethodName)) ∈ lw_all := lw_g (lw_at lw_m3 207 rfl) rfl
theorem q792 : (Jvm.Cond.code ({ cls := "FrostRing", name := "feed", desc := "(IIIII)I" } : Jvm.MethodName) prog_1_method_10_code (6 : Nat) (Option.some Jvm.ClassFile.FieldType.int)) ∈ lw_all := lw_g (lw_at lw_m3 208 rfl) rfl
theorem q793 : (Jvm.Cond.methodLink "FrostRing" (80 : Nat) ({ cls := "FrostRing", name := "puts", desc := "(I)V" } : Jvm.MethodName)) ∈ lw_all := lw_g (lw_at lw_m3 209 rfl) rfl
theorem q794 : (Jvm.Cond.privateMethod ({ cls := "FrostRing", name := "puts", desc := "(I)V" } : Jvm.MethodName)) ∈ lw_tbl := lw_at lw_m3 210 rfl
theorem q795 : (Jvm.Cond.instanceMethod ({ cls := "FrostRing", name := "puts", desc := "(I)V" } : Jvm.MethodName)) ∈ lw_all := lw_g (lw_at lw_m3 211 rfl) rfl
theorem q796 : (Jvm.Cond.code ({ cls := "FrostRing", name := "puts", desc := "(I)V" } : Jvm.MethodName) prog_1_method_11_code (3 : Nat) (Option.none : Option Jvm.ClassFile.FieldType)) ∈ lw_all := lw_g (lw_at lw_m3 212 rfl) rfl
theorem q798 : (Jvm.Cond.instanceMethod ({ cls := "FrostRing", name := "end", desc := "(I)I" } : Jvm.MethodName)) ∈ lw_all := lw_g (lw_at lw_m3 214 rfl) rfl
theorem q799 : (Jvm.Cond.selects "FrostRing" ({ cls := "FrostRing", name := "end", desc := "(I)I" } : Jvm.MethodName) ({ cls := "FrostRing", name := "end", desc := "(I)I" } : Jvm.MethodName)) ∈ lw_all := lw_g (lw_at lw_m3 215 rfl) rfl
theorem q800 : (Jvm.Cond.code ({ cls := "FrostRing", name := "end", desc := "(I)I" } : Jvm.MethodName) prog_1_method_12_code (2 : Nat) (Option.some Jvm.ClassFile.FieldType.int)) ∈ lw_all := lw_g (lw_at lw_m3 216 rfl) rfl
theorem q802 : (Jvm.Cond.instanceMethod ({ cls := "FrostRing", name := "text", desc := "()I" } : Jvm.MethodName)) ∈ lw_all := lw_g (lw_at lw_m3 218 rfl) rfl
theorem q803 : (Jvm.Cond.selects "FrostRing" ({ cls := "FrostRing", name := "text", desc := "()I" } : Jvm.MethodName) ({ cls := "FrostRing", name := "text", desc := "()I" } : Jvm.MethodName)) ∈ lw_all := lw_g (lw_at lw_m3 219 rfl) rfl
theorem q804 : (Jvm.Cond.codeWith ({ cls := "FrostRing", name := "text", desc := "()I" } : Jvm.MethodName) prog_1_method_13_code (4 : Nat) (Option.some Jvm.ClassFile.FieldType.int) [((0 : Nat), (42 : Nat), (49 : Nat), (97 : Nat)), ((0 : Nat), (42 : Nat), (76 : Nat), (0 : Nat)), ((49 : Nat), (69 : Nat), (76 : Nat), (0 : Nat))]) ∈ lw_all := lw_g (lw_at lw_m3 220 rfl) rfl
theorem q805 : (Jvm.Cond.classLink "FrostRing" (97 : Nat) "FrostRing$Wrong") ∈ lw_all := lw_g (lw_at lw_m3 221 rfl) rfl
theorem q806 : (Jvm.Cond.classLink "FrostRing" (45 : Nat) "FrostRing$Reader") ∈ lw_all := lw_g (lw_at lw_m3 222 rfl) rfl
theorem q808 : (Jvm.Cond.methodLink "FrostRing" (86 : Nat) ({ cls := "FrostRing$Reader", name := "<init>", desc := "([BI)V" } : Jvm.MethodName)) ∈ lw_all := lw_g (lw_at lw_m3 224 rfl) rfl
theorem q861 : (Jvm.Cond.methodLink "FrostRing" (89 : Nat) ({ cls := "FrostRing$Reader", name := "whole", desc := "()LFrostRing$Told;" } : Jvm.MethodName)) ∈ lw_all := lw_g (lw_at lw_m4 37 rfl) rfl
theorem q954 : (Jvm.Cond.fieldLinkNest "FrostRing" (99 : Nat) "FrostRing$Wrong" "kind" "I" "FrostRing") ∈ lw_tbl := lw_at lw_m4 130 rfl
theorem q956 : (Jvm.Cond.fieldLinkNest "FrostRing" (102 : Nat) "FrostRing$Wrong" "place" "I" "FrostRing") ∈ lw_tbl := lw_at lw_m4 132 rfl
theorem q1094 : (Jvm.Cond.methodLink "FrostRing" (92 : Nat) ({ cls := "FrostRing$Field", name := "begins", desc := "(LFrostRing$Told;)V" } : Jvm.MethodName)) ∈ lw_all := lw_g (lw_at lw_m5 30 rfl) rfl
theorem q1096 : (Jvm.Cond.instanceMethod ({ cls := "FrostRing", name := "fault", desc := "(I)I" } : Jvm.MethodName)) ∈ lw_all := lw_g (lw_at lw_m5 32 rfl) rfl
theorem q1097 : (Jvm.Cond.selects "FrostRing" ({ cls := "FrostRing", name := "fault", desc := "(I)I" } : Jvm.MethodName) ({ cls := "FrostRing", name := "fault", desc := "(I)I" } : Jvm.MethodName)) ∈ lw_all := lw_g (lw_at lw_m5 33 rfl) rfl
theorem q1098 : (Jvm.Cond.code ({ cls := "FrostRing", name := "fault", desc := "(I)I" } : Jvm.MethodName) prog_1_method_14_code (2 : Nat) (Option.some Jvm.ClassFile.FieldType.int)) ∈ lw_all := lw_g (lw_at lw_m5 34 rfl) rfl
theorem q1100 : (Jvm.Cond.instanceMethod ({ cls := "FrostRing", name := "tick", desc := "(I)I" } : Jvm.MethodName)) ∈ lw_all := lw_g (lw_at lw_m5 36 rfl) rfl
theorem q1101 : (Jvm.Cond.selects "FrostRing" ({ cls := "FrostRing", name := "tick", desc := "(I)I" } : Jvm.MethodName) ({ cls := "FrostRing", name := "tick", desc := "(I)I" } : Jvm.MethodName)) ∈ lw_all := lw_g (lw_at lw_m5 37 rfl) rfl
theorem q1102 : (Jvm.Cond.code ({ cls := "FrostRing", name := "tick", desc := "(I)I" } : Jvm.MethodName) prog_1_method_15_code (3 : Nat) (Option.some Jvm.ClassFile.FieldType.int)) ∈ lw_all := lw_g (lw_at lw_m5 38 rfl) rfl
theorem q1103 : (Jvm.Cond.constantLong "FrostRing" (105 : Nat) (40 : Int64)) ∈ lw_all := lw_g (lw_at lw_m5 39 rfl) rfl
theorem q1104 : (Jvm.Cond.methodLink "FrostRing" (110 : Nat) ({ cls := "FrostRing$Field", name := "ticks", desc := "()V" } : Jvm.MethodName)) ∈ lw_all := lw_g (lw_at lw_m5 40 rfl) rfl
theorem q1113 : (Jvm.Cond.static ({ cls := "FrostRing", name := "beside", desc := "(II)I" } : Jvm.MethodName)) ∈ lw_all := lw_g (lw_at lw_m5 49 rfl) rfl
theorem q1114 : (Jvm.Cond.code ({ cls := "FrostRing", name := "beside", desc := "(II)I" } : Jvm.MethodName) prog_1_method_4_code (2 : Nat) (Option.some Jvm.ClassFile.FieldType.int)) ∈ lw_all := lw_g (lw_at lw_m5 50 rfl) rfl
theorem q1175 : (Jvm.Cond.static ({ cls := "FrostRing", name := "isRim", desc := "(I)Z" } : Jvm.MethodName)) ∈ lw_all := lw_g (lw_at lw_m5 111 rfl) rfl
theorem q1176 : (Jvm.Cond.code ({ cls := "FrostRing", name := "isRim", desc := "(I)Z" } : Jvm.MethodName) prog_1_method_3_code (1 : Nat) (Option.some Jvm.ClassFile.FieldType.boolean)) ∈ lw_all := lw_g (lw_at lw_m5 112 rfl) rfl
theorem q1178 : (Jvm.Cond.instanceMethod ({ cls := "FrostRing", name := "cell", desc := "(III)I" } : Jvm.MethodName)) ∈ lw_all := lw_g (lw_at lw_m5 114 rfl) rfl
theorem q1179 : (Jvm.Cond.selects "FrostRing" ({ cls := "FrostRing", name := "cell", desc := "(III)I" } : Jvm.MethodName) ({ cls := "FrostRing", name := "cell", desc := "(III)I" } : Jvm.MethodName)) ∈ lw_all := lw_g (lw_at lw_m5 115 rfl) rfl
theorem q1180 : (Jvm.Cond.code ({ cls := "FrostRing", name := "cell", desc := "(III)I" } : Jvm.MethodName) prog_1_method_17_code (5 : Nat) (Option.some Jvm.ClassFile.FieldType.int)) ∈ lw_all := lw_g (lw_at lw_m5 116 rfl) rfl
theorem q1181 : (Jvm.Cond.methodLink "FrostRing" (132 : Nat) ({ cls := "FrostRing", name := "isCell", desc := "(II)Z" } : Jvm.MethodName)) ∈ lw_all := lw_g (lw_at lw_m5 117 rfl) rfl
theorem q1182 : (Jvm.Cond.static ({ cls := "FrostRing", name := "isCell", desc := "(II)Z" } : Jvm.MethodName)) ∈ lw_all := lw_g (lw_at lw_m5 118 rfl) rfl
theorem q1183 : (Jvm.Cond.code ({ cls := "FrostRing", name := "isCell", desc := "(II)Z" } : Jvm.MethodName) prog_1_method_2_code (2 : Nat) (Option.some Jvm.ClassFile.FieldType.boolean)) ∈ lw_all := lw_g (lw_at lw_m5 119 rfl) rfl
theorem q1184 : (Jvm.Cond.constantLong "FrostRing" (3 : Nat) (11 : Int64)) ∈ lw_all := lw_g (lw_at lw_m5 120 rfl) rfl
theorem q1185 : (Jvm.Cond.constant "FrostRing" (135 : Nat) (-2000000000 : Int32)) ∈ lw_all := lw_g (lw_at lw_m5 121 rfl) rfl
theorem q1186 : (Jvm.Cond.methodLink "FrostRing" (153 : Nat) ({ cls := "FrostRing$Field", name := "isFrozen", desc := "(I)Z" } : Jvm.MethodName)) ∈ lw_all := lw_g (lw_at lw_m5 122 rfl) rfl
theorem q1187 : (Jvm.Cond.methodLink "FrostRing" (156 : Nat) ({ cls := "FrostRing", name := "pipeAt", desc := "(I)I" } : Jvm.MethodName)) ∈ lw_all := lw_g (lw_at lw_m5 123 rfl) rfl
theorem q1188 : (Jvm.Cond.privateMethod ({ cls := "FrostRing", name := "pipeAt", desc := "(I)I" } : Jvm.MethodName)) ∈ lw_tbl := lw_at lw_m5 124 rfl
theorem q1189 : (Jvm.Cond.instanceMethod ({ cls := "FrostRing", name := "pipeAt", desc := "(I)I" } : Jvm.MethodName)) ∈ lw_all := lw_g (lw_at lw_m5 125 rfl) rfl
theorem q1190 : (Jvm.Cond.code ({ cls := "FrostRing", name := "pipeAt", desc := "(I)I" } : Jvm.MethodName) prog_1_method_16_code (3 : Nat) (Option.some Jvm.ClassFile.FieldType.int)) ∈ lw_all := lw_g (lw_at lw_m5 126 rfl) rfl
theorem q1191 : (Jvm.Cond.interfaceEntry "FrostRing" (117 : Nat)) ∈ lw_tbl := lw_at lw_m5 127 rfl
theorem q1192 : (Jvm.Cond.methodLink "FrostRing" (117 : Nat) ({ cls := "java/util/List", name := "size", desc := "()I" } : Jvm.MethodName)) ∈ lw_all := lw_g (lw_at lw_m5 128 rfl) rfl
theorem q1193 : (Jvm.Cond.interfaceEntry "FrostRing" (123 : Nat)) ∈ lw_tbl := lw_at lw_m5 129 rfl
theorem q1194 : (Jvm.Cond.methodLink "FrostRing" (123 : Nat) ({ cls := "java/util/List", name := "get", desc := "(I)Ljava/lang/Object;" } : Jvm.MethodName)) ∈ lw_all := lw_g (lw_at lw_m5 130 rfl) rfl
theorem q1195 : (Jvm.Cond.classLink "FrostRing" (127 : Nat) "FrostRing$Pipe") ∈ lw_all := lw_g (lw_at lw_m5 131 rfl) rfl
theorem q1196 : (Jvm.Cond.methodLink "FrostRing" (160 : Nat) ({ cls := "FrostRing$Told", name := "isShaft", desc := "(I)Z" } : Jvm.MethodName)) ∈ lw_all := lw_g (lw_at lw_m5 132 rfl) rfl
theorem q1198 : (Jvm.Cond.instanceMethod ({ cls := "FrostRing", name := "heat", desc := "(I)I" } : Jvm.MethodName)) ∈ lw_all := lw_g (lw_at lw_m5 134 rfl) rfl
theorem q1199 : (Jvm.Cond.selects "FrostRing" ({ cls := "FrostRing", name := "heat", desc := "(I)I" } : Jvm.MethodName) ({ cls := "FrostRing", name := "heat", desc := "(I)I" } : Jvm.MethodName)) ∈ lw_all := lw_g (lw_at lw_m5 135 rfl) rfl
theorem q1200 : (Jvm.Cond.code ({ cls := "FrostRing", name := "heat", desc := "(I)I" } : Jvm.MethodName) prog_1_method_18_code (2 : Nat) (Option.some Jvm.ClassFile.FieldType.int)) ∈ lw_all := lw_g (lw_at lw_m5 136 rfl) rfl
theorem q1201 : (Jvm.Cond.methodLink "FrostRing" (163 : Nat) ({ cls := "FrostRing$Field", name := "heat", desc := "()I" } : Jvm.MethodName)) ∈ lw_all := lw_g (lw_at lw_m5 137 rfl) rfl
theorem q1206 : (Jvm.Cond.instanceMethod ({ cls := "FrostRing", name := "run", desc := "(IZ)Z" } : Jvm.MethodName)) ∈ lw_all := lw_g (lw_at lw_m5 142 rfl) rfl
theorem q1207 : (Jvm.Cond.selects "FrostRing" ({ cls := "FrostRing", name := "run", desc := "(IZ)Z" } : Jvm.MethodName) ({ cls := "FrostRing", name := "run", desc := "(IZ)Z" } : Jvm.MethodName)) ∈ lw_all := lw_g (lw_at lw_m5 143 rfl) rfl
theorem q1208 : (Jvm.Cond.code ({ cls := "FrostRing", name := "run", desc := "(IZ)Z" } : Jvm.MethodName) prog_1_method_20_code (3 : Nat) (Option.some Jvm.ClassFile.FieldType.boolean)) ∈ lw_all := lw_g (lw_at lw_m5 144 rfl) rfl
theorem q1209 : (Jvm.Cond.methodLink "FrostRing" (181 : Nat) ({ cls := "FrostRing", name := "isPipe", desc := "(I)Z" } : Jvm.MethodName)) ∈ lw_all := lw_g (lw_at lw_m5 145 rfl) rfl
theorem q1210 : (Jvm.Cond.privateMethod ({ cls := "FrostRing", name := "isPipe", desc := "(I)Z" } : Jvm.MethodName)) ∈ lw_tbl := lw_at lw_m5 146 rfl
theorem q1211 : (Jvm.Cond.instanceMethod ({ cls := "FrostRing", name := "isPipe", desc := "(I)Z" } : Jvm.MethodName)) ∈ lw_all := lw_g (lw_at lw_m5 147 rfl) rfl
theorem q1212 : (Jvm.Cond.code ({ cls := "FrostRing", name := "isPipe", desc := "(I)Z" } : Jvm.MethodName) prog_1_method_19_code (2 : Nat) (Option.some Jvm.ClassFile.FieldType.boolean)) ∈ lw_all := lw_g (lw_at lw_m5 148 rfl) rfl
theorem q1214 : (Jvm.Cond.instanceMethod ({ cls := "FrostRing", name := "pipe", desc := "(II)I" } : Jvm.MethodName)) ∈ lw_all := lw_g (lw_at lw_m5 150 rfl) rfl
theorem q1215 : (Jvm.Cond.selects "FrostRing" ({ cls := "FrostRing", name := "pipe", desc := "(II)I" } : Jvm.MethodName) ({ cls := "FrostRing", name := "pipe", desc := "(II)I" } : Jvm.MethodName)) ∈ lw_all := lw_g (lw_at lw_m5 151 rfl) rfl
theorem q1216 : (Jvm.Cond.code ({ cls := "FrostRing", name := "pipe", desc := "(II)I" } : Jvm.MethodName) prog_1_method_21_code (4 : Nat) (Option.some Jvm.ClassFile.FieldType.int)) ∈ lw_all := lw_g (lw_at lw_m5 152 rfl) rfl
theorem q1218 : (Jvm.Cond.instanceMethod ({ cls := "FrostRing", name := "cold", desc := "(I)I" } : Jvm.MethodName)) ∈ lw_all := lw_g (lw_at lw_m5 154 rfl) rfl
theorem q1219 : (Jvm.Cond.selects "FrostRing" ({ cls := "FrostRing", name := "cold", desc := "(I)I" } : Jvm.MethodName) ({ cls := "FrostRing", name := "cold", desc := "(I)I" } : Jvm.MethodName)) ∈ lw_all := lw_g (lw_at lw_m5 155 rfl) rfl
theorem q1220 : (Jvm.Cond.code ({ cls := "FrostRing", name := "cold", desc := "(I)I" } : Jvm.MethodName) prog_1_method_22_code (3 : Nat) (Option.some Jvm.ClassFile.FieldType.int)) ∈ lw_all := lw_g (lw_at lw_m5 156 rfl) rfl
theorem q1221 : (Jvm.Cond.constantLong "FrostRing" (200 : Nat) (99999 : Int64)) ∈ lw_all := lw_g (lw_at lw_m5 157 rfl) rfl
theorem q1223 : (Jvm.Cond.instanceMethod ({ cls := "FrostRing", name := "shut", desc := "()I" } : Jvm.MethodName)) ∈ lw_all := lw_g (lw_at lw_m5 159 rfl) rfl
theorem q1224 : (Jvm.Cond.selects "FrostRing" ({ cls := "FrostRing", name := "shut", desc := "()I" } : Jvm.MethodName) ({ cls := "FrostRing", name := "shut", desc := "()I" } : Jvm.MethodName)) ∈ lw_all := lw_g (lw_at lw_m5 160 rfl) rfl
theorem q1225 : (Jvm.Cond.code ({ cls := "FrostRing", name := "shut", desc := "()I" } : Jvm.MethodName) prog_1_method_24_code (1 : Nat) (Option.some Jvm.ClassFile.FieldType.int)) ∈ lw_all := lw_g (lw_at lw_m5 161 rfl) rfl
theorem q1226 : (Jvm.Cond.methodLink "FrostRing" (209 : Nat) ({ cls := "FrostRing", name := "hasShaft", desc := "()Z" } : Jvm.MethodName)) ∈ lw_all := lw_g (lw_at lw_m5 162 rfl) rfl
theorem q1227 : (Jvm.Cond.privateMethod ({ cls := "FrostRing", name := "hasShaft", desc := "()Z" } : Jvm.MethodName)) ∈ lw_tbl := lw_at lw_m5 163 rfl
theorem q1228 : (Jvm.Cond.instanceMethod ({ cls := "FrostRing", name := "hasShaft", desc := "()Z" } : Jvm.MethodName)) ∈ lw_all := lw_g (lw_at lw_m5 164 rfl) rfl
theorem q1229 : (Jvm.Cond.code ({ cls := "FrostRing", name := "hasShaft", desc := "()Z" } : Jvm.MethodName) prog_1_method_23_code (1 : Nat) (Option.some Jvm.ClassFile.FieldType.boolean)) ∈ lw_all := lw_g (lw_at lw_m5 165 rfl) rfl
theorem q1230 : (Jvm.Cond.methodLink "FrostRing" (205 : Nat) ({ cls := "FrostRing$Told", name := "hasShaft", desc := "()Z" } : Jvm.MethodName)) ∈ lw_all := lw_g (lw_at lw_m5 166 rfl) rfl
theorem q1231 : (Jvm.Cond.methodLink "FrostRing" (210 : Nat) ({ cls := "FrostRing$Field", name := "isShut", desc := "()Z" } : Jvm.MethodName)) ∈ lw_all := lw_g (lw_at lw_m5 167 rfl) rfl
theorem q1233 : (Jvm.Cond.instanceMethod ({ cls := "FrostRing", name := "way", desc := "()I" } : Jvm.MethodName)) ∈ lw_all := lw_g (lw_at lw_m5 169 rfl) rfl
theorem q1234 : (Jvm.Cond.selects "FrostRing" ({ cls := "FrostRing", name := "way", desc := "()I" } : Jvm.MethodName) ({ cls := "FrostRing", name := "way", desc := "()I" } : Jvm.MethodName)) ∈ lw_all := lw_g (lw_at lw_m5 170 rfl) rfl
theorem q1235 : (Jvm.Cond.code ({ cls := "FrostRing", name := "way", desc := "()I" } : Jvm.MethodName) prog_1_method_25_code (1 : Nat) (Option.some Jvm.ClassFile.FieldType.int)) ∈ lw_all := lw_g (lw_at lw_m5 171 rfl) rfl
theorem q1236 : (Jvm.Cond.methodLink "FrostRing" (213 : Nat) ({ cls := "FrostRing$Field", name := "way", desc := "()I" } : Jvm.MethodName)) ∈ lw_all := lw_g (lw_at lw_m5 172 rfl) rfl
theorem q1238 : (Jvm.Cond.instanceMethod ({ cls := "FrostRing", name := "gaps", desc := "()I" } : Jvm.MethodName)) ∈ lw_all := lw_g (lw_at lw_m5 174 rfl) rfl
theorem q1239 : (Jvm.Cond.selects "FrostRing" ({ cls := "FrostRing", name := "gaps", desc := "()I" } : Jvm.MethodName) ({ cls := "FrostRing", name := "gaps", desc := "()I" } : Jvm.MethodName)) ∈ lw_all := lw_g (lw_at lw_m5 175 rfl) rfl
theorem q1240 : (Jvm.Cond.code ({ cls := "FrostRing", name := "gaps", desc := "()I" } : Jvm.MethodName) prog_1_method_26_code (3 : Nat) (Option.some Jvm.ClassFile.FieldType.int)) ∈ lw_all := lw_g (lw_at lw_m5 176 rfl) rfl
theorem q1241 : (Jvm.Cond.classLink "FrostRing" (216 : Nat) "FrostRing$Cut") ∈ lw_all := lw_g (lw_at lw_m5 177 rfl) rfl
theorem q1243 : (Jvm.Cond.methodLink "FrostRing" (218 : Nat) ({ cls := "FrostRing$Cut", name := "<init>", desc := "(LFrostRing$Field;)V" } : Jvm.MethodName)) ∈ lw_all := lw_g (lw_at lw_m5 179 rfl) rfl
theorem q1290 : (Jvm.Cond.fieldLinkNest "FrostRing" (227 : Nat) "FrostRing$Cut" "ways" "I" "FrostRing") ∈ lw_tbl := lw_at lw_m5 226 rfl
theorem q1310 : (Jvm.Cond.methodLink "FrostRing" (224 : Nat) ({ cls := "FrostRing$Cut", name := "isGap", desc := "(I)Z" } : Jvm.MethodName)) ∈ lw_all := lw_g (lw_at lw_m6 6 rfl) rfl
theorem q1315 : (Jvm.Cond.instanceMethod ({ cls := "FrostRing", name := "gap", desc := "(I)I" } : Jvm.MethodName)) ∈ lw_all := lw_g (lw_at lw_m6 11 rfl) rfl
theorem q1316 : (Jvm.Cond.selects "FrostRing" ({ cls := "FrostRing", name := "gap", desc := "(I)I" } : Jvm.MethodName) ({ cls := "FrostRing", name := "gap", desc := "(I)I" } : Jvm.MethodName)) ∈ lw_all := lw_g (lw_at lw_m6 12 rfl) rfl
theorem q1317 : (Jvm.Cond.code ({ cls := "FrostRing", name := "gap", desc := "(I)I" } : Jvm.MethodName) prog_1_method_27_code (2 : Nat) (Option.some Jvm.ClassFile.FieldType.int)) ∈ lw_all := lw_g (lw_at lw_m6 13 rfl) rfl
theorem q1319 : (Jvm.Cond.instanceMethod ({ cls := "FrostRing", name := "thick", desc := "()I" } : Jvm.MethodName)) ∈ lw_all := lw_g (lw_at lw_m6 15 rfl) rfl
theorem q1320 : (Jvm.Cond.selects "FrostRing" ({ cls := "FrostRing", name := "thick", desc := "()I" } : Jvm.MethodName) ({ cls := "FrostRing", name := "thick", desc := "()I" } : Jvm.MethodName)) ∈ lw_all := lw_g (lw_at lw_m6 16 rfl) rfl
theorem q1321 : (Jvm.Cond.code ({ cls := "FrostRing", name := "thick", desc := "()I" } : Jvm.MethodName) prog_1_method_28_code (1 : Nat) (Option.some Jvm.ClassFile.FieldType.int)) ∈ lw_all := lw_g (lw_at lw_m6 17 rfl) rfl
theorem q1322 : (Jvm.Cond.methodLink "FrostRing" (230 : Nat) ({ cls := "FrostRing$Field", name := "thick", desc := "()I" } : Jvm.MethodName)) ∈ lw_all := lw_g (lw_at lw_m6 18 rfl) rfl
theorem q1331 : (Jvm.Cond.instanceMethod ({ cls := "FrostRing", name := "dig", desc := "(II)I" } : Jvm.MethodName)) ∈ lw_all := lw_g (lw_at lw_m6 27 rfl) rfl
theorem q1332 : (Jvm.Cond.selects "FrostRing" ({ cls := "FrostRing", name := "dig", desc := "(II)I" } : Jvm.MethodName) ({ cls := "FrostRing", name := "dig", desc := "(II)I" } : Jvm.MethodName)) ∈ lw_all := lw_g (lw_at lw_m6 28 rfl) rfl
theorem q1333 : (Jvm.Cond.code ({ cls := "FrostRing", name := "dig", desc := "(II)I" } : Jvm.MethodName) prog_1_method_32_code (6 : Nat) (Option.some Jvm.ClassFile.FieldType.int)) ∈ lw_all := lw_g (lw_at lw_m6 29 rfl) rfl
theorem q1334 : (Jvm.Cond.methodLink "FrostRing" (257 : Nat) ({ cls := "FrostRing", name := "mayDig", desc := "()Z" } : Jvm.MethodName)) ∈ lw_all := lw_g (lw_at lw_m6 30 rfl) rfl
theorem q1335 : (Jvm.Cond.privateMethod ({ cls := "FrostRing", name := "mayDig", desc := "()Z" } : Jvm.MethodName)) ∈ lw_tbl := lw_at lw_m6 31 rfl
theorem q1336 : (Jvm.Cond.instanceMethod ({ cls := "FrostRing", name := "mayDig", desc := "()Z" } : Jvm.MethodName)) ∈ lw_all := lw_g (lw_at lw_m6 32 rfl) rfl
theorem q1337 : (Jvm.Cond.code ({ cls := "FrostRing", name := "mayDig", desc := "()Z" } : Jvm.MethodName) prog_1_method_31_code (3 : Nat) (Option.some Jvm.ClassFile.FieldType.boolean)) ∈ lw_all := lw_g (lw_at lw_m6 33 rfl) rfl
theorem q1338 : (Jvm.Cond.interfaceEntry "FrostRing" (248 : Nat)) ∈ lw_tbl := lw_at lw_m6 34 rfl
theorem q1339 : (Jvm.Cond.methodLink "FrostRing" (248 : Nat) ({ cls := "java/util/List", name := "isEmpty", desc := "()Z" } : Jvm.MethodName)) ∈ lw_all := lw_g (lw_at lw_m6 35 rfl) rfl
theorem q1347 : (Jvm.Cond.classLink "FrostRing" (251 : Nat) "FrostRing$Rule") ∈ lw_all := lw_g (lw_at lw_m6 43 rfl) rfl
theorem q1348 : (Jvm.Cond.methodLink "FrostRing" (253 : Nat) ({ cls := "FrostRing$Rule", name := "lacks", desc := "(LFrostRing;)I" } : Jvm.MethodName)) ∈ lw_all := lw_g (lw_at lw_m6 44 rfl) rfl
theorem q1359 : (Jvm.Cond.privateMethod ({ cls := "FrostRing", name := "measured", desc := "(I)I" } : Jvm.MethodName)) ∈ lw_tbl := lw_at lw_m6 55 rfl
theorem q1360 : (Jvm.Cond.instanceMethod ({ cls := "FrostRing", name := "measured", desc := "(I)I" } : Jvm.MethodName)) ∈ lw_all := lw_g (lw_at lw_m6 56 rfl) rfl
theorem q1361 : (Jvm.Cond.code ({ cls := "FrostRing", name := "measured", desc := "(I)I" } : Jvm.MethodName) prog_1_method_30_code (2 : Nat) (Option.some Jvm.ClassFile.FieldType.int)) ∈ lw_all := lw_g (lw_at lw_m6 57 rfl) rfl
theorem q1362 : (Jvm.Cond.methodLink "FrostRing" (242 : Nat) ({ cls := "FrostRing", name := "greatestLift", desc := "()I" } : Jvm.MethodName)) ∈ lw_all := lw_g (lw_at lw_m6 58 rfl) rfl
theorem q1363 : (Jvm.Cond.privateMethod ({ cls := "FrostRing", name := "greatestLift", desc := "()I" } : Jvm.MethodName)) ∈ lw_tbl := lw_at lw_m6 59 rfl
theorem q1364 : (Jvm.Cond.instanceMethod ({ cls := "FrostRing", name := "greatestLift", desc := "()I" } : Jvm.MethodName)) ∈ lw_all := lw_g (lw_at lw_m6 60 rfl) rfl
theorem q1365 : (Jvm.Cond.code ({ cls := "FrostRing", name := "greatestLift", desc := "()I" } : Jvm.MethodName) prog_1_method_29_code (3 : Nat) (Option.some Jvm.ClassFile.FieldType.int)) ∈ lw_all := lw_g (lw_at lw_m6 61 rfl) rfl
theorem q1366 : (Jvm.Cond.methodLink "FrostRing" (233 : Nat) ({ cls := "FrostRing$Field", name := "lift", desc := "(I)I" } : Jvm.MethodName)) ∈ lw_all := lw_g (lw_at lw_m6 62 rfl) rfl
theorem q1367 : (Jvm.Cond.methodLink "FrostRing" (236 : Nat) ({ cls := "java/lang/Math", name := "max", desc := "(II)I" } : Jvm.MethodName)) ∈ lw_all := lw_g (lw_at lw_m6 63 rfl) rfl
theorem q1374 : (Jvm.Cond.instanceMethod ({ cls := "FrostRing", name := "lacks", desc := "(I)I" } : Jvm.MethodName)) ∈ lw_all := lw_g (lw_at lw_m6 70 rfl) rfl
theorem q1375 : (Jvm.Cond.selects "FrostRing" ({ cls := "FrostRing", name := "lacks", desc := "(I)I" } : Jvm.MethodName) ({ cls := "FrostRing", name := "lacks", desc := "(I)I" } : Jvm.MethodName)) ∈ lw_all := lw_g (lw_at lw_m6 71 rfl) rfl
theorem q1376 : (Jvm.Cond.code ({ cls := "FrostRing", name := "lacks", desc := "(I)I" } : Jvm.MethodName) prog_1_method_33_code (2 : Nat) (Option.some Jvm.ClassFile.FieldType.int)) ∈ lw_all := lw_g (lw_at lw_m6 72 rfl) rfl
theorem q1378 : (Jvm.Cond.instanceMethod ({ cls := "FrostRing", name := "pump", desc := "()I" } : Jvm.MethodName)) ∈ lw_all := lw_g (lw_at lw_m6 74 rfl) rfl
theorem q1379 : (Jvm.Cond.selects "FrostRing" ({ cls := "FrostRing", name := "pump", desc := "()I" } : Jvm.MethodName) ({ cls := "FrostRing", name := "pump", desc := "()I" } : Jvm.MethodName)) ∈ lw_all := lw_g (lw_at lw_m6 75 rfl) rfl
theorem q1380 : (Jvm.Cond.code ({ cls := "FrostRing", name := "pump", desc := "()I" } : Jvm.MethodName) prog_1_method_34_code (1 : Nat) (Option.some Jvm.ClassFile.FieldType.int)) ∈ lw_all := lw_g (lw_at lw_m6 76 rfl) rfl
theorem q1382 : (Jvm.Cond.instanceMethod ({ cls := "FrostRing", name := "lift", desc := "(I)I" } : Jvm.MethodName)) ∈ lw_all := lw_g (lw_at lw_m6 78 rfl) rfl
theorem q1383 : (Jvm.Cond.selects "FrostRing" ({ cls := "FrostRing", name := "lift", desc := "(I)I" } : Jvm.MethodName) ({ cls := "FrostRing", name := "lift", desc := "(I)I" } : Jvm.MethodName)) ∈ lw_all := lw_g (lw_at lw_m6 79 rfl) rfl
theorem q1384 : (Jvm.Cond.code ({ cls := "FrostRing", name := "lift", desc := "(I)I" } : Jvm.MethodName) prog_1_method_35_code (2 : Nat) (Option.some Jvm.ClassFile.FieldType.int)) ∈ lw_all := lw_g (lw_at lw_m6 80 rfl) rfl
theorem q1386 : (Jvm.Cond.instanceMethod ({ cls := "FrostRing", name := "cracks", desc := "()I" } : Jvm.MethodName)) ∈ lw_all := lw_g (lw_at lw_m6 82 rfl) rfl
theorem q1387 : (Jvm.Cond.selects "FrostRing" ({ cls := "FrostRing", name := "cracks", desc := "()I" } : Jvm.MethodName) ({ cls := "FrostRing", name := "cracks", desc := "()I" } : Jvm.MethodName)) ∈ lw_all := lw_g (lw_at lw_m6 83 rfl) rfl
theorem q1388 : (Jvm.Cond.code ({ cls := "FrostRing", name := "cracks", desc := "()I" } : Jvm.MethodName) prog_1_method_36_code (3 : Nat) (Option.some Jvm.ClassFile.FieldType.int)) ∈ lw_all := lw_g (lw_at lw_m6 84 rfl) rfl
theorem q1389 : (Jvm.Cond.classLink "FrostRing" (266 : Nat) "FrostRing$House") ∈ lw_all := lw_g (lw_at lw_m6 85 rfl) rfl
theorem q1391 : (Jvm.Cond.instanceMethod ({ cls := "FrostRing", name := "house", desc := "(II)I" } : Jvm.MethodName)) ∈ lw_all := lw_g (lw_at lw_m6 87 rfl) rfl
theorem q1392 : (Jvm.Cond.selects "FrostRing" ({ cls := "FrostRing", name := "house", desc := "(II)I" } : Jvm.MethodName) ({ cls := "FrostRing", name := "house", desc := "(II)I" } : Jvm.MethodName)) ∈ lw_all := lw_g (lw_at lw_m6 88 rfl) rfl
theorem q1393 : (Jvm.Cond.code ({ cls := "FrostRing", name := "house", desc := "(II)I" } : Jvm.MethodName) prog_1_method_37_code (4 : Nat) (Option.some Jvm.ClassFile.FieldType.int)) ∈ lw_all := lw_g (lw_at lw_m6 89 rfl) rfl
theorem q1395 : (Jvm.Cond.instanceMethod ({ cls := "FrostRing", name := "foretell", desc := "()I" } : Jvm.MethodName)) ∈ lw_all := lw_g (lw_at lw_m6 91 rfl) rfl
theorem q1396 : (Jvm.Cond.selects "FrostRing" ({ cls := "FrostRing", name := "foretell", desc := "()I" } : Jvm.MethodName) ({ cls := "FrostRing", name := "foretell", desc := "()I" } : Jvm.MethodName)) ∈ lw_all := lw_g (lw_at lw_m6 92 rfl) rfl
theorem q1397 : (Jvm.Cond.code ({ cls := "FrostRing", name := "foretell", desc := "()I" } : Jvm.MethodName) prog_1_method_38_code (2 : Nat) (Option.some Jvm.ClassFile.FieldType.int)) ∈ lw_all := lw_g (lw_at lw_m6 93 rfl) rfl
theorem q1398 : (Jvm.Cond.methodLink "FrostRing" (277 : Nat) ({ cls := "FrostRing$Field", name := "becomes", desc := "(LFrostRing$Field;)V" } : Jvm.MethodName)) ∈ lw_all := lw_g (lw_at lw_m6 94 rfl) rfl
theorem q1404 : (Jvm.Cond.instanceMethod ({ cls := "FrostRing", name := "off", desc := "()I" } : Jvm.MethodName)) ∈ lw_all := lw_g (lw_at lw_m6 100 rfl) rfl
theorem q1405 : (Jvm.Cond.selects "FrostRing" ({ cls := "FrostRing", name := "off", desc := "()I" } : Jvm.MethodName) ({ cls := "FrostRing", name := "off", desc := "()I" } : Jvm.MethodName)) ∈ lw_all := lw_g (lw_at lw_m6 101 rfl) rfl
theorem q1406 : (Jvm.Cond.code ({ cls := "FrostRing", name := "off", desc := "()I" } : Jvm.MethodName) prog_1_method_39_code (2 : Nat) (Option.some Jvm.ClassFile.FieldType.int)) ∈ lw_all := lw_g (lw_at lw_m6 102 rfl) rfl
theorem q1408 : (Jvm.Cond.instanceMethod ({ cls := "FrostRing", name := "more", desc := "(II)I" } : Jvm.MethodName)) ∈ lw_all := lw_g (lw_at lw_m6 104 rfl) rfl
theorem q1409 : (Jvm.Cond.selects "FrostRing" ({ cls := "FrostRing", name := "more", desc := "(II)I" } : Jvm.MethodName) ({ cls := "FrostRing", name := "more", desc := "(II)I" } : Jvm.MethodName)) ∈ lw_all := lw_g (lw_at lw_m6 105 rfl) rfl
theorem q1410 : (Jvm.Cond.code ({ cls := "FrostRing", name := "more", desc := "(II)I" } : Jvm.MethodName) prog_1_method_43_code (7 : Nat) (Option.some Jvm.ClassFile.FieldType.int)) ∈ lw_all := lw_g (lw_at lw_m6 106 rfl) rfl
theorem q1411 : (Jvm.Cond.constantLong "FrostRing" (296 : Nat) (30 : Int64)) ∈ lw_all := lw_g (lw_at lw_m6 107 rfl) rfl
theorem q1412 : (Jvm.Cond.methodLink "FrostRing" (280 : Nat) ({ cls := "FrostRing$Slot", name := "many", desc := "()I" } : Jvm.MethodName)) ∈ lw_all := lw_g (lw_at lw_m6 108 rfl) rfl
theorem q1416 : (Jvm.Cond.methodLink "FrostRing" (302 : Nat) ({ cls := "FrostRing", name := "mayHave", desc := "(LFrostRing$Slot;)Z" } : Jvm.MethodName)) ∈ lw_all := lw_g (lw_at lw_m6 112 rfl) rfl
theorem q1417 : (Jvm.Cond.privateMethod ({ cls := "FrostRing", name := "mayHave", desc := "(LFrostRing$Slot;)Z" } : Jvm.MethodName)) ∈ lw_tbl := lw_at lw_m6 113 rfl
theorem q1418 : (Jvm.Cond.instanceMethod ({ cls := "FrostRing", name := "mayHave", desc := "(LFrostRing$Slot;)Z" } : Jvm.MethodName)) ∈ lw_all := lw_g (lw_at lw_m6 114 rfl) rfl
theorem q1419 : (Jvm.Cond.code ({ cls := "FrostRing", name := "mayHave", desc := "(LFrostRing$Slot;)Z" } : Jvm.MethodName) prog_1_method_41_code (5 : Nat) (Option.some Jvm.ClassFile.FieldType.boolean)) ∈ lw_all := lw_g (lw_at lw_m6 115 rfl) rfl
theorem q1420 : (Jvm.Cond.methodLink "FrostRing" (283 : Nat) ({ cls := "FrostRing$Slot", name := "number", desc := "(I)J" } : Jvm.MethodName)) ∈ lw_all := lw_g (lw_at lw_m6 116 rfl) rfl
theorem q1424 : (Jvm.Cond.constantLong "FrostRing" (294 : Nat) (143 : Int64)) ∈ lw_all := lw_g (lw_at lw_m6 120 rfl) rfl
theorem q1425 : (Jvm.Cond.methodLink "FrostRing" (306 : Nat) ({ cls := "java/lang/Integer", name := "bitCount", desc := "(I)I" } : Jvm.MethodName)) ∈ lw_all := lw_g (lw_at lw_m6 121 rfl) rfl
theorem q1431 : (Jvm.Cond.methodLink "FrostRing" (311 : Nat) ({ cls := "FrostRing", name := "isAhead", desc := "(II)Z" } : Jvm.MethodName)) ∈ lw_all := lw_g (lw_at lw_m6 127 rfl) rfl
theorem q1432 : (Jvm.Cond.static ({ cls := "FrostRing", name := "isAhead", desc := "(II)Z" } : Jvm.MethodName)) ∈ lw_all := lw_g (lw_at lw_m6 128 rfl) rfl
theorem q1433 : (Jvm.Cond.code ({ cls := "FrostRing", name := "isAhead", desc := "(II)Z" } : Jvm.MethodName) prog_1_method_42_code (3 : Nat) (Option.some Jvm.ClassFile.FieldType.boolean)) ∈ lw_all := lw_g (lw_at lw_m6 129 rfl) rfl
theorem q1434 : (Jvm.Cond.methodLink "FrostRing" (314 : Nat) ({ cls := "FrostRing", name := "shutsBy", desc := "(LFrostRing$Slot;II)Z" } : Jvm.MethodName)) ∈ lw_all := lw_g (lw_at lw_m6 130 rfl) rfl
theorem q1435 : (Jvm.Cond.privateMethod ({ cls := "FrostRing", name := "shutsBy", desc := "(LFrostRing$Slot;II)Z" } : Jvm.MethodName)) ∈ lw_tbl := lw_at lw_m6 131 rfl
theorem q1436 : (Jvm.Cond.instanceMethod ({ cls := "FrostRing", name := "shutsBy", desc := "(LFrostRing$Slot;II)Z" } : Jvm.MethodName)) ∈ lw_all := lw_g (lw_at lw_m6 132 rfl) rfl
theorem q1437 : (Jvm.Cond.code ({ cls := "FrostRing", name := "shutsBy", desc := "(LFrostRing$Slot;II)Z" } : Jvm.MethodName) prog_1_method_40_code (6 : Nat) (Option.some Jvm.ClassFile.FieldType.boolean)) ∈ lw_all := lw_g (lw_at lw_m6 133 rfl) rfl
theorem q1438 : (Jvm.Cond.methodLink "FrostRing" (287 : Nat) ({ cls := "FrostRing$Pipe", name := "<init>", desc := "(III)V" } : Jvm.MethodName)) ∈ lw_all := lw_g (lw_at lw_m6 134 rfl) rfl
theorem q1439 : (Jvm.Cond.interfaceEntry "FrostRing" (290 : Nat)) ∈ lw_tbl := lw_at lw_m6 135 rfl
theorem q1440 : (Jvm.Cond.methodLink "FrostRing" (290 : Nat) ({ cls := "java/util/List", name := "add", desc := "(Ljava/lang/Object;)Z" } : Jvm.MethodName)) ∈ lw_all := lw_g (lw_at lw_m6 136 rfl) rfl
theorem q1442 : (Jvm.Cond.instanceMethod ({ cls := "FrostRing", name := "chosen", desc := "()I" } : Jvm.MethodName)) ∈ lw_all := lw_g (lw_at lw_m6 138 rfl) rfl
theorem q1443 : (Jvm.Cond.selects "FrostRing" ({ cls := "FrostRing", name := "chosen", desc := "()I" } : Jvm.MethodName) ({ cls := "FrostRing", name := "chosen", desc := "()I" } : Jvm.MethodName)) ∈ lw_all := lw_g (lw_at lw_m6 139 rfl) rfl
theorem q1444 : (Jvm.Cond.code ({ cls := "FrostRing", name := "chosen", desc := "()I" } : Jvm.MethodName) prog_1_method_44_code (1 : Nat) (Option.some Jvm.ClassFile.FieldType.int)) ∈ lw_all := lw_g (lw_at lw_m6 140 rfl) rfl
theorem q1446 : (Jvm.Cond.instanceMethod ({ cls := "FrostRing", name := "gauge", desc := "(IIII)I" } : Jvm.MethodName)) ∈ lw_all := lw_g (lw_at lw_m6 142 rfl) rfl
theorem q1447 : (Jvm.Cond.selects "FrostRing" ({ cls := "FrostRing", name := "gauge", desc := "(IIII)I" } : Jvm.MethodName) ({ cls := "FrostRing", name := "gauge", desc := "(IIII)I" } : Jvm.MethodName)) ∈ lw_all := lw_g (lw_at lw_m6 143 rfl) rfl
theorem q1448 : (Jvm.Cond.code ({ cls := "FrostRing", name := "gauge", desc := "(IIII)I" } : Jvm.MethodName) prog_1_method_45_code (5 : Nat) (Option.some Jvm.ClassFile.FieldType.int)) ∈ lw_all := lw_g (lw_at lw_m6 144 rfl) rfl
theorem q1449 : (Jvm.Cond.constantLong "FrostRing" (321 : Nat) (9 : Int64)) ∈ lw_all := lw_g (lw_at lw_m6 145 rfl) rfl
theorem q1450 : (Jvm.Cond.constantLong "FrostRing" (323 : Nat) (-500 : Int64)) ∈ lw_all := lw_g (lw_at lw_m6 146 rfl) rfl
theorem q1451 : (Jvm.Cond.constantLong "FrostRing" (325 : Nat) (500 : Int64)) ∈ lw_all := lw_g (lw_at lw_m6 147 rfl) rfl
theorem q1453 : (Jvm.Cond.instanceMethod ({ cls := "FrostRing", name := "lies", desc := "(I)I" } : Jvm.MethodName)) ∈ lw_all := lw_g (lw_at lw_m6 149 rfl) rfl
theorem q1454 : (Jvm.Cond.selects "FrostRing" ({ cls := "FrostRing", name := "lies", desc := "(I)I" } : Jvm.MethodName) ({ cls := "FrostRing", name := "lies", desc := "(I)I" } : Jvm.MethodName)) ∈ lw_all := lw_g (lw_at lw_m6 150 rfl) rfl
theorem q1455 : (Jvm.Cond.code ({ cls := "FrostRing", name := "lies", desc := "(I)I" } : Jvm.MethodName) prog_1_method_46_code (5 : Nat) (Option.some Jvm.ClassFile.FieldType.int)) ∈ lw_all := lw_g (lw_at lw_m6 151 rfl) rfl
theorem q1456 : (Jvm.Cond.constantLong "FrostRing" (333 : Nat) (99 : Int64)) ∈ lw_all := lw_g (lw_at lw_m6 152 rfl) rfl
theorem q1457 : (Jvm.Cond.methodLink "FrostRing" (335 : Nat) ({ cls := "java/lang/Math", name := "abs", desc := "(I)I" } : Jvm.MethodName)) ∈ lw_all := lw_g (lw_at lw_m6 153 rfl) rfl
theorem q1459 : (Jvm.Cond.instanceMethod ({ cls := "FrostRing", name := "most", desc := "(I)I" } : Jvm.MethodName)) ∈ lw_all := lw_g (lw_at lw_m6 155 rfl) rfl
theorem q1460 : (Jvm.Cond.selects "FrostRing" ({ cls := "FrostRing", name := "most", desc := "(I)I" } : Jvm.MethodName) ({ cls := "FrostRing", name := "most", desc := "(I)I" } : Jvm.MethodName)) ∈ lw_all := lw_g (lw_at lw_m6 156 rfl) rfl
theorem q1461 : (Jvm.Cond.code ({ cls := "FrostRing", name := "most", desc := "(I)I" } : Jvm.MethodName) prog_1_method_47_code (4 : Nat) (Option.some Jvm.ClassFile.FieldType.int)) ∈ lw_all := lw_g (lw_at lw_m6 157 rfl) rfl
theorem q1463 : (Jvm.Cond.instanceMethod ({ cls := "FrostRing", name := "frost", desc := "(I)I" } : Jvm.MethodName)) ∈ lw_all := lw_g (lw_at lw_m6 159 rfl) rfl
theorem q1464 : (Jvm.Cond.selects "FrostRing" ({ cls := "FrostRing", name := "frost", desc := "(I)I" } : Jvm.MethodName) ({ cls := "FrostRing", name := "frost", desc := "(I)I" } : Jvm.MethodName)) ∈ lw_all := lw_g (lw_at lw_m6 160 rfl) rfl
theorem q1465 : (Jvm.Cond.code ({ cls := "FrostRing", name := "frost", desc := "(I)I" } : Jvm.MethodName) prog_1_method_48_code (4 : Nat) (Option.some Jvm.ClassFile.FieldType.int)) ∈ lw_all := lw_g (lw_at lw_m6 161 rfl) rfl
theorem q1467 : (Jvm.Cond.instanceMethod ({ cls := "FrostRing", name := "count", desc := "(I)I" } : Jvm.MethodName)) ∈ lw_all := lw_g (lw_at lw_m6 163 rfl) rfl
theorem q1468 : (Jvm.Cond.selects "FrostRing" ({ cls := "FrostRing", name := "count", desc := "(I)I" } : Jvm.MethodName) ({ cls := "FrostRing", name := "count", desc := "(I)I" } : Jvm.MethodName)) ∈ lw_all := lw_g (lw_at lw_m6 164 rfl) rfl
theorem q1469 : (Jvm.Cond.code ({ cls := "FrostRing", name := "count", desc := "(I)I" } : Jvm.MethodName) prog_1_method_49_code (4 : Nat) (Option.some Jvm.ClassFile.FieldType.int)) ∈ lw_all := lw_g (lw_at lw_m6 165 rfl) rfl
theorem q1471 : (Jvm.Cond.instanceMethod ({ cls := "FrostRing", name := "keep", desc := "(I)I" } : Jvm.MethodName)) ∈ lw_all := lw_g (lw_at lw_m6 167 rfl) rfl
theorem q1472 : (Jvm.Cond.selects "FrostRing" ({ cls := "FrostRing", name := "keep", desc := "(I)I" } : Jvm.MethodName) ({ cls := "FrostRing", name := "keep", desc := "(I)I" } : Jvm.MethodName)) ∈ lw_all := lw_g (lw_at lw_m6 168 rfl) rfl
theorem q1473 : (Jvm.Cond.code ({ cls := "FrostRing", name := "keep", desc := "(I)I" } : Jvm.MethodName) prog_1_method_50_code (2 : Nat) (Option.some Jvm.ClassFile.FieldType.int)) ∈ lw_all := lw_g (lw_at lw_m6 169 rfl) rfl
theorem q1474 : (Jvm.Cond.constantLong "FrostRing" (344 : Nat) (2 : Int64)) ∈ lw_all := lw_g (lw_at lw_m6 170 rfl) rfl
theorem q1476 : (Jvm.Cond.instanceMethod ({ cls := "FrostRing", name := "back", desc := "(I)I" } : Jvm.MethodName)) ∈ lw_all := lw_g (lw_at lw_m6 172 rfl) rfl
theorem q1477 : (Jvm.Cond.selects "FrostRing" ({ cls := "FrostRing", name := "back", desc := "(I)I" } : Jvm.MethodName) ({ cls := "FrostRing", name := "back", desc := "(I)I" } : Jvm.MethodName)) ∈ lw_all := lw_g (lw_at lw_m6 173 rfl) rfl
theorem q1478 : (Jvm.Cond.code ({ cls := "FrostRing", name := "back", desc := "(I)I" } : Jvm.MethodName) prog_1_method_51_code (2 : Nat) (Option.some Jvm.ClassFile.FieldType.int)) ∈ lw_all := lw_g (lw_at lw_m6 174 rfl) rfl
theorem q2043 : (Jvm.Cond.castable "FrostRing" "java/lang/Object") ∈ lw_tbl := lw_at lw_m9 19 rfl
theorem in_X0 : ∀ w ∈ wsX00, w ∈ lw_all := lw_in wsX00 [766, 768, 770, 772, 774, 776, 778, 780, 782, 784, 786] (by decide +kernel) (by decide +kernel)
