/-! FrostRing$Field -/
set_option maxRecDepth 100000
def RX1 : String := "FrostRing$Field"
def TX1 : u_T := fun k => match k with
  | 0 => ("FrostRing$Field", "told", "LFrostRing$Told;", false)
  | 1 => ("FrostRing$Field", "warm", "[I", true)
  | 2 => ("FrostRing$Field", "ice", "[I", true)
  | 3 => ("FrostRing$Field", "came", "[I", true)
  | 4 => ("FrostRing$Field", "dug", "[Z", true)
  | 5 => ("FrostRing$Field", "pipes", "Ljava/util/List;", true)
  | 6 => ("FrostRing$Field", "houses", "Ljava/util/List;", true)
  | 7 => ("FrostRing$Field", "gaugeAt", "[I", true)
  | 8 => ("FrostRing$Field", "reading", "[I", true)
  | 9 => ("FrostRing$Field", "tick", "I", false)
  | 10 => ("FrostRing$Field", "cold", "I", false)
  | 11 => ("FrostRing$Field", "taken", "I", false)
  | 12 => ("FrostRing$Field", "rim", "I", false)
  | 13 => ("FrostRing$Field", "brought", "I", false)
  | 14 => ("FrostRing$Field", "gone", "I", false)
  | 15 => ("FrostRing$Field", "begun", "I", false)
  | 16 => ("FrostRing$Field", "floods", "I", false)
  | 17 => ("FrostRing$Field", "isFlooded", "Z", false)
  | 18 => ("FrostRing$Field", "far", "[I", true)
  | _ => ("FrostRing$Field", "queue", "[I", true)
def tyX1 : Nat → FieldType := fun k => match k with
  | 0 => .object "FrostRing$Told"
  | 1 => .array .int
  | 2 => .array .int
  | 3 => .array .int
  | 4 => .array .boolean
  | 5 => .object "java/util/List"
  | 6 => .object "java/util/List"
  | 7 => .array .int
  | 8 => .array .int
  | 9 => .int
  | 10 => .int
  | 11 => .int
  | 12 => .int
  | 13 => .int
  | 14 => .int
  | 15 => .int
  | 16 => .int
  | 17 => .boolean
  | 18 => .array .int
  | _ => .array .int
abbrev wsX10 : List Cond := u_ws RX1 TX1 20
set_option maxRecDepth 100000 in
theorem nmX1 : ∀ a, a < 20 → ∀ b, b < 20 → a ≠ b → (TX1 a).2.1 ≠ (TX1 b).2.1 := by decide +kernel
set_option maxRecDepth 100000 in
theorem tyX1_ok : ∀ k, k < 20 → parseFieldDescriptor (TX1 k).2.2.1 = some (tyX1 k) := by decide +kernel
abbrev cX1_init : ByteArray := prog_4_method_1_code
def yX1_init : MethodName := ⟨RX1, "<init>", "(LFrostRing$Told;)V"⟩
def dkwX1_init_4 : List UInt8 := [188, 10, 181, 0, 46, 42, 43, 182, 0, 49, 177]
abbrev dktX1_init_4 : List UInt8 := dkwX1_init_4 ++ []
def dkwX1_init_3 : List UInt8 := [181, 0, 37, 42, 16, 10, 188, 10, 181, 0, 40, 42, 17, 0, 144, 188, 10, 181, 0, 43, 42, 17, 2, 68]
abbrev dktX1_init_3 : List UInt8 := dkwX1_init_3 ++ dktX1_init_4
def dkwX1_init_2 : List UInt8 := [183, 0, 27, 181, 0, 30, 42, 187, 0, 25, 89, 7, 183, 0, 27, 181, 0, 34, 42, 16, 10, 188, 10]
abbrev dktX1_init_2 : List UInt8 := dkwX1_init_2 ++ dktX1_init_3
def dkwX1_init_1 : List UInt8 := [17, 0, 144, 188, 10, 181, 0, 18, 42, 17, 0, 144, 188, 4, 181, 0, 21, 42, 187, 0, 25, 89, 7]
abbrev dktX1_init_1 : List UInt8 := dkwX1_init_1 ++ dktX1_init_2
def dkwX1_init_0 : List UInt8 := [42, 183, 0, 3, 42, 17, 0, 144, 188, 10, 181, 0, 9, 42, 17, 0, 144, 188, 10, 181, 0, 15, 42]
abbrev dktX1_init_0 : List UInt8 := dkwX1_init_0 ++ dktX1_init_1
theorem dksX1_init_0 : cX1_init.data.toList.drop 0 = dktX1_init_0 := by decide +kernel
theorem dksX1_init_1 : cX1_init.data.toList.drop 23 = dktX1_init_1 := dk_seg dksX1_init_0 23 rfl rfl
theorem dksX1_init_2 : cX1_init.data.toList.drop 46 = dktX1_init_2 := dk_seg dksX1_init_1 23 rfl rfl
theorem dksX1_init_3 : cX1_init.data.toList.drop 69 = dktX1_init_3 := dk_seg dksX1_init_2 23 rfl rfl
theorem dksX1_init_4 : cX1_init.data.toList.drop 93 = dktX1_init_4 := dk_seg dksX1_init_3 24 rfl rfl
theorem dX1_init_0 : decode cX1_init 0 = .ok (.aload_n 0, 1) := dk_42 (dk_at dksX1_init_0 0 rfl rfl)
theorem dX1_init_1 : decode cX1_init 1 = .ok (.invokespecial 3, 3) := dk_183 0 3 (dk_at dksX1_init_0 1 rfl rfl)
theorem dX1_init_4 : decode cX1_init 4 = .ok (.aload_n 0, 1) := dk_42 (dk_at dksX1_init_0 4 rfl rfl)
theorem dX1_init_5 : decode cX1_init 5 = .ok (.sipush 144, 3) := dk_17 0 144 (dk_at dksX1_init_0 5 rfl rfl)
theorem dX1_init_8 : decode cX1_init 8 = .ok (.newarray .int, 2) := dk_188_10 (dk_at dksX1_init_0 8 rfl rfl)
theorem dX1_init_10 : decode cX1_init 10 = .ok (.putfield 9, 3) := dk_181 0 9 (dk_at dksX1_init_0 10 rfl rfl)
theorem dX1_init_13 : decode cX1_init 13 = .ok (.aload_n 0, 1) := dk_42 (dk_at dksX1_init_0 13 rfl rfl)
theorem dX1_init_14 : decode cX1_init 14 = .ok (.sipush 144, 3) := dk_17 0 144 (dk_at dksX1_init_0 14 rfl rfl)
theorem dX1_init_17 : decode cX1_init 17 = .ok (.newarray .int, 2) := dk_188_10 (dk_at dksX1_init_0 17 rfl rfl)
theorem dX1_init_19 : decode cX1_init 19 = .ok (.putfield 15, 3) := dk_181 0 15 (dk_at dksX1_init_0 19 rfl rfl)
theorem dX1_init_22 : decode cX1_init 22 = .ok (.aload_n 0, 1) := dk_42 (dk_at dksX1_init_0 22 rfl rfl)
theorem dX1_init_23 : decode cX1_init 23 = .ok (.sipush 144, 3) := dk_17 0 144 (dk_at dksX1_init_1 0 rfl rfl)
theorem dX1_init_26 : decode cX1_init 26 = .ok (.newarray .int, 2) := dk_188_10 (dk_at dksX1_init_1 3 rfl rfl)
theorem dX1_init_28 : decode cX1_init 28 = .ok (.putfield 18, 3) := dk_181 0 18 (dk_at dksX1_init_1 5 rfl rfl)
theorem dX1_init_31 : decode cX1_init 31 = .ok (.aload_n 0, 1) := dk_42 (dk_at dksX1_init_1 8 rfl rfl)
theorem dX1_init_32 : decode cX1_init 32 = .ok (.sipush 144, 3) := dk_17 0 144 (dk_at dksX1_init_1 9 rfl rfl)
theorem dX1_init_35 : decode cX1_init 35 = .ok (.newarray .boolean, 2) := dk_188_4 (dk_at dksX1_init_1 12 rfl rfl)
theorem dX1_init_37 : decode cX1_init 37 = .ok (.putfield 21, 3) := dk_181 0 21 (dk_at dksX1_init_1 14 rfl rfl)
theorem dX1_init_40 : decode cX1_init 40 = .ok (.aload_n 0, 1) := dk_42 (dk_at dksX1_init_1 17 rfl rfl)
theorem dX1_init_41 : decode cX1_init 41 = .ok (.new 25, 3) := dk_187 0 25 (dk_at dksX1_init_1 18 rfl rfl)
theorem dX1_init_44 : decode cX1_init 44 = .ok (.dup, 1) := dk_89 (dk_at dksX1_init_1 21 rfl rfl)
theorem dX1_init_45 : decode cX1_init 45 = .ok (.iconst 4, 1) := dk_7 (dk_at dksX1_init_1 22 rfl rfl)
theorem dX1_init_46 : decode cX1_init 46 = .ok (.invokespecial 27, 3) := dk_183 0 27 (dk_at dksX1_init_2 0 rfl rfl)
theorem dX1_init_49 : decode cX1_init 49 = .ok (.putfield 30, 3) := dk_181 0 30 (dk_at dksX1_init_2 3 rfl rfl)
theorem dX1_init_52 : decode cX1_init 52 = .ok (.aload_n 0, 1) := dk_42 (dk_at dksX1_init_2 6 rfl rfl)
theorem dX1_init_53 : decode cX1_init 53 = .ok (.new 25, 3) := dk_187 0 25 (dk_at dksX1_init_2 7 rfl rfl)
theorem dX1_init_56 : decode cX1_init 56 = .ok (.dup, 1) := dk_89 (dk_at dksX1_init_2 10 rfl rfl)
theorem dX1_init_57 : decode cX1_init 57 = .ok (.iconst 4, 1) := dk_7 (dk_at dksX1_init_2 11 rfl rfl)
theorem dX1_init_58 : decode cX1_init 58 = .ok (.invokespecial 27, 3) := dk_183 0 27 (dk_at dksX1_init_2 12 rfl rfl)
theorem dX1_init_61 : decode cX1_init 61 = .ok (.putfield 34, 3) := dk_181 0 34 (dk_at dksX1_init_2 15 rfl rfl)
theorem dX1_init_64 : decode cX1_init 64 = .ok (.aload_n 0, 1) := dk_42 (dk_at dksX1_init_2 18 rfl rfl)
theorem dX1_init_65 : decode cX1_init 65 = .ok (.bipush 10, 2) := dk_16 10 (dk_at dksX1_init_2 19 rfl rfl)
theorem dX1_init_67 : decode cX1_init 67 = .ok (.newarray .int, 2) := dk_188_10 (dk_at dksX1_init_2 21 rfl rfl)
theorem dX1_init_69 : decode cX1_init 69 = .ok (.putfield 37, 3) := dk_181 0 37 (dk_at dksX1_init_3 0 rfl rfl)
theorem dX1_init_72 : decode cX1_init 72 = .ok (.aload_n 0, 1) := dk_42 (dk_at dksX1_init_3 3 rfl rfl)
theorem dX1_init_73 : decode cX1_init 73 = .ok (.bipush 10, 2) := dk_16 10 (dk_at dksX1_init_3 4 rfl rfl)
theorem dX1_init_75 : decode cX1_init 75 = .ok (.newarray .int, 2) := dk_188_10 (dk_at dksX1_init_3 6 rfl rfl)
theorem dX1_init_77 : decode cX1_init 77 = .ok (.putfield 40, 3) := dk_181 0 40 (dk_at dksX1_init_3 8 rfl rfl)
theorem dX1_init_80 : decode cX1_init 80 = .ok (.aload_n 0, 1) := dk_42 (dk_at dksX1_init_3 11 rfl rfl)
theorem dX1_init_81 : decode cX1_init 81 = .ok (.sipush 144, 3) := dk_17 0 144 (dk_at dksX1_init_3 12 rfl rfl)
theorem dX1_init_84 : decode cX1_init 84 = .ok (.newarray .int, 2) := dk_188_10 (dk_at dksX1_init_3 15 rfl rfl)
theorem dX1_init_86 : decode cX1_init 86 = .ok (.putfield 43, 3) := dk_181 0 43 (dk_at dksX1_init_3 17 rfl rfl)
theorem dX1_init_89 : decode cX1_init 89 = .ok (.aload_n 0, 1) := dk_42 (dk_at dksX1_init_3 20 rfl rfl)
theorem dX1_init_90 : decode cX1_init 90 = .ok (.sipush 580, 3) := dk_17 2 68 (dk_at dksX1_init_3 21 rfl rfl)
theorem dX1_init_93 : decode cX1_init 93 = .ok (.newarray .int, 2) := dk_188_10 (dk_at dksX1_init_4 0 rfl rfl)
theorem dX1_init_95 : decode cX1_init 95 = .ok (.putfield 46, 3) := dk_181 0 46 (dk_at dksX1_init_4 2 rfl rfl)
theorem dX1_init_98 : decode cX1_init 98 = .ok (.aload_n 0, 1) := dk_42 (dk_at dksX1_init_4 5 rfl rfl)
theorem dX1_init_99 : decode cX1_init 99 = .ok (.aload_n 1, 1) := dk_43 (dk_at dksX1_init_4 6 rfl rfl)
theorem dX1_init_100 : decode cX1_init 100 = .ok (.invokevirtual 49, 3) := dk_182 0 49 (dk_at dksX1_init_4 7 rfl rfl)
theorem dX1_init_103 : decode cX1_init 103 = .ok (.return_, 1) := dk_177 (dk_at dksX1_init_4 10 rfl rfl)
abbrev cX1_begins : ByteArray := prog_4_method_2_code
def yX1_begins : MethodName := ⟨RX1, "begins", "(LFrostRing$Told;)V"⟩
def dkwX1_begins_10 : List UInt8 := [177]
abbrev dktX1_begins_10 : List UInt8 := dkwX1_begins_10 ++ []
def dkwX1_begins_9 : List UInt8 := [180, 0, 21, 28, 3, 84, 132, 2, 1, 167, 255, 222, 42, 17, 0, 144, 43, 180, 0, 116, 104, 181, 0, 118]
abbrev dktX1_begins_9 : List UInt8 := dkwX1_begins_9 ++ dktX1_begins_10
def dkwX1_begins_8 : List UInt8 := [17, 0, 144, 162, 0, 33, 42, 180, 0, 9, 28, 43, 180, 0, 116, 79, 42, 180, 0, 15, 28, 3, 79, 42]
abbrev dktX1_begins_8 : List UInt8 := dkwX1_begins_8 ++ dktX1_begins_9
def dkwX1_begins_7 : List UInt8 := [61, 28, 16, 10, 162, 0, 16, 42, 180, 0, 37, 28, 2, 79, 132, 2, 1, 167, 255, 240, 3, 61, 28]
abbrev dktX1_begins_7 : List UInt8 := dkwX1_begins_7 ++ dktX1_begins_8
def dkwX1_begins_6 : List UInt8 := [185, 0, 96, 2, 0, 192, 0, 111, 182, 0, 113, 185, 0, 106, 2, 0, 87, 132, 2, 1, 167, 255, 214, 3]
abbrev dktX1_begins_6 : List UInt8 := dkwX1_begins_6 ++ dktX1_begins_7
def dkwX1_begins_5 : List UInt8 := [61, 28, 43, 180, 0, 110, 185, 0, 92, 1, 0, 162, 0, 35, 42, 180, 0, 34, 43, 180, 0, 110, 28]
abbrev dktX1_begins_5 : List UInt8 := dkwX1_begins_5 ++ dktX1_begins_6
def dkwX1_begins_4 : List UInt8 := [185, 0, 96, 2, 0, 192, 0, 100, 182, 0, 102, 185, 0, 106, 2, 0, 87, 132, 2, 1, 167, 255, 214, 3]
abbrev dktX1_begins_4 : List UInt8 := dkwX1_begins_4 ++ dktX1_begins_5
def dkwX1_begins_3 : List UInt8 := [180, 0, 91, 185, 0, 92, 1, 0, 162, 0, 35, 42, 180, 0, 30, 43, 180, 0, 91, 28]
abbrev dktX1_begins_3 : List UInt8 := dkwX1_begins_3 ++ dktX1_begins_4
def dkwX1_begins_2 : List UInt8 := [42, 180, 0, 30, 185, 0, 86, 1, 0, 42, 180, 0, 34, 185, 0, 86, 1, 0, 3, 61, 28, 43]
abbrev dktX1_begins_2 : List UInt8 := dkwX1_begins_2 ++ dktX1_begins_3
def dkwX1_begins_1 : List UInt8 := [3, 181, 0, 70, 42, 3, 181, 0, 73, 42, 3, 181, 0, 76, 42, 3, 181, 0, 79, 42, 3, 181, 0, 82]
abbrev dktX1_begins_1 : List UInt8 := dkwX1_begins_1 ++ dktX1_begins_2
def dkwX1_begins_0 : List UInt8 := [42, 43, 181, 0, 53, 42, 3, 181, 0, 57, 42, 43, 180, 0, 61, 181, 0, 66, 42, 3, 181, 0, 67, 42]
abbrev dktX1_begins_0 : List UInt8 := dkwX1_begins_0 ++ dktX1_begins_1
theorem dksX1_begins_0 : cX1_begins.data.toList.drop 0 = dktX1_begins_0 := by decide +kernel
theorem dksX1_begins_1 : cX1_begins.data.toList.drop 24 = dktX1_begins_1 := dk_seg dksX1_begins_0 24 rfl rfl
theorem dksX1_begins_2 : cX1_begins.data.toList.drop 48 = dktX1_begins_2 := dk_seg dksX1_begins_1 24 rfl rfl
theorem dksX1_begins_3 : cX1_begins.data.toList.drop 70 = dktX1_begins_3 := dk_seg dksX1_begins_2 22 rfl rfl
theorem dksX1_begins_4 : cX1_begins.data.toList.drop 90 = dktX1_begins_4 := dk_seg dksX1_begins_3 20 rfl rfl
theorem dksX1_begins_5 : cX1_begins.data.toList.drop 114 = dktX1_begins_5 := dk_seg dksX1_begins_4 24 rfl rfl
theorem dksX1_begins_6 : cX1_begins.data.toList.drop 137 = dktX1_begins_6 := dk_seg dksX1_begins_5 23 rfl rfl
theorem dksX1_begins_7 : cX1_begins.data.toList.drop 161 = dktX1_begins_7 := dk_seg dksX1_begins_6 24 rfl rfl
theorem dksX1_begins_8 : cX1_begins.data.toList.drop 184 = dktX1_begins_8 := dk_seg dksX1_begins_7 23 rfl rfl
theorem dksX1_begins_9 : cX1_begins.data.toList.drop 208 = dktX1_begins_9 := dk_seg dksX1_begins_8 24 rfl rfl
theorem dksX1_begins_10 : cX1_begins.data.toList.drop 232 = dktX1_begins_10 := dk_seg dksX1_begins_9 24 rfl rfl
theorem dX1_begins_0 : decode cX1_begins 0 = .ok (.aload_n 0, 1) := dk_42 (dk_at dksX1_begins_0 0 rfl rfl)
theorem dX1_begins_1 : decode cX1_begins 1 = .ok (.aload_n 1, 1) := dk_43 (dk_at dksX1_begins_0 1 rfl rfl)
theorem dX1_begins_2 : decode cX1_begins 2 = .ok (.putfield 53, 3) := dk_181 0 53 (dk_at dksX1_begins_0 2 rfl rfl)
theorem dX1_begins_5 : decode cX1_begins 5 = .ok (.aload_n 0, 1) := dk_42 (dk_at dksX1_begins_0 5 rfl rfl)
theorem dX1_begins_6 : decode cX1_begins 6 = .ok (.iconst 0, 1) := dk_3 (dk_at dksX1_begins_0 6 rfl rfl)
theorem dX1_begins_7 : decode cX1_begins 7 = .ok (.putfield 57, 3) := dk_181 0 57 (dk_at dksX1_begins_0 7 rfl rfl)
theorem dX1_begins_10 : decode cX1_begins 10 = .ok (.aload_n 0, 1) := dk_42 (dk_at dksX1_begins_0 10 rfl rfl)
theorem dX1_begins_11 : decode cX1_begins 11 = .ok (.aload_n 1, 1) := dk_43 (dk_at dksX1_begins_0 11 rfl rfl)
theorem dX1_begins_12 : decode cX1_begins 12 = .ok (.getfield 61, 3) := dk_180 0 61 (dk_at dksX1_begins_0 12 rfl rfl)
theorem dX1_begins_15 : decode cX1_begins 15 = .ok (.putfield 66, 3) := dk_181 0 66 (dk_at dksX1_begins_0 15 rfl rfl)
theorem dX1_begins_18 : decode cX1_begins 18 = .ok (.aload_n 0, 1) := dk_42 (dk_at dksX1_begins_0 18 rfl rfl)
theorem dX1_begins_19 : decode cX1_begins 19 = .ok (.iconst 0, 1) := dk_3 (dk_at dksX1_begins_0 19 rfl rfl)
theorem dX1_begins_20 : decode cX1_begins 20 = .ok (.putfield 67, 3) := dk_181 0 67 (dk_at dksX1_begins_0 20 rfl rfl)
theorem dX1_begins_23 : decode cX1_begins 23 = .ok (.aload_n 0, 1) := dk_42 (dk_at dksX1_begins_0 23 rfl rfl)
theorem dX1_begins_24 : decode cX1_begins 24 = .ok (.iconst 0, 1) := dk_3 (dk_at dksX1_begins_1 0 rfl rfl)
theorem dX1_begins_25 : decode cX1_begins 25 = .ok (.putfield 70, 3) := dk_181 0 70 (dk_at dksX1_begins_1 1 rfl rfl)
theorem dX1_begins_28 : decode cX1_begins 28 = .ok (.aload_n 0, 1) := dk_42 (dk_at dksX1_begins_1 4 rfl rfl)
theorem dX1_begins_29 : decode cX1_begins 29 = .ok (.iconst 0, 1) := dk_3 (dk_at dksX1_begins_1 5 rfl rfl)
theorem dX1_begins_30 : decode cX1_begins 30 = .ok (.putfield 73, 3) := dk_181 0 73 (dk_at dksX1_begins_1 6 rfl rfl)
theorem dX1_begins_33 : decode cX1_begins 33 = .ok (.aload_n 0, 1) := dk_42 (dk_at dksX1_begins_1 9 rfl rfl)
theorem dX1_begins_34 : decode cX1_begins 34 = .ok (.iconst 0, 1) := dk_3 (dk_at dksX1_begins_1 10 rfl rfl)
theorem dX1_begins_35 : decode cX1_begins 35 = .ok (.putfield 76, 3) := dk_181 0 76 (dk_at dksX1_begins_1 11 rfl rfl)
theorem dX1_begins_38 : decode cX1_begins 38 = .ok (.aload_n 0, 1) := dk_42 (dk_at dksX1_begins_1 14 rfl rfl)
theorem dX1_begins_39 : decode cX1_begins 39 = .ok (.iconst 0, 1) := dk_3 (dk_at dksX1_begins_1 15 rfl rfl)
theorem dX1_begins_40 : decode cX1_begins 40 = .ok (.putfield 79, 3) := dk_181 0 79 (dk_at dksX1_begins_1 16 rfl rfl)
theorem dX1_begins_43 : decode cX1_begins 43 = .ok (.aload_n 0, 1) := dk_42 (dk_at dksX1_begins_1 19 rfl rfl)
theorem dX1_begins_44 : decode cX1_begins 44 = .ok (.iconst 0, 1) := dk_3 (dk_at dksX1_begins_1 20 rfl rfl)
theorem dX1_begins_45 : decode cX1_begins 45 = .ok (.putfield 82, 3) := dk_181 0 82 (dk_at dksX1_begins_1 21 rfl rfl)
theorem dX1_begins_48 : decode cX1_begins 48 = .ok (.aload_n 0, 1) := dk_42 (dk_at dksX1_begins_2 0 rfl rfl)
theorem dX1_begins_49 : decode cX1_begins 49 = .ok (.getfield 30, 3) := dk_180 0 30 (dk_at dksX1_begins_2 1 rfl rfl)
theorem dX1_begins_52 : decode cX1_begins 52 = .ok (.invokeinterface 86 1, 5) := by decide +kernel
theorem dX1_begins_57 : decode cX1_begins 57 = .ok (.aload_n 0, 1) := dk_42 (dk_at dksX1_begins_2 9 rfl rfl)
theorem dX1_begins_58 : decode cX1_begins 58 = .ok (.getfield 34, 3) := dk_180 0 34 (dk_at dksX1_begins_2 10 rfl rfl)
theorem dX1_begins_61 : decode cX1_begins 61 = .ok (.invokeinterface 86 1, 5) := by decide +kernel
theorem dX1_begins_66 : decode cX1_begins 66 = .ok (.iconst 0, 1) := dk_3 (dk_at dksX1_begins_2 18 rfl rfl)
theorem dX1_begins_67 : decode cX1_begins 67 = .ok (.istore_n 2, 1) := dk_61 (dk_at dksX1_begins_2 19 rfl rfl)
theorem dX1_begins_68 : decode cX1_begins 68 = .ok (.iload_n 2, 1) := dk_28 (dk_at dksX1_begins_2 20 rfl rfl)
theorem dX1_begins_69 : decode cX1_begins 69 = .ok (.aload_n 1, 1) := dk_43 (dk_at dksX1_begins_2 21 rfl rfl)
theorem dX1_begins_70 : decode cX1_begins 70 = .ok (.getfield 91, 3) := dk_180 0 91 (dk_at dksX1_begins_3 0 rfl rfl)
theorem dX1_begins_73 : decode cX1_begins 73 = .ok (.invokeinterface 92 1, 5) := by decide +kernel
theorem dX1_begins_78 : decode cX1_begins 78 = .ok (.if_icmp .ge 35, 3) := dk_162 0 35 (dk_at dksX1_begins_3 8 rfl rfl)
theorem dX1_begins_81 : decode cX1_begins 81 = .ok (.aload_n 0, 1) := dk_42 (dk_at dksX1_begins_3 11 rfl rfl)
theorem dX1_begins_82 : decode cX1_begins 82 = .ok (.getfield 30, 3) := dk_180 0 30 (dk_at dksX1_begins_3 12 rfl rfl)
theorem dX1_begins_85 : decode cX1_begins 85 = .ok (.aload_n 1, 1) := dk_43 (dk_at dksX1_begins_3 15 rfl rfl)
theorem dX1_begins_86 : decode cX1_begins 86 = .ok (.getfield 91, 3) := dk_180 0 91 (dk_at dksX1_begins_3 16 rfl rfl)
theorem dX1_begins_89 : decode cX1_begins 89 = .ok (.iload_n 2, 1) := dk_28 (dk_at dksX1_begins_3 19 rfl rfl)
theorem dX1_begins_90 : decode cX1_begins 90 = .ok (.invokeinterface 96 2, 5) := by decide +kernel
theorem dX1_begins_95 : decode cX1_begins 95 = .ok (.checkcast 100, 3) := dk_192 0 100 (dk_at dksX1_begins_4 5 rfl rfl)
theorem dX1_begins_98 : decode cX1_begins 98 = .ok (.invokevirtual 102, 3) := dk_182 0 102 (dk_at dksX1_begins_4 8 rfl rfl)
theorem dX1_begins_101 : decode cX1_begins 101 = .ok (.invokeinterface 106 2, 5) := by decide +kernel
theorem dX1_begins_106 : decode cX1_begins 106 = .ok (.pop, 1) := dk_87 (dk_at dksX1_begins_4 16 rfl rfl)
theorem dX1_begins_107 : decode cX1_begins 107 = .ok (.iinc 2 1, 3) := dk_132 2 1 (dk_at dksX1_begins_4 17 rfl rfl)
theorem dX1_begins_110 : decode cX1_begins 110 = .ok (.goto (-42), 3) := dk_167 255 214 (dk_at dksX1_begins_4 20 rfl rfl)
theorem dX1_begins_113 : decode cX1_begins 113 = .ok (.iconst 0, 1) := dk_3 (dk_at dksX1_begins_4 23 rfl rfl)
theorem dX1_begins_114 : decode cX1_begins 114 = .ok (.istore_n 2, 1) := dk_61 (dk_at dksX1_begins_5 0 rfl rfl)
theorem dX1_begins_115 : decode cX1_begins 115 = .ok (.iload_n 2, 1) := dk_28 (dk_at dksX1_begins_5 1 rfl rfl)
theorem dX1_begins_116 : decode cX1_begins 116 = .ok (.aload_n 1, 1) := dk_43 (dk_at dksX1_begins_5 2 rfl rfl)
theorem dX1_begins_117 : decode cX1_begins 117 = .ok (.getfield 110, 3) := dk_180 0 110 (dk_at dksX1_begins_5 3 rfl rfl)
theorem dX1_begins_120 : decode cX1_begins 120 = .ok (.invokeinterface 92 1, 5) := by decide +kernel
theorem dX1_begins_125 : decode cX1_begins 125 = .ok (.if_icmp .ge 35, 3) := dk_162 0 35 (dk_at dksX1_begins_5 11 rfl rfl)
theorem dX1_begins_128 : decode cX1_begins 128 = .ok (.aload_n 0, 1) := dk_42 (dk_at dksX1_begins_5 14 rfl rfl)
theorem dX1_begins_129 : decode cX1_begins 129 = .ok (.getfield 34, 3) := dk_180 0 34 (dk_at dksX1_begins_5 15 rfl rfl)
theorem dX1_begins_132 : decode cX1_begins 132 = .ok (.aload_n 1, 1) := dk_43 (dk_at dksX1_begins_5 18 rfl rfl)
theorem dX1_begins_133 : decode cX1_begins 133 = .ok (.getfield 110, 3) := dk_180 0 110 (dk_at dksX1_begins_5 19 rfl rfl)
theorem dX1_begins_136 : decode cX1_begins 136 = .ok (.iload_n 2, 1) := dk_28 (dk_at dksX1_begins_5 22 rfl rfl)
theorem dX1_begins_137 : decode cX1_begins 137 = .ok (.invokeinterface 96 2, 5) := by decide +kernel
theorem dX1_begins_142 : decode cX1_begins 142 = .ok (.checkcast 111, 3) := dk_192 0 111 (dk_at dksX1_begins_6 5 rfl rfl)
theorem dX1_begins_145 : decode cX1_begins 145 = .ok (.invokevirtual 113, 3) := dk_182 0 113 (dk_at dksX1_begins_6 8 rfl rfl)
theorem dX1_begins_148 : decode cX1_begins 148 = .ok (.invokeinterface 106 2, 5) := by decide +kernel
theorem dX1_begins_153 : decode cX1_begins 153 = .ok (.pop, 1) := dk_87 (dk_at dksX1_begins_6 16 rfl rfl)
theorem dX1_begins_154 : decode cX1_begins 154 = .ok (.iinc 2 1, 3) := dk_132 2 1 (dk_at dksX1_begins_6 17 rfl rfl)
theorem dX1_begins_157 : decode cX1_begins 157 = .ok (.goto (-42), 3) := dk_167 255 214 (dk_at dksX1_begins_6 20 rfl rfl)
theorem dX1_begins_160 : decode cX1_begins 160 = .ok (.iconst 0, 1) := dk_3 (dk_at dksX1_begins_6 23 rfl rfl)
theorem dX1_begins_161 : decode cX1_begins 161 = .ok (.istore_n 2, 1) := dk_61 (dk_at dksX1_begins_7 0 rfl rfl)
theorem dX1_begins_162 : decode cX1_begins 162 = .ok (.iload_n 2, 1) := dk_28 (dk_at dksX1_begins_7 1 rfl rfl)
theorem dX1_begins_163 : decode cX1_begins 163 = .ok (.bipush 10, 2) := dk_16 10 (dk_at dksX1_begins_7 2 rfl rfl)
theorem dX1_begins_165 : decode cX1_begins 165 = .ok (.if_icmp .ge 16, 3) := dk_162 0 16 (dk_at dksX1_begins_7 4 rfl rfl)
theorem dX1_begins_168 : decode cX1_begins 168 = .ok (.aload_n 0, 1) := dk_42 (dk_at dksX1_begins_7 7 rfl rfl)
theorem dX1_begins_169 : decode cX1_begins 169 = .ok (.getfield 37, 3) := dk_180 0 37 (dk_at dksX1_begins_7 8 rfl rfl)
theorem dX1_begins_172 : decode cX1_begins 172 = .ok (.iload_n 2, 1) := dk_28 (dk_at dksX1_begins_7 11 rfl rfl)
theorem dX1_begins_173 : decode cX1_begins 173 = .ok (.iconst (-1), 1) := dk_2 (dk_at dksX1_begins_7 12 rfl rfl)
theorem dX1_begins_174 : decode cX1_begins 174 = .ok (.iastore, 1) := dk_79 (dk_at dksX1_begins_7 13 rfl rfl)
theorem dX1_begins_175 : decode cX1_begins 175 = .ok (.iinc 2 1, 3) := dk_132 2 1 (dk_at dksX1_begins_7 14 rfl rfl)
theorem dX1_begins_178 : decode cX1_begins 178 = .ok (.goto (-16), 3) := dk_167 255 240 (dk_at dksX1_begins_7 17 rfl rfl)
theorem dX1_begins_181 : decode cX1_begins 181 = .ok (.iconst 0, 1) := dk_3 (dk_at dksX1_begins_7 20 rfl rfl)
theorem dX1_begins_182 : decode cX1_begins 182 = .ok (.istore_n 2, 1) := dk_61 (dk_at dksX1_begins_7 21 rfl rfl)
theorem dX1_begins_183 : decode cX1_begins 183 = .ok (.iload_n 2, 1) := dk_28 (dk_at dksX1_begins_7 22 rfl rfl)
theorem dX1_begins_184 : decode cX1_begins 184 = .ok (.sipush 144, 3) := dk_17 0 144 (dk_at dksX1_begins_8 0 rfl rfl)
theorem dX1_begins_187 : decode cX1_begins 187 = .ok (.if_icmp .ge 33, 3) := dk_162 0 33 (dk_at dksX1_begins_8 3 rfl rfl)
theorem dX1_begins_190 : decode cX1_begins 190 = .ok (.aload_n 0, 1) := dk_42 (dk_at dksX1_begins_8 6 rfl rfl)
theorem dX1_begins_191 : decode cX1_begins 191 = .ok (.getfield 9, 3) := dk_180 0 9 (dk_at dksX1_begins_8 7 rfl rfl)
theorem dX1_begins_194 : decode cX1_begins 194 = .ok (.iload_n 2, 1) := dk_28 (dk_at dksX1_begins_8 10 rfl rfl)
theorem dX1_begins_195 : decode cX1_begins 195 = .ok (.aload_n 1, 1) := dk_43 (dk_at dksX1_begins_8 11 rfl rfl)
theorem dX1_begins_196 : decode cX1_begins 196 = .ok (.getfield 116, 3) := dk_180 0 116 (dk_at dksX1_begins_8 12 rfl rfl)
theorem dX1_begins_199 : decode cX1_begins 199 = .ok (.iastore, 1) := dk_79 (dk_at dksX1_begins_8 15 rfl rfl)
theorem dX1_begins_200 : decode cX1_begins 200 = .ok (.aload_n 0, 1) := dk_42 (dk_at dksX1_begins_8 16 rfl rfl)
theorem dX1_begins_201 : decode cX1_begins 201 = .ok (.getfield 15, 3) := dk_180 0 15 (dk_at dksX1_begins_8 17 rfl rfl)
theorem dX1_begins_204 : decode cX1_begins 204 = .ok (.iload_n 2, 1) := dk_28 (dk_at dksX1_begins_8 20 rfl rfl)
theorem dX1_begins_205 : decode cX1_begins 205 = .ok (.iconst 0, 1) := dk_3 (dk_at dksX1_begins_8 21 rfl rfl)
theorem dX1_begins_206 : decode cX1_begins 206 = .ok (.iastore, 1) := dk_79 (dk_at dksX1_begins_8 22 rfl rfl)
theorem dX1_begins_207 : decode cX1_begins 207 = .ok (.aload_n 0, 1) := dk_42 (dk_at dksX1_begins_8 23 rfl rfl)
theorem dX1_begins_208 : decode cX1_begins 208 = .ok (.getfield 21, 3) := dk_180 0 21 (dk_at dksX1_begins_9 0 rfl rfl)
theorem dX1_begins_211 : decode cX1_begins 211 = .ok (.iload_n 2, 1) := dk_28 (dk_at dksX1_begins_9 3 rfl rfl)
theorem dX1_begins_212 : decode cX1_begins 212 = .ok (.iconst 0, 1) := dk_3 (dk_at dksX1_begins_9 4 rfl rfl)
theorem dX1_begins_213 : decode cX1_begins 213 = .ok (.bastore, 1) := dk_84 (dk_at dksX1_begins_9 5 rfl rfl)
theorem dX1_begins_214 : decode cX1_begins 214 = .ok (.iinc 2 1, 3) := dk_132 2 1 (dk_at dksX1_begins_9 6 rfl rfl)
theorem dX1_begins_217 : decode cX1_begins 217 = .ok (.goto (-34), 3) := dk_167 255 222 (dk_at dksX1_begins_9 9 rfl rfl)
theorem dX1_begins_220 : decode cX1_begins 220 = .ok (.aload_n 0, 1) := dk_42 (dk_at dksX1_begins_9 12 rfl rfl)
theorem dX1_begins_221 : decode cX1_begins 221 = .ok (.sipush 144, 3) := dk_17 0 144 (dk_at dksX1_begins_9 13 rfl rfl)
theorem dX1_begins_224 : decode cX1_begins 224 = .ok (.aload_n 1, 1) := dk_43 (dk_at dksX1_begins_9 16 rfl rfl)
theorem dX1_begins_225 : decode cX1_begins 225 = .ok (.getfield 116, 3) := dk_180 0 116 (dk_at dksX1_begins_9 17 rfl rfl)
theorem dX1_begins_228 : decode cX1_begins 228 = .ok (.imul, 1) := dk_104 (dk_at dksX1_begins_9 20 rfl rfl)
theorem dX1_begins_229 : decode cX1_begins 229 = .ok (.putfield 118, 3) := dk_181 0 118 (dk_at dksX1_begins_9 21 rfl rfl)
theorem dX1_begins_232 : decode cX1_begins 232 = .ok (.return_, 1) := dk_177 (dk_at dksX1_begins_10 0 rfl rfl)
abbrev cX1_ticks : ByteArray := prog_4_method_12_code
def yX1_ticks : MethodName := ⟨RX1, "ticks", "()V"⟩
def dkwX1_ticks_8 : List UInt8 := [182, 0, 215, 153, 0, 18, 42, 4, 181, 0, 82, 42, 89, 180, 0, 79, 4, 96, 181, 0, 79, 177]
abbrev dktX1_ticks_8 : List UInt8 := dkwX1_ticks_8 ++ []
def dkwX1_ticks_7 : List UInt8 := [44, 42, 180, 0, 57, 181, 0, 200, 132, 1, 1, 167, 255, 181, 42, 180, 0, 82, 154, 0, 25, 42]
abbrev dktX1_ticks_7 : List UInt8 := dkwX1_ticks_7 ++ dktX1_ticks_8
def dkwX1_ticks_6 : List UInt8 := [182, 0, 206, 42, 44, 180, 0, 203, 4, 96, 182, 0, 206, 100, 184, 0, 209, 44, 180, 0, 212, 164, 0, 11]
abbrev dktX1_ticks_6 : List UInt8 := dkwX1_ticks_6 ++ dktX1_ticks_7
def dkwX1_ticks_5 : List UInt8 := [185, 0, 96, 2, 0, 192, 0, 111, 77, 44, 180, 0, 200, 2, 160, 0, 40, 42, 44, 180, 0, 203]
abbrev dktX1_ticks_5 : List UInt8 := dkwX1_ticks_5 ++ dktX1_ticks_6
def dkwX1_ticks_4 : List UInt8 := [3, 60, 27, 42, 180, 0, 34, 185, 0, 92, 1, 0, 162, 0, 68, 42, 180, 0, 34, 27]
abbrev dktX1_ticks_4 : List UInt8 := dkwX1_ticks_4 ++ dktX1_ticks_5
def dkwX1_ticks_3 : List UInt8 := [180, 0, 18, 27, 46, 182, 0, 196, 132, 1, 1, 167, 255, 226, 42, 89, 180, 0, 57, 4, 96, 181, 0, 57]
abbrev dktX1_ticks_3 : List UInt8 := dkwX1_ticks_3 ++ dktX1_ticks_4
def dkwX1_ticks_2 : List UInt8 := [182, 0, 193, 3, 60, 27, 17, 0, 144, 162, 0, 29, 42, 180, 0, 21, 27, 51, 154, 0, 14, 42, 27, 42]
abbrev dktX1_ticks_2 : List UInt8 := dkwX1_ticks_2 ++ dktX1_ticks_3
def dkwX1_ticks_1 : List UInt8 := [153, 0, 6, 167, 0, 13, 42, 27, 182, 0, 187, 42, 27, 182, 0, 190, 132, 1, 1, 167, 255, 217, 42]
abbrev dktX1_ticks_1 : List UInt8 := dkwX1_ticks_1 ++ dktX1_ticks_2
def dkwX1_ticks_0 : List UInt8 := [3, 60, 27, 17, 0, 144, 162, 0, 38, 42, 180, 0, 18, 27, 3, 79, 42, 180, 0, 21, 27, 51]
abbrev dktX1_ticks_0 : List UInt8 := dkwX1_ticks_0 ++ dktX1_ticks_1
theorem dksX1_ticks_0 : cX1_ticks.data.toList.drop 0 = dktX1_ticks_0 := by decide +kernel
theorem dksX1_ticks_1 : cX1_ticks.data.toList.drop 22 = dktX1_ticks_1 := dk_seg dksX1_ticks_0 22 rfl rfl
theorem dksX1_ticks_2 : cX1_ticks.data.toList.drop 45 = dktX1_ticks_2 := dk_seg dksX1_ticks_1 23 rfl rfl
theorem dksX1_ticks_3 : cX1_ticks.data.toList.drop 69 = dktX1_ticks_3 := dk_seg dksX1_ticks_2 24 rfl rfl
theorem dksX1_ticks_4 : cX1_ticks.data.toList.drop 93 = dktX1_ticks_4 := dk_seg dksX1_ticks_3 24 rfl rfl
theorem dksX1_ticks_5 : cX1_ticks.data.toList.drop 113 = dktX1_ticks_5 := dk_seg dksX1_ticks_4 20 rfl rfl
theorem dksX1_ticks_6 : cX1_ticks.data.toList.drop 135 = dktX1_ticks_6 := dk_seg dksX1_ticks_5 22 rfl rfl
theorem dksX1_ticks_7 : cX1_ticks.data.toList.drop 159 = dktX1_ticks_7 := dk_seg dksX1_ticks_6 24 rfl rfl
theorem dksX1_ticks_8 : cX1_ticks.data.toList.drop 181 = dktX1_ticks_8 := dk_seg dksX1_ticks_7 22 rfl rfl
theorem dX1_ticks_0 : decode cX1_ticks 0 = .ok (.iconst 0, 1) := dk_3 (dk_at dksX1_ticks_0 0 rfl rfl)
theorem dX1_ticks_1 : decode cX1_ticks 1 = .ok (.istore_n 1, 1) := dk_60 (dk_at dksX1_ticks_0 1 rfl rfl)
theorem dX1_ticks_2 : decode cX1_ticks 2 = .ok (.iload_n 1, 1) := dk_27 (dk_at dksX1_ticks_0 2 rfl rfl)
theorem dX1_ticks_3 : decode cX1_ticks 3 = .ok (.sipush 144, 3) := dk_17 0 144 (dk_at dksX1_ticks_0 3 rfl rfl)
theorem dX1_ticks_6 : decode cX1_ticks 6 = .ok (.if_icmp .ge 38, 3) := dk_162 0 38 (dk_at dksX1_ticks_0 6 rfl rfl)
theorem dX1_ticks_9 : decode cX1_ticks 9 = .ok (.aload_n 0, 1) := dk_42 (dk_at dksX1_ticks_0 9 rfl rfl)
theorem dX1_ticks_10 : decode cX1_ticks 10 = .ok (.getfield 18, 3) := dk_180 0 18 (dk_at dksX1_ticks_0 10 rfl rfl)
theorem dX1_ticks_13 : decode cX1_ticks 13 = .ok (.iload_n 1, 1) := dk_27 (dk_at dksX1_ticks_0 13 rfl rfl)
theorem dX1_ticks_14 : decode cX1_ticks 14 = .ok (.iconst 0, 1) := dk_3 (dk_at dksX1_ticks_0 14 rfl rfl)
theorem dX1_ticks_15 : decode cX1_ticks 15 = .ok (.iastore, 1) := dk_79 (dk_at dksX1_ticks_0 15 rfl rfl)
theorem dX1_ticks_16 : decode cX1_ticks 16 = .ok (.aload_n 0, 1) := dk_42 (dk_at dksX1_ticks_0 16 rfl rfl)
theorem dX1_ticks_17 : decode cX1_ticks 17 = .ok (.getfield 21, 3) := dk_180 0 21 (dk_at dksX1_ticks_0 17 rfl rfl)
theorem dX1_ticks_20 : decode cX1_ticks 20 = .ok (.iload_n 1, 1) := dk_27 (dk_at dksX1_ticks_0 20 rfl rfl)
theorem dX1_ticks_21 : decode cX1_ticks 21 = .ok (.baload, 1) := dk_51 (dk_at dksX1_ticks_0 21 rfl rfl)
theorem dX1_ticks_22 : decode cX1_ticks 22 = .ok (.ifCond .eq 6, 3) := dk_153 0 6 (dk_at dksX1_ticks_1 0 rfl rfl)
theorem dX1_ticks_25 : decode cX1_ticks 25 = .ok (.goto 13, 3) := dk_167 0 13 (dk_at dksX1_ticks_1 3 rfl rfl)
theorem dX1_ticks_28 : decode cX1_ticks 28 = .ok (.aload_n 0, 1) := dk_42 (dk_at dksX1_ticks_1 6 rfl rfl)
theorem dX1_ticks_29 : decode cX1_ticks 29 = .ok (.iload_n 1, 1) := dk_27 (dk_at dksX1_ticks_1 7 rfl rfl)
theorem dX1_ticks_30 : decode cX1_ticks 30 = .ok (.invokevirtual 187, 3) := dk_182 0 187 (dk_at dksX1_ticks_1 8 rfl rfl)
theorem dX1_ticks_33 : decode cX1_ticks 33 = .ok (.aload_n 0, 1) := dk_42 (dk_at dksX1_ticks_1 11 rfl rfl)
theorem dX1_ticks_34 : decode cX1_ticks 34 = .ok (.iload_n 1, 1) := dk_27 (dk_at dksX1_ticks_1 12 rfl rfl)
theorem dX1_ticks_35 : decode cX1_ticks 35 = .ok (.invokevirtual 190, 3) := dk_182 0 190 (dk_at dksX1_ticks_1 13 rfl rfl)
theorem dX1_ticks_38 : decode cX1_ticks 38 = .ok (.iinc 1 1, 3) := dk_132 1 1 (dk_at dksX1_ticks_1 16 rfl rfl)
theorem dX1_ticks_41 : decode cX1_ticks 41 = .ok (.goto (-39), 3) := dk_167 255 217 (dk_at dksX1_ticks_1 19 rfl rfl)
theorem dX1_ticks_44 : decode cX1_ticks 44 = .ok (.aload_n 0, 1) := dk_42 (dk_at dksX1_ticks_1 22 rfl rfl)
theorem dX1_ticks_45 : decode cX1_ticks 45 = .ok (.invokevirtual 193, 3) := dk_182 0 193 (dk_at dksX1_ticks_2 0 rfl rfl)
theorem dX1_ticks_48 : decode cX1_ticks 48 = .ok (.iconst 0, 1) := dk_3 (dk_at dksX1_ticks_2 3 rfl rfl)
theorem dX1_ticks_49 : decode cX1_ticks 49 = .ok (.istore_n 1, 1) := dk_60 (dk_at dksX1_ticks_2 4 rfl rfl)
theorem dX1_ticks_50 : decode cX1_ticks 50 = .ok (.iload_n 1, 1) := dk_27 (dk_at dksX1_ticks_2 5 rfl rfl)
theorem dX1_ticks_51 : decode cX1_ticks 51 = .ok (.sipush 144, 3) := dk_17 0 144 (dk_at dksX1_ticks_2 6 rfl rfl)
theorem dX1_ticks_54 : decode cX1_ticks 54 = .ok (.if_icmp .ge 29, 3) := dk_162 0 29 (dk_at dksX1_ticks_2 9 rfl rfl)
theorem dX1_ticks_57 : decode cX1_ticks 57 = .ok (.aload_n 0, 1) := dk_42 (dk_at dksX1_ticks_2 12 rfl rfl)
theorem dX1_ticks_58 : decode cX1_ticks 58 = .ok (.getfield 21, 3) := dk_180 0 21 (dk_at dksX1_ticks_2 13 rfl rfl)
theorem dX1_ticks_61 : decode cX1_ticks 61 = .ok (.iload_n 1, 1) := dk_27 (dk_at dksX1_ticks_2 16 rfl rfl)
theorem dX1_ticks_62 : decode cX1_ticks 62 = .ok (.baload, 1) := dk_51 (dk_at dksX1_ticks_2 17 rfl rfl)
theorem dX1_ticks_63 : decode cX1_ticks 63 = .ok (.ifCond .ne 14, 3) := dk_154 0 14 (dk_at dksX1_ticks_2 18 rfl rfl)
theorem dX1_ticks_66 : decode cX1_ticks 66 = .ok (.aload_n 0, 1) := dk_42 (dk_at dksX1_ticks_2 21 rfl rfl)
theorem dX1_ticks_67 : decode cX1_ticks 67 = .ok (.iload_n 1, 1) := dk_27 (dk_at dksX1_ticks_2 22 rfl rfl)
theorem dX1_ticks_68 : decode cX1_ticks 68 = .ok (.aload_n 0, 1) := dk_42 (dk_at dksX1_ticks_2 23 rfl rfl)
theorem dX1_ticks_69 : decode cX1_ticks 69 = .ok (.getfield 18, 3) := dk_180 0 18 (dk_at dksX1_ticks_3 0 rfl rfl)
theorem dX1_ticks_72 : decode cX1_ticks 72 = .ok (.iload_n 1, 1) := dk_27 (dk_at dksX1_ticks_3 3 rfl rfl)
theorem dX1_ticks_73 : decode cX1_ticks 73 = .ok (.iaload, 1) := dk_46 (dk_at dksX1_ticks_3 4 rfl rfl)
theorem dX1_ticks_74 : decode cX1_ticks 74 = .ok (.invokevirtual 196, 3) := dk_182 0 196 (dk_at dksX1_ticks_3 5 rfl rfl)
theorem dX1_ticks_77 : decode cX1_ticks 77 = .ok (.iinc 1 1, 3) := dk_132 1 1 (dk_at dksX1_ticks_3 8 rfl rfl)
theorem dX1_ticks_80 : decode cX1_ticks 80 = .ok (.goto (-30), 3) := dk_167 255 226 (dk_at dksX1_ticks_3 11 rfl rfl)
theorem dX1_ticks_83 : decode cX1_ticks 83 = .ok (.aload_n 0, 1) := dk_42 (dk_at dksX1_ticks_3 14 rfl rfl)
theorem dX1_ticks_84 : decode cX1_ticks 84 = .ok (.dup, 1) := dk_89 (dk_at dksX1_ticks_3 15 rfl rfl)
theorem dX1_ticks_85 : decode cX1_ticks 85 = .ok (.getfield 57, 3) := dk_180 0 57 (dk_at dksX1_ticks_3 16 rfl rfl)
theorem dX1_ticks_88 : decode cX1_ticks 88 = .ok (.iconst 1, 1) := dk_4 (dk_at dksX1_ticks_3 19 rfl rfl)
theorem dX1_ticks_89 : decode cX1_ticks 89 = .ok (.iadd, 1) := dk_96 (dk_at dksX1_ticks_3 20 rfl rfl)
theorem dX1_ticks_90 : decode cX1_ticks 90 = .ok (.putfield 57, 3) := dk_181 0 57 (dk_at dksX1_ticks_3 21 rfl rfl)
theorem dX1_ticks_93 : decode cX1_ticks 93 = .ok (.iconst 0, 1) := dk_3 (dk_at dksX1_ticks_4 0 rfl rfl)
theorem dX1_ticks_94 : decode cX1_ticks 94 = .ok (.istore_n 1, 1) := dk_60 (dk_at dksX1_ticks_4 1 rfl rfl)
theorem dX1_ticks_95 : decode cX1_ticks 95 = .ok (.iload_n 1, 1) := dk_27 (dk_at dksX1_ticks_4 2 rfl rfl)
theorem dX1_ticks_96 : decode cX1_ticks 96 = .ok (.aload_n 0, 1) := dk_42 (dk_at dksX1_ticks_4 3 rfl rfl)
theorem dX1_ticks_97 : decode cX1_ticks 97 = .ok (.getfield 34, 3) := dk_180 0 34 (dk_at dksX1_ticks_4 4 rfl rfl)
theorem dX1_ticks_100 : decode cX1_ticks 100 = .ok (.invokeinterface 92 1, 5) := by decide +kernel
theorem dX1_ticks_105 : decode cX1_ticks 105 = .ok (.if_icmp .ge 68, 3) := dk_162 0 68 (dk_at dksX1_ticks_4 12 rfl rfl)
theorem dX1_ticks_108 : decode cX1_ticks 108 = .ok (.aload_n 0, 1) := dk_42 (dk_at dksX1_ticks_4 15 rfl rfl)
theorem dX1_ticks_109 : decode cX1_ticks 109 = .ok (.getfield 34, 3) := dk_180 0 34 (dk_at dksX1_ticks_4 16 rfl rfl)
theorem dX1_ticks_112 : decode cX1_ticks 112 = .ok (.iload_n 1, 1) := dk_27 (dk_at dksX1_ticks_4 19 rfl rfl)
theorem dX1_ticks_113 : decode cX1_ticks 113 = .ok (.invokeinterface 96 2, 5) := by decide +kernel
theorem dX1_ticks_118 : decode cX1_ticks 118 = .ok (.checkcast 111, 3) := dk_192 0 111 (dk_at dksX1_ticks_5 5 rfl rfl)
theorem dX1_ticks_121 : decode cX1_ticks 121 = .ok (.astore_n 2, 1) := dk_77 (dk_at dksX1_ticks_5 8 rfl rfl)
theorem dX1_ticks_122 : decode cX1_ticks 122 = .ok (.aload_n 2, 1) := dk_44 (dk_at dksX1_ticks_5 9 rfl rfl)
theorem dX1_ticks_123 : decode cX1_ticks 123 = .ok (.getfield 200, 3) := dk_180 0 200 (dk_at dksX1_ticks_5 10 rfl rfl)
theorem dX1_ticks_126 : decode cX1_ticks 126 = .ok (.iconst (-1), 1) := dk_2 (dk_at dksX1_ticks_5 13 rfl rfl)
theorem dX1_ticks_127 : decode cX1_ticks 127 = .ok (.if_icmp .ne 40, 3) := dk_160 0 40 (dk_at dksX1_ticks_5 14 rfl rfl)
theorem dX1_ticks_130 : decode cX1_ticks 130 = .ok (.aload_n 0, 1) := dk_42 (dk_at dksX1_ticks_5 17 rfl rfl)
theorem dX1_ticks_131 : decode cX1_ticks 131 = .ok (.aload_n 2, 1) := dk_44 (dk_at dksX1_ticks_5 18 rfl rfl)
theorem dX1_ticks_132 : decode cX1_ticks 132 = .ok (.getfield 203, 3) := dk_180 0 203 (dk_at dksX1_ticks_5 19 rfl rfl)
theorem dX1_ticks_135 : decode cX1_ticks 135 = .ok (.invokevirtual 206, 3) := dk_182 0 206 (dk_at dksX1_ticks_6 0 rfl rfl)
theorem dX1_ticks_138 : decode cX1_ticks 138 = .ok (.aload_n 0, 1) := dk_42 (dk_at dksX1_ticks_6 3 rfl rfl)
theorem dX1_ticks_139 : decode cX1_ticks 139 = .ok (.aload_n 2, 1) := dk_44 (dk_at dksX1_ticks_6 4 rfl rfl)
theorem dX1_ticks_140 : decode cX1_ticks 140 = .ok (.getfield 203, 3) := dk_180 0 203 (dk_at dksX1_ticks_6 5 rfl rfl)
theorem dX1_ticks_143 : decode cX1_ticks 143 = .ok (.iconst 1, 1) := dk_4 (dk_at dksX1_ticks_6 8 rfl rfl)
theorem dX1_ticks_144 : decode cX1_ticks 144 = .ok (.iadd, 1) := dk_96 (dk_at dksX1_ticks_6 9 rfl rfl)
theorem dX1_ticks_145 : decode cX1_ticks 145 = .ok (.invokevirtual 206, 3) := dk_182 0 206 (dk_at dksX1_ticks_6 10 rfl rfl)
theorem dX1_ticks_148 : decode cX1_ticks 148 = .ok (.isub, 1) := dk_100 (dk_at dksX1_ticks_6 13 rfl rfl)
theorem dX1_ticks_149 : decode cX1_ticks 149 = .ok (.invokestatic 209, 3) := dk_184 0 209 (dk_at dksX1_ticks_6 14 rfl rfl)
theorem dX1_ticks_152 : decode cX1_ticks 152 = .ok (.aload_n 2, 1) := dk_44 (dk_at dksX1_ticks_6 17 rfl rfl)
theorem dX1_ticks_153 : decode cX1_ticks 153 = .ok (.getfield 212, 3) := dk_180 0 212 (dk_at dksX1_ticks_6 18 rfl rfl)
theorem dX1_ticks_156 : decode cX1_ticks 156 = .ok (.if_icmp .le 11, 3) := dk_164 0 11 (dk_at dksX1_ticks_6 21 rfl rfl)
theorem dX1_ticks_159 : decode cX1_ticks 159 = .ok (.aload_n 2, 1) := dk_44 (dk_at dksX1_ticks_7 0 rfl rfl)
theorem dX1_ticks_160 : decode cX1_ticks 160 = .ok (.aload_n 0, 1) := dk_42 (dk_at dksX1_ticks_7 1 rfl rfl)
theorem dX1_ticks_161 : decode cX1_ticks 161 = .ok (.getfield 57, 3) := dk_180 0 57 (dk_at dksX1_ticks_7 2 rfl rfl)
theorem dX1_ticks_164 : decode cX1_ticks 164 = .ok (.putfield 200, 3) := dk_181 0 200 (dk_at dksX1_ticks_7 5 rfl rfl)
theorem dX1_ticks_167 : decode cX1_ticks 167 = .ok (.iinc 1 1, 3) := dk_132 1 1 (dk_at dksX1_ticks_7 8 rfl rfl)
theorem dX1_ticks_170 : decode cX1_ticks 170 = .ok (.goto (-75), 3) := dk_167 255 181 (dk_at dksX1_ticks_7 11 rfl rfl)
theorem dX1_ticks_173 : decode cX1_ticks 173 = .ok (.aload_n 0, 1) := dk_42 (dk_at dksX1_ticks_7 14 rfl rfl)
theorem dX1_ticks_174 : decode cX1_ticks 174 = .ok (.getfield 82, 3) := dk_180 0 82 (dk_at dksX1_ticks_7 15 rfl rfl)
theorem dX1_ticks_177 : decode cX1_ticks 177 = .ok (.ifCond .ne 25, 3) := dk_154 0 25 (dk_at dksX1_ticks_7 18 rfl rfl)
theorem dX1_ticks_180 : decode cX1_ticks 180 = .ok (.aload_n 0, 1) := dk_42 (dk_at dksX1_ticks_7 21 rfl rfl)
theorem dX1_ticks_181 : decode cX1_ticks 181 = .ok (.invokevirtual 215, 3) := dk_182 0 215 (dk_at dksX1_ticks_8 0 rfl rfl)
theorem dX1_ticks_184 : decode cX1_ticks 184 = .ok (.ifCond .eq 18, 3) := dk_153 0 18 (dk_at dksX1_ticks_8 3 rfl rfl)
theorem dX1_ticks_187 : decode cX1_ticks 187 = .ok (.aload_n 0, 1) := dk_42 (dk_at dksX1_ticks_8 6 rfl rfl)
theorem dX1_ticks_188 : decode cX1_ticks 188 = .ok (.iconst 1, 1) := dk_4 (dk_at dksX1_ticks_8 7 rfl rfl)
theorem dX1_ticks_189 : decode cX1_ticks 189 = .ok (.putfield 82, 3) := dk_181 0 82 (dk_at dksX1_ticks_8 8 rfl rfl)
theorem dX1_ticks_192 : decode cX1_ticks 192 = .ok (.aload_n 0, 1) := dk_42 (dk_at dksX1_ticks_8 11 rfl rfl)
theorem dX1_ticks_193 : decode cX1_ticks 193 = .ok (.dup, 1) := dk_89 (dk_at dksX1_ticks_8 12 rfl rfl)
theorem dX1_ticks_194 : decode cX1_ticks 194 = .ok (.getfield 79, 3) := dk_180 0 79 (dk_at dksX1_ticks_8 13 rfl rfl)
theorem dX1_ticks_197 : decode cX1_ticks 197 = .ok (.iconst 1, 1) := dk_4 (dk_at dksX1_ticks_8 16 rfl rfl)
theorem dX1_ticks_198 : decode cX1_ticks 198 = .ok (.iadd, 1) := dk_96 (dk_at dksX1_ticks_8 17 rfl rfl)
theorem dX1_ticks_199 : decode cX1_ticks 199 = .ok (.putfield 79, 3) := dk_181 0 79 (dk_at dksX1_ticks_8 18 rfl rfl)
theorem dX1_ticks_202 : decode cX1_ticks 202 = .ok (.return_, 1) := dk_177 (dk_at dksX1_ticks_8 21 rfl rfl)
abbrev cX1_leads : ByteArray := prog_4_method_7_code
def yX1_leads : MethodName := ⟨RX1, "leads", "(I)V"⟩
def dkwX1_leads_5 : List UInt8 := [79, 132, 2, 1, 167, 255, 139, 177]
abbrev dktX1_leads_5 : List UInt8 := dkwX1_leads_5 ++ []
def dkwX1_leads_4 : List UInt8 := [180, 0, 9, 27, 46, 100, 42, 27, 182, 0, 149, 42, 29, 182, 0, 149, 184, 0, 153, 104, 16, 100, 108, 96]
abbrev dktX1_leads_4 : List UInt8 := dkwX1_leads_4 ++ dktX1_leads_5
def dkwX1_leads_3 : List UInt8 := [42, 180, 0, 21, 29, 51, 154, 0, 42, 42, 180, 0, 18, 27, 92, 46, 42, 180, 0, 9, 29, 46, 42]
abbrev dktX1_leads_3 : List UInt8 := dkwX1_leads_3 ++ dktX1_leads_4
def dkwX1_leads_2 : List UInt8 := [180, 0, 18, 27, 92, 46, 21, 4, 96, 79, 42, 89, 180, 0, 70, 21, 4, 96, 181, 0, 70, 167, 0, 51]
abbrev dktX1_leads_2 : List UInt8 := dkwX1_leads_2 ++ dktX1_leads_3
def dkwX1_leads_1 : List UInt8 := [180, 0, 116, 42, 180, 0, 9, 27, 46, 100, 42, 27, 182, 0, 149, 104, 16, 100, 108, 54, 4, 42]
abbrev dktX1_leads_1 : List UInt8 := dkwX1_leads_1 ++ dktX1_leads_2
def dkwX1_leads_0 : List UInt8 := [3, 61, 28, 7, 162, 0, 118, 27, 28, 184, 0, 145, 62, 29, 2, 160, 0, 53, 42, 180, 0, 53]
abbrev dktX1_leads_0 : List UInt8 := dkwX1_leads_0 ++ dktX1_leads_1
theorem dksX1_leads_0 : cX1_leads.data.toList.drop 0 = dktX1_leads_0 := by decide +kernel
theorem dksX1_leads_1 : cX1_leads.data.toList.drop 22 = dktX1_leads_1 := dk_seg dksX1_leads_0 22 rfl rfl
theorem dksX1_leads_2 : cX1_leads.data.toList.drop 44 = dktX1_leads_2 := dk_seg dksX1_leads_1 22 rfl rfl
theorem dksX1_leads_3 : cX1_leads.data.toList.drop 68 = dktX1_leads_3 := dk_seg dksX1_leads_2 24 rfl rfl
theorem dksX1_leads_4 : cX1_leads.data.toList.drop 91 = dktX1_leads_4 := dk_seg dksX1_leads_3 23 rfl rfl
theorem dksX1_leads_5 : cX1_leads.data.toList.drop 115 = dktX1_leads_5 := dk_seg dksX1_leads_4 24 rfl rfl
theorem dX1_leads_0 : decode cX1_leads 0 = .ok (.iconst 0, 1) := dk_3 (dk_at dksX1_leads_0 0 rfl rfl)
theorem dX1_leads_1 : decode cX1_leads 1 = .ok (.istore_n 2, 1) := dk_61 (dk_at dksX1_leads_0 1 rfl rfl)
theorem dX1_leads_2 : decode cX1_leads 2 = .ok (.iload_n 2, 1) := dk_28 (dk_at dksX1_leads_0 2 rfl rfl)
theorem dX1_leads_3 : decode cX1_leads 3 = .ok (.iconst 4, 1) := dk_7 (dk_at dksX1_leads_0 3 rfl rfl)
theorem dX1_leads_4 : decode cX1_leads 4 = .ok (.if_icmp .ge 118, 3) := dk_162 0 118 (dk_at dksX1_leads_0 4 rfl rfl)
theorem dX1_leads_7 : decode cX1_leads 7 = .ok (.iload_n 1, 1) := dk_27 (dk_at dksX1_leads_0 7 rfl rfl)
theorem dX1_leads_8 : decode cX1_leads 8 = .ok (.iload_n 2, 1) := dk_28 (dk_at dksX1_leads_0 8 rfl rfl)
theorem dX1_leads_9 : decode cX1_leads 9 = .ok (.invokestatic 145, 3) := dk_184 0 145 (dk_at dksX1_leads_0 9 rfl rfl)
theorem dX1_leads_12 : decode cX1_leads 12 = .ok (.istore_n 3, 1) := dk_62 (dk_at dksX1_leads_0 12 rfl rfl)
theorem dX1_leads_13 : decode cX1_leads 13 = .ok (.iload_n 3, 1) := dk_29 (dk_at dksX1_leads_0 13 rfl rfl)
theorem dX1_leads_14 : decode cX1_leads 14 = .ok (.iconst (-1), 1) := dk_2 (dk_at dksX1_leads_0 14 rfl rfl)
theorem dX1_leads_15 : decode cX1_leads 15 = .ok (.if_icmp .ne 53, 3) := dk_160 0 53 (dk_at dksX1_leads_0 15 rfl rfl)
theorem dX1_leads_18 : decode cX1_leads 18 = .ok (.aload_n 0, 1) := dk_42 (dk_at dksX1_leads_0 18 rfl rfl)
theorem dX1_leads_19 : decode cX1_leads 19 = .ok (.getfield 53, 3) := dk_180 0 53 (dk_at dksX1_leads_0 19 rfl rfl)
theorem dX1_leads_22 : decode cX1_leads 22 = .ok (.getfield 116, 3) := dk_180 0 116 (dk_at dksX1_leads_1 0 rfl rfl)
theorem dX1_leads_25 : decode cX1_leads 25 = .ok (.aload_n 0, 1) := dk_42 (dk_at dksX1_leads_1 3 rfl rfl)
theorem dX1_leads_26 : decode cX1_leads 26 = .ok (.getfield 9, 3) := dk_180 0 9 (dk_at dksX1_leads_1 4 rfl rfl)
theorem dX1_leads_29 : decode cX1_leads 29 = .ok (.iload_n 1, 1) := dk_27 (dk_at dksX1_leads_1 7 rfl rfl)
theorem dX1_leads_30 : decode cX1_leads 30 = .ok (.iaload, 1) := dk_46 (dk_at dksX1_leads_1 8 rfl rfl)
theorem dX1_leads_31 : decode cX1_leads 31 = .ok (.isub, 1) := dk_100 (dk_at dksX1_leads_1 9 rfl rfl)
theorem dX1_leads_32 : decode cX1_leads 32 = .ok (.aload_n 0, 1) := dk_42 (dk_at dksX1_leads_1 10 rfl rfl)
theorem dX1_leads_33 : decode cX1_leads 33 = .ok (.iload_n 1, 1) := dk_27 (dk_at dksX1_leads_1 11 rfl rfl)
theorem dX1_leads_34 : decode cX1_leads 34 = .ok (.invokevirtual 149, 3) := dk_182 0 149 (dk_at dksX1_leads_1 12 rfl rfl)
theorem dX1_leads_37 : decode cX1_leads 37 = .ok (.imul, 1) := dk_104 (dk_at dksX1_leads_1 15 rfl rfl)
theorem dX1_leads_38 : decode cX1_leads 38 = .ok (.bipush 100, 2) := dk_16 100 (dk_at dksX1_leads_1 16 rfl rfl)
theorem dX1_leads_40 : decode cX1_leads 40 = .ok (.idiv, 1) := dk_108 (dk_at dksX1_leads_1 18 rfl rfl)
theorem dX1_leads_41 : decode cX1_leads 41 = .ok (.istore 4, 2) := dk_54 4 (dk_at dksX1_leads_1 19 rfl rfl)
theorem dX1_leads_43 : decode cX1_leads 43 = .ok (.aload_n 0, 1) := dk_42 (dk_at dksX1_leads_1 21 rfl rfl)
theorem dX1_leads_44 : decode cX1_leads 44 = .ok (.getfield 18, 3) := dk_180 0 18 (dk_at dksX1_leads_2 0 rfl rfl)
theorem dX1_leads_47 : decode cX1_leads 47 = .ok (.iload_n 1, 1) := dk_27 (dk_at dksX1_leads_2 3 rfl rfl)
theorem dX1_leads_48 : decode cX1_leads 48 = .ok (.dup2, 1) := dk_92 (dk_at dksX1_leads_2 4 rfl rfl)
theorem dX1_leads_49 : decode cX1_leads 49 = .ok (.iaload, 1) := dk_46 (dk_at dksX1_leads_2 5 rfl rfl)
theorem dX1_leads_50 : decode cX1_leads 50 = .ok (.iload 4, 2) := dk_21 4 (dk_at dksX1_leads_2 6 rfl rfl)
theorem dX1_leads_52 : decode cX1_leads 52 = .ok (.iadd, 1) := dk_96 (dk_at dksX1_leads_2 8 rfl rfl)
theorem dX1_leads_53 : decode cX1_leads 53 = .ok (.iastore, 1) := dk_79 (dk_at dksX1_leads_2 9 rfl rfl)
theorem dX1_leads_54 : decode cX1_leads 54 = .ok (.aload_n 0, 1) := dk_42 (dk_at dksX1_leads_2 10 rfl rfl)
theorem dX1_leads_55 : decode cX1_leads 55 = .ok (.dup, 1) := dk_89 (dk_at dksX1_leads_2 11 rfl rfl)
theorem dX1_leads_56 : decode cX1_leads 56 = .ok (.getfield 70, 3) := dk_180 0 70 (dk_at dksX1_leads_2 12 rfl rfl)
theorem dX1_leads_59 : decode cX1_leads 59 = .ok (.iload 4, 2) := dk_21 4 (dk_at dksX1_leads_2 15 rfl rfl)
theorem dX1_leads_61 : decode cX1_leads 61 = .ok (.iadd, 1) := dk_96 (dk_at dksX1_leads_2 17 rfl rfl)
theorem dX1_leads_62 : decode cX1_leads 62 = .ok (.putfield 70, 3) := dk_181 0 70 (dk_at dksX1_leads_2 18 rfl rfl)
theorem dX1_leads_65 : decode cX1_leads 65 = .ok (.goto 51, 3) := dk_167 0 51 (dk_at dksX1_leads_2 21 rfl rfl)
theorem dX1_leads_68 : decode cX1_leads 68 = .ok (.aload_n 0, 1) := dk_42 (dk_at dksX1_leads_3 0 rfl rfl)
theorem dX1_leads_69 : decode cX1_leads 69 = .ok (.getfield 21, 3) := dk_180 0 21 (dk_at dksX1_leads_3 1 rfl rfl)
theorem dX1_leads_72 : decode cX1_leads 72 = .ok (.iload_n 3, 1) := dk_29 (dk_at dksX1_leads_3 4 rfl rfl)
theorem dX1_leads_73 : decode cX1_leads 73 = .ok (.baload, 1) := dk_51 (dk_at dksX1_leads_3 5 rfl rfl)
theorem dX1_leads_74 : decode cX1_leads 74 = .ok (.ifCond .ne 42, 3) := dk_154 0 42 (dk_at dksX1_leads_3 6 rfl rfl)
theorem dX1_leads_77 : decode cX1_leads 77 = .ok (.aload_n 0, 1) := dk_42 (dk_at dksX1_leads_3 9 rfl rfl)
theorem dX1_leads_78 : decode cX1_leads 78 = .ok (.getfield 18, 3) := dk_180 0 18 (dk_at dksX1_leads_3 10 rfl rfl)
theorem dX1_leads_81 : decode cX1_leads 81 = .ok (.iload_n 1, 1) := dk_27 (dk_at dksX1_leads_3 13 rfl rfl)
theorem dX1_leads_82 : decode cX1_leads 82 = .ok (.dup2, 1) := dk_92 (dk_at dksX1_leads_3 14 rfl rfl)
theorem dX1_leads_83 : decode cX1_leads 83 = .ok (.iaload, 1) := dk_46 (dk_at dksX1_leads_3 15 rfl rfl)
theorem dX1_leads_84 : decode cX1_leads 84 = .ok (.aload_n 0, 1) := dk_42 (dk_at dksX1_leads_3 16 rfl rfl)
theorem dX1_leads_85 : decode cX1_leads 85 = .ok (.getfield 9, 3) := dk_180 0 9 (dk_at dksX1_leads_3 17 rfl rfl)
theorem dX1_leads_88 : decode cX1_leads 88 = .ok (.iload_n 3, 1) := dk_29 (dk_at dksX1_leads_3 20 rfl rfl)
theorem dX1_leads_89 : decode cX1_leads 89 = .ok (.iaload, 1) := dk_46 (dk_at dksX1_leads_3 21 rfl rfl)
theorem dX1_leads_90 : decode cX1_leads 90 = .ok (.aload_n 0, 1) := dk_42 (dk_at dksX1_leads_3 22 rfl rfl)
theorem dX1_leads_91 : decode cX1_leads 91 = .ok (.getfield 9, 3) := dk_180 0 9 (dk_at dksX1_leads_4 0 rfl rfl)
theorem dX1_leads_94 : decode cX1_leads 94 = .ok (.iload_n 1, 1) := dk_27 (dk_at dksX1_leads_4 3 rfl rfl)
theorem dX1_leads_95 : decode cX1_leads 95 = .ok (.iaload, 1) := dk_46 (dk_at dksX1_leads_4 4 rfl rfl)
theorem dX1_leads_96 : decode cX1_leads 96 = .ok (.isub, 1) := dk_100 (dk_at dksX1_leads_4 5 rfl rfl)
theorem dX1_leads_97 : decode cX1_leads 97 = .ok (.aload_n 0, 1) := dk_42 (dk_at dksX1_leads_4 6 rfl rfl)
theorem dX1_leads_98 : decode cX1_leads 98 = .ok (.iload_n 1, 1) := dk_27 (dk_at dksX1_leads_4 7 rfl rfl)
theorem dX1_leads_99 : decode cX1_leads 99 = .ok (.invokevirtual 149, 3) := dk_182 0 149 (dk_at dksX1_leads_4 8 rfl rfl)
theorem dX1_leads_102 : decode cX1_leads 102 = .ok (.aload_n 0, 1) := dk_42 (dk_at dksX1_leads_4 11 rfl rfl)
theorem dX1_leads_103 : decode cX1_leads 103 = .ok (.iload_n 3, 1) := dk_29 (dk_at dksX1_leads_4 12 rfl rfl)
theorem dX1_leads_104 : decode cX1_leads 104 = .ok (.invokevirtual 149, 3) := dk_182 0 149 (dk_at dksX1_leads_4 13 rfl rfl)
theorem dX1_leads_107 : decode cX1_leads 107 = .ok (.invokestatic 153, 3) := dk_184 0 153 (dk_at dksX1_leads_4 16 rfl rfl)
theorem dX1_leads_110 : decode cX1_leads 110 = .ok (.imul, 1) := dk_104 (dk_at dksX1_leads_4 19 rfl rfl)
theorem dX1_leads_111 : decode cX1_leads 111 = .ok (.bipush 100, 2) := dk_16 100 (dk_at dksX1_leads_4 20 rfl rfl)
theorem dX1_leads_113 : decode cX1_leads 113 = .ok (.idiv, 1) := dk_108 (dk_at dksX1_leads_4 22 rfl rfl)
theorem dX1_leads_114 : decode cX1_leads 114 = .ok (.iadd, 1) := dk_96 (dk_at dksX1_leads_4 23 rfl rfl)
theorem dX1_leads_115 : decode cX1_leads 115 = .ok (.iastore, 1) := dk_79 (dk_at dksX1_leads_5 0 rfl rfl)
theorem dX1_leads_116 : decode cX1_leads 116 = .ok (.iinc 2 1, 3) := dk_132 2 1 (dk_at dksX1_leads_5 1 rfl rfl)
theorem dX1_leads_119 : decode cX1_leads 119 = .ok (.goto (-117), 3) := dk_167 255 139 (dk_at dksX1_leads_5 4 rfl rfl)
theorem dX1_leads_122 : decode cX1_leads 122 = .ok (.return_, 1) := dk_177 (dk_at dksX1_leads_5 7 rfl rfl)
abbrev cX1_leadOf : ByteArray := prog_4_method_5_code
def yX1_leadOf : MethodName := ⟨RX1, "leadOf", "(I)I"⟩
def dkwX1_leadOf_1 : List UInt8 := [180, 0, 53, 27, 182, 0, 127, 180, 0, 142, 172]
abbrev dktX1_leadOf_1 : List UInt8 := dkwX1_leadOf_1 ++ []
def dkwX1_leadOf_0 : List UInt8 := [42, 27, 182, 0, 136, 153, 0, 17, 42, 180, 0, 53, 27, 182, 0, 127, 180, 0, 140, 167, 0, 14, 42]
abbrev dktX1_leadOf_0 : List UInt8 := dkwX1_leadOf_0 ++ dktX1_leadOf_1
theorem dksX1_leadOf_0 : cX1_leadOf.data.toList.drop 0 = dktX1_leadOf_0 := by decide +kernel
theorem dksX1_leadOf_1 : cX1_leadOf.data.toList.drop 23 = dktX1_leadOf_1 := dk_seg dksX1_leadOf_0 23 rfl rfl
theorem dX1_leadOf_0 : decode cX1_leadOf 0 = .ok (.aload_n 0, 1) := dk_42 (dk_at dksX1_leadOf_0 0 rfl rfl)
theorem dX1_leadOf_1 : decode cX1_leadOf 1 = .ok (.iload_n 1, 1) := dk_27 (dk_at dksX1_leadOf_0 1 rfl rfl)
theorem dX1_leadOf_2 : decode cX1_leadOf 2 = .ok (.invokevirtual 136, 3) := dk_182 0 136 (dk_at dksX1_leadOf_0 2 rfl rfl)
theorem dX1_leadOf_5 : decode cX1_leadOf 5 = .ok (.ifCond .eq 17, 3) := dk_153 0 17 (dk_at dksX1_leadOf_0 5 rfl rfl)
theorem dX1_leadOf_8 : decode cX1_leadOf 8 = .ok (.aload_n 0, 1) := dk_42 (dk_at dksX1_leadOf_0 8 rfl rfl)
theorem dX1_leadOf_9 : decode cX1_leadOf 9 = .ok (.getfield 53, 3) := dk_180 0 53 (dk_at dksX1_leadOf_0 9 rfl rfl)
theorem dX1_leadOf_12 : decode cX1_leadOf 12 = .ok (.iload_n 1, 1) := dk_27 (dk_at dksX1_leadOf_0 12 rfl rfl)
theorem dX1_leadOf_13 : decode cX1_leadOf 13 = .ok (.invokevirtual 127, 3) := dk_182 0 127 (dk_at dksX1_leadOf_0 13 rfl rfl)
theorem dX1_leadOf_16 : decode cX1_leadOf 16 = .ok (.getfield 140, 3) := dk_180 0 140 (dk_at dksX1_leadOf_0 16 rfl rfl)
theorem dX1_leadOf_19 : decode cX1_leadOf 19 = .ok (.goto 14, 3) := dk_167 0 14 (dk_at dksX1_leadOf_0 19 rfl rfl)
theorem dX1_leadOf_22 : decode cX1_leadOf 22 = .ok (.aload_n 0, 1) := dk_42 (dk_at dksX1_leadOf_0 22 rfl rfl)
theorem dX1_leadOf_23 : decode cX1_leadOf 23 = .ok (.getfield 53, 3) := dk_180 0 53 (dk_at dksX1_leadOf_1 0 rfl rfl)
theorem dX1_leadOf_26 : decode cX1_leadOf 26 = .ok (.iload_n 1, 1) := dk_27 (dk_at dksX1_leadOf_1 3 rfl rfl)
theorem dX1_leadOf_27 : decode cX1_leadOf 27 = .ok (.invokevirtual 127, 3) := dk_182 0 127 (dk_at dksX1_leadOf_1 4 rfl rfl)
theorem dX1_leadOf_30 : decode cX1_leadOf 30 = .ok (.getfield 142, 3) := dk_180 0 142 (dk_at dksX1_leadOf_1 7 rfl rfl)
theorem dX1_leadOf_33 : decode cX1_leadOf 33 = .ok (.ireturn, 1) := dk_172 (dk_at dksX1_leadOf_1 10 rfl rfl)
abbrev cX1_isFrozen : ByteArray := prog_4_method_4_code
def yX1_isFrozen : MethodName := ⟨RX1, "isFrozen", "(I)Z"⟩
def dkwX1_isFrozen_1 : List UInt8 := [180, 0, 131, 160, 0, 7, 4, 167, 0, 4, 3, 172]
abbrev dktX1_isFrozen_1 : List UInt8 := dkwX1_isFrozen_1 ++ []
def dkwX1_isFrozen_0 : List UInt8 := [42, 180, 0, 21, 27, 51, 154, 0, 27, 42, 180, 0, 15, 27, 46, 42, 180, 0, 53, 27, 182, 0, 127]
abbrev dktX1_isFrozen_0 : List UInt8 := dkwX1_isFrozen_0 ++ dktX1_isFrozen_1
theorem dksX1_isFrozen_0 : cX1_isFrozen.data.toList.drop 0 = dktX1_isFrozen_0 := by decide +kernel
theorem dksX1_isFrozen_1 : cX1_isFrozen.data.toList.drop 23 = dktX1_isFrozen_1 := dk_seg dksX1_isFrozen_0 23 rfl rfl
theorem dX1_isFrozen_0 : decode cX1_isFrozen 0 = .ok (.aload_n 0, 1) := dk_42 (dk_at dksX1_isFrozen_0 0 rfl rfl)
theorem dX1_isFrozen_1 : decode cX1_isFrozen 1 = .ok (.getfield 21, 3) := dk_180 0 21 (dk_at dksX1_isFrozen_0 1 rfl rfl)
theorem dX1_isFrozen_4 : decode cX1_isFrozen 4 = .ok (.iload_n 1, 1) := dk_27 (dk_at dksX1_isFrozen_0 4 rfl rfl)
theorem dX1_isFrozen_5 : decode cX1_isFrozen 5 = .ok (.baload, 1) := dk_51 (dk_at dksX1_isFrozen_0 5 rfl rfl)
theorem dX1_isFrozen_6 : decode cX1_isFrozen 6 = .ok (.ifCond .ne 27, 3) := dk_154 0 27 (dk_at dksX1_isFrozen_0 6 rfl rfl)
theorem dX1_isFrozen_9 : decode cX1_isFrozen 9 = .ok (.aload_n 0, 1) := dk_42 (dk_at dksX1_isFrozen_0 9 rfl rfl)
theorem dX1_isFrozen_10 : decode cX1_isFrozen 10 = .ok (.getfield 15, 3) := dk_180 0 15 (dk_at dksX1_isFrozen_0 10 rfl rfl)
theorem dX1_isFrozen_13 : decode cX1_isFrozen 13 = .ok (.iload_n 1, 1) := dk_27 (dk_at dksX1_isFrozen_0 13 rfl rfl)
theorem dX1_isFrozen_14 : decode cX1_isFrozen 14 = .ok (.iaload, 1) := dk_46 (dk_at dksX1_isFrozen_0 14 rfl rfl)
theorem dX1_isFrozen_15 : decode cX1_isFrozen 15 = .ok (.aload_n 0, 1) := dk_42 (dk_at dksX1_isFrozen_0 15 rfl rfl)
theorem dX1_isFrozen_16 : decode cX1_isFrozen 16 = .ok (.getfield 53, 3) := dk_180 0 53 (dk_at dksX1_isFrozen_0 16 rfl rfl)
theorem dX1_isFrozen_19 : decode cX1_isFrozen 19 = .ok (.iload_n 1, 1) := dk_27 (dk_at dksX1_isFrozen_0 19 rfl rfl)
theorem dX1_isFrozen_20 : decode cX1_isFrozen 20 = .ok (.invokevirtual 127, 3) := dk_182 0 127 (dk_at dksX1_isFrozen_0 20 rfl rfl)
theorem dX1_isFrozen_23 : decode cX1_isFrozen 23 = .ok (.getfield 131, 3) := dk_180 0 131 (dk_at dksX1_isFrozen_1 0 rfl rfl)
theorem dX1_isFrozen_26 : decode cX1_isFrozen 26 = .ok (.if_icmp .ne 7, 3) := dk_160 0 7 (dk_at dksX1_isFrozen_1 3 rfl rfl)
theorem dX1_isFrozen_29 : decode cX1_isFrozen 29 = .ok (.iconst 1, 1) := dk_4 (dk_at dksX1_isFrozen_1 6 rfl rfl)
theorem dX1_isFrozen_30 : decode cX1_isFrozen 30 = .ok (.goto 4, 3) := dk_167 0 4 (dk_at dksX1_isFrozen_1 7 rfl rfl)
theorem dX1_isFrozen_33 : decode cX1_isFrozen 33 = .ok (.iconst 0, 1) := dk_3 (dk_at dksX1_isFrozen_1 10 rfl rfl)
theorem dX1_isFrozen_34 : decode cX1_isFrozen 34 = .ok (.ireturn, 1) := dk_172 (dk_at dksX1_isFrozen_1 11 rfl rfl)
abbrev cX1_streams : ByteArray := prog_4_method_8_code
def yX1_streams : MethodName := ⟨RX1, "streams", "(I)V"⟩
def dkwX1_streams_4 : List UInt8 := [27, 92, 46, 21, 4, 96, 79, 42, 89, 180, 0, 73, 21, 4, 96, 181, 0, 73, 177]
abbrev dktX1_streams_4 : List UInt8 := dkwX1_streams_4 ++ []
def dkwX1_streams_3 : List UInt8 := [42, 180, 0, 9, 29, 46, 42, 180, 0, 9, 27, 46, 100, 28, 104, 16, 100, 108, 54, 4, 42, 180, 0, 18]
abbrev dktX1_streams_3 : List UInt8 := dkwX1_streams_3 ++ dktX1_streams_4
def dkwX1_streams_2 : List UInt8 := [42, 29, 182, 0, 136, 153, 0, 4, 177, 29, 2, 160, 0, 13, 42, 180, 0, 53, 180, 0, 116, 167, 0, 9]
abbrev dktX1_streams_2 : List UInt8 := dkwX1_streams_2 ++ dktX1_streams_3
def dkwX1_streams_1 : List UInt8 := [153, 0, 4, 177, 27, 4, 184, 0, 145, 62, 29, 2, 159, 0, 21, 42, 180, 0, 21, 29, 51, 154, 0, 11]
abbrev dktX1_streams_1 : List UInt8 := dkwX1_streams_1 ++ dktX1_streams_2
def dkwX1_streams_0 : List UInt8 := [42, 180, 0, 53, 180, 0, 158, 27, 16, 12, 108, 46, 61, 28, 2, 159, 0, 11, 42, 27, 182, 0, 136]
abbrev dktX1_streams_0 : List UInt8 := dkwX1_streams_0 ++ dktX1_streams_1
theorem dksX1_streams_0 : cX1_streams.data.toList.drop 0 = dktX1_streams_0 := by decide +kernel
theorem dksX1_streams_1 : cX1_streams.data.toList.drop 23 = dktX1_streams_1 := dk_seg dksX1_streams_0 23 rfl rfl
theorem dksX1_streams_2 : cX1_streams.data.toList.drop 47 = dktX1_streams_2 := dk_seg dksX1_streams_1 24 rfl rfl
theorem dksX1_streams_3 : cX1_streams.data.toList.drop 71 = dktX1_streams_3 := dk_seg dksX1_streams_2 24 rfl rfl
theorem dksX1_streams_4 : cX1_streams.data.toList.drop 95 = dktX1_streams_4 := dk_seg dksX1_streams_3 24 rfl rfl
theorem dX1_streams_0 : decode cX1_streams 0 = .ok (.aload_n 0, 1) := dk_42 (dk_at dksX1_streams_0 0 rfl rfl)
theorem dX1_streams_1 : decode cX1_streams 1 = .ok (.getfield 53, 3) := dk_180 0 53 (dk_at dksX1_streams_0 1 rfl rfl)
theorem dX1_streams_4 : decode cX1_streams 4 = .ok (.getfield 158, 3) := dk_180 0 158 (dk_at dksX1_streams_0 4 rfl rfl)
theorem dX1_streams_7 : decode cX1_streams 7 = .ok (.iload_n 1, 1) := dk_27 (dk_at dksX1_streams_0 7 rfl rfl)
theorem dX1_streams_8 : decode cX1_streams 8 = .ok (.bipush 12, 2) := dk_16 12 (dk_at dksX1_streams_0 8 rfl rfl)
theorem dX1_streams_10 : decode cX1_streams 10 = .ok (.idiv, 1) := dk_108 (dk_at dksX1_streams_0 10 rfl rfl)
theorem dX1_streams_11 : decode cX1_streams 11 = .ok (.iaload, 1) := dk_46 (dk_at dksX1_streams_0 11 rfl rfl)
theorem dX1_streams_12 : decode cX1_streams 12 = .ok (.istore_n 2, 1) := dk_61 (dk_at dksX1_streams_0 12 rfl rfl)
theorem dX1_streams_13 : decode cX1_streams 13 = .ok (.iload_n 2, 1) := dk_28 (dk_at dksX1_streams_0 13 rfl rfl)
theorem dX1_streams_14 : decode cX1_streams 14 = .ok (.iconst (-1), 1) := dk_2 (dk_at dksX1_streams_0 14 rfl rfl)
theorem dX1_streams_15 : decode cX1_streams 15 = .ok (.if_icmp .eq 11, 3) := dk_159 0 11 (dk_at dksX1_streams_0 15 rfl rfl)
theorem dX1_streams_18 : decode cX1_streams 18 = .ok (.aload_n 0, 1) := dk_42 (dk_at dksX1_streams_0 18 rfl rfl)
theorem dX1_streams_19 : decode cX1_streams 19 = .ok (.iload_n 1, 1) := dk_27 (dk_at dksX1_streams_0 19 rfl rfl)
theorem dX1_streams_20 : decode cX1_streams 20 = .ok (.invokevirtual 136, 3) := dk_182 0 136 (dk_at dksX1_streams_0 20 rfl rfl)
theorem dX1_streams_23 : decode cX1_streams 23 = .ok (.ifCond .eq 4, 3) := dk_153 0 4 (dk_at dksX1_streams_1 0 rfl rfl)
theorem dX1_streams_26 : decode cX1_streams 26 = .ok (.return_, 1) := dk_177 (dk_at dksX1_streams_1 3 rfl rfl)
theorem dX1_streams_27 : decode cX1_streams 27 = .ok (.iload_n 1, 1) := dk_27 (dk_at dksX1_streams_1 4 rfl rfl)
theorem dX1_streams_28 : decode cX1_streams 28 = .ok (.iconst 1, 1) := dk_4 (dk_at dksX1_streams_1 5 rfl rfl)
theorem dX1_streams_29 : decode cX1_streams 29 = .ok (.invokestatic 145, 3) := dk_184 0 145 (dk_at dksX1_streams_1 6 rfl rfl)
theorem dX1_streams_32 : decode cX1_streams 32 = .ok (.istore_n 3, 1) := dk_62 (dk_at dksX1_streams_1 9 rfl rfl)
theorem dX1_streams_33 : decode cX1_streams 33 = .ok (.iload_n 3, 1) := dk_29 (dk_at dksX1_streams_1 10 rfl rfl)
theorem dX1_streams_34 : decode cX1_streams 34 = .ok (.iconst (-1), 1) := dk_2 (dk_at dksX1_streams_1 11 rfl rfl)
theorem dX1_streams_35 : decode cX1_streams 35 = .ok (.if_icmp .eq 21, 3) := dk_159 0 21 (dk_at dksX1_streams_1 12 rfl rfl)
theorem dX1_streams_38 : decode cX1_streams 38 = .ok (.aload_n 0, 1) := dk_42 (dk_at dksX1_streams_1 15 rfl rfl)
theorem dX1_streams_39 : decode cX1_streams 39 = .ok (.getfield 21, 3) := dk_180 0 21 (dk_at dksX1_streams_1 16 rfl rfl)
theorem dX1_streams_42 : decode cX1_streams 42 = .ok (.iload_n 3, 1) := dk_29 (dk_at dksX1_streams_1 19 rfl rfl)
theorem dX1_streams_43 : decode cX1_streams 43 = .ok (.baload, 1) := dk_51 (dk_at dksX1_streams_1 20 rfl rfl)
theorem dX1_streams_44 : decode cX1_streams 44 = .ok (.ifCond .ne 11, 3) := dk_154 0 11 (dk_at dksX1_streams_1 21 rfl rfl)
theorem dX1_streams_47 : decode cX1_streams 47 = .ok (.aload_n 0, 1) := dk_42 (dk_at dksX1_streams_2 0 rfl rfl)
theorem dX1_streams_48 : decode cX1_streams 48 = .ok (.iload_n 3, 1) := dk_29 (dk_at dksX1_streams_2 1 rfl rfl)
theorem dX1_streams_49 : decode cX1_streams 49 = .ok (.invokevirtual 136, 3) := dk_182 0 136 (dk_at dksX1_streams_2 2 rfl rfl)
theorem dX1_streams_52 : decode cX1_streams 52 = .ok (.ifCond .eq 4, 3) := dk_153 0 4 (dk_at dksX1_streams_2 5 rfl rfl)
theorem dX1_streams_55 : decode cX1_streams 55 = .ok (.return_, 1) := dk_177 (dk_at dksX1_streams_2 8 rfl rfl)
theorem dX1_streams_56 : decode cX1_streams 56 = .ok (.iload_n 3, 1) := dk_29 (dk_at dksX1_streams_2 9 rfl rfl)
theorem dX1_streams_57 : decode cX1_streams 57 = .ok (.iconst (-1), 1) := dk_2 (dk_at dksX1_streams_2 10 rfl rfl)
theorem dX1_streams_58 : decode cX1_streams 58 = .ok (.if_icmp .ne 13, 3) := dk_160 0 13 (dk_at dksX1_streams_2 11 rfl rfl)
theorem dX1_streams_61 : decode cX1_streams 61 = .ok (.aload_n 0, 1) := dk_42 (dk_at dksX1_streams_2 14 rfl rfl)
theorem dX1_streams_62 : decode cX1_streams 62 = .ok (.getfield 53, 3) := dk_180 0 53 (dk_at dksX1_streams_2 15 rfl rfl)
theorem dX1_streams_65 : decode cX1_streams 65 = .ok (.getfield 116, 3) := dk_180 0 116 (dk_at dksX1_streams_2 18 rfl rfl)
theorem dX1_streams_68 : decode cX1_streams 68 = .ok (.goto 9, 3) := dk_167 0 9 (dk_at dksX1_streams_2 21 rfl rfl)
theorem dX1_streams_71 : decode cX1_streams 71 = .ok (.aload_n 0, 1) := dk_42 (dk_at dksX1_streams_3 0 rfl rfl)
theorem dX1_streams_72 : decode cX1_streams 72 = .ok (.getfield 9, 3) := dk_180 0 9 (dk_at dksX1_streams_3 1 rfl rfl)
theorem dX1_streams_75 : decode cX1_streams 75 = .ok (.iload_n 3, 1) := dk_29 (dk_at dksX1_streams_3 4 rfl rfl)
theorem dX1_streams_76 : decode cX1_streams 76 = .ok (.iaload, 1) := dk_46 (dk_at dksX1_streams_3 5 rfl rfl)
theorem dX1_streams_77 : decode cX1_streams 77 = .ok (.aload_n 0, 1) := dk_42 (dk_at dksX1_streams_3 6 rfl rfl)
theorem dX1_streams_78 : decode cX1_streams 78 = .ok (.getfield 9, 3) := dk_180 0 9 (dk_at dksX1_streams_3 7 rfl rfl)
theorem dX1_streams_81 : decode cX1_streams 81 = .ok (.iload_n 1, 1) := dk_27 (dk_at dksX1_streams_3 10 rfl rfl)
theorem dX1_streams_82 : decode cX1_streams 82 = .ok (.iaload, 1) := dk_46 (dk_at dksX1_streams_3 11 rfl rfl)
theorem dX1_streams_83 : decode cX1_streams 83 = .ok (.isub, 1) := dk_100 (dk_at dksX1_streams_3 12 rfl rfl)
theorem dX1_streams_84 : decode cX1_streams 84 = .ok (.iload_n 2, 1) := dk_28 (dk_at dksX1_streams_3 13 rfl rfl)
theorem dX1_streams_85 : decode cX1_streams 85 = .ok (.imul, 1) := dk_104 (dk_at dksX1_streams_3 14 rfl rfl)
theorem dX1_streams_86 : decode cX1_streams 86 = .ok (.bipush 100, 2) := dk_16 100 (dk_at dksX1_streams_3 15 rfl rfl)
theorem dX1_streams_88 : decode cX1_streams 88 = .ok (.idiv, 1) := dk_108 (dk_at dksX1_streams_3 17 rfl rfl)
theorem dX1_streams_89 : decode cX1_streams 89 = .ok (.istore 4, 2) := dk_54 4 (dk_at dksX1_streams_3 18 rfl rfl)
theorem dX1_streams_91 : decode cX1_streams 91 = .ok (.aload_n 0, 1) := dk_42 (dk_at dksX1_streams_3 20 rfl rfl)
theorem dX1_streams_92 : decode cX1_streams 92 = .ok (.getfield 18, 3) := dk_180 0 18 (dk_at dksX1_streams_3 21 rfl rfl)
theorem dX1_streams_95 : decode cX1_streams 95 = .ok (.iload_n 1, 1) := dk_27 (dk_at dksX1_streams_4 0 rfl rfl)
theorem dX1_streams_96 : decode cX1_streams 96 = .ok (.dup2, 1) := dk_92 (dk_at dksX1_streams_4 1 rfl rfl)
theorem dX1_streams_97 : decode cX1_streams 97 = .ok (.iaload, 1) := dk_46 (dk_at dksX1_streams_4 2 rfl rfl)
theorem dX1_streams_98 : decode cX1_streams 98 = .ok (.iload 4, 2) := dk_21 4 (dk_at dksX1_streams_4 3 rfl rfl)
theorem dX1_streams_100 : decode cX1_streams 100 = .ok (.iadd, 1) := dk_96 (dk_at dksX1_streams_4 5 rfl rfl)
theorem dX1_streams_101 : decode cX1_streams 101 = .ok (.iastore, 1) := dk_79 (dk_at dksX1_streams_4 6 rfl rfl)
theorem dX1_streams_102 : decode cX1_streams 102 = .ok (.aload_n 0, 1) := dk_42 (dk_at dksX1_streams_4 7 rfl rfl)
theorem dX1_streams_103 : decode cX1_streams 103 = .ok (.dup, 1) := dk_89 (dk_at dksX1_streams_4 8 rfl rfl)
theorem dX1_streams_104 : decode cX1_streams 104 = .ok (.getfield 73, 3) := dk_180 0 73 (dk_at dksX1_streams_4 9 rfl rfl)
theorem dX1_streams_107 : decode cX1_streams 107 = .ok (.iload 4, 2) := dk_21 4 (dk_at dksX1_streams_4 12 rfl rfl)
theorem dX1_streams_109 : decode cX1_streams 109 = .ok (.iadd, 1) := dk_96 (dk_at dksX1_streams_4 14 rfl rfl)
theorem dX1_streams_110 : decode cX1_streams 110 = .ok (.putfield 73, 3) := dk_181 0 73 (dk_at dksX1_streams_4 15 rfl rfl)
theorem dX1_streams_113 : decode cX1_streams 113 = .ok (.return_, 1) := dk_177 (dk_at dksX1_streams_4 18 rfl rfl)
abbrev cX1_cools : ByteArray := prog_4_method_10_code
def yX1_cools : MethodName := ⟨RX1, "cools", "()V"⟩
def dkwX1_cools_7 : List UInt8 := [167, 255, 138, 177]
abbrev dktX1_cools_7 : List UInt8 := dkwX1_cools_7 ++ []
def dkwX1_cools_6 : List UInt8 := [180, 0, 178, 100, 79, 42, 89, 180, 0, 67, 25, 4, 180, 0, 178, 96, 181, 0, 67, 132, 3, 1]
abbrev dktX1_cools_6 : List UInt8 := dkwX1_cools_6 ++ dktX1_cools_7
def dkwX1_cools_5 : List UInt8 := [25, 4, 180, 0, 178, 96, 181, 0, 181, 42, 180, 0, 18, 25, 4, 180, 0, 164, 92, 46, 25, 4]
abbrev dktX1_cools_5 : List UInt8 := dkwX1_cools_5 ++ dktX1_cools_6
def dkwX1_cools_4 : List UInt8 := [133, 42, 180, 0, 66, 133, 105, 31, 109, 136, 167, 0, 5, 21, 5, 181, 0, 178, 25, 4, 89, 180, 0, 181]
abbrev dktX1_cools_4 : List UInt8 := dkwX1_cools_4 ++ dktX1_cools_5
def dkwX1_cools_3 : List UInt8 := [58, 4, 42, 25, 4, 182, 0, 174, 54, 5, 25, 4, 31, 42, 180, 0, 66, 133, 148, 158, 0, 18, 21, 5]
abbrev dktX1_cools_3 : List UInt8 := dkwX1_cools_3 ++ dktX1_cools_4
def dkwX1_cools_2 : List UInt8 := [180, 0, 30, 185, 0, 92, 1, 0, 162, 0, 111, 42, 180, 0, 30, 29, 185, 0, 96, 2, 0, 192, 0, 100]
abbrev dktX1_cools_2 : List UInt8 := dkwX1_cools_2 ++ dktX1_cools_3
def dkwX1_cools_1 : List UInt8 := [185, 0, 96, 2, 0, 192, 0, 100, 182, 0, 174, 133, 97, 64, 132, 3, 1, 167, 255, 219, 3, 62, 29, 42]
abbrev dktX1_cools_1 : List UInt8 := dkwX1_cools_1 ++ dktX1_cools_2
def dkwX1_cools_0 : List UInt8 := [9, 64, 3, 62, 29, 42, 180, 0, 30, 185, 0, 92, 1, 0, 162, 0, 30, 31, 42, 42, 180, 0, 30, 29]
abbrev dktX1_cools_0 : List UInt8 := dkwX1_cools_0 ++ dktX1_cools_1
theorem dksX1_cools_0 : cX1_cools.data.toList.drop 0 = dktX1_cools_0 := by decide +kernel
theorem dksX1_cools_1 : cX1_cools.data.toList.drop 24 = dktX1_cools_1 := dk_seg dksX1_cools_0 24 rfl rfl
theorem dksX1_cools_2 : cX1_cools.data.toList.drop 48 = dktX1_cools_2 := dk_seg dksX1_cools_1 24 rfl rfl
theorem dksX1_cools_3 : cX1_cools.data.toList.drop 72 = dktX1_cools_3 := dk_seg dksX1_cools_2 24 rfl rfl
theorem dksX1_cools_4 : cX1_cools.data.toList.drop 96 = dktX1_cools_4 := dk_seg dksX1_cools_3 24 rfl rfl
theorem dksX1_cools_5 : cX1_cools.data.toList.drop 120 = dktX1_cools_5 := dk_seg dksX1_cools_4 24 rfl rfl
theorem dksX1_cools_6 : cX1_cools.data.toList.drop 142 = dktX1_cools_6 := dk_seg dksX1_cools_5 22 rfl rfl
theorem dksX1_cools_7 : cX1_cools.data.toList.drop 164 = dktX1_cools_7 := dk_seg dksX1_cools_6 22 rfl rfl
theorem dX1_cools_0 : decode cX1_cools 0 = .ok (.lconst 0, 1) := dk_9 (dk_at dksX1_cools_0 0 rfl rfl)
theorem dX1_cools_1 : decode cX1_cools 1 = .ok (.lstore_n 1, 1) := dk_64 (dk_at dksX1_cools_0 1 rfl rfl)
theorem dX1_cools_2 : decode cX1_cools 2 = .ok (.iconst 0, 1) := dk_3 (dk_at dksX1_cools_0 2 rfl rfl)
theorem dX1_cools_3 : decode cX1_cools 3 = .ok (.istore_n 3, 1) := dk_62 (dk_at dksX1_cools_0 3 rfl rfl)
theorem dX1_cools_4 : decode cX1_cools 4 = .ok (.iload_n 3, 1) := dk_29 (dk_at dksX1_cools_0 4 rfl rfl)
theorem dX1_cools_5 : decode cX1_cools 5 = .ok (.aload_n 0, 1) := dk_42 (dk_at dksX1_cools_0 5 rfl rfl)
theorem dX1_cools_6 : decode cX1_cools 6 = .ok (.getfield 30, 3) := dk_180 0 30 (dk_at dksX1_cools_0 6 rfl rfl)
theorem dX1_cools_9 : decode cX1_cools 9 = .ok (.invokeinterface 92 1, 5) := by decide +kernel
theorem dX1_cools_14 : decode cX1_cools 14 = .ok (.if_icmp .ge 30, 3) := dk_162 0 30 (dk_at dksX1_cools_0 14 rfl rfl)
theorem dX1_cools_17 : decode cX1_cools 17 = .ok (.lload_n 1, 1) := dk_31 (dk_at dksX1_cools_0 17 rfl rfl)
theorem dX1_cools_18 : decode cX1_cools 18 = .ok (.aload_n 0, 1) := dk_42 (dk_at dksX1_cools_0 18 rfl rfl)
theorem dX1_cools_19 : decode cX1_cools 19 = .ok (.aload_n 0, 1) := dk_42 (dk_at dksX1_cools_0 19 rfl rfl)
theorem dX1_cools_20 : decode cX1_cools 20 = .ok (.getfield 30, 3) := dk_180 0 30 (dk_at dksX1_cools_0 20 rfl rfl)
theorem dX1_cools_23 : decode cX1_cools 23 = .ok (.iload_n 3, 1) := dk_29 (dk_at dksX1_cools_0 23 rfl rfl)
theorem dX1_cools_24 : decode cX1_cools 24 = .ok (.invokeinterface 96 2, 5) := by decide +kernel
theorem dX1_cools_29 : decode cX1_cools 29 = .ok (.checkcast 100, 3) := dk_192 0 100 (dk_at dksX1_cools_1 5 rfl rfl)
theorem dX1_cools_32 : decode cX1_cools 32 = .ok (.invokevirtual 174, 3) := dk_182 0 174 (dk_at dksX1_cools_1 8 rfl rfl)
theorem dX1_cools_35 : decode cX1_cools 35 = .ok (.i2l, 1) := dk_133 (dk_at dksX1_cools_1 11 rfl rfl)
theorem dX1_cools_36 : decode cX1_cools 36 = .ok (.ladd, 1) := dk_97 (dk_at dksX1_cools_1 12 rfl rfl)
theorem dX1_cools_37 : decode cX1_cools 37 = .ok (.lstore_n 1, 1) := dk_64 (dk_at dksX1_cools_1 13 rfl rfl)
theorem dX1_cools_38 : decode cX1_cools 38 = .ok (.iinc 3 1, 3) := dk_132 3 1 (dk_at dksX1_cools_1 14 rfl rfl)
theorem dX1_cools_41 : decode cX1_cools 41 = .ok (.goto (-37), 3) := dk_167 255 219 (dk_at dksX1_cools_1 17 rfl rfl)
theorem dX1_cools_44 : decode cX1_cools 44 = .ok (.iconst 0, 1) := dk_3 (dk_at dksX1_cools_1 20 rfl rfl)
theorem dX1_cools_45 : decode cX1_cools 45 = .ok (.istore_n 3, 1) := dk_62 (dk_at dksX1_cools_1 21 rfl rfl)
theorem dX1_cools_46 : decode cX1_cools 46 = .ok (.iload_n 3, 1) := dk_29 (dk_at dksX1_cools_1 22 rfl rfl)
theorem dX1_cools_47 : decode cX1_cools 47 = .ok (.aload_n 0, 1) := dk_42 (dk_at dksX1_cools_1 23 rfl rfl)
theorem dX1_cools_48 : decode cX1_cools 48 = .ok (.getfield 30, 3) := dk_180 0 30 (dk_at dksX1_cools_2 0 rfl rfl)
theorem dX1_cools_51 : decode cX1_cools 51 = .ok (.invokeinterface 92 1, 5) := by decide +kernel
theorem dX1_cools_56 : decode cX1_cools 56 = .ok (.if_icmp .ge 111, 3) := dk_162 0 111 (dk_at dksX1_cools_2 8 rfl rfl)
theorem dX1_cools_59 : decode cX1_cools 59 = .ok (.aload_n 0, 1) := dk_42 (dk_at dksX1_cools_2 11 rfl rfl)
theorem dX1_cools_60 : decode cX1_cools 60 = .ok (.getfield 30, 3) := dk_180 0 30 (dk_at dksX1_cools_2 12 rfl rfl)
theorem dX1_cools_63 : decode cX1_cools 63 = .ok (.iload_n 3, 1) := dk_29 (dk_at dksX1_cools_2 15 rfl rfl)
theorem dX1_cools_64 : decode cX1_cools 64 = .ok (.invokeinterface 96 2, 5) := by decide +kernel
theorem dX1_cools_69 : decode cX1_cools 69 = .ok (.checkcast 100, 3) := dk_192 0 100 (dk_at dksX1_cools_2 21 rfl rfl)
theorem dX1_cools_72 : decode cX1_cools 72 = .ok (.astore 4, 2) := dk_58 4 (dk_at dksX1_cools_3 0 rfl rfl)
theorem dX1_cools_74 : decode cX1_cools 74 = .ok (.aload_n 0, 1) := dk_42 (dk_at dksX1_cools_3 2 rfl rfl)
theorem dX1_cools_75 : decode cX1_cools 75 = .ok (.aload 4, 2) := dk_25 4 (dk_at dksX1_cools_3 3 rfl rfl)
theorem dX1_cools_77 : decode cX1_cools 77 = .ok (.invokevirtual 174, 3) := dk_182 0 174 (dk_at dksX1_cools_3 5 rfl rfl)
theorem dX1_cools_80 : decode cX1_cools 80 = .ok (.istore 5, 2) := dk_54 5 (dk_at dksX1_cools_3 8 rfl rfl)
theorem dX1_cools_82 : decode cX1_cools 82 = .ok (.aload 4, 2) := dk_25 4 (dk_at dksX1_cools_3 10 rfl rfl)
theorem dX1_cools_84 : decode cX1_cools 84 = .ok (.lload_n 1, 1) := dk_31 (dk_at dksX1_cools_3 12 rfl rfl)
theorem dX1_cools_85 : decode cX1_cools 85 = .ok (.aload_n 0, 1) := dk_42 (dk_at dksX1_cools_3 13 rfl rfl)
theorem dX1_cools_86 : decode cX1_cools 86 = .ok (.getfield 66, 3) := dk_180 0 66 (dk_at dksX1_cools_3 14 rfl rfl)
theorem dX1_cools_89 : decode cX1_cools 89 = .ok (.i2l, 1) := dk_133 (dk_at dksX1_cools_3 17 rfl rfl)
theorem dX1_cools_90 : decode cX1_cools 90 = .ok (.lcmp, 1) := dk_148 (dk_at dksX1_cools_3 18 rfl rfl)
theorem dX1_cools_91 : decode cX1_cools 91 = .ok (.ifCond .le 18, 3) := dk_158 0 18 (dk_at dksX1_cools_3 19 rfl rfl)
theorem dX1_cools_94 : decode cX1_cools 94 = .ok (.iload 5, 2) := dk_21 5 (dk_at dksX1_cools_3 22 rfl rfl)
theorem dX1_cools_96 : decode cX1_cools 96 = .ok (.i2l, 1) := dk_133 (dk_at dksX1_cools_4 0 rfl rfl)
theorem dX1_cools_97 : decode cX1_cools 97 = .ok (.aload_n 0, 1) := dk_42 (dk_at dksX1_cools_4 1 rfl rfl)
theorem dX1_cools_98 : decode cX1_cools 98 = .ok (.getfield 66, 3) := dk_180 0 66 (dk_at dksX1_cools_4 2 rfl rfl)
theorem dX1_cools_101 : decode cX1_cools 101 = .ok (.i2l, 1) := dk_133 (dk_at dksX1_cools_4 5 rfl rfl)
theorem dX1_cools_102 : decode cX1_cools 102 = .ok (.lmul, 1) := dk_105 (dk_at dksX1_cools_4 6 rfl rfl)
theorem dX1_cools_103 : decode cX1_cools 103 = .ok (.lload_n 1, 1) := dk_31 (dk_at dksX1_cools_4 7 rfl rfl)
theorem dX1_cools_104 : decode cX1_cools 104 = .ok (.ldiv, 1) := dk_109 (dk_at dksX1_cools_4 8 rfl rfl)
theorem dX1_cools_105 : decode cX1_cools 105 = .ok (.l2i, 1) := dk_136 (dk_at dksX1_cools_4 9 rfl rfl)
theorem dX1_cools_106 : decode cX1_cools 106 = .ok (.goto 5, 3) := dk_167 0 5 (dk_at dksX1_cools_4 10 rfl rfl)
theorem dX1_cools_109 : decode cX1_cools 109 = .ok (.iload 5, 2) := dk_21 5 (dk_at dksX1_cools_4 13 rfl rfl)
theorem dX1_cools_111 : decode cX1_cools 111 = .ok (.putfield 178, 3) := dk_181 0 178 (dk_at dksX1_cools_4 15 rfl rfl)
theorem dX1_cools_114 : decode cX1_cools 114 = .ok (.aload 4, 2) := dk_25 4 (dk_at dksX1_cools_4 18 rfl rfl)
theorem dX1_cools_116 : decode cX1_cools 116 = .ok (.dup, 1) := dk_89 (dk_at dksX1_cools_4 20 rfl rfl)
theorem dX1_cools_117 : decode cX1_cools 117 = .ok (.getfield 181, 3) := dk_180 0 181 (dk_at dksX1_cools_4 21 rfl rfl)
theorem dX1_cools_120 : decode cX1_cools 120 = .ok (.aload 4, 2) := dk_25 4 (dk_at dksX1_cools_5 0 rfl rfl)
theorem dX1_cools_122 : decode cX1_cools 122 = .ok (.getfield 178, 3) := dk_180 0 178 (dk_at dksX1_cools_5 2 rfl rfl)
theorem dX1_cools_125 : decode cX1_cools 125 = .ok (.iadd, 1) := dk_96 (dk_at dksX1_cools_5 5 rfl rfl)
theorem dX1_cools_126 : decode cX1_cools 126 = .ok (.putfield 181, 3) := dk_181 0 181 (dk_at dksX1_cools_5 6 rfl rfl)
theorem dX1_cools_129 : decode cX1_cools 129 = .ok (.aload_n 0, 1) := dk_42 (dk_at dksX1_cools_5 9 rfl rfl)
theorem dX1_cools_130 : decode cX1_cools 130 = .ok (.getfield 18, 3) := dk_180 0 18 (dk_at dksX1_cools_5 10 rfl rfl)
theorem dX1_cools_133 : decode cX1_cools 133 = .ok (.aload 4, 2) := dk_25 4 (dk_at dksX1_cools_5 13 rfl rfl)
theorem dX1_cools_135 : decode cX1_cools 135 = .ok (.getfield 164, 3) := dk_180 0 164 (dk_at dksX1_cools_5 15 rfl rfl)
theorem dX1_cools_138 : decode cX1_cools 138 = .ok (.dup2, 1) := dk_92 (dk_at dksX1_cools_5 18 rfl rfl)
theorem dX1_cools_139 : decode cX1_cools 139 = .ok (.iaload, 1) := dk_46 (dk_at dksX1_cools_5 19 rfl rfl)
theorem dX1_cools_140 : decode cX1_cools 140 = .ok (.aload 4, 2) := dk_25 4 (dk_at dksX1_cools_5 20 rfl rfl)
theorem dX1_cools_142 : decode cX1_cools 142 = .ok (.getfield 178, 3) := dk_180 0 178 (dk_at dksX1_cools_6 0 rfl rfl)
theorem dX1_cools_145 : decode cX1_cools 145 = .ok (.isub, 1) := dk_100 (dk_at dksX1_cools_6 3 rfl rfl)
theorem dX1_cools_146 : decode cX1_cools 146 = .ok (.iastore, 1) := dk_79 (dk_at dksX1_cools_6 4 rfl rfl)
theorem dX1_cools_147 : decode cX1_cools 147 = .ok (.aload_n 0, 1) := dk_42 (dk_at dksX1_cools_6 5 rfl rfl)
theorem dX1_cools_148 : decode cX1_cools 148 = .ok (.dup, 1) := dk_89 (dk_at dksX1_cools_6 6 rfl rfl)
theorem dX1_cools_149 : decode cX1_cools 149 = .ok (.getfield 67, 3) := dk_180 0 67 (dk_at dksX1_cools_6 7 rfl rfl)
theorem dX1_cools_152 : decode cX1_cools 152 = .ok (.aload 4, 2) := dk_25 4 (dk_at dksX1_cools_6 10 rfl rfl)
theorem dX1_cools_154 : decode cX1_cools 154 = .ok (.getfield 178, 3) := dk_180 0 178 (dk_at dksX1_cools_6 12 rfl rfl)
theorem dX1_cools_157 : decode cX1_cools 157 = .ok (.iadd, 1) := dk_96 (dk_at dksX1_cools_6 15 rfl rfl)
theorem dX1_cools_158 : decode cX1_cools 158 = .ok (.putfield 67, 3) := dk_181 0 67 (dk_at dksX1_cools_6 16 rfl rfl)
theorem dX1_cools_161 : decode cX1_cools 161 = .ok (.iinc 3 1, 3) := dk_132 3 1 (dk_at dksX1_cools_6 19 rfl rfl)
theorem dX1_cools_164 : decode cX1_cools 164 = .ok (.goto (-118), 3) := dk_167 255 138 (dk_at dksX1_cools_7 0 rfl rfl)
theorem dX1_cools_167 : decode cX1_cools 167 = .ok (.return_, 1) := dk_177 (dk_at dksX1_cools_7 3 rfl rfl)
abbrev cX1_wants : ByteArray := prog_4_method_9_code
def yX1_wants : MethodName := ⟨RX1, "wants", "(LFrostRing$Pipe;)I"⟩
def dkwX1_wants_2 : List UInt8 := [108, 172]
abbrev dktX1_wants_2 : List UInt8 := dkwX1_wants_2 ++ []
def dkwX1_wants_1 : List UInt8 := [42, 180, 0, 9, 43, 180, 0, 164, 46, 43, 180, 0, 167, 100, 184, 0, 170, 43, 180, 0, 173, 104, 16, 100]
abbrev dktX1_wants_1 : List UInt8 := dkwX1_wants_1 ++ dktX1_wants_2
def dkwX1_wants_0 : List UInt8 := [43, 180, 0, 161, 153, 0, 15, 42, 180, 0, 21, 43, 180, 0, 164, 51, 153, 0, 7, 3, 167, 0, 29, 3]
abbrev dktX1_wants_0 : List UInt8 := dkwX1_wants_0 ++ dktX1_wants_1
theorem dksX1_wants_0 : cX1_wants.data.toList.drop 0 = dktX1_wants_0 := by decide +kernel
theorem dksX1_wants_1 : cX1_wants.data.toList.drop 24 = dktX1_wants_1 := dk_seg dksX1_wants_0 24 rfl rfl
theorem dksX1_wants_2 : cX1_wants.data.toList.drop 48 = dktX1_wants_2 := dk_seg dksX1_wants_1 24 rfl rfl
theorem dX1_wants_0 : decode cX1_wants 0 = .ok (.aload_n 1, 1) := dk_43 (dk_at dksX1_wants_0 0 rfl rfl)
theorem dX1_wants_1 : decode cX1_wants 1 = .ok (.getfield 161, 3) := dk_180 0 161 (dk_at dksX1_wants_0 1 rfl rfl)
theorem dX1_wants_4 : decode cX1_wants 4 = .ok (.ifCond .eq 15, 3) := dk_153 0 15 (dk_at dksX1_wants_0 4 rfl rfl)
theorem dX1_wants_7 : decode cX1_wants 7 = .ok (.aload_n 0, 1) := dk_42 (dk_at dksX1_wants_0 7 rfl rfl)
theorem dX1_wants_8 : decode cX1_wants 8 = .ok (.getfield 21, 3) := dk_180 0 21 (dk_at dksX1_wants_0 8 rfl rfl)
theorem dX1_wants_11 : decode cX1_wants 11 = .ok (.aload_n 1, 1) := dk_43 (dk_at dksX1_wants_0 11 rfl rfl)
theorem dX1_wants_12 : decode cX1_wants 12 = .ok (.getfield 164, 3) := dk_180 0 164 (dk_at dksX1_wants_0 12 rfl rfl)
theorem dX1_wants_15 : decode cX1_wants 15 = .ok (.baload, 1) := dk_51 (dk_at dksX1_wants_0 15 rfl rfl)
theorem dX1_wants_16 : decode cX1_wants 16 = .ok (.ifCond .eq 7, 3) := dk_153 0 7 (dk_at dksX1_wants_0 16 rfl rfl)
theorem dX1_wants_19 : decode cX1_wants 19 = .ok (.iconst 0, 1) := dk_3 (dk_at dksX1_wants_0 19 rfl rfl)
theorem dX1_wants_20 : decode cX1_wants 20 = .ok (.goto 29, 3) := dk_167 0 29 (dk_at dksX1_wants_0 20 rfl rfl)
theorem dX1_wants_23 : decode cX1_wants 23 = .ok (.iconst 0, 1) := dk_3 (dk_at dksX1_wants_0 23 rfl rfl)
theorem dX1_wants_24 : decode cX1_wants 24 = .ok (.aload_n 0, 1) := dk_42 (dk_at dksX1_wants_1 0 rfl rfl)
theorem dX1_wants_25 : decode cX1_wants 25 = .ok (.getfield 9, 3) := dk_180 0 9 (dk_at dksX1_wants_1 1 rfl rfl)
theorem dX1_wants_28 : decode cX1_wants 28 = .ok (.aload_n 1, 1) := dk_43 (dk_at dksX1_wants_1 4 rfl rfl)
theorem dX1_wants_29 : decode cX1_wants 29 = .ok (.getfield 164, 3) := dk_180 0 164 (dk_at dksX1_wants_1 5 rfl rfl)
theorem dX1_wants_32 : decode cX1_wants 32 = .ok (.iaload, 1) := dk_46 (dk_at dksX1_wants_1 8 rfl rfl)
theorem dX1_wants_33 : decode cX1_wants 33 = .ok (.aload_n 1, 1) := dk_43 (dk_at dksX1_wants_1 9 rfl rfl)
theorem dX1_wants_34 : decode cX1_wants 34 = .ok (.getfield 167, 3) := dk_180 0 167 (dk_at dksX1_wants_1 10 rfl rfl)
theorem dX1_wants_37 : decode cX1_wants 37 = .ok (.isub, 1) := dk_100 (dk_at dksX1_wants_1 13 rfl rfl)
theorem dX1_wants_38 : decode cX1_wants 38 = .ok (.invokestatic 170, 3) := dk_184 0 170 (dk_at dksX1_wants_1 14 rfl rfl)
theorem dX1_wants_41 : decode cX1_wants 41 = .ok (.aload_n 1, 1) := dk_43 (dk_at dksX1_wants_1 17 rfl rfl)
theorem dX1_wants_42 : decode cX1_wants 42 = .ok (.getfield 173, 3) := dk_180 0 173 (dk_at dksX1_wants_1 18 rfl rfl)
theorem dX1_wants_45 : decode cX1_wants 45 = .ok (.imul, 1) := dk_104 (dk_at dksX1_wants_1 21 rfl rfl)
theorem dX1_wants_46 : decode cX1_wants 46 = .ok (.bipush 100, 2) := dk_16 100 (dk_at dksX1_wants_1 22 rfl rfl)
theorem dX1_wants_48 : decode cX1_wants 48 = .ok (.idiv, 1) := dk_108 (dk_at dksX1_wants_2 0 rfl rfl)
theorem dX1_wants_49 : decode cX1_wants 49 = .ok (.ireturn, 1) := dk_172 (dk_at dksX1_wants_2 1 rfl rfl)
abbrev cX1_takes : ByteArray := prog_4_method_11_code
def yX1_takes : MethodName := ⟨RX1, "takes", "(II)V"⟩
def dkwX1_takes_7 : List UInt8 := [100, 79, 21, 4, 21, 6, 100, 54, 4, 42, 180, 0, 9, 27, 92, 46, 21, 4, 96, 79, 177]
abbrev dktX1_takes_7 : List UInt8 := dkwX1_takes_7 ++ []
def dkwX1_takes_6 : List UInt8 := [54, 4, 21, 4, 42, 180, 0, 15, 27, 46, 184, 0, 153, 54, 6, 42, 180, 0, 15, 27, 92, 46, 21, 6]
abbrev dktX1_takes_6 : List UInt8 := dkwX1_takes_6 ++ dktX1_takes_7
def dkwX1_takes_5 : List UInt8 := [184, 0, 170, 184, 0, 153, 54, 5, 42, 180, 0, 9, 27, 92, 46, 21, 5, 96, 79, 21, 4, 21, 5, 100]
abbrev dktX1_takes_5 : List UInt8 := dkwX1_takes_5 ++ dktX1_takes_6
def dkwX1_takes_4 : List UInt8 := [96, 79, 21, 4, 21, 6, 96, 54, 4, 167, 0, 71, 21, 4, 3, 29, 42, 180, 0, 9, 27, 46, 100]
abbrev dktX1_takes_4 : List UInt8 := dkwX1_takes_4 ++ dktX1_takes_5
def dkwX1_takes_3 : List UInt8 := [180, 0, 131, 42, 180, 0, 15, 27, 46, 100, 184, 0, 153, 54, 6, 42, 180, 0, 15, 27, 92, 46, 21, 6]
abbrev dktX1_takes_3 : List UInt8 := dkwX1_takes_3 ++ dktX1_takes_4
def dkwX1_takes_2 : List UInt8 := [21, 5, 100, 79, 21, 4, 21, 5, 96, 54, 4, 21, 4, 116, 42, 180, 0, 53, 27, 182, 0, 127]
abbrev dktX1_takes_2 : List UInt8 := dkwX1_takes_2 ++ dktX1_takes_3
def dkwX1_takes_1 : List UInt8 := [42, 180, 0, 9, 27, 46, 29, 100, 184, 0, 170, 184, 0, 153, 54, 5, 42, 180, 0, 9, 27, 92, 46]
abbrev dktX1_takes_1 : List UInt8 := dkwX1_takes_1 ++ dktX1_takes_2
def dkwX1_takes_0 : List UInt8 := [42, 180, 0, 53, 27, 182, 0, 127, 180, 0, 184, 62, 28, 54, 4, 21, 4, 156, 0, 88, 21, 4, 116, 3]
abbrev dktX1_takes_0 : List UInt8 := dkwX1_takes_0 ++ dktX1_takes_1
theorem dksX1_takes_0 : cX1_takes.data.toList.drop 0 = dktX1_takes_0 := by decide +kernel
theorem dksX1_takes_1 : cX1_takes.data.toList.drop 24 = dktX1_takes_1 := dk_seg dksX1_takes_0 24 rfl rfl
theorem dksX1_takes_2 : cX1_takes.data.toList.drop 47 = dktX1_takes_2 := dk_seg dksX1_takes_1 23 rfl rfl
theorem dksX1_takes_3 : cX1_takes.data.toList.drop 69 = dktX1_takes_3 := dk_seg dksX1_takes_2 22 rfl rfl
theorem dksX1_takes_4 : cX1_takes.data.toList.drop 93 = dktX1_takes_4 := dk_seg dksX1_takes_3 24 rfl rfl
theorem dksX1_takes_5 : cX1_takes.data.toList.drop 116 = dktX1_takes_5 := dk_seg dksX1_takes_4 23 rfl rfl
theorem dksX1_takes_6 : cX1_takes.data.toList.drop 140 = dktX1_takes_6 := dk_seg dksX1_takes_5 24 rfl rfl
theorem dksX1_takes_7 : cX1_takes.data.toList.drop 164 = dktX1_takes_7 := dk_seg dksX1_takes_6 24 rfl rfl
theorem dX1_takes_0 : decode cX1_takes 0 = .ok (.aload_n 0, 1) := dk_42 (dk_at dksX1_takes_0 0 rfl rfl)
theorem dX1_takes_1 : decode cX1_takes 1 = .ok (.getfield 53, 3) := dk_180 0 53 (dk_at dksX1_takes_0 1 rfl rfl)
theorem dX1_takes_4 : decode cX1_takes 4 = .ok (.iload_n 1, 1) := dk_27 (dk_at dksX1_takes_0 4 rfl rfl)
theorem dX1_takes_5 : decode cX1_takes 5 = .ok (.invokevirtual 127, 3) := dk_182 0 127 (dk_at dksX1_takes_0 5 rfl rfl)
theorem dX1_takes_8 : decode cX1_takes 8 = .ok (.getfield 184, 3) := dk_180 0 184 (dk_at dksX1_takes_0 8 rfl rfl)
theorem dX1_takes_11 : decode cX1_takes 11 = .ok (.istore_n 3, 1) := dk_62 (dk_at dksX1_takes_0 11 rfl rfl)
theorem dX1_takes_12 : decode cX1_takes 12 = .ok (.iload_n 2, 1) := dk_28 (dk_at dksX1_takes_0 12 rfl rfl)
theorem dX1_takes_13 : decode cX1_takes 13 = .ok (.istore 4, 2) := dk_54 4 (dk_at dksX1_takes_0 13 rfl rfl)
theorem dX1_takes_15 : decode cX1_takes 15 = .ok (.iload 4, 2) := dk_21 4 (dk_at dksX1_takes_0 15 rfl rfl)
theorem dX1_takes_17 : decode cX1_takes 17 = .ok (.ifCond .ge 88, 3) := dk_156 0 88 (dk_at dksX1_takes_0 17 rfl rfl)
theorem dX1_takes_20 : decode cX1_takes 20 = .ok (.iload 4, 2) := dk_21 4 (dk_at dksX1_takes_0 20 rfl rfl)
theorem dX1_takes_22 : decode cX1_takes 22 = .ok (.ineg, 1) := dk_116 (dk_at dksX1_takes_0 22 rfl rfl)
theorem dX1_takes_23 : decode cX1_takes 23 = .ok (.iconst 0, 1) := dk_3 (dk_at dksX1_takes_0 23 rfl rfl)
theorem dX1_takes_24 : decode cX1_takes 24 = .ok (.aload_n 0, 1) := dk_42 (dk_at dksX1_takes_1 0 rfl rfl)
theorem dX1_takes_25 : decode cX1_takes 25 = .ok (.getfield 9, 3) := dk_180 0 9 (dk_at dksX1_takes_1 1 rfl rfl)
theorem dX1_takes_28 : decode cX1_takes 28 = .ok (.iload_n 1, 1) := dk_27 (dk_at dksX1_takes_1 4 rfl rfl)
theorem dX1_takes_29 : decode cX1_takes 29 = .ok (.iaload, 1) := dk_46 (dk_at dksX1_takes_1 5 rfl rfl)
theorem dX1_takes_30 : decode cX1_takes 30 = .ok (.iload_n 3, 1) := dk_29 (dk_at dksX1_takes_1 6 rfl rfl)
theorem dX1_takes_31 : decode cX1_takes 31 = .ok (.isub, 1) := dk_100 (dk_at dksX1_takes_1 7 rfl rfl)
theorem dX1_takes_32 : decode cX1_takes 32 = .ok (.invokestatic 170, 3) := dk_184 0 170 (dk_at dksX1_takes_1 8 rfl rfl)
theorem dX1_takes_35 : decode cX1_takes 35 = .ok (.invokestatic 153, 3) := dk_184 0 153 (dk_at dksX1_takes_1 11 rfl rfl)
theorem dX1_takes_38 : decode cX1_takes 38 = .ok (.istore 5, 2) := dk_54 5 (dk_at dksX1_takes_1 14 rfl rfl)
theorem dX1_takes_40 : decode cX1_takes 40 = .ok (.aload_n 0, 1) := dk_42 (dk_at dksX1_takes_1 16 rfl rfl)
theorem dX1_takes_41 : decode cX1_takes 41 = .ok (.getfield 9, 3) := dk_180 0 9 (dk_at dksX1_takes_1 17 rfl rfl)
theorem dX1_takes_44 : decode cX1_takes 44 = .ok (.iload_n 1, 1) := dk_27 (dk_at dksX1_takes_1 20 rfl rfl)
theorem dX1_takes_45 : decode cX1_takes 45 = .ok (.dup2, 1) := dk_92 (dk_at dksX1_takes_1 21 rfl rfl)
theorem dX1_takes_46 : decode cX1_takes 46 = .ok (.iaload, 1) := dk_46 (dk_at dksX1_takes_1 22 rfl rfl)
theorem dX1_takes_47 : decode cX1_takes 47 = .ok (.iload 5, 2) := dk_21 5 (dk_at dksX1_takes_2 0 rfl rfl)
theorem dX1_takes_49 : decode cX1_takes 49 = .ok (.isub, 1) := dk_100 (dk_at dksX1_takes_2 2 rfl rfl)
theorem dX1_takes_50 : decode cX1_takes 50 = .ok (.iastore, 1) := dk_79 (dk_at dksX1_takes_2 3 rfl rfl)
theorem dX1_takes_51 : decode cX1_takes 51 = .ok (.iload 4, 2) := dk_21 4 (dk_at dksX1_takes_2 4 rfl rfl)
theorem dX1_takes_53 : decode cX1_takes 53 = .ok (.iload 5, 2) := dk_21 5 (dk_at dksX1_takes_2 6 rfl rfl)
theorem dX1_takes_55 : decode cX1_takes 55 = .ok (.iadd, 1) := dk_96 (dk_at dksX1_takes_2 8 rfl rfl)
theorem dX1_takes_56 : decode cX1_takes 56 = .ok (.istore 4, 2) := dk_54 4 (dk_at dksX1_takes_2 9 rfl rfl)
theorem dX1_takes_58 : decode cX1_takes 58 = .ok (.iload 4, 2) := dk_21 4 (dk_at dksX1_takes_2 11 rfl rfl)
theorem dX1_takes_60 : decode cX1_takes 60 = .ok (.ineg, 1) := dk_116 (dk_at dksX1_takes_2 13 rfl rfl)
theorem dX1_takes_61 : decode cX1_takes 61 = .ok (.aload_n 0, 1) := dk_42 (dk_at dksX1_takes_2 14 rfl rfl)
theorem dX1_takes_62 : decode cX1_takes 62 = .ok (.getfield 53, 3) := dk_180 0 53 (dk_at dksX1_takes_2 15 rfl rfl)
theorem dX1_takes_65 : decode cX1_takes 65 = .ok (.iload_n 1, 1) := dk_27 (dk_at dksX1_takes_2 18 rfl rfl)
theorem dX1_takes_66 : decode cX1_takes 66 = .ok (.invokevirtual 127, 3) := dk_182 0 127 (dk_at dksX1_takes_2 19 rfl rfl)
theorem dX1_takes_69 : decode cX1_takes 69 = .ok (.getfield 131, 3) := dk_180 0 131 (dk_at dksX1_takes_3 0 rfl rfl)
theorem dX1_takes_72 : decode cX1_takes 72 = .ok (.aload_n 0, 1) := dk_42 (dk_at dksX1_takes_3 3 rfl rfl)
theorem dX1_takes_73 : decode cX1_takes 73 = .ok (.getfield 15, 3) := dk_180 0 15 (dk_at dksX1_takes_3 4 rfl rfl)
theorem dX1_takes_76 : decode cX1_takes 76 = .ok (.iload_n 1, 1) := dk_27 (dk_at dksX1_takes_3 7 rfl rfl)
theorem dX1_takes_77 : decode cX1_takes 77 = .ok (.iaload, 1) := dk_46 (dk_at dksX1_takes_3 8 rfl rfl)
theorem dX1_takes_78 : decode cX1_takes 78 = .ok (.isub, 1) := dk_100 (dk_at dksX1_takes_3 9 rfl rfl)
theorem dX1_takes_79 : decode cX1_takes 79 = .ok (.invokestatic 153, 3) := dk_184 0 153 (dk_at dksX1_takes_3 10 rfl rfl)
theorem dX1_takes_82 : decode cX1_takes 82 = .ok (.istore 6, 2) := dk_54 6 (dk_at dksX1_takes_3 13 rfl rfl)
theorem dX1_takes_84 : decode cX1_takes 84 = .ok (.aload_n 0, 1) := dk_42 (dk_at dksX1_takes_3 15 rfl rfl)
theorem dX1_takes_85 : decode cX1_takes 85 = .ok (.getfield 15, 3) := dk_180 0 15 (dk_at dksX1_takes_3 16 rfl rfl)
theorem dX1_takes_88 : decode cX1_takes 88 = .ok (.iload_n 1, 1) := dk_27 (dk_at dksX1_takes_3 19 rfl rfl)
theorem dX1_takes_89 : decode cX1_takes 89 = .ok (.dup2, 1) := dk_92 (dk_at dksX1_takes_3 20 rfl rfl)
theorem dX1_takes_90 : decode cX1_takes 90 = .ok (.iaload, 1) := dk_46 (dk_at dksX1_takes_3 21 rfl rfl)
theorem dX1_takes_91 : decode cX1_takes 91 = .ok (.iload 6, 2) := dk_21 6 (dk_at dksX1_takes_3 22 rfl rfl)
theorem dX1_takes_93 : decode cX1_takes 93 = .ok (.iadd, 1) := dk_96 (dk_at dksX1_takes_4 0 rfl rfl)
theorem dX1_takes_94 : decode cX1_takes 94 = .ok (.iastore, 1) := dk_79 (dk_at dksX1_takes_4 1 rfl rfl)
theorem dX1_takes_95 : decode cX1_takes 95 = .ok (.iload 4, 2) := dk_21 4 (dk_at dksX1_takes_4 2 rfl rfl)
theorem dX1_takes_97 : decode cX1_takes 97 = .ok (.iload 6, 2) := dk_21 6 (dk_at dksX1_takes_4 4 rfl rfl)
theorem dX1_takes_99 : decode cX1_takes 99 = .ok (.iadd, 1) := dk_96 (dk_at dksX1_takes_4 6 rfl rfl)
theorem dX1_takes_100 : decode cX1_takes 100 = .ok (.istore 4, 2) := dk_54 4 (dk_at dksX1_takes_4 7 rfl rfl)
theorem dX1_takes_102 : decode cX1_takes 102 = .ok (.goto 71, 3) := dk_167 0 71 (dk_at dksX1_takes_4 9 rfl rfl)
theorem dX1_takes_105 : decode cX1_takes 105 = .ok (.iload 4, 2) := dk_21 4 (dk_at dksX1_takes_4 12 rfl rfl)
theorem dX1_takes_107 : decode cX1_takes 107 = .ok (.iconst 0, 1) := dk_3 (dk_at dksX1_takes_4 14 rfl rfl)
theorem dX1_takes_108 : decode cX1_takes 108 = .ok (.iload_n 3, 1) := dk_29 (dk_at dksX1_takes_4 15 rfl rfl)
theorem dX1_takes_109 : decode cX1_takes 109 = .ok (.aload_n 0, 1) := dk_42 (dk_at dksX1_takes_4 16 rfl rfl)
theorem dX1_takes_110 : decode cX1_takes 110 = .ok (.getfield 9, 3) := dk_180 0 9 (dk_at dksX1_takes_4 17 rfl rfl)
theorem dX1_takes_113 : decode cX1_takes 113 = .ok (.iload_n 1, 1) := dk_27 (dk_at dksX1_takes_4 20 rfl rfl)
theorem dX1_takes_114 : decode cX1_takes 114 = .ok (.iaload, 1) := dk_46 (dk_at dksX1_takes_4 21 rfl rfl)
theorem dX1_takes_115 : decode cX1_takes 115 = .ok (.isub, 1) := dk_100 (dk_at dksX1_takes_4 22 rfl rfl)
theorem dX1_takes_116 : decode cX1_takes 116 = .ok (.invokestatic 170, 3) := dk_184 0 170 (dk_at dksX1_takes_5 0 rfl rfl)
theorem dX1_takes_119 : decode cX1_takes 119 = .ok (.invokestatic 153, 3) := dk_184 0 153 (dk_at dksX1_takes_5 3 rfl rfl)
theorem dX1_takes_122 : decode cX1_takes 122 = .ok (.istore 5, 2) := dk_54 5 (dk_at dksX1_takes_5 6 rfl rfl)
theorem dX1_takes_124 : decode cX1_takes 124 = .ok (.aload_n 0, 1) := dk_42 (dk_at dksX1_takes_5 8 rfl rfl)
theorem dX1_takes_125 : decode cX1_takes 125 = .ok (.getfield 9, 3) := dk_180 0 9 (dk_at dksX1_takes_5 9 rfl rfl)
theorem dX1_takes_128 : decode cX1_takes 128 = .ok (.iload_n 1, 1) := dk_27 (dk_at dksX1_takes_5 12 rfl rfl)
theorem dX1_takes_129 : decode cX1_takes 129 = .ok (.dup2, 1) := dk_92 (dk_at dksX1_takes_5 13 rfl rfl)
theorem dX1_takes_130 : decode cX1_takes 130 = .ok (.iaload, 1) := dk_46 (dk_at dksX1_takes_5 14 rfl rfl)
theorem dX1_takes_131 : decode cX1_takes 131 = .ok (.iload 5, 2) := dk_21 5 (dk_at dksX1_takes_5 15 rfl rfl)
theorem dX1_takes_133 : decode cX1_takes 133 = .ok (.iadd, 1) := dk_96 (dk_at dksX1_takes_5 17 rfl rfl)
theorem dX1_takes_134 : decode cX1_takes 134 = .ok (.iastore, 1) := dk_79 (dk_at dksX1_takes_5 18 rfl rfl)
theorem dX1_takes_135 : decode cX1_takes 135 = .ok (.iload 4, 2) := dk_21 4 (dk_at dksX1_takes_5 19 rfl rfl)
theorem dX1_takes_137 : decode cX1_takes 137 = .ok (.iload 5, 2) := dk_21 5 (dk_at dksX1_takes_5 21 rfl rfl)
theorem dX1_takes_139 : decode cX1_takes 139 = .ok (.isub, 1) := dk_100 (dk_at dksX1_takes_5 23 rfl rfl)
theorem dX1_takes_140 : decode cX1_takes 140 = .ok (.istore 4, 2) := dk_54 4 (dk_at dksX1_takes_6 0 rfl rfl)
theorem dX1_takes_142 : decode cX1_takes 142 = .ok (.iload 4, 2) := dk_21 4 (dk_at dksX1_takes_6 2 rfl rfl)
theorem dX1_takes_144 : decode cX1_takes 144 = .ok (.aload_n 0, 1) := dk_42 (dk_at dksX1_takes_6 4 rfl rfl)
theorem dX1_takes_145 : decode cX1_takes 145 = .ok (.getfield 15, 3) := dk_180 0 15 (dk_at dksX1_takes_6 5 rfl rfl)
theorem dX1_takes_148 : decode cX1_takes 148 = .ok (.iload_n 1, 1) := dk_27 (dk_at dksX1_takes_6 8 rfl rfl)
theorem dX1_takes_149 : decode cX1_takes 149 = .ok (.iaload, 1) := dk_46 (dk_at dksX1_takes_6 9 rfl rfl)
theorem dX1_takes_150 : decode cX1_takes 150 = .ok (.invokestatic 153, 3) := dk_184 0 153 (dk_at dksX1_takes_6 10 rfl rfl)
theorem dX1_takes_153 : decode cX1_takes 153 = .ok (.istore 6, 2) := dk_54 6 (dk_at dksX1_takes_6 13 rfl rfl)
theorem dX1_takes_155 : decode cX1_takes 155 = .ok (.aload_n 0, 1) := dk_42 (dk_at dksX1_takes_6 15 rfl rfl)
theorem dX1_takes_156 : decode cX1_takes 156 = .ok (.getfield 15, 3) := dk_180 0 15 (dk_at dksX1_takes_6 16 rfl rfl)
theorem dX1_takes_159 : decode cX1_takes 159 = .ok (.iload_n 1, 1) := dk_27 (dk_at dksX1_takes_6 19 rfl rfl)
theorem dX1_takes_160 : decode cX1_takes 160 = .ok (.dup2, 1) := dk_92 (dk_at dksX1_takes_6 20 rfl rfl)
theorem dX1_takes_161 : decode cX1_takes 161 = .ok (.iaload, 1) := dk_46 (dk_at dksX1_takes_6 21 rfl rfl)
theorem dX1_takes_162 : decode cX1_takes 162 = .ok (.iload 6, 2) := dk_21 6 (dk_at dksX1_takes_6 22 rfl rfl)
theorem dX1_takes_164 : decode cX1_takes 164 = .ok (.isub, 1) := dk_100 (dk_at dksX1_takes_7 0 rfl rfl)
theorem dX1_takes_165 : decode cX1_takes 165 = .ok (.iastore, 1) := dk_79 (dk_at dksX1_takes_7 1 rfl rfl)
theorem dX1_takes_166 : decode cX1_takes 166 = .ok (.iload 4, 2) := dk_21 4 (dk_at dksX1_takes_7 2 rfl rfl)
theorem dX1_takes_168 : decode cX1_takes 168 = .ok (.iload 6, 2) := dk_21 6 (dk_at dksX1_takes_7 4 rfl rfl)
theorem dX1_takes_170 : decode cX1_takes 170 = .ok (.isub, 1) := dk_100 (dk_at dksX1_takes_7 6 rfl rfl)
theorem dX1_takes_171 : decode cX1_takes 171 = .ok (.istore 4, 2) := dk_54 4 (dk_at dksX1_takes_7 7 rfl rfl)
theorem dX1_takes_173 : decode cX1_takes 173 = .ok (.aload_n 0, 1) := dk_42 (dk_at dksX1_takes_7 9 rfl rfl)
theorem dX1_takes_174 : decode cX1_takes 174 = .ok (.getfield 9, 3) := dk_180 0 9 (dk_at dksX1_takes_7 10 rfl rfl)
theorem dX1_takes_177 : decode cX1_takes 177 = .ok (.iload_n 1, 1) := dk_27 (dk_at dksX1_takes_7 13 rfl rfl)
theorem dX1_takes_178 : decode cX1_takes 178 = .ok (.dup2, 1) := dk_92 (dk_at dksX1_takes_7 14 rfl rfl)
theorem dX1_takes_179 : decode cX1_takes 179 = .ok (.iaload, 1) := dk_46 (dk_at dksX1_takes_7 15 rfl rfl)
theorem dX1_takes_180 : decode cX1_takes 180 = .ok (.iload 4, 2) := dk_21 4 (dk_at dksX1_takes_7 16 rfl rfl)
theorem dX1_takes_182 : decode cX1_takes 182 = .ok (.iadd, 1) := dk_96 (dk_at dksX1_takes_7 18 rfl rfl)
theorem dX1_takes_183 : decode cX1_takes 183 = .ok (.iastore, 1) := dk_79 (dk_at dksX1_takes_7 19 rfl rfl)
theorem dX1_takes_184 : decode cX1_takes 184 = .ok (.return_, 1) := dk_177 (dk_at dksX1_takes_7 20 rfl rfl)
abbrev cX1_lift : ByteArray := prog_4_method_14_code
def yX1_lift : MethodName := ⟨RX1, "lift", "(I)I"⟩
def dkwX1_lift_1 : List UInt8 := [167, 0, 12, 42, 180, 0, 15, 29, 46, 16, 10, 108, 96, 61, 132, 3, 12, 167, 255, 221, 28, 172]
abbrev dktX1_lift_1 : List UInt8 := dkwX1_lift_1 ++ []
def dkwX1_lift_0 : List UInt8 := [3, 61, 27, 62, 29, 17, 0, 144, 162, 0, 34, 28, 42, 180, 0, 21, 29, 51, 153, 0, 7, 3]
abbrev dktX1_lift_0 : List UInt8 := dkwX1_lift_0 ++ dktX1_lift_1
theorem dksX1_lift_0 : cX1_lift.data.toList.drop 0 = dktX1_lift_0 := by decide +kernel
theorem dksX1_lift_1 : cX1_lift.data.toList.drop 22 = dktX1_lift_1 := dk_seg dksX1_lift_0 22 rfl rfl
theorem dX1_lift_0 : decode cX1_lift 0 = .ok (.iconst 0, 1) := dk_3 (dk_at dksX1_lift_0 0 rfl rfl)
theorem dX1_lift_1 : decode cX1_lift 1 = .ok (.istore_n 2, 1) := dk_61 (dk_at dksX1_lift_0 1 rfl rfl)
theorem dX1_lift_2 : decode cX1_lift 2 = .ok (.iload_n 1, 1) := dk_27 (dk_at dksX1_lift_0 2 rfl rfl)
theorem dX1_lift_3 : decode cX1_lift 3 = .ok (.istore_n 3, 1) := dk_62 (dk_at dksX1_lift_0 3 rfl rfl)
theorem dX1_lift_4 : decode cX1_lift 4 = .ok (.iload_n 3, 1) := dk_29 (dk_at dksX1_lift_0 4 rfl rfl)
theorem dX1_lift_5 : decode cX1_lift 5 = .ok (.sipush 144, 3) := dk_17 0 144 (dk_at dksX1_lift_0 5 rfl rfl)
theorem dX1_lift_8 : decode cX1_lift 8 = .ok (.if_icmp .ge 34, 3) := dk_162 0 34 (dk_at dksX1_lift_0 8 rfl rfl)
theorem dX1_lift_11 : decode cX1_lift 11 = .ok (.iload_n 2, 1) := dk_28 (dk_at dksX1_lift_0 11 rfl rfl)
theorem dX1_lift_12 : decode cX1_lift 12 = .ok (.aload_n 0, 1) := dk_42 (dk_at dksX1_lift_0 12 rfl rfl)
theorem dX1_lift_13 : decode cX1_lift 13 = .ok (.getfield 21, 3) := dk_180 0 21 (dk_at dksX1_lift_0 13 rfl rfl)
theorem dX1_lift_16 : decode cX1_lift 16 = .ok (.iload_n 3, 1) := dk_29 (dk_at dksX1_lift_0 16 rfl rfl)
theorem dX1_lift_17 : decode cX1_lift 17 = .ok (.baload, 1) := dk_51 (dk_at dksX1_lift_0 17 rfl rfl)
theorem dX1_lift_18 : decode cX1_lift 18 = .ok (.ifCond .eq 7, 3) := dk_153 0 7 (dk_at dksX1_lift_0 18 rfl rfl)
theorem dX1_lift_21 : decode cX1_lift 21 = .ok (.iconst 0, 1) := dk_3 (dk_at dksX1_lift_0 21 rfl rfl)
theorem dX1_lift_22 : decode cX1_lift 22 = .ok (.goto 12, 3) := dk_167 0 12 (dk_at dksX1_lift_1 0 rfl rfl)
theorem dX1_lift_25 : decode cX1_lift 25 = .ok (.aload_n 0, 1) := dk_42 (dk_at dksX1_lift_1 3 rfl rfl)
theorem dX1_lift_26 : decode cX1_lift 26 = .ok (.getfield 15, 3) := dk_180 0 15 (dk_at dksX1_lift_1 4 rfl rfl)
theorem dX1_lift_29 : decode cX1_lift 29 = .ok (.iload_n 3, 1) := dk_29 (dk_at dksX1_lift_1 7 rfl rfl)
theorem dX1_lift_30 : decode cX1_lift 30 = .ok (.iaload, 1) := dk_46 (dk_at dksX1_lift_1 8 rfl rfl)
theorem dX1_lift_31 : decode cX1_lift 31 = .ok (.bipush 10, 2) := dk_16 10 (dk_at dksX1_lift_1 9 rfl rfl)
theorem dX1_lift_33 : decode cX1_lift 33 = .ok (.idiv, 1) := dk_108 (dk_at dksX1_lift_1 11 rfl rfl)
theorem dX1_lift_34 : decode cX1_lift 34 = .ok (.iadd, 1) := dk_96 (dk_at dksX1_lift_1 12 rfl rfl)
theorem dX1_lift_35 : decode cX1_lift 35 = .ok (.istore_n 2, 1) := dk_61 (dk_at dksX1_lift_1 13 rfl rfl)
theorem dX1_lift_36 : decode cX1_lift 36 = .ok (.iinc 3 12, 3) := dk_132 3 12 (dk_at dksX1_lift_1 14 rfl rfl)
theorem dX1_lift_39 : decode cX1_lift 39 = .ok (.goto (-35), 3) := dk_167 255 221 (dk_at dksX1_lift_1 17 rfl rfl)
theorem dX1_lift_42 : decode cX1_lift 42 = .ok (.iload_n 2, 1) := dk_28 (dk_at dksX1_lift_1 20 rfl rfl)
theorem dX1_lift_43 : decode cX1_lift 43 = .ok (.ireturn, 1) := dk_172 (dk_at dksX1_lift_1 21 rfl rfl)
abbrev cX1_isOpenDug : ByteArray := prog_4_method_13_code
def yX1_isOpenDug : MethodName := ⟨RX1, "isOpenDug", "()Z"⟩
def dkwX1_isOpenDug_2 : List UInt8 := [167, 0, 4, 3, 172]
abbrev dktX1_isOpenDug_2 : List UInt8 := dkwX1_isOpenDug_2 ++ []
def dkwX1_isOpenDug_1 : List UInt8 := [4, 167, 0, 4, 3, 60, 132, 2, 1, 167, 255, 227, 27, 153, 0, 14, 42, 182, 0, 219, 154, 0, 7, 4]
abbrev dktX1_isOpenDug_1 : List UInt8 := dkwX1_isOpenDug_1 ++ dktX1_isOpenDug_2
def dkwX1_isOpenDug_0 : List UInt8 := [3, 60, 3, 61, 28, 17, 0, 144, 162, 0, 28, 27, 154, 0, 12, 42, 180, 0, 21, 28, 51, 153, 0, 7]
abbrev dktX1_isOpenDug_0 : List UInt8 := dkwX1_isOpenDug_0 ++ dktX1_isOpenDug_1
theorem dksX1_isOpenDug_0 : cX1_isOpenDug.data.toList.drop 0 = dktX1_isOpenDug_0 := by decide +kernel
theorem dksX1_isOpenDug_1 : cX1_isOpenDug.data.toList.drop 24 = dktX1_isOpenDug_1 := dk_seg dksX1_isOpenDug_0 24 rfl rfl
theorem dksX1_isOpenDug_2 : cX1_isOpenDug.data.toList.drop 48 = dktX1_isOpenDug_2 := dk_seg dksX1_isOpenDug_1 24 rfl rfl
theorem dX1_isOpenDug_0 : decode cX1_isOpenDug 0 = .ok (.iconst 0, 1) := dk_3 (dk_at dksX1_isOpenDug_0 0 rfl rfl)
theorem dX1_isOpenDug_1 : decode cX1_isOpenDug 1 = .ok (.istore_n 1, 1) := dk_60 (dk_at dksX1_isOpenDug_0 1 rfl rfl)
theorem dX1_isOpenDug_2 : decode cX1_isOpenDug 2 = .ok (.iconst 0, 1) := dk_3 (dk_at dksX1_isOpenDug_0 2 rfl rfl)
theorem dX1_isOpenDug_3 : decode cX1_isOpenDug 3 = .ok (.istore_n 2, 1) := dk_61 (dk_at dksX1_isOpenDug_0 3 rfl rfl)
theorem dX1_isOpenDug_4 : decode cX1_isOpenDug 4 = .ok (.iload_n 2, 1) := dk_28 (dk_at dksX1_isOpenDug_0 4 rfl rfl)
theorem dX1_isOpenDug_5 : decode cX1_isOpenDug 5 = .ok (.sipush 144, 3) := dk_17 0 144 (dk_at dksX1_isOpenDug_0 5 rfl rfl)
theorem dX1_isOpenDug_8 : decode cX1_isOpenDug 8 = .ok (.if_icmp .ge 28, 3) := dk_162 0 28 (dk_at dksX1_isOpenDug_0 8 rfl rfl)
theorem dX1_isOpenDug_11 : decode cX1_isOpenDug 11 = .ok (.iload_n 1, 1) := dk_27 (dk_at dksX1_isOpenDug_0 11 rfl rfl)
theorem dX1_isOpenDug_12 : decode cX1_isOpenDug 12 = .ok (.ifCond .ne 12, 3) := dk_154 0 12 (dk_at dksX1_isOpenDug_0 12 rfl rfl)
theorem dX1_isOpenDug_15 : decode cX1_isOpenDug 15 = .ok (.aload_n 0, 1) := dk_42 (dk_at dksX1_isOpenDug_0 15 rfl rfl)
theorem dX1_isOpenDug_16 : decode cX1_isOpenDug 16 = .ok (.getfield 21, 3) := dk_180 0 21 (dk_at dksX1_isOpenDug_0 16 rfl rfl)
theorem dX1_isOpenDug_19 : decode cX1_isOpenDug 19 = .ok (.iload_n 2, 1) := dk_28 (dk_at dksX1_isOpenDug_0 19 rfl rfl)
theorem dX1_isOpenDug_20 : decode cX1_isOpenDug 20 = .ok (.baload, 1) := dk_51 (dk_at dksX1_isOpenDug_0 20 rfl rfl)
theorem dX1_isOpenDug_21 : decode cX1_isOpenDug 21 = .ok (.ifCond .eq 7, 3) := dk_153 0 7 (dk_at dksX1_isOpenDug_0 21 rfl rfl)
theorem dX1_isOpenDug_24 : decode cX1_isOpenDug 24 = .ok (.iconst 1, 1) := dk_4 (dk_at dksX1_isOpenDug_1 0 rfl rfl)
theorem dX1_isOpenDug_25 : decode cX1_isOpenDug 25 = .ok (.goto 4, 3) := dk_167 0 4 (dk_at dksX1_isOpenDug_1 1 rfl rfl)
theorem dX1_isOpenDug_28 : decode cX1_isOpenDug 28 = .ok (.iconst 0, 1) := dk_3 (dk_at dksX1_isOpenDug_1 4 rfl rfl)
theorem dX1_isOpenDug_29 : decode cX1_isOpenDug 29 = .ok (.istore_n 1, 1) := dk_60 (dk_at dksX1_isOpenDug_1 5 rfl rfl)
theorem dX1_isOpenDug_30 : decode cX1_isOpenDug 30 = .ok (.iinc 2 1, 3) := dk_132 2 1 (dk_at dksX1_isOpenDug_1 6 rfl rfl)
theorem dX1_isOpenDug_33 : decode cX1_isOpenDug 33 = .ok (.goto (-29), 3) := dk_167 255 227 (dk_at dksX1_isOpenDug_1 9 rfl rfl)
theorem dX1_isOpenDug_36 : decode cX1_isOpenDug 36 = .ok (.iload_n 1, 1) := dk_27 (dk_at dksX1_isOpenDug_1 12 rfl rfl)
theorem dX1_isOpenDug_37 : decode cX1_isOpenDug 37 = .ok (.ifCond .eq 14, 3) := dk_153 0 14 (dk_at dksX1_isOpenDug_1 13 rfl rfl)
theorem dX1_isOpenDug_40 : decode cX1_isOpenDug 40 = .ok (.aload_n 0, 1) := dk_42 (dk_at dksX1_isOpenDug_1 16 rfl rfl)
theorem dX1_isOpenDug_41 : decode cX1_isOpenDug 41 = .ok (.invokevirtual 219, 3) := dk_182 0 219 (dk_at dksX1_isOpenDug_1 17 rfl rfl)
theorem dX1_isOpenDug_44 : decode cX1_isOpenDug 44 = .ok (.ifCond .ne 7, 3) := dk_154 0 7 (dk_at dksX1_isOpenDug_1 20 rfl rfl)
theorem dX1_isOpenDug_47 : decode cX1_isOpenDug 47 = .ok (.iconst 1, 1) := dk_4 (dk_at dksX1_isOpenDug_1 23 rfl rfl)
theorem dX1_isOpenDug_48 : decode cX1_isOpenDug 48 = .ok (.goto 4, 3) := dk_167 0 4 (dk_at dksX1_isOpenDug_2 0 rfl rfl)
theorem dX1_isOpenDug_51 : decode cX1_isOpenDug 51 = .ok (.iconst 0, 1) := dk_3 (dk_at dksX1_isOpenDug_2 3 rfl rfl)
theorem dX1_isOpenDug_52 : decode cX1_isOpenDug 52 = .ok (.ireturn, 1) := dk_172 (dk_at dksX1_isOpenDug_2 4 rfl rfl)
abbrev cX1_isShut : ByteArray := prog_4_method_17_code
def yX1_isShut : MethodName := ⟨RX1, "isShut", "()Z"⟩
def dkwX1_isShut_0 : List UInt8 := [42, 182, 0, 231, 2, 160, 0, 7, 4, 167, 0, 4, 3, 172]
abbrev dktX1_isShut_0 : List UInt8 := dkwX1_isShut_0 ++ []
theorem dksX1_isShut_0 : cX1_isShut.data.toList.drop 0 = dktX1_isShut_0 := by decide +kernel
theorem dX1_isShut_0 : decode cX1_isShut 0 = .ok (.aload_n 0, 1) := dk_42 (dk_at dksX1_isShut_0 0 rfl rfl)
theorem dX1_isShut_1 : decode cX1_isShut 1 = .ok (.invokevirtual 231, 3) := dk_182 0 231 (dk_at dksX1_isShut_0 1 rfl rfl)
theorem dX1_isShut_4 : decode cX1_isShut 4 = .ok (.iconst (-1), 1) := dk_2 (dk_at dksX1_isShut_0 4 rfl rfl)
theorem dX1_isShut_5 : decode cX1_isShut 5 = .ok (.if_icmp .ne 7, 3) := dk_160 0 7 (dk_at dksX1_isShut_0 5 rfl rfl)
theorem dX1_isShut_8 : decode cX1_isShut 8 = .ok (.iconst 1, 1) := dk_4 (dk_at dksX1_isShut_0 8 rfl rfl)
theorem dX1_isShut_9 : decode cX1_isShut 9 = .ok (.goto 4, 3) := dk_167 0 4 (dk_at dksX1_isShut_0 9 rfl rfl)
theorem dX1_isShut_12 : decode cX1_isShut 12 = .ok (.iconst 0, 1) := dk_3 (dk_at dksX1_isShut_0 12 rfl rfl)
theorem dX1_isShut_13 : decode cX1_isShut 13 = .ok (.ireturn, 1) := dk_172 (dk_at dksX1_isShut_0 13 rfl rfl)
abbrev cX1_way : ByteArray := prog_4_method_16_code
def yX1_way : MethodName := ⟨RX1, "way", "()I"⟩
def dkwX1_way_8 : List UInt8 := [132, 2, 1, 132, 4, 1, 167, 255, 172, 167, 255, 137, 2, 172]
abbrev dktX1_way_8 : List UInt8 := dkwX1_way_8 ++ []
def dkwX1_way_7 : List UInt8 := [180, 0, 43, 21, 5, 42, 180, 0, 43, 29, 46, 4, 96, 79, 42, 180, 0, 46, 28, 21, 5, 79]
abbrev dktX1_way_7 : List UInt8 := dkwX1_way_7 ++ dktX1_way_8
def dkwX1_way_6 : List UInt8 := [180, 0, 53, 21, 5, 182, 0, 222, 154, 0, 41, 42, 21, 5, 182, 0, 136, 153, 0, 6, 167, 0, 29, 42]
abbrev dktX1_way_6 : List UInt8 := dkwX1_way_6 ++ dktX1_way_7
def dkwX1_way_5 : List UInt8 := [184, 0, 145, 54, 5, 21, 5, 2, 159, 0, 64, 42, 180, 0, 43, 21, 5, 46, 2, 160, 0, 53, 42]
abbrev dktX1_way_5 : List UInt8 := dkwX1_way_5 ++ dktX1_way_6
def dkwX1_way_4 : List UInt8 := [153, 0, 10, 42, 180, 0, 43, 29, 46, 172, 3, 54, 4, 21, 4, 7, 162, 0, 84, 29, 21, 4]
abbrev dktX1_way_4 : List UInt8 := dkwX1_way_4 ++ dktX1_way_5
def dkwX1_way_3 : List UInt8 := [167, 255, 192, 27, 28, 162, 0, 120, 42, 180, 0, 46, 27, 46, 62, 132, 1, 1, 29, 184, 0, 228]
abbrev dktX1_way_3 : List UInt8 := dkwX1_way_3 ++ dktX1_way_4
def dkwX1_way_2 : List UInt8 := [167, 0, 20, 42, 180, 0, 43, 29, 4, 79, 42, 180, 0, 46, 28, 29, 79, 132, 2, 1, 132, 3, 1]
abbrev dktX1_way_2 : List UInt8 := dkwX1_way_2 ++ dktX1_way_3
def dkwX1_way_1 : List UInt8 := [29, 182, 0, 222, 154, 0, 39, 42, 29, 182, 0, 136, 154, 0, 31, 42, 29, 182, 0, 225, 154, 0, 6]
abbrev dktX1_way_1 : List UInt8 := dkwX1_way_1 ++ dktX1_way_2
def dkwX1_way_0 : List UInt8 := [3, 60, 3, 61, 3, 62, 29, 17, 0, 144, 162, 0, 63, 42, 180, 0, 43, 29, 2, 79, 42, 180, 0, 53]
abbrev dktX1_way_0 : List UInt8 := dkwX1_way_0 ++ dktX1_way_1
theorem dksX1_way_0 : cX1_way.data.toList.drop 0 = dktX1_way_0 := by decide +kernel
theorem dksX1_way_1 : cX1_way.data.toList.drop 24 = dktX1_way_1 := dk_seg dksX1_way_0 24 rfl rfl
theorem dksX1_way_2 : cX1_way.data.toList.drop 47 = dktX1_way_2 := dk_seg dksX1_way_1 23 rfl rfl
theorem dksX1_way_3 : cX1_way.data.toList.drop 70 = dktX1_way_3 := dk_seg dksX1_way_2 23 rfl rfl
theorem dksX1_way_4 : cX1_way.data.toList.drop 92 = dktX1_way_4 := dk_seg dksX1_way_3 22 rfl rfl
theorem dksX1_way_5 : cX1_way.data.toList.drop 114 = dktX1_way_5 := dk_seg dksX1_way_4 22 rfl rfl
theorem dksX1_way_6 : cX1_way.data.toList.drop 137 = dktX1_way_6 := dk_seg dksX1_way_5 23 rfl rfl
theorem dksX1_way_7 : cX1_way.data.toList.drop 161 = dktX1_way_7 := dk_seg dksX1_way_6 24 rfl rfl
theorem dksX1_way_8 : cX1_way.data.toList.drop 183 = dktX1_way_8 := dk_seg dksX1_way_7 22 rfl rfl
theorem dX1_way_0 : decode cX1_way 0 = .ok (.iconst 0, 1) := dk_3 (dk_at dksX1_way_0 0 rfl rfl)
theorem dX1_way_1 : decode cX1_way 1 = .ok (.istore_n 1, 1) := dk_60 (dk_at dksX1_way_0 1 rfl rfl)
theorem dX1_way_2 : decode cX1_way 2 = .ok (.iconst 0, 1) := dk_3 (dk_at dksX1_way_0 2 rfl rfl)
theorem dX1_way_3 : decode cX1_way 3 = .ok (.istore_n 2, 1) := dk_61 (dk_at dksX1_way_0 3 rfl rfl)
theorem dX1_way_4 : decode cX1_way 4 = .ok (.iconst 0, 1) := dk_3 (dk_at dksX1_way_0 4 rfl rfl)
theorem dX1_way_5 : decode cX1_way 5 = .ok (.istore_n 3, 1) := dk_62 (dk_at dksX1_way_0 5 rfl rfl)
theorem dX1_way_6 : decode cX1_way 6 = .ok (.iload_n 3, 1) := dk_29 (dk_at dksX1_way_0 6 rfl rfl)
theorem dX1_way_7 : decode cX1_way 7 = .ok (.sipush 144, 3) := dk_17 0 144 (dk_at dksX1_way_0 7 rfl rfl)
theorem dX1_way_10 : decode cX1_way 10 = .ok (.if_icmp .ge 63, 3) := dk_162 0 63 (dk_at dksX1_way_0 10 rfl rfl)
theorem dX1_way_13 : decode cX1_way 13 = .ok (.aload_n 0, 1) := dk_42 (dk_at dksX1_way_0 13 rfl rfl)
theorem dX1_way_14 : decode cX1_way 14 = .ok (.getfield 43, 3) := dk_180 0 43 (dk_at dksX1_way_0 14 rfl rfl)
theorem dX1_way_17 : decode cX1_way 17 = .ok (.iload_n 3, 1) := dk_29 (dk_at dksX1_way_0 17 rfl rfl)
theorem dX1_way_18 : decode cX1_way 18 = .ok (.iconst (-1), 1) := dk_2 (dk_at dksX1_way_0 18 rfl rfl)
theorem dX1_way_19 : decode cX1_way 19 = .ok (.iastore, 1) := dk_79 (dk_at dksX1_way_0 19 rfl rfl)
theorem dX1_way_20 : decode cX1_way 20 = .ok (.aload_n 0, 1) := dk_42 (dk_at dksX1_way_0 20 rfl rfl)
theorem dX1_way_21 : decode cX1_way 21 = .ok (.getfield 53, 3) := dk_180 0 53 (dk_at dksX1_way_0 21 rfl rfl)
theorem dX1_way_24 : decode cX1_way 24 = .ok (.iload_n 3, 1) := dk_29 (dk_at dksX1_way_1 0 rfl rfl)
theorem dX1_way_25 : decode cX1_way 25 = .ok (.invokevirtual 222, 3) := dk_182 0 222 (dk_at dksX1_way_1 1 rfl rfl)
theorem dX1_way_28 : decode cX1_way 28 = .ok (.ifCond .ne 39, 3) := dk_154 0 39 (dk_at dksX1_way_1 4 rfl rfl)
theorem dX1_way_31 : decode cX1_way 31 = .ok (.aload_n 0, 1) := dk_42 (dk_at dksX1_way_1 7 rfl rfl)
theorem dX1_way_32 : decode cX1_way 32 = .ok (.iload_n 3, 1) := dk_29 (dk_at dksX1_way_1 8 rfl rfl)
theorem dX1_way_33 : decode cX1_way 33 = .ok (.invokevirtual 136, 3) := dk_182 0 136 (dk_at dksX1_way_1 9 rfl rfl)
theorem dX1_way_36 : decode cX1_way 36 = .ok (.ifCond .ne 31, 3) := dk_154 0 31 (dk_at dksX1_way_1 12 rfl rfl)
theorem dX1_way_39 : decode cX1_way 39 = .ok (.aload_n 0, 1) := dk_42 (dk_at dksX1_way_1 15 rfl rfl)
theorem dX1_way_40 : decode cX1_way 40 = .ok (.iload_n 3, 1) := dk_29 (dk_at dksX1_way_1 16 rfl rfl)
theorem dX1_way_41 : decode cX1_way 41 = .ok (.invokevirtual 225, 3) := dk_182 0 225 (dk_at dksX1_way_1 17 rfl rfl)
theorem dX1_way_44 : decode cX1_way 44 = .ok (.ifCond .ne 6, 3) := dk_154 0 6 (dk_at dksX1_way_1 20 rfl rfl)
theorem dX1_way_47 : decode cX1_way 47 = .ok (.goto 20, 3) := dk_167 0 20 (dk_at dksX1_way_2 0 rfl rfl)
theorem dX1_way_50 : decode cX1_way 50 = .ok (.aload_n 0, 1) := dk_42 (dk_at dksX1_way_2 3 rfl rfl)
theorem dX1_way_51 : decode cX1_way 51 = .ok (.getfield 43, 3) := dk_180 0 43 (dk_at dksX1_way_2 4 rfl rfl)
theorem dX1_way_54 : decode cX1_way 54 = .ok (.iload_n 3, 1) := dk_29 (dk_at dksX1_way_2 7 rfl rfl)
theorem dX1_way_55 : decode cX1_way 55 = .ok (.iconst 1, 1) := dk_4 (dk_at dksX1_way_2 8 rfl rfl)
theorem dX1_way_56 : decode cX1_way 56 = .ok (.iastore, 1) := dk_79 (dk_at dksX1_way_2 9 rfl rfl)
theorem dX1_way_57 : decode cX1_way 57 = .ok (.aload_n 0, 1) := dk_42 (dk_at dksX1_way_2 10 rfl rfl)
theorem dX1_way_58 : decode cX1_way 58 = .ok (.getfield 46, 3) := dk_180 0 46 (dk_at dksX1_way_2 11 rfl rfl)
theorem dX1_way_61 : decode cX1_way 61 = .ok (.iload_n 2, 1) := dk_28 (dk_at dksX1_way_2 14 rfl rfl)
theorem dX1_way_62 : decode cX1_way 62 = .ok (.iload_n 3, 1) := dk_29 (dk_at dksX1_way_2 15 rfl rfl)
theorem dX1_way_63 : decode cX1_way 63 = .ok (.iastore, 1) := dk_79 (dk_at dksX1_way_2 16 rfl rfl)
theorem dX1_way_64 : decode cX1_way 64 = .ok (.iinc 2 1, 3) := dk_132 2 1 (dk_at dksX1_way_2 17 rfl rfl)
theorem dX1_way_67 : decode cX1_way 67 = .ok (.iinc 3 1, 3) := dk_132 3 1 (dk_at dksX1_way_2 20 rfl rfl)
theorem dX1_way_70 : decode cX1_way 70 = .ok (.goto (-64), 3) := dk_167 255 192 (dk_at dksX1_way_3 0 rfl rfl)
theorem dX1_way_73 : decode cX1_way 73 = .ok (.iload_n 1, 1) := dk_27 (dk_at dksX1_way_3 3 rfl rfl)
theorem dX1_way_74 : decode cX1_way 74 = .ok (.iload_n 2, 1) := dk_28 (dk_at dksX1_way_3 4 rfl rfl)
theorem dX1_way_75 : decode cX1_way 75 = .ok (.if_icmp .ge 120, 3) := dk_162 0 120 (dk_at dksX1_way_3 5 rfl rfl)
theorem dX1_way_78 : decode cX1_way 78 = .ok (.aload_n 0, 1) := dk_42 (dk_at dksX1_way_3 8 rfl rfl)
theorem dX1_way_79 : decode cX1_way 79 = .ok (.getfield 46, 3) := dk_180 0 46 (dk_at dksX1_way_3 9 rfl rfl)
theorem dX1_way_82 : decode cX1_way 82 = .ok (.iload_n 1, 1) := dk_27 (dk_at dksX1_way_3 12 rfl rfl)
theorem dX1_way_83 : decode cX1_way 83 = .ok (.iaload, 1) := dk_46 (dk_at dksX1_way_3 13 rfl rfl)
theorem dX1_way_84 : decode cX1_way 84 = .ok (.istore_n 3, 1) := dk_62 (dk_at dksX1_way_3 14 rfl rfl)
theorem dX1_way_85 : decode cX1_way 85 = .ok (.iinc 1 1, 3) := dk_132 1 1 (dk_at dksX1_way_3 15 rfl rfl)
theorem dX1_way_88 : decode cX1_way 88 = .ok (.iload_n 3, 1) := dk_29 (dk_at dksX1_way_3 18 rfl rfl)
theorem dX1_way_89 : decode cX1_way 89 = .ok (.invokestatic 228, 3) := dk_184 0 228 (dk_at dksX1_way_3 19 rfl rfl)
theorem dX1_way_92 : decode cX1_way 92 = .ok (.ifCond .eq 10, 3) := dk_153 0 10 (dk_at dksX1_way_4 0 rfl rfl)
theorem dX1_way_95 : decode cX1_way 95 = .ok (.aload_n 0, 1) := dk_42 (dk_at dksX1_way_4 3 rfl rfl)
theorem dX1_way_96 : decode cX1_way 96 = .ok (.getfield 43, 3) := dk_180 0 43 (dk_at dksX1_way_4 4 rfl rfl)
theorem dX1_way_99 : decode cX1_way 99 = .ok (.iload_n 3, 1) := dk_29 (dk_at dksX1_way_4 7 rfl rfl)
theorem dX1_way_100 : decode cX1_way 100 = .ok (.iaload, 1) := dk_46 (dk_at dksX1_way_4 8 rfl rfl)
theorem dX1_way_101 : decode cX1_way 101 = .ok (.ireturn, 1) := dk_172 (dk_at dksX1_way_4 9 rfl rfl)
theorem dX1_way_102 : decode cX1_way 102 = .ok (.iconst 0, 1) := dk_3 (dk_at dksX1_way_4 10 rfl rfl)
theorem dX1_way_103 : decode cX1_way 103 = .ok (.istore 4, 2) := dk_54 4 (dk_at dksX1_way_4 11 rfl rfl)
theorem dX1_way_105 : decode cX1_way 105 = .ok (.iload 4, 2) := dk_21 4 (dk_at dksX1_way_4 13 rfl rfl)
theorem dX1_way_107 : decode cX1_way 107 = .ok (.iconst 4, 1) := dk_7 (dk_at dksX1_way_4 15 rfl rfl)
theorem dX1_way_108 : decode cX1_way 108 = .ok (.if_icmp .ge 84, 3) := dk_162 0 84 (dk_at dksX1_way_4 16 rfl rfl)
theorem dX1_way_111 : decode cX1_way 111 = .ok (.iload_n 3, 1) := dk_29 (dk_at dksX1_way_4 19 rfl rfl)
theorem dX1_way_112 : decode cX1_way 112 = .ok (.iload 4, 2) := dk_21 4 (dk_at dksX1_way_4 20 rfl rfl)
theorem dX1_way_114 : decode cX1_way 114 = .ok (.invokestatic 145, 3) := dk_184 0 145 (dk_at dksX1_way_5 0 rfl rfl)
theorem dX1_way_117 : decode cX1_way 117 = .ok (.istore 5, 2) := dk_54 5 (dk_at dksX1_way_5 3 rfl rfl)
theorem dX1_way_119 : decode cX1_way 119 = .ok (.iload 5, 2) := dk_21 5 (dk_at dksX1_way_5 5 rfl rfl)
theorem dX1_way_121 : decode cX1_way 121 = .ok (.iconst (-1), 1) := dk_2 (dk_at dksX1_way_5 7 rfl rfl)
theorem dX1_way_122 : decode cX1_way 122 = .ok (.if_icmp .eq 64, 3) := dk_159 0 64 (dk_at dksX1_way_5 8 rfl rfl)
theorem dX1_way_125 : decode cX1_way 125 = .ok (.aload_n 0, 1) := dk_42 (dk_at dksX1_way_5 11 rfl rfl)
theorem dX1_way_126 : decode cX1_way 126 = .ok (.getfield 43, 3) := dk_180 0 43 (dk_at dksX1_way_5 12 rfl rfl)
theorem dX1_way_129 : decode cX1_way 129 = .ok (.iload 5, 2) := dk_21 5 (dk_at dksX1_way_5 15 rfl rfl)
theorem dX1_way_131 : decode cX1_way 131 = .ok (.iaload, 1) := dk_46 (dk_at dksX1_way_5 17 rfl rfl)
theorem dX1_way_132 : decode cX1_way 132 = .ok (.iconst (-1), 1) := dk_2 (dk_at dksX1_way_5 18 rfl rfl)
theorem dX1_way_133 : decode cX1_way 133 = .ok (.if_icmp .ne 53, 3) := dk_160 0 53 (dk_at dksX1_way_5 19 rfl rfl)
theorem dX1_way_136 : decode cX1_way 136 = .ok (.aload_n 0, 1) := dk_42 (dk_at dksX1_way_5 22 rfl rfl)
theorem dX1_way_137 : decode cX1_way 137 = .ok (.getfield 53, 3) := dk_180 0 53 (dk_at dksX1_way_6 0 rfl rfl)
theorem dX1_way_140 : decode cX1_way 140 = .ok (.iload 5, 2) := dk_21 5 (dk_at dksX1_way_6 3 rfl rfl)
theorem dX1_way_142 : decode cX1_way 142 = .ok (.invokevirtual 222, 3) := dk_182 0 222 (dk_at dksX1_way_6 5 rfl rfl)
theorem dX1_way_145 : decode cX1_way 145 = .ok (.ifCond .ne 41, 3) := dk_154 0 41 (dk_at dksX1_way_6 8 rfl rfl)
theorem dX1_way_148 : decode cX1_way 148 = .ok (.aload_n 0, 1) := dk_42 (dk_at dksX1_way_6 11 rfl rfl)
theorem dX1_way_149 : decode cX1_way 149 = .ok (.iload 5, 2) := dk_21 5 (dk_at dksX1_way_6 12 rfl rfl)
theorem dX1_way_151 : decode cX1_way 151 = .ok (.invokevirtual 136, 3) := dk_182 0 136 (dk_at dksX1_way_6 14 rfl rfl)
theorem dX1_way_154 : decode cX1_way 154 = .ok (.ifCond .eq 6, 3) := dk_153 0 6 (dk_at dksX1_way_6 17 rfl rfl)
theorem dX1_way_157 : decode cX1_way 157 = .ok (.goto 29, 3) := dk_167 0 29 (dk_at dksX1_way_6 20 rfl rfl)
theorem dX1_way_160 : decode cX1_way 160 = .ok (.aload_n 0, 1) := dk_42 (dk_at dksX1_way_6 23 rfl rfl)
theorem dX1_way_161 : decode cX1_way 161 = .ok (.getfield 43, 3) := dk_180 0 43 (dk_at dksX1_way_7 0 rfl rfl)
theorem dX1_way_164 : decode cX1_way 164 = .ok (.iload 5, 2) := dk_21 5 (dk_at dksX1_way_7 3 rfl rfl)
theorem dX1_way_166 : decode cX1_way 166 = .ok (.aload_n 0, 1) := dk_42 (dk_at dksX1_way_7 5 rfl rfl)
theorem dX1_way_167 : decode cX1_way 167 = .ok (.getfield 43, 3) := dk_180 0 43 (dk_at dksX1_way_7 6 rfl rfl)
theorem dX1_way_170 : decode cX1_way 170 = .ok (.iload_n 3, 1) := dk_29 (dk_at dksX1_way_7 9 rfl rfl)
theorem dX1_way_171 : decode cX1_way 171 = .ok (.iaload, 1) := dk_46 (dk_at dksX1_way_7 10 rfl rfl)
theorem dX1_way_172 : decode cX1_way 172 = .ok (.iconst 1, 1) := dk_4 (dk_at dksX1_way_7 11 rfl rfl)
theorem dX1_way_173 : decode cX1_way 173 = .ok (.iadd, 1) := dk_96 (dk_at dksX1_way_7 12 rfl rfl)
theorem dX1_way_174 : decode cX1_way 174 = .ok (.iastore, 1) := dk_79 (dk_at dksX1_way_7 13 rfl rfl)
theorem dX1_way_175 : decode cX1_way 175 = .ok (.aload_n 0, 1) := dk_42 (dk_at dksX1_way_7 14 rfl rfl)
theorem dX1_way_176 : decode cX1_way 176 = .ok (.getfield 46, 3) := dk_180 0 46 (dk_at dksX1_way_7 15 rfl rfl)
theorem dX1_way_179 : decode cX1_way 179 = .ok (.iload_n 2, 1) := dk_28 (dk_at dksX1_way_7 18 rfl rfl)
theorem dX1_way_180 : decode cX1_way 180 = .ok (.iload 5, 2) := dk_21 5 (dk_at dksX1_way_7 19 rfl rfl)
theorem dX1_way_182 : decode cX1_way 182 = .ok (.iastore, 1) := dk_79 (dk_at dksX1_way_7 21 rfl rfl)
theorem dX1_way_183 : decode cX1_way 183 = .ok (.iinc 2 1, 3) := dk_132 2 1 (dk_at dksX1_way_8 0 rfl rfl)
theorem dX1_way_186 : decode cX1_way 186 = .ok (.iinc 4 1, 3) := dk_132 4 1 (dk_at dksX1_way_8 3 rfl rfl)
theorem dX1_way_189 : decode cX1_way 189 = .ok (.goto (-84), 3) := dk_167 255 172 (dk_at dksX1_way_8 6 rfl rfl)
theorem dX1_way_192 : decode cX1_way 192 = .ok (.goto (-119), 3) := dk_167 255 137 (dk_at dksX1_way_8 9 rfl rfl)
theorem dX1_way_195 : decode cX1_way 195 = .ok (.iconst (-1), 1) := dk_2 (dk_at dksX1_way_8 12 rfl rfl)
theorem dX1_way_196 : decode cX1_way 196 = .ok (.ireturn, 1) := dk_172 (dk_at dksX1_way_8 13 rfl rfl)
abbrev cX1_isBesideShaft : ByteArray := prog_4_method_15_code
def yX1_isBesideShaft : MethodName := ⟨RX1, "isBesideShaft", "(I)Z"⟩
def dkwX1_isBesideShaft_2 : List UInt8 := [167, 255, 214, 28, 172]
abbrev dktX1_isBesideShaft_2 : List UInt8 := dkwX1_isBesideShaft_2 ++ []
def dkwX1_isBesideShaft_1 : List UInt8 := [180, 0, 53, 27, 29, 184, 0, 145, 182, 0, 222, 153, 0, 7, 4, 167, 0, 4, 3, 61, 132, 3, 1]
abbrev dktX1_isBesideShaft_1 : List UInt8 := dkwX1_isBesideShaft_1 ++ dktX1_isBesideShaft_2
def dkwX1_isBesideShaft_0 : List UInt8 := [3, 61, 3, 62, 29, 7, 162, 0, 43, 28, 154, 0, 27, 27, 29, 184, 0, 145, 2, 159, 0, 22, 42]
abbrev dktX1_isBesideShaft_0 : List UInt8 := dkwX1_isBesideShaft_0 ++ dktX1_isBesideShaft_1
theorem dksX1_isBesideShaft_0 : cX1_isBesideShaft.data.toList.drop 0 = dktX1_isBesideShaft_0 := by decide +kernel
theorem dksX1_isBesideShaft_1 : cX1_isBesideShaft.data.toList.drop 23 = dktX1_isBesideShaft_1 := dk_seg dksX1_isBesideShaft_0 23 rfl rfl
theorem dksX1_isBesideShaft_2 : cX1_isBesideShaft.data.toList.drop 46 = dktX1_isBesideShaft_2 := dk_seg dksX1_isBesideShaft_1 23 rfl rfl
theorem dX1_isBesideShaft_0 : decode cX1_isBesideShaft 0 = .ok (.iconst 0, 1) := dk_3 (dk_at dksX1_isBesideShaft_0 0 rfl rfl)
theorem dX1_isBesideShaft_1 : decode cX1_isBesideShaft 1 = .ok (.istore_n 2, 1) := dk_61 (dk_at dksX1_isBesideShaft_0 1 rfl rfl)
theorem dX1_isBesideShaft_2 : decode cX1_isBesideShaft 2 = .ok (.iconst 0, 1) := dk_3 (dk_at dksX1_isBesideShaft_0 2 rfl rfl)
theorem dX1_isBesideShaft_3 : decode cX1_isBesideShaft 3 = .ok (.istore_n 3, 1) := dk_62 (dk_at dksX1_isBesideShaft_0 3 rfl rfl)
theorem dX1_isBesideShaft_4 : decode cX1_isBesideShaft 4 = .ok (.iload_n 3, 1) := dk_29 (dk_at dksX1_isBesideShaft_0 4 rfl rfl)
theorem dX1_isBesideShaft_5 : decode cX1_isBesideShaft 5 = .ok (.iconst 4, 1) := dk_7 (dk_at dksX1_isBesideShaft_0 5 rfl rfl)
theorem dX1_isBesideShaft_6 : decode cX1_isBesideShaft 6 = .ok (.if_icmp .ge 43, 3) := dk_162 0 43 (dk_at dksX1_isBesideShaft_0 6 rfl rfl)
theorem dX1_isBesideShaft_9 : decode cX1_isBesideShaft 9 = .ok (.iload_n 2, 1) := dk_28 (dk_at dksX1_isBesideShaft_0 9 rfl rfl)
theorem dX1_isBesideShaft_10 : decode cX1_isBesideShaft 10 = .ok (.ifCond .ne 27, 3) := dk_154 0 27 (dk_at dksX1_isBesideShaft_0 10 rfl rfl)
theorem dX1_isBesideShaft_13 : decode cX1_isBesideShaft 13 = .ok (.iload_n 1, 1) := dk_27 (dk_at dksX1_isBesideShaft_0 13 rfl rfl)
theorem dX1_isBesideShaft_14 : decode cX1_isBesideShaft 14 = .ok (.iload_n 3, 1) := dk_29 (dk_at dksX1_isBesideShaft_0 14 rfl rfl)
theorem dX1_isBesideShaft_15 : decode cX1_isBesideShaft 15 = .ok (.invokestatic 145, 3) := dk_184 0 145 (dk_at dksX1_isBesideShaft_0 15 rfl rfl)
theorem dX1_isBesideShaft_18 : decode cX1_isBesideShaft 18 = .ok (.iconst (-1), 1) := dk_2 (dk_at dksX1_isBesideShaft_0 18 rfl rfl)
theorem dX1_isBesideShaft_19 : decode cX1_isBesideShaft 19 = .ok (.if_icmp .eq 22, 3) := dk_159 0 22 (dk_at dksX1_isBesideShaft_0 19 rfl rfl)
theorem dX1_isBesideShaft_22 : decode cX1_isBesideShaft 22 = .ok (.aload_n 0, 1) := dk_42 (dk_at dksX1_isBesideShaft_0 22 rfl rfl)
theorem dX1_isBesideShaft_23 : decode cX1_isBesideShaft 23 = .ok (.getfield 53, 3) := dk_180 0 53 (dk_at dksX1_isBesideShaft_1 0 rfl rfl)
theorem dX1_isBesideShaft_26 : decode cX1_isBesideShaft 26 = .ok (.iload_n 1, 1) := dk_27 (dk_at dksX1_isBesideShaft_1 3 rfl rfl)
theorem dX1_isBesideShaft_27 : decode cX1_isBesideShaft 27 = .ok (.iload_n 3, 1) := dk_29 (dk_at dksX1_isBesideShaft_1 4 rfl rfl)
theorem dX1_isBesideShaft_28 : decode cX1_isBesideShaft 28 = .ok (.invokestatic 145, 3) := dk_184 0 145 (dk_at dksX1_isBesideShaft_1 5 rfl rfl)
theorem dX1_isBesideShaft_31 : decode cX1_isBesideShaft 31 = .ok (.invokevirtual 222, 3) := dk_182 0 222 (dk_at dksX1_isBesideShaft_1 8 rfl rfl)
theorem dX1_isBesideShaft_34 : decode cX1_isBesideShaft 34 = .ok (.ifCond .eq 7, 3) := dk_153 0 7 (dk_at dksX1_isBesideShaft_1 11 rfl rfl)
theorem dX1_isBesideShaft_37 : decode cX1_isBesideShaft 37 = .ok (.iconst 1, 1) := dk_4 (dk_at dksX1_isBesideShaft_1 14 rfl rfl)
theorem dX1_isBesideShaft_38 : decode cX1_isBesideShaft 38 = .ok (.goto 4, 3) := dk_167 0 4 (dk_at dksX1_isBesideShaft_1 15 rfl rfl)
theorem dX1_isBesideShaft_41 : decode cX1_isBesideShaft 41 = .ok (.iconst 0, 1) := dk_3 (dk_at dksX1_isBesideShaft_1 18 rfl rfl)
theorem dX1_isBesideShaft_42 : decode cX1_isBesideShaft 42 = .ok (.istore_n 2, 1) := dk_61 (dk_at dksX1_isBesideShaft_1 19 rfl rfl)
theorem dX1_isBesideShaft_43 : decode cX1_isBesideShaft 43 = .ok (.iinc 3 1, 3) := dk_132 3 1 (dk_at dksX1_isBesideShaft_1 20 rfl rfl)
theorem dX1_isBesideShaft_46 : decode cX1_isBesideShaft 46 = .ok (.goto (-42), 3) := dk_167 255 214 (dk_at dksX1_isBesideShaft_2 0 rfl rfl)
theorem dX1_isBesideShaft_49 : decode cX1_isBesideShaft 49 = .ok (.iload_n 2, 1) := dk_28 (dk_at dksX1_isBesideShaft_2 3 rfl rfl)
theorem dX1_isBesideShaft_50 : decode cX1_isBesideShaft 50 = .ok (.ireturn, 1) := dk_172 (dk_at dksX1_isBesideShaft_2 4 rfl rfl)
abbrev cX1_heat : ByteArray := prog_4_method_6_code
def yX1_heat : MethodName := ⟨RX1, "heat", "()I"⟩
def dkwX1_heat_2 : List UInt8 := [27, 172]
abbrev dktX1_heat_2 : List UInt8 := dkwX1_heat_2 ++ []
def dkwX1_heat_1 : List UInt8 := [167, 0, 16, 42, 180, 0, 9, 28, 46, 42, 180, 0, 15, 28, 46, 100, 96, 60, 132, 2, 1, 167, 255, 217]
abbrev dktX1_heat_1 : List UInt8 := dkwX1_heat_1 ++ dktX1_heat_2
def dkwX1_heat_0 : List UInt8 := [3, 60, 3, 61, 28, 17, 0, 144, 162, 0, 38, 27, 42, 180, 0, 21, 28, 51, 153, 0, 7, 3]
abbrev dktX1_heat_0 : List UInt8 := dkwX1_heat_0 ++ dktX1_heat_1
theorem dksX1_heat_0 : cX1_heat.data.toList.drop 0 = dktX1_heat_0 := by decide +kernel
theorem dksX1_heat_1 : cX1_heat.data.toList.drop 22 = dktX1_heat_1 := dk_seg dksX1_heat_0 22 rfl rfl
theorem dksX1_heat_2 : cX1_heat.data.toList.drop 46 = dktX1_heat_2 := dk_seg dksX1_heat_1 24 rfl rfl
theorem dX1_heat_0 : decode cX1_heat 0 = .ok (.iconst 0, 1) := dk_3 (dk_at dksX1_heat_0 0 rfl rfl)
theorem dX1_heat_1 : decode cX1_heat 1 = .ok (.istore_n 1, 1) := dk_60 (dk_at dksX1_heat_0 1 rfl rfl)
theorem dX1_heat_2 : decode cX1_heat 2 = .ok (.iconst 0, 1) := dk_3 (dk_at dksX1_heat_0 2 rfl rfl)
theorem dX1_heat_3 : decode cX1_heat 3 = .ok (.istore_n 2, 1) := dk_61 (dk_at dksX1_heat_0 3 rfl rfl)
theorem dX1_heat_4 : decode cX1_heat 4 = .ok (.iload_n 2, 1) := dk_28 (dk_at dksX1_heat_0 4 rfl rfl)
theorem dX1_heat_5 : decode cX1_heat 5 = .ok (.sipush 144, 3) := dk_17 0 144 (dk_at dksX1_heat_0 5 rfl rfl)
theorem dX1_heat_8 : decode cX1_heat 8 = .ok (.if_icmp .ge 38, 3) := dk_162 0 38 (dk_at dksX1_heat_0 8 rfl rfl)
theorem dX1_heat_11 : decode cX1_heat 11 = .ok (.iload_n 1, 1) := dk_27 (dk_at dksX1_heat_0 11 rfl rfl)
theorem dX1_heat_12 : decode cX1_heat 12 = .ok (.aload_n 0, 1) := dk_42 (dk_at dksX1_heat_0 12 rfl rfl)
theorem dX1_heat_13 : decode cX1_heat 13 = .ok (.getfield 21, 3) := dk_180 0 21 (dk_at dksX1_heat_0 13 rfl rfl)
theorem dX1_heat_16 : decode cX1_heat 16 = .ok (.iload_n 2, 1) := dk_28 (dk_at dksX1_heat_0 16 rfl rfl)
theorem dX1_heat_17 : decode cX1_heat 17 = .ok (.baload, 1) := dk_51 (dk_at dksX1_heat_0 17 rfl rfl)
theorem dX1_heat_18 : decode cX1_heat 18 = .ok (.ifCond .eq 7, 3) := dk_153 0 7 (dk_at dksX1_heat_0 18 rfl rfl)
theorem dX1_heat_21 : decode cX1_heat 21 = .ok (.iconst 0, 1) := dk_3 (dk_at dksX1_heat_0 21 rfl rfl)
theorem dX1_heat_22 : decode cX1_heat 22 = .ok (.goto 16, 3) := dk_167 0 16 (dk_at dksX1_heat_1 0 rfl rfl)
theorem dX1_heat_25 : decode cX1_heat 25 = .ok (.aload_n 0, 1) := dk_42 (dk_at dksX1_heat_1 3 rfl rfl)
theorem dX1_heat_26 : decode cX1_heat 26 = .ok (.getfield 9, 3) := dk_180 0 9 (dk_at dksX1_heat_1 4 rfl rfl)
theorem dX1_heat_29 : decode cX1_heat 29 = .ok (.iload_n 2, 1) := dk_28 (dk_at dksX1_heat_1 7 rfl rfl)
theorem dX1_heat_30 : decode cX1_heat 30 = .ok (.iaload, 1) := dk_46 (dk_at dksX1_heat_1 8 rfl rfl)
theorem dX1_heat_31 : decode cX1_heat 31 = .ok (.aload_n 0, 1) := dk_42 (dk_at dksX1_heat_1 9 rfl rfl)
theorem dX1_heat_32 : decode cX1_heat 32 = .ok (.getfield 15, 3) := dk_180 0 15 (dk_at dksX1_heat_1 10 rfl rfl)
theorem dX1_heat_35 : decode cX1_heat 35 = .ok (.iload_n 2, 1) := dk_28 (dk_at dksX1_heat_1 13 rfl rfl)
theorem dX1_heat_36 : decode cX1_heat 36 = .ok (.iaload, 1) := dk_46 (dk_at dksX1_heat_1 14 rfl rfl)
theorem dX1_heat_37 : decode cX1_heat 37 = .ok (.isub, 1) := dk_100 (dk_at dksX1_heat_1 15 rfl rfl)
theorem dX1_heat_38 : decode cX1_heat 38 = .ok (.iadd, 1) := dk_96 (dk_at dksX1_heat_1 16 rfl rfl)
theorem dX1_heat_39 : decode cX1_heat 39 = .ok (.istore_n 1, 1) := dk_60 (dk_at dksX1_heat_1 17 rfl rfl)
theorem dX1_heat_40 : decode cX1_heat 40 = .ok (.iinc 2 1, 3) := dk_132 2 1 (dk_at dksX1_heat_1 18 rfl rfl)
theorem dX1_heat_43 : decode cX1_heat 43 = .ok (.goto (-39), 3) := dk_167 255 217 (dk_at dksX1_heat_1 21 rfl rfl)
theorem dX1_heat_46 : decode cX1_heat 46 = .ok (.iload_n 1, 1) := dk_27 (dk_at dksX1_heat_2 0 rfl rfl)
theorem dX1_heat_47 : decode cX1_heat 47 = .ok (.ireturn, 1) := dk_172 (dk_at dksX1_heat_2 1 rfl rfl)
abbrev cX1_thick : ByteArray := prog_4_method_19_code
def yX1_thick : MethodName := ⟨RX1, "thick", "()I"⟩
def dkwX1_thick_8 : List UInt8 := [184, 0, 153, 61, 132, 3, 1, 167, 255, 228, 28, 172]
abbrev dktX1_thick_8 : List UInt8 := dkwX1_thick_8 ++ []
def dkwX1_thick_7 : List UInt8 := [62, 29, 17, 0, 144, 162, 0, 27, 29, 184, 0, 228, 153, 0, 14, 28, 42, 180, 0, 43, 29, 46]
abbrev dktX1_thick_7 : List UInt8 := dkwX1_thick_7 ++ dktX1_thick_8
def dkwX1_thick_6 : List UInt8 := [96, 79, 4, 60, 132, 3, 1, 167, 255, 178, 132, 2, 1, 167, 255, 163, 167, 255, 152, 17, 0, 144, 61, 3]
abbrev dktX1_thick_6 : List UInt8 := dkwX1_thick_6 ++ dktX1_thick_7
def dkwX1_thick_5 : List UInt8 := [46, 161, 0, 6, 167, 0, 24, 42, 180, 0, 43, 28, 42, 180, 0, 43, 21, 4, 46, 42, 28, 182, 0, 234]
abbrev dktX1_thick_5 : List UInt8 := dkwX1_thick_5 ++ dktX1_thick_6
def dkwX1_thick_4 : List UInt8 := [21, 4, 2, 159, 0, 49, 42, 180, 0, 43, 21, 4, 46, 42, 28, 182, 0, 234, 96, 42, 180, 0, 43, 28]
abbrev dktX1_thick_4 : List UInt8 := dkwX1_thick_4 ++ dktX1_thick_5
def dkwX1_thick_3 : List UInt8 := [62, 29, 7, 162, 0, 79, 42, 180, 0, 53, 28, 182, 0, 222, 154, 0, 68, 28, 29, 184, 0, 145, 54, 4]
abbrev dktX1_thick_3 : List UInt8 := dkwX1_thick_3 ++ dktX1_thick_4
def dkwX1_thick_2 : List UInt8 := [132, 1, 1, 167, 255, 210, 4, 60, 27, 153, 0, 106, 3, 60, 3, 61, 28, 17, 0, 144, 162, 0, 92, 3]
abbrev dktX1_thick_2 : List UInt8 := dkwX1_thick_2 ++ dktX1_thick_3
def dkwX1_thick_1 : List UInt8 := [154, 0, 19, 42, 27, 182, 0, 225, 153, 0, 11, 42, 27, 182, 0, 234, 167, 0, 6, 17, 0, 144, 79]
abbrev dktX1_thick_1 : List UInt8 := dkwX1_thick_1 ++ dktX1_thick_2
def dkwX1_thick_0 : List UInt8 := [3, 60, 27, 17, 0, 144, 162, 0, 45, 42, 180, 0, 43, 27, 42, 180, 0, 53, 27, 182, 0, 222]
abbrev dktX1_thick_0 : List UInt8 := dkwX1_thick_0 ++ dktX1_thick_1
theorem dksX1_thick_0 : cX1_thick.data.toList.drop 0 = dktX1_thick_0 := by decide +kernel
theorem dksX1_thick_1 : cX1_thick.data.toList.drop 22 = dktX1_thick_1 := dk_seg dksX1_thick_0 22 rfl rfl
theorem dksX1_thick_2 : cX1_thick.data.toList.drop 45 = dktX1_thick_2 := dk_seg dksX1_thick_1 23 rfl rfl
theorem dksX1_thick_3 : cX1_thick.data.toList.drop 69 = dktX1_thick_3 := dk_seg dksX1_thick_2 24 rfl rfl
theorem dksX1_thick_4 : cX1_thick.data.toList.drop 93 = dktX1_thick_4 := dk_seg dksX1_thick_3 24 rfl rfl
theorem dksX1_thick_5 : cX1_thick.data.toList.drop 117 = dktX1_thick_5 := dk_seg dksX1_thick_4 24 rfl rfl
theorem dksX1_thick_6 : cX1_thick.data.toList.drop 141 = dktX1_thick_6 := dk_seg dksX1_thick_5 24 rfl rfl
theorem dksX1_thick_7 : cX1_thick.data.toList.drop 165 = dktX1_thick_7 := dk_seg dksX1_thick_6 24 rfl rfl
theorem dksX1_thick_8 : cX1_thick.data.toList.drop 187 = dktX1_thick_8 := dk_seg dksX1_thick_7 22 rfl rfl
theorem dX1_thick_0 : decode cX1_thick 0 = .ok (.iconst 0, 1) := dk_3 (dk_at dksX1_thick_0 0 rfl rfl)
theorem dX1_thick_1 : decode cX1_thick 1 = .ok (.istore_n 1, 1) := dk_60 (dk_at dksX1_thick_0 1 rfl rfl)
theorem dX1_thick_2 : decode cX1_thick 2 = .ok (.iload_n 1, 1) := dk_27 (dk_at dksX1_thick_0 2 rfl rfl)
theorem dX1_thick_3 : decode cX1_thick 3 = .ok (.sipush 144, 3) := dk_17 0 144 (dk_at dksX1_thick_0 3 rfl rfl)
theorem dX1_thick_6 : decode cX1_thick 6 = .ok (.if_icmp .ge 45, 3) := dk_162 0 45 (dk_at dksX1_thick_0 6 rfl rfl)
theorem dX1_thick_9 : decode cX1_thick 9 = .ok (.aload_n 0, 1) := dk_42 (dk_at dksX1_thick_0 9 rfl rfl)
theorem dX1_thick_10 : decode cX1_thick 10 = .ok (.getfield 43, 3) := dk_180 0 43 (dk_at dksX1_thick_0 10 rfl rfl)
theorem dX1_thick_13 : decode cX1_thick 13 = .ok (.iload_n 1, 1) := dk_27 (dk_at dksX1_thick_0 13 rfl rfl)
theorem dX1_thick_14 : decode cX1_thick 14 = .ok (.aload_n 0, 1) := dk_42 (dk_at dksX1_thick_0 14 rfl rfl)
theorem dX1_thick_15 : decode cX1_thick 15 = .ok (.getfield 53, 3) := dk_180 0 53 (dk_at dksX1_thick_0 15 rfl rfl)
theorem dX1_thick_18 : decode cX1_thick 18 = .ok (.iload_n 1, 1) := dk_27 (dk_at dksX1_thick_0 18 rfl rfl)
theorem dX1_thick_19 : decode cX1_thick 19 = .ok (.invokevirtual 222, 3) := dk_182 0 222 (dk_at dksX1_thick_0 19 rfl rfl)
theorem dX1_thick_22 : decode cX1_thick 22 = .ok (.ifCond .ne 19, 3) := dk_154 0 19 (dk_at dksX1_thick_1 0 rfl rfl)
theorem dX1_thick_25 : decode cX1_thick 25 = .ok (.aload_n 0, 1) := dk_42 (dk_at dksX1_thick_1 3 rfl rfl)
theorem dX1_thick_26 : decode cX1_thick 26 = .ok (.iload_n 1, 1) := dk_27 (dk_at dksX1_thick_1 4 rfl rfl)
theorem dX1_thick_27 : decode cX1_thick 27 = .ok (.invokevirtual 225, 3) := dk_182 0 225 (dk_at dksX1_thick_1 5 rfl rfl)
theorem dX1_thick_30 : decode cX1_thick 30 = .ok (.ifCond .eq 11, 3) := dk_153 0 11 (dk_at dksX1_thick_1 8 rfl rfl)
theorem dX1_thick_33 : decode cX1_thick 33 = .ok (.aload_n 0, 1) := dk_42 (dk_at dksX1_thick_1 11 rfl rfl)
theorem dX1_thick_34 : decode cX1_thick 34 = .ok (.iload_n 1, 1) := dk_27 (dk_at dksX1_thick_1 12 rfl rfl)
theorem dX1_thick_35 : decode cX1_thick 35 = .ok (.invokevirtual 234, 3) := dk_182 0 234 (dk_at dksX1_thick_1 13 rfl rfl)
theorem dX1_thick_38 : decode cX1_thick 38 = .ok (.goto 6, 3) := dk_167 0 6 (dk_at dksX1_thick_1 16 rfl rfl)
theorem dX1_thick_41 : decode cX1_thick 41 = .ok (.sipush 144, 3) := dk_17 0 144 (dk_at dksX1_thick_1 19 rfl rfl)
theorem dX1_thick_44 : decode cX1_thick 44 = .ok (.iastore, 1) := dk_79 (dk_at dksX1_thick_1 22 rfl rfl)
theorem dX1_thick_45 : decode cX1_thick 45 = .ok (.iinc 1 1, 3) := dk_132 1 1 (dk_at dksX1_thick_2 0 rfl rfl)
theorem dX1_thick_48 : decode cX1_thick 48 = .ok (.goto (-46), 3) := dk_167 255 210 (dk_at dksX1_thick_2 3 rfl rfl)
theorem dX1_thick_51 : decode cX1_thick 51 = .ok (.iconst 1, 1) := dk_4 (dk_at dksX1_thick_2 6 rfl rfl)
theorem dX1_thick_52 : decode cX1_thick 52 = .ok (.istore_n 1, 1) := dk_60 (dk_at dksX1_thick_2 7 rfl rfl)
theorem dX1_thick_53 : decode cX1_thick 53 = .ok (.iload_n 1, 1) := dk_27 (dk_at dksX1_thick_2 8 rfl rfl)
theorem dX1_thick_54 : decode cX1_thick 54 = .ok (.ifCond .eq 106, 3) := dk_153 0 106 (dk_at dksX1_thick_2 9 rfl rfl)
theorem dX1_thick_57 : decode cX1_thick 57 = .ok (.iconst 0, 1) := dk_3 (dk_at dksX1_thick_2 12 rfl rfl)
theorem dX1_thick_58 : decode cX1_thick 58 = .ok (.istore_n 1, 1) := dk_60 (dk_at dksX1_thick_2 13 rfl rfl)
theorem dX1_thick_59 : decode cX1_thick 59 = .ok (.iconst 0, 1) := dk_3 (dk_at dksX1_thick_2 14 rfl rfl)
theorem dX1_thick_60 : decode cX1_thick 60 = .ok (.istore_n 2, 1) := dk_61 (dk_at dksX1_thick_2 15 rfl rfl)
theorem dX1_thick_61 : decode cX1_thick 61 = .ok (.iload_n 2, 1) := dk_28 (dk_at dksX1_thick_2 16 rfl rfl)
theorem dX1_thick_62 : decode cX1_thick 62 = .ok (.sipush 144, 3) := dk_17 0 144 (dk_at dksX1_thick_2 17 rfl rfl)
theorem dX1_thick_65 : decode cX1_thick 65 = .ok (.if_icmp .ge 92, 3) := dk_162 0 92 (dk_at dksX1_thick_2 20 rfl rfl)
theorem dX1_thick_68 : decode cX1_thick 68 = .ok (.iconst 0, 1) := dk_3 (dk_at dksX1_thick_2 23 rfl rfl)
theorem dX1_thick_69 : decode cX1_thick 69 = .ok (.istore_n 3, 1) := dk_62 (dk_at dksX1_thick_3 0 rfl rfl)
theorem dX1_thick_70 : decode cX1_thick 70 = .ok (.iload_n 3, 1) := dk_29 (dk_at dksX1_thick_3 1 rfl rfl)
theorem dX1_thick_71 : decode cX1_thick 71 = .ok (.iconst 4, 1) := dk_7 (dk_at dksX1_thick_3 2 rfl rfl)
theorem dX1_thick_72 : decode cX1_thick 72 = .ok (.if_icmp .ge 79, 3) := dk_162 0 79 (dk_at dksX1_thick_3 3 rfl rfl)
theorem dX1_thick_75 : decode cX1_thick 75 = .ok (.aload_n 0, 1) := dk_42 (dk_at dksX1_thick_3 6 rfl rfl)
theorem dX1_thick_76 : decode cX1_thick 76 = .ok (.getfield 53, 3) := dk_180 0 53 (dk_at dksX1_thick_3 7 rfl rfl)
theorem dX1_thick_79 : decode cX1_thick 79 = .ok (.iload_n 2, 1) := dk_28 (dk_at dksX1_thick_3 10 rfl rfl)
theorem dX1_thick_80 : decode cX1_thick 80 = .ok (.invokevirtual 222, 3) := dk_182 0 222 (dk_at dksX1_thick_3 11 rfl rfl)
theorem dX1_thick_83 : decode cX1_thick 83 = .ok (.ifCond .ne 68, 3) := dk_154 0 68 (dk_at dksX1_thick_3 14 rfl rfl)
theorem dX1_thick_86 : decode cX1_thick 86 = .ok (.iload_n 2, 1) := dk_28 (dk_at dksX1_thick_3 17 rfl rfl)
theorem dX1_thick_87 : decode cX1_thick 87 = .ok (.iload_n 3, 1) := dk_29 (dk_at dksX1_thick_3 18 rfl rfl)
theorem dX1_thick_88 : decode cX1_thick 88 = .ok (.invokestatic 145, 3) := dk_184 0 145 (dk_at dksX1_thick_3 19 rfl rfl)
theorem dX1_thick_91 : decode cX1_thick 91 = .ok (.istore 4, 2) := dk_54 4 (dk_at dksX1_thick_3 22 rfl rfl)
theorem dX1_thick_93 : decode cX1_thick 93 = .ok (.iload 4, 2) := dk_21 4 (dk_at dksX1_thick_4 0 rfl rfl)
theorem dX1_thick_95 : decode cX1_thick 95 = .ok (.iconst (-1), 1) := dk_2 (dk_at dksX1_thick_4 2 rfl rfl)
theorem dX1_thick_96 : decode cX1_thick 96 = .ok (.if_icmp .eq 49, 3) := dk_159 0 49 (dk_at dksX1_thick_4 3 rfl rfl)
theorem dX1_thick_99 : decode cX1_thick 99 = .ok (.aload_n 0, 1) := dk_42 (dk_at dksX1_thick_4 6 rfl rfl)
theorem dX1_thick_100 : decode cX1_thick 100 = .ok (.getfield 43, 3) := dk_180 0 43 (dk_at dksX1_thick_4 7 rfl rfl)
theorem dX1_thick_103 : decode cX1_thick 103 = .ok (.iload 4, 2) := dk_21 4 (dk_at dksX1_thick_4 10 rfl rfl)
theorem dX1_thick_105 : decode cX1_thick 105 = .ok (.iaload, 1) := dk_46 (dk_at dksX1_thick_4 12 rfl rfl)
theorem dX1_thick_106 : decode cX1_thick 106 = .ok (.aload_n 0, 1) := dk_42 (dk_at dksX1_thick_4 13 rfl rfl)
theorem dX1_thick_107 : decode cX1_thick 107 = .ok (.iload_n 2, 1) := dk_28 (dk_at dksX1_thick_4 14 rfl rfl)
theorem dX1_thick_108 : decode cX1_thick 108 = .ok (.invokevirtual 234, 3) := dk_182 0 234 (dk_at dksX1_thick_4 15 rfl rfl)
theorem dX1_thick_111 : decode cX1_thick 111 = .ok (.iadd, 1) := dk_96 (dk_at dksX1_thick_4 18 rfl rfl)
theorem dX1_thick_112 : decode cX1_thick 112 = .ok (.aload_n 0, 1) := dk_42 (dk_at dksX1_thick_4 19 rfl rfl)
theorem dX1_thick_113 : decode cX1_thick 113 = .ok (.getfield 43, 3) := dk_180 0 43 (dk_at dksX1_thick_4 20 rfl rfl)
theorem dX1_thick_116 : decode cX1_thick 116 = .ok (.iload_n 2, 1) := dk_28 (dk_at dksX1_thick_4 23 rfl rfl)
theorem dX1_thick_117 : decode cX1_thick 117 = .ok (.iaload, 1) := dk_46 (dk_at dksX1_thick_5 0 rfl rfl)
theorem dX1_thick_118 : decode cX1_thick 118 = .ok (.if_icmp .lt 6, 3) := dk_161 0 6 (dk_at dksX1_thick_5 1 rfl rfl)
theorem dX1_thick_121 : decode cX1_thick 121 = .ok (.goto 24, 3) := dk_167 0 24 (dk_at dksX1_thick_5 4 rfl rfl)
theorem dX1_thick_124 : decode cX1_thick 124 = .ok (.aload_n 0, 1) := dk_42 (dk_at dksX1_thick_5 7 rfl rfl)
theorem dX1_thick_125 : decode cX1_thick 125 = .ok (.getfield 43, 3) := dk_180 0 43 (dk_at dksX1_thick_5 8 rfl rfl)
theorem dX1_thick_128 : decode cX1_thick 128 = .ok (.iload_n 2, 1) := dk_28 (dk_at dksX1_thick_5 11 rfl rfl)
theorem dX1_thick_129 : decode cX1_thick 129 = .ok (.aload_n 0, 1) := dk_42 (dk_at dksX1_thick_5 12 rfl rfl)
theorem dX1_thick_130 : decode cX1_thick 130 = .ok (.getfield 43, 3) := dk_180 0 43 (dk_at dksX1_thick_5 13 rfl rfl)
theorem dX1_thick_133 : decode cX1_thick 133 = .ok (.iload 4, 2) := dk_21 4 (dk_at dksX1_thick_5 16 rfl rfl)
theorem dX1_thick_135 : decode cX1_thick 135 = .ok (.iaload, 1) := dk_46 (dk_at dksX1_thick_5 18 rfl rfl)
theorem dX1_thick_136 : decode cX1_thick 136 = .ok (.aload_n 0, 1) := dk_42 (dk_at dksX1_thick_5 19 rfl rfl)
theorem dX1_thick_137 : decode cX1_thick 137 = .ok (.iload_n 2, 1) := dk_28 (dk_at dksX1_thick_5 20 rfl rfl)
theorem dX1_thick_138 : decode cX1_thick 138 = .ok (.invokevirtual 234, 3) := dk_182 0 234 (dk_at dksX1_thick_5 21 rfl rfl)
theorem dX1_thick_141 : decode cX1_thick 141 = .ok (.iadd, 1) := dk_96 (dk_at dksX1_thick_6 0 rfl rfl)
theorem dX1_thick_142 : decode cX1_thick 142 = .ok (.iastore, 1) := dk_79 (dk_at dksX1_thick_6 1 rfl rfl)
theorem dX1_thick_143 : decode cX1_thick 143 = .ok (.iconst 1, 1) := dk_4 (dk_at dksX1_thick_6 2 rfl rfl)
theorem dX1_thick_144 : decode cX1_thick 144 = .ok (.istore_n 1, 1) := dk_60 (dk_at dksX1_thick_6 3 rfl rfl)
theorem dX1_thick_145 : decode cX1_thick 145 = .ok (.iinc 3 1, 3) := dk_132 3 1 (dk_at dksX1_thick_6 4 rfl rfl)
theorem dX1_thick_148 : decode cX1_thick 148 = .ok (.goto (-78), 3) := dk_167 255 178 (dk_at dksX1_thick_6 7 rfl rfl)
theorem dX1_thick_151 : decode cX1_thick 151 = .ok (.iinc 2 1, 3) := dk_132 2 1 (dk_at dksX1_thick_6 10 rfl rfl)
theorem dX1_thick_154 : decode cX1_thick 154 = .ok (.goto (-93), 3) := dk_167 255 163 (dk_at dksX1_thick_6 13 rfl rfl)
theorem dX1_thick_157 : decode cX1_thick 157 = .ok (.goto (-104), 3) := dk_167 255 152 (dk_at dksX1_thick_6 16 rfl rfl)
theorem dX1_thick_160 : decode cX1_thick 160 = .ok (.sipush 144, 3) := dk_17 0 144 (dk_at dksX1_thick_6 19 rfl rfl)
theorem dX1_thick_163 : decode cX1_thick 163 = .ok (.istore_n 2, 1) := dk_61 (dk_at dksX1_thick_6 22 rfl rfl)
theorem dX1_thick_164 : decode cX1_thick 164 = .ok (.iconst 0, 1) := dk_3 (dk_at dksX1_thick_6 23 rfl rfl)
theorem dX1_thick_165 : decode cX1_thick 165 = .ok (.istore_n 3, 1) := dk_62 (dk_at dksX1_thick_7 0 rfl rfl)
theorem dX1_thick_166 : decode cX1_thick 166 = .ok (.iload_n 3, 1) := dk_29 (dk_at dksX1_thick_7 1 rfl rfl)
theorem dX1_thick_167 : decode cX1_thick 167 = .ok (.sipush 144, 3) := dk_17 0 144 (dk_at dksX1_thick_7 2 rfl rfl)
theorem dX1_thick_170 : decode cX1_thick 170 = .ok (.if_icmp .ge 27, 3) := dk_162 0 27 (dk_at dksX1_thick_7 5 rfl rfl)
theorem dX1_thick_173 : decode cX1_thick 173 = .ok (.iload_n 3, 1) := dk_29 (dk_at dksX1_thick_7 8 rfl rfl)
theorem dX1_thick_174 : decode cX1_thick 174 = .ok (.invokestatic 228, 3) := dk_184 0 228 (dk_at dksX1_thick_7 9 rfl rfl)
theorem dX1_thick_177 : decode cX1_thick 177 = .ok (.ifCond .eq 14, 3) := dk_153 0 14 (dk_at dksX1_thick_7 12 rfl rfl)
theorem dX1_thick_180 : decode cX1_thick 180 = .ok (.iload_n 2, 1) := dk_28 (dk_at dksX1_thick_7 15 rfl rfl)
theorem dX1_thick_181 : decode cX1_thick 181 = .ok (.aload_n 0, 1) := dk_42 (dk_at dksX1_thick_7 16 rfl rfl)
theorem dX1_thick_182 : decode cX1_thick 182 = .ok (.getfield 43, 3) := dk_180 0 43 (dk_at dksX1_thick_7 17 rfl rfl)
theorem dX1_thick_185 : decode cX1_thick 185 = .ok (.iload_n 3, 1) := dk_29 (dk_at dksX1_thick_7 20 rfl rfl)
theorem dX1_thick_186 : decode cX1_thick 186 = .ok (.iaload, 1) := dk_46 (dk_at dksX1_thick_7 21 rfl rfl)
theorem dX1_thick_187 : decode cX1_thick 187 = .ok (.invokestatic 153, 3) := dk_184 0 153 (dk_at dksX1_thick_8 0 rfl rfl)
theorem dX1_thick_190 : decode cX1_thick 190 = .ok (.istore_n 2, 1) := dk_61 (dk_at dksX1_thick_8 3 rfl rfl)
theorem dX1_thick_191 : decode cX1_thick 191 = .ok (.iinc 3 1, 3) := dk_132 3 1 (dk_at dksX1_thick_8 4 rfl rfl)
theorem dX1_thick_194 : decode cX1_thick 194 = .ok (.goto (-28), 3) := dk_167 255 228 (dk_at dksX1_thick_8 7 rfl rfl)
theorem dX1_thick_197 : decode cX1_thick 197 = .ok (.iload_n 2, 1) := dk_28 (dk_at dksX1_thick_8 10 rfl rfl)
theorem dX1_thick_198 : decode cX1_thick 198 = .ok (.ireturn, 1) := dk_172 (dk_at dksX1_thick_8 11 rfl rfl)
abbrev cX1_costOf : ByteArray := prog_4_method_18_code
def yX1_costOf : MethodName := ⟨RX1, "costOf", "(I)I"⟩
def dkwX1_costOf_0 : List UInt8 := [42, 27, 182, 0, 136, 153, 0, 7, 4, 167, 0, 4, 3, 172]
abbrev dktX1_costOf_0 : List UInt8 := dkwX1_costOf_0 ++ []
theorem dksX1_costOf_0 : cX1_costOf.data.toList.drop 0 = dktX1_costOf_0 := by decide +kernel
theorem dX1_costOf_0 : decode cX1_costOf 0 = .ok (.aload_n 0, 1) := dk_42 (dk_at dksX1_costOf_0 0 rfl rfl)
theorem dX1_costOf_1 : decode cX1_costOf 1 = .ok (.iload_n 1, 1) := dk_27 (dk_at dksX1_costOf_0 1 rfl rfl)
theorem dX1_costOf_2 : decode cX1_costOf 2 = .ok (.invokevirtual 136, 3) := dk_182 0 136 (dk_at dksX1_costOf_0 2 rfl rfl)
theorem dX1_costOf_5 : decode cX1_costOf 5 = .ok (.ifCond .eq 7, 3) := dk_153 0 7 (dk_at dksX1_costOf_0 5 rfl rfl)
theorem dX1_costOf_8 : decode cX1_costOf 8 = .ok (.iconst 1, 1) := dk_4 (dk_at dksX1_costOf_0 8 rfl rfl)
theorem dX1_costOf_9 : decode cX1_costOf 9 = .ok (.goto 4, 3) := dk_167 0 4 (dk_at dksX1_costOf_0 9 rfl rfl)
theorem dX1_costOf_12 : decode cX1_costOf 12 = .ok (.iconst 0, 1) := dk_3 (dk_at dksX1_costOf_0 12 rfl rfl)
theorem dX1_costOf_13 : decode cX1_costOf 13 = .ok (.ireturn, 1) := dk_172 (dk_at dksX1_costOf_0 13 rfl rfl)
abbrev cX1_becomes : ByteArray := prog_4_method_3_code
def yX1_becomes : MethodName := ⟨RX1, "becomes", "(LFrostRing$Field;)V"⟩
def dkwX1_becomes_11 : List UInt8 := [43, 180, 0, 79, 181, 0, 79, 42, 43, 180, 0, 82, 181, 0, 82, 177]
abbrev dktX1_becomes_11 : List UInt8 := dkwX1_becomes_11 ++ []
def dkwX1_becomes_10 : List UInt8 := [43, 180, 0, 70, 181, 0, 70, 42, 43, 180, 0, 73, 181, 0, 73, 42, 43, 180, 0, 76, 181, 0, 76, 42]
abbrev dktX1_becomes_10 : List UInt8 := dkwX1_becomes_10 ++ dktX1_becomes_11
def dkwX1_becomes_9 : List UInt8 := [43, 180, 0, 57, 181, 0, 57, 42, 43, 180, 0, 66, 181, 0, 66, 42, 43, 180, 0, 67, 181, 0, 67, 42]
abbrev dktX1_becomes_9 : List UInt8 := dkwX1_becomes_9 ++ dktX1_becomes_10
def dkwX1_becomes_8 : List UInt8 := [185, 0, 96, 2, 0, 192, 0, 111, 182, 0, 113, 185, 0, 106, 2, 0, 87, 132, 2, 1, 167, 255, 214, 42]
abbrev dktX1_becomes_8 : List UInt8 := dkwX1_becomes_8 ++ dktX1_becomes_9
def dkwX1_becomes_7 : List UInt8 := [180, 0, 34, 185, 0, 92, 1, 0, 162, 0, 35, 42, 180, 0, 34, 43, 180, 0, 34, 28]
abbrev dktX1_becomes_7 : List UInt8 := dkwX1_becomes_7 ++ dktX1_becomes_8
def dkwX1_becomes_6 : List UInt8 := [192, 0, 100, 182, 0, 102, 185, 0, 106, 2, 0, 87, 132, 2, 1, 167, 255, 214, 3, 61, 28, 43]
abbrev dktX1_becomes_6 : List UInt8 := dkwX1_becomes_6 ++ dktX1_becomes_7
def dkwX1_becomes_5 : List UInt8 := [185, 0, 92, 1, 0, 162, 0, 35, 42, 180, 0, 30, 43, 180, 0, 30, 28, 185, 0, 96, 2, 0]
abbrev dktX1_becomes_5 : List UInt8 := dkwX1_becomes_5 ++ dktX1_becomes_6
def dkwX1_becomes_4 : List UInt8 := [185, 0, 86, 1, 0, 42, 180, 0, 34, 185, 0, 86, 1, 0, 3, 61, 28, 43, 180, 0, 30]
abbrev dktX1_becomes_4 : List UInt8 := dkwX1_becomes_4 ++ dktX1_becomes_5
def dkwX1_becomes_3 : List UInt8 := [184, 0, 121, 43, 180, 0, 40, 3, 42, 180, 0, 40, 3, 16, 10, 184, 0, 121, 42, 180, 0, 30]
abbrev dktX1_becomes_3 : List UInt8 := dkwX1_becomes_3 ++ dktX1_becomes_4
def dkwX1_becomes_2 : List UInt8 := [180, 0, 21, 3, 17, 0, 144, 184, 0, 121, 43, 180, 0, 37, 3, 42, 180, 0, 37, 3, 16, 10]
abbrev dktX1_becomes_2 : List UInt8 := dkwX1_becomes_2 ++ dktX1_becomes_3
def dkwX1_becomes_1 : List UInt8 := [43, 180, 0, 15, 3, 42, 180, 0, 15, 3, 17, 0, 144, 184, 0, 121, 43, 180, 0, 21, 3, 42]
abbrev dktX1_becomes_1 : List UInt8 := dkwX1_becomes_1 ++ dktX1_becomes_2
def dkwX1_becomes_0 : List UInt8 := [42, 43, 180, 0, 53, 182, 0, 49, 43, 180, 0, 9, 3, 42, 180, 0, 9, 3, 17, 0, 144, 184, 0, 121]
abbrev dktX1_becomes_0 : List UInt8 := dkwX1_becomes_0 ++ dktX1_becomes_1
theorem dksX1_becomes_0 : cX1_becomes.data.toList.drop 0 = dktX1_becomes_0 := by decide +kernel
theorem dksX1_becomes_1 : cX1_becomes.data.toList.drop 24 = dktX1_becomes_1 := dk_seg dksX1_becomes_0 24 rfl rfl
theorem dksX1_becomes_2 : cX1_becomes.data.toList.drop 46 = dktX1_becomes_2 := dk_seg dksX1_becomes_1 22 rfl rfl
theorem dksX1_becomes_3 : cX1_becomes.data.toList.drop 68 = dktX1_becomes_3 := dk_seg dksX1_becomes_2 22 rfl rfl
theorem dksX1_becomes_4 : cX1_becomes.data.toList.drop 90 = dktX1_becomes_4 := dk_seg dksX1_becomes_3 22 rfl rfl
theorem dksX1_becomes_5 : cX1_becomes.data.toList.drop 111 = dktX1_becomes_5 := dk_seg dksX1_becomes_4 21 rfl rfl
theorem dksX1_becomes_6 : cX1_becomes.data.toList.drop 133 = dktX1_becomes_6 := dk_seg dksX1_becomes_5 22 rfl rfl
theorem dksX1_becomes_7 : cX1_becomes.data.toList.drop 155 = dktX1_becomes_7 := dk_seg dksX1_becomes_6 22 rfl rfl
theorem dksX1_becomes_8 : cX1_becomes.data.toList.drop 175 = dktX1_becomes_8 := dk_seg dksX1_becomes_7 20 rfl rfl
theorem dksX1_becomes_9 : cX1_becomes.data.toList.drop 199 = dktX1_becomes_9 := dk_seg dksX1_becomes_8 24 rfl rfl
theorem dksX1_becomes_10 : cX1_becomes.data.toList.drop 223 = dktX1_becomes_10 := dk_seg dksX1_becomes_9 24 rfl rfl
theorem dksX1_becomes_11 : cX1_becomes.data.toList.drop 247 = dktX1_becomes_11 := dk_seg dksX1_becomes_10 24 rfl rfl
theorem dX1_becomes_0 : decode cX1_becomes 0 = .ok (.aload_n 0, 1) := dk_42 (dk_at dksX1_becomes_0 0 rfl rfl)
theorem dX1_becomes_1 : decode cX1_becomes 1 = .ok (.aload_n 1, 1) := dk_43 (dk_at dksX1_becomes_0 1 rfl rfl)
theorem dX1_becomes_2 : decode cX1_becomes 2 = .ok (.getfield 53, 3) := dk_180 0 53 (dk_at dksX1_becomes_0 2 rfl rfl)
theorem dX1_becomes_5 : decode cX1_becomes 5 = .ok (.invokevirtual 49, 3) := dk_182 0 49 (dk_at dksX1_becomes_0 5 rfl rfl)
theorem dX1_becomes_8 : decode cX1_becomes 8 = .ok (.aload_n 1, 1) := dk_43 (dk_at dksX1_becomes_0 8 rfl rfl)
theorem dX1_becomes_9 : decode cX1_becomes 9 = .ok (.getfield 9, 3) := dk_180 0 9 (dk_at dksX1_becomes_0 9 rfl rfl)
theorem dX1_becomes_12 : decode cX1_becomes 12 = .ok (.iconst 0, 1) := dk_3 (dk_at dksX1_becomes_0 12 rfl rfl)
theorem dX1_becomes_13 : decode cX1_becomes 13 = .ok (.aload_n 0, 1) := dk_42 (dk_at dksX1_becomes_0 13 rfl rfl)
theorem dX1_becomes_14 : decode cX1_becomes 14 = .ok (.getfield 9, 3) := dk_180 0 9 (dk_at dksX1_becomes_0 14 rfl rfl)
theorem dX1_becomes_17 : decode cX1_becomes 17 = .ok (.iconst 0, 1) := dk_3 (dk_at dksX1_becomes_0 17 rfl rfl)
theorem dX1_becomes_18 : decode cX1_becomes 18 = .ok (.sipush 144, 3) := dk_17 0 144 (dk_at dksX1_becomes_0 18 rfl rfl)
theorem dX1_becomes_21 : decode cX1_becomes 21 = .ok (.invokestatic 121, 3) := dk_184 0 121 (dk_at dksX1_becomes_0 21 rfl rfl)
theorem dX1_becomes_24 : decode cX1_becomes 24 = .ok (.aload_n 1, 1) := dk_43 (dk_at dksX1_becomes_1 0 rfl rfl)
theorem dX1_becomes_25 : decode cX1_becomes 25 = .ok (.getfield 15, 3) := dk_180 0 15 (dk_at dksX1_becomes_1 1 rfl rfl)
theorem dX1_becomes_28 : decode cX1_becomes 28 = .ok (.iconst 0, 1) := dk_3 (dk_at dksX1_becomes_1 4 rfl rfl)
theorem dX1_becomes_29 : decode cX1_becomes 29 = .ok (.aload_n 0, 1) := dk_42 (dk_at dksX1_becomes_1 5 rfl rfl)
theorem dX1_becomes_30 : decode cX1_becomes 30 = .ok (.getfield 15, 3) := dk_180 0 15 (dk_at dksX1_becomes_1 6 rfl rfl)
theorem dX1_becomes_33 : decode cX1_becomes 33 = .ok (.iconst 0, 1) := dk_3 (dk_at dksX1_becomes_1 9 rfl rfl)
theorem dX1_becomes_34 : decode cX1_becomes 34 = .ok (.sipush 144, 3) := dk_17 0 144 (dk_at dksX1_becomes_1 10 rfl rfl)
theorem dX1_becomes_37 : decode cX1_becomes 37 = .ok (.invokestatic 121, 3) := dk_184 0 121 (dk_at dksX1_becomes_1 13 rfl rfl)
theorem dX1_becomes_40 : decode cX1_becomes 40 = .ok (.aload_n 1, 1) := dk_43 (dk_at dksX1_becomes_1 16 rfl rfl)
theorem dX1_becomes_41 : decode cX1_becomes 41 = .ok (.getfield 21, 3) := dk_180 0 21 (dk_at dksX1_becomes_1 17 rfl rfl)
theorem dX1_becomes_44 : decode cX1_becomes 44 = .ok (.iconst 0, 1) := dk_3 (dk_at dksX1_becomes_1 20 rfl rfl)
theorem dX1_becomes_45 : decode cX1_becomes 45 = .ok (.aload_n 0, 1) := dk_42 (dk_at dksX1_becomes_1 21 rfl rfl)
theorem dX1_becomes_46 : decode cX1_becomes 46 = .ok (.getfield 21, 3) := dk_180 0 21 (dk_at dksX1_becomes_2 0 rfl rfl)
theorem dX1_becomes_49 : decode cX1_becomes 49 = .ok (.iconst 0, 1) := dk_3 (dk_at dksX1_becomes_2 3 rfl rfl)
theorem dX1_becomes_50 : decode cX1_becomes 50 = .ok (.sipush 144, 3) := dk_17 0 144 (dk_at dksX1_becomes_2 4 rfl rfl)
theorem dX1_becomes_53 : decode cX1_becomes 53 = .ok (.invokestatic 121, 3) := dk_184 0 121 (dk_at dksX1_becomes_2 7 rfl rfl)
theorem dX1_becomes_56 : decode cX1_becomes 56 = .ok (.aload_n 1, 1) := dk_43 (dk_at dksX1_becomes_2 10 rfl rfl)
theorem dX1_becomes_57 : decode cX1_becomes 57 = .ok (.getfield 37, 3) := dk_180 0 37 (dk_at dksX1_becomes_2 11 rfl rfl)
theorem dX1_becomes_60 : decode cX1_becomes 60 = .ok (.iconst 0, 1) := dk_3 (dk_at dksX1_becomes_2 14 rfl rfl)
theorem dX1_becomes_61 : decode cX1_becomes 61 = .ok (.aload_n 0, 1) := dk_42 (dk_at dksX1_becomes_2 15 rfl rfl)
theorem dX1_becomes_62 : decode cX1_becomes 62 = .ok (.getfield 37, 3) := dk_180 0 37 (dk_at dksX1_becomes_2 16 rfl rfl)
theorem dX1_becomes_65 : decode cX1_becomes 65 = .ok (.iconst 0, 1) := dk_3 (dk_at dksX1_becomes_2 19 rfl rfl)
theorem dX1_becomes_66 : decode cX1_becomes 66 = .ok (.bipush 10, 2) := dk_16 10 (dk_at dksX1_becomes_2 20 rfl rfl)
theorem dX1_becomes_68 : decode cX1_becomes 68 = .ok (.invokestatic 121, 3) := dk_184 0 121 (dk_at dksX1_becomes_3 0 rfl rfl)
theorem dX1_becomes_71 : decode cX1_becomes 71 = .ok (.aload_n 1, 1) := dk_43 (dk_at dksX1_becomes_3 3 rfl rfl)
theorem dX1_becomes_72 : decode cX1_becomes 72 = .ok (.getfield 40, 3) := dk_180 0 40 (dk_at dksX1_becomes_3 4 rfl rfl)
theorem dX1_becomes_75 : decode cX1_becomes 75 = .ok (.iconst 0, 1) := dk_3 (dk_at dksX1_becomes_3 7 rfl rfl)
theorem dX1_becomes_76 : decode cX1_becomes 76 = .ok (.aload_n 0, 1) := dk_42 (dk_at dksX1_becomes_3 8 rfl rfl)
theorem dX1_becomes_77 : decode cX1_becomes 77 = .ok (.getfield 40, 3) := dk_180 0 40 (dk_at dksX1_becomes_3 9 rfl rfl)
theorem dX1_becomes_80 : decode cX1_becomes 80 = .ok (.iconst 0, 1) := dk_3 (dk_at dksX1_becomes_3 12 rfl rfl)
theorem dX1_becomes_81 : decode cX1_becomes 81 = .ok (.bipush 10, 2) := dk_16 10 (dk_at dksX1_becomes_3 13 rfl rfl)
theorem dX1_becomes_83 : decode cX1_becomes 83 = .ok (.invokestatic 121, 3) := dk_184 0 121 (dk_at dksX1_becomes_3 15 rfl rfl)
theorem dX1_becomes_86 : decode cX1_becomes 86 = .ok (.aload_n 0, 1) := dk_42 (dk_at dksX1_becomes_3 18 rfl rfl)
theorem dX1_becomes_87 : decode cX1_becomes 87 = .ok (.getfield 30, 3) := dk_180 0 30 (dk_at dksX1_becomes_3 19 rfl rfl)
theorem dX1_becomes_90 : decode cX1_becomes 90 = .ok (.invokeinterface 86 1, 5) := by decide +kernel
theorem dX1_becomes_95 : decode cX1_becomes 95 = .ok (.aload_n 0, 1) := dk_42 (dk_at dksX1_becomes_4 5 rfl rfl)
theorem dX1_becomes_96 : decode cX1_becomes 96 = .ok (.getfield 34, 3) := dk_180 0 34 (dk_at dksX1_becomes_4 6 rfl rfl)
theorem dX1_becomes_99 : decode cX1_becomes 99 = .ok (.invokeinterface 86 1, 5) := by decide +kernel
theorem dX1_becomes_104 : decode cX1_becomes 104 = .ok (.iconst 0, 1) := dk_3 (dk_at dksX1_becomes_4 14 rfl rfl)
theorem dX1_becomes_105 : decode cX1_becomes 105 = .ok (.istore_n 2, 1) := dk_61 (dk_at dksX1_becomes_4 15 rfl rfl)
theorem dX1_becomes_106 : decode cX1_becomes 106 = .ok (.iload_n 2, 1) := dk_28 (dk_at dksX1_becomes_4 16 rfl rfl)
theorem dX1_becomes_107 : decode cX1_becomes 107 = .ok (.aload_n 1, 1) := dk_43 (dk_at dksX1_becomes_4 17 rfl rfl)
theorem dX1_becomes_108 : decode cX1_becomes 108 = .ok (.getfield 30, 3) := dk_180 0 30 (dk_at dksX1_becomes_4 18 rfl rfl)
theorem dX1_becomes_111 : decode cX1_becomes 111 = .ok (.invokeinterface 92 1, 5) := by decide +kernel
theorem dX1_becomes_116 : decode cX1_becomes 116 = .ok (.if_icmp .ge 35, 3) := dk_162 0 35 (dk_at dksX1_becomes_5 5 rfl rfl)
theorem dX1_becomes_119 : decode cX1_becomes 119 = .ok (.aload_n 0, 1) := dk_42 (dk_at dksX1_becomes_5 8 rfl rfl)
theorem dX1_becomes_120 : decode cX1_becomes 120 = .ok (.getfield 30, 3) := dk_180 0 30 (dk_at dksX1_becomes_5 9 rfl rfl)
theorem dX1_becomes_123 : decode cX1_becomes 123 = .ok (.aload_n 1, 1) := dk_43 (dk_at dksX1_becomes_5 12 rfl rfl)
theorem dX1_becomes_124 : decode cX1_becomes 124 = .ok (.getfield 30, 3) := dk_180 0 30 (dk_at dksX1_becomes_5 13 rfl rfl)
theorem dX1_becomes_127 : decode cX1_becomes 127 = .ok (.iload_n 2, 1) := dk_28 (dk_at dksX1_becomes_5 16 rfl rfl)
theorem dX1_becomes_128 : decode cX1_becomes 128 = .ok (.invokeinterface 96 2, 5) := by decide +kernel
theorem dX1_becomes_133 : decode cX1_becomes 133 = .ok (.checkcast 100, 3) := dk_192 0 100 (dk_at dksX1_becomes_6 0 rfl rfl)
theorem dX1_becomes_136 : decode cX1_becomes 136 = .ok (.invokevirtual 102, 3) := dk_182 0 102 (dk_at dksX1_becomes_6 3 rfl rfl)
theorem dX1_becomes_139 : decode cX1_becomes 139 = .ok (.invokeinterface 106 2, 5) := by decide +kernel
theorem dX1_becomes_144 : decode cX1_becomes 144 = .ok (.pop, 1) := dk_87 (dk_at dksX1_becomes_6 11 rfl rfl)
theorem dX1_becomes_145 : decode cX1_becomes 145 = .ok (.iinc 2 1, 3) := dk_132 2 1 (dk_at dksX1_becomes_6 12 rfl rfl)
theorem dX1_becomes_148 : decode cX1_becomes 148 = .ok (.goto (-42), 3) := dk_167 255 214 (dk_at dksX1_becomes_6 15 rfl rfl)
theorem dX1_becomes_151 : decode cX1_becomes 151 = .ok (.iconst 0, 1) := dk_3 (dk_at dksX1_becomes_6 18 rfl rfl)
theorem dX1_becomes_152 : decode cX1_becomes 152 = .ok (.istore_n 2, 1) := dk_61 (dk_at dksX1_becomes_6 19 rfl rfl)
theorem dX1_becomes_153 : decode cX1_becomes 153 = .ok (.iload_n 2, 1) := dk_28 (dk_at dksX1_becomes_6 20 rfl rfl)
theorem dX1_becomes_154 : decode cX1_becomes 154 = .ok (.aload_n 1, 1) := dk_43 (dk_at dksX1_becomes_6 21 rfl rfl)
theorem dX1_becomes_155 : decode cX1_becomes 155 = .ok (.getfield 34, 3) := dk_180 0 34 (dk_at dksX1_becomes_7 0 rfl rfl)
theorem dX1_becomes_158 : decode cX1_becomes 158 = .ok (.invokeinterface 92 1, 5) := by decide +kernel
theorem dX1_becomes_163 : decode cX1_becomes 163 = .ok (.if_icmp .ge 35, 3) := dk_162 0 35 (dk_at dksX1_becomes_7 8 rfl rfl)
theorem dX1_becomes_166 : decode cX1_becomes 166 = .ok (.aload_n 0, 1) := dk_42 (dk_at dksX1_becomes_7 11 rfl rfl)
theorem dX1_becomes_167 : decode cX1_becomes 167 = .ok (.getfield 34, 3) := dk_180 0 34 (dk_at dksX1_becomes_7 12 rfl rfl)
theorem dX1_becomes_170 : decode cX1_becomes 170 = .ok (.aload_n 1, 1) := dk_43 (dk_at dksX1_becomes_7 15 rfl rfl)
theorem dX1_becomes_171 : decode cX1_becomes 171 = .ok (.getfield 34, 3) := dk_180 0 34 (dk_at dksX1_becomes_7 16 rfl rfl)
theorem dX1_becomes_174 : decode cX1_becomes 174 = .ok (.iload_n 2, 1) := dk_28 (dk_at dksX1_becomes_7 19 rfl rfl)
theorem dX1_becomes_175 : decode cX1_becomes 175 = .ok (.invokeinterface 96 2, 5) := by decide +kernel
theorem dX1_becomes_180 : decode cX1_becomes 180 = .ok (.checkcast 111, 3) := dk_192 0 111 (dk_at dksX1_becomes_8 5 rfl rfl)
theorem dX1_becomes_183 : decode cX1_becomes 183 = .ok (.invokevirtual 113, 3) := dk_182 0 113 (dk_at dksX1_becomes_8 8 rfl rfl)
theorem dX1_becomes_186 : decode cX1_becomes 186 = .ok (.invokeinterface 106 2, 5) := by decide +kernel
theorem dX1_becomes_191 : decode cX1_becomes 191 = .ok (.pop, 1) := dk_87 (dk_at dksX1_becomes_8 16 rfl rfl)
theorem dX1_becomes_192 : decode cX1_becomes 192 = .ok (.iinc 2 1, 3) := dk_132 2 1 (dk_at dksX1_becomes_8 17 rfl rfl)
theorem dX1_becomes_195 : decode cX1_becomes 195 = .ok (.goto (-42), 3) := dk_167 255 214 (dk_at dksX1_becomes_8 20 rfl rfl)
theorem dX1_becomes_198 : decode cX1_becomes 198 = .ok (.aload_n 0, 1) := dk_42 (dk_at dksX1_becomes_8 23 rfl rfl)
theorem dX1_becomes_199 : decode cX1_becomes 199 = .ok (.aload_n 1, 1) := dk_43 (dk_at dksX1_becomes_9 0 rfl rfl)
theorem dX1_becomes_200 : decode cX1_becomes 200 = .ok (.getfield 57, 3) := dk_180 0 57 (dk_at dksX1_becomes_9 1 rfl rfl)
theorem dX1_becomes_203 : decode cX1_becomes 203 = .ok (.putfield 57, 3) := dk_181 0 57 (dk_at dksX1_becomes_9 4 rfl rfl)
theorem dX1_becomes_206 : decode cX1_becomes 206 = .ok (.aload_n 0, 1) := dk_42 (dk_at dksX1_becomes_9 7 rfl rfl)
theorem dX1_becomes_207 : decode cX1_becomes 207 = .ok (.aload_n 1, 1) := dk_43 (dk_at dksX1_becomes_9 8 rfl rfl)
theorem dX1_becomes_208 : decode cX1_becomes 208 = .ok (.getfield 66, 3) := dk_180 0 66 (dk_at dksX1_becomes_9 9 rfl rfl)
theorem dX1_becomes_211 : decode cX1_becomes 211 = .ok (.putfield 66, 3) := dk_181 0 66 (dk_at dksX1_becomes_9 12 rfl rfl)
theorem dX1_becomes_214 : decode cX1_becomes 214 = .ok (.aload_n 0, 1) := dk_42 (dk_at dksX1_becomes_9 15 rfl rfl)
theorem dX1_becomes_215 : decode cX1_becomes 215 = .ok (.aload_n 1, 1) := dk_43 (dk_at dksX1_becomes_9 16 rfl rfl)
theorem dX1_becomes_216 : decode cX1_becomes 216 = .ok (.getfield 67, 3) := dk_180 0 67 (dk_at dksX1_becomes_9 17 rfl rfl)
theorem dX1_becomes_219 : decode cX1_becomes 219 = .ok (.putfield 67, 3) := dk_181 0 67 (dk_at dksX1_becomes_9 20 rfl rfl)
theorem dX1_becomes_222 : decode cX1_becomes 222 = .ok (.aload_n 0, 1) := dk_42 (dk_at dksX1_becomes_9 23 rfl rfl)
theorem dX1_becomes_223 : decode cX1_becomes 223 = .ok (.aload_n 1, 1) := dk_43 (dk_at dksX1_becomes_10 0 rfl rfl)
theorem dX1_becomes_224 : decode cX1_becomes 224 = .ok (.getfield 70, 3) := dk_180 0 70 (dk_at dksX1_becomes_10 1 rfl rfl)
theorem dX1_becomes_227 : decode cX1_becomes 227 = .ok (.putfield 70, 3) := dk_181 0 70 (dk_at dksX1_becomes_10 4 rfl rfl)
theorem dX1_becomes_230 : decode cX1_becomes 230 = .ok (.aload_n 0, 1) := dk_42 (dk_at dksX1_becomes_10 7 rfl rfl)
theorem dX1_becomes_231 : decode cX1_becomes 231 = .ok (.aload_n 1, 1) := dk_43 (dk_at dksX1_becomes_10 8 rfl rfl)
theorem dX1_becomes_232 : decode cX1_becomes 232 = .ok (.getfield 73, 3) := dk_180 0 73 (dk_at dksX1_becomes_10 9 rfl rfl)
theorem dX1_becomes_235 : decode cX1_becomes 235 = .ok (.putfield 73, 3) := dk_181 0 73 (dk_at dksX1_becomes_10 12 rfl rfl)
theorem dX1_becomes_238 : decode cX1_becomes 238 = .ok (.aload_n 0, 1) := dk_42 (dk_at dksX1_becomes_10 15 rfl rfl)
theorem dX1_becomes_239 : decode cX1_becomes 239 = .ok (.aload_n 1, 1) := dk_43 (dk_at dksX1_becomes_10 16 rfl rfl)
theorem dX1_becomes_240 : decode cX1_becomes 240 = .ok (.getfield 76, 3) := dk_180 0 76 (dk_at dksX1_becomes_10 17 rfl rfl)
theorem dX1_becomes_243 : decode cX1_becomes 243 = .ok (.putfield 76, 3) := dk_181 0 76 (dk_at dksX1_becomes_10 20 rfl rfl)
theorem dX1_becomes_246 : decode cX1_becomes 246 = .ok (.aload_n 0, 1) := dk_42 (dk_at dksX1_becomes_10 23 rfl rfl)
theorem dX1_becomes_247 : decode cX1_becomes 247 = .ok (.aload_n 1, 1) := dk_43 (dk_at dksX1_becomes_11 0 rfl rfl)
theorem dX1_becomes_248 : decode cX1_becomes 248 = .ok (.getfield 79, 3) := dk_180 0 79 (dk_at dksX1_becomes_11 1 rfl rfl)
theorem dX1_becomes_251 : decode cX1_becomes 251 = .ok (.putfield 79, 3) := dk_181 0 79 (dk_at dksX1_becomes_11 4 rfl rfl)
theorem dX1_becomes_254 : decode cX1_becomes 254 = .ok (.aload_n 0, 1) := dk_42 (dk_at dksX1_becomes_11 7 rfl rfl)
theorem dX1_becomes_255 : decode cX1_becomes 255 = .ok (.aload_n 1, 1) := dk_43 (dk_at dksX1_becomes_11 8 rfl rfl)
theorem dX1_becomes_256 : decode cX1_becomes 256 = .ok (.getfield 82, 3) := dk_180 0 82 (dk_at dksX1_becomes_11 9 rfl rfl)
theorem dX1_becomes_259 : decode cX1_becomes 259 = .ok (.putfield 82, 3) := dk_181 0 82 (dk_at dksX1_becomes_11 12 rfl rfl)
theorem dX1_becomes_262 : decode cX1_becomes 262 = .ok (.return_, 1) := dk_177 (dk_at dksX1_becomes_11 15 rfl rfl)
theorem q106 : (Jvm.Cond.initialized "FrostRing$Field") ∈ lw_all := lw_g (lw_at lw_m1 2 rfl) rfl
theorem q351 : (Jvm.Cond.instantiable "FrostRing$Field" (20 : Nat)) ∈ lw_all := lw_g (lw_at lw_m2 7 rfl) rfl
theorem q395 : (Jvm.Cond.fieldLinkNest "FrostRing$Field" (158 : Nat) "FrostRing$Told" "stream" "[I" "FrostRing") ∈ lw_tbl := lw_at lw_m2 51 rfl
theorem q398 : (Jvm.Cond.fieldLinkNest "FrostRing$Field" (91 : Nat) "FrostRing$Told" "pipes" "Ljava/util/List;" "FrostRing") ∈ lw_tbl := lw_at lw_m2 54 rfl
theorem q401 : (Jvm.Cond.fieldLinkNest "FrostRing$Field" (110 : Nat) "FrostRing$Told" "houses" "Ljava/util/List;" "FrostRing") ∈ lw_tbl := lw_at lw_m2 57 rfl
theorem q407 : (Jvm.Cond.fieldLinkNest "FrostRing$Field" (116 : Nat) "FrostRing$Told" "far" "I" "FrostRing") ∈ lw_tbl := lw_at lw_m2 63 rfl
theorem q419 : (Jvm.Cond.fieldLinkNest "FrostRing$Field" (61 : Nat) "FrostRing$Told" "cold" "I" "FrostRing") ∈ lw_tbl := lw_at lw_m2 75 rfl
theorem q460 : (Jvm.Cond.fieldLinkNest "FrostRing$Field" (142 : Nat) "FrostRing$Ground" "lead" "I" "FrostRing") ∈ lw_tbl := lw_at lw_m2 116 rfl
theorem q462 : (Jvm.Cond.fieldLinkNest "FrostRing$Field" (140 : Nat) "FrostRing$Ground" "ice" "I" "FrostRing") ∈ lw_tbl := lw_at lw_m2 118 rfl
theorem q464 : (Jvm.Cond.fieldLinkNest "FrostRing$Field" (131 : Nat) "FrostRing$Ground" "latent" "I" "FrostRing") ∈ lw_tbl := lw_at lw_m2 120 rfl
theorem q466 : (Jvm.Cond.fieldLinkNest "FrostRing$Field" (184 : Nat) "FrostRing$Ground" "mark" "I" "FrostRing") ∈ lw_tbl := lw_at lw_m2 122 rfl
theorem q477 : (Jvm.Cond.instanceMethod ({ cls := "FrostRing$Field", name := "<init>", desc := "(LFrostRing$Told;)V" } : Jvm.MethodName)) ∈ lw_all := lw_g (lw_at lw_m2 133 rfl) rfl
theorem q478 : (Jvm.Cond.code ({ cls := "FrostRing$Field", name := "<init>", desc := "(LFrostRing$Told;)V" } : Jvm.MethodName) prog_4_method_1_code (2 : Nat) (Option.none : Option Jvm.ClassFile.FieldType)) ∈ lw_all := lw_g (lw_at lw_m2 134 rfl) rfl
theorem q479 : (Jvm.Cond.methodLink "FrostRing$Field" (3 : Nat) ({ cls := "java/lang/Object", name := "<init>", desc := "()V" } : Jvm.MethodName)) ∈ lw_all := lw_g (lw_at lw_m2 135 rfl) rfl
theorem q480 : (Jvm.Cond.classLink "FrostRing$Field" (25 : Nat) "java/util/ArrayList") ∈ lw_all := lw_g (lw_at lw_m2 136 rfl) rfl
theorem q481 : (Jvm.Cond.methodLink "FrostRing$Field" (27 : Nat) ({ cls := "java/util/ArrayList", name := "<init>", desc := "(I)V" } : Jvm.MethodName)) ∈ lw_all := lw_g (lw_at lw_m2 137 rfl) rfl
theorem q482 : (Jvm.Cond.methodLink "FrostRing$Field" (49 : Nat) ({ cls := "FrostRing$Field", name := "begins", desc := "(LFrostRing$Told;)V" } : Jvm.MethodName)) ∈ lw_all := lw_g (lw_at lw_m2 138 rfl) rfl
theorem q483 : (Jvm.Cond.instanceMethod ({ cls := "FrostRing$Field", name := "begins", desc := "(LFrostRing$Told;)V" } : Jvm.MethodName)) ∈ lw_all := lw_g (lw_at lw_m2 139 rfl) rfl
theorem q484 : (Jvm.Cond.selects "FrostRing$Field" ({ cls := "FrostRing$Field", name := "begins", desc := "(LFrostRing$Told;)V" } : Jvm.MethodName) ({ cls := "FrostRing$Field", name := "begins", desc := "(LFrostRing$Told;)V" } : Jvm.MethodName)) ∈ lw_all := lw_g (lw_at lw_m2 140 rfl) rfl
theorem q485 : (Jvm.Cond.code ({ cls := "FrostRing$Field", name := "begins", desc := "(LFrostRing$Told;)V" } : Jvm.MethodName) prog_4_method_2_code (3 : Nat) (Option.none : Option Jvm.ClassFile.FieldType)) ∈ lw_all := lw_g (lw_at lw_m2 141 rfl) rfl
theorem q486 : (Jvm.Cond.interfaceEntry "FrostRing$Field" (86 : Nat)) ∈ lw_tbl := lw_at lw_m2 142 rfl
theorem q487 : (Jvm.Cond.methodLink "FrostRing$Field" (86 : Nat) ({ cls := "java/util/List", name := "clear", desc := "()V" } : Jvm.MethodName)) ∈ lw_all := lw_g (lw_at lw_m2 143 rfl) rfl
theorem q496 : (Jvm.Cond.interfaceEntry "FrostRing$Field" (92 : Nat)) ∈ lw_tbl := lw_at lw_m2 152 rfl
theorem q497 : (Jvm.Cond.methodLink "FrostRing$Field" (92 : Nat) ({ cls := "java/util/List", name := "size", desc := "()I" } : Jvm.MethodName)) ∈ lw_all := lw_g (lw_at lw_m2 153 rfl) rfl
theorem q505 : (Jvm.Cond.interfaceEntry "FrostRing$Field" (96 : Nat)) ∈ lw_tbl := lw_at lw_m2 161 rfl
theorem q506 : (Jvm.Cond.methodLink "FrostRing$Field" (96 : Nat) ({ cls := "java/util/List", name := "get", desc := "(I)Ljava/lang/Object;" } : Jvm.MethodName)) ∈ lw_all := lw_g (lw_at lw_m2 162 rfl) rfl
theorem q524 : (Jvm.Cond.classLink "FrostRing$Field" (100 : Nat) "FrostRing$Pipe") ∈ lw_all := lw_g (lw_at lw_m2 180 rfl) rfl
theorem q525 : (Jvm.Cond.methodLink "FrostRing$Field" (102 : Nat) ({ cls := "FrostRing$Pipe", name := "copy", desc := "()LFrostRing$Pipe;" } : Jvm.MethodName)) ∈ lw_all := lw_g (lw_at lw_m2 181 rfl) rfl
theorem q536 : (Jvm.Cond.fieldLinkNest "FrostRing$Field" (164 : Nat) "FrostRing$Pipe" "cell" "I" "FrostRing") ∈ lw_tbl := lw_at lw_m2 192 rfl
theorem q540 : (Jvm.Cond.fieldLinkNest "FrostRing$Field" (167 : Nat) "FrostRing$Pipe" "through" "I" "FrostRing") ∈ lw_tbl := lw_at lw_m2 196 rfl
theorem q543 : (Jvm.Cond.fieldLinkNest "FrostRing$Field" (173 : Nat) "FrostRing$Pipe" "lead" "I" "FrostRing") ∈ lw_tbl := lw_at lw_m2 199 rfl
theorem q546 : (Jvm.Cond.fieldLinkNest "FrostRing$Field" (161 : Nat) "FrostRing$Pipe" "runs" "Z" "FrostRing") ∈ lw_tbl := lw_at lw_m2 202 rfl
theorem q549 : (Jvm.Cond.fieldLinkNest "FrostRing$Field" (178 : Nat) "FrostRing$Pipe" "took" "I" "FrostRing") ∈ lw_tbl := lw_at lw_m2 205 rfl
theorem q552 : (Jvm.Cond.fieldLinkNest "FrostRing$Field" (181 : Nat) "FrostRing$Pipe" "all" "I" "FrostRing") ∈ lw_tbl := lw_at lw_m2 208 rfl
theorem q568 : (Jvm.Cond.interfaceEntry "FrostRing$Field" (106 : Nat)) ∈ lw_tbl := lw_at lw_m2 224 rfl
theorem q569 : (Jvm.Cond.methodLink "FrostRing$Field" (106 : Nat) ({ cls := "java/util/List", name := "add", desc := "(Ljava/lang/Object;)Z" } : Jvm.MethodName)) ∈ lw_all := lw_g (lw_at lw_m2 225 rfl) rfl
theorem q609 : (Jvm.Cond.selects "FrostRing$Field" ({ cls := "java/lang/Object", name := "getClass", desc := "()Ljava/lang/Class;" } : Jvm.MethodName) ({ cls := "java/lang/Object", name := "getClass", desc := "()Ljava/lang/Class;" } : Jvm.MethodName)) ∈ lw_all := lw_g (lw_at lw_m3 25 rfl) rfl
theorem q637 : (Jvm.Cond.classLink "FrostRing$Field" (111 : Nat) "FrostRing$House") ∈ lw_all := lw_g (lw_at lw_m3 53 rfl) rfl
theorem q638 : (Jvm.Cond.methodLink "FrostRing$Field" (113 : Nat) ({ cls := "FrostRing$House", name := "copy", desc := "()LFrostRing$House;" } : Jvm.MethodName)) ∈ lw_all := lw_g (lw_at lw_m3 54 rfl) rfl
theorem q649 : (Jvm.Cond.fieldLinkNest "FrostRing$Field" (203 : Nat) "FrostRing$House" "column" "I" "FrostRing") ∈ lw_tbl := lw_at lw_m3 65 rfl
theorem q652 : (Jvm.Cond.fieldLinkNest "FrostRing$Field" (212 : Nat) "FrostRing$House" "limit" "I" "FrostRing") ∈ lw_tbl := lw_at lw_m3 68 rfl
theorem q655 : (Jvm.Cond.fieldLinkNest "FrostRing$Field" (200 : Nat) "FrostRing$House" "cracked" "I" "FrostRing") ∈ lw_tbl := lw_at lw_m3 71 rfl
theorem q665 : (Jvm.Cond.fieldLink "FrostRing$Field" (53 : Nat) "FrostRing$Field" "told" "LFrostRing$Told;") ∈ lw_all := lw_g (lw_at lw_m3 81 rfl) rfl
theorem q668 : (Jvm.Cond.fieldLink "FrostRing$Field" (9 : Nat) "FrostRing$Field" "warm" "[I") ∈ lw_all := lw_g (lw_at lw_m3 84 rfl) rfl
theorem q670 : (Jvm.Cond.fieldLink "FrostRing$Field" (15 : Nat) "FrostRing$Field" "ice" "[I") ∈ lw_all := lw_g (lw_at lw_m3 86 rfl) rfl
theorem q672 : (Jvm.Cond.fieldLink "FrostRing$Field" (18 : Nat) "FrostRing$Field" "came" "[I") ∈ lw_all := lw_g (lw_at lw_m3 88 rfl) rfl
theorem q673 : (Jvm.Cond.fieldLink "FrostRing$Field" (21 : Nat) "FrostRing$Field" "dug" "[Z") ∈ lw_all := lw_g (lw_at lw_m3 89 rfl) rfl
theorem q675 : (Jvm.Cond.fieldLink "FrostRing$Field" (30 : Nat) "FrostRing$Field" "pipes" "Ljava/util/List;") ∈ lw_all := lw_g (lw_at lw_m3 91 rfl) rfl
theorem q677 : (Jvm.Cond.fieldLink "FrostRing$Field" (34 : Nat) "FrostRing$Field" "houses" "Ljava/util/List;") ∈ lw_all := lw_g (lw_at lw_m3 93 rfl) rfl
theorem q679 : (Jvm.Cond.fieldLink "FrostRing$Field" (37 : Nat) "FrostRing$Field" "gaugeAt" "[I") ∈ lw_all := lw_g (lw_at lw_m3 95 rfl) rfl
theorem q681 : (Jvm.Cond.fieldLink "FrostRing$Field" (40 : Nat) "FrostRing$Field" "reading" "[I") ∈ lw_all := lw_g (lw_at lw_m3 97 rfl) rfl
theorem q683 : (Jvm.Cond.fieldLink "FrostRing$Field" (57 : Nat) "FrostRing$Field" "tick" "I") ∈ lw_all := lw_g (lw_at lw_m3 99 rfl) rfl
theorem q685 : (Jvm.Cond.fieldLink "FrostRing$Field" (66 : Nat) "FrostRing$Field" "cold" "I") ∈ lw_all := lw_g (lw_at lw_m3 101 rfl) rfl
theorem q687 : (Jvm.Cond.fieldLink "FrostRing$Field" (67 : Nat) "FrostRing$Field" "taken" "I") ∈ lw_all := lw_g (lw_at lw_m3 103 rfl) rfl
theorem q689 : (Jvm.Cond.fieldLink "FrostRing$Field" (70 : Nat) "FrostRing$Field" "rim" "I") ∈ lw_all := lw_g (lw_at lw_m3 105 rfl) rfl
theorem q691 : (Jvm.Cond.fieldLink "FrostRing$Field" (73 : Nat) "FrostRing$Field" "brought" "I") ∈ lw_all := lw_g (lw_at lw_m3 107 rfl) rfl
theorem q693 : (Jvm.Cond.fieldLink "FrostRing$Field" (76 : Nat) "FrostRing$Field" "gone" "I") ∈ lw_all := lw_g (lw_at lw_m3 109 rfl) rfl
theorem q695 : (Jvm.Cond.fieldLink "FrostRing$Field" (118 : Nat) "FrostRing$Field" "begun" "I") ∈ lw_all := lw_g (lw_at lw_m3 111 rfl) rfl
theorem q697 : (Jvm.Cond.fieldLink "FrostRing$Field" (79 : Nat) "FrostRing$Field" "floods" "I") ∈ lw_all := lw_g (lw_at lw_m3 113 rfl) rfl
theorem q699 : (Jvm.Cond.fieldLink "FrostRing$Field" (82 : Nat) "FrostRing$Field" "isFlooded" "Z") ∈ lw_all := lw_g (lw_at lw_m3 115 rfl) rfl
theorem q701 : (Jvm.Cond.fieldLink "FrostRing$Field" (43 : Nat) "FrostRing$Field" "far" "[I") ∈ lw_all := lw_g (lw_at lw_m3 117 rfl) rfl
theorem q702 : (Jvm.Cond.fieldLink "FrostRing$Field" (46 : Nat) "FrostRing$Field" "queue" "[I") ∈ lw_all := lw_g (lw_at lw_m3 118 rfl) rfl
theorem q703 : (Jvm.Cond.lays "FrostRing$Field" "FrostRing$Field" "told" "LFrostRing$Told;") ∈ lw_all := lw_g (lw_at lw_m3 119 rfl) rfl
theorem q704 : (Jvm.Cond.soleField "FrostRing$Field" "told") ∈ lw_all := lw_g (lw_at lw_m3 120 rfl) rfl
theorem q705 : (Jvm.Cond.laysFinal "FrostRing$Field" "FrostRing$Field" "warm" "[I") ∈ lw_all := lw_g (lw_at lw_m3 121 rfl) rfl
theorem q706 : (Jvm.Cond.soleField "FrostRing$Field" "warm") ∈ lw_all := lw_g (lw_at lw_m3 122 rfl) rfl
theorem q707 : (Jvm.Cond.laysFinal "FrostRing$Field" "FrostRing$Field" "ice" "[I") ∈ lw_all := lw_g (lw_at lw_m3 123 rfl) rfl
theorem q708 : (Jvm.Cond.soleField "FrostRing$Field" "ice") ∈ lw_all := lw_g (lw_at lw_m3 124 rfl) rfl
theorem q709 : (Jvm.Cond.laysFinal "FrostRing$Field" "FrostRing$Field" "came" "[I") ∈ lw_all := lw_g (lw_at lw_m3 125 rfl) rfl
theorem q710 : (Jvm.Cond.soleField "FrostRing$Field" "came") ∈ lw_all := lw_g (lw_at lw_m3 126 rfl) rfl
theorem q711 : (Jvm.Cond.laysFinal "FrostRing$Field" "FrostRing$Field" "dug" "[Z") ∈ lw_all := lw_g (lw_at lw_m3 127 rfl) rfl
theorem q712 : (Jvm.Cond.soleField "FrostRing$Field" "dug") ∈ lw_all := lw_g (lw_at lw_m3 128 rfl) rfl
theorem q713 : (Jvm.Cond.laysFinal "FrostRing$Field" "FrostRing$Field" "pipes" "Ljava/util/List;") ∈ lw_all := lw_g (lw_at lw_m3 129 rfl) rfl
theorem q714 : (Jvm.Cond.soleField "FrostRing$Field" "pipes") ∈ lw_all := lw_g (lw_at lw_m3 130 rfl) rfl
theorem q715 : (Jvm.Cond.laysFinal "FrostRing$Field" "FrostRing$Field" "houses" "Ljava/util/List;") ∈ lw_all := lw_g (lw_at lw_m3 131 rfl) rfl
theorem q716 : (Jvm.Cond.soleField "FrostRing$Field" "houses") ∈ lw_all := lw_g (lw_at lw_m3 132 rfl) rfl
theorem q717 : (Jvm.Cond.laysFinal "FrostRing$Field" "FrostRing$Field" "gaugeAt" "[I") ∈ lw_all := lw_g (lw_at lw_m3 133 rfl) rfl
theorem q718 : (Jvm.Cond.soleField "FrostRing$Field" "gaugeAt") ∈ lw_all := lw_g (lw_at lw_m3 134 rfl) rfl
theorem q719 : (Jvm.Cond.laysFinal "FrostRing$Field" "FrostRing$Field" "reading" "[I") ∈ lw_all := lw_g (lw_at lw_m3 135 rfl) rfl
theorem q720 : (Jvm.Cond.soleField "FrostRing$Field" "reading") ∈ lw_all := lw_g (lw_at lw_m3 136 rfl) rfl
theorem q721 : (Jvm.Cond.lays "FrostRing$Field" "FrostRing$Field" "tick" "I") ∈ lw_all := lw_g (lw_at lw_m3 137 rfl) rfl
theorem q722 : (Jvm.Cond.soleField "FrostRing$Field" "tick") ∈ lw_all := lw_g (lw_at lw_m3 138 rfl) rfl
theorem q723 : (Jvm.Cond.lays "FrostRing$Field" "FrostRing$Field" "cold" "I") ∈ lw_all := lw_g (lw_at lw_m3 139 rfl) rfl
theorem q724 : (Jvm.Cond.soleField "FrostRing$Field" "cold") ∈ lw_all := lw_g (lw_at lw_m3 140 rfl) rfl
theorem q725 : (Jvm.Cond.lays "FrostRing$Field" "FrostRing$Field" "taken" "I") ∈ lw_all := lw_g (lw_at lw_m3 141 rfl) rfl
theorem q726 : (Jvm.Cond.soleField "FrostRing$Field" "taken") ∈ lw_all := lw_g (lw_at lw_m3 142 rfl) rfl
theorem q727 : (Jvm.Cond.lays "FrostRing$Field" "FrostRing$Field" "rim" "I") ∈ lw_all := lw_g (lw_at lw_m3 143 rfl) rfl
theorem q728 : (Jvm.Cond.soleField "FrostRing$Field" "rim") ∈ lw_all := lw_g (lw_at lw_m3 144 rfl) rfl
theorem q729 : (Jvm.Cond.lays "FrostRing$Field" "FrostRing$Field" "brought" "I") ∈ lw_all := lw_g (lw_at lw_m3 145 rfl) rfl
theorem q730 : (Jvm.Cond.soleField "FrostRing$Field" "brought") ∈ lw_all := lw_g (lw_at lw_m3 146 rfl) rfl
theorem q731 : (Jvm.Cond.lays "FrostRing$Field" "FrostRing$Field" "gone" "I") ∈ lw_all := lw_g (lw_at lw_m3 147 rfl) rfl
theorem q732 : (Jvm.Cond.soleField "FrostRing$Field" "gone") ∈ lw_all := lw_g (lw_at lw_m3 148 rfl) rfl
theorem q733 : (Jvm.Cond.lays "FrostRing$Field" "FrostRing$Field" "begun" "I") ∈ lw_all := lw_g (lw_at lw_m3 149 rfl) rfl
theorem q734 : (Jvm.Cond.soleField "FrostRing$Field" "begun") ∈ lw_all := lw_g (lw_at lw_m3 150 rfl) rfl
theorem q735 : (Jvm.Cond.lays "FrostRing$Field" "FrostRing$Field" "floods" "I") ∈ lw_all := lw_g (lw_at lw_m3 151 rfl) rfl
theorem q736 : (Jvm.Cond.soleField "FrostRing$Field" "floods") ∈ lw_all := lw_g (lw_at lw_m3 152 rfl) rfl
theorem q737 : (Jvm.Cond.lays "FrostRing$Field" "FrostRing$Field" "isFlooded" "Z") ∈ lw_all := lw_g (lw_at lw_m3 153 rfl) rfl
theorem q738 : (Jvm.Cond.soleField "FrostRing$Field" "isFlooded") ∈ lw_all := lw_g (lw_at lw_m3 154 rfl) rfl
theorem q739 : (Jvm.Cond.laysFinal "FrostRing$Field" "FrostRing$Field" "far" "[I") ∈ lw_all := lw_g (lw_at lw_m3 155 rfl) rfl
theorem q740 : (Jvm.Cond.soleField "FrostRing$Field" "far") ∈ lw_all := lw_g (lw_at lw_m3 156 rfl) rfl
theorem q741 : (Jvm.Cond.laysFinal "FrostRing$Field" "FrostRing$Field" "queue" "[I") ∈ lw_all := lw_g (lw_at lw_m3 157 rfl) rfl
theorem q742 : (Jvm.Cond.soleField "FrostRing$Field" "queue") ∈ lw_all := lw_g (lw_at lw_m3 158 rfl) rfl
theorem q743 : (Jvm.Cond.superclass "FrostRing$Field" "java/lang/Object") ∈ lw_all := lw_g (lw_at lw_m3 159 rfl) rfl
theorem q1105 : (Jvm.Cond.instanceMethod ({ cls := "FrostRing$Field", name := "ticks", desc := "()V" } : Jvm.MethodName)) ∈ lw_all := lw_g (lw_at lw_m5 41 rfl) rfl
theorem q1106 : (Jvm.Cond.selects "FrostRing$Field" ({ cls := "FrostRing$Field", name := "ticks", desc := "()V" } : Jvm.MethodName) ({ cls := "FrostRing$Field", name := "ticks", desc := "()V" } : Jvm.MethodName)) ∈ lw_all := lw_g (lw_at lw_m5 42 rfl) rfl
theorem q1107 : (Jvm.Cond.code ({ cls := "FrostRing$Field", name := "ticks", desc := "()V" } : Jvm.MethodName) prog_4_method_12_code (3 : Nat) (Option.none : Option Jvm.ClassFile.FieldType)) ∈ lw_all := lw_g (lw_at lw_m5 43 rfl) rfl
theorem q1108 : (Jvm.Cond.methodLink "FrostRing$Field" (187 : Nat) ({ cls := "FrostRing$Field", name := "leads", desc := "(I)V" } : Jvm.MethodName)) ∈ lw_all := lw_g (lw_at lw_m5 44 rfl) rfl
theorem q1109 : (Jvm.Cond.privateMethod ({ cls := "FrostRing$Field", name := "leads", desc := "(I)V" } : Jvm.MethodName)) ∈ lw_tbl := lw_at lw_m5 45 rfl
theorem q1110 : (Jvm.Cond.instanceMethod ({ cls := "FrostRing$Field", name := "leads", desc := "(I)V" } : Jvm.MethodName)) ∈ lw_all := lw_g (lw_at lw_m5 46 rfl) rfl
theorem q1111 : (Jvm.Cond.code ({ cls := "FrostRing$Field", name := "leads", desc := "(I)V" } : Jvm.MethodName) prog_4_method_7_code (5 : Nat) (Option.none : Option Jvm.ClassFile.FieldType)) ∈ lw_all := lw_g (lw_at lw_m5 47 rfl) rfl
theorem q1112 : (Jvm.Cond.methodLinkNest "FrostRing$Field" (145 : Nat) ({ cls := "FrostRing", name := "beside", desc := "(II)I" } : Jvm.MethodName) "FrostRing") ∈ lw_tbl := lw_at lw_m5 48 rfl
theorem q1115 : (Jvm.Cond.methodLink "FrostRing$Field" (149 : Nat) ({ cls := "FrostRing$Field", name := "leadOf", desc := "(I)I" } : Jvm.MethodName)) ∈ lw_all := lw_g (lw_at lw_m5 51 rfl) rfl
theorem q1116 : (Jvm.Cond.privateMethod ({ cls := "FrostRing$Field", name := "leadOf", desc := "(I)I" } : Jvm.MethodName)) ∈ lw_tbl := lw_at lw_m5 52 rfl
theorem q1117 : (Jvm.Cond.instanceMethod ({ cls := "FrostRing$Field", name := "leadOf", desc := "(I)I" } : Jvm.MethodName)) ∈ lw_all := lw_g (lw_at lw_m5 53 rfl) rfl
theorem q1118 : (Jvm.Cond.code ({ cls := "FrostRing$Field", name := "leadOf", desc := "(I)I" } : Jvm.MethodName) prog_4_method_5_code (2 : Nat) (Option.some Jvm.ClassFile.FieldType.int)) ∈ lw_all := lw_g (lw_at lw_m5 54 rfl) rfl
theorem q1119 : (Jvm.Cond.methodLink "FrostRing$Field" (136 : Nat) ({ cls := "FrostRing$Field", name := "isFrozen", desc := "(I)Z" } : Jvm.MethodName)) ∈ lw_all := lw_g (lw_at lw_m5 55 rfl) rfl
theorem q1120 : (Jvm.Cond.instanceMethod ({ cls := "FrostRing$Field", name := "isFrozen", desc := "(I)Z" } : Jvm.MethodName)) ∈ lw_all := lw_g (lw_at lw_m5 56 rfl) rfl
theorem q1121 : (Jvm.Cond.selects "FrostRing$Field" ({ cls := "FrostRing$Field", name := "isFrozen", desc := "(I)Z" } : Jvm.MethodName) ({ cls := "FrostRing$Field", name := "isFrozen", desc := "(I)Z" } : Jvm.MethodName)) ∈ lw_all := lw_g (lw_at lw_m5 57 rfl) rfl
theorem q1122 : (Jvm.Cond.code ({ cls := "FrostRing$Field", name := "isFrozen", desc := "(I)Z" } : Jvm.MethodName) prog_4_method_4_code (2 : Nat) (Option.some Jvm.ClassFile.FieldType.boolean)) ∈ lw_all := lw_g (lw_at lw_m5 58 rfl) rfl
theorem q1123 : (Jvm.Cond.methodLink "FrostRing$Field" (127 : Nat) ({ cls := "FrostRing$Told", name := "of", desc := "(I)LFrostRing$Ground;" } : Jvm.MethodName)) ∈ lw_all := lw_g (lw_at lw_m5 59 rfl) rfl
theorem q1127 : (Jvm.Cond.methodLink "FrostRing$Field" (153 : Nat) ({ cls := "java/lang/Math", name := "min", desc := "(II)I" } : Jvm.MethodName)) ∈ lw_all := lw_g (lw_at lw_m5 63 rfl) rfl
theorem q1128 : (Jvm.Cond.methodLink "FrostRing$Field" (190 : Nat) ({ cls := "FrostRing$Field", name := "streams", desc := "(I)V" } : Jvm.MethodName)) ∈ lw_all := lw_g (lw_at lw_m5 64 rfl) rfl
theorem q1129 : (Jvm.Cond.privateMethod ({ cls := "FrostRing$Field", name := "streams", desc := "(I)V" } : Jvm.MethodName)) ∈ lw_tbl := lw_at lw_m5 65 rfl
theorem q1130 : (Jvm.Cond.instanceMethod ({ cls := "FrostRing$Field", name := "streams", desc := "(I)V" } : Jvm.MethodName)) ∈ lw_all := lw_g (lw_at lw_m5 66 rfl) rfl
theorem q1131 : (Jvm.Cond.code ({ cls := "FrostRing$Field", name := "streams", desc := "(I)V" } : Jvm.MethodName) prog_4_method_8_code (5 : Nat) (Option.none : Option Jvm.ClassFile.FieldType)) ∈ lw_all := lw_g (lw_at lw_m5 67 rfl) rfl
theorem q1132 : (Jvm.Cond.methodLink "FrostRing$Field" (193 : Nat) ({ cls := "FrostRing$Field", name := "cools", desc := "()V" } : Jvm.MethodName)) ∈ lw_all := lw_g (lw_at lw_m5 68 rfl) rfl
theorem q1133 : (Jvm.Cond.privateMethod ({ cls := "FrostRing$Field", name := "cools", desc := "()V" } : Jvm.MethodName)) ∈ lw_tbl := lw_at lw_m5 69 rfl
theorem q1134 : (Jvm.Cond.instanceMethod ({ cls := "FrostRing$Field", name := "cools", desc := "()V" } : Jvm.MethodName)) ∈ lw_all := lw_g (lw_at lw_m5 70 rfl) rfl
theorem q1135 : (Jvm.Cond.code ({ cls := "FrostRing$Field", name := "cools", desc := "()V" } : Jvm.MethodName) prog_4_method_10_code (6 : Nat) (Option.none : Option Jvm.ClassFile.FieldType)) ∈ lw_all := lw_g (lw_at lw_m5 71 rfl) rfl
theorem q1136 : (Jvm.Cond.methodLink "FrostRing$Field" (174 : Nat) ({ cls := "FrostRing$Field", name := "wants", desc := "(LFrostRing$Pipe;)I" } : Jvm.MethodName)) ∈ lw_all := lw_g (lw_at lw_m5 72 rfl) rfl
theorem q1137 : (Jvm.Cond.privateMethod ({ cls := "FrostRing$Field", name := "wants", desc := "(LFrostRing$Pipe;)I" } : Jvm.MethodName)) ∈ lw_tbl := lw_at lw_m5 73 rfl
theorem q1138 : (Jvm.Cond.instanceMethod ({ cls := "FrostRing$Field", name := "wants", desc := "(LFrostRing$Pipe;)I" } : Jvm.MethodName)) ∈ lw_all := lw_g (lw_at lw_m5 74 rfl) rfl
theorem q1139 : (Jvm.Cond.code ({ cls := "FrostRing$Field", name := "wants", desc := "(LFrostRing$Pipe;)I" } : Jvm.MethodName) prog_4_method_9_code (2 : Nat) (Option.some Jvm.ClassFile.FieldType.int)) ∈ lw_all := lw_g (lw_at lw_m5 75 rfl) rfl
theorem q1140 : (Jvm.Cond.methodLink "FrostRing$Field" (170 : Nat) ({ cls := "java/lang/Math", name := "max", desc := "(II)I" } : Jvm.MethodName)) ∈ lw_all := lw_g (lw_at lw_m5 76 rfl) rfl
theorem q1141 : (Jvm.Cond.methodLink "FrostRing$Field" (196 : Nat) ({ cls := "FrostRing$Field", name := "takes", desc := "(II)V" } : Jvm.MethodName)) ∈ lw_all := lw_g (lw_at lw_m5 77 rfl) rfl
theorem q1142 : (Jvm.Cond.privateMethod ({ cls := "FrostRing$Field", name := "takes", desc := "(II)V" } : Jvm.MethodName)) ∈ lw_tbl := lw_at lw_m5 78 rfl
theorem q1143 : (Jvm.Cond.instanceMethod ({ cls := "FrostRing$Field", name := "takes", desc := "(II)V" } : Jvm.MethodName)) ∈ lw_all := lw_g (lw_at lw_m5 79 rfl) rfl
theorem q1144 : (Jvm.Cond.code ({ cls := "FrostRing$Field", name := "takes", desc := "(II)V" } : Jvm.MethodName) prog_4_method_11_code (7 : Nat) (Option.none : Option Jvm.ClassFile.FieldType)) ∈ lw_all := lw_g (lw_at lw_m5 80 rfl) rfl
theorem q1145 : (Jvm.Cond.methodLink "FrostRing$Field" (206 : Nat) ({ cls := "FrostRing$Field", name := "lift", desc := "(I)I" } : Jvm.MethodName)) ∈ lw_all := lw_g (lw_at lw_m5 81 rfl) rfl
theorem q1146 : (Jvm.Cond.instanceMethod ({ cls := "FrostRing$Field", name := "lift", desc := "(I)I" } : Jvm.MethodName)) ∈ lw_all := lw_g (lw_at lw_m5 82 rfl) rfl
theorem q1147 : (Jvm.Cond.selects "FrostRing$Field" ({ cls := "FrostRing$Field", name := "lift", desc := "(I)I" } : Jvm.MethodName) ({ cls := "FrostRing$Field", name := "lift", desc := "(I)I" } : Jvm.MethodName)) ∈ lw_all := lw_g (lw_at lw_m5 83 rfl) rfl
theorem q1148 : (Jvm.Cond.code ({ cls := "FrostRing$Field", name := "lift", desc := "(I)I" } : Jvm.MethodName) prog_4_method_14_code (4 : Nat) (Option.some Jvm.ClassFile.FieldType.int)) ∈ lw_all := lw_g (lw_at lw_m5 84 rfl) rfl
theorem q1149 : (Jvm.Cond.methodLink "FrostRing$Field" (209 : Nat) ({ cls := "java/lang/Math", name := "abs", desc := "(I)I" } : Jvm.MethodName)) ∈ lw_all := lw_g (lw_at lw_m5 85 rfl) rfl
theorem q1152 : (Jvm.Cond.methodLink "FrostRing$Field" (215 : Nat) ({ cls := "FrostRing$Field", name := "isOpenDug", desc := "()Z" } : Jvm.MethodName)) ∈ lw_all := lw_g (lw_at lw_m5 88 rfl) rfl
theorem q1153 : (Jvm.Cond.privateMethod ({ cls := "FrostRing$Field", name := "isOpenDug", desc := "()Z" } : Jvm.MethodName)) ∈ lw_tbl := lw_at lw_m5 89 rfl
theorem q1154 : (Jvm.Cond.instanceMethod ({ cls := "FrostRing$Field", name := "isOpenDug", desc := "()Z" } : Jvm.MethodName)) ∈ lw_all := lw_g (lw_at lw_m5 90 rfl) rfl
theorem q1155 : (Jvm.Cond.code ({ cls := "FrostRing$Field", name := "isOpenDug", desc := "()Z" } : Jvm.MethodName) prog_4_method_13_code (3 : Nat) (Option.some Jvm.ClassFile.FieldType.boolean)) ∈ lw_all := lw_g (lw_at lw_m5 91 rfl) rfl
theorem q1156 : (Jvm.Cond.methodLink "FrostRing$Field" (219 : Nat) ({ cls := "FrostRing$Field", name := "isShut", desc := "()Z" } : Jvm.MethodName)) ∈ lw_all := lw_g (lw_at lw_m5 92 rfl) rfl
theorem q1157 : (Jvm.Cond.instanceMethod ({ cls := "FrostRing$Field", name := "isShut", desc := "()Z" } : Jvm.MethodName)) ∈ lw_all := lw_g (lw_at lw_m5 93 rfl) rfl
theorem q1158 : (Jvm.Cond.selects "FrostRing$Field" ({ cls := "FrostRing$Field", name := "isShut", desc := "()Z" } : Jvm.MethodName) ({ cls := "FrostRing$Field", name := "isShut", desc := "()Z" } : Jvm.MethodName)) ∈ lw_all := lw_g (lw_at lw_m5 94 rfl) rfl
theorem q1159 : (Jvm.Cond.code ({ cls := "FrostRing$Field", name := "isShut", desc := "()Z" } : Jvm.MethodName) prog_4_method_17_code (1 : Nat) (Option.some Jvm.ClassFile.FieldType.boolean)) ∈ lw_all := lw_g (lw_at lw_m5 95 rfl) rfl
theorem q1160 : (Jvm.Cond.methodLink "FrostRing$Field" (231 : Nat) ({ cls := "FrostRing$Field", name := "way", desc := "()I" } : Jvm.MethodName)) ∈ lw_all := lw_g (lw_at lw_m5 96 rfl) rfl
theorem q1161 : (Jvm.Cond.instanceMethod ({ cls := "FrostRing$Field", name := "way", desc := "()I" } : Jvm.MethodName)) ∈ lw_all := lw_g (lw_at lw_m5 97 rfl) rfl
theorem q1162 : (Jvm.Cond.selects "FrostRing$Field" ({ cls := "FrostRing$Field", name := "way", desc := "()I" } : Jvm.MethodName) ({ cls := "FrostRing$Field", name := "way", desc := "()I" } : Jvm.MethodName)) ∈ lw_all := lw_g (lw_at lw_m5 98 rfl) rfl
theorem q1163 : (Jvm.Cond.code ({ cls := "FrostRing$Field", name := "way", desc := "()I" } : Jvm.MethodName) prog_4_method_16_code (6 : Nat) (Option.some Jvm.ClassFile.FieldType.int)) ∈ lw_all := lw_g (lw_at lw_m5 99 rfl) rfl
theorem q1164 : (Jvm.Cond.methodLink "FrostRing$Field" (222 : Nat) ({ cls := "FrostRing$Told", name := "isShaft", desc := "(I)Z" } : Jvm.MethodName)) ∈ lw_all := lw_g (lw_at lw_m5 100 rfl) rfl
theorem q1170 : (Jvm.Cond.methodLink "FrostRing$Field" (225 : Nat) ({ cls := "FrostRing$Field", name := "isBesideShaft", desc := "(I)Z" } : Jvm.MethodName)) ∈ lw_all := lw_g (lw_at lw_m5 106 rfl) rfl
theorem q1171 : (Jvm.Cond.privateMethod ({ cls := "FrostRing$Field", name := "isBesideShaft", desc := "(I)Z" } : Jvm.MethodName)) ∈ lw_tbl := lw_at lw_m5 107 rfl
theorem q1172 : (Jvm.Cond.instanceMethod ({ cls := "FrostRing$Field", name := "isBesideShaft", desc := "(I)Z" } : Jvm.MethodName)) ∈ lw_all := lw_g (lw_at lw_m5 108 rfl) rfl
theorem q1173 : (Jvm.Cond.code ({ cls := "FrostRing$Field", name := "isBesideShaft", desc := "(I)Z" } : Jvm.MethodName) prog_4_method_15_code (4 : Nat) (Option.some Jvm.ClassFile.FieldType.boolean)) ∈ lw_all := lw_g (lw_at lw_m5 109 rfl) rfl
theorem q1174 : (Jvm.Cond.methodLinkNest "FrostRing$Field" (228 : Nat) ({ cls := "FrostRing", name := "isRim", desc := "(I)Z" } : Jvm.MethodName) "FrostRing") ∈ lw_tbl := lw_at lw_m5 110 rfl
theorem q1202 : (Jvm.Cond.instanceMethod ({ cls := "FrostRing$Field", name := "heat", desc := "()I" } : Jvm.MethodName)) ∈ lw_all := lw_g (lw_at lw_m5 138 rfl) rfl
theorem q1203 : (Jvm.Cond.selects "FrostRing$Field" ({ cls := "FrostRing$Field", name := "heat", desc := "()I" } : Jvm.MethodName) ({ cls := "FrostRing$Field", name := "heat", desc := "()I" } : Jvm.MethodName)) ∈ lw_all := lw_g (lw_at lw_m5 139 rfl) rfl
theorem q1204 : (Jvm.Cond.code ({ cls := "FrostRing$Field", name := "heat", desc := "()I" } : Jvm.MethodName) prog_4_method_6_code (3 : Nat) (Option.some Jvm.ClassFile.FieldType.int)) ∈ lw_all := lw_g (lw_at lw_m5 140 rfl) rfl
theorem q1323 : (Jvm.Cond.instanceMethod ({ cls := "FrostRing$Field", name := "thick", desc := "()I" } : Jvm.MethodName)) ∈ lw_all := lw_g (lw_at lw_m6 19 rfl) rfl
theorem q1324 : (Jvm.Cond.selects "FrostRing$Field" ({ cls := "FrostRing$Field", name := "thick", desc := "()I" } : Jvm.MethodName) ({ cls := "FrostRing$Field", name := "thick", desc := "()I" } : Jvm.MethodName)) ∈ lw_all := lw_g (lw_at lw_m6 20 rfl) rfl
theorem q1325 : (Jvm.Cond.code ({ cls := "FrostRing$Field", name := "thick", desc := "()I" } : Jvm.MethodName) prog_4_method_19_code (5 : Nat) (Option.some Jvm.ClassFile.FieldType.int)) ∈ lw_all := lw_g (lw_at lw_m6 21 rfl) rfl
theorem q1326 : (Jvm.Cond.methodLink "FrostRing$Field" (234 : Nat) ({ cls := "FrostRing$Field", name := "costOf", desc := "(I)I" } : Jvm.MethodName)) ∈ lw_all := lw_g (lw_at lw_m6 22 rfl) rfl
theorem q1327 : (Jvm.Cond.privateMethod ({ cls := "FrostRing$Field", name := "costOf", desc := "(I)I" } : Jvm.MethodName)) ∈ lw_tbl := lw_at lw_m6 23 rfl
theorem q1328 : (Jvm.Cond.instanceMethod ({ cls := "FrostRing$Field", name := "costOf", desc := "(I)I" } : Jvm.MethodName)) ∈ lw_all := lw_g (lw_at lw_m6 24 rfl) rfl
theorem q1329 : (Jvm.Cond.code ({ cls := "FrostRing$Field", name := "costOf", desc := "(I)I" } : Jvm.MethodName) prog_4_method_18_code (2 : Nat) (Option.some Jvm.ClassFile.FieldType.int)) ∈ lw_all := lw_g (lw_at lw_m6 25 rfl) rfl
theorem q1399 : (Jvm.Cond.instanceMethod ({ cls := "FrostRing$Field", name := "becomes", desc := "(LFrostRing$Field;)V" } : Jvm.MethodName)) ∈ lw_all := lw_g (lw_at lw_m6 95 rfl) rfl
theorem q1400 : (Jvm.Cond.selects "FrostRing$Field" ({ cls := "FrostRing$Field", name := "becomes", desc := "(LFrostRing$Field;)V" } : Jvm.MethodName) ({ cls := "FrostRing$Field", name := "becomes", desc := "(LFrostRing$Field;)V" } : Jvm.MethodName)) ∈ lw_all := lw_g (lw_at lw_m6 96 rfl) rfl
theorem q1401 : (Jvm.Cond.code ({ cls := "FrostRing$Field", name := "becomes", desc := "(LFrostRing$Field;)V" } : Jvm.MethodName) prog_4_method_3_code (3 : Nat) (Option.none : Option Jvm.ClassFile.FieldType)) ∈ lw_all := lw_g (lw_at lw_m6 97 rfl) rfl
theorem q1402 : (Jvm.Cond.methodLink "FrostRing$Field" (121 : Nat) ({ cls := "java/lang/System", name := "arraycopy", desc := "(Ljava/lang/Object;ILjava/lang/Object;II)V" } : Jvm.MethodName)) ∈ lw_all := lw_g (lw_at lw_m6 98 rfl) rfl
theorem q2040 : (Jvm.Cond.castable "FrostRing$Field" "java/lang/Object") ∈ lw_tbl := lw_at lw_m9 16 rfl
theorem in_X1 : ∀ w ∈ wsX10, w ∈ lw_all := lw_in wsX10 [703, 705, 707, 709, 711, 713, 715, 717, 719, 721, 723, 725, 727, 729, 731, 733, 735, 737, 739, 741] (by decide +kernel) (by decide +kernel)
/-! FrostRing$Told -/
set_option maxRecDepth 100000
def RX2 : String := "FrostRing$Told"
def TX2 : u_T := fun k => match k with
  | 0 => ("FrostRing$Told", "grounds", "[LFrostRing$Ground;", true)
  | 1 => ("FrostRing$Told", "laid", "[I", true)
  | 2 => ("FrostRing$Told", "stream", "[I", true)
  | 3 => ("FrostRing$Told", "pipes", "Ljava/util/List;", true)
  | 4 => ("FrostRing$Told", "houses", "Ljava/util/List;", true)
  | 5 => ("FrostRing$Told", "rules", "Ljava/util/List;", true)
  | 6 => ("FrostRing$Told", "far", "I", false)
  | 7 => ("FrostRing$Told", "left", "I", false)
  | 8 => ("FrostRing$Told", "top", "I", false)
  | 9 => ("FrostRing$Told", "right", "I", false)
  | 10 => ("FrostRing$Told", "bottom", "I", false)
  | 11 => ("FrostRing$Told", "cold", "I", false)
  | _ => ("FrostRing$Told", "lines", "I", false)
def tyX2 : Nat → FieldType := fun k => match k with
  | 0 => .array (.object "FrostRing$Ground")
  | 1 => .array .int
  | 2 => .array .int
  | 3 => .object "java/util/List"
  | 4 => .object "java/util/List"
  | 5 => .object "java/util/List"
  | 6 => .int
  | 7 => .int
  | 8 => .int
  | 9 => .int
  | 10 => .int
  | 11 => .int
  | _ => .int
abbrev wsX20 : List Cond := u_ws RX2 TX2 13
set_option maxRecDepth 100000 in
theorem nmX2 : ∀ a, a < 13 → ∀ b, b < 13 → a ≠ b → (TX2 a).2.1 ≠ (TX2 b).2.1 := by decide +kernel
set_option maxRecDepth 100000 in
theorem tyX2_ok : ∀ k, k < 13 → parseFieldDescriptor (TX2 k).2.2.1 = some (tyX2 k) := by decide +kernel
abbrev cX2_init : ByteArray := prog_13_method_1_code
def yX2_init : MethodName := ⟨RX2, "<init>", "()V"⟩
def dkwX2_init_4 : List UInt8 := [2, 79, 132, 1, 1, 167, 255, 240, 177]
abbrev dktX2_init_4 : List UInt8 := dkwX2_init_4 ++ []
def dkwX2_init_3 : List UInt8 := [42, 2, 181, 0, 43, 42, 18, 46, 181, 0, 47, 3, 60, 27, 16, 12, 162, 0, 16, 42, 180, 0, 21, 27]
abbrev dktX2_init_3 : List UInt8 := dkwX2_init_3 ++ dktX2_init_4
def dkwX2_init_2 : List UInt8 := [183, 0, 26, 181, 0, 33, 42, 187, 0, 24, 89, 7, 183, 0, 26, 181, 0, 36, 42, 16, 100, 181, 0, 39]
abbrev dktX2_init_2 : List UInt8 := dkwX2_init_2 ++ dktX2_init_3
def dkwX2_init_1 : List UInt8 := [188, 10, 181, 0, 21, 42, 187, 0, 24, 89, 7, 183, 0, 26, 181, 0, 29, 42, 187, 0, 24, 89, 7]
abbrev dktX2_init_1 : List UInt8 := dkwX2_init_1 ++ dktX2_init_2
def dkwX2_init_0 : List UInt8 := [42, 183, 0, 3, 42, 7, 189, 0, 9, 181, 0, 11, 42, 17, 0, 144, 188, 10, 181, 0, 17, 42, 16, 12]
abbrev dktX2_init_0 : List UInt8 := dkwX2_init_0 ++ dktX2_init_1
theorem dksX2_init_0 : cX2_init.data.toList.drop 0 = dktX2_init_0 := by decide +kernel
theorem dksX2_init_1 : cX2_init.data.toList.drop 24 = dktX2_init_1 := dk_seg dksX2_init_0 24 rfl rfl
theorem dksX2_init_2 : cX2_init.data.toList.drop 47 = dktX2_init_2 := dk_seg dksX2_init_1 23 rfl rfl
theorem dksX2_init_3 : cX2_init.data.toList.drop 71 = dktX2_init_3 := dk_seg dksX2_init_2 24 rfl rfl
theorem dksX2_init_4 : cX2_init.data.toList.drop 95 = dktX2_init_4 := dk_seg dksX2_init_3 24 rfl rfl
theorem dX2_init_0 : decode cX2_init 0 = .ok (.aload_n 0, 1) := dk_42 (dk_at dksX2_init_0 0 rfl rfl)
theorem dX2_init_1 : decode cX2_init 1 = .ok (.invokespecial 3, 3) := dk_183 0 3 (dk_at dksX2_init_0 1 rfl rfl)
theorem dX2_init_4 : decode cX2_init 4 = .ok (.aload_n 0, 1) := dk_42 (dk_at dksX2_init_0 4 rfl rfl)
theorem dX2_init_5 : decode cX2_init 5 = .ok (.iconst 4, 1) := dk_7 (dk_at dksX2_init_0 5 rfl rfl)
theorem dX2_init_6 : decode cX2_init 6 = .ok (.anewarray 9, 3) := dk_189 0 9 (dk_at dksX2_init_0 6 rfl rfl)
theorem dX2_init_9 : decode cX2_init 9 = .ok (.putfield 11, 3) := dk_181 0 11 (dk_at dksX2_init_0 9 rfl rfl)
theorem dX2_init_12 : decode cX2_init 12 = .ok (.aload_n 0, 1) := dk_42 (dk_at dksX2_init_0 12 rfl rfl)
theorem dX2_init_13 : decode cX2_init 13 = .ok (.sipush 144, 3) := dk_17 0 144 (dk_at dksX2_init_0 13 rfl rfl)
theorem dX2_init_16 : decode cX2_init 16 = .ok (.newarray .int, 2) := dk_188_10 (dk_at dksX2_init_0 16 rfl rfl)
theorem dX2_init_18 : decode cX2_init 18 = .ok (.putfield 17, 3) := dk_181 0 17 (dk_at dksX2_init_0 18 rfl rfl)
theorem dX2_init_21 : decode cX2_init 21 = .ok (.aload_n 0, 1) := dk_42 (dk_at dksX2_init_0 21 rfl rfl)
theorem dX2_init_22 : decode cX2_init 22 = .ok (.bipush 12, 2) := dk_16 12 (dk_at dksX2_init_0 22 rfl rfl)
theorem dX2_init_24 : decode cX2_init 24 = .ok (.newarray .int, 2) := dk_188_10 (dk_at dksX2_init_1 0 rfl rfl)
theorem dX2_init_26 : decode cX2_init 26 = .ok (.putfield 21, 3) := dk_181 0 21 (dk_at dksX2_init_1 2 rfl rfl)
theorem dX2_init_29 : decode cX2_init 29 = .ok (.aload_n 0, 1) := dk_42 (dk_at dksX2_init_1 5 rfl rfl)
theorem dX2_init_30 : decode cX2_init 30 = .ok (.new 24, 3) := dk_187 0 24 (dk_at dksX2_init_1 6 rfl rfl)
theorem dX2_init_33 : decode cX2_init 33 = .ok (.dup, 1) := dk_89 (dk_at dksX2_init_1 9 rfl rfl)
theorem dX2_init_34 : decode cX2_init 34 = .ok (.iconst 4, 1) := dk_7 (dk_at dksX2_init_1 10 rfl rfl)
theorem dX2_init_35 : decode cX2_init 35 = .ok (.invokespecial 26, 3) := dk_183 0 26 (dk_at dksX2_init_1 11 rfl rfl)
theorem dX2_init_38 : decode cX2_init 38 = .ok (.putfield 29, 3) := dk_181 0 29 (dk_at dksX2_init_1 14 rfl rfl)
theorem dX2_init_41 : decode cX2_init 41 = .ok (.aload_n 0, 1) := dk_42 (dk_at dksX2_init_1 17 rfl rfl)
theorem dX2_init_42 : decode cX2_init 42 = .ok (.new 24, 3) := dk_187 0 24 (dk_at dksX2_init_1 18 rfl rfl)
theorem dX2_init_45 : decode cX2_init 45 = .ok (.dup, 1) := dk_89 (dk_at dksX2_init_1 21 rfl rfl)
theorem dX2_init_46 : decode cX2_init 46 = .ok (.iconst 4, 1) := dk_7 (dk_at dksX2_init_1 22 rfl rfl)
theorem dX2_init_47 : decode cX2_init 47 = .ok (.invokespecial 26, 3) := dk_183 0 26 (dk_at dksX2_init_2 0 rfl rfl)
theorem dX2_init_50 : decode cX2_init 50 = .ok (.putfield 33, 3) := dk_181 0 33 (dk_at dksX2_init_2 3 rfl rfl)
theorem dX2_init_53 : decode cX2_init 53 = .ok (.aload_n 0, 1) := dk_42 (dk_at dksX2_init_2 6 rfl rfl)
theorem dX2_init_54 : decode cX2_init 54 = .ok (.new 24, 3) := dk_187 0 24 (dk_at dksX2_init_2 7 rfl rfl)
theorem dX2_init_57 : decode cX2_init 57 = .ok (.dup, 1) := dk_89 (dk_at dksX2_init_2 10 rfl rfl)
theorem dX2_init_58 : decode cX2_init 58 = .ok (.iconst 4, 1) := dk_7 (dk_at dksX2_init_2 11 rfl rfl)
theorem dX2_init_59 : decode cX2_init 59 = .ok (.invokespecial 26, 3) := dk_183 0 26 (dk_at dksX2_init_2 12 rfl rfl)
theorem dX2_init_62 : decode cX2_init 62 = .ok (.putfield 36, 3) := dk_181 0 36 (dk_at dksX2_init_2 15 rfl rfl)
theorem dX2_init_65 : decode cX2_init 65 = .ok (.aload_n 0, 1) := dk_42 (dk_at dksX2_init_2 18 rfl rfl)
theorem dX2_init_66 : decode cX2_init 66 = .ok (.bipush 100, 2) := dk_16 100 (dk_at dksX2_init_2 19 rfl rfl)
theorem dX2_init_68 : decode cX2_init 68 = .ok (.putfield 39, 3) := dk_181 0 39 (dk_at dksX2_init_2 21 rfl rfl)
theorem dX2_init_71 : decode cX2_init 71 = .ok (.aload_n 0, 1) := dk_42 (dk_at dksX2_init_3 0 rfl rfl)
theorem dX2_init_72 : decode cX2_init 72 = .ok (.iconst (-1), 1) := dk_2 (dk_at dksX2_init_3 1 rfl rfl)
theorem dX2_init_73 : decode cX2_init 73 = .ok (.putfield 43, 3) := dk_181 0 43 (dk_at dksX2_init_3 2 rfl rfl)
theorem dX2_init_76 : decode cX2_init 76 = .ok (.aload_n 0, 1) := dk_42 (dk_at dksX2_init_3 5 rfl rfl)
theorem dX2_init_77 : decode cX2_init 77 = .ok (.ldc 46, 2) := dk_18 46 (dk_at dksX2_init_3 6 rfl rfl)
theorem dX2_init_79 : decode cX2_init 79 = .ok (.putfield 47, 3) := dk_181 0 47 (dk_at dksX2_init_3 8 rfl rfl)
theorem dX2_init_82 : decode cX2_init 82 = .ok (.iconst 0, 1) := dk_3 (dk_at dksX2_init_3 11 rfl rfl)
theorem dX2_init_83 : decode cX2_init 83 = .ok (.istore_n 1, 1) := dk_60 (dk_at dksX2_init_3 12 rfl rfl)
theorem dX2_init_84 : decode cX2_init 84 = .ok (.iload_n 1, 1) := dk_27 (dk_at dksX2_init_3 13 rfl rfl)
theorem dX2_init_85 : decode cX2_init 85 = .ok (.bipush 12, 2) := dk_16 12 (dk_at dksX2_init_3 14 rfl rfl)
theorem dX2_init_87 : decode cX2_init 87 = .ok (.if_icmp .ge 16, 3) := dk_162 0 16 (dk_at dksX2_init_3 16 rfl rfl)
theorem dX2_init_90 : decode cX2_init 90 = .ok (.aload_n 0, 1) := dk_42 (dk_at dksX2_init_3 19 rfl rfl)
theorem dX2_init_91 : decode cX2_init 91 = .ok (.getfield 21, 3) := dk_180 0 21 (dk_at dksX2_init_3 20 rfl rfl)
theorem dX2_init_94 : decode cX2_init 94 = .ok (.iload_n 1, 1) := dk_27 (dk_at dksX2_init_3 23 rfl rfl)
theorem dX2_init_95 : decode cX2_init 95 = .ok (.iconst (-1), 1) := dk_2 (dk_at dksX2_init_4 0 rfl rfl)
theorem dX2_init_96 : decode cX2_init 96 = .ok (.iastore, 1) := dk_79 (dk_at dksX2_init_4 1 rfl rfl)
theorem dX2_init_97 : decode cX2_init 97 = .ok (.iinc 1 1, 3) := dk_132 1 1 (dk_at dksX2_init_4 2 rfl rfl)
theorem dX2_init_100 : decode cX2_init 100 = .ok (.goto (-16), 3) := dk_167 255 240 (dk_at dksX2_init_4 5 rfl rfl)
theorem dX2_init_103 : decode cX2_init 103 = .ok (.return_, 1) := dk_177 (dk_at dksX2_init_4 8 rfl rfl)
abbrev cX2_hasShaft : ByteArray := prog_13_method_2_code
def yX2_hasShaft : MethodName := ⟨RX2, "hasShaft", "()Z"⟩
def dkwX2_hasShaft_0 : List UInt8 := [42, 180, 0, 43, 2, 159, 0, 7, 4, 167, 0, 4, 3, 172]
abbrev dktX2_hasShaft_0 : List UInt8 := dkwX2_hasShaft_0 ++ []
theorem dksX2_hasShaft_0 : cX2_hasShaft.data.toList.drop 0 = dktX2_hasShaft_0 := by decide +kernel
theorem dX2_hasShaft_0 : decode cX2_hasShaft 0 = .ok (.aload_n 0, 1) := dk_42 (dk_at dksX2_hasShaft_0 0 rfl rfl)
theorem dX2_hasShaft_1 : decode cX2_hasShaft 1 = .ok (.getfield 43, 3) := dk_180 0 43 (dk_at dksX2_hasShaft_0 1 rfl rfl)
theorem dX2_hasShaft_4 : decode cX2_hasShaft 4 = .ok (.iconst (-1), 1) := dk_2 (dk_at dksX2_hasShaft_0 4 rfl rfl)
theorem dX2_hasShaft_5 : decode cX2_hasShaft 5 = .ok (.if_icmp .eq 7, 3) := dk_159 0 7 (dk_at dksX2_hasShaft_0 5 rfl rfl)
theorem dX2_hasShaft_8 : decode cX2_hasShaft 8 = .ok (.iconst 1, 1) := dk_4 (dk_at dksX2_hasShaft_0 8 rfl rfl)
theorem dX2_hasShaft_9 : decode cX2_hasShaft 9 = .ok (.goto 4, 3) := dk_167 0 4 (dk_at dksX2_hasShaft_0 9 rfl rfl)
theorem dX2_hasShaft_12 : decode cX2_hasShaft 12 = .ok (.iconst 0, 1) := dk_3 (dk_at dksX2_hasShaft_0 12 rfl rfl)
theorem dX2_hasShaft_13 : decode cX2_hasShaft 13 = .ok (.ireturn, 1) := dk_172 (dk_at dksX2_hasShaft_0 13 rfl rfl)
abbrev cX2_of : ByteArray := prog_13_method_4_code
def yX2_of : MethodName := ⟨RX2, "of", "(I)LFrostRing$Ground;"⟩
def dkwX2_of_0 : List UInt8 := [42, 180, 0, 11, 42, 180, 0, 17, 27, 46, 50, 176]
abbrev dktX2_of_0 : List UInt8 := dkwX2_of_0 ++ []
theorem dksX2_of_0 : cX2_of.data.toList.drop 0 = dktX2_of_0 := by decide +kernel
theorem dX2_of_0 : decode cX2_of 0 = .ok (.aload_n 0, 1) := dk_42 (dk_at dksX2_of_0 0 rfl rfl)
theorem dX2_of_1 : decode cX2_of 1 = .ok (.getfield 11, 3) := dk_180 0 11 (dk_at dksX2_of_0 1 rfl rfl)
theorem dX2_of_4 : decode cX2_of 4 = .ok (.aload_n 0, 1) := dk_42 (dk_at dksX2_of_0 4 rfl rfl)
theorem dX2_of_5 : decode cX2_of 5 = .ok (.getfield 17, 3) := dk_180 0 17 (dk_at dksX2_of_0 5 rfl rfl)
theorem dX2_of_8 : decode cX2_of 8 = .ok (.iload_n 1, 1) := dk_27 (dk_at dksX2_of_0 8 rfl rfl)
theorem dX2_of_9 : decode cX2_of 9 = .ok (.iaload, 1) := dk_46 (dk_at dksX2_of_0 9 rfl rfl)
theorem dX2_of_10 : decode cX2_of 10 = .ok (.aaload, 1) := dk_50 (dk_at dksX2_of_0 10 rfl rfl)
theorem dX2_of_11 : decode cX2_of 11 = .ok (.areturn, 1) := dk_176 (dk_at dksX2_of_0 11 rfl rfl)
abbrev cX2_isShaft : ByteArray := prog_13_method_3_code
def yX2_isShaft : MethodName := ⟨RX2, "isShaft", "(I)Z"⟩
def dkwX2_isShaft_2 : List UInt8 := [153, 0, 7, 4, 167, 0, 4, 3, 172]
abbrev dktX2_isShaft_2 : List UInt8 := dkwX2_isShaft_2 ++ []
def dkwX2_isShaft_1 : List UInt8 := [184, 0, 57, 153, 0, 28, 27, 16, 12, 108, 133, 42, 180, 0, 61, 133, 42, 180, 0, 64, 133, 184, 0, 57]
abbrev dktX2_isShaft_1 : List UInt8 := dkwX2_isShaft_1 ++ dktX2_isShaft_2
def dkwX2_isShaft_0 : List UInt8 := [42, 182, 0, 50, 153, 0, 49, 27, 16, 12, 112, 133, 42, 180, 0, 43, 133, 42, 180, 0, 54, 133]
abbrev dktX2_isShaft_0 : List UInt8 := dkwX2_isShaft_0 ++ dktX2_isShaft_1
theorem dksX2_isShaft_0 : cX2_isShaft.data.toList.drop 0 = dktX2_isShaft_0 := by decide +kernel
theorem dksX2_isShaft_1 : cX2_isShaft.data.toList.drop 22 = dktX2_isShaft_1 := dk_seg dksX2_isShaft_0 22 rfl rfl
theorem dksX2_isShaft_2 : cX2_isShaft.data.toList.drop 46 = dktX2_isShaft_2 := dk_seg dksX2_isShaft_1 24 rfl rfl
theorem dX2_isShaft_0 : decode cX2_isShaft 0 = .ok (.aload_n 0, 1) := dk_42 (dk_at dksX2_isShaft_0 0 rfl rfl)
theorem dX2_isShaft_1 : decode cX2_isShaft 1 = .ok (.invokevirtual 50, 3) := dk_182 0 50 (dk_at dksX2_isShaft_0 1 rfl rfl)
theorem dX2_isShaft_4 : decode cX2_isShaft 4 = .ok (.ifCond .eq 49, 3) := dk_153 0 49 (dk_at dksX2_isShaft_0 4 rfl rfl)
theorem dX2_isShaft_7 : decode cX2_isShaft 7 = .ok (.iload_n 1, 1) := dk_27 (dk_at dksX2_isShaft_0 7 rfl rfl)
theorem dX2_isShaft_8 : decode cX2_isShaft 8 = .ok (.bipush 12, 2) := dk_16 12 (dk_at dksX2_isShaft_0 8 rfl rfl)
theorem dX2_isShaft_10 : decode cX2_isShaft 10 = .ok (.irem, 1) := dk_112 (dk_at dksX2_isShaft_0 10 rfl rfl)
theorem dX2_isShaft_11 : decode cX2_isShaft 11 = .ok (.i2l, 1) := dk_133 (dk_at dksX2_isShaft_0 11 rfl rfl)
theorem dX2_isShaft_12 : decode cX2_isShaft 12 = .ok (.aload_n 0, 1) := dk_42 (dk_at dksX2_isShaft_0 12 rfl rfl)
theorem dX2_isShaft_13 : decode cX2_isShaft 13 = .ok (.getfield 43, 3) := dk_180 0 43 (dk_at dksX2_isShaft_0 13 rfl rfl)
theorem dX2_isShaft_16 : decode cX2_isShaft 16 = .ok (.i2l, 1) := dk_133 (dk_at dksX2_isShaft_0 16 rfl rfl)
theorem dX2_isShaft_17 : decode cX2_isShaft 17 = .ok (.aload_n 0, 1) := dk_42 (dk_at dksX2_isShaft_0 17 rfl rfl)
theorem dX2_isShaft_18 : decode cX2_isShaft 18 = .ok (.getfield 54, 3) := dk_180 0 54 (dk_at dksX2_isShaft_0 18 rfl rfl)
theorem dX2_isShaft_21 : decode cX2_isShaft 21 = .ok (.i2l, 1) := dk_133 (dk_at dksX2_isShaft_0 21 rfl rfl)
theorem dX2_isShaft_22 : decode cX2_isShaft 22 = .ok (.invokestatic 57, 3) := dk_184 0 57 (dk_at dksX2_isShaft_1 0 rfl rfl)
theorem dX2_isShaft_25 : decode cX2_isShaft 25 = .ok (.ifCond .eq 28, 3) := dk_153 0 28 (dk_at dksX2_isShaft_1 3 rfl rfl)
theorem dX2_isShaft_28 : decode cX2_isShaft 28 = .ok (.iload_n 1, 1) := dk_27 (dk_at dksX2_isShaft_1 6 rfl rfl)
theorem dX2_isShaft_29 : decode cX2_isShaft 29 = .ok (.bipush 12, 2) := dk_16 12 (dk_at dksX2_isShaft_1 7 rfl rfl)
theorem dX2_isShaft_31 : decode cX2_isShaft 31 = .ok (.idiv, 1) := dk_108 (dk_at dksX2_isShaft_1 9 rfl rfl)
theorem dX2_isShaft_32 : decode cX2_isShaft 32 = .ok (.i2l, 1) := dk_133 (dk_at dksX2_isShaft_1 10 rfl rfl)
theorem dX2_isShaft_33 : decode cX2_isShaft 33 = .ok (.aload_n 0, 1) := dk_42 (dk_at dksX2_isShaft_1 11 rfl rfl)
theorem dX2_isShaft_34 : decode cX2_isShaft 34 = .ok (.getfield 61, 3) := dk_180 0 61 (dk_at dksX2_isShaft_1 12 rfl rfl)
theorem dX2_isShaft_37 : decode cX2_isShaft 37 = .ok (.i2l, 1) := dk_133 (dk_at dksX2_isShaft_1 15 rfl rfl)
theorem dX2_isShaft_38 : decode cX2_isShaft 38 = .ok (.aload_n 0, 1) := dk_42 (dk_at dksX2_isShaft_1 16 rfl rfl)
theorem dX2_isShaft_39 : decode cX2_isShaft 39 = .ok (.getfield 64, 3) := dk_180 0 64 (dk_at dksX2_isShaft_1 17 rfl rfl)
theorem dX2_isShaft_42 : decode cX2_isShaft 42 = .ok (.i2l, 1) := dk_133 (dk_at dksX2_isShaft_1 20 rfl rfl)
theorem dX2_isShaft_43 : decode cX2_isShaft 43 = .ok (.invokestatic 57, 3) := dk_184 0 57 (dk_at dksX2_isShaft_1 21 rfl rfl)
theorem dX2_isShaft_46 : decode cX2_isShaft 46 = .ok (.ifCond .eq 7, 3) := dk_153 0 7 (dk_at dksX2_isShaft_2 0 rfl rfl)
theorem dX2_isShaft_49 : decode cX2_isShaft 49 = .ok (.iconst 1, 1) := dk_4 (dk_at dksX2_isShaft_2 3 rfl rfl)
theorem dX2_isShaft_50 : decode cX2_isShaft 50 = .ok (.goto 4, 3) := dk_167 0 4 (dk_at dksX2_isShaft_2 4 rfl rfl)
theorem dX2_isShaft_53 : decode cX2_isShaft 53 = .ok (.iconst 0, 1) := dk_3 (dk_at dksX2_isShaft_2 7 rfl rfl)
theorem dX2_isShaft_54 : decode cX2_isShaft 54 = .ok (.ireturn, 1) := dk_172 (dk_at dksX2_isShaft_2 8 rfl rfl)
theorem q107 : (Jvm.Cond.initialized "FrostRing$Told") ∈ lw_all := lw_g (lw_at lw_m1 3 rfl) rfl
theorem q353 : (Jvm.Cond.instantiable "FrostRing$Told" (13 : Nat)) ∈ lw_all := lw_g (lw_at lw_m2 9 rfl) rfl
theorem q355 : (Jvm.Cond.instanceMethod ({ cls := "FrostRing$Told", name := "<init>", desc := "()V" } : Jvm.MethodName)) ∈ lw_all := lw_g (lw_at lw_m2 11 rfl) rfl
theorem q356 : (Jvm.Cond.code ({ cls := "FrostRing$Told", name := "<init>", desc := "()V" } : Jvm.MethodName) prog_13_method_1_code (2 : Nat) (Option.none : Option Jvm.ClassFile.FieldType)) ∈ lw_all := lw_g (lw_at lw_m2 12 rfl) rfl
theorem q357 : (Jvm.Cond.methodLink "FrostRing$Told" (3 : Nat) ({ cls := "java/lang/Object", name := "<init>", desc := "()V" } : Jvm.MethodName)) ∈ lw_all := lw_g (lw_at lw_m2 13 rfl) rfl
theorem q358 : (Jvm.Cond.classLink "FrostRing$Told" (9 : Nat) "FrostRing$Ground") ∈ lw_all := lw_g (lw_at lw_m2 14 rfl) rfl
theorem q360 : (Jvm.Cond.classLink "FrostRing$Told" (24 : Nat) "java/util/ArrayList") ∈ lw_all := lw_g (lw_at lw_m2 16 rfl) rfl
theorem q362 : (Jvm.Cond.methodLink "FrostRing$Told" (26 : Nat) ({ cls := "java/util/ArrayList", name := "<init>", desc := "(I)V" } : Jvm.MethodName)) ∈ lw_all := lw_g (lw_at lw_m2 18 rfl) rfl
theorem q388 : (Jvm.Cond.constant "FrostRing$Told" (46 : Nat) (99999 : Int32)) ∈ lw_all := lw_g (lw_at lw_m2 44 rfl) rfl
theorem q389 : (Jvm.Cond.fieldLink "FrostRing$Told" (11 : Nat) "FrostRing$Told" "grounds" "[LFrostRing$Ground;") ∈ lw_all := lw_g (lw_at lw_m2 45 rfl) rfl
theorem q391 : (Jvm.Cond.fieldLink "FrostRing$Told" (17 : Nat) "FrostRing$Told" "laid" "[I") ∈ lw_all := lw_g (lw_at lw_m2 47 rfl) rfl
theorem q394 : (Jvm.Cond.fieldLink "FrostRing$Told" (21 : Nat) "FrostRing$Told" "stream" "[I") ∈ lw_all := lw_g (lw_at lw_m2 50 rfl) rfl
theorem q397 : (Jvm.Cond.fieldLink "FrostRing$Told" (29 : Nat) "FrostRing$Told" "pipes" "Ljava/util/List;") ∈ lw_all := lw_g (lw_at lw_m2 53 rfl) rfl
theorem q400 : (Jvm.Cond.fieldLink "FrostRing$Told" (33 : Nat) "FrostRing$Told" "houses" "Ljava/util/List;") ∈ lw_all := lw_g (lw_at lw_m2 56 rfl) rfl
theorem q403 : (Jvm.Cond.fieldLink "FrostRing$Told" (36 : Nat) "FrostRing$Told" "rules" "Ljava/util/List;") ∈ lw_all := lw_g (lw_at lw_m2 59 rfl) rfl
theorem q406 : (Jvm.Cond.fieldLink "FrostRing$Told" (39 : Nat) "FrostRing$Told" "far" "I") ∈ lw_all := lw_g (lw_at lw_m2 62 rfl) rfl
theorem q410 : (Jvm.Cond.fieldLink "FrostRing$Told" (43 : Nat) "FrostRing$Told" "left" "I") ∈ lw_all := lw_g (lw_at lw_m2 66 rfl) rfl
theorem q412 : (Jvm.Cond.fieldLink "FrostRing$Told" (61 : Nat) "FrostRing$Told" "top" "I") ∈ lw_all := lw_g (lw_at lw_m2 68 rfl) rfl
theorem q414 : (Jvm.Cond.fieldLink "FrostRing$Told" (54 : Nat) "FrostRing$Told" "right" "I") ∈ lw_all := lw_g (lw_at lw_m2 70 rfl) rfl
theorem q416 : (Jvm.Cond.fieldLink "FrostRing$Told" (64 : Nat) "FrostRing$Told" "bottom" "I") ∈ lw_all := lw_g (lw_at lw_m2 72 rfl) rfl
theorem q418 : (Jvm.Cond.fieldLink "FrostRing$Told" (47 : Nat) "FrostRing$Told" "cold" "I") ∈ lw_all := lw_g (lw_at lw_m2 74 rfl) rfl
theorem q423 : (Jvm.Cond.laysFinal "FrostRing$Told" "FrostRing$Told" "grounds" "[LFrostRing$Ground;") ∈ lw_all := lw_g (lw_at lw_m2 79 rfl) rfl
theorem q424 : (Jvm.Cond.soleField "FrostRing$Told" "grounds") ∈ lw_all := lw_g (lw_at lw_m2 80 rfl) rfl
theorem q425 : (Jvm.Cond.laysFinal "FrostRing$Told" "FrostRing$Told" "laid" "[I") ∈ lw_all := lw_g (lw_at lw_m2 81 rfl) rfl
theorem q426 : (Jvm.Cond.soleField "FrostRing$Told" "laid") ∈ lw_all := lw_g (lw_at lw_m2 82 rfl) rfl
theorem q427 : (Jvm.Cond.laysFinal "FrostRing$Told" "FrostRing$Told" "stream" "[I") ∈ lw_all := lw_g (lw_at lw_m2 83 rfl) rfl
theorem q428 : (Jvm.Cond.soleField "FrostRing$Told" "stream") ∈ lw_all := lw_g (lw_at lw_m2 84 rfl) rfl
theorem q429 : (Jvm.Cond.laysFinal "FrostRing$Told" "FrostRing$Told" "pipes" "Ljava/util/List;") ∈ lw_all := lw_g (lw_at lw_m2 85 rfl) rfl
theorem q430 : (Jvm.Cond.soleField "FrostRing$Told" "pipes") ∈ lw_all := lw_g (lw_at lw_m2 86 rfl) rfl
theorem q431 : (Jvm.Cond.laysFinal "FrostRing$Told" "FrostRing$Told" "houses" "Ljava/util/List;") ∈ lw_all := lw_g (lw_at lw_m2 87 rfl) rfl
theorem q432 : (Jvm.Cond.soleField "FrostRing$Told" "houses") ∈ lw_all := lw_g (lw_at lw_m2 88 rfl) rfl
theorem q433 : (Jvm.Cond.laysFinal "FrostRing$Told" "FrostRing$Told" "rules" "Ljava/util/List;") ∈ lw_all := lw_g (lw_at lw_m2 89 rfl) rfl
theorem q434 : (Jvm.Cond.soleField "FrostRing$Told" "rules") ∈ lw_all := lw_g (lw_at lw_m2 90 rfl) rfl
theorem q435 : (Jvm.Cond.lays "FrostRing$Told" "FrostRing$Told" "far" "I") ∈ lw_all := lw_g (lw_at lw_m2 91 rfl) rfl
theorem q436 : (Jvm.Cond.soleField "FrostRing$Told" "far") ∈ lw_all := lw_g (lw_at lw_m2 92 rfl) rfl
theorem q437 : (Jvm.Cond.lays "FrostRing$Told" "FrostRing$Told" "left" "I") ∈ lw_all := lw_g (lw_at lw_m2 93 rfl) rfl
theorem q438 : (Jvm.Cond.soleField "FrostRing$Told" "left") ∈ lw_all := lw_g (lw_at lw_m2 94 rfl) rfl
theorem q439 : (Jvm.Cond.lays "FrostRing$Told" "FrostRing$Told" "top" "I") ∈ lw_all := lw_g (lw_at lw_m2 95 rfl) rfl
theorem q440 : (Jvm.Cond.soleField "FrostRing$Told" "top") ∈ lw_all := lw_g (lw_at lw_m2 96 rfl) rfl
theorem q441 : (Jvm.Cond.lays "FrostRing$Told" "FrostRing$Told" "right" "I") ∈ lw_all := lw_g (lw_at lw_m2 97 rfl) rfl
theorem q442 : (Jvm.Cond.soleField "FrostRing$Told" "right") ∈ lw_all := lw_g (lw_at lw_m2 98 rfl) rfl
theorem q443 : (Jvm.Cond.lays "FrostRing$Told" "FrostRing$Told" "bottom" "I") ∈ lw_all := lw_g (lw_at lw_m2 99 rfl) rfl
theorem q444 : (Jvm.Cond.soleField "FrostRing$Told" "bottom") ∈ lw_all := lw_g (lw_at lw_m2 100 rfl) rfl
theorem q445 : (Jvm.Cond.lays "FrostRing$Told" "FrostRing$Told" "cold" "I") ∈ lw_all := lw_g (lw_at lw_m2 101 rfl) rfl
theorem q446 : (Jvm.Cond.soleField "FrostRing$Told" "cold") ∈ lw_all := lw_g (lw_at lw_m2 102 rfl) rfl
theorem q447 : (Jvm.Cond.lays "FrostRing$Told" "FrostRing$Told" "lines" "I") ∈ lw_all := lw_g (lw_at lw_m2 103 rfl) rfl
theorem q448 : (Jvm.Cond.soleField "FrostRing$Told" "lines") ∈ lw_all := lw_g (lw_at lw_m2 104 rfl) rfl
theorem q449 : (Jvm.Cond.superclass "FrostRing$Told" "java/lang/Object") ∈ lw_all := lw_g (lw_at lw_m2 105 rfl) rfl
theorem q618 : (Jvm.Cond.selects "FrostRing$Told" ({ cls := "java/lang/Object", name := "getClass", desc := "()Ljava/lang/Class;" } : Jvm.MethodName) ({ cls := "java/lang/Object", name := "getClass", desc := "()Ljava/lang/Class;" } : Jvm.MethodName)) ∈ lw_all := lw_g (lw_at lw_m3 34 rfl) rfl
theorem q968 : (Jvm.Cond.instanceMethod ({ cls := "FrostRing$Told", name := "hasShaft", desc := "()Z" } : Jvm.MethodName)) ∈ lw_all := lw_g (lw_at lw_m4 144 rfl) rfl
theorem q969 : (Jvm.Cond.selects "FrostRing$Told" ({ cls := "FrostRing$Told", name := "hasShaft", desc := "()Z" } : Jvm.MethodName) ({ cls := "FrostRing$Told", name := "hasShaft", desc := "()Z" } : Jvm.MethodName)) ∈ lw_all := lw_g (lw_at lw_m4 145 rfl) rfl
theorem q970 : (Jvm.Cond.code ({ cls := "FrostRing$Told", name := "hasShaft", desc := "()Z" } : Jvm.MethodName) prog_13_method_2_code (1 : Nat) (Option.some Jvm.ClassFile.FieldType.boolean)) ∈ lw_all := lw_g (lw_at lw_m4 146 rfl) rfl
theorem q1124 : (Jvm.Cond.instanceMethod ({ cls := "FrostRing$Told", name := "of", desc := "(I)LFrostRing$Ground;" } : Jvm.MethodName)) ∈ lw_all := lw_g (lw_at lw_m5 60 rfl) rfl
theorem q1125 : (Jvm.Cond.selects "FrostRing$Told" ({ cls := "FrostRing$Told", name := "of", desc := "(I)LFrostRing$Ground;" } : Jvm.MethodName) ({ cls := "FrostRing$Told", name := "of", desc := "(I)LFrostRing$Ground;" } : Jvm.MethodName)) ∈ lw_all := lw_g (lw_at lw_m5 61 rfl) rfl
theorem q1126 : (Jvm.Cond.code ({ cls := "FrostRing$Told", name := "of", desc := "(I)LFrostRing$Ground;" } : Jvm.MethodName) prog_13_method_4_code (2 : Nat) (Option.some (Jvm.ClassFile.FieldType.object "FrostRing$Ground"))) ∈ lw_all := lw_g (lw_at lw_m5 62 rfl) rfl
theorem q1165 : (Jvm.Cond.instanceMethod ({ cls := "FrostRing$Told", name := "isShaft", desc := "(I)Z" } : Jvm.MethodName)) ∈ lw_all := lw_g (lw_at lw_m5 101 rfl) rfl
theorem q1166 : (Jvm.Cond.selects "FrostRing$Told" ({ cls := "FrostRing$Told", name := "isShaft", desc := "(I)Z" } : Jvm.MethodName) ({ cls := "FrostRing$Told", name := "isShaft", desc := "(I)Z" } : Jvm.MethodName)) ∈ lw_all := lw_g (lw_at lw_m5 102 rfl) rfl
theorem q1167 : (Jvm.Cond.code ({ cls := "FrostRing$Told", name := "isShaft", desc := "(I)Z" } : Jvm.MethodName) prog_13_method_3_code (2 : Nat) (Option.some Jvm.ClassFile.FieldType.boolean)) ∈ lw_all := lw_g (lw_at lw_m5 103 rfl) rfl
theorem q1168 : (Jvm.Cond.methodLink "FrostRing$Told" (50 : Nat) ({ cls := "FrostRing$Told", name := "hasShaft", desc := "()Z" } : Jvm.MethodName)) ∈ lw_all := lw_g (lw_at lw_m5 104 rfl) rfl
theorem q1169 : (Jvm.Cond.methodLinkNest "FrostRing$Told" (57 : Nat) ({ cls := "FrostRing", name := "in", desc := "(JJJ)Z" } : Jvm.MethodName) "FrostRing") ∈ lw_tbl := lw_at lw_m5 105 rfl
theorem q2044 : (Jvm.Cond.castable "FrostRing$Told" "java/lang/Object") ∈ lw_tbl := lw_at lw_m9 20 rfl
theorem in_X2 : ∀ w ∈ wsX20, w ∈ lw_all := lw_in wsX20 [423, 425, 427, 429, 431, 433, 435, 437, 439, 441, 443, 445, 447] (by decide +kernel) (by decide +kernel)
/-! FrostRing$Reader -/
set_option maxRecDepth 100000
def RX3 : String := "FrostRing$Reader"
def TX3 : u_T := fun k => match k with
  | 0 => ("FrostRing$Reader", "measures", "[Ljava/lang/String;", true)
  | 1 => ("FrostRing$Reader", "begins", "[Ljava/lang/String;", true)
  | 2 => ("FrostRing$Reader", "text", "[B", true)
  | 3 => ("FrostRing$Reader", "size", "I", true)
  | 4 => ("FrostRing$Reader", "at", "I", false)
  | 5 => ("FrostRing$Reader", "from", "I", false)
  | 6 => ("FrostRing$Reader", "token", "I", false)
  | 7 => ("FrostRing$Reader", "place", "I", false)
  | 8 => ("FrostRing$Reader", "value", "I", false)
  | 9 => ("FrostRing$Reader", "hasFar", "Z", false)
  | _ => ("FrostRing$Reader", "hasCold", "Z", false)
def tyX3 : Nat → FieldType := fun k => match k with
  | 0 => .array (.object "java/lang/String")
  | 1 => .array (.object "java/lang/String")
  | 2 => .array .byte
  | 3 => .int
  | 4 => .int
  | 5 => .int
  | 6 => .int
  | 7 => .int
  | 8 => .int
  | 9 => .boolean
  | _ => .boolean
abbrev wsX30 : List Cond := u_ws RX3 TX3 11
theorem nmX3 : ∀ a, a < 11 → ∀ b, b < 11 → a ≠ b → (TX3 a).2.1 ≠ (TX3 b).2.1 := by decide +kernel
theorem tyX3_ok : ∀ k, k < 11 → parseFieldDescriptor (TX3 k).2.2.1 = some (tyX3 k) := by decide +kernel
abbrev cX3_whole : ByteArray := prog_9_method_23_code
def yX3_whole : MethodName := ⟨RX3, "whole", "(LFrostRing$Told;)LFrostRing$Told;"⟩
def dkwX3_whole_1 : List UInt8 := [89, 16, 10, 16, 15, 16, 100, 3, 183, 0, 145, 83, 132, 1, 1, 167, 255, 219, 42, 176]
abbrev dktX3_whole_1 : List UInt8 := dkwX3_whole_1 ++ []
def dkwX3_whole_0 : List UInt8 := [3, 60, 27, 7, 162, 0, 38, 42, 180, 0, 122, 27, 50, 199, 0, 23, 42, 180, 0, 122, 27, 187, 0, 137]
abbrev dktX3_whole_0 : List UInt8 := dkwX3_whole_0 ++ dktX3_whole_1
theorem dksX3_whole_0 : cX3_whole.data.toList.drop 0 = dktX3_whole_0 := by decide +kernel
theorem dksX3_whole_1 : cX3_whole.data.toList.drop 24 = dktX3_whole_1 := dk_seg dksX3_whole_0 24 rfl rfl
theorem dX3_whole_0 : decode cX3_whole 0 = .ok (.iconst 0, 1) := dk_3 (dk_at dksX3_whole_0 0 rfl rfl)
theorem dX3_whole_1 : decode cX3_whole 1 = .ok (.istore_n 1, 1) := dk_60 (dk_at dksX3_whole_0 1 rfl rfl)
theorem dX3_whole_2 : decode cX3_whole 2 = .ok (.iload_n 1, 1) := dk_27 (dk_at dksX3_whole_0 2 rfl rfl)
theorem dX3_whole_3 : decode cX3_whole 3 = .ok (.iconst 4, 1) := dk_7 (dk_at dksX3_whole_0 3 rfl rfl)
theorem dX3_whole_4 : decode cX3_whole 4 = .ok (.if_icmp .ge 38, 3) := dk_162 0 38 (dk_at dksX3_whole_0 4 rfl rfl)
theorem dX3_whole_7 : decode cX3_whole 7 = .ok (.aload_n 0, 1) := dk_42 (dk_at dksX3_whole_0 7 rfl rfl)
theorem dX3_whole_8 : decode cX3_whole 8 = .ok (.getfield 122, 3) := dk_180 0 122 (dk_at dksX3_whole_0 8 rfl rfl)
theorem dX3_whole_11 : decode cX3_whole 11 = .ok (.iload_n 1, 1) := dk_27 (dk_at dksX3_whole_0 11 rfl rfl)
theorem dX3_whole_12 : decode cX3_whole 12 = .ok (.aaload, 1) := dk_50 (dk_at dksX3_whole_0 12 rfl rfl)
theorem dX3_whole_13 : decode cX3_whole 13 = .ok (.ifnonnull 23, 3) := dk_199 0 23 (dk_at dksX3_whole_0 13 rfl rfl)
theorem dX3_whole_16 : decode cX3_whole 16 = .ok (.aload_n 0, 1) := dk_42 (dk_at dksX3_whole_0 16 rfl rfl)
theorem dX3_whole_17 : decode cX3_whole 17 = .ok (.getfield 122, 3) := dk_180 0 122 (dk_at dksX3_whole_0 17 rfl rfl)
theorem dX3_whole_20 : decode cX3_whole 20 = .ok (.iload_n 1, 1) := dk_27 (dk_at dksX3_whole_0 20 rfl rfl)
theorem dX3_whole_21 : decode cX3_whole 21 = .ok (.new 137, 3) := dk_187 0 137 (dk_at dksX3_whole_0 21 rfl rfl)
theorem dX3_whole_24 : decode cX3_whole 24 = .ok (.dup, 1) := dk_89 (dk_at dksX3_whole_1 0 rfl rfl)
theorem dX3_whole_25 : decode cX3_whole 25 = .ok (.bipush 10, 2) := dk_16 10 (dk_at dksX3_whole_1 1 rfl rfl)
theorem dX3_whole_27 : decode cX3_whole 27 = .ok (.bipush 15, 2) := dk_16 15 (dk_at dksX3_whole_1 3 rfl rfl)
theorem dX3_whole_29 : decode cX3_whole 29 = .ok (.bipush 100, 2) := dk_16 100 (dk_at dksX3_whole_1 5 rfl rfl)
theorem dX3_whole_31 : decode cX3_whole 31 = .ok (.iconst 0, 1) := dk_3 (dk_at dksX3_whole_1 7 rfl rfl)
theorem dX3_whole_32 : decode cX3_whole 32 = .ok (.invokespecial 145, 3) := dk_183 0 145 (dk_at dksX3_whole_1 8 rfl rfl)
theorem dX3_whole_35 : decode cX3_whole 35 = .ok (.aastore, 1) := dk_83 (dk_at dksX3_whole_1 11 rfl rfl)
theorem dX3_whole_36 : decode cX3_whole 36 = .ok (.iinc 1 1, 3) := dk_132 1 1 (dk_at dksX3_whole_1 12 rfl rfl)
theorem dX3_whole_39 : decode cX3_whole 39 = .ok (.goto (-37), 3) := dk_167 255 219 (dk_at dksX3_whole_1 15 rfl rfl)
theorem dX3_whole_42 : decode cX3_whole 42 = .ok (.aload_n 0, 1) := dk_42 (dk_at dksX3_whole_1 18 rfl rfl)
theorem dX3_whole_43 : decode cX3_whole 43 = .ok (.areturn, 1) := dk_176 (dk_at dksX3_whole_1 19 rfl rfl)
abbrev cX3_init : ByteArray := prog_9_method_1_code
def yX3_init : MethodName := ⟨RX3, "<init>", "([BI)V"⟩
def dkwX3_init_4 : List UInt8 := [28, 181, 0, 50, 177]
abbrev dktX3_init_4 : List UInt8 := dkwX3_init_4 ++ []
def dkwX3_init_3 : List UInt8 := [18, 37, 83, 89, 16, 7, 18, 39, 83, 89, 16, 8, 18, 41, 83, 181, 0, 43, 42, 43, 181, 0, 46, 42]
abbrev dktX3_init_3 : List UInt8 := dkwX3_init_3 ++ dktX3_init_4
def dkwX3_init_2 : List UInt8 := [89, 5, 18, 29, 83, 89, 6, 18, 31, 83, 89, 7, 18, 33, 83, 89, 8, 18, 35, 83, 89, 16, 6]
abbrev dktX3_init_2 : List UInt8 := dkwX3_init_2 ++ dktX3_init_3
def dkwX3_init_1 : List UInt8 := [89, 6, 18, 17, 83, 181, 0, 19, 42, 16, 9, 189, 0, 9, 89, 3, 18, 25, 83, 89, 4, 18, 27, 83]
abbrev dktX3_init_1 : List UInt8 := dkwX3_init_1 ++ dktX3_init_2
def dkwX3_init_0 : List UInt8 := [42, 183, 0, 3, 42, 7, 189, 0, 9, 89, 3, 18, 11, 83, 89, 4, 18, 13, 83, 89, 5, 18, 15, 83]
abbrev dktX3_init_0 : List UInt8 := dkwX3_init_0 ++ dktX3_init_1
theorem dksX3_init_0 : cX3_init.data.toList.drop 0 = dktX3_init_0 := by decide +kernel
theorem dksX3_init_1 : cX3_init.data.toList.drop 24 = dktX3_init_1 := dk_seg dksX3_init_0 24 rfl rfl
theorem dksX3_init_2 : cX3_init.data.toList.drop 48 = dktX3_init_2 := dk_seg dksX3_init_1 24 rfl rfl
theorem dksX3_init_3 : cX3_init.data.toList.drop 71 = dktX3_init_3 := dk_seg dksX3_init_2 23 rfl rfl
theorem dksX3_init_4 : cX3_init.data.toList.drop 95 = dktX3_init_4 := dk_seg dksX3_init_3 24 rfl rfl
theorem dX3_init_0 : decode cX3_init 0 = .ok (.aload_n 0, 1) := dk_42 (dk_at dksX3_init_0 0 rfl rfl)
theorem dX3_init_1 : decode cX3_init 1 = .ok (.invokespecial 3, 3) := dk_183 0 3 (dk_at dksX3_init_0 1 rfl rfl)
theorem dX3_init_4 : decode cX3_init 4 = .ok (.aload_n 0, 1) := dk_42 (dk_at dksX3_init_0 4 rfl rfl)
theorem dX3_init_5 : decode cX3_init 5 = .ok (.iconst 4, 1) := dk_7 (dk_at dksX3_init_0 5 rfl rfl)
theorem dX3_init_6 : decode cX3_init 6 = .ok (.anewarray 9, 3) := dk_189 0 9 (dk_at dksX3_init_0 6 rfl rfl)
theorem dX3_init_9 : decode cX3_init 9 = .ok (.dup, 1) := dk_89 (dk_at dksX3_init_0 9 rfl rfl)
theorem dX3_init_10 : decode cX3_init 10 = .ok (.iconst 0, 1) := dk_3 (dk_at dksX3_init_0 10 rfl rfl)
theorem dX3_init_11 : decode cX3_init 11 = .ok (.ldc 11, 2) := dk_18 11 (dk_at dksX3_init_0 11 rfl rfl)
theorem dX3_init_13 : decode cX3_init 13 = .ok (.aastore, 1) := dk_83 (dk_at dksX3_init_0 13 rfl rfl)
theorem dX3_init_14 : decode cX3_init 14 = .ok (.dup, 1) := dk_89 (dk_at dksX3_init_0 14 rfl rfl)
theorem dX3_init_15 : decode cX3_init 15 = .ok (.iconst 1, 1) := dk_4 (dk_at dksX3_init_0 15 rfl rfl)
theorem dX3_init_16 : decode cX3_init 16 = .ok (.ldc 13, 2) := dk_18 13 (dk_at dksX3_init_0 16 rfl rfl)
theorem dX3_init_18 : decode cX3_init 18 = .ok (.aastore, 1) := dk_83 (dk_at dksX3_init_0 18 rfl rfl)
theorem dX3_init_19 : decode cX3_init 19 = .ok (.dup, 1) := dk_89 (dk_at dksX3_init_0 19 rfl rfl)
theorem dX3_init_20 : decode cX3_init 20 = .ok (.iconst 2, 1) := dk_5 (dk_at dksX3_init_0 20 rfl rfl)
theorem dX3_init_21 : decode cX3_init 21 = .ok (.ldc 15, 2) := dk_18 15 (dk_at dksX3_init_0 21 rfl rfl)
theorem dX3_init_23 : decode cX3_init 23 = .ok (.aastore, 1) := dk_83 (dk_at dksX3_init_0 23 rfl rfl)
theorem dX3_init_24 : decode cX3_init 24 = .ok (.dup, 1) := dk_89 (dk_at dksX3_init_1 0 rfl rfl)
theorem dX3_init_25 : decode cX3_init 25 = .ok (.iconst 3, 1) := dk_6 (dk_at dksX3_init_1 1 rfl rfl)
theorem dX3_init_26 : decode cX3_init 26 = .ok (.ldc 17, 2) := dk_18 17 (dk_at dksX3_init_1 2 rfl rfl)
theorem dX3_init_28 : decode cX3_init 28 = .ok (.aastore, 1) := dk_83 (dk_at dksX3_init_1 4 rfl rfl)
theorem dX3_init_29 : decode cX3_init 29 = .ok (.putfield 19, 3) := dk_181 0 19 (dk_at dksX3_init_1 5 rfl rfl)
theorem dX3_init_32 : decode cX3_init 32 = .ok (.aload_n 0, 1) := dk_42 (dk_at dksX3_init_1 8 rfl rfl)
theorem dX3_init_33 : decode cX3_init 33 = .ok (.bipush 9, 2) := dk_16 9 (dk_at dksX3_init_1 9 rfl rfl)
theorem dX3_init_35 : decode cX3_init 35 = .ok (.anewarray 9, 3) := dk_189 0 9 (dk_at dksX3_init_1 11 rfl rfl)
theorem dX3_init_38 : decode cX3_init 38 = .ok (.dup, 1) := dk_89 (dk_at dksX3_init_1 14 rfl rfl)
theorem dX3_init_39 : decode cX3_init 39 = .ok (.iconst 0, 1) := dk_3 (dk_at dksX3_init_1 15 rfl rfl)
theorem dX3_init_40 : decode cX3_init 40 = .ok (.ldc 25, 2) := dk_18 25 (dk_at dksX3_init_1 16 rfl rfl)
theorem dX3_init_42 : decode cX3_init 42 = .ok (.aastore, 1) := dk_83 (dk_at dksX3_init_1 18 rfl rfl)
theorem dX3_init_43 : decode cX3_init 43 = .ok (.dup, 1) := dk_89 (dk_at dksX3_init_1 19 rfl rfl)
theorem dX3_init_44 : decode cX3_init 44 = .ok (.iconst 1, 1) := dk_4 (dk_at dksX3_init_1 20 rfl rfl)
theorem dX3_init_45 : decode cX3_init 45 = .ok (.ldc 27, 2) := dk_18 27 (dk_at dksX3_init_1 21 rfl rfl)
theorem dX3_init_47 : decode cX3_init 47 = .ok (.aastore, 1) := dk_83 (dk_at dksX3_init_1 23 rfl rfl)
theorem dX3_init_48 : decode cX3_init 48 = .ok (.dup, 1) := dk_89 (dk_at dksX3_init_2 0 rfl rfl)
theorem dX3_init_49 : decode cX3_init 49 = .ok (.iconst 2, 1) := dk_5 (dk_at dksX3_init_2 1 rfl rfl)
theorem dX3_init_50 : decode cX3_init 50 = .ok (.ldc 29, 2) := dk_18 29 (dk_at dksX3_init_2 2 rfl rfl)
theorem dX3_init_52 : decode cX3_init 52 = .ok (.aastore, 1) := dk_83 (dk_at dksX3_init_2 4 rfl rfl)
theorem dX3_init_53 : decode cX3_init 53 = .ok (.dup, 1) := dk_89 (dk_at dksX3_init_2 5 rfl rfl)
theorem dX3_init_54 : decode cX3_init 54 = .ok (.iconst 3, 1) := dk_6 (dk_at dksX3_init_2 6 rfl rfl)
theorem dX3_init_55 : decode cX3_init 55 = .ok (.ldc 31, 2) := dk_18 31 (dk_at dksX3_init_2 7 rfl rfl)
theorem dX3_init_57 : decode cX3_init 57 = .ok (.aastore, 1) := dk_83 (dk_at dksX3_init_2 9 rfl rfl)
theorem dX3_init_58 : decode cX3_init 58 = .ok (.dup, 1) := dk_89 (dk_at dksX3_init_2 10 rfl rfl)
theorem dX3_init_59 : decode cX3_init 59 = .ok (.iconst 4, 1) := dk_7 (dk_at dksX3_init_2 11 rfl rfl)
theorem dX3_init_60 : decode cX3_init 60 = .ok (.ldc 33, 2) := dk_18 33 (dk_at dksX3_init_2 12 rfl rfl)
theorem dX3_init_62 : decode cX3_init 62 = .ok (.aastore, 1) := dk_83 (dk_at dksX3_init_2 14 rfl rfl)
theorem dX3_init_63 : decode cX3_init 63 = .ok (.dup, 1) := dk_89 (dk_at dksX3_init_2 15 rfl rfl)
theorem dX3_init_64 : decode cX3_init 64 = .ok (.iconst 5, 1) := dk_8 (dk_at dksX3_init_2 16 rfl rfl)
theorem dX3_init_65 : decode cX3_init 65 = .ok (.ldc 35, 2) := dk_18 35 (dk_at dksX3_init_2 17 rfl rfl)
theorem dX3_init_67 : decode cX3_init 67 = .ok (.aastore, 1) := dk_83 (dk_at dksX3_init_2 19 rfl rfl)
theorem dX3_init_68 : decode cX3_init 68 = .ok (.dup, 1) := dk_89 (dk_at dksX3_init_2 20 rfl rfl)
theorem dX3_init_69 : decode cX3_init 69 = .ok (.bipush 6, 2) := dk_16 6 (dk_at dksX3_init_2 21 rfl rfl)
theorem dX3_init_71 : decode cX3_init 71 = .ok (.ldc 37, 2) := dk_18 37 (dk_at dksX3_init_3 0 rfl rfl)
theorem dX3_init_73 : decode cX3_init 73 = .ok (.aastore, 1) := dk_83 (dk_at dksX3_init_3 2 rfl rfl)
theorem dX3_init_74 : decode cX3_init 74 = .ok (.dup, 1) := dk_89 (dk_at dksX3_init_3 3 rfl rfl)
theorem dX3_init_75 : decode cX3_init 75 = .ok (.bipush 7, 2) := dk_16 7 (dk_at dksX3_init_3 4 rfl rfl)
theorem dX3_init_77 : decode cX3_init 77 = .ok (.ldc 39, 2) := dk_18 39 (dk_at dksX3_init_3 6 rfl rfl)
theorem dX3_init_79 : decode cX3_init 79 = .ok (.aastore, 1) := dk_83 (dk_at dksX3_init_3 8 rfl rfl)
theorem dX3_init_80 : decode cX3_init 80 = .ok (.dup, 1) := dk_89 (dk_at dksX3_init_3 9 rfl rfl)
theorem dX3_init_81 : decode cX3_init 81 = .ok (.bipush 8, 2) := dk_16 8 (dk_at dksX3_init_3 10 rfl rfl)
theorem dX3_init_83 : decode cX3_init 83 = .ok (.ldc 41, 2) := dk_18 41 (dk_at dksX3_init_3 12 rfl rfl)
theorem dX3_init_85 : decode cX3_init 85 = .ok (.aastore, 1) := dk_83 (dk_at dksX3_init_3 14 rfl rfl)
theorem dX3_init_86 : decode cX3_init 86 = .ok (.putfield 43, 3) := dk_181 0 43 (dk_at dksX3_init_3 15 rfl rfl)
theorem dX3_init_89 : decode cX3_init 89 = .ok (.aload_n 0, 1) := dk_42 (dk_at dksX3_init_3 18 rfl rfl)
theorem dX3_init_90 : decode cX3_init 90 = .ok (.aload_n 1, 1) := dk_43 (dk_at dksX3_init_3 19 rfl rfl)
theorem dX3_init_91 : decode cX3_init 91 = .ok (.putfield 46, 3) := dk_181 0 46 (dk_at dksX3_init_3 20 rfl rfl)
theorem dX3_init_94 : decode cX3_init 94 = .ok (.aload_n 0, 1) := dk_42 (dk_at dksX3_init_3 23 rfl rfl)
theorem dX3_init_95 : decode cX3_init 95 = .ok (.iload_n 2, 1) := dk_28 (dk_at dksX3_init_4 0 rfl rfl)
theorem dX3_init_96 : decode cX3_init 96 = .ok (.putfield 50, 3) := dk_181 0 50 (dk_at dksX3_init_4 1 rfl rfl)
theorem dX3_init_99 : decode cX3_init 99 = .ok (.return_, 1) := dk_177 (dk_at dksX3_init_4 4 rfl rfl)
abbrev cX3_whole_2 : ByteArray := prog_9_method_22_code
def yX3_whole_2 : MethodName := ⟨RX3, "whole", "()LFrostRing$Told;"⟩
def dkwX3_whole_2_4 : List UInt8 := [184, 1, 24, 176]
abbrev dktX3_whole_2_4 : List UInt8 := dkwX3_whole_2_4 ++ []
def dkwX3_whole_2_3 : List UInt8 := [4, 182, 0, 103, 42, 182, 0, 97, 43, 89, 180, 0, 231, 4, 96, 181, 0, 231, 167, 255, 178, 43]
abbrev dktX3_whole_2_3 : List UInt8 := dkwX3_whole_2_3 ++ dktX3_whole_2_4
def dkwX3_whole_2_2 : List UInt8 := [6, 182, 0, 103, 42, 182, 0, 97, 42, 43, 28, 182, 1, 20, 42, 16, 59, 182, 0, 118, 154, 0, 8, 42]
abbrev dktX3_whole_2_2 : List UInt8 := dkwX3_whole_2_2 ++ dktX3_whole_2_3
def dkwX3_whole_2_1 : List UInt8 := [182, 0, 200, 61, 28, 2, 160, 0, 8, 42, 4, 182, 0, 103, 42, 43, 28, 182, 1, 16, 153, 0, 8, 42]
abbrev dktX3_whole_2_1 : List UInt8 := dkwX3_whole_2_1 ++ dktX3_whole_2_2
def dkwX3_whole_2_0 : List UInt8 := [187, 0, 123, 89, 183, 1, 15, 76, 42, 182, 0, 97, 42, 180, 0, 66, 153, 0, 77, 42, 42, 180, 0, 43]
abbrev dktX3_whole_2_0 : List UInt8 := dkwX3_whole_2_0 ++ dktX3_whole_2_1
theorem dksX3_whole_2_0 : cX3_whole_2.data.toList.drop 0 = dktX3_whole_2_0 := by decide +kernel
theorem dksX3_whole_2_1 : cX3_whole_2.data.toList.drop 24 = dktX3_whole_2_1 := dk_seg dksX3_whole_2_0 24 rfl rfl
theorem dksX3_whole_2_2 : cX3_whole_2.data.toList.drop 48 = dktX3_whole_2_2 := dk_seg dksX3_whole_2_1 24 rfl rfl
theorem dksX3_whole_2_3 : cX3_whole_2.data.toList.drop 72 = dktX3_whole_2_3 := dk_seg dksX3_whole_2_2 24 rfl rfl
theorem dksX3_whole_2_4 : cX3_whole_2.data.toList.drop 94 = dktX3_whole_2_4 := dk_seg dksX3_whole_2_3 22 rfl rfl
theorem dX3_whole_2_0 : decode cX3_whole_2 0 = .ok (.new 123, 3) := dk_187 0 123 (dk_at dksX3_whole_2_0 0 rfl rfl)
theorem dX3_whole_2_3 : decode cX3_whole_2 3 = .ok (.dup, 1) := dk_89 (dk_at dksX3_whole_2_0 3 rfl rfl)
theorem dX3_whole_2_4 : decode cX3_whole_2 4 = .ok (.invokespecial 271, 3) := dk_183 1 15 (dk_at dksX3_whole_2_0 4 rfl rfl)
theorem dX3_whole_2_7 : decode cX3_whole_2 7 = .ok (.astore_n 1, 1) := dk_76 (dk_at dksX3_whole_2_0 7 rfl rfl)
theorem dX3_whole_2_8 : decode cX3_whole_2 8 = .ok (.aload_n 0, 1) := dk_42 (dk_at dksX3_whole_2_0 8 rfl rfl)
theorem dX3_whole_2_9 : decode cX3_whole_2 9 = .ok (.invokevirtual 97, 3) := dk_182 0 97 (dk_at dksX3_whole_2_0 9 rfl rfl)
theorem dX3_whole_2_12 : decode cX3_whole_2 12 = .ok (.aload_n 0, 1) := dk_42 (dk_at dksX3_whole_2_0 12 rfl rfl)
theorem dX3_whole_2_13 : decode cX3_whole_2 13 = .ok (.getfield 66, 3) := dk_180 0 66 (dk_at dksX3_whole_2_0 13 rfl rfl)
theorem dX3_whole_2_16 : decode cX3_whole_2 16 = .ok (.ifCond .eq 77, 3) := dk_153 0 77 (dk_at dksX3_whole_2_0 16 rfl rfl)
theorem dX3_whole_2_19 : decode cX3_whole_2 19 = .ok (.aload_n 0, 1) := dk_42 (dk_at dksX3_whole_2_0 19 rfl rfl)
theorem dX3_whole_2_20 : decode cX3_whole_2 20 = .ok (.aload_n 0, 1) := dk_42 (dk_at dksX3_whole_2_0 20 rfl rfl)
theorem dX3_whole_2_21 : decode cX3_whole_2 21 = .ok (.getfield 43, 3) := dk_180 0 43 (dk_at dksX3_whole_2_0 21 rfl rfl)
theorem dX3_whole_2_24 : decode cX3_whole_2 24 = .ok (.invokevirtual 200, 3) := dk_182 0 200 (dk_at dksX3_whole_2_1 0 rfl rfl)
theorem dX3_whole_2_27 : decode cX3_whole_2 27 = .ok (.istore_n 2, 1) := dk_61 (dk_at dksX3_whole_2_1 3 rfl rfl)
theorem dX3_whole_2_28 : decode cX3_whole_2 28 = .ok (.iload_n 2, 1) := dk_28 (dk_at dksX3_whole_2_1 4 rfl rfl)
theorem dX3_whole_2_29 : decode cX3_whole_2 29 = .ok (.iconst (-1), 1) := dk_2 (dk_at dksX3_whole_2_1 5 rfl rfl)
theorem dX3_whole_2_30 : decode cX3_whole_2 30 = .ok (.if_icmp .ne 8, 3) := dk_160 0 8 (dk_at dksX3_whole_2_1 6 rfl rfl)
theorem dX3_whole_2_33 : decode cX3_whole_2 33 = .ok (.aload_n 0, 1) := dk_42 (dk_at dksX3_whole_2_1 9 rfl rfl)
theorem dX3_whole_2_34 : decode cX3_whole_2 34 = .ok (.iconst 1, 1) := dk_4 (dk_at dksX3_whole_2_1 10 rfl rfl)
theorem dX3_whole_2_35 : decode cX3_whole_2 35 = .ok (.invokevirtual 103, 3) := dk_182 0 103 (dk_at dksX3_whole_2_1 11 rfl rfl)
theorem dX3_whole_2_38 : decode cX3_whole_2 38 = .ok (.aload_n 0, 1) := dk_42 (dk_at dksX3_whole_2_1 14 rfl rfl)
theorem dX3_whole_2_39 : decode cX3_whole_2 39 = .ok (.aload_n 1, 1) := dk_43 (dk_at dksX3_whole_2_1 15 rfl rfl)
theorem dX3_whole_2_40 : decode cX3_whole_2 40 = .ok (.iload_n 2, 1) := dk_28 (dk_at dksX3_whole_2_1 16 rfl rfl)
theorem dX3_whole_2_41 : decode cX3_whole_2 41 = .ok (.invokevirtual 272, 3) := dk_182 1 16 (dk_at dksX3_whole_2_1 17 rfl rfl)
theorem dX3_whole_2_44 : decode cX3_whole_2 44 = .ok (.ifCond .eq 8, 3) := dk_153 0 8 (dk_at dksX3_whole_2_1 20 rfl rfl)
theorem dX3_whole_2_47 : decode cX3_whole_2 47 = .ok (.aload_n 0, 1) := dk_42 (dk_at dksX3_whole_2_1 23 rfl rfl)
theorem dX3_whole_2_48 : decode cX3_whole_2 48 = .ok (.iconst 3, 1) := dk_6 (dk_at dksX3_whole_2_2 0 rfl rfl)
theorem dX3_whole_2_49 : decode cX3_whole_2 49 = .ok (.invokevirtual 103, 3) := dk_182 0 103 (dk_at dksX3_whole_2_2 1 rfl rfl)
theorem dX3_whole_2_52 : decode cX3_whole_2 52 = .ok (.aload_n 0, 1) := dk_42 (dk_at dksX3_whole_2_2 4 rfl rfl)
theorem dX3_whole_2_53 : decode cX3_whole_2 53 = .ok (.invokevirtual 97, 3) := dk_182 0 97 (dk_at dksX3_whole_2_2 5 rfl rfl)
theorem dX3_whole_2_56 : decode cX3_whole_2 56 = .ok (.aload_n 0, 1) := dk_42 (dk_at dksX3_whole_2_2 8 rfl rfl)
theorem dX3_whole_2_57 : decode cX3_whole_2 57 = .ok (.aload_n 1, 1) := dk_43 (dk_at dksX3_whole_2_2 9 rfl rfl)
theorem dX3_whole_2_58 : decode cX3_whole_2 58 = .ok (.iload_n 2, 1) := dk_28 (dk_at dksX3_whole_2_2 10 rfl rfl)
theorem dX3_whole_2_59 : decode cX3_whole_2 59 = .ok (.invokevirtual 276, 3) := dk_182 1 20 (dk_at dksX3_whole_2_2 11 rfl rfl)
theorem dX3_whole_2_62 : decode cX3_whole_2 62 = .ok (.aload_n 0, 1) := dk_42 (dk_at dksX3_whole_2_2 14 rfl rfl)
theorem dX3_whole_2_63 : decode cX3_whole_2 63 = .ok (.bipush 59, 2) := dk_16 59 (dk_at dksX3_whole_2_2 15 rfl rfl)
theorem dX3_whole_2_65 : decode cX3_whole_2 65 = .ok (.invokevirtual 118, 3) := dk_182 0 118 (dk_at dksX3_whole_2_2 17 rfl rfl)
theorem dX3_whole_2_68 : decode cX3_whole_2 68 = .ok (.ifCond .ne 8, 3) := dk_154 0 8 (dk_at dksX3_whole_2_2 20 rfl rfl)
theorem dX3_whole_2_71 : decode cX3_whole_2 71 = .ok (.aload_n 0, 1) := dk_42 (dk_at dksX3_whole_2_2 23 rfl rfl)
theorem dX3_whole_2_72 : decode cX3_whole_2 72 = .ok (.iconst 1, 1) := dk_4 (dk_at dksX3_whole_2_3 0 rfl rfl)
theorem dX3_whole_2_73 : decode cX3_whole_2 73 = .ok (.invokevirtual 103, 3) := dk_182 0 103 (dk_at dksX3_whole_2_3 1 rfl rfl)
theorem dX3_whole_2_76 : decode cX3_whole_2 76 = .ok (.aload_n 0, 1) := dk_42 (dk_at dksX3_whole_2_3 4 rfl rfl)
theorem dX3_whole_2_77 : decode cX3_whole_2 77 = .ok (.invokevirtual 97, 3) := dk_182 0 97 (dk_at dksX3_whole_2_3 5 rfl rfl)
theorem dX3_whole_2_80 : decode cX3_whole_2 80 = .ok (.aload_n 1, 1) := dk_43 (dk_at dksX3_whole_2_3 8 rfl rfl)
theorem dX3_whole_2_81 : decode cX3_whole_2 81 = .ok (.dup, 1) := dk_89 (dk_at dksX3_whole_2_3 9 rfl rfl)
theorem dX3_whole_2_82 : decode cX3_whole_2 82 = .ok (.getfield 231, 3) := dk_180 0 231 (dk_at dksX3_whole_2_3 10 rfl rfl)
theorem dX3_whole_2_85 : decode cX3_whole_2 85 = .ok (.iconst 1, 1) := dk_4 (dk_at dksX3_whole_2_3 13 rfl rfl)
theorem dX3_whole_2_86 : decode cX3_whole_2 86 = .ok (.iadd, 1) := dk_96 (dk_at dksX3_whole_2_3 14 rfl rfl)
theorem dX3_whole_2_87 : decode cX3_whole_2 87 = .ok (.putfield 231, 3) := dk_181 0 231 (dk_at dksX3_whole_2_3 15 rfl rfl)
theorem dX3_whole_2_90 : decode cX3_whole_2 90 = .ok (.goto (-78), 3) := dk_167 255 178 (dk_at dksX3_whole_2_3 18 rfl rfl)
theorem dX3_whole_2_93 : decode cX3_whole_2 93 = .ok (.aload_n 1, 1) := dk_43 (dk_at dksX3_whole_2_3 21 rfl rfl)
theorem dX3_whole_2_94 : decode cX3_whole_2 94 = .ok (.invokestatic 280, 3) := dk_184 1 24 (dk_at dksX3_whole_2_4 0 rfl rfl)
theorem dX3_whole_2_97 : decode cX3_whole_2 97 = .ok (.areturn, 1) := dk_176 (dk_at dksX3_whole_2_4 3 rfl rfl)
abbrev cX3_next : ByteArray := prog_9_method_3_code
def yX3_next : MethodName := ⟨RX3, "next", "()V"⟩
def dkwX3_next_11 : List UInt8 := [181, 0, 66, 42, 89, 180, 0, 54, 4, 96, 181, 0, 54, 177]
abbrev dktX3_next_11 : List UInt8 := dkwX3_next_11 ++ []
def dkwX3_next_10 : List UInt8 := [180, 0, 63, 16, 45, 159, 0, 12, 42, 180, 0, 63, 16, 59, 160, 0, 7, 6, 167, 0, 4, 7]
abbrev dktX3_next_10 : List UInt8 := dkwX3_next_10 ++ dktX3_next_11
def dkwX3_next_9 : List UInt8 := [181, 0, 63, 42, 42, 180, 0, 63, 16, 60, 159, 0, 30, 42, 180, 0, 63, 16, 62, 159, 0, 21, 42]
abbrev dktX3_next_9 : List UInt8 := dkwX3_next_9 ++ dktX3_next_10
def dkwX3_next_8 : List UInt8 := [42, 89, 180, 0, 54, 4, 96, 181, 0, 54, 167, 255, 206, 42, 42, 180, 0, 46, 42, 180, 0, 54, 51]
abbrev dktX3_next_8 : List UInt8 := dkwX3_next_8 ++ dktX3_next_9
def dkwX3_next_7 : List UInt8 := [42, 180, 0, 63, 104, 42, 180, 0, 46, 42, 180, 0, 54, 51, 96, 16, 48, 100, 184, 0, 74, 181, 0, 63]
abbrev dktX3_next_7 : List UInt8 := dkwX3_next_7 ++ dktX3_next_8
def dkwX3_next_6 : List UInt8 := [153, 0, 61, 42, 5, 181, 0, 66, 42, 16, 48, 16, 57, 182, 0, 69, 153, 0, 113, 42, 18, 73, 16, 10]
abbrev dktX3_next_6 : List UInt8 := dkwX3_next_6 ++ dktX3_next_7
def dkwX3_next_5 : List UInt8 := [153, 0, 153, 42, 89, 180, 0, 54, 4, 96, 181, 0, 54, 167, 255, 235, 42, 16, 48, 16, 57, 182, 0, 69]
abbrev dktX3_next_5 : List UInt8 := dkwX3_next_5 ++ dktX3_next_6
def dkwX3_next_4 : List UInt8 := [16, 97, 16, 122, 182, 0, 69, 153, 0, 32, 42, 4, 181, 0, 66, 42, 16, 97, 16, 122, 182, 0, 69]
abbrev dktX3_next_4 : List UInt8 := dkwX3_next_4 ++ dktX3_next_5
def dkwX3_next_3 : List UInt8 := [181, 0, 63, 42, 180, 0, 54, 42, 180, 0, 50, 160, 0, 11, 42, 3, 181, 0, 66, 167, 0, 180, 42]
abbrev dktX3_next_3 : List UInt8 := dkwX3_next_3 ++ dktX3_next_4
def dkwX3_next_2 : List UInt8 := [181, 0, 54, 167, 255, 207, 42, 42, 180, 0, 54, 181, 0, 57, 42, 42, 180, 0, 54, 181, 0, 60, 42, 3]
abbrev dktX3_next_2 : List UInt8 := dkwX3_next_2 ++ dktX3_next_3
def dkwX3_next_1 : List UInt8 := [159, 0, 17, 42, 180, 0, 46, 42, 180, 0, 54, 51, 16, 10, 160, 0, 16, 42, 89, 180, 0, 54, 4, 96]
abbrev dktX3_next_1 : List UInt8 := dkwX3_next_1 ++ dktX3_next_2
def dkwX3_next_0 : List UInt8 := [42, 180, 0, 54, 42, 180, 0, 50, 162, 0, 44, 42, 180, 0, 46, 42, 180, 0, 54, 51, 16, 32]
abbrev dktX3_next_0 : List UInt8 := dkwX3_next_0 ++ dktX3_next_1
theorem dksX3_next_0 : cX3_next.data.toList.drop 0 = dktX3_next_0 := by decide +kernel
theorem dksX3_next_1 : cX3_next.data.toList.drop 22 = dktX3_next_1 := dk_seg dksX3_next_0 22 rfl rfl
theorem dksX3_next_2 : cX3_next.data.toList.drop 46 = dktX3_next_2 := dk_seg dksX3_next_1 24 rfl rfl
theorem dksX3_next_3 : cX3_next.data.toList.drop 70 = dktX3_next_3 := dk_seg dksX3_next_2 24 rfl rfl
theorem dksX3_next_4 : cX3_next.data.toList.drop 93 = dktX3_next_4 := dk_seg dksX3_next_3 23 rfl rfl
theorem dksX3_next_5 : cX3_next.data.toList.drop 116 = dktX3_next_5 := dk_seg dksX3_next_4 23 rfl rfl
theorem dksX3_next_6 : cX3_next.data.toList.drop 140 = dktX3_next_6 := dk_seg dksX3_next_5 24 rfl rfl
theorem dksX3_next_7 : cX3_next.data.toList.drop 164 = dktX3_next_7 := dk_seg dksX3_next_6 24 rfl rfl
theorem dksX3_next_8 : cX3_next.data.toList.drop 188 = dktX3_next_8 := dk_seg dksX3_next_7 24 rfl rfl
theorem dksX3_next_9 : cX3_next.data.toList.drop 211 = dktX3_next_9 := dk_seg dksX3_next_8 23 rfl rfl
theorem dksX3_next_10 : cX3_next.data.toList.drop 234 = dktX3_next_10 := dk_seg dksX3_next_9 23 rfl rfl
theorem dksX3_next_11 : cX3_next.data.toList.drop 256 = dktX3_next_11 := dk_seg dksX3_next_10 22 rfl rfl
theorem dX3_next_0 : decode cX3_next 0 = .ok (.aload_n 0, 1) := dk_42 (dk_at dksX3_next_0 0 rfl rfl)
theorem dX3_next_1 : decode cX3_next 1 = .ok (.getfield 54, 3) := dk_180 0 54 (dk_at dksX3_next_0 1 rfl rfl)
theorem dX3_next_4 : decode cX3_next 4 = .ok (.aload_n 0, 1) := dk_42 (dk_at dksX3_next_0 4 rfl rfl)
theorem dX3_next_5 : decode cX3_next 5 = .ok (.getfield 50, 3) := dk_180 0 50 (dk_at dksX3_next_0 5 rfl rfl)
theorem dX3_next_8 : decode cX3_next 8 = .ok (.if_icmp .ge 44, 3) := dk_162 0 44 (dk_at dksX3_next_0 8 rfl rfl)
theorem dX3_next_11 : decode cX3_next 11 = .ok (.aload_n 0, 1) := dk_42 (dk_at dksX3_next_0 11 rfl rfl)
theorem dX3_next_12 : decode cX3_next 12 = .ok (.getfield 46, 3) := dk_180 0 46 (dk_at dksX3_next_0 12 rfl rfl)
theorem dX3_next_15 : decode cX3_next 15 = .ok (.aload_n 0, 1) := dk_42 (dk_at dksX3_next_0 15 rfl rfl)
theorem dX3_next_16 : decode cX3_next 16 = .ok (.getfield 54, 3) := dk_180 0 54 (dk_at dksX3_next_0 16 rfl rfl)
theorem dX3_next_19 : decode cX3_next 19 = .ok (.baload, 1) := dk_51 (dk_at dksX3_next_0 19 rfl rfl)
theorem dX3_next_20 : decode cX3_next 20 = .ok (.bipush 32, 2) := dk_16 32 (dk_at dksX3_next_0 20 rfl rfl)
theorem dX3_next_22 : decode cX3_next 22 = .ok (.if_icmp .eq 17, 3) := dk_159 0 17 (dk_at dksX3_next_1 0 rfl rfl)
theorem dX3_next_25 : decode cX3_next 25 = .ok (.aload_n 0, 1) := dk_42 (dk_at dksX3_next_1 3 rfl rfl)
theorem dX3_next_26 : decode cX3_next 26 = .ok (.getfield 46, 3) := dk_180 0 46 (dk_at dksX3_next_1 4 rfl rfl)
theorem dX3_next_29 : decode cX3_next 29 = .ok (.aload_n 0, 1) := dk_42 (dk_at dksX3_next_1 7 rfl rfl)
theorem dX3_next_30 : decode cX3_next 30 = .ok (.getfield 54, 3) := dk_180 0 54 (dk_at dksX3_next_1 8 rfl rfl)
theorem dX3_next_33 : decode cX3_next 33 = .ok (.baload, 1) := dk_51 (dk_at dksX3_next_1 11 rfl rfl)
theorem dX3_next_34 : decode cX3_next 34 = .ok (.bipush 10, 2) := dk_16 10 (dk_at dksX3_next_1 12 rfl rfl)
theorem dX3_next_36 : decode cX3_next 36 = .ok (.if_icmp .ne 16, 3) := dk_160 0 16 (dk_at dksX3_next_1 14 rfl rfl)
theorem dX3_next_39 : decode cX3_next 39 = .ok (.aload_n 0, 1) := dk_42 (dk_at dksX3_next_1 17 rfl rfl)
theorem dX3_next_40 : decode cX3_next 40 = .ok (.dup, 1) := dk_89 (dk_at dksX3_next_1 18 rfl rfl)
theorem dX3_next_41 : decode cX3_next 41 = .ok (.getfield 54, 3) := dk_180 0 54 (dk_at dksX3_next_1 19 rfl rfl)
theorem dX3_next_44 : decode cX3_next 44 = .ok (.iconst 1, 1) := dk_4 (dk_at dksX3_next_1 22 rfl rfl)
theorem dX3_next_45 : decode cX3_next 45 = .ok (.iadd, 1) := dk_96 (dk_at dksX3_next_1 23 rfl rfl)
theorem dX3_next_46 : decode cX3_next 46 = .ok (.putfield 54, 3) := dk_181 0 54 (dk_at dksX3_next_2 0 rfl rfl)
theorem dX3_next_49 : decode cX3_next 49 = .ok (.goto (-49), 3) := dk_167 255 207 (dk_at dksX3_next_2 3 rfl rfl)
theorem dX3_next_52 : decode cX3_next 52 = .ok (.aload_n 0, 1) := dk_42 (dk_at dksX3_next_2 6 rfl rfl)
theorem dX3_next_53 : decode cX3_next 53 = .ok (.aload_n 0, 1) := dk_42 (dk_at dksX3_next_2 7 rfl rfl)
theorem dX3_next_54 : decode cX3_next 54 = .ok (.getfield 54, 3) := dk_180 0 54 (dk_at dksX3_next_2 8 rfl rfl)
theorem dX3_next_57 : decode cX3_next 57 = .ok (.putfield 57, 3) := dk_181 0 57 (dk_at dksX3_next_2 11 rfl rfl)
theorem dX3_next_60 : decode cX3_next 60 = .ok (.aload_n 0, 1) := dk_42 (dk_at dksX3_next_2 14 rfl rfl)
theorem dX3_next_61 : decode cX3_next 61 = .ok (.aload_n 0, 1) := dk_42 (dk_at dksX3_next_2 15 rfl rfl)
theorem dX3_next_62 : decode cX3_next 62 = .ok (.getfield 54, 3) := dk_180 0 54 (dk_at dksX3_next_2 16 rfl rfl)
theorem dX3_next_65 : decode cX3_next 65 = .ok (.putfield 60, 3) := dk_181 0 60 (dk_at dksX3_next_2 19 rfl rfl)
theorem dX3_next_68 : decode cX3_next 68 = .ok (.aload_n 0, 1) := dk_42 (dk_at dksX3_next_2 22 rfl rfl)
theorem dX3_next_69 : decode cX3_next 69 = .ok (.iconst 0, 1) := dk_3 (dk_at dksX3_next_2 23 rfl rfl)
theorem dX3_next_70 : decode cX3_next 70 = .ok (.putfield 63, 3) := dk_181 0 63 (dk_at dksX3_next_3 0 rfl rfl)
theorem dX3_next_73 : decode cX3_next 73 = .ok (.aload_n 0, 1) := dk_42 (dk_at dksX3_next_3 3 rfl rfl)
theorem dX3_next_74 : decode cX3_next 74 = .ok (.getfield 54, 3) := dk_180 0 54 (dk_at dksX3_next_3 4 rfl rfl)
theorem dX3_next_77 : decode cX3_next 77 = .ok (.aload_n 0, 1) := dk_42 (dk_at dksX3_next_3 7 rfl rfl)
theorem dX3_next_78 : decode cX3_next 78 = .ok (.getfield 50, 3) := dk_180 0 50 (dk_at dksX3_next_3 8 rfl rfl)
theorem dX3_next_81 : decode cX3_next 81 = .ok (.if_icmp .ne 11, 3) := dk_160 0 11 (dk_at dksX3_next_3 11 rfl rfl)
theorem dX3_next_84 : decode cX3_next 84 = .ok (.aload_n 0, 1) := dk_42 (dk_at dksX3_next_3 14 rfl rfl)
theorem dX3_next_85 : decode cX3_next 85 = .ok (.iconst 0, 1) := dk_3 (dk_at dksX3_next_3 15 rfl rfl)
theorem dX3_next_86 : decode cX3_next 86 = .ok (.putfield 66, 3) := dk_181 0 66 (dk_at dksX3_next_3 16 rfl rfl)
theorem dX3_next_89 : decode cX3_next 89 = .ok (.goto 180, 3) := dk_167 0 180 (dk_at dksX3_next_3 19 rfl rfl)
theorem dX3_next_92 : decode cX3_next 92 = .ok (.aload_n 0, 1) := dk_42 (dk_at dksX3_next_3 22 rfl rfl)
theorem dX3_next_93 : decode cX3_next 93 = .ok (.bipush 97, 2) := dk_16 97 (dk_at dksX3_next_4 0 rfl rfl)
theorem dX3_next_95 : decode cX3_next 95 = .ok (.bipush 122, 2) := dk_16 122 (dk_at dksX3_next_4 2 rfl rfl)
theorem dX3_next_97 : decode cX3_next 97 = .ok (.invokevirtual 69, 3) := dk_182 0 69 (dk_at dksX3_next_4 4 rfl rfl)
theorem dX3_next_100 : decode cX3_next 100 = .ok (.ifCond .eq 32, 3) := dk_153 0 32 (dk_at dksX3_next_4 7 rfl rfl)
theorem dX3_next_103 : decode cX3_next 103 = .ok (.aload_n 0, 1) := dk_42 (dk_at dksX3_next_4 10 rfl rfl)
theorem dX3_next_104 : decode cX3_next 104 = .ok (.iconst 1, 1) := dk_4 (dk_at dksX3_next_4 11 rfl rfl)
theorem dX3_next_105 : decode cX3_next 105 = .ok (.putfield 66, 3) := dk_181 0 66 (dk_at dksX3_next_4 12 rfl rfl)
theorem dX3_next_108 : decode cX3_next 108 = .ok (.aload_n 0, 1) := dk_42 (dk_at dksX3_next_4 15 rfl rfl)
theorem dX3_next_109 : decode cX3_next 109 = .ok (.bipush 97, 2) := dk_16 97 (dk_at dksX3_next_4 16 rfl rfl)
theorem dX3_next_111 : decode cX3_next 111 = .ok (.bipush 122, 2) := dk_16 122 (dk_at dksX3_next_4 18 rfl rfl)
theorem dX3_next_113 : decode cX3_next 113 = .ok (.invokevirtual 69, 3) := dk_182 0 69 (dk_at dksX3_next_4 20 rfl rfl)
theorem dX3_next_116 : decode cX3_next 116 = .ok (.ifCond .eq 153, 3) := dk_153 0 153 (dk_at dksX3_next_5 0 rfl rfl)
theorem dX3_next_119 : decode cX3_next 119 = .ok (.aload_n 0, 1) := dk_42 (dk_at dksX3_next_5 3 rfl rfl)
theorem dX3_next_120 : decode cX3_next 120 = .ok (.dup, 1) := dk_89 (dk_at dksX3_next_5 4 rfl rfl)
theorem dX3_next_121 : decode cX3_next 121 = .ok (.getfield 54, 3) := dk_180 0 54 (dk_at dksX3_next_5 5 rfl rfl)
theorem dX3_next_124 : decode cX3_next 124 = .ok (.iconst 1, 1) := dk_4 (dk_at dksX3_next_5 8 rfl rfl)
theorem dX3_next_125 : decode cX3_next 125 = .ok (.iadd, 1) := dk_96 (dk_at dksX3_next_5 9 rfl rfl)
theorem dX3_next_126 : decode cX3_next 126 = .ok (.putfield 54, 3) := dk_181 0 54 (dk_at dksX3_next_5 10 rfl rfl)
theorem dX3_next_129 : decode cX3_next 129 = .ok (.goto (-21), 3) := dk_167 255 235 (dk_at dksX3_next_5 13 rfl rfl)
theorem dX3_next_132 : decode cX3_next 132 = .ok (.aload_n 0, 1) := dk_42 (dk_at dksX3_next_5 16 rfl rfl)
theorem dX3_next_133 : decode cX3_next 133 = .ok (.bipush 48, 2) := dk_16 48 (dk_at dksX3_next_5 17 rfl rfl)
theorem dX3_next_135 : decode cX3_next 135 = .ok (.bipush 57, 2) := dk_16 57 (dk_at dksX3_next_5 19 rfl rfl)
theorem dX3_next_137 : decode cX3_next 137 = .ok (.invokevirtual 69, 3) := dk_182 0 69 (dk_at dksX3_next_5 21 rfl rfl)
theorem dX3_next_140 : decode cX3_next 140 = .ok (.ifCond .eq 61, 3) := dk_153 0 61 (dk_at dksX3_next_6 0 rfl rfl)
theorem dX3_next_143 : decode cX3_next 143 = .ok (.aload_n 0, 1) := dk_42 (dk_at dksX3_next_6 3 rfl rfl)
theorem dX3_next_144 : decode cX3_next 144 = .ok (.iconst 2, 1) := dk_5 (dk_at dksX3_next_6 4 rfl rfl)
theorem dX3_next_145 : decode cX3_next 145 = .ok (.putfield 66, 3) := dk_181 0 66 (dk_at dksX3_next_6 5 rfl rfl)
theorem dX3_next_148 : decode cX3_next 148 = .ok (.aload_n 0, 1) := dk_42 (dk_at dksX3_next_6 8 rfl rfl)
theorem dX3_next_149 : decode cX3_next 149 = .ok (.bipush 48, 2) := dk_16 48 (dk_at dksX3_next_6 9 rfl rfl)
theorem dX3_next_151 : decode cX3_next 151 = .ok (.bipush 57, 2) := dk_16 57 (dk_at dksX3_next_6 11 rfl rfl)
theorem dX3_next_153 : decode cX3_next 153 = .ok (.invokevirtual 69, 3) := dk_182 0 69 (dk_at dksX3_next_6 13 rfl rfl)
theorem dX3_next_156 : decode cX3_next 156 = .ok (.ifCond .eq 113, 3) := dk_153 0 113 (dk_at dksX3_next_6 16 rfl rfl)
theorem dX3_next_159 : decode cX3_next 159 = .ok (.aload_n 0, 1) := dk_42 (dk_at dksX3_next_6 19 rfl rfl)
theorem dX3_next_160 : decode cX3_next 160 = .ok (.ldc 73, 2) := dk_18 73 (dk_at dksX3_next_6 20 rfl rfl)
theorem dX3_next_162 : decode cX3_next 162 = .ok (.bipush 10, 2) := dk_16 10 (dk_at dksX3_next_6 22 rfl rfl)
theorem dX3_next_164 : decode cX3_next 164 = .ok (.aload_n 0, 1) := dk_42 (dk_at dksX3_next_7 0 rfl rfl)
theorem dX3_next_165 : decode cX3_next 165 = .ok (.getfield 63, 3) := dk_180 0 63 (dk_at dksX3_next_7 1 rfl rfl)
theorem dX3_next_168 : decode cX3_next 168 = .ok (.imul, 1) := dk_104 (dk_at dksX3_next_7 4 rfl rfl)
theorem dX3_next_169 : decode cX3_next 169 = .ok (.aload_n 0, 1) := dk_42 (dk_at dksX3_next_7 5 rfl rfl)
theorem dX3_next_170 : decode cX3_next 170 = .ok (.getfield 46, 3) := dk_180 0 46 (dk_at dksX3_next_7 6 rfl rfl)
theorem dX3_next_173 : decode cX3_next 173 = .ok (.aload_n 0, 1) := dk_42 (dk_at dksX3_next_7 9 rfl rfl)
theorem dX3_next_174 : decode cX3_next 174 = .ok (.getfield 54, 3) := dk_180 0 54 (dk_at dksX3_next_7 10 rfl rfl)
theorem dX3_next_177 : decode cX3_next 177 = .ok (.baload, 1) := dk_51 (dk_at dksX3_next_7 13 rfl rfl)
theorem dX3_next_178 : decode cX3_next 178 = .ok (.iadd, 1) := dk_96 (dk_at dksX3_next_7 14 rfl rfl)
theorem dX3_next_179 : decode cX3_next 179 = .ok (.bipush 48, 2) := dk_16 48 (dk_at dksX3_next_7 15 rfl rfl)
theorem dX3_next_181 : decode cX3_next 181 = .ok (.isub, 1) := dk_100 (dk_at dksX3_next_7 17 rfl rfl)
theorem dX3_next_182 : decode cX3_next 182 = .ok (.invokestatic 74, 3) := dk_184 0 74 (dk_at dksX3_next_7 18 rfl rfl)
theorem dX3_next_185 : decode cX3_next 185 = .ok (.putfield 63, 3) := dk_181 0 63 (dk_at dksX3_next_7 21 rfl rfl)
theorem dX3_next_188 : decode cX3_next 188 = .ok (.aload_n 0, 1) := dk_42 (dk_at dksX3_next_8 0 rfl rfl)
theorem dX3_next_189 : decode cX3_next 189 = .ok (.dup, 1) := dk_89 (dk_at dksX3_next_8 1 rfl rfl)
theorem dX3_next_190 : decode cX3_next 190 = .ok (.getfield 54, 3) := dk_180 0 54 (dk_at dksX3_next_8 2 rfl rfl)
theorem dX3_next_193 : decode cX3_next 193 = .ok (.iconst 1, 1) := dk_4 (dk_at dksX3_next_8 5 rfl rfl)
theorem dX3_next_194 : decode cX3_next 194 = .ok (.iadd, 1) := dk_96 (dk_at dksX3_next_8 6 rfl rfl)
theorem dX3_next_195 : decode cX3_next 195 = .ok (.putfield 54, 3) := dk_181 0 54 (dk_at dksX3_next_8 7 rfl rfl)
theorem dX3_next_198 : decode cX3_next 198 = .ok (.goto (-50), 3) := dk_167 255 206 (dk_at dksX3_next_8 10 rfl rfl)
theorem dX3_next_201 : decode cX3_next 201 = .ok (.aload_n 0, 1) := dk_42 (dk_at dksX3_next_8 13 rfl rfl)
theorem dX3_next_202 : decode cX3_next 202 = .ok (.aload_n 0, 1) := dk_42 (dk_at dksX3_next_8 14 rfl rfl)
theorem dX3_next_203 : decode cX3_next 203 = .ok (.getfield 46, 3) := dk_180 0 46 (dk_at dksX3_next_8 15 rfl rfl)
theorem dX3_next_206 : decode cX3_next 206 = .ok (.aload_n 0, 1) := dk_42 (dk_at dksX3_next_8 18 rfl rfl)
theorem dX3_next_207 : decode cX3_next 207 = .ok (.getfield 54, 3) := dk_180 0 54 (dk_at dksX3_next_8 19 rfl rfl)
theorem dX3_next_210 : decode cX3_next 210 = .ok (.baload, 1) := dk_51 (dk_at dksX3_next_8 22 rfl rfl)
theorem dX3_next_211 : decode cX3_next 211 = .ok (.putfield 63, 3) := dk_181 0 63 (dk_at dksX3_next_9 0 rfl rfl)
theorem dX3_next_214 : decode cX3_next 214 = .ok (.aload_n 0, 1) := dk_42 (dk_at dksX3_next_9 3 rfl rfl)
theorem dX3_next_215 : decode cX3_next 215 = .ok (.aload_n 0, 1) := dk_42 (dk_at dksX3_next_9 4 rfl rfl)
theorem dX3_next_216 : decode cX3_next 216 = .ok (.getfield 63, 3) := dk_180 0 63 (dk_at dksX3_next_9 5 rfl rfl)
theorem dX3_next_219 : decode cX3_next 219 = .ok (.bipush 60, 2) := dk_16 60 (dk_at dksX3_next_9 8 rfl rfl)
theorem dX3_next_221 : decode cX3_next 221 = .ok (.if_icmp .eq 30, 3) := dk_159 0 30 (dk_at dksX3_next_9 10 rfl rfl)
theorem dX3_next_224 : decode cX3_next 224 = .ok (.aload_n 0, 1) := dk_42 (dk_at dksX3_next_9 13 rfl rfl)
theorem dX3_next_225 : decode cX3_next 225 = .ok (.getfield 63, 3) := dk_180 0 63 (dk_at dksX3_next_9 14 rfl rfl)
theorem dX3_next_228 : decode cX3_next 228 = .ok (.bipush 62, 2) := dk_16 62 (dk_at dksX3_next_9 17 rfl rfl)
theorem dX3_next_230 : decode cX3_next 230 = .ok (.if_icmp .eq 21, 3) := dk_159 0 21 (dk_at dksX3_next_9 19 rfl rfl)
theorem dX3_next_233 : decode cX3_next 233 = .ok (.aload_n 0, 1) := dk_42 (dk_at dksX3_next_9 22 rfl rfl)
theorem dX3_next_234 : decode cX3_next 234 = .ok (.getfield 63, 3) := dk_180 0 63 (dk_at dksX3_next_10 0 rfl rfl)
theorem dX3_next_237 : decode cX3_next 237 = .ok (.bipush 45, 2) := dk_16 45 (dk_at dksX3_next_10 3 rfl rfl)
theorem dX3_next_239 : decode cX3_next 239 = .ok (.if_icmp .eq 12, 3) := dk_159 0 12 (dk_at dksX3_next_10 5 rfl rfl)
theorem dX3_next_242 : decode cX3_next 242 = .ok (.aload_n 0, 1) := dk_42 (dk_at dksX3_next_10 8 rfl rfl)
theorem dX3_next_243 : decode cX3_next 243 = .ok (.getfield 63, 3) := dk_180 0 63 (dk_at dksX3_next_10 9 rfl rfl)
theorem dX3_next_246 : decode cX3_next 246 = .ok (.bipush 59, 2) := dk_16 59 (dk_at dksX3_next_10 12 rfl rfl)
theorem dX3_next_248 : decode cX3_next 248 = .ok (.if_icmp .ne 7, 3) := dk_160 0 7 (dk_at dksX3_next_10 14 rfl rfl)
theorem dX3_next_251 : decode cX3_next 251 = .ok (.iconst 3, 1) := dk_6 (dk_at dksX3_next_10 17 rfl rfl)
theorem dX3_next_252 : decode cX3_next 252 = .ok (.goto 4, 3) := dk_167 0 4 (dk_at dksX3_next_10 18 rfl rfl)
theorem dX3_next_255 : decode cX3_next 255 = .ok (.iconst 4, 1) := dk_7 (dk_at dksX3_next_10 21 rfl rfl)
theorem dX3_next_256 : decode cX3_next 256 = .ok (.putfield 66, 3) := dk_181 0 66 (dk_at dksX3_next_11 0 rfl rfl)
theorem dX3_next_259 : decode cX3_next 259 = .ok (.aload_n 0, 1) := dk_42 (dk_at dksX3_next_11 3 rfl rfl)
theorem dX3_next_260 : decode cX3_next 260 = .ok (.dup, 1) := dk_89 (dk_at dksX3_next_11 4 rfl rfl)
theorem dX3_next_261 : decode cX3_next 261 = .ok (.getfield 54, 3) := dk_180 0 54 (dk_at dksX3_next_11 5 rfl rfl)
theorem dX3_next_264 : decode cX3_next 264 = .ok (.iconst 1, 1) := dk_4 (dk_at dksX3_next_11 8 rfl rfl)
theorem dX3_next_265 : decode cX3_next 265 = .ok (.iadd, 1) := dk_96 (dk_at dksX3_next_11 9 rfl rfl)
theorem dX3_next_266 : decode cX3_next 266 = .ok (.putfield 54, 3) := dk_181 0 54 (dk_at dksX3_next_11 10 rfl rfl)
theorem dX3_next_269 : decode cX3_next 269 = .ok (.return_, 1) := dk_177 (dk_at dksX3_next_11 13 rfl rfl)
abbrev cX3_isAt : ByteArray := prog_9_method_2_code
def yX3_isAt : MethodName := ⟨RX3, "isAt", "(II)Z"⟩
def dkwX3_isAt_1 : List UInt8 := [42, 180, 0, 46, 42, 180, 0, 54, 51, 28, 163, 0, 7, 4, 167, 0, 4, 3, 172]
abbrev dktX3_isAt_1 : List UInt8 := dkwX3_isAt_1 ++ []
def dkwX3_isAt_0 : List UInt8 := [42, 180, 0, 54, 42, 180, 0, 50, 162, 0, 33, 42, 180, 0, 46, 42, 180, 0, 54, 51, 27, 161, 0, 20]
abbrev dktX3_isAt_0 : List UInt8 := dkwX3_isAt_0 ++ dktX3_isAt_1
theorem dksX3_isAt_0 : cX3_isAt.data.toList.drop 0 = dktX3_isAt_0 := by decide +kernel
theorem dksX3_isAt_1 : cX3_isAt.data.toList.drop 24 = dktX3_isAt_1 := dk_seg dksX3_isAt_0 24 rfl rfl
theorem dX3_isAt_0 : decode cX3_isAt 0 = .ok (.aload_n 0, 1) := dk_42 (dk_at dksX3_isAt_0 0 rfl rfl)
theorem dX3_isAt_1 : decode cX3_isAt 1 = .ok (.getfield 54, 3) := dk_180 0 54 (dk_at dksX3_isAt_0 1 rfl rfl)
theorem dX3_isAt_4 : decode cX3_isAt 4 = .ok (.aload_n 0, 1) := dk_42 (dk_at dksX3_isAt_0 4 rfl rfl)
theorem dX3_isAt_5 : decode cX3_isAt 5 = .ok (.getfield 50, 3) := dk_180 0 50 (dk_at dksX3_isAt_0 5 rfl rfl)
theorem dX3_isAt_8 : decode cX3_isAt 8 = .ok (.if_icmp .ge 33, 3) := dk_162 0 33 (dk_at dksX3_isAt_0 8 rfl rfl)
theorem dX3_isAt_11 : decode cX3_isAt 11 = .ok (.aload_n 0, 1) := dk_42 (dk_at dksX3_isAt_0 11 rfl rfl)
theorem dX3_isAt_12 : decode cX3_isAt 12 = .ok (.getfield 46, 3) := dk_180 0 46 (dk_at dksX3_isAt_0 12 rfl rfl)
theorem dX3_isAt_15 : decode cX3_isAt 15 = .ok (.aload_n 0, 1) := dk_42 (dk_at dksX3_isAt_0 15 rfl rfl)
theorem dX3_isAt_16 : decode cX3_isAt 16 = .ok (.getfield 54, 3) := dk_180 0 54 (dk_at dksX3_isAt_0 16 rfl rfl)
theorem dX3_isAt_19 : decode cX3_isAt 19 = .ok (.baload, 1) := dk_51 (dk_at dksX3_isAt_0 19 rfl rfl)
theorem dX3_isAt_20 : decode cX3_isAt 20 = .ok (.iload_n 1, 1) := dk_27 (dk_at dksX3_isAt_0 20 rfl rfl)
theorem dX3_isAt_21 : decode cX3_isAt 21 = .ok (.if_icmp .lt 20, 3) := dk_161 0 20 (dk_at dksX3_isAt_0 21 rfl rfl)
theorem dX3_isAt_24 : decode cX3_isAt 24 = .ok (.aload_n 0, 1) := dk_42 (dk_at dksX3_isAt_1 0 rfl rfl)
theorem dX3_isAt_25 : decode cX3_isAt 25 = .ok (.getfield 46, 3) := dk_180 0 46 (dk_at dksX3_isAt_1 1 rfl rfl)
theorem dX3_isAt_28 : decode cX3_isAt 28 = .ok (.aload_n 0, 1) := dk_42 (dk_at dksX3_isAt_1 4 rfl rfl)
theorem dX3_isAt_29 : decode cX3_isAt 29 = .ok (.getfield 54, 3) := dk_180 0 54 (dk_at dksX3_isAt_1 5 rfl rfl)
theorem dX3_isAt_32 : decode cX3_isAt 32 = .ok (.baload, 1) := dk_51 (dk_at dksX3_isAt_1 8 rfl rfl)
theorem dX3_isAt_33 : decode cX3_isAt 33 = .ok (.iload_n 2, 1) := dk_28 (dk_at dksX3_isAt_1 9 rfl rfl)
theorem dX3_isAt_34 : decode cX3_isAt 34 = .ok (.if_icmp .gt 7, 3) := dk_163 0 7 (dk_at dksX3_isAt_1 10 rfl rfl)
theorem dX3_isAt_37 : decode cX3_isAt 37 = .ok (.iconst 1, 1) := dk_4 (dk_at dksX3_isAt_1 13 rfl rfl)
theorem dX3_isAt_38 : decode cX3_isAt 38 = .ok (.goto 4, 3) := dk_167 0 4 (dk_at dksX3_isAt_1 14 rfl rfl)
theorem dX3_isAt_41 : decode cX3_isAt 41 = .ok (.iconst 0, 1) := dk_3 (dk_at dksX3_isAt_1 17 rfl rfl)
theorem dX3_isAt_42 : decode cX3_isAt 42 = .ok (.ireturn, 1) := dk_172 (dk_at dksX3_isAt_1 18 rfl rfl)
abbrev cX3_oneOf : ByteArray := prog_9_method_9_code
def yX3_oneOf : MethodName := ⟨RX3, "oneOf", "([Ljava/lang/String;)I"⟩
def dkwX3_oneOf_1 : List UInt8 := [28, 43, 190, 162, 0, 7, 28, 167, 0, 4, 2, 172]
abbrev dktX3_oneOf_1 : List UInt8 := dkwX3_oneOf_1 ++ []
def dkwX3_oneOf_0 : List UInt8 := [3, 61, 28, 43, 190, 162, 0, 19, 42, 43, 28, 50, 182, 0, 93, 154, 0, 9, 132, 2, 1, 167, 255, 237]
abbrev dktX3_oneOf_0 : List UInt8 := dkwX3_oneOf_0 ++ dktX3_oneOf_1
theorem dksX3_oneOf_0 : cX3_oneOf.data.toList.drop 0 = dktX3_oneOf_0 := by decide +kernel
theorem dksX3_oneOf_1 : cX3_oneOf.data.toList.drop 24 = dktX3_oneOf_1 := dk_seg dksX3_oneOf_0 24 rfl rfl
theorem dX3_oneOf_0 : decode cX3_oneOf 0 = .ok (.iconst 0, 1) := dk_3 (dk_at dksX3_oneOf_0 0 rfl rfl)
theorem dX3_oneOf_1 : decode cX3_oneOf 1 = .ok (.istore_n 2, 1) := dk_61 (dk_at dksX3_oneOf_0 1 rfl rfl)
theorem dX3_oneOf_2 : decode cX3_oneOf 2 = .ok (.iload_n 2, 1) := dk_28 (dk_at dksX3_oneOf_0 2 rfl rfl)
theorem dX3_oneOf_3 : decode cX3_oneOf 3 = .ok (.aload_n 1, 1) := dk_43 (dk_at dksX3_oneOf_0 3 rfl rfl)
theorem dX3_oneOf_4 : decode cX3_oneOf 4 = .ok (.arraylength, 1) := dk_190 (dk_at dksX3_oneOf_0 4 rfl rfl)
theorem dX3_oneOf_5 : decode cX3_oneOf 5 = .ok (.if_icmp .ge 19, 3) := dk_162 0 19 (dk_at dksX3_oneOf_0 5 rfl rfl)
theorem dX3_oneOf_8 : decode cX3_oneOf 8 = .ok (.aload_n 0, 1) := dk_42 (dk_at dksX3_oneOf_0 8 rfl rfl)
theorem dX3_oneOf_9 : decode cX3_oneOf 9 = .ok (.aload_n 1, 1) := dk_43 (dk_at dksX3_oneOf_0 9 rfl rfl)
theorem dX3_oneOf_10 : decode cX3_oneOf 10 = .ok (.iload_n 2, 1) := dk_28 (dk_at dksX3_oneOf_0 10 rfl rfl)
theorem dX3_oneOf_11 : decode cX3_oneOf 11 = .ok (.aaload, 1) := dk_50 (dk_at dksX3_oneOf_0 11 rfl rfl)
theorem dX3_oneOf_12 : decode cX3_oneOf 12 = .ok (.invokevirtual 93, 3) := dk_182 0 93 (dk_at dksX3_oneOf_0 12 rfl rfl)
theorem dX3_oneOf_15 : decode cX3_oneOf 15 = .ok (.ifCond .ne 9, 3) := dk_154 0 9 (dk_at dksX3_oneOf_0 15 rfl rfl)
theorem dX3_oneOf_18 : decode cX3_oneOf 18 = .ok (.iinc 2 1, 3) := dk_132 2 1 (dk_at dksX3_oneOf_0 18 rfl rfl)
theorem dX3_oneOf_21 : decode cX3_oneOf 21 = .ok (.goto (-19), 3) := dk_167 255 237 (dk_at dksX3_oneOf_0 21 rfl rfl)
theorem dX3_oneOf_24 : decode cX3_oneOf 24 = .ok (.iload_n 2, 1) := dk_28 (dk_at dksX3_oneOf_1 0 rfl rfl)
theorem dX3_oneOf_25 : decode cX3_oneOf 25 = .ok (.aload_n 1, 1) := dk_43 (dk_at dksX3_oneOf_1 1 rfl rfl)
theorem dX3_oneOf_26 : decode cX3_oneOf 26 = .ok (.arraylength, 1) := dk_190 (dk_at dksX3_oneOf_1 2 rfl rfl)
theorem dX3_oneOf_27 : decode cX3_oneOf 27 = .ok (.if_icmp .ge 7, 3) := dk_162 0 7 (dk_at dksX3_oneOf_1 3 rfl rfl)
theorem dX3_oneOf_30 : decode cX3_oneOf 30 = .ok (.iload_n 2, 1) := dk_28 (dk_at dksX3_oneOf_1 6 rfl rfl)
theorem dX3_oneOf_31 : decode cX3_oneOf 31 = .ok (.goto 4, 3) := dk_167 0 4 (dk_at dksX3_oneOf_1 7 rfl rfl)
theorem dX3_oneOf_34 : decode cX3_oneOf 34 = .ok (.iconst (-1), 1) := dk_2 (dk_at dksX3_oneOf_1 10 rfl rfl)
theorem dX3_oneOf_35 : decode cX3_oneOf 35 = .ok (.ireturn, 1) := dk_172 (dk_at dksX3_oneOf_1 11 rfl rfl)
abbrev cX3_is : ByteArray := prog_9_method_5_code
def yX3_is : MethodName := ⟨RX3, "is", "(Ljava/lang/String;)Z"⟩
def dkwX3_is_3 : List UInt8 := [167, 255, 216, 28, 172]
abbrev dktX3_is_3 : List UInt8 := dkwX3_is_3 ++ []
def dkwX3_is_2 : List UInt8 := [42, 180, 0, 60, 29, 96, 51, 43, 29, 182, 0, 89, 160, 0, 7, 4, 167, 0, 4, 3, 61, 132, 3, 1]
abbrev dktX3_is_2 : List UInt8 := dkwX3_is_2 ++ dktX3_is_3
def dkwX3_is_1 : List UInt8 := [4, 167, 0, 4, 3, 61, 3, 62, 29, 43, 182, 0, 85, 162, 0, 38, 28, 153, 0, 34, 42, 180, 0, 46]
abbrev dktX3_is_1 : List UInt8 := dkwX3_is_1 ++ dktX3_is_2
def dkwX3_is_0 : List UInt8 := [42, 180, 0, 66, 4, 160, 0, 23, 42, 180, 0, 54, 42, 180, 0, 60, 100, 43, 182, 0, 85, 160, 0, 7]
abbrev dktX3_is_0 : List UInt8 := dkwX3_is_0 ++ dktX3_is_1
theorem dksX3_is_0 : cX3_is.data.toList.drop 0 = dktX3_is_0 := by decide +kernel
theorem dksX3_is_1 : cX3_is.data.toList.drop 24 = dktX3_is_1 := dk_seg dksX3_is_0 24 rfl rfl
theorem dksX3_is_2 : cX3_is.data.toList.drop 48 = dktX3_is_2 := dk_seg dksX3_is_1 24 rfl rfl
theorem dksX3_is_3 : cX3_is.data.toList.drop 72 = dktX3_is_3 := dk_seg dksX3_is_2 24 rfl rfl
theorem dX3_is_0 : decode cX3_is 0 = .ok (.aload_n 0, 1) := dk_42 (dk_at dksX3_is_0 0 rfl rfl)
theorem dX3_is_1 : decode cX3_is 1 = .ok (.getfield 66, 3) := dk_180 0 66 (dk_at dksX3_is_0 1 rfl rfl)
theorem dX3_is_4 : decode cX3_is 4 = .ok (.iconst 1, 1) := dk_4 (dk_at dksX3_is_0 4 rfl rfl)
theorem dX3_is_5 : decode cX3_is 5 = .ok (.if_icmp .ne 23, 3) := dk_160 0 23 (dk_at dksX3_is_0 5 rfl rfl)
theorem dX3_is_8 : decode cX3_is 8 = .ok (.aload_n 0, 1) := dk_42 (dk_at dksX3_is_0 8 rfl rfl)
theorem dX3_is_9 : decode cX3_is 9 = .ok (.getfield 54, 3) := dk_180 0 54 (dk_at dksX3_is_0 9 rfl rfl)
theorem dX3_is_12 : decode cX3_is 12 = .ok (.aload_n 0, 1) := dk_42 (dk_at dksX3_is_0 12 rfl rfl)
theorem dX3_is_13 : decode cX3_is 13 = .ok (.getfield 60, 3) := dk_180 0 60 (dk_at dksX3_is_0 13 rfl rfl)
theorem dX3_is_16 : decode cX3_is 16 = .ok (.isub, 1) := dk_100 (dk_at dksX3_is_0 16 rfl rfl)
theorem dX3_is_17 : decode cX3_is 17 = .ok (.aload_n 1, 1) := dk_43 (dk_at dksX3_is_0 17 rfl rfl)
theorem dX3_is_18 : decode cX3_is 18 = .ok (.invokevirtual 85, 3) := dk_182 0 85 (dk_at dksX3_is_0 18 rfl rfl)
theorem dX3_is_21 : decode cX3_is 21 = .ok (.if_icmp .ne 7, 3) := dk_160 0 7 (dk_at dksX3_is_0 21 rfl rfl)
theorem dX3_is_24 : decode cX3_is 24 = .ok (.iconst 1, 1) := dk_4 (dk_at dksX3_is_1 0 rfl rfl)
theorem dX3_is_25 : decode cX3_is 25 = .ok (.goto 4, 3) := dk_167 0 4 (dk_at dksX3_is_1 1 rfl rfl)
theorem dX3_is_28 : decode cX3_is 28 = .ok (.iconst 0, 1) := dk_3 (dk_at dksX3_is_1 4 rfl rfl)
theorem dX3_is_29 : decode cX3_is 29 = .ok (.istore_n 2, 1) := dk_61 (dk_at dksX3_is_1 5 rfl rfl)
theorem dX3_is_30 : decode cX3_is 30 = .ok (.iconst 0, 1) := dk_3 (dk_at dksX3_is_1 6 rfl rfl)
theorem dX3_is_31 : decode cX3_is 31 = .ok (.istore_n 3, 1) := dk_62 (dk_at dksX3_is_1 7 rfl rfl)
theorem dX3_is_32 : decode cX3_is 32 = .ok (.iload_n 3, 1) := dk_29 (dk_at dksX3_is_1 8 rfl rfl)
theorem dX3_is_33 : decode cX3_is 33 = .ok (.aload_n 1, 1) := dk_43 (dk_at dksX3_is_1 9 rfl rfl)
theorem dX3_is_34 : decode cX3_is 34 = .ok (.invokevirtual 85, 3) := dk_182 0 85 (dk_at dksX3_is_1 10 rfl rfl)
theorem dX3_is_37 : decode cX3_is 37 = .ok (.if_icmp .ge 38, 3) := dk_162 0 38 (dk_at dksX3_is_1 13 rfl rfl)
theorem dX3_is_40 : decode cX3_is 40 = .ok (.iload_n 2, 1) := dk_28 (dk_at dksX3_is_1 16 rfl rfl)
theorem dX3_is_41 : decode cX3_is 41 = .ok (.ifCond .eq 34, 3) := dk_153 0 34 (dk_at dksX3_is_1 17 rfl rfl)
theorem dX3_is_44 : decode cX3_is 44 = .ok (.aload_n 0, 1) := dk_42 (dk_at dksX3_is_1 20 rfl rfl)
theorem dX3_is_45 : decode cX3_is 45 = .ok (.getfield 46, 3) := dk_180 0 46 (dk_at dksX3_is_1 21 rfl rfl)
theorem dX3_is_48 : decode cX3_is 48 = .ok (.aload_n 0, 1) := dk_42 (dk_at dksX3_is_2 0 rfl rfl)
theorem dX3_is_49 : decode cX3_is 49 = .ok (.getfield 60, 3) := dk_180 0 60 (dk_at dksX3_is_2 1 rfl rfl)
theorem dX3_is_52 : decode cX3_is 52 = .ok (.iload_n 3, 1) := dk_29 (dk_at dksX3_is_2 4 rfl rfl)
theorem dX3_is_53 : decode cX3_is 53 = .ok (.iadd, 1) := dk_96 (dk_at dksX3_is_2 5 rfl rfl)
theorem dX3_is_54 : decode cX3_is 54 = .ok (.baload, 1) := dk_51 (dk_at dksX3_is_2 6 rfl rfl)
theorem dX3_is_55 : decode cX3_is 55 = .ok (.aload_n 1, 1) := dk_43 (dk_at dksX3_is_2 7 rfl rfl)
theorem dX3_is_56 : decode cX3_is 56 = .ok (.iload_n 3, 1) := dk_29 (dk_at dksX3_is_2 8 rfl rfl)
theorem dX3_is_57 : decode cX3_is 57 = .ok (.invokevirtual 89, 3) := dk_182 0 89 (dk_at dksX3_is_2 9 rfl rfl)
theorem dX3_is_60 : decode cX3_is 60 = .ok (.if_icmp .ne 7, 3) := dk_160 0 7 (dk_at dksX3_is_2 12 rfl rfl)
theorem dX3_is_63 : decode cX3_is 63 = .ok (.iconst 1, 1) := dk_4 (dk_at dksX3_is_2 15 rfl rfl)
theorem dX3_is_64 : decode cX3_is 64 = .ok (.goto 4, 3) := dk_167 0 4 (dk_at dksX3_is_2 16 rfl rfl)
theorem dX3_is_67 : decode cX3_is 67 = .ok (.iconst 0, 1) := dk_3 (dk_at dksX3_is_2 19 rfl rfl)
theorem dX3_is_68 : decode cX3_is 68 = .ok (.istore_n 2, 1) := dk_61 (dk_at dksX3_is_2 20 rfl rfl)
theorem dX3_is_69 : decode cX3_is 69 = .ok (.iinc 3 1, 3) := dk_132 3 1 (dk_at dksX3_is_2 21 rfl rfl)
theorem dX3_is_72 : decode cX3_is 72 = .ok (.goto (-40), 3) := dk_167 255 216 (dk_at dksX3_is_3 0 rfl rfl)
theorem dX3_is_75 : decode cX3_is 75 = .ok (.iload_n 2, 1) := dk_28 (dk_at dksX3_is_3 3 rfl rfl)
theorem dX3_is_76 : decode cX3_is 76 = .ok (.ireturn, 1) := dk_172 (dk_at dksX3_is_3 4 rfl rfl)
abbrev cX3_fails : ByteArray := prog_9_method_4_code
def yX3_fails : MethodName := ⟨RX3, "fails", "(I)V"⟩
def dkwX3_fails_0 : List UInt8 := [187, 0, 80, 89, 27, 42, 180, 0, 57, 183, 0, 82, 191]
abbrev dktX3_fails_0 : List UInt8 := dkwX3_fails_0 ++ []
theorem dksX3_fails_0 : cX3_fails.data.toList.drop 0 = dktX3_fails_0 := by decide +kernel
theorem dX3_fails_0 : decode cX3_fails 0 = .ok (.new 80, 3) := dk_187 0 80 (dk_at dksX3_fails_0 0 rfl rfl)
theorem dX3_fails_3 : decode cX3_fails 3 = .ok (.dup, 1) := dk_89 (dk_at dksX3_fails_0 3 rfl rfl)
theorem dX3_fails_4 : decode cX3_fails 4 = .ok (.iload_n 1, 1) := dk_27 (dk_at dksX3_fails_0 4 rfl rfl)
theorem dX3_fails_5 : decode cX3_fails 5 = .ok (.aload_n 0, 1) := dk_42 (dk_at dksX3_fails_0 5 rfl rfl)
theorem dX3_fails_6 : decode cX3_fails 6 = .ok (.getfield 57, 3) := dk_180 0 57 (dk_at dksX3_fails_0 6 rfl rfl)
theorem dX3_fails_9 : decode cX3_fails 9 = .ok (.invokespecial 82, 3) := dk_183 0 82 (dk_at dksX3_fails_0 9 rfl rfl)
theorem dX3_fails_12 : decode cX3_fails 12 = .ok (.athrow, 1) := dk_191 (dk_at dksX3_fails_0 12 rfl rfl)
abbrev cX3_isFull : ByteArray := prog_9_method_20_code
def yX3_isFull : MethodName := ⟨RX3, "isFull", "(LFrostRing$Told;I)Z"⟩
def dkwX3_isFull_7 : List UInt8 := [160, 0, 7, 4, 167, 0, 4, 3, 172, 29, 172]
abbrev dktX3_isFull_7 : List UInt8 := dkwX3_isFull_7 ++ []
def dkwX3_isFull_6 : List UInt8 := [160, 0, 7, 4, 167, 0, 4, 3, 172, 29, 154, 0, 16, 43, 180, 0, 222, 185, 0, 170, 1, 0, 7]
abbrev dktX3_isFull_6 : List UInt8 := dkwX3_isFull_6 ++ dktX3_isFull_7
def dkwX3_isFull_5 : List UInt8 := [153, 0, 7, 4, 167, 0, 4, 3, 172, 29, 154, 0, 17, 43, 180, 0, 245, 185, 0, 170, 1, 0, 16, 6]
abbrev dktX3_isFull_5 : List UInt8 := dkwX3_isFull_5 ++ dktX3_isFull_6
def dkwX3_isFull_4 : List UInt8 := [185, 0, 170, 1, 0, 16, 12, 160, 0, 7, 4, 167, 0, 4, 3, 172, 29, 154, 0, 10, 42, 180, 0, 242]
abbrev dktX3_isFull_4 : List UInt8 := dkwX3_isFull_4 ++ dktX3_isFull_5
def dkwX3_isFull_3 : List UInt8 := [182, 0, 238, 153, 0, 7, 4, 167, 0, 4, 3, 172, 29, 154, 0, 17, 43, 180, 0, 166]
abbrev dktX3_isFull_3 : List UInt8 := dkwX3_isFull_3 ++ dktX3_isFull_4
def dkwX3_isFull_2 : List UInt8 := [29, 154, 0, 10, 42, 180, 0, 234, 153, 0, 7, 4, 167, 0, 4, 3, 172, 29, 154, 0, 10, 43]
abbrev dktX3_isFull_2 : List UInt8 := dkwX3_isFull_2 ++ dktX3_isFull_3
def dkwX3_isFull_1 : List UInt8 := [170, 0, 0, 0, 0, 0, 0, 162, 0, 0, 0, 3, 0, 0, 0, 8, 0, 0, 0, 40, 0, 0, 0, 57, 0, 0, 0, 74, 0, 0, 0, 98, 0, 0, 0, 115, 0, 0, 0, 139]
abbrev dktX3_isFull_1 : List UInt8 := dkwX3_isFull_1 ++ dktX3_isFull_2
def dkwX3_isFull_0 : List UInt8 := [43, 180, 0, 231, 16, 40, 160, 0, 7, 4, 167, 0, 4, 3, 62, 28]
abbrev dktX3_isFull_0 : List UInt8 := dkwX3_isFull_0 ++ dktX3_isFull_1
theorem dksX3_isFull_0 : cX3_isFull.data.toList.drop 0 = dktX3_isFull_0 := by decide +kernel
theorem dksX3_isFull_1 : cX3_isFull.data.toList.drop 16 = dktX3_isFull_1 := dk_seg dksX3_isFull_0 16 rfl rfl
theorem dksX3_isFull_2 : cX3_isFull.data.toList.drop 56 = dktX3_isFull_2 := dk_seg dksX3_isFull_1 40 rfl rfl
theorem dksX3_isFull_3 : cX3_isFull.data.toList.drop 78 = dktX3_isFull_3 := dk_seg dksX3_isFull_2 22 rfl rfl
theorem dksX3_isFull_4 : cX3_isFull.data.toList.drop 98 = dktX3_isFull_4 := dk_seg dksX3_isFull_3 20 rfl rfl
theorem dksX3_isFull_5 : cX3_isFull.data.toList.drop 122 = dktX3_isFull_5 := dk_seg dksX3_isFull_4 24 rfl rfl
theorem dksX3_isFull_6 : cX3_isFull.data.toList.drop 146 = dktX3_isFull_6 := dk_seg dksX3_isFull_5 24 rfl rfl
theorem dksX3_isFull_7 : cX3_isFull.data.toList.drop 169 = dktX3_isFull_7 := dk_seg dksX3_isFull_6 23 rfl rfl
theorem dX3_isFull_0 : decode cX3_isFull 0 = .ok (.aload_n 1, 1) := dk_43 (dk_at dksX3_isFull_0 0 rfl rfl)
theorem dX3_isFull_1 : decode cX3_isFull 1 = .ok (.getfield 231, 3) := dk_180 0 231 (dk_at dksX3_isFull_0 1 rfl rfl)
theorem dX3_isFull_4 : decode cX3_isFull 4 = .ok (.bipush 40, 2) := dk_16 40 (dk_at dksX3_isFull_0 4 rfl rfl)
theorem dX3_isFull_6 : decode cX3_isFull 6 = .ok (.if_icmp .ne 7, 3) := dk_160 0 7 (dk_at dksX3_isFull_0 6 rfl rfl)
theorem dX3_isFull_9 : decode cX3_isFull 9 = .ok (.iconst 1, 1) := dk_4 (dk_at dksX3_isFull_0 9 rfl rfl)
theorem dX3_isFull_10 : decode cX3_isFull 10 = .ok (.goto 4, 3) := dk_167 0 4 (dk_at dksX3_isFull_0 10 rfl rfl)
theorem dX3_isFull_13 : decode cX3_isFull 13 = .ok (.iconst 0, 1) := dk_3 (dk_at dksX3_isFull_0 13 rfl rfl)
theorem dX3_isFull_14 : decode cX3_isFull 14 = .ok (.istore_n 3, 1) := dk_62 (dk_at dksX3_isFull_0 14 rfl rfl)
theorem dX3_isFull_15 : decode cX3_isFull 15 = .ok (.iload_n 2, 1) := dk_28 (dk_at dksX3_isFull_0 15 rfl rfl)
theorem dX3_isFull_16 : decode cX3_isFull 16 = .ok (.tableswitch 162 3 8 #[40, 57, 74, 98, 115, 139], 40) := by decide +kernel
theorem dX3_isFull_56 : decode cX3_isFull 56 = .ok (.iload_n 3, 1) := dk_29 (dk_at dksX3_isFull_2 0 rfl rfl)
theorem dX3_isFull_57 : decode cX3_isFull 57 = .ok (.ifCond .ne 10, 3) := dk_154 0 10 (dk_at dksX3_isFull_2 1 rfl rfl)
theorem dX3_isFull_60 : decode cX3_isFull 60 = .ok (.aload_n 0, 1) := dk_42 (dk_at dksX3_isFull_2 4 rfl rfl)
theorem dX3_isFull_61 : decode cX3_isFull 61 = .ok (.getfield 234, 3) := dk_180 0 234 (dk_at dksX3_isFull_2 5 rfl rfl)
theorem dX3_isFull_64 : decode cX3_isFull 64 = .ok (.ifCond .eq 7, 3) := dk_153 0 7 (dk_at dksX3_isFull_2 8 rfl rfl)
theorem dX3_isFull_67 : decode cX3_isFull 67 = .ok (.iconst 1, 1) := dk_4 (dk_at dksX3_isFull_2 11 rfl rfl)
theorem dX3_isFull_68 : decode cX3_isFull 68 = .ok (.goto 4, 3) := dk_167 0 4 (dk_at dksX3_isFull_2 12 rfl rfl)
theorem dX3_isFull_71 : decode cX3_isFull 71 = .ok (.iconst 0, 1) := dk_3 (dk_at dksX3_isFull_2 15 rfl rfl)
theorem dX3_isFull_72 : decode cX3_isFull 72 = .ok (.ireturn, 1) := dk_172 (dk_at dksX3_isFull_2 16 rfl rfl)
theorem dX3_isFull_73 : decode cX3_isFull 73 = .ok (.iload_n 3, 1) := dk_29 (dk_at dksX3_isFull_2 17 rfl rfl)
theorem dX3_isFull_74 : decode cX3_isFull 74 = .ok (.ifCond .ne 10, 3) := dk_154 0 10 (dk_at dksX3_isFull_2 18 rfl rfl)
theorem dX3_isFull_77 : decode cX3_isFull 77 = .ok (.aload_n 1, 1) := dk_43 (dk_at dksX3_isFull_2 21 rfl rfl)
theorem dX3_isFull_78 : decode cX3_isFull 78 = .ok (.invokevirtual 238, 3) := dk_182 0 238 (dk_at dksX3_isFull_3 0 rfl rfl)
theorem dX3_isFull_81 : decode cX3_isFull 81 = .ok (.ifCond .eq 7, 3) := dk_153 0 7 (dk_at dksX3_isFull_3 3 rfl rfl)
theorem dX3_isFull_84 : decode cX3_isFull 84 = .ok (.iconst 1, 1) := dk_4 (dk_at dksX3_isFull_3 6 rfl rfl)
theorem dX3_isFull_85 : decode cX3_isFull 85 = .ok (.goto 4, 3) := dk_167 0 4 (dk_at dksX3_isFull_3 7 rfl rfl)
theorem dX3_isFull_88 : decode cX3_isFull 88 = .ok (.iconst 0, 1) := dk_3 (dk_at dksX3_isFull_3 10 rfl rfl)
theorem dX3_isFull_89 : decode cX3_isFull 89 = .ok (.ireturn, 1) := dk_172 (dk_at dksX3_isFull_3 11 rfl rfl)
theorem dX3_isFull_90 : decode cX3_isFull 90 = .ok (.iload_n 3, 1) := dk_29 (dk_at dksX3_isFull_3 12 rfl rfl)
theorem dX3_isFull_91 : decode cX3_isFull 91 = .ok (.ifCond .ne 17, 3) := dk_154 0 17 (dk_at dksX3_isFull_3 13 rfl rfl)
theorem dX3_isFull_94 : decode cX3_isFull 94 = .ok (.aload_n 1, 1) := dk_43 (dk_at dksX3_isFull_3 16 rfl rfl)
theorem dX3_isFull_95 : decode cX3_isFull 95 = .ok (.getfield 166, 3) := dk_180 0 166 (dk_at dksX3_isFull_3 17 rfl rfl)
theorem dX3_isFull_98 : decode cX3_isFull 98 = .ok (.invokeinterface 170 1, 5) := by decide +kernel
theorem dX3_isFull_103 : decode cX3_isFull 103 = .ok (.bipush 12, 2) := dk_16 12 (dk_at dksX3_isFull_4 5 rfl rfl)
theorem dX3_isFull_105 : decode cX3_isFull 105 = .ok (.if_icmp .ne 7, 3) := dk_160 0 7 (dk_at dksX3_isFull_4 7 rfl rfl)
theorem dX3_isFull_108 : decode cX3_isFull 108 = .ok (.iconst 1, 1) := dk_4 (dk_at dksX3_isFull_4 10 rfl rfl)
theorem dX3_isFull_109 : decode cX3_isFull 109 = .ok (.goto 4, 3) := dk_167 0 4 (dk_at dksX3_isFull_4 11 rfl rfl)
theorem dX3_isFull_112 : decode cX3_isFull 112 = .ok (.iconst 0, 1) := dk_3 (dk_at dksX3_isFull_4 14 rfl rfl)
theorem dX3_isFull_113 : decode cX3_isFull 113 = .ok (.ireturn, 1) := dk_172 (dk_at dksX3_isFull_4 15 rfl rfl)
theorem dX3_isFull_114 : decode cX3_isFull 114 = .ok (.iload_n 3, 1) := dk_29 (dk_at dksX3_isFull_4 16 rfl rfl)
theorem dX3_isFull_115 : decode cX3_isFull 115 = .ok (.ifCond .ne 10, 3) := dk_154 0 10 (dk_at dksX3_isFull_4 17 rfl rfl)
theorem dX3_isFull_118 : decode cX3_isFull 118 = .ok (.aload_n 0, 1) := dk_42 (dk_at dksX3_isFull_4 20 rfl rfl)
theorem dX3_isFull_119 : decode cX3_isFull 119 = .ok (.getfield 242, 3) := dk_180 0 242 (dk_at dksX3_isFull_4 21 rfl rfl)
theorem dX3_isFull_122 : decode cX3_isFull 122 = .ok (.ifCond .eq 7, 3) := dk_153 0 7 (dk_at dksX3_isFull_5 0 rfl rfl)
theorem dX3_isFull_125 : decode cX3_isFull 125 = .ok (.iconst 1, 1) := dk_4 (dk_at dksX3_isFull_5 3 rfl rfl)
theorem dX3_isFull_126 : decode cX3_isFull 126 = .ok (.goto 4, 3) := dk_167 0 4 (dk_at dksX3_isFull_5 4 rfl rfl)
theorem dX3_isFull_129 : decode cX3_isFull 129 = .ok (.iconst 0, 1) := dk_3 (dk_at dksX3_isFull_5 7 rfl rfl)
theorem dX3_isFull_130 : decode cX3_isFull 130 = .ok (.ireturn, 1) := dk_172 (dk_at dksX3_isFull_5 8 rfl rfl)
theorem dX3_isFull_131 : decode cX3_isFull 131 = .ok (.iload_n 3, 1) := dk_29 (dk_at dksX3_isFull_5 9 rfl rfl)
theorem dX3_isFull_132 : decode cX3_isFull 132 = .ok (.ifCond .ne 17, 3) := dk_154 0 17 (dk_at dksX3_isFull_5 10 rfl rfl)
theorem dX3_isFull_135 : decode cX3_isFull 135 = .ok (.aload_n 1, 1) := dk_43 (dk_at dksX3_isFull_5 13 rfl rfl)
theorem dX3_isFull_136 : decode cX3_isFull 136 = .ok (.getfield 245, 3) := dk_180 0 245 (dk_at dksX3_isFull_5 14 rfl rfl)
theorem dX3_isFull_139 : decode cX3_isFull 139 = .ok (.invokeinterface 170 1, 5) := by decide +kernel
theorem dX3_isFull_144 : decode cX3_isFull 144 = .ok (.bipush 6, 2) := dk_16 6 (dk_at dksX3_isFull_5 22 rfl rfl)
theorem dX3_isFull_146 : decode cX3_isFull 146 = .ok (.if_icmp .ne 7, 3) := dk_160 0 7 (dk_at dksX3_isFull_6 0 rfl rfl)
theorem dX3_isFull_149 : decode cX3_isFull 149 = .ok (.iconst 1, 1) := dk_4 (dk_at dksX3_isFull_6 3 rfl rfl)
theorem dX3_isFull_150 : decode cX3_isFull 150 = .ok (.goto 4, 3) := dk_167 0 4 (dk_at dksX3_isFull_6 4 rfl rfl)
theorem dX3_isFull_153 : decode cX3_isFull 153 = .ok (.iconst 0, 1) := dk_3 (dk_at dksX3_isFull_6 7 rfl rfl)
theorem dX3_isFull_154 : decode cX3_isFull 154 = .ok (.ireturn, 1) := dk_172 (dk_at dksX3_isFull_6 8 rfl rfl)
theorem dX3_isFull_155 : decode cX3_isFull 155 = .ok (.iload_n 3, 1) := dk_29 (dk_at dksX3_isFull_6 9 rfl rfl)
theorem dX3_isFull_156 : decode cX3_isFull 156 = .ok (.ifCond .ne 16, 3) := dk_154 0 16 (dk_at dksX3_isFull_6 10 rfl rfl)
theorem dX3_isFull_159 : decode cX3_isFull 159 = .ok (.aload_n 1, 1) := dk_43 (dk_at dksX3_isFull_6 13 rfl rfl)
theorem dX3_isFull_160 : decode cX3_isFull 160 = .ok (.getfield 222, 3) := dk_180 0 222 (dk_at dksX3_isFull_6 14 rfl rfl)
theorem dX3_isFull_163 : decode cX3_isFull 163 = .ok (.invokeinterface 170 1, 5) := by decide +kernel
theorem dX3_isFull_168 : decode cX3_isFull 168 = .ok (.iconst 4, 1) := dk_7 (dk_at dksX3_isFull_6 22 rfl rfl)
theorem dX3_isFull_169 : decode cX3_isFull 169 = .ok (.if_icmp .ne 7, 3) := dk_160 0 7 (dk_at dksX3_isFull_7 0 rfl rfl)
theorem dX3_isFull_172 : decode cX3_isFull 172 = .ok (.iconst 1, 1) := dk_4 (dk_at dksX3_isFull_7 3 rfl rfl)
theorem dX3_isFull_173 : decode cX3_isFull 173 = .ok (.goto 4, 3) := dk_167 0 4 (dk_at dksX3_isFull_7 4 rfl rfl)
theorem dX3_isFull_176 : decode cX3_isFull 176 = .ok (.iconst 0, 1) := dk_3 (dk_at dksX3_isFull_7 7 rfl rfl)
theorem dX3_isFull_177 : decode cX3_isFull 177 = .ok (.ireturn, 1) := dk_172 (dk_at dksX3_isFull_7 8 rfl rfl)
theorem dX3_isFull_178 : decode cX3_isFull 178 = .ok (.iload_n 3, 1) := dk_29 (dk_at dksX3_isFull_7 9 rfl rfl)
theorem dX3_isFull_179 : decode cX3_isFull 179 = .ok (.ireturn, 1) := dk_172 (dk_at dksX3_isFull_7 10 rfl rfl)
abbrev cX3_line : ByteArray := prog_9_method_21_code
def yX3_line : MethodName := ⟨RX3, "line", "(LFrostRing$Told;I)V"⟩
def dkwX3_line_7 : List UInt8 := [87, 167, 0, 8, 42, 43, 182, 1, 12, 177]
abbrev dktX3_line_7 : List UInt8 := dkwX3_line_7 ++ []
def dkwX3_line_6 : List UInt8 := [187, 1, 7, 89, 29, 42, 19, 1, 9, 3, 17, 3, 231, 182, 0, 130, 183, 1, 11, 185, 0, 187, 2, 0]
abbrev dktX3_line_6 : List UInt8 := dkwX3_line_6 ++ dktX3_line_7
def dkwX3_line_5 : List UInt8 := [181, 1, 5, 42, 4, 181, 0, 242, 167, 0, 48, 42, 3, 16, 10, 182, 0, 115, 62, 43, 180, 0, 245]
abbrev dktX3_line_5 : List UInt8 := dkwX3_line_5 ++ dktX3_line_6
def dkwX3_line_4 : List UInt8 := [182, 1, 1, 167, 0, 75, 42, 43, 182, 1, 3, 167, 0, 67, 43, 42, 3, 18, 227, 182, 0, 115]
abbrev dktX3_line_4 : List UInt8 := dkwX3_line_4 ++ dktX3_line_5
def dkwX3_line_3 : List UInt8 := [43, 42, 4, 17, 1, 44, 182, 0, 115, 181, 0, 255, 42, 4, 181, 0, 234, 167, 0, 83, 42, 43]
abbrev dktX3_line_3 : List UInt8 := dkwX3_line_3 ++ dktX3_line_4
def dkwX3_line_2 : List UInt8 := [42, 43, 182, 0, 248, 167, 0, 119, 42, 43, 182, 0, 251, 167, 0, 111, 42, 43, 182, 0, 253, 167, 0, 103]
abbrev dktX3_line_2 : List UInt8 := dkwX3_line_2 ++ dktX3_line_3
def dkwX3_line_1 : List UInt8 := [170, 0, 0, 0, 0, 0, 166, 0, 0, 0, 0, 0, 0, 0, 7, 0, 0, 0, 47, 0, 0, 0, 55, 0, 0, 0, 63, 0, 0, 0, 71, 0, 0, 0, 91, 0, 0, 0, 99, 0, 0, 0, 107, 0, 0, 0, 126]
abbrev dktX3_line_1 : List UInt8 := dkwX3_line_1 ++ dktX3_line_2
def dkwX3_line_0 : List UInt8 := [28]
abbrev dktX3_line_0 : List UInt8 := dkwX3_line_0 ++ dktX3_line_1
theorem dksX3_line_0 : cX3_line.data.toList.drop 0 = dktX3_line_0 := by decide +kernel
theorem dksX3_line_1 : cX3_line.data.toList.drop 1 = dktX3_line_1 := dk_seg dksX3_line_0 1 rfl rfl
theorem dksX3_line_2 : cX3_line.data.toList.drop 48 = dktX3_line_2 := dk_seg dksX3_line_1 47 rfl rfl
theorem dksX3_line_3 : cX3_line.data.toList.drop 72 = dktX3_line_3 := dk_seg dksX3_line_2 24 rfl rfl
theorem dksX3_line_4 : cX3_line.data.toList.drop 94 = dktX3_line_4 := dk_seg dksX3_line_3 22 rfl rfl
theorem dksX3_line_5 : cX3_line.data.toList.drop 116 = dktX3_line_5 := dk_seg dksX3_line_4 22 rfl rfl
theorem dksX3_line_6 : cX3_line.data.toList.drop 139 = dktX3_line_6 := dk_seg dksX3_line_5 23 rfl rfl
theorem dksX3_line_7 : cX3_line.data.toList.drop 163 = dktX3_line_7 := dk_seg dksX3_line_6 24 rfl rfl
theorem dX3_line_0 : decode cX3_line 0 = .ok (.iload_n 2, 1) := dk_28 (dk_at dksX3_line_0 0 rfl rfl)
theorem dX3_line_1 : decode cX3_line 1 = .ok (.tableswitch 166 0 7 #[47, 55, 63, 71, 91, 99, 107, 126], 47) := by decide +kernel
theorem dX3_line_48 : decode cX3_line 48 = .ok (.aload_n 0, 1) := dk_42 (dk_at dksX3_line_2 0 rfl rfl)
theorem dX3_line_49 : decode cX3_line 49 = .ok (.aload_n 1, 1) := dk_43 (dk_at dksX3_line_2 1 rfl rfl)
theorem dX3_line_50 : decode cX3_line 50 = .ok (.invokevirtual 248, 3) := dk_182 0 248 (dk_at dksX3_line_2 2 rfl rfl)
theorem dX3_line_53 : decode cX3_line 53 = .ok (.goto 119, 3) := dk_167 0 119 (dk_at dksX3_line_2 5 rfl rfl)
theorem dX3_line_56 : decode cX3_line 56 = .ok (.aload_n 0, 1) := dk_42 (dk_at dksX3_line_2 8 rfl rfl)
theorem dX3_line_57 : decode cX3_line 57 = .ok (.aload_n 1, 1) := dk_43 (dk_at dksX3_line_2 9 rfl rfl)
theorem dX3_line_58 : decode cX3_line 58 = .ok (.invokevirtual 251, 3) := dk_182 0 251 (dk_at dksX3_line_2 10 rfl rfl)
theorem dX3_line_61 : decode cX3_line 61 = .ok (.goto 111, 3) := dk_167 0 111 (dk_at dksX3_line_2 13 rfl rfl)
theorem dX3_line_64 : decode cX3_line 64 = .ok (.aload_n 0, 1) := dk_42 (dk_at dksX3_line_2 16 rfl rfl)
theorem dX3_line_65 : decode cX3_line 65 = .ok (.aload_n 1, 1) := dk_43 (dk_at dksX3_line_2 17 rfl rfl)
theorem dX3_line_66 : decode cX3_line 66 = .ok (.invokevirtual 253, 3) := dk_182 0 253 (dk_at dksX3_line_2 18 rfl rfl)
theorem dX3_line_69 : decode cX3_line 69 = .ok (.goto 103, 3) := dk_167 0 103 (dk_at dksX3_line_2 21 rfl rfl)
theorem dX3_line_72 : decode cX3_line 72 = .ok (.aload_n 1, 1) := dk_43 (dk_at dksX3_line_3 0 rfl rfl)
theorem dX3_line_73 : decode cX3_line 73 = .ok (.aload_n 0, 1) := dk_42 (dk_at dksX3_line_3 1 rfl rfl)
theorem dX3_line_74 : decode cX3_line 74 = .ok (.iconst 1, 1) := dk_4 (dk_at dksX3_line_3 2 rfl rfl)
theorem dX3_line_75 : decode cX3_line 75 = .ok (.sipush 300, 3) := dk_17 1 44 (dk_at dksX3_line_3 3 rfl rfl)
theorem dX3_line_78 : decode cX3_line 78 = .ok (.invokevirtual 115, 3) := dk_182 0 115 (dk_at dksX3_line_3 6 rfl rfl)
theorem dX3_line_81 : decode cX3_line 81 = .ok (.putfield 255, 3) := dk_181 0 255 (dk_at dksX3_line_3 9 rfl rfl)
theorem dX3_line_84 : decode cX3_line 84 = .ok (.aload_n 0, 1) := dk_42 (dk_at dksX3_line_3 12 rfl rfl)
theorem dX3_line_85 : decode cX3_line 85 = .ok (.iconst 1, 1) := dk_4 (dk_at dksX3_line_3 13 rfl rfl)
theorem dX3_line_86 : decode cX3_line 86 = .ok (.putfield 234, 3) := dk_181 0 234 (dk_at dksX3_line_3 14 rfl rfl)
theorem dX3_line_89 : decode cX3_line 89 = .ok (.goto 83, 3) := dk_167 0 83 (dk_at dksX3_line_3 17 rfl rfl)
theorem dX3_line_92 : decode cX3_line 92 = .ok (.aload_n 0, 1) := dk_42 (dk_at dksX3_line_3 20 rfl rfl)
theorem dX3_line_93 : decode cX3_line 93 = .ok (.aload_n 1, 1) := dk_43 (dk_at dksX3_line_3 21 rfl rfl)
theorem dX3_line_94 : decode cX3_line 94 = .ok (.invokevirtual 257, 3) := dk_182 1 1 (dk_at dksX3_line_4 0 rfl rfl)
theorem dX3_line_97 : decode cX3_line 97 = .ok (.goto 75, 3) := dk_167 0 75 (dk_at dksX3_line_4 3 rfl rfl)
theorem dX3_line_100 : decode cX3_line 100 = .ok (.aload_n 0, 1) := dk_42 (dk_at dksX3_line_4 6 rfl rfl)
theorem dX3_line_101 : decode cX3_line 101 = .ok (.aload_n 1, 1) := dk_43 (dk_at dksX3_line_4 7 rfl rfl)
theorem dX3_line_102 : decode cX3_line 102 = .ok (.invokevirtual 259, 3) := dk_182 1 3 (dk_at dksX3_line_4 8 rfl rfl)
theorem dX3_line_105 : decode cX3_line 105 = .ok (.goto 67, 3) := dk_167 0 67 (dk_at dksX3_line_4 11 rfl rfl)
theorem dX3_line_108 : decode cX3_line 108 = .ok (.aload_n 1, 1) := dk_43 (dk_at dksX3_line_4 14 rfl rfl)
theorem dX3_line_109 : decode cX3_line 109 = .ok (.aload_n 0, 1) := dk_42 (dk_at dksX3_line_4 15 rfl rfl)
theorem dX3_line_110 : decode cX3_line 110 = .ok (.iconst 0, 1) := dk_3 (dk_at dksX3_line_4 16 rfl rfl)
theorem dX3_line_111 : decode cX3_line 111 = .ok (.ldc 227, 2) := dk_18 227 (dk_at dksX3_line_4 17 rfl rfl)
theorem dX3_line_113 : decode cX3_line 113 = .ok (.invokevirtual 115, 3) := dk_182 0 115 (dk_at dksX3_line_4 19 rfl rfl)
theorem dX3_line_116 : decode cX3_line 116 = .ok (.putfield 261, 3) := dk_181 1 5 (dk_at dksX3_line_5 0 rfl rfl)
theorem dX3_line_119 : decode cX3_line 119 = .ok (.aload_n 0, 1) := dk_42 (dk_at dksX3_line_5 3 rfl rfl)
theorem dX3_line_120 : decode cX3_line 120 = .ok (.iconst 1, 1) := dk_4 (dk_at dksX3_line_5 4 rfl rfl)
theorem dX3_line_121 : decode cX3_line 121 = .ok (.putfield 242, 3) := dk_181 0 242 (dk_at dksX3_line_5 5 rfl rfl)
theorem dX3_line_124 : decode cX3_line 124 = .ok (.goto 48, 3) := dk_167 0 48 (dk_at dksX3_line_5 8 rfl rfl)
theorem dX3_line_127 : decode cX3_line 127 = .ok (.aload_n 0, 1) := dk_42 (dk_at dksX3_line_5 11 rfl rfl)
theorem dX3_line_128 : decode cX3_line 128 = .ok (.iconst 0, 1) := dk_3 (dk_at dksX3_line_5 12 rfl rfl)
theorem dX3_line_129 : decode cX3_line 129 = .ok (.bipush 10, 2) := dk_16 10 (dk_at dksX3_line_5 13 rfl rfl)
theorem dX3_line_131 : decode cX3_line 131 = .ok (.invokevirtual 115, 3) := dk_182 0 115 (dk_at dksX3_line_5 15 rfl rfl)
theorem dX3_line_134 : decode cX3_line 134 = .ok (.istore_n 3, 1) := dk_62 (dk_at dksX3_line_5 18 rfl rfl)
theorem dX3_line_135 : decode cX3_line 135 = .ok (.aload_n 1, 1) := dk_43 (dk_at dksX3_line_5 19 rfl rfl)
theorem dX3_line_136 : decode cX3_line 136 = .ok (.getfield 245, 3) := dk_180 0 245 (dk_at dksX3_line_5 20 rfl rfl)
theorem dX3_line_139 : decode cX3_line 139 = .ok (.new 263, 3) := dk_187 1 7 (dk_at dksX3_line_6 0 rfl rfl)
theorem dX3_line_142 : decode cX3_line 142 = .ok (.dup, 1) := dk_89 (dk_at dksX3_line_6 3 rfl rfl)
theorem dX3_line_143 : decode cX3_line 143 = .ok (.iload_n 3, 1) := dk_29 (dk_at dksX3_line_6 4 rfl rfl)
theorem dX3_line_144 : decode cX3_line 144 = .ok (.aload_n 0, 1) := dk_42 (dk_at dksX3_line_6 5 rfl rfl)
theorem dX3_line_145 : decode cX3_line 145 = .ok (.ldc_w 265, 3) := dk_19 1 9 (dk_at dksX3_line_6 6 rfl rfl)
theorem dX3_line_148 : decode cX3_line 148 = .ok (.iconst 0, 1) := dk_3 (dk_at dksX3_line_6 9 rfl rfl)
theorem dX3_line_149 : decode cX3_line 149 = .ok (.sipush 999, 3) := dk_17 3 231 (dk_at dksX3_line_6 10 rfl rfl)
theorem dX3_line_152 : decode cX3_line 152 = .ok (.invokevirtual 130, 3) := dk_182 0 130 (dk_at dksX3_line_6 13 rfl rfl)
theorem dX3_line_155 : decode cX3_line 155 = .ok (.invokespecial 267, 3) := dk_183 1 11 (dk_at dksX3_line_6 16 rfl rfl)
theorem dX3_line_158 : decode cX3_line 158 = .ok (.invokeinterface 187 2, 5) := by decide +kernel
theorem dX3_line_163 : decode cX3_line 163 = .ok (.pop, 1) := dk_87 (dk_at dksX3_line_7 0 rfl rfl)
theorem dX3_line_164 : decode cX3_line 164 = .ok (.goto 8, 3) := dk_167 0 8 (dk_at dksX3_line_7 1 rfl rfl)
theorem dX3_line_167 : decode cX3_line 167 = .ok (.aload_n 0, 1) := dk_42 (dk_at dksX3_line_7 4 rfl rfl)
theorem dX3_line_168 : decode cX3_line 168 = .ok (.aload_n 1, 1) := dk_43 (dk_at dksX3_line_7 5 rfl rfl)
theorem dX3_line_169 : decode cX3_line 169 = .ok (.invokevirtual 268, 3) := dk_182 1 12 (dk_at dksX3_line_7 6 rfl rfl)
theorem dX3_line_172 : decode cX3_line 172 = .ok (.return_, 1) := dk_177 (dk_at dksX3_line_7 9 rfl rfl)
abbrev cX3_ground : ByteArray := prog_9_method_13_code
def yX3_ground : MethodName := ⟨RX3, "ground", "(LFrostRing$Told;)V"⟩
def dkwX3_ground_4 : List UInt8 := [182, 0, 141, 183, 0, 145, 83, 177]
abbrev dktX3_ground_4 : List UInt8 := dkwX3_ground_4 ++ []
def dkwX3_ground_3 : List UInt8 := [182, 0, 130, 54, 5, 43, 180, 0, 122, 28, 187, 0, 137, 89, 29, 21, 4, 21, 5, 42, 18, 139, 16, 226]
abbrev dktX3_ground_3 : List UInt8 := dkwX3_ground_3 ++ dktX3_ground_4
def dkwX3_ground_2 : List UInt8 := [182, 0, 130, 62, 42, 18, 133, 3, 16, 15, 182, 0, 130, 54, 4, 42, 18, 135, 4, 17, 3, 231]
abbrev dktX3_ground_2 : List UInt8 := dkwX3_ground_2 ++ dktX3_ground_3
def dkwX3_ground_1 : List UInt8 := [50, 198, 0, 8, 42, 5, 182, 0, 103, 42, 3, 6, 182, 0, 115, 61, 42, 18, 128, 3, 16, 15]
abbrev dktX3_ground_1 : List UInt8 := dkwX3_ground_1 ++ dktX3_ground_2
def dkwX3_ground_0 : List UInt8 := [42, 180, 0, 66, 5, 160, 0, 28, 42, 180, 0, 63, 7, 162, 0, 20, 43, 180, 0, 122, 42, 180, 0, 63]
abbrev dktX3_ground_0 : List UInt8 := dkwX3_ground_0 ++ dktX3_ground_1
theorem dksX3_ground_0 : cX3_ground.data.toList.drop 0 = dktX3_ground_0 := by decide +kernel
theorem dksX3_ground_1 : cX3_ground.data.toList.drop 24 = dktX3_ground_1 := dk_seg dksX3_ground_0 24 rfl rfl
theorem dksX3_ground_2 : cX3_ground.data.toList.drop 46 = dktX3_ground_2 := dk_seg dksX3_ground_1 22 rfl rfl
theorem dksX3_ground_3 : cX3_ground.data.toList.drop 68 = dktX3_ground_3 := dk_seg dksX3_ground_2 22 rfl rfl
theorem dksX3_ground_4 : cX3_ground.data.toList.drop 92 = dktX3_ground_4 := dk_seg dksX3_ground_3 24 rfl rfl
theorem dX3_ground_0 : decode cX3_ground 0 = .ok (.aload_n 0, 1) := dk_42 (dk_at dksX3_ground_0 0 rfl rfl)
theorem dX3_ground_1 : decode cX3_ground 1 = .ok (.getfield 66, 3) := dk_180 0 66 (dk_at dksX3_ground_0 1 rfl rfl)
theorem dX3_ground_4 : decode cX3_ground 4 = .ok (.iconst 2, 1) := dk_5 (dk_at dksX3_ground_0 4 rfl rfl)
theorem dX3_ground_5 : decode cX3_ground 5 = .ok (.if_icmp .ne 28, 3) := dk_160 0 28 (dk_at dksX3_ground_0 5 rfl rfl)
theorem dX3_ground_8 : decode cX3_ground 8 = .ok (.aload_n 0, 1) := dk_42 (dk_at dksX3_ground_0 8 rfl rfl)
theorem dX3_ground_9 : decode cX3_ground 9 = .ok (.getfield 63, 3) := dk_180 0 63 (dk_at dksX3_ground_0 9 rfl rfl)
theorem dX3_ground_12 : decode cX3_ground 12 = .ok (.iconst 4, 1) := dk_7 (dk_at dksX3_ground_0 12 rfl rfl)
theorem dX3_ground_13 : decode cX3_ground 13 = .ok (.if_icmp .ge 20, 3) := dk_162 0 20 (dk_at dksX3_ground_0 13 rfl rfl)
theorem dX3_ground_16 : decode cX3_ground 16 = .ok (.aload_n 1, 1) := dk_43 (dk_at dksX3_ground_0 16 rfl rfl)
theorem dX3_ground_17 : decode cX3_ground 17 = .ok (.getfield 122, 3) := dk_180 0 122 (dk_at dksX3_ground_0 17 rfl rfl)
theorem dX3_ground_20 : decode cX3_ground 20 = .ok (.aload_n 0, 1) := dk_42 (dk_at dksX3_ground_0 20 rfl rfl)
theorem dX3_ground_21 : decode cX3_ground 21 = .ok (.getfield 63, 3) := dk_180 0 63 (dk_at dksX3_ground_0 21 rfl rfl)
theorem dX3_ground_24 : decode cX3_ground 24 = .ok (.aaload, 1) := dk_50 (dk_at dksX3_ground_1 0 rfl rfl)
theorem dX3_ground_25 : decode cX3_ground 25 = .ok (.ifnull 8, 3) := dk_198 0 8 (dk_at dksX3_ground_1 1 rfl rfl)
theorem dX3_ground_28 : decode cX3_ground 28 = .ok (.aload_n 0, 1) := dk_42 (dk_at dksX3_ground_1 4 rfl rfl)
theorem dX3_ground_29 : decode cX3_ground 29 = .ok (.iconst 2, 1) := dk_5 (dk_at dksX3_ground_1 5 rfl rfl)
theorem dX3_ground_30 : decode cX3_ground 30 = .ok (.invokevirtual 103, 3) := dk_182 0 103 (dk_at dksX3_ground_1 6 rfl rfl)
theorem dX3_ground_33 : decode cX3_ground 33 = .ok (.aload_n 0, 1) := dk_42 (dk_at dksX3_ground_1 9 rfl rfl)
theorem dX3_ground_34 : decode cX3_ground 34 = .ok (.iconst 0, 1) := dk_3 (dk_at dksX3_ground_1 10 rfl rfl)
theorem dX3_ground_35 : decode cX3_ground 35 = .ok (.iconst 3, 1) := dk_6 (dk_at dksX3_ground_1 11 rfl rfl)
theorem dX3_ground_36 : decode cX3_ground 36 = .ok (.invokevirtual 115, 3) := dk_182 0 115 (dk_at dksX3_ground_1 12 rfl rfl)
theorem dX3_ground_39 : decode cX3_ground 39 = .ok (.istore_n 2, 1) := dk_61 (dk_at dksX3_ground_1 15 rfl rfl)
theorem dX3_ground_40 : decode cX3_ground 40 = .ok (.aload_n 0, 1) := dk_42 (dk_at dksX3_ground_1 16 rfl rfl)
theorem dX3_ground_41 : decode cX3_ground 41 = .ok (.ldc 128, 2) := dk_18 128 (dk_at dksX3_ground_1 17 rfl rfl)
theorem dX3_ground_43 : decode cX3_ground 43 = .ok (.iconst 0, 1) := dk_3 (dk_at dksX3_ground_1 19 rfl rfl)
theorem dX3_ground_44 : decode cX3_ground 44 = .ok (.bipush 15, 2) := dk_16 15 (dk_at dksX3_ground_1 20 rfl rfl)
theorem dX3_ground_46 : decode cX3_ground 46 = .ok (.invokevirtual 130, 3) := dk_182 0 130 (dk_at dksX3_ground_2 0 rfl rfl)
theorem dX3_ground_49 : decode cX3_ground 49 = .ok (.istore_n 3, 1) := dk_62 (dk_at dksX3_ground_2 3 rfl rfl)
theorem dX3_ground_50 : decode cX3_ground 50 = .ok (.aload_n 0, 1) := dk_42 (dk_at dksX3_ground_2 4 rfl rfl)
theorem dX3_ground_51 : decode cX3_ground 51 = .ok (.ldc 133, 2) := dk_18 133 (dk_at dksX3_ground_2 5 rfl rfl)
theorem dX3_ground_53 : decode cX3_ground 53 = .ok (.iconst 0, 1) := dk_3 (dk_at dksX3_ground_2 7 rfl rfl)
theorem dX3_ground_54 : decode cX3_ground 54 = .ok (.bipush 15, 2) := dk_16 15 (dk_at dksX3_ground_2 8 rfl rfl)
theorem dX3_ground_56 : decode cX3_ground 56 = .ok (.invokevirtual 130, 3) := dk_182 0 130 (dk_at dksX3_ground_2 10 rfl rfl)
theorem dX3_ground_59 : decode cX3_ground 59 = .ok (.istore 4, 2) := dk_54 4 (dk_at dksX3_ground_2 13 rfl rfl)
theorem dX3_ground_61 : decode cX3_ground 61 = .ok (.aload_n 0, 1) := dk_42 (dk_at dksX3_ground_2 15 rfl rfl)
theorem dX3_ground_62 : decode cX3_ground 62 = .ok (.ldc 135, 2) := dk_18 135 (dk_at dksX3_ground_2 16 rfl rfl)
theorem dX3_ground_64 : decode cX3_ground 64 = .ok (.iconst 1, 1) := dk_4 (dk_at dksX3_ground_2 18 rfl rfl)
theorem dX3_ground_65 : decode cX3_ground 65 = .ok (.sipush 999, 3) := dk_17 3 231 (dk_at dksX3_ground_2 19 rfl rfl)
theorem dX3_ground_68 : decode cX3_ground 68 = .ok (.invokevirtual 130, 3) := dk_182 0 130 (dk_at dksX3_ground_3 0 rfl rfl)
theorem dX3_ground_71 : decode cX3_ground 71 = .ok (.istore 5, 2) := dk_54 5 (dk_at dksX3_ground_3 3 rfl rfl)
theorem dX3_ground_73 : decode cX3_ground 73 = .ok (.aload_n 1, 1) := dk_43 (dk_at dksX3_ground_3 5 rfl rfl)
theorem dX3_ground_74 : decode cX3_ground 74 = .ok (.getfield 122, 3) := dk_180 0 122 (dk_at dksX3_ground_3 6 rfl rfl)
theorem dX3_ground_77 : decode cX3_ground 77 = .ok (.iload_n 2, 1) := dk_28 (dk_at dksX3_ground_3 9 rfl rfl)
theorem dX3_ground_78 : decode cX3_ground 78 = .ok (.new 137, 3) := dk_187 0 137 (dk_at dksX3_ground_3 10 rfl rfl)
theorem dX3_ground_81 : decode cX3_ground 81 = .ok (.dup, 1) := dk_89 (dk_at dksX3_ground_3 13 rfl rfl)
theorem dX3_ground_82 : decode cX3_ground 82 = .ok (.iload_n 3, 1) := dk_29 (dk_at dksX3_ground_3 14 rfl rfl)
theorem dX3_ground_83 : decode cX3_ground 83 = .ok (.iload 4, 2) := dk_21 4 (dk_at dksX3_ground_3 15 rfl rfl)
theorem dX3_ground_85 : decode cX3_ground 85 = .ok (.iload 5, 2) := dk_21 5 (dk_at dksX3_ground_3 17 rfl rfl)
theorem dX3_ground_87 : decode cX3_ground 87 = .ok (.aload_n 0, 1) := dk_42 (dk_at dksX3_ground_3 19 rfl rfl)
theorem dX3_ground_88 : decode cX3_ground 88 = .ok (.ldc 139, 2) := dk_18 139 (dk_at dksX3_ground_3 20 rfl rfl)
theorem dX3_ground_90 : decode cX3_ground 90 = .ok (.bipush (-30), 2) := dk_16 226 (dk_at dksX3_ground_3 22 rfl rfl)
theorem dX3_ground_92 : decode cX3_ground 92 = .ok (.invokevirtual 141, 3) := dk_182 0 141 (dk_at dksX3_ground_4 0 rfl rfl)
theorem dX3_ground_95 : decode cX3_ground 95 = .ok (.invokespecial 145, 3) := dk_183 0 145 (dk_at dksX3_ground_4 3 rfl rfl)
theorem dX3_ground_98 : decode cX3_ground 98 = .ok (.aastore, 1) := dk_83 (dk_at dksX3_ground_4 6 rfl rfl)
theorem dX3_ground_99 : decode cX3_ground 99 = .ok (.return_, 1) := dk_177 (dk_at dksX3_ground_4 7 rfl rfl)
abbrev cX3_number : ByteArray := prog_9_method_10_code
def yX3_number : MethodName := ⟨RX3, "number", "(II)I"⟩
def dkwX3_number_1 : List UInt8 := [184, 0, 107, 154, 0, 8, 42, 5, 182, 0, 103, 42, 180, 0, 63, 62, 42, 182, 0, 97, 29, 172]
abbrev dktX3_number_1 : List UInt8 := dkwX3_number_1 ++ []
def dkwX3_number_0 : List UInt8 := [42, 180, 0, 66, 5, 159, 0, 8, 42, 4, 182, 0, 103, 42, 180, 0, 63, 133, 27, 133, 28, 133]
abbrev dktX3_number_0 : List UInt8 := dkwX3_number_0 ++ dktX3_number_1
theorem dksX3_number_0 : cX3_number.data.toList.drop 0 = dktX3_number_0 := by decide +kernel
theorem dksX3_number_1 : cX3_number.data.toList.drop 22 = dktX3_number_1 := dk_seg dksX3_number_0 22 rfl rfl
theorem dX3_number_0 : decode cX3_number 0 = .ok (.aload_n 0, 1) := dk_42 (dk_at dksX3_number_0 0 rfl rfl)
theorem dX3_number_1 : decode cX3_number 1 = .ok (.getfield 66, 3) := dk_180 0 66 (dk_at dksX3_number_0 1 rfl rfl)
theorem dX3_number_4 : decode cX3_number 4 = .ok (.iconst 2, 1) := dk_5 (dk_at dksX3_number_0 4 rfl rfl)
theorem dX3_number_5 : decode cX3_number 5 = .ok (.if_icmp .eq 8, 3) := dk_159 0 8 (dk_at dksX3_number_0 5 rfl rfl)
theorem dX3_number_8 : decode cX3_number 8 = .ok (.aload_n 0, 1) := dk_42 (dk_at dksX3_number_0 8 rfl rfl)
theorem dX3_number_9 : decode cX3_number 9 = .ok (.iconst 1, 1) := dk_4 (dk_at dksX3_number_0 9 rfl rfl)
theorem dX3_number_10 : decode cX3_number 10 = .ok (.invokevirtual 103, 3) := dk_182 0 103 (dk_at dksX3_number_0 10 rfl rfl)
theorem dX3_number_13 : decode cX3_number 13 = .ok (.aload_n 0, 1) := dk_42 (dk_at dksX3_number_0 13 rfl rfl)
theorem dX3_number_14 : decode cX3_number 14 = .ok (.getfield 63, 3) := dk_180 0 63 (dk_at dksX3_number_0 14 rfl rfl)
theorem dX3_number_17 : decode cX3_number 17 = .ok (.i2l, 1) := dk_133 (dk_at dksX3_number_0 17 rfl rfl)
theorem dX3_number_18 : decode cX3_number 18 = .ok (.iload_n 1, 1) := dk_27 (dk_at dksX3_number_0 18 rfl rfl)
theorem dX3_number_19 : decode cX3_number 19 = .ok (.i2l, 1) := dk_133 (dk_at dksX3_number_0 19 rfl rfl)
theorem dX3_number_20 : decode cX3_number 20 = .ok (.iload_n 2, 1) := dk_28 (dk_at dksX3_number_0 20 rfl rfl)
theorem dX3_number_21 : decode cX3_number 21 = .ok (.i2l, 1) := dk_133 (dk_at dksX3_number_0 21 rfl rfl)
theorem dX3_number_22 : decode cX3_number 22 = .ok (.invokestatic 107, 3) := dk_184 0 107 (dk_at dksX3_number_1 0 rfl rfl)
theorem dX3_number_25 : decode cX3_number 25 = .ok (.ifCond .ne 8, 3) := dk_154 0 8 (dk_at dksX3_number_1 3 rfl rfl)
theorem dX3_number_28 : decode cX3_number 28 = .ok (.aload_n 0, 1) := dk_42 (dk_at dksX3_number_1 6 rfl rfl)
theorem dX3_number_29 : decode cX3_number 29 = .ok (.iconst 2, 1) := dk_5 (dk_at dksX3_number_1 7 rfl rfl)
theorem dX3_number_30 : decode cX3_number 30 = .ok (.invokevirtual 103, 3) := dk_182 0 103 (dk_at dksX3_number_1 8 rfl rfl)
theorem dX3_number_33 : decode cX3_number 33 = .ok (.aload_n 0, 1) := dk_42 (dk_at dksX3_number_1 11 rfl rfl)
theorem dX3_number_34 : decode cX3_number 34 = .ok (.getfield 63, 3) := dk_180 0 63 (dk_at dksX3_number_1 12 rfl rfl)
theorem dX3_number_37 : decode cX3_number 37 = .ok (.istore_n 3, 1) := dk_62 (dk_at dksX3_number_1 15 rfl rfl)
theorem dX3_number_38 : decode cX3_number 38 = .ok (.aload_n 0, 1) := dk_42 (dk_at dksX3_number_1 16 rfl rfl)
theorem dX3_number_39 : decode cX3_number 39 = .ok (.invokevirtual 97, 3) := dk_182 0 97 (dk_at dksX3_number_1 17 rfl rfl)
theorem dX3_number_42 : decode cX3_number 42 = .ok (.iload_n 3, 1) := dk_29 (dk_at dksX3_number_1 20 rfl rfl)
theorem dX3_number_43 : decode cX3_number 43 = .ok (.ireturn, 1) := dk_172 (dk_at dksX3_number_1 21 rfl rfl)
abbrev cX3_number_2 : ByteArray := prog_9_method_11_code
def yX3_number_2 : MethodName := ⟨RX3, "number", "(Ljava/lang/String;II)I"⟩
def dkwX3_number_2_0 : List UInt8 := [42, 43, 182, 0, 111, 42, 28, 29, 182, 0, 115, 172]
abbrev dktX3_number_2_0 : List UInt8 := dkwX3_number_2_0 ++ []
theorem dksX3_number_2_0 : cX3_number_2.data.toList.drop 0 = dktX3_number_2_0 := by decide +kernel
theorem dX3_number_2_0 : decode cX3_number_2 0 = .ok (.aload_n 0, 1) := dk_42 (dk_at dksX3_number_2_0 0 rfl rfl)
theorem dX3_number_2_1 : decode cX3_number_2 1 = .ok (.aload_n 1, 1) := dk_43 (dk_at dksX3_number_2_0 1 rfl rfl)
theorem dX3_number_2_2 : decode cX3_number_2 2 = .ok (.invokevirtual 111, 3) := dk_182 0 111 (dk_at dksX3_number_2_0 2 rfl rfl)
theorem dX3_number_2_5 : decode cX3_number_2 5 = .ok (.aload_n 0, 1) := dk_42 (dk_at dksX3_number_2_0 5 rfl rfl)
theorem dX3_number_2_6 : decode cX3_number_2 6 = .ok (.iload_n 2, 1) := dk_28 (dk_at dksX3_number_2_0 6 rfl rfl)
theorem dX3_number_2_7 : decode cX3_number_2 7 = .ok (.iload_n 3, 1) := dk_29 (dk_at dksX3_number_2_0 7 rfl rfl)
theorem dX3_number_2_8 : decode cX3_number_2 8 = .ok (.invokevirtual 115, 3) := dk_182 0 115 (dk_at dksX3_number_2_0 8 rfl rfl)
theorem dX3_number_2_11 : decode cX3_number_2 11 = .ok (.ireturn, 1) := dk_172 (dk_at dksX3_number_2_0 11 rfl rfl)
abbrev cX3_word : ByteArray := prog_9_method_7_code
def yX3_word : MethodName := ⟨RX3, "word", "(Ljava/lang/String;)V"⟩
def dkwX3_word_0 : List UInt8 := [42, 43, 182, 0, 100, 154, 0, 8, 42, 4, 182, 0, 103, 177]
abbrev dktX3_word_0 : List UInt8 := dkwX3_word_0 ++ []
theorem dksX3_word_0 : cX3_word.data.toList.drop 0 = dktX3_word_0 := by decide +kernel
theorem dX3_word_0 : decode cX3_word 0 = .ok (.aload_n 0, 1) := dk_42 (dk_at dksX3_word_0 0 rfl rfl)
theorem dX3_word_1 : decode cX3_word 1 = .ok (.aload_n 1, 1) := dk_43 (dk_at dksX3_word_0 1 rfl rfl)
theorem dX3_word_2 : decode cX3_word 2 = .ok (.invokevirtual 100, 3) := dk_182 0 100 (dk_at dksX3_word_0 2 rfl rfl)
theorem dX3_word_5 : decode cX3_word 5 = .ok (.ifCond .ne 8, 3) := dk_154 0 8 (dk_at dksX3_word_0 5 rfl rfl)
theorem dX3_word_8 : decode cX3_word 8 = .ok (.aload_n 0, 1) := dk_42 (dk_at dksX3_word_0 8 rfl rfl)
theorem dX3_word_9 : decode cX3_word 9 = .ok (.iconst 1, 1) := dk_4 (dk_at dksX3_word_0 9 rfl rfl)
theorem dX3_word_10 : decode cX3_word 10 = .ok (.invokevirtual 103, 3) := dk_182 0 103 (dk_at dksX3_word_0 10 rfl rfl)
theorem dX3_word_13 : decode cX3_word 13 = .ok (.return_, 1) := dk_177 (dk_at dksX3_word_0 13 rfl rfl)
abbrev cX3_takes : ByteArray := prog_9_method_6_code
def yX3_takes : MethodName := ⟨RX3, "takes", "(Ljava/lang/String;)Z"⟩
def dkwX3_takes_0 : List UInt8 := [42, 43, 182, 0, 93, 61, 28, 153, 0, 7, 42, 182, 0, 97, 28, 172]
abbrev dktX3_takes_0 : List UInt8 := dkwX3_takes_0 ++ []
theorem dksX3_takes_0 : cX3_takes.data.toList.drop 0 = dktX3_takes_0 := by decide +kernel
theorem dX3_takes_0 : decode cX3_takes 0 = .ok (.aload_n 0, 1) := dk_42 (dk_at dksX3_takes_0 0 rfl rfl)
theorem dX3_takes_1 : decode cX3_takes 1 = .ok (.aload_n 1, 1) := dk_43 (dk_at dksX3_takes_0 1 rfl rfl)
theorem dX3_takes_2 : decode cX3_takes 2 = .ok (.invokevirtual 93, 3) := dk_182 0 93 (dk_at dksX3_takes_0 2 rfl rfl)
theorem dX3_takes_5 : decode cX3_takes 5 = .ok (.istore_n 2, 1) := dk_61 (dk_at dksX3_takes_0 5 rfl rfl)
theorem dX3_takes_6 : decode cX3_takes 6 = .ok (.iload_n 2, 1) := dk_28 (dk_at dksX3_takes_0 6 rfl rfl)
theorem dX3_takes_7 : decode cX3_takes 7 = .ok (.ifCond .eq 7, 3) := dk_153 0 7 (dk_at dksX3_takes_0 7 rfl rfl)
theorem dX3_takes_10 : decode cX3_takes 10 = .ok (.aload_n 0, 1) := dk_42 (dk_at dksX3_takes_0 10 rfl rfl)
theorem dX3_takes_11 : decode cX3_takes 11 = .ok (.invokevirtual 97, 3) := dk_182 0 97 (dk_at dksX3_takes_0 11 rfl rfl)
theorem dX3_takes_14 : decode cX3_takes 14 = .ok (.iload_n 2, 1) := dk_28 (dk_at dksX3_takes_0 14 rfl rfl)
theorem dX3_takes_15 : decode cX3_takes 15 = .ok (.ireturn, 1) := dk_172 (dk_at dksX3_takes_0 15 rfl rfl)
abbrev cX3_below : ByteArray := prog_9_method_12_code
def yX3_below : MethodName := ⟨RX3, "below", "(Ljava/lang/String;I)I"⟩
def dkwX3_below_1 : List UInt8 := [182, 0, 97, 42, 3, 28, 116, 182, 0, 115, 116, 172]
abbrev dktX3_below_1 : List UInt8 := dkwX3_below_1 ++ []
def dkwX3_below_0 : List UInt8 := [42, 43, 182, 0, 111, 42, 16, 45, 182, 0, 118, 154, 0, 10, 42, 3, 3, 182, 0, 115, 172, 42]
abbrev dktX3_below_0 : List UInt8 := dkwX3_below_0 ++ dktX3_below_1
theorem dksX3_below_0 : cX3_below.data.toList.drop 0 = dktX3_below_0 := by decide +kernel
theorem dksX3_below_1 : cX3_below.data.toList.drop 22 = dktX3_below_1 := dk_seg dksX3_below_0 22 rfl rfl
theorem dX3_below_0 : decode cX3_below 0 = .ok (.aload_n 0, 1) := dk_42 (dk_at dksX3_below_0 0 rfl rfl)
theorem dX3_below_1 : decode cX3_below 1 = .ok (.aload_n 1, 1) := dk_43 (dk_at dksX3_below_0 1 rfl rfl)
theorem dX3_below_2 : decode cX3_below 2 = .ok (.invokevirtual 111, 3) := dk_182 0 111 (dk_at dksX3_below_0 2 rfl rfl)
theorem dX3_below_5 : decode cX3_below 5 = .ok (.aload_n 0, 1) := dk_42 (dk_at dksX3_below_0 5 rfl rfl)
theorem dX3_below_6 : decode cX3_below 6 = .ok (.bipush 45, 2) := dk_16 45 (dk_at dksX3_below_0 6 rfl rfl)
theorem dX3_below_8 : decode cX3_below 8 = .ok (.invokevirtual 118, 3) := dk_182 0 118 (dk_at dksX3_below_0 8 rfl rfl)
theorem dX3_below_11 : decode cX3_below 11 = .ok (.ifCond .ne 10, 3) := dk_154 0 10 (dk_at dksX3_below_0 11 rfl rfl)
theorem dX3_below_14 : decode cX3_below 14 = .ok (.aload_n 0, 1) := dk_42 (dk_at dksX3_below_0 14 rfl rfl)
theorem dX3_below_15 : decode cX3_below 15 = .ok (.iconst 0, 1) := dk_3 (dk_at dksX3_below_0 15 rfl rfl)
theorem dX3_below_16 : decode cX3_below 16 = .ok (.iconst 0, 1) := dk_3 (dk_at dksX3_below_0 16 rfl rfl)
theorem dX3_below_17 : decode cX3_below 17 = .ok (.invokevirtual 115, 3) := dk_182 0 115 (dk_at dksX3_below_0 17 rfl rfl)
theorem dX3_below_20 : decode cX3_below 20 = .ok (.ireturn, 1) := dk_172 (dk_at dksX3_below_0 20 rfl rfl)
theorem dX3_below_21 : decode cX3_below 21 = .ok (.aload_n 0, 1) := dk_42 (dk_at dksX3_below_0 21 rfl rfl)
theorem dX3_below_22 : decode cX3_below 22 = .ok (.invokevirtual 97, 3) := dk_182 0 97 (dk_at dksX3_below_1 0 rfl rfl)
theorem dX3_below_25 : decode cX3_below 25 = .ok (.aload_n 0, 1) := dk_42 (dk_at dksX3_below_1 3 rfl rfl)
theorem dX3_below_26 : decode cX3_below 26 = .ok (.iconst 0, 1) := dk_3 (dk_at dksX3_below_1 4 rfl rfl)
theorem dX3_below_27 : decode cX3_below 27 = .ok (.iload_n 2, 1) := dk_28 (dk_at dksX3_below_1 5 rfl rfl)
theorem dX3_below_28 : decode cX3_below 28 = .ok (.ineg, 1) := dk_116 (dk_at dksX3_below_1 6 rfl rfl)
theorem dX3_below_29 : decode cX3_below 29 = .ok (.invokevirtual 115, 3) := dk_182 0 115 (dk_at dksX3_below_1 7 rfl rfl)
theorem dX3_below_32 : decode cX3_below 32 = .ok (.ineg, 1) := dk_116 (dk_at dksX3_below_1 10 rfl rfl)
theorem dX3_below_33 : decode cX3_below 33 = .ok (.ireturn, 1) := dk_172 (dk_at dksX3_below_1 11 rfl rfl)
abbrev cX3_isSign : ByteArray := prog_9_method_8_code
def yX3_isSign : MethodName := ⟨RX3, "isSign", "(I)Z"⟩
def dkwX3_isSign_0 : List UInt8 := [42, 180, 0, 66, 6, 160, 0, 15, 42, 180, 0, 63, 27, 160, 0, 7, 4, 167, 0, 4, 3, 172]
abbrev dktX3_isSign_0 : List UInt8 := dkwX3_isSign_0 ++ []
theorem dksX3_isSign_0 : cX3_isSign.data.toList.drop 0 = dktX3_isSign_0 := by decide +kernel
theorem dX3_isSign_0 : decode cX3_isSign 0 = .ok (.aload_n 0, 1) := dk_42 (dk_at dksX3_isSign_0 0 rfl rfl)
theorem dX3_isSign_1 : decode cX3_isSign 1 = .ok (.getfield 66, 3) := dk_180 0 66 (dk_at dksX3_isSign_0 1 rfl rfl)
theorem dX3_isSign_4 : decode cX3_isSign 4 = .ok (.iconst 3, 1) := dk_6 (dk_at dksX3_isSign_0 4 rfl rfl)
theorem dX3_isSign_5 : decode cX3_isSign 5 = .ok (.if_icmp .ne 15, 3) := dk_160 0 15 (dk_at dksX3_isSign_0 5 rfl rfl)
theorem dX3_isSign_8 : decode cX3_isSign 8 = .ok (.aload_n 0, 1) := dk_42 (dk_at dksX3_isSign_0 8 rfl rfl)
theorem dX3_isSign_9 : decode cX3_isSign 9 = .ok (.getfield 63, 3) := dk_180 0 63 (dk_at dksX3_isSign_0 9 rfl rfl)
theorem dX3_isSign_12 : decode cX3_isSign 12 = .ok (.iload_n 1, 1) := dk_27 (dk_at dksX3_isSign_0 12 rfl rfl)
theorem dX3_isSign_13 : decode cX3_isSign 13 = .ok (.if_icmp .ne 7, 3) := dk_160 0 7 (dk_at dksX3_isSign_0 13 rfl rfl)
theorem dX3_isSign_16 : decode cX3_isSign 16 = .ok (.iconst 1, 1) := dk_4 (dk_at dksX3_isSign_0 16 rfl rfl)
theorem dX3_isSign_17 : decode cX3_isSign 17 = .ok (.goto 4, 3) := dk_167 0 4 (dk_at dksX3_isSign_0 17 rfl rfl)
theorem dX3_isSign_20 : decode cX3_isSign 20 = .ok (.iconst 0, 1) := dk_3 (dk_at dksX3_isSign_0 20 rfl rfl)
theorem dX3_isSign_21 : decode cX3_isSign 21 = .ok (.ireturn, 1) := dk_172 (dk_at dksX3_isSign_0 21 rfl rfl)
abbrev cX3_lay : ByteArray := prog_9_method_14_code
def yX3_lay : MethodName := ⟨RX3, "lay", "(LFrostRing$Told;)V"⟩
def dkwX3_lay_3 : List UInt8 := [16, 12, 21, 7, 104, 21, 8, 96, 21, 6, 79, 132, 8, 1, 167, 255, 231, 132, 7, 1, 167, 255, 215, 177]
abbrev dktX3_lay_3 : List UInt8 := dkwX3_lay_3 ++ []
def dkwX3_lay_2 : List UInt8 := [29, 54, 7, 21, 7, 21, 5, 163, 0, 40, 28, 54, 8, 21, 8, 21, 4, 163, 0, 24, 43, 180, 0, 150]
abbrev dktX3_lay_2 : List UInt8 := dkwX3_lay_2 ++ dktX3_lay_3
def dkwX3_lay_1 : List UInt8 := [182, 0, 130, 54, 4, 42, 29, 16, 11, 182, 0, 115, 54, 5, 42, 18, 25, 3, 6, 182, 0, 130, 54, 6]
abbrev dktX3_lay_1 : List UInt8 := dkwX3_lay_1 ++ dktX3_lay_2
def dkwX3_lay_0 : List UInt8 := [42, 3, 16, 11, 182, 0, 115, 61, 42, 3, 16, 11, 182, 0, 115, 62, 42, 18, 148, 28, 16, 11]
abbrev dktX3_lay_0 : List UInt8 := dkwX3_lay_0 ++ dktX3_lay_1
theorem dksX3_lay_0 : cX3_lay.data.toList.drop 0 = dktX3_lay_0 := by decide +kernel
theorem dksX3_lay_1 : cX3_lay.data.toList.drop 22 = dktX3_lay_1 := dk_seg dksX3_lay_0 22 rfl rfl
theorem dksX3_lay_2 : cX3_lay.data.toList.drop 46 = dktX3_lay_2 := dk_seg dksX3_lay_1 24 rfl rfl
theorem dksX3_lay_3 : cX3_lay.data.toList.drop 70 = dktX3_lay_3 := dk_seg dksX3_lay_2 24 rfl rfl
theorem dX3_lay_0 : decode cX3_lay 0 = .ok (.aload_n 0, 1) := dk_42 (dk_at dksX3_lay_0 0 rfl rfl)
theorem dX3_lay_1 : decode cX3_lay 1 = .ok (.iconst 0, 1) := dk_3 (dk_at dksX3_lay_0 1 rfl rfl)
theorem dX3_lay_2 : decode cX3_lay 2 = .ok (.bipush 11, 2) := dk_16 11 (dk_at dksX3_lay_0 2 rfl rfl)
theorem dX3_lay_4 : decode cX3_lay 4 = .ok (.invokevirtual 115, 3) := dk_182 0 115 (dk_at dksX3_lay_0 4 rfl rfl)
theorem dX3_lay_7 : decode cX3_lay 7 = .ok (.istore_n 2, 1) := dk_61 (dk_at dksX3_lay_0 7 rfl rfl)
theorem dX3_lay_8 : decode cX3_lay 8 = .ok (.aload_n 0, 1) := dk_42 (dk_at dksX3_lay_0 8 rfl rfl)
theorem dX3_lay_9 : decode cX3_lay 9 = .ok (.iconst 0, 1) := dk_3 (dk_at dksX3_lay_0 9 rfl rfl)
theorem dX3_lay_10 : decode cX3_lay 10 = .ok (.bipush 11, 2) := dk_16 11 (dk_at dksX3_lay_0 10 rfl rfl)
theorem dX3_lay_12 : decode cX3_lay 12 = .ok (.invokevirtual 115, 3) := dk_182 0 115 (dk_at dksX3_lay_0 12 rfl rfl)
theorem dX3_lay_15 : decode cX3_lay 15 = .ok (.istore_n 3, 1) := dk_62 (dk_at dksX3_lay_0 15 rfl rfl)
theorem dX3_lay_16 : decode cX3_lay 16 = .ok (.aload_n 0, 1) := dk_42 (dk_at dksX3_lay_0 16 rfl rfl)
theorem dX3_lay_17 : decode cX3_lay 17 = .ok (.ldc 148, 2) := dk_18 148 (dk_at dksX3_lay_0 17 rfl rfl)
theorem dX3_lay_19 : decode cX3_lay 19 = .ok (.iload_n 2, 1) := dk_28 (dk_at dksX3_lay_0 19 rfl rfl)
theorem dX3_lay_20 : decode cX3_lay 20 = .ok (.bipush 11, 2) := dk_16 11 (dk_at dksX3_lay_0 20 rfl rfl)
theorem dX3_lay_22 : decode cX3_lay 22 = .ok (.invokevirtual 130, 3) := dk_182 0 130 (dk_at dksX3_lay_1 0 rfl rfl)
theorem dX3_lay_25 : decode cX3_lay 25 = .ok (.istore 4, 2) := dk_54 4 (dk_at dksX3_lay_1 3 rfl rfl)
theorem dX3_lay_27 : decode cX3_lay 27 = .ok (.aload_n 0, 1) := dk_42 (dk_at dksX3_lay_1 5 rfl rfl)
theorem dX3_lay_28 : decode cX3_lay 28 = .ok (.iload_n 3, 1) := dk_29 (dk_at dksX3_lay_1 6 rfl rfl)
theorem dX3_lay_29 : decode cX3_lay 29 = .ok (.bipush 11, 2) := dk_16 11 (dk_at dksX3_lay_1 7 rfl rfl)
theorem dX3_lay_31 : decode cX3_lay 31 = .ok (.invokevirtual 115, 3) := dk_182 0 115 (dk_at dksX3_lay_1 9 rfl rfl)
theorem dX3_lay_34 : decode cX3_lay 34 = .ok (.istore 5, 2) := dk_54 5 (dk_at dksX3_lay_1 12 rfl rfl)
theorem dX3_lay_36 : decode cX3_lay 36 = .ok (.aload_n 0, 1) := dk_42 (dk_at dksX3_lay_1 14 rfl rfl)
theorem dX3_lay_37 : decode cX3_lay 37 = .ok (.ldc 25, 2) := dk_18 25 (dk_at dksX3_lay_1 15 rfl rfl)
theorem dX3_lay_39 : decode cX3_lay 39 = .ok (.iconst 0, 1) := dk_3 (dk_at dksX3_lay_1 17 rfl rfl)
theorem dX3_lay_40 : decode cX3_lay 40 = .ok (.iconst 3, 1) := dk_6 (dk_at dksX3_lay_1 18 rfl rfl)
theorem dX3_lay_41 : decode cX3_lay 41 = .ok (.invokevirtual 130, 3) := dk_182 0 130 (dk_at dksX3_lay_1 19 rfl rfl)
theorem dX3_lay_44 : decode cX3_lay 44 = .ok (.istore 6, 2) := dk_54 6 (dk_at dksX3_lay_1 22 rfl rfl)
theorem dX3_lay_46 : decode cX3_lay 46 = .ok (.iload_n 3, 1) := dk_29 (dk_at dksX3_lay_2 0 rfl rfl)
theorem dX3_lay_47 : decode cX3_lay 47 = .ok (.istore 7, 2) := dk_54 7 (dk_at dksX3_lay_2 1 rfl rfl)
theorem dX3_lay_49 : decode cX3_lay 49 = .ok (.iload 7, 2) := dk_21 7 (dk_at dksX3_lay_2 3 rfl rfl)
theorem dX3_lay_51 : decode cX3_lay 51 = .ok (.iload 5, 2) := dk_21 5 (dk_at dksX3_lay_2 5 rfl rfl)
theorem dX3_lay_53 : decode cX3_lay 53 = .ok (.if_icmp .gt 40, 3) := dk_163 0 40 (dk_at dksX3_lay_2 7 rfl rfl)
theorem dX3_lay_56 : decode cX3_lay 56 = .ok (.iload_n 2, 1) := dk_28 (dk_at dksX3_lay_2 10 rfl rfl)
theorem dX3_lay_57 : decode cX3_lay 57 = .ok (.istore 8, 2) := dk_54 8 (dk_at dksX3_lay_2 11 rfl rfl)
theorem dX3_lay_59 : decode cX3_lay 59 = .ok (.iload 8, 2) := dk_21 8 (dk_at dksX3_lay_2 13 rfl rfl)
theorem dX3_lay_61 : decode cX3_lay 61 = .ok (.iload 4, 2) := dk_21 4 (dk_at dksX3_lay_2 15 rfl rfl)
theorem dX3_lay_63 : decode cX3_lay 63 = .ok (.if_icmp .gt 24, 3) := dk_163 0 24 (dk_at dksX3_lay_2 17 rfl rfl)
theorem dX3_lay_66 : decode cX3_lay 66 = .ok (.aload_n 1, 1) := dk_43 (dk_at dksX3_lay_2 20 rfl rfl)
theorem dX3_lay_67 : decode cX3_lay 67 = .ok (.getfield 150, 3) := dk_180 0 150 (dk_at dksX3_lay_2 21 rfl rfl)
theorem dX3_lay_70 : decode cX3_lay 70 = .ok (.bipush 12, 2) := dk_16 12 (dk_at dksX3_lay_3 0 rfl rfl)
theorem dX3_lay_72 : decode cX3_lay 72 = .ok (.iload 7, 2) := dk_21 7 (dk_at dksX3_lay_3 2 rfl rfl)
theorem dX3_lay_74 : decode cX3_lay 74 = .ok (.imul, 1) := dk_104 (dk_at dksX3_lay_3 4 rfl rfl)
theorem dX3_lay_75 : decode cX3_lay 75 = .ok (.iload 8, 2) := dk_21 8 (dk_at dksX3_lay_3 5 rfl rfl)
theorem dX3_lay_77 : decode cX3_lay 77 = .ok (.iadd, 1) := dk_96 (dk_at dksX3_lay_3 7 rfl rfl)
theorem dX3_lay_78 : decode cX3_lay 78 = .ok (.iload 6, 2) := dk_21 6 (dk_at dksX3_lay_3 8 rfl rfl)
theorem dX3_lay_80 : decode cX3_lay 80 = .ok (.iastore, 1) := dk_79 (dk_at dksX3_lay_3 10 rfl rfl)
theorem dX3_lay_81 : decode cX3_lay 81 = .ok (.iinc 8 1, 3) := dk_132 8 1 (dk_at dksX3_lay_3 11 rfl rfl)
theorem dX3_lay_84 : decode cX3_lay 84 = .ok (.goto (-25), 3) := dk_167 255 231 (dk_at dksX3_lay_3 14 rfl rfl)
theorem dX3_lay_87 : decode cX3_lay 87 = .ok (.iinc 7 1, 3) := dk_132 7 1 (dk_at dksX3_lay_3 17 rfl rfl)
theorem dX3_lay_90 : decode cX3_lay 90 = .ok (.goto (-41), 3) := dk_167 255 215 (dk_at dksX3_lay_3 20 rfl rfl)
theorem dX3_lay_93 : decode cX3_lay 93 = .ok (.return_, 1) := dk_177 (dk_at dksX3_lay_3 23 rfl rfl)
abbrev cX3_stream : ByteArray := prog_9_method_17_code
def yX3_stream : MethodName := ⟨RX3, "stream", "(LFrostRing$Told;)V"⟩
def dkwX3_stream_2 : List UInt8 := [180, 0, 191, 28, 42, 18, 193, 3, 16, 30, 182, 0, 130, 79, 177]
abbrev dktX3_stream_2 : List UInt8 := dkwX3_stream_2 ++ []
def dkwX3_stream_1 : List UInt8 := [180, 0, 63, 46, 2, 159, 0, 8, 42, 5, 182, 0, 103, 42, 3, 16, 11, 182, 0, 115, 61, 43]
abbrev dktX3_stream_1 : List UInt8 := dkwX3_stream_1 ++ dktX3_stream_2
def dkwX3_stream_0 : List UInt8 := [42, 180, 0, 66, 5, 160, 0, 30, 42, 180, 0, 63, 16, 12, 162, 0, 21, 43, 180, 0, 191, 42]
abbrev dktX3_stream_0 : List UInt8 := dkwX3_stream_0 ++ dktX3_stream_1
theorem dksX3_stream_0 : cX3_stream.data.toList.drop 0 = dktX3_stream_0 := by decide +kernel
theorem dksX3_stream_1 : cX3_stream.data.toList.drop 22 = dktX3_stream_1 := dk_seg dksX3_stream_0 22 rfl rfl
theorem dksX3_stream_2 : cX3_stream.data.toList.drop 44 = dktX3_stream_2 := dk_seg dksX3_stream_1 22 rfl rfl
theorem dX3_stream_0 : decode cX3_stream 0 = .ok (.aload_n 0, 1) := dk_42 (dk_at dksX3_stream_0 0 rfl rfl)
theorem dX3_stream_1 : decode cX3_stream 1 = .ok (.getfield 66, 3) := dk_180 0 66 (dk_at dksX3_stream_0 1 rfl rfl)
theorem dX3_stream_4 : decode cX3_stream 4 = .ok (.iconst 2, 1) := dk_5 (dk_at dksX3_stream_0 4 rfl rfl)
theorem dX3_stream_5 : decode cX3_stream 5 = .ok (.if_icmp .ne 30, 3) := dk_160 0 30 (dk_at dksX3_stream_0 5 rfl rfl)
theorem dX3_stream_8 : decode cX3_stream 8 = .ok (.aload_n 0, 1) := dk_42 (dk_at dksX3_stream_0 8 rfl rfl)
theorem dX3_stream_9 : decode cX3_stream 9 = .ok (.getfield 63, 3) := dk_180 0 63 (dk_at dksX3_stream_0 9 rfl rfl)
theorem dX3_stream_12 : decode cX3_stream 12 = .ok (.bipush 12, 2) := dk_16 12 (dk_at dksX3_stream_0 12 rfl rfl)
theorem dX3_stream_14 : decode cX3_stream 14 = .ok (.if_icmp .ge 21, 3) := dk_162 0 21 (dk_at dksX3_stream_0 14 rfl rfl)
theorem dX3_stream_17 : decode cX3_stream 17 = .ok (.aload_n 1, 1) := dk_43 (dk_at dksX3_stream_0 17 rfl rfl)
theorem dX3_stream_18 : decode cX3_stream 18 = .ok (.getfield 191, 3) := dk_180 0 191 (dk_at dksX3_stream_0 18 rfl rfl)
theorem dX3_stream_21 : decode cX3_stream 21 = .ok (.aload_n 0, 1) := dk_42 (dk_at dksX3_stream_0 21 rfl rfl)
theorem dX3_stream_22 : decode cX3_stream 22 = .ok (.getfield 63, 3) := dk_180 0 63 (dk_at dksX3_stream_1 0 rfl rfl)
theorem dX3_stream_25 : decode cX3_stream 25 = .ok (.iaload, 1) := dk_46 (dk_at dksX3_stream_1 3 rfl rfl)
theorem dX3_stream_26 : decode cX3_stream 26 = .ok (.iconst (-1), 1) := dk_2 (dk_at dksX3_stream_1 4 rfl rfl)
theorem dX3_stream_27 : decode cX3_stream 27 = .ok (.if_icmp .eq 8, 3) := dk_159 0 8 (dk_at dksX3_stream_1 5 rfl rfl)
theorem dX3_stream_30 : decode cX3_stream 30 = .ok (.aload_n 0, 1) := dk_42 (dk_at dksX3_stream_1 8 rfl rfl)
theorem dX3_stream_31 : decode cX3_stream 31 = .ok (.iconst 2, 1) := dk_5 (dk_at dksX3_stream_1 9 rfl rfl)
theorem dX3_stream_32 : decode cX3_stream 32 = .ok (.invokevirtual 103, 3) := dk_182 0 103 (dk_at dksX3_stream_1 10 rfl rfl)
theorem dX3_stream_35 : decode cX3_stream 35 = .ok (.aload_n 0, 1) := dk_42 (dk_at dksX3_stream_1 13 rfl rfl)
theorem dX3_stream_36 : decode cX3_stream 36 = .ok (.iconst 0, 1) := dk_3 (dk_at dksX3_stream_1 14 rfl rfl)
theorem dX3_stream_37 : decode cX3_stream 37 = .ok (.bipush 11, 2) := dk_16 11 (dk_at dksX3_stream_1 15 rfl rfl)
theorem dX3_stream_39 : decode cX3_stream 39 = .ok (.invokevirtual 115, 3) := dk_182 0 115 (dk_at dksX3_stream_1 17 rfl rfl)
theorem dX3_stream_42 : decode cX3_stream 42 = .ok (.istore_n 2, 1) := dk_61 (dk_at dksX3_stream_1 20 rfl rfl)
theorem dX3_stream_43 : decode cX3_stream 43 = .ok (.aload_n 1, 1) := dk_43 (dk_at dksX3_stream_1 21 rfl rfl)
theorem dX3_stream_44 : decode cX3_stream 44 = .ok (.getfield 191, 3) := dk_180 0 191 (dk_at dksX3_stream_2 0 rfl rfl)
theorem dX3_stream_47 : decode cX3_stream 47 = .ok (.iload_n 2, 1) := dk_28 (dk_at dksX3_stream_2 3 rfl rfl)
theorem dX3_stream_48 : decode cX3_stream 48 = .ok (.aload_n 0, 1) := dk_42 (dk_at dksX3_stream_2 4 rfl rfl)
theorem dX3_stream_49 : decode cX3_stream 49 = .ok (.ldc 193, 2) := dk_18 193 (dk_at dksX3_stream_2 5 rfl rfl)
theorem dX3_stream_51 : decode cX3_stream 51 = .ok (.iconst 0, 1) := dk_3 (dk_at dksX3_stream_2 7 rfl rfl)
theorem dX3_stream_52 : decode cX3_stream 52 = .ok (.bipush 30, 2) := dk_16 30 (dk_at dksX3_stream_2 8 rfl rfl)
theorem dX3_stream_54 : decode cX3_stream 54 = .ok (.invokevirtual 130, 3) := dk_182 0 130 (dk_at dksX3_stream_2 10 rfl rfl)
theorem dX3_stream_57 : decode cX3_stream 57 = .ok (.iastore, 1) := dk_79 (dk_at dksX3_stream_2 13 rfl rfl)
theorem dX3_stream_58 : decode cX3_stream 58 = .ok (.return_, 1) := dk_177 (dk_at dksX3_stream_2 14 rfl rfl)
abbrev cX3_shaft : ByteArray := prog_9_method_15_code
def yX3_shaft : MethodName := ⟨RX3, "shaft", "(LFrostRing$Told;)V"⟩
def dkwX3_shaft_2 : List UInt8 := [181, 0, 163, 177]
abbrev dktX3_shaft_2 : List UInt8 := dkwX3_shaft_2 ++ []
def dkwX3_shaft_1 : List UInt8 := [16, 10, 182, 0, 130, 181, 0, 157, 43, 42, 43, 180, 0, 154, 16, 10, 182, 0, 115, 181, 0, 160, 43, 28]
abbrev dktX3_shaft_1 : List UInt8 := dkwX3_shaft_1 ++ dktX3_shaft_2
def dkwX3_shaft_0 : List UInt8 := [42, 4, 16, 10, 182, 0, 115, 61, 43, 42, 4, 16, 10, 182, 0, 115, 181, 0, 154, 43, 42, 18, 148, 28]
abbrev dktX3_shaft_0 : List UInt8 := dkwX3_shaft_0 ++ dktX3_shaft_1
theorem dksX3_shaft_0 : cX3_shaft.data.toList.drop 0 = dktX3_shaft_0 := by decide +kernel
theorem dksX3_shaft_1 : cX3_shaft.data.toList.drop 24 = dktX3_shaft_1 := dk_seg dksX3_shaft_0 24 rfl rfl
theorem dksX3_shaft_2 : cX3_shaft.data.toList.drop 48 = dktX3_shaft_2 := dk_seg dksX3_shaft_1 24 rfl rfl
theorem dX3_shaft_0 : decode cX3_shaft 0 = .ok (.aload_n 0, 1) := dk_42 (dk_at dksX3_shaft_0 0 rfl rfl)
theorem dX3_shaft_1 : decode cX3_shaft 1 = .ok (.iconst 1, 1) := dk_4 (dk_at dksX3_shaft_0 1 rfl rfl)
theorem dX3_shaft_2 : decode cX3_shaft 2 = .ok (.bipush 10, 2) := dk_16 10 (dk_at dksX3_shaft_0 2 rfl rfl)
theorem dX3_shaft_4 : decode cX3_shaft 4 = .ok (.invokevirtual 115, 3) := dk_182 0 115 (dk_at dksX3_shaft_0 4 rfl rfl)
theorem dX3_shaft_7 : decode cX3_shaft 7 = .ok (.istore_n 2, 1) := dk_61 (dk_at dksX3_shaft_0 7 rfl rfl)
theorem dX3_shaft_8 : decode cX3_shaft 8 = .ok (.aload_n 1, 1) := dk_43 (dk_at dksX3_shaft_0 8 rfl rfl)
theorem dX3_shaft_9 : decode cX3_shaft 9 = .ok (.aload_n 0, 1) := dk_42 (dk_at dksX3_shaft_0 9 rfl rfl)
theorem dX3_shaft_10 : decode cX3_shaft 10 = .ok (.iconst 1, 1) := dk_4 (dk_at dksX3_shaft_0 10 rfl rfl)
theorem dX3_shaft_11 : decode cX3_shaft 11 = .ok (.bipush 10, 2) := dk_16 10 (dk_at dksX3_shaft_0 11 rfl rfl)
theorem dX3_shaft_13 : decode cX3_shaft 13 = .ok (.invokevirtual 115, 3) := dk_182 0 115 (dk_at dksX3_shaft_0 13 rfl rfl)
theorem dX3_shaft_16 : decode cX3_shaft 16 = .ok (.putfield 154, 3) := dk_181 0 154 (dk_at dksX3_shaft_0 16 rfl rfl)
theorem dX3_shaft_19 : decode cX3_shaft 19 = .ok (.aload_n 1, 1) := dk_43 (dk_at dksX3_shaft_0 19 rfl rfl)
theorem dX3_shaft_20 : decode cX3_shaft 20 = .ok (.aload_n 0, 1) := dk_42 (dk_at dksX3_shaft_0 20 rfl rfl)
theorem dX3_shaft_21 : decode cX3_shaft 21 = .ok (.ldc 148, 2) := dk_18 148 (dk_at dksX3_shaft_0 21 rfl rfl)
theorem dX3_shaft_23 : decode cX3_shaft 23 = .ok (.iload_n 2, 1) := dk_28 (dk_at dksX3_shaft_0 23 rfl rfl)
theorem dX3_shaft_24 : decode cX3_shaft 24 = .ok (.bipush 10, 2) := dk_16 10 (dk_at dksX3_shaft_1 0 rfl rfl)
theorem dX3_shaft_26 : decode cX3_shaft 26 = .ok (.invokevirtual 130, 3) := dk_182 0 130 (dk_at dksX3_shaft_1 2 rfl rfl)
theorem dX3_shaft_29 : decode cX3_shaft 29 = .ok (.putfield 157, 3) := dk_181 0 157 (dk_at dksX3_shaft_1 5 rfl rfl)
theorem dX3_shaft_32 : decode cX3_shaft 32 = .ok (.aload_n 1, 1) := dk_43 (dk_at dksX3_shaft_1 8 rfl rfl)
theorem dX3_shaft_33 : decode cX3_shaft 33 = .ok (.aload_n 0, 1) := dk_42 (dk_at dksX3_shaft_1 9 rfl rfl)
theorem dX3_shaft_34 : decode cX3_shaft 34 = .ok (.aload_n 1, 1) := dk_43 (dk_at dksX3_shaft_1 10 rfl rfl)
theorem dX3_shaft_35 : decode cX3_shaft 35 = .ok (.getfield 154, 3) := dk_180 0 154 (dk_at dksX3_shaft_1 11 rfl rfl)
theorem dX3_shaft_38 : decode cX3_shaft 38 = .ok (.bipush 10, 2) := dk_16 10 (dk_at dksX3_shaft_1 14 rfl rfl)
theorem dX3_shaft_40 : decode cX3_shaft 40 = .ok (.invokevirtual 115, 3) := dk_182 0 115 (dk_at dksX3_shaft_1 16 rfl rfl)
theorem dX3_shaft_43 : decode cX3_shaft 43 = .ok (.putfield 160, 3) := dk_181 0 160 (dk_at dksX3_shaft_1 19 rfl rfl)
theorem dX3_shaft_46 : decode cX3_shaft 46 = .ok (.aload_n 1, 1) := dk_43 (dk_at dksX3_shaft_1 22 rfl rfl)
theorem dX3_shaft_47 : decode cX3_shaft 47 = .ok (.iload_n 2, 1) := dk_28 (dk_at dksX3_shaft_1 23 rfl rfl)
theorem dX3_shaft_48 : decode cX3_shaft 48 = .ok (.putfield 163, 3) := dk_181 0 163 (dk_at dksX3_shaft_2 0 rfl rfl)
theorem dX3_shaft_51 : decode cX3_shaft 51 = .ok (.return_, 1) := dk_177 (dk_at dksX3_shaft_2 3 rfl rfl)
abbrev cX3_pipe : ByteArray := prog_9_method_16_code
def yX3_pipe : MethodName := ⟨RX3, "pipe", "(LFrostRing$Told;)V"⟩
def dkwX3_pipe_5 : List UInt8 := [3, 16, 60, 182, 0, 130, 183, 0, 184, 185, 0, 187, 2, 0, 87, 177]
abbrev dktX3_pipe_5 : List UInt8 := dkwX3_pipe_5 ++ []
def dkwX3_pipe_4 : List UInt8 := [182, 0, 141, 54, 4, 43, 180, 0, 166, 187, 0, 178, 89, 16, 12, 29, 104, 28, 96, 21, 4, 42, 18, 128]
abbrev dktX3_pipe_4 : List UInt8 := dkwX3_pipe_4 ++ dktX3_pipe_5
def dkwX3_pipe_3 : List UInt8 := [5, 182, 0, 103, 132, 3, 1, 167, 255, 207, 42, 3, 16, 11, 182, 0, 115, 62, 42, 18, 183, 17, 254, 112]
abbrev dktX3_pipe_3 : List UInt8 := dkwX3_pipe_3 ++ dktX3_pipe_4
def dkwX3_pipe_2 : List UInt8 := [185, 0, 174, 2, 0, 192, 0, 178, 180, 0, 180, 16, 12, 42, 180, 0, 63, 104, 28, 96, 160, 0, 8, 42]
abbrev dktX3_pipe_2 : List UInt8 := dkwX3_pipe_2 ++ dktX3_pipe_3
def dkwX3_pipe_1 : List UInt8 := [162, 0, 57, 3, 62, 29, 43, 180, 0, 166, 185, 0, 170, 1, 0, 162, 0, 42, 43, 180, 0, 166, 29]
abbrev dktX3_pipe_1 : List UInt8 := dkwX3_pipe_1 ++ dktX3_pipe_2
def dkwX3_pipe_0 : List UInt8 := [42, 3, 16, 11, 182, 0, 115, 61, 42, 180, 0, 66, 5, 160, 0, 66, 42, 180, 0, 63, 16, 12]
abbrev dktX3_pipe_0 : List UInt8 := dkwX3_pipe_0 ++ dktX3_pipe_1
theorem dksX3_pipe_0 : cX3_pipe.data.toList.drop 0 = dktX3_pipe_0 := by decide +kernel
theorem dksX3_pipe_1 : cX3_pipe.data.toList.drop 22 = dktX3_pipe_1 := dk_seg dksX3_pipe_0 22 rfl rfl
theorem dksX3_pipe_2 : cX3_pipe.data.toList.drop 45 = dktX3_pipe_2 := dk_seg dksX3_pipe_1 23 rfl rfl
theorem dksX3_pipe_3 : cX3_pipe.data.toList.drop 69 = dktX3_pipe_3 := dk_seg dksX3_pipe_2 24 rfl rfl
theorem dksX3_pipe_4 : cX3_pipe.data.toList.drop 93 = dktX3_pipe_4 := dk_seg dksX3_pipe_3 24 rfl rfl
theorem dksX3_pipe_5 : cX3_pipe.data.toList.drop 117 = dktX3_pipe_5 := dk_seg dksX3_pipe_4 24 rfl rfl
theorem dX3_pipe_0 : decode cX3_pipe 0 = .ok (.aload_n 0, 1) := dk_42 (dk_at dksX3_pipe_0 0 rfl rfl)
theorem dX3_pipe_1 : decode cX3_pipe 1 = .ok (.iconst 0, 1) := dk_3 (dk_at dksX3_pipe_0 1 rfl rfl)
theorem dX3_pipe_2 : decode cX3_pipe 2 = .ok (.bipush 11, 2) := dk_16 11 (dk_at dksX3_pipe_0 2 rfl rfl)
theorem dX3_pipe_4 : decode cX3_pipe 4 = .ok (.invokevirtual 115, 3) := dk_182 0 115 (dk_at dksX3_pipe_0 4 rfl rfl)
theorem dX3_pipe_7 : decode cX3_pipe 7 = .ok (.istore_n 2, 1) := dk_61 (dk_at dksX3_pipe_0 7 rfl rfl)
theorem dX3_pipe_8 : decode cX3_pipe 8 = .ok (.aload_n 0, 1) := dk_42 (dk_at dksX3_pipe_0 8 rfl rfl)
theorem dX3_pipe_9 : decode cX3_pipe 9 = .ok (.getfield 66, 3) := dk_180 0 66 (dk_at dksX3_pipe_0 9 rfl rfl)
theorem dX3_pipe_12 : decode cX3_pipe 12 = .ok (.iconst 2, 1) := dk_5 (dk_at dksX3_pipe_0 12 rfl rfl)
theorem dX3_pipe_13 : decode cX3_pipe 13 = .ok (.if_icmp .ne 66, 3) := dk_160 0 66 (dk_at dksX3_pipe_0 13 rfl rfl)
theorem dX3_pipe_16 : decode cX3_pipe 16 = .ok (.aload_n 0, 1) := dk_42 (dk_at dksX3_pipe_0 16 rfl rfl)
theorem dX3_pipe_17 : decode cX3_pipe 17 = .ok (.getfield 63, 3) := dk_180 0 63 (dk_at dksX3_pipe_0 17 rfl rfl)
theorem dX3_pipe_20 : decode cX3_pipe 20 = .ok (.bipush 12, 2) := dk_16 12 (dk_at dksX3_pipe_0 20 rfl rfl)
theorem dX3_pipe_22 : decode cX3_pipe 22 = .ok (.if_icmp .ge 57, 3) := dk_162 0 57 (dk_at dksX3_pipe_1 0 rfl rfl)
theorem dX3_pipe_25 : decode cX3_pipe 25 = .ok (.iconst 0, 1) := dk_3 (dk_at dksX3_pipe_1 3 rfl rfl)
theorem dX3_pipe_26 : decode cX3_pipe 26 = .ok (.istore_n 3, 1) := dk_62 (dk_at dksX3_pipe_1 4 rfl rfl)
theorem dX3_pipe_27 : decode cX3_pipe 27 = .ok (.iload_n 3, 1) := dk_29 (dk_at dksX3_pipe_1 5 rfl rfl)
theorem dX3_pipe_28 : decode cX3_pipe 28 = .ok (.aload_n 1, 1) := dk_43 (dk_at dksX3_pipe_1 6 rfl rfl)
theorem dX3_pipe_29 : decode cX3_pipe 29 = .ok (.getfield 166, 3) := dk_180 0 166 (dk_at dksX3_pipe_1 7 rfl rfl)
theorem dX3_pipe_32 : decode cX3_pipe 32 = .ok (.invokeinterface 170 1, 5) := by decide +kernel
theorem dX3_pipe_37 : decode cX3_pipe 37 = .ok (.if_icmp .ge 42, 3) := dk_162 0 42 (dk_at dksX3_pipe_1 15 rfl rfl)
theorem dX3_pipe_40 : decode cX3_pipe 40 = .ok (.aload_n 1, 1) := dk_43 (dk_at dksX3_pipe_1 18 rfl rfl)
theorem dX3_pipe_41 : decode cX3_pipe 41 = .ok (.getfield 166, 3) := dk_180 0 166 (dk_at dksX3_pipe_1 19 rfl rfl)
theorem dX3_pipe_44 : decode cX3_pipe 44 = .ok (.iload_n 3, 1) := dk_29 (dk_at dksX3_pipe_1 22 rfl rfl)
theorem dX3_pipe_45 : decode cX3_pipe 45 = .ok (.invokeinterface 174 2, 5) := by decide +kernel
theorem dX3_pipe_50 : decode cX3_pipe 50 = .ok (.checkcast 178, 3) := dk_192 0 178 (dk_at dksX3_pipe_2 5 rfl rfl)
theorem dX3_pipe_53 : decode cX3_pipe 53 = .ok (.getfield 180, 3) := dk_180 0 180 (dk_at dksX3_pipe_2 8 rfl rfl)
theorem dX3_pipe_56 : decode cX3_pipe 56 = .ok (.bipush 12, 2) := dk_16 12 (dk_at dksX3_pipe_2 11 rfl rfl)
theorem dX3_pipe_58 : decode cX3_pipe 58 = .ok (.aload_n 0, 1) := dk_42 (dk_at dksX3_pipe_2 13 rfl rfl)
theorem dX3_pipe_59 : decode cX3_pipe 59 = .ok (.getfield 63, 3) := dk_180 0 63 (dk_at dksX3_pipe_2 14 rfl rfl)
theorem dX3_pipe_62 : decode cX3_pipe 62 = .ok (.imul, 1) := dk_104 (dk_at dksX3_pipe_2 17 rfl rfl)
theorem dX3_pipe_63 : decode cX3_pipe 63 = .ok (.iload_n 2, 1) := dk_28 (dk_at dksX3_pipe_2 18 rfl rfl)
theorem dX3_pipe_64 : decode cX3_pipe 64 = .ok (.iadd, 1) := dk_96 (dk_at dksX3_pipe_2 19 rfl rfl)
theorem dX3_pipe_65 : decode cX3_pipe 65 = .ok (.if_icmp .ne 8, 3) := dk_160 0 8 (dk_at dksX3_pipe_2 20 rfl rfl)
theorem dX3_pipe_68 : decode cX3_pipe 68 = .ok (.aload_n 0, 1) := dk_42 (dk_at dksX3_pipe_2 23 rfl rfl)
theorem dX3_pipe_69 : decode cX3_pipe 69 = .ok (.iconst 2, 1) := dk_5 (dk_at dksX3_pipe_3 0 rfl rfl)
theorem dX3_pipe_70 : decode cX3_pipe 70 = .ok (.invokevirtual 103, 3) := dk_182 0 103 (dk_at dksX3_pipe_3 1 rfl rfl)
theorem dX3_pipe_73 : decode cX3_pipe 73 = .ok (.iinc 3 1, 3) := dk_132 3 1 (dk_at dksX3_pipe_3 4 rfl rfl)
theorem dX3_pipe_76 : decode cX3_pipe 76 = .ok (.goto (-49), 3) := dk_167 255 207 (dk_at dksX3_pipe_3 7 rfl rfl)
theorem dX3_pipe_79 : decode cX3_pipe 79 = .ok (.aload_n 0, 1) := dk_42 (dk_at dksX3_pipe_3 10 rfl rfl)
theorem dX3_pipe_80 : decode cX3_pipe 80 = .ok (.iconst 0, 1) := dk_3 (dk_at dksX3_pipe_3 11 rfl rfl)
theorem dX3_pipe_81 : decode cX3_pipe 81 = .ok (.bipush 11, 2) := dk_16 11 (dk_at dksX3_pipe_3 12 rfl rfl)
theorem dX3_pipe_83 : decode cX3_pipe 83 = .ok (.invokevirtual 115, 3) := dk_182 0 115 (dk_at dksX3_pipe_3 14 rfl rfl)
theorem dX3_pipe_86 : decode cX3_pipe 86 = .ok (.istore_n 3, 1) := dk_62 (dk_at dksX3_pipe_3 17 rfl rfl)
theorem dX3_pipe_87 : decode cX3_pipe 87 = .ok (.aload_n 0, 1) := dk_42 (dk_at dksX3_pipe_3 18 rfl rfl)
theorem dX3_pipe_88 : decode cX3_pipe 88 = .ok (.ldc 183, 2) := dk_18 183 (dk_at dksX3_pipe_3 19 rfl rfl)
theorem dX3_pipe_90 : decode cX3_pipe 90 = .ok (.sipush (-400), 3) := dk_17 254 112 (dk_at dksX3_pipe_3 21 rfl rfl)
theorem dX3_pipe_93 : decode cX3_pipe 93 = .ok (.invokevirtual 141, 3) := dk_182 0 141 (dk_at dksX3_pipe_4 0 rfl rfl)
theorem dX3_pipe_96 : decode cX3_pipe 96 = .ok (.istore 4, 2) := dk_54 4 (dk_at dksX3_pipe_4 3 rfl rfl)
theorem dX3_pipe_98 : decode cX3_pipe 98 = .ok (.aload_n 1, 1) := dk_43 (dk_at dksX3_pipe_4 5 rfl rfl)
theorem dX3_pipe_99 : decode cX3_pipe 99 = .ok (.getfield 166, 3) := dk_180 0 166 (dk_at dksX3_pipe_4 6 rfl rfl)
theorem dX3_pipe_102 : decode cX3_pipe 102 = .ok (.new 178, 3) := dk_187 0 178 (dk_at dksX3_pipe_4 9 rfl rfl)
theorem dX3_pipe_105 : decode cX3_pipe 105 = .ok (.dup, 1) := dk_89 (dk_at dksX3_pipe_4 12 rfl rfl)
theorem dX3_pipe_106 : decode cX3_pipe 106 = .ok (.bipush 12, 2) := dk_16 12 (dk_at dksX3_pipe_4 13 rfl rfl)
theorem dX3_pipe_108 : decode cX3_pipe 108 = .ok (.iload_n 3, 1) := dk_29 (dk_at dksX3_pipe_4 15 rfl rfl)
theorem dX3_pipe_109 : decode cX3_pipe 109 = .ok (.imul, 1) := dk_104 (dk_at dksX3_pipe_4 16 rfl rfl)
theorem dX3_pipe_110 : decode cX3_pipe 110 = .ok (.iload_n 2, 1) := dk_28 (dk_at dksX3_pipe_4 17 rfl rfl)
theorem dX3_pipe_111 : decode cX3_pipe 111 = .ok (.iadd, 1) := dk_96 (dk_at dksX3_pipe_4 18 rfl rfl)
theorem dX3_pipe_112 : decode cX3_pipe 112 = .ok (.iload 4, 2) := dk_21 4 (dk_at dksX3_pipe_4 19 rfl rfl)
theorem dX3_pipe_114 : decode cX3_pipe 114 = .ok (.aload_n 0, 1) := dk_42 (dk_at dksX3_pipe_4 21 rfl rfl)
theorem dX3_pipe_115 : decode cX3_pipe 115 = .ok (.ldc 128, 2) := dk_18 128 (dk_at dksX3_pipe_4 22 rfl rfl)
theorem dX3_pipe_117 : decode cX3_pipe 117 = .ok (.iconst 0, 1) := dk_3 (dk_at dksX3_pipe_5 0 rfl rfl)
theorem dX3_pipe_118 : decode cX3_pipe 118 = .ok (.bipush 60, 2) := dk_16 60 (dk_at dksX3_pipe_5 1 rfl rfl)
theorem dX3_pipe_120 : decode cX3_pipe 120 = .ok (.invokevirtual 130, 3) := dk_182 0 130 (dk_at dksX3_pipe_5 3 rfl rfl)
theorem dX3_pipe_123 : decode cX3_pipe 123 = .ok (.invokespecial 184, 3) := dk_183 0 184 (dk_at dksX3_pipe_5 6 rfl rfl)
theorem dX3_pipe_126 : decode cX3_pipe 126 = .ok (.invokeinterface 187 2, 5) := by decide +kernel
theorem dX3_pipe_131 : decode cX3_pipe 131 = .ok (.pop, 1) := dk_87 (dk_at dksX3_pipe_5 14 rfl rfl)
theorem dX3_pipe_132 : decode cX3_pipe 132 = .ok (.return_, 1) := dk_177 (dk_at dksX3_pipe_5 15 rfl rfl)
abbrev cX3_rule : ByteArray := prog_9_method_18_code
def yX3_rule : MethodName := ⟨RX3, "rule", "(LFrostRing$Told;)V"⟩
def dkwX3_rule_5 : List UInt8 := [182, 0, 100, 62, 167, 255, 154, 43, 180, 0, 222, 44, 185, 0, 187, 2, 0, 87, 177]
abbrev dktX3_rule_5 : List UInt8 := dkwX3_rule_5 ++ []
def dkwX3_rule_4 : List UInt8 := [167, 0, 9, 42, 21, 4, 182, 0, 216, 83, 44, 89, 180, 0, 206, 4, 96, 181, 0, 206, 42, 18, 220]
abbrev dktX3_rule_4 : List UInt8 := dkwX3_rule_4 ++ dktX3_rule_5
def dkwX3_rule_3 : List UInt8 := [182, 0, 97, 44, 180, 0, 209, 44, 180, 0, 206, 21, 5, 153, 0, 13, 187, 0, 213, 89, 183, 0, 215]
abbrev dktX3_rule_3 : List UInt8 := dkwX3_rule_3 ++ dktX3_rule_4
def dkwX3_rule_2 : List UInt8 := [154, 0, 8, 42, 4, 182, 0, 103, 44, 180, 0, 206, 6, 160, 0, 8, 42, 6, 182, 0, 103, 42]
abbrev dktX3_rule_2 : List UInt8 := dkwX3_rule_2 ++ dktX3_rule_3
def dkwX3_rule_1 : List UInt8 := [180, 0, 19, 182, 0, 200, 54, 4, 42, 18, 204, 182, 0, 93, 54, 5, 21, 4, 2, 160, 0, 13, 21, 5]
abbrev dktX3_rule_1 : List UInt8 := dkwX3_rule_1 ++ dktX3_rule_2
def dkwX3_rule_0 : List UInt8 := [42, 18, 195, 182, 0, 111, 187, 0, 197, 89, 183, 0, 199, 77, 4, 62, 29, 153, 0, 104, 42, 42]
abbrev dktX3_rule_0 : List UInt8 := dkwX3_rule_0 ++ dktX3_rule_1
theorem dksX3_rule_0 : cX3_rule.data.toList.drop 0 = dktX3_rule_0 := by decide +kernel
theorem dksX3_rule_1 : cX3_rule.data.toList.drop 22 = dktX3_rule_1 := dk_seg dksX3_rule_0 22 rfl rfl
theorem dksX3_rule_2 : cX3_rule.data.toList.drop 46 = dktX3_rule_2 := dk_seg dksX3_rule_1 24 rfl rfl
theorem dksX3_rule_3 : cX3_rule.data.toList.drop 68 = dktX3_rule_3 := dk_seg dksX3_rule_2 22 rfl rfl
theorem dksX3_rule_4 : cX3_rule.data.toList.drop 91 = dktX3_rule_4 := dk_seg dksX3_rule_3 23 rfl rfl
theorem dksX3_rule_5 : cX3_rule.data.toList.drop 114 = dktX3_rule_5 := dk_seg dksX3_rule_4 23 rfl rfl
theorem dX3_rule_0 : decode cX3_rule 0 = .ok (.aload_n 0, 1) := dk_42 (dk_at dksX3_rule_0 0 rfl rfl)
theorem dX3_rule_1 : decode cX3_rule 1 = .ok (.ldc 195, 2) := dk_18 195 (dk_at dksX3_rule_0 1 rfl rfl)
theorem dX3_rule_3 : decode cX3_rule 3 = .ok (.invokevirtual 111, 3) := dk_182 0 111 (dk_at dksX3_rule_0 3 rfl rfl)
theorem dX3_rule_6 : decode cX3_rule 6 = .ok (.new 197, 3) := dk_187 0 197 (dk_at dksX3_rule_0 6 rfl rfl)
theorem dX3_rule_9 : decode cX3_rule 9 = .ok (.dup, 1) := dk_89 (dk_at dksX3_rule_0 9 rfl rfl)
theorem dX3_rule_10 : decode cX3_rule 10 = .ok (.invokespecial 199, 3) := dk_183 0 199 (dk_at dksX3_rule_0 10 rfl rfl)
theorem dX3_rule_13 : decode cX3_rule 13 = .ok (.astore_n 2, 1) := dk_77 (dk_at dksX3_rule_0 13 rfl rfl)
theorem dX3_rule_14 : decode cX3_rule 14 = .ok (.iconst 1, 1) := dk_4 (dk_at dksX3_rule_0 14 rfl rfl)
theorem dX3_rule_15 : decode cX3_rule 15 = .ok (.istore_n 3, 1) := dk_62 (dk_at dksX3_rule_0 15 rfl rfl)
theorem dX3_rule_16 : decode cX3_rule 16 = .ok (.iload_n 3, 1) := dk_29 (dk_at dksX3_rule_0 16 rfl rfl)
theorem dX3_rule_17 : decode cX3_rule 17 = .ok (.ifCond .eq 104, 3) := dk_153 0 104 (dk_at dksX3_rule_0 17 rfl rfl)
theorem dX3_rule_20 : decode cX3_rule 20 = .ok (.aload_n 0, 1) := dk_42 (dk_at dksX3_rule_0 20 rfl rfl)
theorem dX3_rule_21 : decode cX3_rule 21 = .ok (.aload_n 0, 1) := dk_42 (dk_at dksX3_rule_0 21 rfl rfl)
theorem dX3_rule_22 : decode cX3_rule 22 = .ok (.getfield 19, 3) := dk_180 0 19 (dk_at dksX3_rule_1 0 rfl rfl)
theorem dX3_rule_25 : decode cX3_rule 25 = .ok (.invokevirtual 200, 3) := dk_182 0 200 (dk_at dksX3_rule_1 3 rfl rfl)
theorem dX3_rule_28 : decode cX3_rule 28 = .ok (.istore 4, 2) := dk_54 4 (dk_at dksX3_rule_1 6 rfl rfl)
theorem dX3_rule_30 : decode cX3_rule 30 = .ok (.aload_n 0, 1) := dk_42 (dk_at dksX3_rule_1 8 rfl rfl)
theorem dX3_rule_31 : decode cX3_rule 31 = .ok (.ldc 204, 2) := dk_18 204 (dk_at dksX3_rule_1 9 rfl rfl)
theorem dX3_rule_33 : decode cX3_rule 33 = .ok (.invokevirtual 93, 3) := dk_182 0 93 (dk_at dksX3_rule_1 11 rfl rfl)
theorem dX3_rule_36 : decode cX3_rule 36 = .ok (.istore 5, 2) := dk_54 5 (dk_at dksX3_rule_1 14 rfl rfl)
theorem dX3_rule_38 : decode cX3_rule 38 = .ok (.iload 4, 2) := dk_21 4 (dk_at dksX3_rule_1 16 rfl rfl)
theorem dX3_rule_40 : decode cX3_rule 40 = .ok (.iconst (-1), 1) := dk_2 (dk_at dksX3_rule_1 18 rfl rfl)
theorem dX3_rule_41 : decode cX3_rule 41 = .ok (.if_icmp .ne 13, 3) := dk_160 0 13 (dk_at dksX3_rule_1 19 rfl rfl)
theorem dX3_rule_44 : decode cX3_rule 44 = .ok (.iload 5, 2) := dk_21 5 (dk_at dksX3_rule_1 22 rfl rfl)
theorem dX3_rule_46 : decode cX3_rule 46 = .ok (.ifCond .ne 8, 3) := dk_154 0 8 (dk_at dksX3_rule_2 0 rfl rfl)
theorem dX3_rule_49 : decode cX3_rule 49 = .ok (.aload_n 0, 1) := dk_42 (dk_at dksX3_rule_2 3 rfl rfl)
theorem dX3_rule_50 : decode cX3_rule 50 = .ok (.iconst 1, 1) := dk_4 (dk_at dksX3_rule_2 4 rfl rfl)
theorem dX3_rule_51 : decode cX3_rule 51 = .ok (.invokevirtual 103, 3) := dk_182 0 103 (dk_at dksX3_rule_2 5 rfl rfl)
theorem dX3_rule_54 : decode cX3_rule 54 = .ok (.aload_n 2, 1) := dk_44 (dk_at dksX3_rule_2 8 rfl rfl)
theorem dX3_rule_55 : decode cX3_rule 55 = .ok (.getfield 206, 3) := dk_180 0 206 (dk_at dksX3_rule_2 9 rfl rfl)
theorem dX3_rule_58 : decode cX3_rule 58 = .ok (.iconst 3, 1) := dk_6 (dk_at dksX3_rule_2 12 rfl rfl)
theorem dX3_rule_59 : decode cX3_rule 59 = .ok (.if_icmp .ne 8, 3) := dk_160 0 8 (dk_at dksX3_rule_2 13 rfl rfl)
theorem dX3_rule_62 : decode cX3_rule 62 = .ok (.aload_n 0, 1) := dk_42 (dk_at dksX3_rule_2 16 rfl rfl)
theorem dX3_rule_63 : decode cX3_rule 63 = .ok (.iconst 3, 1) := dk_6 (dk_at dksX3_rule_2 17 rfl rfl)
theorem dX3_rule_64 : decode cX3_rule 64 = .ok (.invokevirtual 103, 3) := dk_182 0 103 (dk_at dksX3_rule_2 18 rfl rfl)
theorem dX3_rule_67 : decode cX3_rule 67 = .ok (.aload_n 0, 1) := dk_42 (dk_at dksX3_rule_2 21 rfl rfl)
theorem dX3_rule_68 : decode cX3_rule 68 = .ok (.invokevirtual 97, 3) := dk_182 0 97 (dk_at dksX3_rule_3 0 rfl rfl)
theorem dX3_rule_71 : decode cX3_rule 71 = .ok (.aload_n 2, 1) := dk_44 (dk_at dksX3_rule_3 3 rfl rfl)
theorem dX3_rule_72 : decode cX3_rule 72 = .ok (.getfield 209, 3) := dk_180 0 209 (dk_at dksX3_rule_3 4 rfl rfl)
theorem dX3_rule_75 : decode cX3_rule 75 = .ok (.aload_n 2, 1) := dk_44 (dk_at dksX3_rule_3 7 rfl rfl)
theorem dX3_rule_76 : decode cX3_rule 76 = .ok (.getfield 206, 3) := dk_180 0 206 (dk_at dksX3_rule_3 8 rfl rfl)
theorem dX3_rule_79 : decode cX3_rule 79 = .ok (.iload 5, 2) := dk_21 5 (dk_at dksX3_rule_3 11 rfl rfl)
theorem dX3_rule_81 : decode cX3_rule 81 = .ok (.ifCond .eq 13, 3) := dk_153 0 13 (dk_at dksX3_rule_3 13 rfl rfl)
theorem dX3_rule_84 : decode cX3_rule 84 = .ok (.new 213, 3) := dk_187 0 213 (dk_at dksX3_rule_3 16 rfl rfl)
theorem dX3_rule_87 : decode cX3_rule 87 = .ok (.dup, 1) := dk_89 (dk_at dksX3_rule_3 19 rfl rfl)
theorem dX3_rule_88 : decode cX3_rule 88 = .ok (.invokespecial 215, 3) := dk_183 0 215 (dk_at dksX3_rule_3 20 rfl rfl)
theorem dX3_rule_91 : decode cX3_rule 91 = .ok (.goto 9, 3) := dk_167 0 9 (dk_at dksX3_rule_4 0 rfl rfl)
theorem dX3_rule_94 : decode cX3_rule 94 = .ok (.aload_n 0, 1) := dk_42 (dk_at dksX3_rule_4 3 rfl rfl)
theorem dX3_rule_95 : decode cX3_rule 95 = .ok (.iload 4, 2) := dk_21 4 (dk_at dksX3_rule_4 4 rfl rfl)
theorem dX3_rule_97 : decode cX3_rule 97 = .ok (.invokevirtual 216, 3) := dk_182 0 216 (dk_at dksX3_rule_4 6 rfl rfl)
theorem dX3_rule_100 : decode cX3_rule 100 = .ok (.aastore, 1) := dk_83 (dk_at dksX3_rule_4 9 rfl rfl)
theorem dX3_rule_101 : decode cX3_rule 101 = .ok (.aload_n 2, 1) := dk_44 (dk_at dksX3_rule_4 10 rfl rfl)
theorem dX3_rule_102 : decode cX3_rule 102 = .ok (.dup, 1) := dk_89 (dk_at dksX3_rule_4 11 rfl rfl)
theorem dX3_rule_103 : decode cX3_rule 103 = .ok (.getfield 206, 3) := dk_180 0 206 (dk_at dksX3_rule_4 12 rfl rfl)
theorem dX3_rule_106 : decode cX3_rule 106 = .ok (.iconst 1, 1) := dk_4 (dk_at dksX3_rule_4 15 rfl rfl)
theorem dX3_rule_107 : decode cX3_rule 107 = .ok (.iadd, 1) := dk_96 (dk_at dksX3_rule_4 16 rfl rfl)
theorem dX3_rule_108 : decode cX3_rule 108 = .ok (.putfield 206, 3) := dk_181 0 206 (dk_at dksX3_rule_4 17 rfl rfl)
theorem dX3_rule_111 : decode cX3_rule 111 = .ok (.aload_n 0, 1) := dk_42 (dk_at dksX3_rule_4 20 rfl rfl)
theorem dX3_rule_112 : decode cX3_rule 112 = .ok (.ldc 220, 2) := dk_18 220 (dk_at dksX3_rule_4 21 rfl rfl)
theorem dX3_rule_114 : decode cX3_rule 114 = .ok (.invokevirtual 100, 3) := dk_182 0 100 (dk_at dksX3_rule_5 0 rfl rfl)
theorem dX3_rule_117 : decode cX3_rule 117 = .ok (.istore_n 3, 1) := dk_62 (dk_at dksX3_rule_5 3 rfl rfl)
theorem dX3_rule_118 : decode cX3_rule 118 = .ok (.goto (-102), 3) := dk_167 255 154 (dk_at dksX3_rule_5 4 rfl rfl)
theorem dX3_rule_121 : decode cX3_rule 121 = .ok (.aload_n 1, 1) := dk_43 (dk_at dksX3_rule_5 7 rfl rfl)
theorem dX3_rule_122 : decode cX3_rule 122 = .ok (.getfield 222, 3) := dk_180 0 222 (dk_at dksX3_rule_5 8 rfl rfl)
theorem dX3_rule_125 : decode cX3_rule 125 = .ok (.aload_n 2, 1) := dk_44 (dk_at dksX3_rule_5 11 rfl rfl)
theorem dX3_rule_126 : decode cX3_rule 126 = .ok (.invokeinterface 187 2, 5) := by decide +kernel
theorem dX3_rule_131 : decode cX3_rule 131 = .ok (.pop, 1) := dk_87 (dk_at dksX3_rule_5 17 rfl rfl)
theorem dX3_rule_132 : decode cX3_rule 132 = .ok (.return_, 1) := dk_177 (dk_at dksX3_rule_5 18 rfl rfl)
abbrev cX3_measure : ByteArray := prog_9_method_19_code
def yX3_measure : MethodName := ⟨RX3, "measure", "(I)LFrostRing$Cond;"⟩
def dkwX3_measure_2 : List UInt8 := [42, 3, 18, 227, 182, 0, 115, 183, 0, 228, 176]
abbrev dktX3_measure_2 : List UInt8 := dkwX3_measure_2 ++ []
def dkwX3_measure_1 : List UInt8 := [180, 0, 63, 16, 60, 160, 0, 7, 4, 167, 0, 4, 3, 61, 42, 182, 0, 97, 187, 0, 225, 89, 27, 28]
abbrev dktX3_measure_1 : List UInt8 := dkwX3_measure_1 ++ dktX3_measure_2
def dkwX3_measure_0 : List UInt8 := [42, 16, 60, 182, 0, 118, 154, 0, 17, 42, 16, 62, 182, 0, 118, 154, 0, 8, 42, 4, 182, 0, 103, 42]
abbrev dktX3_measure_0 : List UInt8 := dkwX3_measure_0 ++ dktX3_measure_1
theorem dksX3_measure_0 : cX3_measure.data.toList.drop 0 = dktX3_measure_0 := by decide +kernel
theorem dksX3_measure_1 : cX3_measure.data.toList.drop 24 = dktX3_measure_1 := dk_seg dksX3_measure_0 24 rfl rfl
theorem dksX3_measure_2 : cX3_measure.data.toList.drop 48 = dktX3_measure_2 := dk_seg dksX3_measure_1 24 rfl rfl
theorem dX3_measure_0 : decode cX3_measure 0 = .ok (.aload_n 0, 1) := dk_42 (dk_at dksX3_measure_0 0 rfl rfl)
theorem dX3_measure_1 : decode cX3_measure 1 = .ok (.bipush 60, 2) := dk_16 60 (dk_at dksX3_measure_0 1 rfl rfl)
theorem dX3_measure_3 : decode cX3_measure 3 = .ok (.invokevirtual 118, 3) := dk_182 0 118 (dk_at dksX3_measure_0 3 rfl rfl)
theorem dX3_measure_6 : decode cX3_measure 6 = .ok (.ifCond .ne 17, 3) := dk_154 0 17 (dk_at dksX3_measure_0 6 rfl rfl)
theorem dX3_measure_9 : decode cX3_measure 9 = .ok (.aload_n 0, 1) := dk_42 (dk_at dksX3_measure_0 9 rfl rfl)
theorem dX3_measure_10 : decode cX3_measure 10 = .ok (.bipush 62, 2) := dk_16 62 (dk_at dksX3_measure_0 10 rfl rfl)
theorem dX3_measure_12 : decode cX3_measure 12 = .ok (.invokevirtual 118, 3) := dk_182 0 118 (dk_at dksX3_measure_0 12 rfl rfl)
theorem dX3_measure_15 : decode cX3_measure 15 = .ok (.ifCond .ne 8, 3) := dk_154 0 8 (dk_at dksX3_measure_0 15 rfl rfl)
theorem dX3_measure_18 : decode cX3_measure 18 = .ok (.aload_n 0, 1) := dk_42 (dk_at dksX3_measure_0 18 rfl rfl)
theorem dX3_measure_19 : decode cX3_measure 19 = .ok (.iconst 1, 1) := dk_4 (dk_at dksX3_measure_0 19 rfl rfl)
theorem dX3_measure_20 : decode cX3_measure 20 = .ok (.invokevirtual 103, 3) := dk_182 0 103 (dk_at dksX3_measure_0 20 rfl rfl)
theorem dX3_measure_23 : decode cX3_measure 23 = .ok (.aload_n 0, 1) := dk_42 (dk_at dksX3_measure_0 23 rfl rfl)
theorem dX3_measure_24 : decode cX3_measure 24 = .ok (.getfield 63, 3) := dk_180 0 63 (dk_at dksX3_measure_1 0 rfl rfl)
theorem dX3_measure_27 : decode cX3_measure 27 = .ok (.bipush 60, 2) := dk_16 60 (dk_at dksX3_measure_1 3 rfl rfl)
theorem dX3_measure_29 : decode cX3_measure 29 = .ok (.if_icmp .ne 7, 3) := dk_160 0 7 (dk_at dksX3_measure_1 5 rfl rfl)
theorem dX3_measure_32 : decode cX3_measure 32 = .ok (.iconst 1, 1) := dk_4 (dk_at dksX3_measure_1 8 rfl rfl)
theorem dX3_measure_33 : decode cX3_measure 33 = .ok (.goto 4, 3) := dk_167 0 4 (dk_at dksX3_measure_1 9 rfl rfl)
theorem dX3_measure_36 : decode cX3_measure 36 = .ok (.iconst 0, 1) := dk_3 (dk_at dksX3_measure_1 12 rfl rfl)
theorem dX3_measure_37 : decode cX3_measure 37 = .ok (.istore_n 2, 1) := dk_61 (dk_at dksX3_measure_1 13 rfl rfl)
theorem dX3_measure_38 : decode cX3_measure 38 = .ok (.aload_n 0, 1) := dk_42 (dk_at dksX3_measure_1 14 rfl rfl)
theorem dX3_measure_39 : decode cX3_measure 39 = .ok (.invokevirtual 97, 3) := dk_182 0 97 (dk_at dksX3_measure_1 15 rfl rfl)
theorem dX3_measure_42 : decode cX3_measure 42 = .ok (.new 225, 3) := dk_187 0 225 (dk_at dksX3_measure_1 18 rfl rfl)
theorem dX3_measure_45 : decode cX3_measure 45 = .ok (.dup, 1) := dk_89 (dk_at dksX3_measure_1 21 rfl rfl)
theorem dX3_measure_46 : decode cX3_measure 46 = .ok (.iload_n 1, 1) := dk_27 (dk_at dksX3_measure_1 22 rfl rfl)
theorem dX3_measure_47 : decode cX3_measure 47 = .ok (.iload_n 2, 1) := dk_28 (dk_at dksX3_measure_1 23 rfl rfl)
theorem dX3_measure_48 : decode cX3_measure 48 = .ok (.aload_n 0, 1) := dk_42 (dk_at dksX3_measure_2 0 rfl rfl)
theorem dX3_measure_49 : decode cX3_measure 49 = .ok (.iconst 0, 1) := dk_3 (dk_at dksX3_measure_2 1 rfl rfl)
theorem dX3_measure_50 : decode cX3_measure 50 = .ok (.ldc 227, 2) := dk_18 227 (dk_at dksX3_measure_2 2 rfl rfl)
theorem dX3_measure_52 : decode cX3_measure 52 = .ok (.invokevirtual 115, 3) := dk_182 0 115 (dk_at dksX3_measure_2 4 rfl rfl)
theorem dX3_measure_55 : decode cX3_measure 55 = .ok (.invokespecial 228, 3) := dk_183 0 228 (dk_at dksX3_measure_2 7 rfl rfl)
theorem dX3_measure_58 : decode cX3_measure 58 = .ok (.areturn, 1) := dk_176 (dk_at dksX3_measure_2 10 rfl rfl)
theorem q111 : (Jvm.Cond.initialized "FrostRing$Reader") ∈ lw_all := lw_g (lw_at lw_m1 7 rfl) rfl
theorem q390 : (Jvm.Cond.fieldLinkNest "FrostRing$Reader" (122 : Nat) "FrostRing$Told" "grounds" "[LFrostRing$Ground;" "FrostRing") ∈ lw_tbl := lw_at lw_m2 46 rfl
theorem q392 : (Jvm.Cond.fieldLinkNest "FrostRing$Reader" (150 : Nat) "FrostRing$Told" "laid" "[I" "FrostRing") ∈ lw_tbl := lw_at lw_m2 48 rfl
theorem q396 : (Jvm.Cond.fieldLinkNest "FrostRing$Reader" (191 : Nat) "FrostRing$Told" "stream" "[I" "FrostRing") ∈ lw_tbl := lw_at lw_m2 52 rfl
theorem q399 : (Jvm.Cond.fieldLinkNest "FrostRing$Reader" (166 : Nat) "FrostRing$Told" "pipes" "Ljava/util/List;" "FrostRing") ∈ lw_tbl := lw_at lw_m2 55 rfl
theorem q402 : (Jvm.Cond.fieldLinkNest "FrostRing$Reader" (245 : Nat) "FrostRing$Told" "houses" "Ljava/util/List;" "FrostRing") ∈ lw_tbl := lw_at lw_m2 58 rfl
theorem q404 : (Jvm.Cond.fieldLinkNest "FrostRing$Reader" (222 : Nat) "FrostRing$Told" "rules" "Ljava/util/List;" "FrostRing") ∈ lw_tbl := lw_at lw_m2 60 rfl
theorem q408 : (Jvm.Cond.fieldLinkNest "FrostRing$Reader" (255 : Nat) "FrostRing$Told" "far" "I" "FrostRing") ∈ lw_tbl := lw_at lw_m2 64 rfl
theorem q411 : (Jvm.Cond.fieldLinkNest "FrostRing$Reader" (163 : Nat) "FrostRing$Told" "left" "I" "FrostRing") ∈ lw_tbl := lw_at lw_m2 67 rfl
theorem q413 : (Jvm.Cond.fieldLinkNest "FrostRing$Reader" (154 : Nat) "FrostRing$Told" "top" "I" "FrostRing") ∈ lw_tbl := lw_at lw_m2 69 rfl
theorem q415 : (Jvm.Cond.fieldLinkNest "FrostRing$Reader" (157 : Nat) "FrostRing$Told" "right" "I" "FrostRing") ∈ lw_tbl := lw_at lw_m2 71 rfl
theorem q417 : (Jvm.Cond.fieldLinkNest "FrostRing$Reader" (160 : Nat) "FrostRing$Told" "bottom" "I" "FrostRing") ∈ lw_tbl := lw_at lw_m2 73 rfl
theorem q420 : (Jvm.Cond.fieldLinkNest "FrostRing$Reader" (261 : Nat) "FrostRing$Told" "cold" "I" "FrostRing") ∈ lw_tbl := lw_at lw_m2 76 rfl
theorem q422 : (Jvm.Cond.fieldLinkNest "FrostRing$Reader" (231 : Nat) "FrostRing$Told" "lines" "I" "FrostRing") ∈ lw_tbl := lw_at lw_m2 78 rfl
theorem q451 : (Jvm.Cond.static ({ cls := "FrostRing$Reader", name := "whole", desc := "(LFrostRing$Told;)LFrostRing$Told;" } : Jvm.MethodName)) ∈ lw_all := lw_g (lw_at lw_m2 107 rfl) rfl
theorem q452 : (Jvm.Cond.code ({ cls := "FrostRing$Reader", name := "whole", desc := "(LFrostRing$Told;)LFrostRing$Told;" } : Jvm.MethodName) prog_9_method_23_code (2 : Nat) (Option.some (Jvm.ClassFile.FieldType.object "FrostRing$Told"))) ∈ lw_all := lw_g (lw_at lw_m2 108 rfl) rfl
theorem q453 : (Jvm.Cond.classLink "FrostRing$Reader" (137 : Nat) "FrostRing$Ground") ∈ lw_all := lw_g (lw_at lw_m2 109 rfl) rfl
theorem q455 : (Jvm.Cond.methodLink "FrostRing$Reader" (145 : Nat) ({ cls := "FrostRing$Ground", name := "<init>", desc := "(IIII)V" } : Jvm.MethodName)) ∈ lw_all := lw_g (lw_at lw_m2 111 rfl) rfl
theorem q538 : (Jvm.Cond.fieldLinkNest "FrostRing$Reader" (180 : Nat) "FrostRing$Pipe" "cell" "I" "FrostRing") ∈ lw_tbl := lw_at lw_m2 194 rfl
theorem q614 : (Jvm.Cond.selects "FrostRing$Reader" ({ cls := "java/lang/Object", name := "getClass", desc := "()Ljava/lang/Class;" } : Jvm.MethodName) ({ cls := "java/lang/Object", name := "getClass", desc := "()Ljava/lang/Class;" } : Jvm.MethodName)) ∈ lw_all := lw_g (lw_at lw_m3 30 rfl) rfl
theorem q807 : (Jvm.Cond.instantiable "FrostRing$Reader" (11 : Nat)) ∈ lw_all := lw_g (lw_at lw_m3 223 rfl) rfl
theorem q809 : (Jvm.Cond.instanceMethod ({ cls := "FrostRing$Reader", name := "<init>", desc := "([BI)V" } : Jvm.MethodName)) ∈ lw_all := lw_g (lw_at lw_m3 225 rfl) rfl
theorem q810 : (Jvm.Cond.code ({ cls := "FrostRing$Reader", name := "<init>", desc := "([BI)V" } : Jvm.MethodName) prog_9_method_1_code (3 : Nat) (Option.none : Option Jvm.ClassFile.FieldType)) ∈ lw_all := lw_g (lw_at lw_m3 226 rfl) rfl
theorem q811 : (Jvm.Cond.methodLink "FrostRing$Reader" (3 : Nat) ({ cls := "java/lang/Object", name := "<init>", desc := "()V" } : Jvm.MethodName)) ∈ lw_all := lw_g (lw_at lw_m3 227 rfl) rfl
theorem q812 : (Jvm.Cond.classLink "FrostRing$Reader" (9 : Nat) "java/lang/String") ∈ lw_all := lw_g (lw_at lw_m3 228 rfl) rfl
theorem q814 : (Jvm.Cond.stringRef "FrostRing$Reader" (11 : Nat) "thick") ∈ lw_tbl := lw_at lw_m3 230 rfl
theorem q815 : (Jvm.Cond.stringRef "FrostRing$Reader" (13 : Nat) "gaps") ∈ lw_tbl := lw_at lw_m3 231 rfl
theorem q816 : (Jvm.Cond.stringRef "FrostRing$Reader" (15 : Nat) "tick") ∈ lw_tbl := lw_at lw_m3 232 rfl
theorem q817 : (Jvm.Cond.stringRef "FrostRing$Reader" (17 : Nat) "lift") ∈ lw_tbl := lw_at lw_m3 233 rfl
theorem q818 : (Jvm.Cond.stringRef "FrostRing$Reader" (25 : Nat) "ground") ∈ lw_tbl := lw_at lw_m3 234 rfl
theorem q819 : (Jvm.Cond.stringRef "FrostRing$Reader" (27 : Nat) "lay") ∈ lw_tbl := lw_at lw_m3 235 rfl
theorem q820 : (Jvm.Cond.stringRef "FrostRing$Reader" (29 : Nat) "stream") ∈ lw_tbl := lw_at lw_m3 236 rfl
theorem q821 : (Jvm.Cond.stringRef "FrostRing$Reader" (31 : Nat) "far") ∈ lw_tbl := lw_at lw_m3 237 rfl
theorem q822 : (Jvm.Cond.stringRef "FrostRing$Reader" (33 : Nat) "shaft") ∈ lw_tbl := lw_at lw_m3 238 rfl
theorem q823 : (Jvm.Cond.stringRef "FrostRing$Reader" (35 : Nat) "pipe") ∈ lw_tbl := lw_at lw_m3 239 rfl
theorem q824 : (Jvm.Cond.stringRef "FrostRing$Reader" (37 : Nat) "cold") ∈ lw_tbl := lw_at lw_m4 0 rfl
theorem q825 : (Jvm.Cond.stringRef "FrostRing$Reader" (39 : Nat) "house") ∈ lw_tbl := lw_at lw_m4 1 rfl
theorem q826 : (Jvm.Cond.stringRef "FrostRing$Reader" (41 : Nat) "dig") ∈ lw_tbl := lw_at lw_m4 2 rfl
theorem q827 : (Jvm.Cond.fieldLink "FrostRing$Reader" (19 : Nat) "FrostRing$Reader" "measures" "[Ljava/lang/String;") ∈ lw_all := lw_g (lw_at lw_m4 3 rfl) rfl
theorem q828 : (Jvm.Cond.fieldLink "FrostRing$Reader" (43 : Nat) "FrostRing$Reader" "begins" "[Ljava/lang/String;") ∈ lw_all := lw_g (lw_at lw_m4 4 rfl) rfl
theorem q829 : (Jvm.Cond.fieldLink "FrostRing$Reader" (46 : Nat) "FrostRing$Reader" "text" "[B") ∈ lw_all := lw_g (lw_at lw_m4 5 rfl) rfl
theorem q830 : (Jvm.Cond.fieldLink "FrostRing$Reader" (50 : Nat) "FrostRing$Reader" "size" "I") ∈ lw_all := lw_g (lw_at lw_m4 6 rfl) rfl
theorem q831 : (Jvm.Cond.fieldLink "FrostRing$Reader" (54 : Nat) "FrostRing$Reader" "at" "I") ∈ lw_all := lw_g (lw_at lw_m4 7 rfl) rfl
theorem q832 : (Jvm.Cond.fieldLink "FrostRing$Reader" (60 : Nat) "FrostRing$Reader" "from" "I") ∈ lw_all := lw_g (lw_at lw_m4 8 rfl) rfl
theorem q833 : (Jvm.Cond.fieldLink "FrostRing$Reader" (66 : Nat) "FrostRing$Reader" "token" "I") ∈ lw_all := lw_g (lw_at lw_m4 9 rfl) rfl
theorem q834 : (Jvm.Cond.fieldLink "FrostRing$Reader" (57 : Nat) "FrostRing$Reader" "place" "I") ∈ lw_all := lw_g (lw_at lw_m4 10 rfl) rfl
theorem q835 : (Jvm.Cond.fieldLink "FrostRing$Reader" (63 : Nat) "FrostRing$Reader" "value" "I") ∈ lw_all := lw_g (lw_at lw_m4 11 rfl) rfl
theorem q836 : (Jvm.Cond.fieldLink "FrostRing$Reader" (234 : Nat) "FrostRing$Reader" "hasFar" "Z") ∈ lw_all := lw_g (lw_at lw_m4 12 rfl) rfl
theorem q837 : (Jvm.Cond.fieldLink "FrostRing$Reader" (242 : Nat) "FrostRing$Reader" "hasCold" "Z") ∈ lw_all := lw_g (lw_at lw_m4 13 rfl) rfl
theorem q838 : (Jvm.Cond.laysFinal "FrostRing$Reader" "FrostRing$Reader" "measures" "[Ljava/lang/String;") ∈ lw_all := lw_g (lw_at lw_m4 14 rfl) rfl
theorem q839 : (Jvm.Cond.soleField "FrostRing$Reader" "measures") ∈ lw_all := lw_g (lw_at lw_m4 15 rfl) rfl
theorem q840 : (Jvm.Cond.laysFinal "FrostRing$Reader" "FrostRing$Reader" "begins" "[Ljava/lang/String;") ∈ lw_all := lw_g (lw_at lw_m4 16 rfl) rfl
theorem q841 : (Jvm.Cond.soleField "FrostRing$Reader" "begins") ∈ lw_all := lw_g (lw_at lw_m4 17 rfl) rfl
theorem q842 : (Jvm.Cond.laysFinal "FrostRing$Reader" "FrostRing$Reader" "text" "[B") ∈ lw_all := lw_g (lw_at lw_m4 18 rfl) rfl
theorem q843 : (Jvm.Cond.soleField "FrostRing$Reader" "text") ∈ lw_all := lw_g (lw_at lw_m4 19 rfl) rfl
theorem q844 : (Jvm.Cond.laysFinal "FrostRing$Reader" "FrostRing$Reader" "size" "I") ∈ lw_all := lw_g (lw_at lw_m4 20 rfl) rfl
theorem q845 : (Jvm.Cond.soleField "FrostRing$Reader" "size") ∈ lw_all := lw_g (lw_at lw_m4 21 rfl) rfl
theorem q846 : (Jvm.Cond.lays "FrostRing$Reader" "FrostRing$Reader" "at" "I") ∈ lw_all := lw_g (lw_at lw_m4 22 rfl) rfl
theorem q847 : (Jvm.Cond.soleField "FrostRing$Reader" "at") ∈ lw_all := lw_g (lw_at lw_m4 23 rfl) rfl
theorem q848 : (Jvm.Cond.lays "FrostRing$Reader" "FrostRing$Reader" "from" "I") ∈ lw_all := lw_g (lw_at lw_m4 24 rfl) rfl
theorem q849 : (Jvm.Cond.soleField "FrostRing$Reader" "from") ∈ lw_all := lw_g (lw_at lw_m4 25 rfl) rfl
theorem q850 : (Jvm.Cond.lays "FrostRing$Reader" "FrostRing$Reader" "token" "I") ∈ lw_all := lw_g (lw_at lw_m4 26 rfl) rfl
theorem q851 : (Jvm.Cond.soleField "FrostRing$Reader" "token") ∈ lw_all := lw_g (lw_at lw_m4 27 rfl) rfl
theorem q852 : (Jvm.Cond.lays "FrostRing$Reader" "FrostRing$Reader" "place" "I") ∈ lw_all := lw_g (lw_at lw_m4 28 rfl) rfl
theorem q853 : (Jvm.Cond.soleField "FrostRing$Reader" "place") ∈ lw_all := lw_g (lw_at lw_m4 29 rfl) rfl
theorem q854 : (Jvm.Cond.lays "FrostRing$Reader" "FrostRing$Reader" "value" "I") ∈ lw_all := lw_g (lw_at lw_m4 30 rfl) rfl
theorem q855 : (Jvm.Cond.soleField "FrostRing$Reader" "value") ∈ lw_all := lw_g (lw_at lw_m4 31 rfl) rfl
theorem q856 : (Jvm.Cond.lays "FrostRing$Reader" "FrostRing$Reader" "hasFar" "Z") ∈ lw_all := lw_g (lw_at lw_m4 32 rfl) rfl
theorem q857 : (Jvm.Cond.soleField "FrostRing$Reader" "hasFar") ∈ lw_all := lw_g (lw_at lw_m4 33 rfl) rfl
theorem q858 : (Jvm.Cond.lays "FrostRing$Reader" "FrostRing$Reader" "hasCold" "Z") ∈ lw_all := lw_g (lw_at lw_m4 34 rfl) rfl
theorem q859 : (Jvm.Cond.soleField "FrostRing$Reader" "hasCold") ∈ lw_all := lw_g (lw_at lw_m4 35 rfl) rfl
theorem q860 : (Jvm.Cond.superclass "FrostRing$Reader" "java/lang/Object") ∈ lw_all := lw_g (lw_at lw_m4 36 rfl) rfl
theorem q862 : (Jvm.Cond.instanceMethod ({ cls := "FrostRing$Reader", name := "whole", desc := "()LFrostRing$Told;" } : Jvm.MethodName)) ∈ lw_all := lw_g (lw_at lw_m4 38 rfl) rfl
theorem q863 : (Jvm.Cond.selects "FrostRing$Reader" ({ cls := "FrostRing$Reader", name := "whole", desc := "()LFrostRing$Told;" } : Jvm.MethodName) ({ cls := "FrostRing$Reader", name := "whole", desc := "()LFrostRing$Told;" } : Jvm.MethodName)) ∈ lw_all := lw_g (lw_at lw_m4 39 rfl) rfl
theorem q864 : (Jvm.Cond.code ({ cls := "FrostRing$Reader", name := "whole", desc := "()LFrostRing$Told;" } : Jvm.MethodName) prog_9_method_22_code (3 : Nat) (Option.some (Jvm.ClassFile.FieldType.object "FrostRing$Told"))) ∈ lw_all := lw_g (lw_at lw_m4 40 rfl) rfl
theorem q865 : (Jvm.Cond.classLink "FrostRing$Reader" (123 : Nat) "FrostRing$Told") ∈ lw_all := lw_g (lw_at lw_m4 41 rfl) rfl
theorem q866 : (Jvm.Cond.methodLink "FrostRing$Reader" (271 : Nat) ({ cls := "FrostRing$Told", name := "<init>", desc := "()V" } : Jvm.MethodName)) ∈ lw_all := lw_g (lw_at lw_m4 42 rfl) rfl
theorem q867 : (Jvm.Cond.methodLink "FrostRing$Reader" (97 : Nat) ({ cls := "FrostRing$Reader", name := "next", desc := "()V" } : Jvm.MethodName)) ∈ lw_all := lw_g (lw_at lw_m4 43 rfl) rfl
theorem q868 : (Jvm.Cond.privateMethod ({ cls := "FrostRing$Reader", name := "next", desc := "()V" } : Jvm.MethodName)) ∈ lw_tbl := lw_at lw_m4 44 rfl
theorem q869 : (Jvm.Cond.instanceMethod ({ cls := "FrostRing$Reader", name := "next", desc := "()V" } : Jvm.MethodName)) ∈ lw_all := lw_g (lw_at lw_m4 45 rfl) rfl
theorem q870 : (Jvm.Cond.code ({ cls := "FrostRing$Reader", name := "next", desc := "()V" } : Jvm.MethodName) prog_9_method_3_code (1 : Nat) (Option.none : Option Jvm.ClassFile.FieldType)) ∈ lw_all := lw_g (lw_at lw_m4 46 rfl) rfl
theorem q871 : (Jvm.Cond.methodLink "FrostRing$Reader" (69 : Nat) ({ cls := "FrostRing$Reader", name := "isAt", desc := "(II)Z" } : Jvm.MethodName)) ∈ lw_all := lw_g (lw_at lw_m4 47 rfl) rfl
theorem q872 : (Jvm.Cond.privateMethod ({ cls := "FrostRing$Reader", name := "isAt", desc := "(II)Z" } : Jvm.MethodName)) ∈ lw_tbl := lw_at lw_m4 48 rfl
theorem q873 : (Jvm.Cond.instanceMethod ({ cls := "FrostRing$Reader", name := "isAt", desc := "(II)Z" } : Jvm.MethodName)) ∈ lw_all := lw_g (lw_at lw_m4 49 rfl) rfl
theorem q874 : (Jvm.Cond.code ({ cls := "FrostRing$Reader", name := "isAt", desc := "(II)Z" } : Jvm.MethodName) prog_9_method_2_code (3 : Nat) (Option.some Jvm.ClassFile.FieldType.boolean)) ∈ lw_all := lw_g (lw_at lw_m4 50 rfl) rfl
theorem q875 : (Jvm.Cond.constant "FrostRing$Reader" (73 : Nat) (100000 : Int32)) ∈ lw_all := lw_g (lw_at lw_m4 51 rfl) rfl
theorem q876 : (Jvm.Cond.methodLink "FrostRing$Reader" (74 : Nat) ({ cls := "java/lang/Math", name := "min", desc := "(II)I" } : Jvm.MethodName)) ∈ lw_all := lw_g (lw_at lw_m4 52 rfl) rfl
theorem q877 : (Jvm.Cond.methodLink "FrostRing$Reader" (200 : Nat) ({ cls := "FrostRing$Reader", name := "oneOf", desc := "([Ljava/lang/String;)I" } : Jvm.MethodName)) ∈ lw_all := lw_g (lw_at lw_m4 53 rfl) rfl
theorem q878 : (Jvm.Cond.privateMethod ({ cls := "FrostRing$Reader", name := "oneOf", desc := "([Ljava/lang/String;)I" } : Jvm.MethodName)) ∈ lw_tbl := lw_at lw_m4 54 rfl
theorem q879 : (Jvm.Cond.instanceMethod ({ cls := "FrostRing$Reader", name := "oneOf", desc := "([Ljava/lang/String;)I" } : Jvm.MethodName)) ∈ lw_all := lw_g (lw_at lw_m4 55 rfl) rfl
theorem q880 : (Jvm.Cond.code ({ cls := "FrostRing$Reader", name := "oneOf", desc := "([Ljava/lang/String;)I" } : Jvm.MethodName) prog_9_method_9_code (3 : Nat) (Option.some Jvm.ClassFile.FieldType.int)) ∈ lw_all := lw_g (lw_at lw_m4 56 rfl) rfl
theorem q881 : (Jvm.Cond.methodLink "FrostRing$Reader" (93 : Nat) ({ cls := "FrostRing$Reader", name := "is", desc := "(Ljava/lang/String;)Z" } : Jvm.MethodName)) ∈ lw_all := lw_g (lw_at lw_m4 57 rfl) rfl
theorem q882 : (Jvm.Cond.privateMethod ({ cls := "FrostRing$Reader", name := "is", desc := "(Ljava/lang/String;)Z" } : Jvm.MethodName)) ∈ lw_tbl := lw_at lw_m4 58 rfl
theorem q883 : (Jvm.Cond.instanceMethod ({ cls := "FrostRing$Reader", name := "is", desc := "(Ljava/lang/String;)Z" } : Jvm.MethodName)) ∈ lw_all := lw_g (lw_at lw_m4 59 rfl) rfl
theorem q884 : (Jvm.Cond.code ({ cls := "FrostRing$Reader", name := "is", desc := "(Ljava/lang/String;)Z" } : Jvm.MethodName) prog_9_method_5_code (4 : Nat) (Option.some Jvm.ClassFile.FieldType.boolean)) ∈ lw_all := lw_g (lw_at lw_m4 60 rfl) rfl
theorem q885 : (Jvm.Cond.methodLink "FrostRing$Reader" (85 : Nat) ({ cls := "java/lang/String", name := "length", desc := "()I" } : Jvm.MethodName)) ∈ lw_all := lw_g (lw_at lw_m4 61 rfl) rfl
theorem q895 : (Jvm.Cond.methodLink "FrostRing$Reader" (89 : Nat) ({ cls := "java/lang/String", name := "charAt", desc := "(I)C" } : Jvm.MethodName)) ∈ lw_all := lw_g (lw_at lw_m4 71 rfl) rfl
theorem q931 : (Jvm.Cond.methodLink "FrostRing$Reader" (103 : Nat) ({ cls := "FrostRing$Reader", name := "fails", desc := "(I)V" } : Jvm.MethodName)) ∈ lw_all := lw_g (lw_at lw_m4 107 rfl) rfl
theorem q932 : (Jvm.Cond.privateMethod ({ cls := "FrostRing$Reader", name := "fails", desc := "(I)V" } : Jvm.MethodName)) ∈ lw_tbl := lw_at lw_m4 108 rfl
theorem q933 : (Jvm.Cond.instanceMethod ({ cls := "FrostRing$Reader", name := "fails", desc := "(I)V" } : Jvm.MethodName)) ∈ lw_all := lw_g (lw_at lw_m4 109 rfl) rfl
theorem q934 : (Jvm.Cond.code ({ cls := "FrostRing$Reader", name := "fails", desc := "(I)V" } : Jvm.MethodName) prog_9_method_4_code (2 : Nat) (Option.none : Option Jvm.ClassFile.FieldType)) ∈ lw_all := lw_g (lw_at lw_m4 110 rfl) rfl
theorem q935 : (Jvm.Cond.classLink "FrostRing$Reader" (80 : Nat) "FrostRing$Wrong") ∈ lw_all := lw_g (lw_at lw_m4 111 rfl) rfl
theorem q944 : (Jvm.Cond.methodLink "FrostRing$Reader" (82 : Nat) ({ cls := "FrostRing$Wrong", name := "<init>", desc := "(II)V" } : Jvm.MethodName)) ∈ lw_all := lw_g (lw_at lw_m4 120 rfl) rfl
theorem q963 : (Jvm.Cond.methodLink "FrostRing$Reader" (272 : Nat) ({ cls := "FrostRing$Reader", name := "isFull", desc := "(LFrostRing$Told;I)Z" } : Jvm.MethodName)) ∈ lw_all := lw_g (lw_at lw_m4 139 rfl) rfl
theorem q964 : (Jvm.Cond.privateMethod ({ cls := "FrostRing$Reader", name := "isFull", desc := "(LFrostRing$Told;I)Z" } : Jvm.MethodName)) ∈ lw_tbl := lw_at lw_m4 140 rfl
theorem q965 : (Jvm.Cond.instanceMethod ({ cls := "FrostRing$Reader", name := "isFull", desc := "(LFrostRing$Told;I)Z" } : Jvm.MethodName)) ∈ lw_all := lw_g (lw_at lw_m4 141 rfl) rfl
theorem q966 : (Jvm.Cond.code ({ cls := "FrostRing$Reader", name := "isFull", desc := "(LFrostRing$Told;I)Z" } : Jvm.MethodName) prog_9_method_20_code (4 : Nat) (Option.some Jvm.ClassFile.FieldType.boolean)) ∈ lw_all := lw_g (lw_at lw_m4 142 rfl) rfl
theorem q967 : (Jvm.Cond.methodLink "FrostRing$Reader" (238 : Nat) ({ cls := "FrostRing$Told", name := "hasShaft", desc := "()Z" } : Jvm.MethodName)) ∈ lw_all := lw_g (lw_at lw_m4 143 rfl) rfl
theorem q971 : (Jvm.Cond.interfaceEntry "FrostRing$Reader" (170 : Nat)) ∈ lw_tbl := lw_at lw_m4 147 rfl
theorem q972 : (Jvm.Cond.methodLink "FrostRing$Reader" (170 : Nat) ({ cls := "java/util/List", name := "size", desc := "()I" } : Jvm.MethodName)) ∈ lw_all := lw_g (lw_at lw_m4 148 rfl) rfl
theorem q973 : (Jvm.Cond.methodLink "FrostRing$Reader" (276 : Nat) ({ cls := "FrostRing$Reader", name := "line", desc := "(LFrostRing$Told;I)V" } : Jvm.MethodName)) ∈ lw_all := lw_g (lw_at lw_m4 149 rfl) rfl
theorem q974 : (Jvm.Cond.privateMethod ({ cls := "FrostRing$Reader", name := "line", desc := "(LFrostRing$Told;I)V" } : Jvm.MethodName)) ∈ lw_tbl := lw_at lw_m4 150 rfl
theorem q975 : (Jvm.Cond.instanceMethod ({ cls := "FrostRing$Reader", name := "line", desc := "(LFrostRing$Told;I)V" } : Jvm.MethodName)) ∈ lw_all := lw_g (lw_at lw_m4 151 rfl) rfl
theorem q976 : (Jvm.Cond.code ({ cls := "FrostRing$Reader", name := "line", desc := "(LFrostRing$Told;I)V" } : Jvm.MethodName) prog_9_method_21_code (4 : Nat) (Option.none : Option Jvm.ClassFile.FieldType)) ∈ lw_all := lw_g (lw_at lw_m4 152 rfl) rfl
theorem q977 : (Jvm.Cond.methodLink "FrostRing$Reader" (248 : Nat) ({ cls := "FrostRing$Reader", name := "ground", desc := "(LFrostRing$Told;)V" } : Jvm.MethodName)) ∈ lw_all := lw_g (lw_at lw_m4 153 rfl) rfl
theorem q978 : (Jvm.Cond.privateMethod ({ cls := "FrostRing$Reader", name := "ground", desc := "(LFrostRing$Told;)V" } : Jvm.MethodName)) ∈ lw_tbl := lw_at lw_m4 154 rfl
theorem q979 : (Jvm.Cond.instanceMethod ({ cls := "FrostRing$Reader", name := "ground", desc := "(LFrostRing$Told;)V" } : Jvm.MethodName)) ∈ lw_all := lw_g (lw_at lw_m4 155 rfl) rfl
theorem q980 : (Jvm.Cond.code ({ cls := "FrostRing$Reader", name := "ground", desc := "(LFrostRing$Told;)V" } : Jvm.MethodName) prog_9_method_13_code (6 : Nat) (Option.none : Option Jvm.ClassFile.FieldType)) ∈ lw_all := lw_g (lw_at lw_m4 156 rfl) rfl
theorem q981 : (Jvm.Cond.methodLink "FrostRing$Reader" (115 : Nat) ({ cls := "FrostRing$Reader", name := "number", desc := "(II)I" } : Jvm.MethodName)) ∈ lw_all := lw_g (lw_at lw_m4 157 rfl) rfl
theorem q982 : (Jvm.Cond.privateMethod ({ cls := "FrostRing$Reader", name := "number", desc := "(II)I" } : Jvm.MethodName)) ∈ lw_tbl := lw_at lw_m4 158 rfl
theorem q983 : (Jvm.Cond.instanceMethod ({ cls := "FrostRing$Reader", name := "number", desc := "(II)I" } : Jvm.MethodName)) ∈ lw_all := lw_g (lw_at lw_m4 159 rfl) rfl
theorem q984 : (Jvm.Cond.code ({ cls := "FrostRing$Reader", name := "number", desc := "(II)I" } : Jvm.MethodName) prog_9_method_10_code (4 : Nat) (Option.some Jvm.ClassFile.FieldType.int)) ∈ lw_all := lw_g (lw_at lw_m4 160 rfl) rfl
theorem q985 : (Jvm.Cond.methodLinkNest "FrostRing$Reader" (107 : Nat) ({ cls := "FrostRing", name := "in", desc := "(JJJ)Z" } : Jvm.MethodName) "FrostRing") ∈ lw_tbl := lw_at lw_m4 161 rfl
theorem q986 : (Jvm.Cond.stringRef "FrostRing$Reader" (128 : Nat) "lead") ∈ lw_tbl := lw_at lw_m4 162 rfl
theorem q987 : (Jvm.Cond.methodLink "FrostRing$Reader" (130 : Nat) ({ cls := "FrostRing$Reader", name := "number", desc := "(Ljava/lang/String;II)I" } : Jvm.MethodName)) ∈ lw_all := lw_g (lw_at lw_m4 163 rfl) rfl
theorem q988 : (Jvm.Cond.privateMethod ({ cls := "FrostRing$Reader", name := "number", desc := "(Ljava/lang/String;II)I" } : Jvm.MethodName)) ∈ lw_tbl := lw_at lw_m4 164 rfl
theorem q989 : (Jvm.Cond.instanceMethod ({ cls := "FrostRing$Reader", name := "number", desc := "(Ljava/lang/String;II)I" } : Jvm.MethodName)) ∈ lw_all := lw_g (lw_at lw_m4 165 rfl) rfl
theorem q990 : (Jvm.Cond.code ({ cls := "FrostRing$Reader", name := "number", desc := "(Ljava/lang/String;II)I" } : Jvm.MethodName) prog_9_method_11_code (4 : Nat) (Option.some Jvm.ClassFile.FieldType.int)) ∈ lw_all := lw_g (lw_at lw_m4 166 rfl) rfl
theorem q991 : (Jvm.Cond.methodLink "FrostRing$Reader" (111 : Nat) ({ cls := "FrostRing$Reader", name := "word", desc := "(Ljava/lang/String;)V" } : Jvm.MethodName)) ∈ lw_all := lw_g (lw_at lw_m4 167 rfl) rfl
theorem q992 : (Jvm.Cond.privateMethod ({ cls := "FrostRing$Reader", name := "word", desc := "(Ljava/lang/String;)V" } : Jvm.MethodName)) ∈ lw_tbl := lw_at lw_m4 168 rfl
theorem q993 : (Jvm.Cond.instanceMethod ({ cls := "FrostRing$Reader", name := "word", desc := "(Ljava/lang/String;)V" } : Jvm.MethodName)) ∈ lw_all := lw_g (lw_at lw_m4 169 rfl) rfl
theorem q994 : (Jvm.Cond.code ({ cls := "FrostRing$Reader", name := "word", desc := "(Ljava/lang/String;)V" } : Jvm.MethodName) prog_9_method_7_code (2 : Nat) (Option.none : Option Jvm.ClassFile.FieldType)) ∈ lw_all := lw_g (lw_at lw_m4 170 rfl) rfl
theorem q995 : (Jvm.Cond.methodLink "FrostRing$Reader" (100 : Nat) ({ cls := "FrostRing$Reader", name := "takes", desc := "(Ljava/lang/String;)Z" } : Jvm.MethodName)) ∈ lw_all := lw_g (lw_at lw_m4 171 rfl) rfl
theorem q996 : (Jvm.Cond.privateMethod ({ cls := "FrostRing$Reader", name := "takes", desc := "(Ljava/lang/String;)Z" } : Jvm.MethodName)) ∈ lw_tbl := lw_at lw_m4 172 rfl
theorem q997 : (Jvm.Cond.instanceMethod ({ cls := "FrostRing$Reader", name := "takes", desc := "(Ljava/lang/String;)Z" } : Jvm.MethodName)) ∈ lw_all := lw_g (lw_at lw_m4 173 rfl) rfl
theorem q998 : (Jvm.Cond.code ({ cls := "FrostRing$Reader", name := "takes", desc := "(Ljava/lang/String;)Z" } : Jvm.MethodName) prog_9_method_6_code (3 : Nat) (Option.some Jvm.ClassFile.FieldType.boolean)) ∈ lw_all := lw_g (lw_at lw_m4 174 rfl) rfl
theorem q999 : (Jvm.Cond.stringRef "FrostRing$Reader" (133 : Nat) "ice") ∈ lw_tbl := lw_at lw_m4 175 rfl
theorem q1000 : (Jvm.Cond.stringRef "FrostRing$Reader" (135 : Nat) "latent") ∈ lw_tbl := lw_at lw_m4 176 rfl
theorem q1001 : (Jvm.Cond.stringRef "FrostRing$Reader" (139 : Nat) "mark") ∈ lw_tbl := lw_at lw_m4 177 rfl
theorem q1002 : (Jvm.Cond.methodLink "FrostRing$Reader" (141 : Nat) ({ cls := "FrostRing$Reader", name := "below", desc := "(Ljava/lang/String;I)I" } : Jvm.MethodName)) ∈ lw_all := lw_g (lw_at lw_m4 178 rfl) rfl
theorem q1003 : (Jvm.Cond.privateMethod ({ cls := "FrostRing$Reader", name := "below", desc := "(Ljava/lang/String;I)I" } : Jvm.MethodName)) ∈ lw_tbl := lw_at lw_m4 179 rfl
theorem q1004 : (Jvm.Cond.instanceMethod ({ cls := "FrostRing$Reader", name := "below", desc := "(Ljava/lang/String;I)I" } : Jvm.MethodName)) ∈ lw_all := lw_g (lw_at lw_m4 180 rfl) rfl
theorem q1005 : (Jvm.Cond.code ({ cls := "FrostRing$Reader", name := "below", desc := "(Ljava/lang/String;I)I" } : Jvm.MethodName) prog_9_method_12_code (3 : Nat) (Option.some Jvm.ClassFile.FieldType.int)) ∈ lw_all := lw_g (lw_at lw_m4 181 rfl) rfl
theorem q1006 : (Jvm.Cond.methodLink "FrostRing$Reader" (118 : Nat) ({ cls := "FrostRing$Reader", name := "isSign", desc := "(I)Z" } : Jvm.MethodName)) ∈ lw_all := lw_g (lw_at lw_m4 182 rfl) rfl
theorem q1007 : (Jvm.Cond.privateMethod ({ cls := "FrostRing$Reader", name := "isSign", desc := "(I)Z" } : Jvm.MethodName)) ∈ lw_tbl := lw_at lw_m4 183 rfl
theorem q1008 : (Jvm.Cond.instanceMethod ({ cls := "FrostRing$Reader", name := "isSign", desc := "(I)Z" } : Jvm.MethodName)) ∈ lw_all := lw_g (lw_at lw_m4 184 rfl) rfl
theorem q1009 : (Jvm.Cond.code ({ cls := "FrostRing$Reader", name := "isSign", desc := "(I)Z" } : Jvm.MethodName) prog_9_method_8_code (2 : Nat) (Option.some Jvm.ClassFile.FieldType.boolean)) ∈ lw_all := lw_g (lw_at lw_m4 185 rfl) rfl
theorem q1010 : (Jvm.Cond.methodLink "FrostRing$Reader" (251 : Nat) ({ cls := "FrostRing$Reader", name := "lay", desc := "(LFrostRing$Told;)V" } : Jvm.MethodName)) ∈ lw_all := lw_g (lw_at lw_m4 186 rfl) rfl
theorem q1011 : (Jvm.Cond.privateMethod ({ cls := "FrostRing$Reader", name := "lay", desc := "(LFrostRing$Told;)V" } : Jvm.MethodName)) ∈ lw_tbl := lw_at lw_m4 187 rfl
theorem q1012 : (Jvm.Cond.instanceMethod ({ cls := "FrostRing$Reader", name := "lay", desc := "(LFrostRing$Told;)V" } : Jvm.MethodName)) ∈ lw_all := lw_g (lw_at lw_m4 188 rfl) rfl
theorem q1013 : (Jvm.Cond.code ({ cls := "FrostRing$Reader", name := "lay", desc := "(LFrostRing$Told;)V" } : Jvm.MethodName) prog_9_method_14_code (9 : Nat) (Option.none : Option Jvm.ClassFile.FieldType)) ∈ lw_all := lw_g (lw_at lw_m4 189 rfl) rfl
theorem q1014 : (Jvm.Cond.stringRef "FrostRing$Reader" (148 : Nat) "to") ∈ lw_tbl := lw_at lw_m4 190 rfl
theorem q1015 : (Jvm.Cond.methodLink "FrostRing$Reader" (253 : Nat) ({ cls := "FrostRing$Reader", name := "stream", desc := "(LFrostRing$Told;)V" } : Jvm.MethodName)) ∈ lw_all := lw_g (lw_at lw_m4 191 rfl) rfl
theorem q1016 : (Jvm.Cond.privateMethod ({ cls := "FrostRing$Reader", name := "stream", desc := "(LFrostRing$Told;)V" } : Jvm.MethodName)) ∈ lw_tbl := lw_at lw_m4 192 rfl
theorem q1017 : (Jvm.Cond.instanceMethod ({ cls := "FrostRing$Reader", name := "stream", desc := "(LFrostRing$Told;)V" } : Jvm.MethodName)) ∈ lw_all := lw_g (lw_at lw_m4 193 rfl) rfl
theorem q1018 : (Jvm.Cond.code ({ cls := "FrostRing$Reader", name := "stream", desc := "(LFrostRing$Told;)V" } : Jvm.MethodName) prog_9_method_17_code (3 : Nat) (Option.none : Option Jvm.ClassFile.FieldType)) ∈ lw_all := lw_g (lw_at lw_m4 194 rfl) rfl
theorem q1019 : (Jvm.Cond.stringRef "FrostRing$Reader" (193 : Nat) "speed") ∈ lw_tbl := lw_at lw_m4 195 rfl
theorem q1020 : (Jvm.Cond.methodLink "FrostRing$Reader" (257 : Nat) ({ cls := "FrostRing$Reader", name := "shaft", desc := "(LFrostRing$Told;)V" } : Jvm.MethodName)) ∈ lw_all := lw_g (lw_at lw_m4 196 rfl) rfl
theorem q1021 : (Jvm.Cond.privateMethod ({ cls := "FrostRing$Reader", name := "shaft", desc := "(LFrostRing$Told;)V" } : Jvm.MethodName)) ∈ lw_tbl := lw_at lw_m4 197 rfl
theorem q1022 : (Jvm.Cond.instanceMethod ({ cls := "FrostRing$Reader", name := "shaft", desc := "(LFrostRing$Told;)V" } : Jvm.MethodName)) ∈ lw_all := lw_g (lw_at lw_m4 198 rfl) rfl
theorem q1023 : (Jvm.Cond.code ({ cls := "FrostRing$Reader", name := "shaft", desc := "(LFrostRing$Told;)V" } : Jvm.MethodName) prog_9_method_15_code (3 : Nat) (Option.none : Option Jvm.ClassFile.FieldType)) ∈ lw_all := lw_g (lw_at lw_m4 199 rfl) rfl
theorem q1024 : (Jvm.Cond.methodLink "FrostRing$Reader" (259 : Nat) ({ cls := "FrostRing$Reader", name := "pipe", desc := "(LFrostRing$Told;)V" } : Jvm.MethodName)) ∈ lw_all := lw_g (lw_at lw_m4 200 rfl) rfl
theorem q1025 : (Jvm.Cond.privateMethod ({ cls := "FrostRing$Reader", name := "pipe", desc := "(LFrostRing$Told;)V" } : Jvm.MethodName)) ∈ lw_tbl := lw_at lw_m4 201 rfl
theorem q1026 : (Jvm.Cond.instanceMethod ({ cls := "FrostRing$Reader", name := "pipe", desc := "(LFrostRing$Told;)V" } : Jvm.MethodName)) ∈ lw_all := lw_g (lw_at lw_m4 202 rfl) rfl
theorem q1027 : (Jvm.Cond.code ({ cls := "FrostRing$Reader", name := "pipe", desc := "(LFrostRing$Told;)V" } : Jvm.MethodName) prog_9_method_16_code (5 : Nat) (Option.none : Option Jvm.ClassFile.FieldType)) ∈ lw_all := lw_g (lw_at lw_m4 203 rfl) rfl
theorem q1028 : (Jvm.Cond.interfaceEntry "FrostRing$Reader" (174 : Nat)) ∈ lw_tbl := lw_at lw_m4 204 rfl
theorem q1029 : (Jvm.Cond.methodLink "FrostRing$Reader" (174 : Nat) ({ cls := "java/util/List", name := "get", desc := "(I)Ljava/lang/Object;" } : Jvm.MethodName)) ∈ lw_all := lw_g (lw_at lw_m4 205 rfl) rfl
theorem q1030 : (Jvm.Cond.classLink "FrostRing$Reader" (178 : Nat) "FrostRing$Pipe") ∈ lw_all := lw_g (lw_at lw_m4 206 rfl) rfl
theorem q1031 : (Jvm.Cond.stringRef "FrostRing$Reader" (183 : Nat) "at") ∈ lw_tbl := lw_at lw_m4 207 rfl
theorem q1032 : (Jvm.Cond.methodLink "FrostRing$Reader" (184 : Nat) ({ cls := "FrostRing$Pipe", name := "<init>", desc := "(III)V" } : Jvm.MethodName)) ∈ lw_all := lw_g (lw_at lw_m4 208 rfl) rfl
theorem q1033 : (Jvm.Cond.interfaceEntry "FrostRing$Reader" (187 : Nat)) ∈ lw_tbl := lw_at lw_m4 209 rfl
theorem q1034 : (Jvm.Cond.methodLink "FrostRing$Reader" (187 : Nat) ({ cls := "java/util/List", name := "add", desc := "(Ljava/lang/Object;)Z" } : Jvm.MethodName)) ∈ lw_all := lw_g (lw_at lw_m4 210 rfl) rfl
theorem q1035 : (Jvm.Cond.constant "FrostRing$Reader" (227 : Nat) (99999 : Int32)) ∈ lw_all := lw_g (lw_at lw_m4 211 rfl) rfl
theorem q1036 : (Jvm.Cond.classLink "FrostRing$Reader" (263 : Nat) "FrostRing$House") ∈ lw_all := lw_g (lw_at lw_m4 212 rfl) rfl
theorem q1037 : (Jvm.Cond.stringRef "FrostRing$Reader" (265 : Nat) "limit") ∈ lw_tbl := lw_at lw_m4 213 rfl
theorem q1038 : (Jvm.Cond.methodLink "FrostRing$Reader" (267 : Nat) ({ cls := "FrostRing$House", name := "<init>", desc := "(II)V" } : Jvm.MethodName)) ∈ lw_all := lw_g (lw_at lw_m4 214 rfl) rfl
theorem q1039 : (Jvm.Cond.methodLink "FrostRing$Reader" (268 : Nat) ({ cls := "FrostRing$Reader", name := "rule", desc := "(LFrostRing$Told;)V" } : Jvm.MethodName)) ∈ lw_all := lw_g (lw_at lw_m4 215 rfl) rfl
theorem q1040 : (Jvm.Cond.privateMethod ({ cls := "FrostRing$Reader", name := "rule", desc := "(LFrostRing$Told;)V" } : Jvm.MethodName)) ∈ lw_tbl := lw_at lw_m4 216 rfl
theorem q1041 : (Jvm.Cond.instanceMethod ({ cls := "FrostRing$Reader", name := "rule", desc := "(LFrostRing$Told;)V" } : Jvm.MethodName)) ∈ lw_all := lw_g (lw_at lw_m4 217 rfl) rfl
theorem q1042 : (Jvm.Cond.code ({ cls := "FrostRing$Reader", name := "rule", desc := "(LFrostRing$Told;)V" } : Jvm.MethodName) prog_9_method_18_code (6 : Nat) (Option.none : Option Jvm.ClassFile.FieldType)) ∈ lw_all := lw_g (lw_at lw_m4 218 rfl) rfl
theorem q1043 : (Jvm.Cond.stringRef "FrostRing$Reader" (195 : Nat) "if") ∈ lw_tbl := lw_at lw_m4 219 rfl
theorem q1044 : (Jvm.Cond.classLink "FrostRing$Reader" (197 : Nat) "FrostRing$Rule") ∈ lw_all := lw_g (lw_at lw_m4 220 rfl) rfl
theorem q1046 : (Jvm.Cond.methodLinkNest "FrostRing$Reader" (199 : Nat) ({ cls := "FrostRing$Rule", name := "<init>", desc := "()V" } : Jvm.MethodName) "FrostRing") ∈ lw_tbl := lw_at lw_m4 222 rfl
theorem q1053 : (Jvm.Cond.fieldLinkNest "FrostRing$Reader" (209 : Nat) "FrostRing$Rule" "conds" "[LFrostRing$Cond;" "FrostRing") ∈ lw_tbl := lw_at lw_m4 229 rfl
theorem q1055 : (Jvm.Cond.fieldLinkNest "FrostRing$Reader" (206 : Nat) "FrostRing$Rule" "many" "I" "FrostRing") ∈ lw_tbl := lw_at lw_m4 231 rfl
theorem q1061 : (Jvm.Cond.stringRef "FrostRing$Reader" (204 : Nat) "shut") ∈ lw_tbl := lw_at lw_m4 237 rfl
theorem q1062 : (Jvm.Cond.classLink "FrostRing$Reader" (213 : Nat) "FrostRing$Shut") ∈ lw_all := lw_g (lw_at lw_m4 238 rfl) rfl
theorem q1064 : (Jvm.Cond.methodLinkNest "FrostRing$Reader" (215 : Nat) ({ cls := "FrostRing$Shut", name := "<init>", desc := "()V" } : Jvm.MethodName) "FrostRing") ∈ lw_tbl := lw_at lw_m5 0 rfl
theorem q1072 : (Jvm.Cond.methodLink "FrostRing$Reader" (216 : Nat) ({ cls := "FrostRing$Reader", name := "measure", desc := "(I)LFrostRing$Cond;" } : Jvm.MethodName)) ∈ lw_all := lw_g (lw_at lw_m5 8 rfl) rfl
theorem q1073 : (Jvm.Cond.privateMethod ({ cls := "FrostRing$Reader", name := "measure", desc := "(I)LFrostRing$Cond;" } : Jvm.MethodName)) ∈ lw_tbl := lw_at lw_m5 9 rfl
theorem q1074 : (Jvm.Cond.instanceMethod ({ cls := "FrostRing$Reader", name := "measure", desc := "(I)LFrostRing$Cond;" } : Jvm.MethodName)) ∈ lw_all := lw_g (lw_at lw_m5 10 rfl) rfl
theorem q1075 : (Jvm.Cond.code ({ cls := "FrostRing$Reader", name := "measure", desc := "(I)LFrostRing$Cond;" } : Jvm.MethodName) prog_9_method_19_code (3 : Nat) (Option.some (Jvm.ClassFile.FieldType.object "FrostRing$Cond"))) ∈ lw_all := lw_g (lw_at lw_m5 11 rfl) rfl
theorem q1076 : (Jvm.Cond.classLink "FrostRing$Reader" (225 : Nat) "FrostRing$Measure") ∈ lw_all := lw_g (lw_at lw_m5 12 rfl) rfl
theorem q1078 : (Jvm.Cond.methodLink "FrostRing$Reader" (228 : Nat) ({ cls := "FrostRing$Measure", name := "<init>", desc := "(IZI)V" } : Jvm.MethodName)) ∈ lw_all := lw_g (lw_at lw_m5 14 rfl) rfl
theorem q1092 : (Jvm.Cond.stringRef "FrostRing$Reader" (220 : Nat) "and") ∈ lw_tbl := lw_at lw_m5 28 rfl
theorem q1093 : (Jvm.Cond.methodLink "FrostRing$Reader" (280 : Nat) ({ cls := "FrostRing$Reader", name := "whole", desc := "(LFrostRing$Told;)LFrostRing$Told;" } : Jvm.MethodName)) ∈ lw_all := lw_g (lw_at lw_m5 29 rfl) rfl
theorem q2049 : (Jvm.Cond.castable "FrostRing$Reader" "java/lang/Object") ∈ lw_tbl := lw_at lw_m9 25 rfl
theorem in_X3 : ∀ w ∈ wsX30, w ∈ lw_all := lw_in wsX30 [838, 840, 842, 844, 846, 848, 850, 852, 854, 856, 858] (by decide +kernel) (by decide +kernel)
