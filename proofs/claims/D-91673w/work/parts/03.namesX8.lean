/-! FrostRingModel -/
set_option maxRecDepth 100000
def RX8 : String := "FrostRingModel"
def TX8 : u_T := fun k => match k with
  | 0 => ("FrostRingModel", "thrown", "I", false)
  | 1 => ("FrostRingModel", "world", "[I", true)
  | 2 => ("FrostRingModel", "saved", "[I", true)
  | 3 => ("FrostRingModel", "images", "[I", true)
  | 4 => ("FrostRingModel", "hasImage", "[Z", true)
  | 5 => ("FrostRingModel", "tape", "[B", true)
  | 6 => ("FrostRingModel", "taped", "I", false)
  | 7 => ("FrostRingModel", "five", "[I", true)
  | 8 => ("FrostRingModel", "size", "I", false)
  | 9 => ("FrostRingModel", "at", "I", false)
  | 10 => ("FrostRingModel", "from", "I", false)
  | 11 => ("FrostRingModel", "token", "I", false)
  | 12 => ("FrostRingModel", "value", "I", false)
  | 13 => ("FrostRingModel", "faultKind", "I", false)
  | 14 => ("FrostRingModel", "faultPlace", "I", false)
  | 15 => ("FrostRingModel", "fresh", "[I", true)
  | 16 => ("FrostRingModel", "isGround", "[Z", true)
  | 17 => ("FrostRingModel", "isStream", "[Z", true)
  | 18 => ("FrostRingModel", "isFar", "Z", false)
  | 19 => ("FrostRingModel", "isCold", "Z", false)
  | 20 => ("FrostRingModel", "left", "I", false)
  | 21 => ("FrostRingModel", "top", "I", false)
  | 22 => ("FrostRingModel", "right", "I", false)
  | 23 => ("FrostRingModel", "bottom", "I", false)
  | 24 => ("FrostRingModel", "heat", "[I", true)
  | 25 => ("FrostRingModel", "would", "[I", true)
  | 26 => ("FrostRingModel", "far", "[I", true)
  | 27 => ("FrostRingModel", "through", "[Z", true)
  | 28 => ("FrostRingModel", "onto", "[Z", true)
  | 29 => ("FrostRingModel", "ahead", "[I", true)
  | 30 => ("FrostRingModel", "queue", "[I", true)
  | 31 => ("FrostRingModel", "queued", "I", false)
  | 32 => ("FrostRingModel", "isGap", "[Z", true)
  | 33 => ("FrostRingModel", "toldGap", "[I", true)
  | 34 => ("FrostRingModel", "toldGaps", "I", false)
  | 35 => ("FrostRingModel", "chosen", "I", false)
  | 36 => ("FrostRingModel", "many", "[I", true)
  | 37 => ("FrostRingModel", "width", "[I", true)
  | 38 => ("FrostRingModel", "numbers", "[J", true)
  | _ => ("FrostRingModel", "moved", "[J", true)
def tyX8 : Nat → FieldType := fun k => match k with
  | 0 => .int
  | 1 => .array .int
  | 2 => .array .int
  | 3 => .array .int
  | 4 => .array .boolean
  | 5 => .array .byte
  | 6 => .int
  | 7 => .array .int
  | 8 => .int
  | 9 => .int
  | 10 => .int
  | 11 => .int
  | 12 => .int
  | 13 => .int
  | 14 => .int
  | 15 => .array .int
  | 16 => .array .boolean
  | 17 => .array .boolean
  | 18 => .boolean
  | 19 => .boolean
  | 20 => .int
  | 21 => .int
  | 22 => .int
  | 23 => .int
  | 24 => .array .int
  | 25 => .array .int
  | 26 => .array .int
  | 27 => .array .boolean
  | 28 => .array .boolean
  | 29 => .array .int
  | 30 => .array .int
  | 31 => .int
  | 32 => .array .boolean
  | 33 => .array .int
  | 34 => .int
  | 35 => .int
  | 36 => .array .int
  | 37 => .array .int
  | 38 => .array .long
  | _ => .array .long
abbrev wsX80 : List Cond := u_ws RX8 TX8 40
set_option maxRecDepth 100000 in
theorem nmX8 : ∀ a, a < 40 → ∀ b, b < 40 → a ≠ b → (TX8 a).2.1 ≠ (TX8 b).2.1 := by decide +kernel
set_option maxRecDepth 100000 in
theorem tyX8_ok : ∀ k, k < 40 → parseFieldDescriptor (TX8 k).2.2.1 = some (tyX8 k) := by decide +kernel
abbrev cX8_init : ByteArray := prog_16_method_3_code
def yX8_init : MethodName := ⟨RX8, "<init>", "()V"⟩
def dkwX8_init_9 : List UInt8 := [181, 0, 83, 42, 180, 0, 13, 184, 0, 86, 42, 182, 0, 90, 177]
abbrev dktX8_init_9 : List UInt8 := dkwX8_init_9 ++ []
def dkwX8_init_8 : List UInt8 := [181, 0, 73, 42, 7, 188, 10, 181, 0, 76, 42, 17, 0, 240, 188, 11, 181, 0, 79, 42, 16, 60, 188, 11]
abbrev dktX8_init_8 : List UInt8 := dkwX8_init_8 ++ dktX8_init_9
def dkwX8_init_7 : List UInt8 := [181, 0, 70, 42, 7, 188, 10, 89, 3, 2, 79, 89, 4, 2, 79, 89, 5, 2, 79, 89, 6, 2, 79]
abbrev dktX8_init_7 : List UInt8 := dkwX8_init_7 ++ dktX8_init_8
def dkwX8_init_6 : List UInt8 := [17, 1, 32, 188, 10, 181, 0, 64, 42, 17, 0, 144, 188, 4, 181, 0, 67, 42, 17, 0, 144, 188, 10]
abbrev dktX8_init_6 : List UInt8 := dkwX8_init_6 ++ dktX8_init_7
def dkwX8_init_5 : List UInt8 := [181, 0, 55, 42, 17, 2, 64, 188, 4, 181, 0, 58, 42, 17, 1, 32, 188, 10, 181, 0, 61, 42]
abbrev dktX8_init_5 : List UInt8 := dkwX8_init_5 ++ dktX8_init_6
def dkwX8_init_4 : List UInt8 := [16, 18, 188, 10, 181, 0, 49, 42, 17, 0, 144, 188, 10, 181, 0, 52, 42, 17, 0, 144, 188, 4]
abbrev dktX8_init_4 : List UInt8 := dkwX8_init_4 ++ dktX8_init_5
def dkwX8_init_3 : List UInt8 := [188, 4, 181, 0, 40, 42, 16, 12, 188, 4, 181, 0, 43, 42, 17, 0, 144, 188, 10, 181, 0, 46, 42]
abbrev dktX8_init_3 : List UInt8 := dkwX8_init_3 ++ dktX8_init_4
def dkwX8_init_2 : List UInt8 := [42, 8, 188, 10, 181, 0, 31, 42, 2, 181, 0, 34, 42, 17, 3, 42, 188, 10, 181, 0, 37, 42, 7]
abbrev dktX8_init_2 : List UInt8 := dkwX8_init_2 ++ dktX8_init_3
def dkwX8_init_1 : List UInt8 := [17, 9, 126, 188, 10, 181, 0, 20, 42, 6, 188, 4, 181, 0, 23, 42, 17, 2, 188, 188, 8, 181, 0, 27]
abbrev dktX8_init_1 : List UInt8 := dkwX8_init_1 ++ dktX8_init_2
def dkwX8_init_0 : List UInt8 := [42, 183, 0, 7, 42, 17, 3, 42, 188, 10, 181, 0, 13, 42, 17, 3, 42, 188, 10, 181, 0, 17, 42]
abbrev dktX8_init_0 : List UInt8 := dkwX8_init_0 ++ dktX8_init_1
theorem dksX8_init_0 : cX8_init.data.toList.drop 0 = dktX8_init_0 := by decide +kernel
theorem dksX8_init_1 : cX8_init.data.toList.drop 23 = dktX8_init_1 := dk_seg dksX8_init_0 23 rfl rfl
theorem dksX8_init_2 : cX8_init.data.toList.drop 47 = dktX8_init_2 := dk_seg dksX8_init_1 24 rfl rfl
theorem dksX8_init_3 : cX8_init.data.toList.drop 70 = dktX8_init_3 := dk_seg dksX8_init_2 23 rfl rfl
theorem dksX8_init_4 : cX8_init.data.toList.drop 93 = dktX8_init_4 := dk_seg dksX8_init_3 23 rfl rfl
theorem dksX8_init_5 : cX8_init.data.toList.drop 115 = dktX8_init_5 := dk_seg dksX8_init_4 22 rfl rfl
theorem dksX8_init_6 : cX8_init.data.toList.drop 137 = dktX8_init_6 := dk_seg dksX8_init_5 22 rfl rfl
theorem dksX8_init_7 : cX8_init.data.toList.drop 160 = dktX8_init_7 := dk_seg dksX8_init_6 23 rfl rfl
theorem dksX8_init_8 : cX8_init.data.toList.drop 183 = dktX8_init_8 := dk_seg dksX8_init_7 23 rfl rfl
theorem dksX8_init_9 : cX8_init.data.toList.drop 207 = dktX8_init_9 := dk_seg dksX8_init_8 24 rfl rfl
theorem dX8_init_0 : decode cX8_init 0 = .ok (.aload_n 0, 1) := dk_42 (dk_at dksX8_init_0 0 rfl rfl)
theorem dX8_init_1 : decode cX8_init 1 = .ok (.invokespecial 7, 3) := dk_183 0 7 (dk_at dksX8_init_0 1 rfl rfl)
theorem dX8_init_4 : decode cX8_init 4 = .ok (.aload_n 0, 1) := dk_42 (dk_at dksX8_init_0 4 rfl rfl)
theorem dX8_init_5 : decode cX8_init 5 = .ok (.sipush 810, 3) := dk_17 3 42 (dk_at dksX8_init_0 5 rfl rfl)
theorem dX8_init_8 : decode cX8_init 8 = .ok (.newarray .int, 2) := dk_188_10 (dk_at dksX8_init_0 8 rfl rfl)
theorem dX8_init_10 : decode cX8_init 10 = .ok (.putfield 13, 3) := dk_181 0 13 (dk_at dksX8_init_0 10 rfl rfl)
theorem dX8_init_13 : decode cX8_init 13 = .ok (.aload_n 0, 1) := dk_42 (dk_at dksX8_init_0 13 rfl rfl)
theorem dX8_init_14 : decode cX8_init 14 = .ok (.sipush 810, 3) := dk_17 3 42 (dk_at dksX8_init_0 14 rfl rfl)
theorem dX8_init_17 : decode cX8_init 17 = .ok (.newarray .int, 2) := dk_188_10 (dk_at dksX8_init_0 17 rfl rfl)
theorem dX8_init_19 : decode cX8_init 19 = .ok (.putfield 17, 3) := dk_181 0 17 (dk_at dksX8_init_0 19 rfl rfl)
theorem dX8_init_22 : decode cX8_init 22 = .ok (.aload_n 0, 1) := dk_42 (dk_at dksX8_init_0 22 rfl rfl)
theorem dX8_init_23 : decode cX8_init 23 = .ok (.sipush 2430, 3) := dk_17 9 126 (dk_at dksX8_init_1 0 rfl rfl)
theorem dX8_init_26 : decode cX8_init 26 = .ok (.newarray .int, 2) := dk_188_10 (dk_at dksX8_init_1 3 rfl rfl)
theorem dX8_init_28 : decode cX8_init 28 = .ok (.putfield 20, 3) := dk_181 0 20 (dk_at dksX8_init_1 5 rfl rfl)
theorem dX8_init_31 : decode cX8_init 31 = .ok (.aload_n 0, 1) := dk_42 (dk_at dksX8_init_1 8 rfl rfl)
theorem dX8_init_32 : decode cX8_init 32 = .ok (.iconst 3, 1) := dk_6 (dk_at dksX8_init_1 9 rfl rfl)
theorem dX8_init_33 : decode cX8_init 33 = .ok (.newarray .boolean, 2) := dk_188_4 (dk_at dksX8_init_1 10 rfl rfl)
theorem dX8_init_35 : decode cX8_init 35 = .ok (.putfield 23, 3) := dk_181 0 23 (dk_at dksX8_init_1 12 rfl rfl)
theorem dX8_init_38 : decode cX8_init 38 = .ok (.aload_n 0, 1) := dk_42 (dk_at dksX8_init_1 15 rfl rfl)
theorem dX8_init_39 : decode cX8_init 39 = .ok (.sipush 700, 3) := dk_17 2 188 (dk_at dksX8_init_1 16 rfl rfl)
theorem dX8_init_42 : decode cX8_init 42 = .ok (.newarray .byte, 2) := dk_188_8 (dk_at dksX8_init_1 19 rfl rfl)
theorem dX8_init_44 : decode cX8_init 44 = .ok (.putfield 27, 3) := dk_181 0 27 (dk_at dksX8_init_1 21 rfl rfl)
theorem dX8_init_47 : decode cX8_init 47 = .ok (.aload_n 0, 1) := dk_42 (dk_at dksX8_init_2 0 rfl rfl)
theorem dX8_init_48 : decode cX8_init 48 = .ok (.iconst 5, 1) := dk_8 (dk_at dksX8_init_2 1 rfl rfl)
theorem dX8_init_49 : decode cX8_init 49 = .ok (.newarray .int, 2) := dk_188_10 (dk_at dksX8_init_2 2 rfl rfl)
theorem dX8_init_51 : decode cX8_init 51 = .ok (.putfield 31, 3) := dk_181 0 31 (dk_at dksX8_init_2 4 rfl rfl)
theorem dX8_init_54 : decode cX8_init 54 = .ok (.aload_n 0, 1) := dk_42 (dk_at dksX8_init_2 7 rfl rfl)
theorem dX8_init_55 : decode cX8_init 55 = .ok (.iconst (-1), 1) := dk_2 (dk_at dksX8_init_2 8 rfl rfl)
theorem dX8_init_56 : decode cX8_init 56 = .ok (.putfield 34, 3) := dk_181 0 34 (dk_at dksX8_init_2 9 rfl rfl)
theorem dX8_init_59 : decode cX8_init 59 = .ok (.aload_n 0, 1) := dk_42 (dk_at dksX8_init_2 12 rfl rfl)
theorem dX8_init_60 : decode cX8_init 60 = .ok (.sipush 810, 3) := dk_17 3 42 (dk_at dksX8_init_2 13 rfl rfl)
theorem dX8_init_63 : decode cX8_init 63 = .ok (.newarray .int, 2) := dk_188_10 (dk_at dksX8_init_2 16 rfl rfl)
theorem dX8_init_65 : decode cX8_init 65 = .ok (.putfield 37, 3) := dk_181 0 37 (dk_at dksX8_init_2 18 rfl rfl)
theorem dX8_init_68 : decode cX8_init 68 = .ok (.aload_n 0, 1) := dk_42 (dk_at dksX8_init_2 21 rfl rfl)
theorem dX8_init_69 : decode cX8_init 69 = .ok (.iconst 4, 1) := dk_7 (dk_at dksX8_init_2 22 rfl rfl)
theorem dX8_init_70 : decode cX8_init 70 = .ok (.newarray .boolean, 2) := dk_188_4 (dk_at dksX8_init_3 0 rfl rfl)
theorem dX8_init_72 : decode cX8_init 72 = .ok (.putfield 40, 3) := dk_181 0 40 (dk_at dksX8_init_3 2 rfl rfl)
theorem dX8_init_75 : decode cX8_init 75 = .ok (.aload_n 0, 1) := dk_42 (dk_at dksX8_init_3 5 rfl rfl)
theorem dX8_init_76 : decode cX8_init 76 = .ok (.bipush 12, 2) := dk_16 12 (dk_at dksX8_init_3 6 rfl rfl)
theorem dX8_init_78 : decode cX8_init 78 = .ok (.newarray .boolean, 2) := dk_188_4 (dk_at dksX8_init_3 8 rfl rfl)
theorem dX8_init_80 : decode cX8_init 80 = .ok (.putfield 43, 3) := dk_181 0 43 (dk_at dksX8_init_3 10 rfl rfl)
theorem dX8_init_83 : decode cX8_init 83 = .ok (.aload_n 0, 1) := dk_42 (dk_at dksX8_init_3 13 rfl rfl)
theorem dX8_init_84 : decode cX8_init 84 = .ok (.sipush 144, 3) := dk_17 0 144 (dk_at dksX8_init_3 14 rfl rfl)
theorem dX8_init_87 : decode cX8_init 87 = .ok (.newarray .int, 2) := dk_188_10 (dk_at dksX8_init_3 17 rfl rfl)
theorem dX8_init_89 : decode cX8_init 89 = .ok (.putfield 46, 3) := dk_181 0 46 (dk_at dksX8_init_3 19 rfl rfl)
theorem dX8_init_92 : decode cX8_init 92 = .ok (.aload_n 0, 1) := dk_42 (dk_at dksX8_init_3 22 rfl rfl)
theorem dX8_init_93 : decode cX8_init 93 = .ok (.bipush 18, 2) := dk_16 18 (dk_at dksX8_init_4 0 rfl rfl)
theorem dX8_init_95 : decode cX8_init 95 = .ok (.newarray .int, 2) := dk_188_10 (dk_at dksX8_init_4 2 rfl rfl)
theorem dX8_init_97 : decode cX8_init 97 = .ok (.putfield 49, 3) := dk_181 0 49 (dk_at dksX8_init_4 4 rfl rfl)
theorem dX8_init_100 : decode cX8_init 100 = .ok (.aload_n 0, 1) := dk_42 (dk_at dksX8_init_4 7 rfl rfl)
theorem dX8_init_101 : decode cX8_init 101 = .ok (.sipush 144, 3) := dk_17 0 144 (dk_at dksX8_init_4 8 rfl rfl)
theorem dX8_init_104 : decode cX8_init 104 = .ok (.newarray .int, 2) := dk_188_10 (dk_at dksX8_init_4 11 rfl rfl)
theorem dX8_init_106 : decode cX8_init 106 = .ok (.putfield 52, 3) := dk_181 0 52 (dk_at dksX8_init_4 13 rfl rfl)
theorem dX8_init_109 : decode cX8_init 109 = .ok (.aload_n 0, 1) := dk_42 (dk_at dksX8_init_4 16 rfl rfl)
theorem dX8_init_110 : decode cX8_init 110 = .ok (.sipush 144, 3) := dk_17 0 144 (dk_at dksX8_init_4 17 rfl rfl)
theorem dX8_init_113 : decode cX8_init 113 = .ok (.newarray .boolean, 2) := dk_188_4 (dk_at dksX8_init_4 20 rfl rfl)
theorem dX8_init_115 : decode cX8_init 115 = .ok (.putfield 55, 3) := dk_181 0 55 (dk_at dksX8_init_5 0 rfl rfl)
theorem dX8_init_118 : decode cX8_init 118 = .ok (.aload_n 0, 1) := dk_42 (dk_at dksX8_init_5 3 rfl rfl)
theorem dX8_init_119 : decode cX8_init 119 = .ok (.sipush 576, 3) := dk_17 2 64 (dk_at dksX8_init_5 4 rfl rfl)
theorem dX8_init_122 : decode cX8_init 122 = .ok (.newarray .boolean, 2) := dk_188_4 (dk_at dksX8_init_5 7 rfl rfl)
theorem dX8_init_124 : decode cX8_init 124 = .ok (.putfield 58, 3) := dk_181 0 58 (dk_at dksX8_init_5 9 rfl rfl)
theorem dX8_init_127 : decode cX8_init 127 = .ok (.aload_n 0, 1) := dk_42 (dk_at dksX8_init_5 12 rfl rfl)
theorem dX8_init_128 : decode cX8_init 128 = .ok (.sipush 288, 3) := dk_17 1 32 (dk_at dksX8_init_5 13 rfl rfl)
theorem dX8_init_131 : decode cX8_init 131 = .ok (.newarray .int, 2) := dk_188_10 (dk_at dksX8_init_5 16 rfl rfl)
theorem dX8_init_133 : decode cX8_init 133 = .ok (.putfield 61, 3) := dk_181 0 61 (dk_at dksX8_init_5 18 rfl rfl)
theorem dX8_init_136 : decode cX8_init 136 = .ok (.aload_n 0, 1) := dk_42 (dk_at dksX8_init_5 21 rfl rfl)
theorem dX8_init_137 : decode cX8_init 137 = .ok (.sipush 288, 3) := dk_17 1 32 (dk_at dksX8_init_6 0 rfl rfl)
theorem dX8_init_140 : decode cX8_init 140 = .ok (.newarray .int, 2) := dk_188_10 (dk_at dksX8_init_6 3 rfl rfl)
theorem dX8_init_142 : decode cX8_init 142 = .ok (.putfield 64, 3) := dk_181 0 64 (dk_at dksX8_init_6 5 rfl rfl)
theorem dX8_init_145 : decode cX8_init 145 = .ok (.aload_n 0, 1) := dk_42 (dk_at dksX8_init_6 8 rfl rfl)
theorem dX8_init_146 : decode cX8_init 146 = .ok (.sipush 144, 3) := dk_17 0 144 (dk_at dksX8_init_6 9 rfl rfl)
theorem dX8_init_149 : decode cX8_init 149 = .ok (.newarray .boolean, 2) := dk_188_4 (dk_at dksX8_init_6 12 rfl rfl)
theorem dX8_init_151 : decode cX8_init 151 = .ok (.putfield 67, 3) := dk_181 0 67 (dk_at dksX8_init_6 14 rfl rfl)
theorem dX8_init_154 : decode cX8_init 154 = .ok (.aload_n 0, 1) := dk_42 (dk_at dksX8_init_6 17 rfl rfl)
theorem dX8_init_155 : decode cX8_init 155 = .ok (.sipush 144, 3) := dk_17 0 144 (dk_at dksX8_init_6 18 rfl rfl)
theorem dX8_init_158 : decode cX8_init 158 = .ok (.newarray .int, 2) := dk_188_10 (dk_at dksX8_init_6 21 rfl rfl)
theorem dX8_init_160 : decode cX8_init 160 = .ok (.putfield 70, 3) := dk_181 0 70 (dk_at dksX8_init_7 0 rfl rfl)
theorem dX8_init_163 : decode cX8_init 163 = .ok (.aload_n 0, 1) := dk_42 (dk_at dksX8_init_7 3 rfl rfl)
theorem dX8_init_164 : decode cX8_init 164 = .ok (.iconst 4, 1) := dk_7 (dk_at dksX8_init_7 4 rfl rfl)
theorem dX8_init_165 : decode cX8_init 165 = .ok (.newarray .int, 2) := dk_188_10 (dk_at dksX8_init_7 5 rfl rfl)
theorem dX8_init_167 : decode cX8_init 167 = .ok (.dup, 1) := dk_89 (dk_at dksX8_init_7 7 rfl rfl)
theorem dX8_init_168 : decode cX8_init 168 = .ok (.iconst 0, 1) := dk_3 (dk_at dksX8_init_7 8 rfl rfl)
theorem dX8_init_169 : decode cX8_init 169 = .ok (.iconst (-1), 1) := dk_2 (dk_at dksX8_init_7 9 rfl rfl)
theorem dX8_init_170 : decode cX8_init 170 = .ok (.iastore, 1) := dk_79 (dk_at dksX8_init_7 10 rfl rfl)
theorem dX8_init_171 : decode cX8_init 171 = .ok (.dup, 1) := dk_89 (dk_at dksX8_init_7 11 rfl rfl)
theorem dX8_init_172 : decode cX8_init 172 = .ok (.iconst 1, 1) := dk_4 (dk_at dksX8_init_7 12 rfl rfl)
theorem dX8_init_173 : decode cX8_init 173 = .ok (.iconst (-1), 1) := dk_2 (dk_at dksX8_init_7 13 rfl rfl)
theorem dX8_init_174 : decode cX8_init 174 = .ok (.iastore, 1) := dk_79 (dk_at dksX8_init_7 14 rfl rfl)
theorem dX8_init_175 : decode cX8_init 175 = .ok (.dup, 1) := dk_89 (dk_at dksX8_init_7 15 rfl rfl)
theorem dX8_init_176 : decode cX8_init 176 = .ok (.iconst 2, 1) := dk_5 (dk_at dksX8_init_7 16 rfl rfl)
theorem dX8_init_177 : decode cX8_init 177 = .ok (.iconst (-1), 1) := dk_2 (dk_at dksX8_init_7 17 rfl rfl)
theorem dX8_init_178 : decode cX8_init 178 = .ok (.iastore, 1) := dk_79 (dk_at dksX8_init_7 18 rfl rfl)
theorem dX8_init_179 : decode cX8_init 179 = .ok (.dup, 1) := dk_89 (dk_at dksX8_init_7 19 rfl rfl)
theorem dX8_init_180 : decode cX8_init 180 = .ok (.iconst 3, 1) := dk_6 (dk_at dksX8_init_7 20 rfl rfl)
theorem dX8_init_181 : decode cX8_init 181 = .ok (.iconst (-1), 1) := dk_2 (dk_at dksX8_init_7 21 rfl rfl)
theorem dX8_init_182 : decode cX8_init 182 = .ok (.iastore, 1) := dk_79 (dk_at dksX8_init_7 22 rfl rfl)
theorem dX8_init_183 : decode cX8_init 183 = .ok (.putfield 73, 3) := dk_181 0 73 (dk_at dksX8_init_8 0 rfl rfl)
theorem dX8_init_186 : decode cX8_init 186 = .ok (.aload_n 0, 1) := dk_42 (dk_at dksX8_init_8 3 rfl rfl)
theorem dX8_init_187 : decode cX8_init 187 = .ok (.iconst 4, 1) := dk_7 (dk_at dksX8_init_8 4 rfl rfl)
theorem dX8_init_188 : decode cX8_init 188 = .ok (.newarray .int, 2) := dk_188_10 (dk_at dksX8_init_8 5 rfl rfl)
theorem dX8_init_190 : decode cX8_init 190 = .ok (.putfield 76, 3) := dk_181 0 76 (dk_at dksX8_init_8 7 rfl rfl)
theorem dX8_init_193 : decode cX8_init 193 = .ok (.aload_n 0, 1) := dk_42 (dk_at dksX8_init_8 10 rfl rfl)
theorem dX8_init_194 : decode cX8_init 194 = .ok (.sipush 240, 3) := dk_17 0 240 (dk_at dksX8_init_8 11 rfl rfl)
theorem dX8_init_197 : decode cX8_init 197 = .ok (.newarray .long, 2) := dk_188_11 (dk_at dksX8_init_8 14 rfl rfl)
theorem dX8_init_199 : decode cX8_init 199 = .ok (.putfield 79, 3) := dk_181 0 79 (dk_at dksX8_init_8 16 rfl rfl)
theorem dX8_init_202 : decode cX8_init 202 = .ok (.aload_n 0, 1) := dk_42 (dk_at dksX8_init_8 19 rfl rfl)
theorem dX8_init_203 : decode cX8_init 203 = .ok (.bipush 60, 2) := dk_16 60 (dk_at dksX8_init_8 20 rfl rfl)
theorem dX8_init_205 : decode cX8_init 205 = .ok (.newarray .long, 2) := dk_188_11 (dk_at dksX8_init_8 22 rfl rfl)
theorem dX8_init_207 : decode cX8_init 207 = .ok (.putfield 83, 3) := dk_181 0 83 (dk_at dksX8_init_9 0 rfl rfl)
theorem dX8_init_210 : decode cX8_init 210 = .ok (.aload_n 0, 1) := dk_42 (dk_at dksX8_init_9 3 rfl rfl)
theorem dX8_init_211 : decode cX8_init 211 = .ok (.getfield 13, 3) := dk_180 0 13 (dk_at dksX8_init_9 4 rfl rfl)
theorem dX8_init_214 : decode cX8_init 214 = .ok (.invokestatic 86, 3) := dk_184 0 86 (dk_at dksX8_init_9 7 rfl rfl)
theorem dX8_init_217 : decode cX8_init 217 = .ok (.aload_n 0, 1) := dk_42 (dk_at dksX8_init_9 10 rfl rfl)
theorem dX8_init_218 : decode cX8_init 218 = .ok (.invokevirtual 90, 3) := dk_182 0 90 (dk_at dksX8_init_9 11 rfl rfl)
theorem dX8_init_221 : decode cX8_init 221 = .ok (.return_, 1) := dk_177 (dk_at dksX8_init_9 14 rfl rfl)
abbrev cX8_plain : ByteArray := prog_16_method_4_code
def yX8_plain : MethodName := ⟨RX8, "plain", "([I)V"⟩
def dkwX8_plain_2 : List UInt8 := [132, 1, 1, 167, 255, 238, 177]
abbrev dktX8_plain_2 : List UInt8 := dkwX8_plain_2 ++ []
def dkwX8_plain_1 : List UInt8 := [42, 16, 6, 18, 93, 79, 3, 60, 27, 7, 162, 0, 19, 42, 16, 20, 7, 27, 104, 96, 184, 0, 94]
abbrev dktX8_plain_1 : List UInt8 := dkwX8_plain_1 ++ dktX8_plain_2
def dkwX8_plain_0 : List UInt8 := [3, 60, 27, 17, 3, 42, 162, 0, 13, 42, 27, 3, 79, 132, 1, 1, 167, 255, 242, 42, 8, 16, 100, 79]
abbrev dktX8_plain_0 : List UInt8 := dkwX8_plain_0 ++ dktX8_plain_1
theorem dksX8_plain_0 : cX8_plain.data.toList.drop 0 = dktX8_plain_0 := by decide +kernel
theorem dksX8_plain_1 : cX8_plain.data.toList.drop 24 = dktX8_plain_1 := dk_seg dksX8_plain_0 24 rfl rfl
theorem dksX8_plain_2 : cX8_plain.data.toList.drop 47 = dktX8_plain_2 := dk_seg dksX8_plain_1 23 rfl rfl
theorem dX8_plain_0 : decode cX8_plain 0 = .ok (.iconst 0, 1) := dk_3 (dk_at dksX8_plain_0 0 rfl rfl)
theorem dX8_plain_1 : decode cX8_plain 1 = .ok (.istore_n 1, 1) := dk_60 (dk_at dksX8_plain_0 1 rfl rfl)
theorem dX8_plain_2 : decode cX8_plain 2 = .ok (.iload_n 1, 1) := dk_27 (dk_at dksX8_plain_0 2 rfl rfl)
theorem dX8_plain_3 : decode cX8_plain 3 = .ok (.sipush 810, 3) := dk_17 3 42 (dk_at dksX8_plain_0 3 rfl rfl)
theorem dX8_plain_6 : decode cX8_plain 6 = .ok (.if_icmp .ge 13, 3) := dk_162 0 13 (dk_at dksX8_plain_0 6 rfl rfl)
theorem dX8_plain_9 : decode cX8_plain 9 = .ok (.aload_n 0, 1) := dk_42 (dk_at dksX8_plain_0 9 rfl rfl)
theorem dX8_plain_10 : decode cX8_plain 10 = .ok (.iload_n 1, 1) := dk_27 (dk_at dksX8_plain_0 10 rfl rfl)
theorem dX8_plain_11 : decode cX8_plain 11 = .ok (.iconst 0, 1) := dk_3 (dk_at dksX8_plain_0 11 rfl rfl)
theorem dX8_plain_12 : decode cX8_plain 12 = .ok (.iastore, 1) := dk_79 (dk_at dksX8_plain_0 12 rfl rfl)
theorem dX8_plain_13 : decode cX8_plain 13 = .ok (.iinc 1 1, 3) := dk_132 1 1 (dk_at dksX8_plain_0 13 rfl rfl)
theorem dX8_plain_16 : decode cX8_plain 16 = .ok (.goto (-14), 3) := dk_167 255 242 (dk_at dksX8_plain_0 16 rfl rfl)
theorem dX8_plain_19 : decode cX8_plain 19 = .ok (.aload_n 0, 1) := dk_42 (dk_at dksX8_plain_0 19 rfl rfl)
theorem dX8_plain_20 : decode cX8_plain 20 = .ok (.iconst 5, 1) := dk_8 (dk_at dksX8_plain_0 20 rfl rfl)
theorem dX8_plain_21 : decode cX8_plain 21 = .ok (.bipush 100, 2) := dk_16 100 (dk_at dksX8_plain_0 21 rfl rfl)
theorem dX8_plain_23 : decode cX8_plain 23 = .ok (.iastore, 1) := dk_79 (dk_at dksX8_plain_0 23 rfl rfl)
theorem dX8_plain_24 : decode cX8_plain 24 = .ok (.aload_n 0, 1) := dk_42 (dk_at dksX8_plain_1 0 rfl rfl)
theorem dX8_plain_25 : decode cX8_plain 25 = .ok (.bipush 6, 2) := dk_16 6 (dk_at dksX8_plain_1 1 rfl rfl)
theorem dX8_plain_27 : decode cX8_plain 27 = .ok (.ldc 93, 2) := dk_18 93 (dk_at dksX8_plain_1 3 rfl rfl)
theorem dX8_plain_29 : decode cX8_plain 29 = .ok (.iastore, 1) := dk_79 (dk_at dksX8_plain_1 5 rfl rfl)
theorem dX8_plain_30 : decode cX8_plain 30 = .ok (.iconst 0, 1) := dk_3 (dk_at dksX8_plain_1 6 rfl rfl)
theorem dX8_plain_31 : decode cX8_plain 31 = .ok (.istore_n 1, 1) := dk_60 (dk_at dksX8_plain_1 7 rfl rfl)
theorem dX8_plain_32 : decode cX8_plain 32 = .ok (.iload_n 1, 1) := dk_27 (dk_at dksX8_plain_1 8 rfl rfl)
theorem dX8_plain_33 : decode cX8_plain 33 = .ok (.iconst 4, 1) := dk_7 (dk_at dksX8_plain_1 9 rfl rfl)
theorem dX8_plain_34 : decode cX8_plain 34 = .ok (.if_icmp .ge 19, 3) := dk_162 0 19 (dk_at dksX8_plain_1 10 rfl rfl)
theorem dX8_plain_37 : decode cX8_plain 37 = .ok (.aload_n 0, 1) := dk_42 (dk_at dksX8_plain_1 13 rfl rfl)
theorem dX8_plain_38 : decode cX8_plain 38 = .ok (.bipush 20, 2) := dk_16 20 (dk_at dksX8_plain_1 14 rfl rfl)
theorem dX8_plain_40 : decode cX8_plain 40 = .ok (.iconst 4, 1) := dk_7 (dk_at dksX8_plain_1 16 rfl rfl)
theorem dX8_plain_41 : decode cX8_plain 41 = .ok (.iload_n 1, 1) := dk_27 (dk_at dksX8_plain_1 17 rfl rfl)
theorem dX8_plain_42 : decode cX8_plain 42 = .ok (.imul, 1) := dk_104 (dk_at dksX8_plain_1 18 rfl rfl)
theorem dX8_plain_43 : decode cX8_plain 43 = .ok (.iadd, 1) := dk_96 (dk_at dksX8_plain_1 19 rfl rfl)
theorem dX8_plain_44 : decode cX8_plain 44 = .ok (.invokestatic 94, 3) := dk_184 0 94 (dk_at dksX8_plain_1 20 rfl rfl)
theorem dX8_plain_47 : decode cX8_plain 47 = .ok (.iinc 1 1, 3) := dk_132 1 1 (dk_at dksX8_plain_2 0 rfl rfl)
theorem dX8_plain_50 : decode cX8_plain 50 = .ok (.goto (-18), 3) := dk_167 255 238 (dk_at dksX8_plain_2 3 rfl rfl)
theorem dX8_plain_53 : decode cX8_plain 53 = .ok (.return_, 1) := dk_177 (dk_at dksX8_plain_2 6 rfl rfl)
abbrev cX8_groundAtFirst : ByteArray := prog_16_method_5_code
def yX8_groundAtFirst : MethodName := ⟨RX8, "groundAtFirst", "([II)V"⟩
def dkwX8_groundAtFirst_1 : List UInt8 := [79, 177]
abbrev dktX8_groundAtFirst_1 : List UInt8 := dkwX8_groundAtFirst_1 ++ []
def dkwX8_groundAtFirst_0 : List UInt8 := [42, 27, 16, 10, 79, 42, 27, 4, 96, 16, 15, 79, 42, 27, 5, 96, 16, 100, 79, 42, 27, 6, 96, 3]
abbrev dktX8_groundAtFirst_0 : List UInt8 := dkwX8_groundAtFirst_0 ++ dktX8_groundAtFirst_1
theorem dksX8_groundAtFirst_0 : cX8_groundAtFirst.data.toList.drop 0 = dktX8_groundAtFirst_0 := by decide +kernel
theorem dksX8_groundAtFirst_1 : cX8_groundAtFirst.data.toList.drop 24 = dktX8_groundAtFirst_1 := dk_seg dksX8_groundAtFirst_0 24 rfl rfl
theorem dX8_groundAtFirst_0 : decode cX8_groundAtFirst 0 = .ok (.aload_n 0, 1) := dk_42 (dk_at dksX8_groundAtFirst_0 0 rfl rfl)
theorem dX8_groundAtFirst_1 : decode cX8_groundAtFirst 1 = .ok (.iload_n 1, 1) := dk_27 (dk_at dksX8_groundAtFirst_0 1 rfl rfl)
theorem dX8_groundAtFirst_2 : decode cX8_groundAtFirst 2 = .ok (.bipush 10, 2) := dk_16 10 (dk_at dksX8_groundAtFirst_0 2 rfl rfl)
theorem dX8_groundAtFirst_4 : decode cX8_groundAtFirst 4 = .ok (.iastore, 1) := dk_79 (dk_at dksX8_groundAtFirst_0 4 rfl rfl)
theorem dX8_groundAtFirst_5 : decode cX8_groundAtFirst 5 = .ok (.aload_n 0, 1) := dk_42 (dk_at dksX8_groundAtFirst_0 5 rfl rfl)
theorem dX8_groundAtFirst_6 : decode cX8_groundAtFirst 6 = .ok (.iload_n 1, 1) := dk_27 (dk_at dksX8_groundAtFirst_0 6 rfl rfl)
theorem dX8_groundAtFirst_7 : decode cX8_groundAtFirst 7 = .ok (.iconst 1, 1) := dk_4 (dk_at dksX8_groundAtFirst_0 7 rfl rfl)
theorem dX8_groundAtFirst_8 : decode cX8_groundAtFirst 8 = .ok (.iadd, 1) := dk_96 (dk_at dksX8_groundAtFirst_0 8 rfl rfl)
theorem dX8_groundAtFirst_9 : decode cX8_groundAtFirst 9 = .ok (.bipush 15, 2) := dk_16 15 (dk_at dksX8_groundAtFirst_0 9 rfl rfl)
theorem dX8_groundAtFirst_11 : decode cX8_groundAtFirst 11 = .ok (.iastore, 1) := dk_79 (dk_at dksX8_groundAtFirst_0 11 rfl rfl)
theorem dX8_groundAtFirst_12 : decode cX8_groundAtFirst 12 = .ok (.aload_n 0, 1) := dk_42 (dk_at dksX8_groundAtFirst_0 12 rfl rfl)
theorem dX8_groundAtFirst_13 : decode cX8_groundAtFirst 13 = .ok (.iload_n 1, 1) := dk_27 (dk_at dksX8_groundAtFirst_0 13 rfl rfl)
theorem dX8_groundAtFirst_14 : decode cX8_groundAtFirst 14 = .ok (.iconst 2, 1) := dk_5 (dk_at dksX8_groundAtFirst_0 14 rfl rfl)
theorem dX8_groundAtFirst_15 : decode cX8_groundAtFirst 15 = .ok (.iadd, 1) := dk_96 (dk_at dksX8_groundAtFirst_0 15 rfl rfl)
theorem dX8_groundAtFirst_16 : decode cX8_groundAtFirst 16 = .ok (.bipush 100, 2) := dk_16 100 (dk_at dksX8_groundAtFirst_0 16 rfl rfl)
theorem dX8_groundAtFirst_18 : decode cX8_groundAtFirst 18 = .ok (.iastore, 1) := dk_79 (dk_at dksX8_groundAtFirst_0 18 rfl rfl)
theorem dX8_groundAtFirst_19 : decode cX8_groundAtFirst 19 = .ok (.aload_n 0, 1) := dk_42 (dk_at dksX8_groundAtFirst_0 19 rfl rfl)
theorem dX8_groundAtFirst_20 : decode cX8_groundAtFirst 20 = .ok (.iload_n 1, 1) := dk_27 (dk_at dksX8_groundAtFirst_0 20 rfl rfl)
theorem dX8_groundAtFirst_21 : decode cX8_groundAtFirst 21 = .ok (.iconst 3, 1) := dk_6 (dk_at dksX8_groundAtFirst_0 21 rfl rfl)
theorem dX8_groundAtFirst_22 : decode cX8_groundAtFirst 22 = .ok (.iadd, 1) := dk_96 (dk_at dksX8_groundAtFirst_0 22 rfl rfl)
theorem dX8_groundAtFirst_23 : decode cX8_groundAtFirst 23 = .ok (.iconst 0, 1) := dk_3 (dk_at dksX8_groundAtFirst_0 23 rfl rfl)
theorem dX8_groundAtFirst_24 : decode cX8_groundAtFirst 24 = .ok (.iastore, 1) := dk_79 (dk_at dksX8_groundAtFirst_1 0 rfl rfl)
theorem dX8_groundAtFirst_25 : decode cX8_groundAtFirst 25 = .ok (.return_, 1) := dk_177 (dk_at dksX8_groundAtFirst_1 1 rfl rfl)
abbrev cX8_begins : ByteArray := prog_16_method_6_code
def yX8_begins : MethodName := ⟨RX8, "begins", "()V"⟩
def dkwX8_begins_5 : List UInt8 := [79, 177]
abbrev dktX8_begins_5 : List UInt8 := dkwX8_begins_5 ++ []
def dkwX8_begins_4 : List UInt8 := [6, 27, 104, 96, 5, 96, 2, 79, 132, 1, 1, 167, 255, 232, 42, 180, 0, 13, 16, 18, 42, 182, 0, 98]
abbrev dktX8_begins_4 : List UInt8 := dkwX8_begins_4 ++ dktX8_begins_5
def dkwX8_begins_3 : List UInt8 := [96, 2, 79, 132, 1, 1, 167, 255, 234, 3, 60, 27, 16, 6, 162, 0, 24, 42, 180, 0, 13, 17, 2, 220]
abbrev dktX8_begins_3 : List UInt8 := dkwX8_begins_3 ++ dktX8_begins_4
def dkwX8_begins_2 : List UInt8 := [132, 1, 1, 167, 255, 208, 3, 60, 27, 16, 10, 162, 0, 22, 42, 180, 0, 13, 17, 3, 22, 5, 27, 104]
abbrev dktX8_begins_2 : List UInt8 := dkwX8_begins_2 ++ dktX8_begins_3
def dkwX8_begins_1 : List UInt8 := [79, 42, 180, 0, 13, 17, 1, 80, 27, 96, 3, 79, 42, 180, 0, 13, 17, 1, 224, 27, 96, 3, 79]
abbrev dktX8_begins_1 : List UInt8 := dkwX8_begins_1 ++ dktX8_begins_2
def dkwX8_begins_0 : List UInt8 := [3, 60, 27, 17, 0, 144, 162, 0, 47, 42, 180, 0, 13, 17, 0, 192, 27, 96, 42, 180, 0, 13, 8, 46]
abbrev dktX8_begins_0 : List UInt8 := dkwX8_begins_0 ++ dktX8_begins_1
theorem dksX8_begins_0 : cX8_begins.data.toList.drop 0 = dktX8_begins_0 := by decide +kernel
theorem dksX8_begins_1 : cX8_begins.data.toList.drop 24 = dktX8_begins_1 := dk_seg dksX8_begins_0 24 rfl rfl
theorem dksX8_begins_2 : cX8_begins.data.toList.drop 47 = dktX8_begins_2 := dk_seg dksX8_begins_1 23 rfl rfl
theorem dksX8_begins_3 : cX8_begins.data.toList.drop 71 = dktX8_begins_3 := dk_seg dksX8_begins_2 24 rfl rfl
theorem dksX8_begins_4 : cX8_begins.data.toList.drop 95 = dktX8_begins_4 := dk_seg dksX8_begins_3 24 rfl rfl
theorem dksX8_begins_5 : cX8_begins.data.toList.drop 119 = dktX8_begins_5 := dk_seg dksX8_begins_4 24 rfl rfl
theorem dX8_begins_0 : decode cX8_begins 0 = .ok (.iconst 0, 1) := dk_3 (dk_at dksX8_begins_0 0 rfl rfl)
theorem dX8_begins_1 : decode cX8_begins 1 = .ok (.istore_n 1, 1) := dk_60 (dk_at dksX8_begins_0 1 rfl rfl)
theorem dX8_begins_2 : decode cX8_begins 2 = .ok (.iload_n 1, 1) := dk_27 (dk_at dksX8_begins_0 2 rfl rfl)
theorem dX8_begins_3 : decode cX8_begins 3 = .ok (.sipush 144, 3) := dk_17 0 144 (dk_at dksX8_begins_0 3 rfl rfl)
theorem dX8_begins_6 : decode cX8_begins 6 = .ok (.if_icmp .ge 47, 3) := dk_162 0 47 (dk_at dksX8_begins_0 6 rfl rfl)
theorem dX8_begins_9 : decode cX8_begins 9 = .ok (.aload_n 0, 1) := dk_42 (dk_at dksX8_begins_0 9 rfl rfl)
theorem dX8_begins_10 : decode cX8_begins 10 = .ok (.getfield 13, 3) := dk_180 0 13 (dk_at dksX8_begins_0 10 rfl rfl)
theorem dX8_begins_13 : decode cX8_begins 13 = .ok (.sipush 192, 3) := dk_17 0 192 (dk_at dksX8_begins_0 13 rfl rfl)
theorem dX8_begins_16 : decode cX8_begins 16 = .ok (.iload_n 1, 1) := dk_27 (dk_at dksX8_begins_0 16 rfl rfl)
theorem dX8_begins_17 : decode cX8_begins 17 = .ok (.iadd, 1) := dk_96 (dk_at dksX8_begins_0 17 rfl rfl)
theorem dX8_begins_18 : decode cX8_begins 18 = .ok (.aload_n 0, 1) := dk_42 (dk_at dksX8_begins_0 18 rfl rfl)
theorem dX8_begins_19 : decode cX8_begins 19 = .ok (.getfield 13, 3) := dk_180 0 13 (dk_at dksX8_begins_0 19 rfl rfl)
theorem dX8_begins_22 : decode cX8_begins 22 = .ok (.iconst 5, 1) := dk_8 (dk_at dksX8_begins_0 22 rfl rfl)
theorem dX8_begins_23 : decode cX8_begins 23 = .ok (.iaload, 1) := dk_46 (dk_at dksX8_begins_0 23 rfl rfl)
theorem dX8_begins_24 : decode cX8_begins 24 = .ok (.iastore, 1) := dk_79 (dk_at dksX8_begins_1 0 rfl rfl)
theorem dX8_begins_25 : decode cX8_begins 25 = .ok (.aload_n 0, 1) := dk_42 (dk_at dksX8_begins_1 1 rfl rfl)
theorem dX8_begins_26 : decode cX8_begins 26 = .ok (.getfield 13, 3) := dk_180 0 13 (dk_at dksX8_begins_1 2 rfl rfl)
theorem dX8_begins_29 : decode cX8_begins 29 = .ok (.sipush 336, 3) := dk_17 1 80 (dk_at dksX8_begins_1 5 rfl rfl)
theorem dX8_begins_32 : decode cX8_begins 32 = .ok (.iload_n 1, 1) := dk_27 (dk_at dksX8_begins_1 8 rfl rfl)
theorem dX8_begins_33 : decode cX8_begins 33 = .ok (.iadd, 1) := dk_96 (dk_at dksX8_begins_1 9 rfl rfl)
theorem dX8_begins_34 : decode cX8_begins 34 = .ok (.iconst 0, 1) := dk_3 (dk_at dksX8_begins_1 10 rfl rfl)
theorem dX8_begins_35 : decode cX8_begins 35 = .ok (.iastore, 1) := dk_79 (dk_at dksX8_begins_1 11 rfl rfl)
theorem dX8_begins_36 : decode cX8_begins 36 = .ok (.aload_n 0, 1) := dk_42 (dk_at dksX8_begins_1 12 rfl rfl)
theorem dX8_begins_37 : decode cX8_begins 37 = .ok (.getfield 13, 3) := dk_180 0 13 (dk_at dksX8_begins_1 13 rfl rfl)
theorem dX8_begins_40 : decode cX8_begins 40 = .ok (.sipush 480, 3) := dk_17 1 224 (dk_at dksX8_begins_1 16 rfl rfl)
theorem dX8_begins_43 : decode cX8_begins 43 = .ok (.iload_n 1, 1) := dk_27 (dk_at dksX8_begins_1 19 rfl rfl)
theorem dX8_begins_44 : decode cX8_begins 44 = .ok (.iadd, 1) := dk_96 (dk_at dksX8_begins_1 20 rfl rfl)
theorem dX8_begins_45 : decode cX8_begins 45 = .ok (.iconst 0, 1) := dk_3 (dk_at dksX8_begins_1 21 rfl rfl)
theorem dX8_begins_46 : decode cX8_begins 46 = .ok (.iastore, 1) := dk_79 (dk_at dksX8_begins_1 22 rfl rfl)
theorem dX8_begins_47 : decode cX8_begins 47 = .ok (.iinc 1 1, 3) := dk_132 1 1 (dk_at dksX8_begins_2 0 rfl rfl)
theorem dX8_begins_50 : decode cX8_begins 50 = .ok (.goto (-48), 3) := dk_167 255 208 (dk_at dksX8_begins_2 3 rfl rfl)
theorem dX8_begins_53 : decode cX8_begins 53 = .ok (.iconst 0, 1) := dk_3 (dk_at dksX8_begins_2 6 rfl rfl)
theorem dX8_begins_54 : decode cX8_begins 54 = .ok (.istore_n 1, 1) := dk_60 (dk_at dksX8_begins_2 7 rfl rfl)
theorem dX8_begins_55 : decode cX8_begins 55 = .ok (.iload_n 1, 1) := dk_27 (dk_at dksX8_begins_2 8 rfl rfl)
theorem dX8_begins_56 : decode cX8_begins 56 = .ok (.bipush 10, 2) := dk_16 10 (dk_at dksX8_begins_2 9 rfl rfl)
theorem dX8_begins_58 : decode cX8_begins 58 = .ok (.if_icmp .ge 22, 3) := dk_162 0 22 (dk_at dksX8_begins_2 11 rfl rfl)
theorem dX8_begins_61 : decode cX8_begins 61 = .ok (.aload_n 0, 1) := dk_42 (dk_at dksX8_begins_2 14 rfl rfl)
theorem dX8_begins_62 : decode cX8_begins 62 = .ok (.getfield 13, 3) := dk_180 0 13 (dk_at dksX8_begins_2 15 rfl rfl)
theorem dX8_begins_65 : decode cX8_begins 65 = .ok (.sipush 790, 3) := dk_17 3 22 (dk_at dksX8_begins_2 18 rfl rfl)
theorem dX8_begins_68 : decode cX8_begins 68 = .ok (.iconst 2, 1) := dk_5 (dk_at dksX8_begins_2 21 rfl rfl)
theorem dX8_begins_69 : decode cX8_begins 69 = .ok (.iload_n 1, 1) := dk_27 (dk_at dksX8_begins_2 22 rfl rfl)
theorem dX8_begins_70 : decode cX8_begins 70 = .ok (.imul, 1) := dk_104 (dk_at dksX8_begins_2 23 rfl rfl)
theorem dX8_begins_71 : decode cX8_begins 71 = .ok (.iadd, 1) := dk_96 (dk_at dksX8_begins_3 0 rfl rfl)
theorem dX8_begins_72 : decode cX8_begins 72 = .ok (.iconst (-1), 1) := dk_2 (dk_at dksX8_begins_3 1 rfl rfl)
theorem dX8_begins_73 : decode cX8_begins 73 = .ok (.iastore, 1) := dk_79 (dk_at dksX8_begins_3 2 rfl rfl)
theorem dX8_begins_74 : decode cX8_begins 74 = .ok (.iinc 1 1, 3) := dk_132 1 1 (dk_at dksX8_begins_3 3 rfl rfl)
theorem dX8_begins_77 : decode cX8_begins 77 = .ok (.goto (-22), 3) := dk_167 255 234 (dk_at dksX8_begins_3 6 rfl rfl)
theorem dX8_begins_80 : decode cX8_begins 80 = .ok (.iconst 0, 1) := dk_3 (dk_at dksX8_begins_3 9 rfl rfl)
theorem dX8_begins_81 : decode cX8_begins 81 = .ok (.istore_n 1, 1) := dk_60 (dk_at dksX8_begins_3 10 rfl rfl)
theorem dX8_begins_82 : decode cX8_begins 82 = .ok (.iload_n 1, 1) := dk_27 (dk_at dksX8_begins_3 11 rfl rfl)
theorem dX8_begins_83 : decode cX8_begins 83 = .ok (.bipush 6, 2) := dk_16 6 (dk_at dksX8_begins_3 12 rfl rfl)
theorem dX8_begins_85 : decode cX8_begins 85 = .ok (.if_icmp .ge 24, 3) := dk_162 0 24 (dk_at dksX8_begins_3 14 rfl rfl)
theorem dX8_begins_88 : decode cX8_begins 88 = .ok (.aload_n 0, 1) := dk_42 (dk_at dksX8_begins_3 17 rfl rfl)
theorem dX8_begins_89 : decode cX8_begins 89 = .ok (.getfield 13, 3) := dk_180 0 13 (dk_at dksX8_begins_3 18 rfl rfl)
theorem dX8_begins_92 : decode cX8_begins 92 = .ok (.sipush 732, 3) := dk_17 2 220 (dk_at dksX8_begins_3 21 rfl rfl)
theorem dX8_begins_95 : decode cX8_begins 95 = .ok (.iconst 3, 1) := dk_6 (dk_at dksX8_begins_4 0 rfl rfl)
theorem dX8_begins_96 : decode cX8_begins 96 = .ok (.iload_n 1, 1) := dk_27 (dk_at dksX8_begins_4 1 rfl rfl)
theorem dX8_begins_97 : decode cX8_begins 97 = .ok (.imul, 1) := dk_104 (dk_at dksX8_begins_4 2 rfl rfl)
theorem dX8_begins_98 : decode cX8_begins 98 = .ok (.iadd, 1) := dk_96 (dk_at dksX8_begins_4 3 rfl rfl)
theorem dX8_begins_99 : decode cX8_begins 99 = .ok (.iconst 2, 1) := dk_5 (dk_at dksX8_begins_4 4 rfl rfl)
theorem dX8_begins_100 : decode cX8_begins 100 = .ok (.iadd, 1) := dk_96 (dk_at dksX8_begins_4 5 rfl rfl)
theorem dX8_begins_101 : decode cX8_begins 101 = .ok (.iconst (-1), 1) := dk_2 (dk_at dksX8_begins_4 6 rfl rfl)
theorem dX8_begins_102 : decode cX8_begins 102 = .ok (.iastore, 1) := dk_79 (dk_at dksX8_begins_4 7 rfl rfl)
theorem dX8_begins_103 : decode cX8_begins 103 = .ok (.iinc 1 1, 3) := dk_132 1 1 (dk_at dksX8_begins_4 8 rfl rfl)
theorem dX8_begins_106 : decode cX8_begins 106 = .ok (.goto (-24), 3) := dk_167 255 232 (dk_at dksX8_begins_4 11 rfl rfl)
theorem dX8_begins_109 : decode cX8_begins 109 = .ok (.aload_n 0, 1) := dk_42 (dk_at dksX8_begins_4 14 rfl rfl)
theorem dX8_begins_110 : decode cX8_begins 110 = .ok (.getfield 13, 3) := dk_180 0 13 (dk_at dksX8_begins_4 15 rfl rfl)
theorem dX8_begins_113 : decode cX8_begins 113 = .ok (.bipush 18, 2) := dk_16 18 (dk_at dksX8_begins_4 18 rfl rfl)
theorem dX8_begins_115 : decode cX8_begins 115 = .ok (.aload_n 0, 1) := dk_42 (dk_at dksX8_begins_4 20 rfl rfl)
theorem dX8_begins_116 : decode cX8_begins 116 = .ok (.invokevirtual 98, 3) := dk_182 0 98 (dk_at dksX8_begins_4 21 rfl rfl)
theorem dX8_begins_119 : decode cX8_begins 119 = .ok (.iastore, 1) := dk_79 (dk_at dksX8_begins_5 0 rfl rfl)
theorem dX8_begins_120 : decode cX8_begins 120 = .ok (.return_, 1) := dk_177 (dk_at dksX8_begins_5 1 rfl rfl)
abbrev cX8_heatNow : ByteArray := prog_16_method_7_code
def yX8_heatNow : MethodName := ⟨RX8, "heatNow", "()I"⟩
def dkwX8_heatNow_2 : List UInt8 := [28, 96, 46, 100, 96, 60, 132, 2, 1, 167, 255, 204, 27, 172]
abbrev dktX8_heatNow_2 : List UInt8 := dkwX8_heatNow_2 ++ []
def dkwX8_heatNow_1 : List UInt8 := [160, 0, 7, 3, 167, 0, 24, 42, 180, 0, 13, 17, 0, 192, 28, 96, 46, 42, 180, 0, 13, 17, 1, 80]
abbrev dktX8_heatNow_1 : List UInt8 := dkwX8_heatNow_1 ++ dktX8_heatNow_2
def dkwX8_heatNow_0 : List UInt8 := [3, 60, 3, 61, 28, 17, 0, 144, 162, 0, 51, 27, 42, 180, 0, 13, 17, 1, 224, 28, 96, 46, 4]
abbrev dktX8_heatNow_0 : List UInt8 := dkwX8_heatNow_0 ++ dktX8_heatNow_1
theorem dksX8_heatNow_0 : cX8_heatNow.data.toList.drop 0 = dktX8_heatNow_0 := by decide +kernel
theorem dksX8_heatNow_1 : cX8_heatNow.data.toList.drop 23 = dktX8_heatNow_1 := dk_seg dksX8_heatNow_0 23 rfl rfl
theorem dksX8_heatNow_2 : cX8_heatNow.data.toList.drop 47 = dktX8_heatNow_2 := dk_seg dksX8_heatNow_1 24 rfl rfl
theorem dX8_heatNow_0 : decode cX8_heatNow 0 = .ok (.iconst 0, 1) := dk_3 (dk_at dksX8_heatNow_0 0 rfl rfl)
theorem dX8_heatNow_1 : decode cX8_heatNow 1 = .ok (.istore_n 1, 1) := dk_60 (dk_at dksX8_heatNow_0 1 rfl rfl)
theorem dX8_heatNow_2 : decode cX8_heatNow 2 = .ok (.iconst 0, 1) := dk_3 (dk_at dksX8_heatNow_0 2 rfl rfl)
theorem dX8_heatNow_3 : decode cX8_heatNow 3 = .ok (.istore_n 2, 1) := dk_61 (dk_at dksX8_heatNow_0 3 rfl rfl)
theorem dX8_heatNow_4 : decode cX8_heatNow 4 = .ok (.iload_n 2, 1) := dk_28 (dk_at dksX8_heatNow_0 4 rfl rfl)
theorem dX8_heatNow_5 : decode cX8_heatNow 5 = .ok (.sipush 144, 3) := dk_17 0 144 (dk_at dksX8_heatNow_0 5 rfl rfl)
theorem dX8_heatNow_8 : decode cX8_heatNow 8 = .ok (.if_icmp .ge 51, 3) := dk_162 0 51 (dk_at dksX8_heatNow_0 8 rfl rfl)
theorem dX8_heatNow_11 : decode cX8_heatNow 11 = .ok (.iload_n 1, 1) := dk_27 (dk_at dksX8_heatNow_0 11 rfl rfl)
theorem dX8_heatNow_12 : decode cX8_heatNow 12 = .ok (.aload_n 0, 1) := dk_42 (dk_at dksX8_heatNow_0 12 rfl rfl)
theorem dX8_heatNow_13 : decode cX8_heatNow 13 = .ok (.getfield 13, 3) := dk_180 0 13 (dk_at dksX8_heatNow_0 13 rfl rfl)
theorem dX8_heatNow_16 : decode cX8_heatNow 16 = .ok (.sipush 480, 3) := dk_17 1 224 (dk_at dksX8_heatNow_0 16 rfl rfl)
theorem dX8_heatNow_19 : decode cX8_heatNow 19 = .ok (.iload_n 2, 1) := dk_28 (dk_at dksX8_heatNow_0 19 rfl rfl)
theorem dX8_heatNow_20 : decode cX8_heatNow 20 = .ok (.iadd, 1) := dk_96 (dk_at dksX8_heatNow_0 20 rfl rfl)
theorem dX8_heatNow_21 : decode cX8_heatNow 21 = .ok (.iaload, 1) := dk_46 (dk_at dksX8_heatNow_0 21 rfl rfl)
theorem dX8_heatNow_22 : decode cX8_heatNow 22 = .ok (.iconst 1, 1) := dk_4 (dk_at dksX8_heatNow_0 22 rfl rfl)
theorem dX8_heatNow_23 : decode cX8_heatNow 23 = .ok (.if_icmp .ne 7, 3) := dk_160 0 7 (dk_at dksX8_heatNow_1 0 rfl rfl)
theorem dX8_heatNow_26 : decode cX8_heatNow 26 = .ok (.iconst 0, 1) := dk_3 (dk_at dksX8_heatNow_1 3 rfl rfl)
theorem dX8_heatNow_27 : decode cX8_heatNow 27 = .ok (.goto 24, 3) := dk_167 0 24 (dk_at dksX8_heatNow_1 4 rfl rfl)
theorem dX8_heatNow_30 : decode cX8_heatNow 30 = .ok (.aload_n 0, 1) := dk_42 (dk_at dksX8_heatNow_1 7 rfl rfl)
theorem dX8_heatNow_31 : decode cX8_heatNow 31 = .ok (.getfield 13, 3) := dk_180 0 13 (dk_at dksX8_heatNow_1 8 rfl rfl)
theorem dX8_heatNow_34 : decode cX8_heatNow 34 = .ok (.sipush 192, 3) := dk_17 0 192 (dk_at dksX8_heatNow_1 11 rfl rfl)
theorem dX8_heatNow_37 : decode cX8_heatNow 37 = .ok (.iload_n 2, 1) := dk_28 (dk_at dksX8_heatNow_1 14 rfl rfl)
theorem dX8_heatNow_38 : decode cX8_heatNow 38 = .ok (.iadd, 1) := dk_96 (dk_at dksX8_heatNow_1 15 rfl rfl)
theorem dX8_heatNow_39 : decode cX8_heatNow 39 = .ok (.iaload, 1) := dk_46 (dk_at dksX8_heatNow_1 16 rfl rfl)
theorem dX8_heatNow_40 : decode cX8_heatNow 40 = .ok (.aload_n 0, 1) := dk_42 (dk_at dksX8_heatNow_1 17 rfl rfl)
theorem dX8_heatNow_41 : decode cX8_heatNow 41 = .ok (.getfield 13, 3) := dk_180 0 13 (dk_at dksX8_heatNow_1 18 rfl rfl)
theorem dX8_heatNow_44 : decode cX8_heatNow 44 = .ok (.sipush 336, 3) := dk_17 1 80 (dk_at dksX8_heatNow_1 21 rfl rfl)
theorem dX8_heatNow_47 : decode cX8_heatNow 47 = .ok (.iload_n 2, 1) := dk_28 (dk_at dksX8_heatNow_2 0 rfl rfl)
theorem dX8_heatNow_48 : decode cX8_heatNow 48 = .ok (.iadd, 1) := dk_96 (dk_at dksX8_heatNow_2 1 rfl rfl)
theorem dX8_heatNow_49 : decode cX8_heatNow 49 = .ok (.iaload, 1) := dk_46 (dk_at dksX8_heatNow_2 2 rfl rfl)
theorem dX8_heatNow_50 : decode cX8_heatNow 50 = .ok (.isub, 1) := dk_100 (dk_at dksX8_heatNow_2 3 rfl rfl)
theorem dX8_heatNow_51 : decode cX8_heatNow 51 = .ok (.iadd, 1) := dk_96 (dk_at dksX8_heatNow_2 4 rfl rfl)
theorem dX8_heatNow_52 : decode cX8_heatNow 52 = .ok (.istore_n 1, 1) := dk_60 (dk_at dksX8_heatNow_2 5 rfl rfl)
theorem dX8_heatNow_53 : decode cX8_heatNow 53 = .ok (.iinc 2 1, 3) := dk_132 2 1 (dk_at dksX8_heatNow_2 6 rfl rfl)
theorem dX8_heatNow_56 : decode cX8_heatNow 56 = .ok (.goto (-52), 3) := dk_167 255 204 (dk_at dksX8_heatNow_2 9 rfl rfl)
theorem dX8_heatNow_59 : decode cX8_heatNow 59 = .ok (.iload_n 1, 1) := dk_27 (dk_at dksX8_heatNow_2 12 rfl rfl)
theorem dX8_heatNow_60 : decode cX8_heatNow 60 = .ok (.ireturn, 1) := dk_172 (dk_at dksX8_heatNow_2 13 rfl rfl)
abbrev cX8_keep : ByteArray := prog_16_method_15_code
def yX8_keep : MethodName := ⟨RX8, "keep", "(I)I"⟩
def dkwX8_keep_2 : List UInt8 := [42, 180, 0, 23, 27, 4, 84, 3, 172]
abbrev dktX8_keep_2 : List UInt8 := dkwX8_keep_2 ++ []
def dkwX8_keep_1 : List UInt8 := [42, 180, 0, 20, 17, 3, 42, 27, 104, 28, 96, 42, 180, 0, 13, 28, 46, 79, 132, 2, 1, 167, 255, 228]
abbrev dktX8_keep_1 : List UInt8 := dkwX8_keep_1 ++ dktX8_keep_2
def dkwX8_keep_0 : List UInt8 := [27, 133, 9, 20, 0, 120, 184, 0, 110, 154, 0, 6, 16, 254, 172, 3, 61, 28, 17, 3, 42, 162, 0, 27]
abbrev dktX8_keep_0 : List UInt8 := dkwX8_keep_0 ++ dktX8_keep_1
theorem dksX8_keep_0 : cX8_keep.data.toList.drop 0 = dktX8_keep_0 := by decide +kernel
theorem dksX8_keep_1 : cX8_keep.data.toList.drop 24 = dktX8_keep_1 := dk_seg dksX8_keep_0 24 rfl rfl
theorem dksX8_keep_2 : cX8_keep.data.toList.drop 48 = dktX8_keep_2 := dk_seg dksX8_keep_1 24 rfl rfl
theorem dX8_keep_0 : decode cX8_keep 0 = .ok (.iload_n 1, 1) := dk_27 (dk_at dksX8_keep_0 0 rfl rfl)
theorem dX8_keep_1 : decode cX8_keep 1 = .ok (.i2l, 1) := dk_133 (dk_at dksX8_keep_0 1 rfl rfl)
theorem dX8_keep_2 : decode cX8_keep 2 = .ok (.lconst 0, 1) := dk_9 (dk_at dksX8_keep_0 2 rfl rfl)
theorem dX8_keep_3 : decode cX8_keep 3 = .ok (.ldc2_w 120, 3) := dk_20 0 120 (dk_at dksX8_keep_0 3 rfl rfl)
theorem dX8_keep_6 : decode cX8_keep 6 = .ok (.invokestatic 110, 3) := dk_184 0 110 (dk_at dksX8_keep_0 6 rfl rfl)
theorem dX8_keep_9 : decode cX8_keep 9 = .ok (.ifCond .ne 6, 3) := dk_154 0 6 (dk_at dksX8_keep_0 9 rfl rfl)
theorem dX8_keep_12 : decode cX8_keep 12 = .ok (.bipush (-2), 2) := dk_16 254 (dk_at dksX8_keep_0 12 rfl rfl)
theorem dX8_keep_14 : decode cX8_keep 14 = .ok (.ireturn, 1) := dk_172 (dk_at dksX8_keep_0 14 rfl rfl)
theorem dX8_keep_15 : decode cX8_keep 15 = .ok (.iconst 0, 1) := dk_3 (dk_at dksX8_keep_0 15 rfl rfl)
theorem dX8_keep_16 : decode cX8_keep 16 = .ok (.istore_n 2, 1) := dk_61 (dk_at dksX8_keep_0 16 rfl rfl)
theorem dX8_keep_17 : decode cX8_keep 17 = .ok (.iload_n 2, 1) := dk_28 (dk_at dksX8_keep_0 17 rfl rfl)
theorem dX8_keep_18 : decode cX8_keep 18 = .ok (.sipush 810, 3) := dk_17 3 42 (dk_at dksX8_keep_0 18 rfl rfl)
theorem dX8_keep_21 : decode cX8_keep 21 = .ok (.if_icmp .ge 27, 3) := dk_162 0 27 (dk_at dksX8_keep_0 21 rfl rfl)
theorem dX8_keep_24 : decode cX8_keep 24 = .ok (.aload_n 0, 1) := dk_42 (dk_at dksX8_keep_1 0 rfl rfl)
theorem dX8_keep_25 : decode cX8_keep 25 = .ok (.getfield 20, 3) := dk_180 0 20 (dk_at dksX8_keep_1 1 rfl rfl)
theorem dX8_keep_28 : decode cX8_keep 28 = .ok (.sipush 810, 3) := dk_17 3 42 (dk_at dksX8_keep_1 4 rfl rfl)
theorem dX8_keep_31 : decode cX8_keep 31 = .ok (.iload_n 1, 1) := dk_27 (dk_at dksX8_keep_1 7 rfl rfl)
theorem dX8_keep_32 : decode cX8_keep 32 = .ok (.imul, 1) := dk_104 (dk_at dksX8_keep_1 8 rfl rfl)
theorem dX8_keep_33 : decode cX8_keep 33 = .ok (.iload_n 2, 1) := dk_28 (dk_at dksX8_keep_1 9 rfl rfl)
theorem dX8_keep_34 : decode cX8_keep 34 = .ok (.iadd, 1) := dk_96 (dk_at dksX8_keep_1 10 rfl rfl)
theorem dX8_keep_35 : decode cX8_keep 35 = .ok (.aload_n 0, 1) := dk_42 (dk_at dksX8_keep_1 11 rfl rfl)
theorem dX8_keep_36 : decode cX8_keep 36 = .ok (.getfield 13, 3) := dk_180 0 13 (dk_at dksX8_keep_1 12 rfl rfl)
theorem dX8_keep_39 : decode cX8_keep 39 = .ok (.iload_n 2, 1) := dk_28 (dk_at dksX8_keep_1 15 rfl rfl)
theorem dX8_keep_40 : decode cX8_keep 40 = .ok (.iaload, 1) := dk_46 (dk_at dksX8_keep_1 16 rfl rfl)
theorem dX8_keep_41 : decode cX8_keep 41 = .ok (.iastore, 1) := dk_79 (dk_at dksX8_keep_1 17 rfl rfl)
theorem dX8_keep_42 : decode cX8_keep 42 = .ok (.iinc 2 1, 3) := dk_132 2 1 (dk_at dksX8_keep_1 18 rfl rfl)
theorem dX8_keep_45 : decode cX8_keep 45 = .ok (.goto (-28), 3) := dk_167 255 228 (dk_at dksX8_keep_1 21 rfl rfl)
theorem dX8_keep_48 : decode cX8_keep 48 = .ok (.aload_n 0, 1) := dk_42 (dk_at dksX8_keep_2 0 rfl rfl)
theorem dX8_keep_49 : decode cX8_keep 49 = .ok (.getfield 23, 3) := dk_180 0 23 (dk_at dksX8_keep_2 1 rfl rfl)
theorem dX8_keep_52 : decode cX8_keep 52 = .ok (.iload_n 1, 1) := dk_27 (dk_at dksX8_keep_2 4 rfl rfl)
theorem dX8_keep_53 : decode cX8_keep 53 = .ok (.iconst 1, 1) := dk_4 (dk_at dksX8_keep_2 5 rfl rfl)
theorem dX8_keep_54 : decode cX8_keep 54 = .ok (.bastore, 1) := dk_84 (dk_at dksX8_keep_2 6 rfl rfl)
theorem dX8_keep_55 : decode cX8_keep 55 = .ok (.iconst 0, 1) := dk_3 (dk_at dksX8_keep_2 7 rfl rfl)
theorem dX8_keep_56 : decode cX8_keep 56 = .ok (.ireturn, 1) := dk_172 (dk_at dksX8_keep_2 8 rfl rfl)
abbrev cX8_in : ByteArray := prog_16_method_2_code
def yX8_in : MethodName := ⟨RX8, "in", "(JJJ)Z"⟩
def dkwX8_in_0 : List UInt8 := [30, 32, 148, 155, 0, 14, 30, 22, 4, 148, 157, 0, 7, 4, 167, 0, 4, 3, 172]
abbrev dktX8_in_0 : List UInt8 := dkwX8_in_0 ++ []
theorem dksX8_in_0 : cX8_in.data.toList.drop 0 = dktX8_in_0 := by decide +kernel
theorem dX8_in_0 : decode cX8_in 0 = .ok (.lload_n 0, 1) := dk_30 (dk_at dksX8_in_0 0 rfl rfl)
theorem dX8_in_1 : decode cX8_in 1 = .ok (.lload_n 2, 1) := dk_32 (dk_at dksX8_in_0 1 rfl rfl)
theorem dX8_in_2 : decode cX8_in 2 = .ok (.lcmp, 1) := dk_148 (dk_at dksX8_in_0 2 rfl rfl)
theorem dX8_in_3 : decode cX8_in 3 = .ok (.ifCond .lt 14, 3) := dk_155 0 14 (dk_at dksX8_in_0 3 rfl rfl)
theorem dX8_in_6 : decode cX8_in 6 = .ok (.lload_n 0, 1) := dk_30 (dk_at dksX8_in_0 6 rfl rfl)
theorem dX8_in_7 : decode cX8_in 7 = .ok (.lload 4, 2) := dk_22 4 (dk_at dksX8_in_0 7 rfl rfl)
theorem dX8_in_9 : decode cX8_in 9 = .ok (.lcmp, 1) := dk_148 (dk_at dksX8_in_0 9 rfl rfl)
theorem dX8_in_10 : decode cX8_in 10 = .ok (.ifCond .gt 7, 3) := dk_157 0 7 (dk_at dksX8_in_0 10 rfl rfl)
theorem dX8_in_13 : decode cX8_in 13 = .ok (.iconst 1, 1) := dk_4 (dk_at dksX8_in_0 13 rfl rfl)
theorem dX8_in_14 : decode cX8_in 14 = .ok (.goto 4, 3) := dk_167 0 4 (dk_at dksX8_in_0 14 rfl rfl)
theorem dX8_in_17 : decode cX8_in 17 = .ok (.iconst 0, 1) := dk_3 (dk_at dksX8_in_0 17 rfl rfl)
theorem dX8_in_18 : decode cX8_in 18 = .ok (.ireturn, 1) := dk_172 (dk_at dksX8_in_0 18 rfl rfl)
abbrev cX8_back : ByteArray := prog_16_method_16_code
def yX8_back : MethodName := ⟨RX8, "back", "(I)I"⟩
def dkwX8_back_2 : List UInt8 := [27, 104, 28, 96, 46, 79, 132, 2, 1, 167, 255, 228, 3, 172]
abbrev dktX8_back_2 : List UInt8 := dkwX8_back_2 ++ []
def dkwX8_back_1 : List UInt8 := [16, 250, 172, 3, 61, 28, 17, 3, 42, 162, 0, 27, 42, 180, 0, 13, 28, 42, 180, 0, 20, 17, 3, 42]
abbrev dktX8_back_1 : List UInt8 := dkwX8_back_1 ++ dktX8_back_2
def dkwX8_back_0 : List UInt8 := [27, 133, 9, 20, 0, 120, 184, 0, 110, 154, 0, 6, 16, 254, 172, 42, 180, 0, 23, 27, 51, 154, 0, 6]
abbrev dktX8_back_0 : List UInt8 := dkwX8_back_0 ++ dktX8_back_1
theorem dksX8_back_0 : cX8_back.data.toList.drop 0 = dktX8_back_0 := by decide +kernel
theorem dksX8_back_1 : cX8_back.data.toList.drop 24 = dktX8_back_1 := dk_seg dksX8_back_0 24 rfl rfl
theorem dksX8_back_2 : cX8_back.data.toList.drop 48 = dktX8_back_2 := dk_seg dksX8_back_1 24 rfl rfl
theorem dX8_back_0 : decode cX8_back 0 = .ok (.iload_n 1, 1) := dk_27 (dk_at dksX8_back_0 0 rfl rfl)
theorem dX8_back_1 : decode cX8_back 1 = .ok (.i2l, 1) := dk_133 (dk_at dksX8_back_0 1 rfl rfl)
theorem dX8_back_2 : decode cX8_back 2 = .ok (.lconst 0, 1) := dk_9 (dk_at dksX8_back_0 2 rfl rfl)
theorem dX8_back_3 : decode cX8_back 3 = .ok (.ldc2_w 120, 3) := dk_20 0 120 (dk_at dksX8_back_0 3 rfl rfl)
theorem dX8_back_6 : decode cX8_back 6 = .ok (.invokestatic 110, 3) := dk_184 0 110 (dk_at dksX8_back_0 6 rfl rfl)
theorem dX8_back_9 : decode cX8_back 9 = .ok (.ifCond .ne 6, 3) := dk_154 0 6 (dk_at dksX8_back_0 9 rfl rfl)
theorem dX8_back_12 : decode cX8_back 12 = .ok (.bipush (-2), 2) := dk_16 254 (dk_at dksX8_back_0 12 rfl rfl)
theorem dX8_back_14 : decode cX8_back 14 = .ok (.ireturn, 1) := dk_172 (dk_at dksX8_back_0 14 rfl rfl)
theorem dX8_back_15 : decode cX8_back 15 = .ok (.aload_n 0, 1) := dk_42 (dk_at dksX8_back_0 15 rfl rfl)
theorem dX8_back_16 : decode cX8_back 16 = .ok (.getfield 23, 3) := dk_180 0 23 (dk_at dksX8_back_0 16 rfl rfl)
theorem dX8_back_19 : decode cX8_back 19 = .ok (.iload_n 1, 1) := dk_27 (dk_at dksX8_back_0 19 rfl rfl)
theorem dX8_back_20 : decode cX8_back 20 = .ok (.baload, 1) := dk_51 (dk_at dksX8_back_0 20 rfl rfl)
theorem dX8_back_21 : decode cX8_back 21 = .ok (.ifCond .ne 6, 3) := dk_154 0 6 (dk_at dksX8_back_0 21 rfl rfl)
theorem dX8_back_24 : decode cX8_back 24 = .ok (.bipush (-6), 2) := dk_16 250 (dk_at dksX8_back_1 0 rfl rfl)
theorem dX8_back_26 : decode cX8_back 26 = .ok (.ireturn, 1) := dk_172 (dk_at dksX8_back_1 2 rfl rfl)
theorem dX8_back_27 : decode cX8_back 27 = .ok (.iconst 0, 1) := dk_3 (dk_at dksX8_back_1 3 rfl rfl)
theorem dX8_back_28 : decode cX8_back 28 = .ok (.istore_n 2, 1) := dk_61 (dk_at dksX8_back_1 4 rfl rfl)
theorem dX8_back_29 : decode cX8_back 29 = .ok (.iload_n 2, 1) := dk_28 (dk_at dksX8_back_1 5 rfl rfl)
theorem dX8_back_30 : decode cX8_back 30 = .ok (.sipush 810, 3) := dk_17 3 42 (dk_at dksX8_back_1 6 rfl rfl)
theorem dX8_back_33 : decode cX8_back 33 = .ok (.if_icmp .ge 27, 3) := dk_162 0 27 (dk_at dksX8_back_1 9 rfl rfl)
theorem dX8_back_36 : decode cX8_back 36 = .ok (.aload_n 0, 1) := dk_42 (dk_at dksX8_back_1 12 rfl rfl)
theorem dX8_back_37 : decode cX8_back 37 = .ok (.getfield 13, 3) := dk_180 0 13 (dk_at dksX8_back_1 13 rfl rfl)
theorem dX8_back_40 : decode cX8_back 40 = .ok (.iload_n 2, 1) := dk_28 (dk_at dksX8_back_1 16 rfl rfl)
theorem dX8_back_41 : decode cX8_back 41 = .ok (.aload_n 0, 1) := dk_42 (dk_at dksX8_back_1 17 rfl rfl)
theorem dX8_back_42 : decode cX8_back 42 = .ok (.getfield 20, 3) := dk_180 0 20 (dk_at dksX8_back_1 18 rfl rfl)
theorem dX8_back_45 : decode cX8_back 45 = .ok (.sipush 810, 3) := dk_17 3 42 (dk_at dksX8_back_1 21 rfl rfl)
theorem dX8_back_48 : decode cX8_back 48 = .ok (.iload_n 1, 1) := dk_27 (dk_at dksX8_back_2 0 rfl rfl)
theorem dX8_back_49 : decode cX8_back 49 = .ok (.imul, 1) := dk_104 (dk_at dksX8_back_2 1 rfl rfl)
theorem dX8_back_50 : decode cX8_back 50 = .ok (.iload_n 2, 1) := dk_28 (dk_at dksX8_back_2 2 rfl rfl)
theorem dX8_back_51 : decode cX8_back 51 = .ok (.iadd, 1) := dk_96 (dk_at dksX8_back_2 3 rfl rfl)
theorem dX8_back_52 : decode cX8_back 52 = .ok (.iaload, 1) := dk_46 (dk_at dksX8_back_2 4 rfl rfl)
theorem dX8_back_53 : decode cX8_back 53 = .ok (.iastore, 1) := dk_79 (dk_at dksX8_back_2 5 rfl rfl)
theorem dX8_back_54 : decode cX8_back 54 = .ok (.iinc 2 1, 3) := dk_132 2 1 (dk_at dksX8_back_2 6 rfl rfl)
theorem dX8_back_57 : decode cX8_back 57 = .ok (.goto (-28), 3) := dk_167 255 228 (dk_at dksX8_back_2 9 rfl rfl)
theorem dX8_back_60 : decode cX8_back 60 = .ok (.iconst 0, 1) := dk_3 (dk_at dksX8_back_2 12 rfl rfl)
theorem dX8_back_61 : decode cX8_back 61 = .ok (.ireturn, 1) := dk_172 (dk_at dksX8_back_2 13 rfl rfl)
abbrev cX8_feed : ByteArray := prog_16_method_19_code
def yX8_feed : MethodName := ⟨RX8, "feed", "(IIIII)I"⟩
def dkwX8_feed_5 : List UInt8 := [180, 0, 122, 172]
abbrev dktX8_feed_5 : List UInt8 := dkwX8_feed_5 ++ []
def dkwX8_feed_4 : List UInt8 := [100, 122, 145, 84, 132, 6, 1, 167, 255, 213, 42, 89, 180, 0, 122, 16, 20, 96, 181, 0, 122, 42]
abbrev dktX8_feed_4 : List UInt8 := dkwX8_feed_4 ++ dktX8_feed_5
def dkwX8_feed_3 : List UInt8 := [180, 0, 122, 21, 6, 96, 42, 180, 0, 31, 21, 6, 7, 108, 46, 16, 24, 16, 8, 21, 6, 7, 112, 104]
abbrev dktX8_feed_3 : List UInt8 := dkwX8_feed_3 ++ dktX8_feed_4
def dkwX8_feed_2 : List UInt8 := [180, 0, 31, 7, 21, 5, 79, 3, 54, 6, 21, 6, 16, 20, 162, 0, 42, 42, 180, 0, 27, 42]
abbrev dktX8_feed_2 : List UInt8 := dkwX8_feed_2 ++ dktX8_feed_3
def dkwX8_feed_1 : List UInt8 := [180, 0, 31, 4, 28, 79, 42, 180, 0, 31, 5, 29, 79, 42, 180, 0, 31, 6, 21, 4, 79, 42]
abbrev dktX8_feed_1 : List UInt8 := dkwX8_feed_1 ++ dktX8_feed_2
def dkwX8_feed_0 : List UInt8 := [42, 180, 0, 122, 16, 20, 96, 17, 2, 188, 164, 0, 5, 2, 172, 42, 180, 0, 31, 3, 27, 79, 42]
abbrev dktX8_feed_0 : List UInt8 := dkwX8_feed_0 ++ dktX8_feed_1
theorem dksX8_feed_0 : cX8_feed.data.toList.drop 0 = dktX8_feed_0 := by decide +kernel
theorem dksX8_feed_1 : cX8_feed.data.toList.drop 23 = dktX8_feed_1 := dk_seg dksX8_feed_0 23 rfl rfl
theorem dksX8_feed_2 : cX8_feed.data.toList.drop 45 = dktX8_feed_2 := dk_seg dksX8_feed_1 22 rfl rfl
theorem dksX8_feed_3 : cX8_feed.data.toList.drop 67 = dktX8_feed_3 := dk_seg dksX8_feed_2 22 rfl rfl
theorem dksX8_feed_4 : cX8_feed.data.toList.drop 91 = dktX8_feed_4 := dk_seg dksX8_feed_3 24 rfl rfl
theorem dksX8_feed_5 : cX8_feed.data.toList.drop 113 = dktX8_feed_5 := dk_seg dksX8_feed_4 22 rfl rfl
theorem dX8_feed_0 : decode cX8_feed 0 = .ok (.aload_n 0, 1) := dk_42 (dk_at dksX8_feed_0 0 rfl rfl)
theorem dX8_feed_1 : decode cX8_feed 1 = .ok (.getfield 122, 3) := dk_180 0 122 (dk_at dksX8_feed_0 1 rfl rfl)
theorem dX8_feed_4 : decode cX8_feed 4 = .ok (.bipush 20, 2) := dk_16 20 (dk_at dksX8_feed_0 4 rfl rfl)
theorem dX8_feed_6 : decode cX8_feed 6 = .ok (.iadd, 1) := dk_96 (dk_at dksX8_feed_0 6 rfl rfl)
theorem dX8_feed_7 : decode cX8_feed 7 = .ok (.sipush 700, 3) := dk_17 2 188 (dk_at dksX8_feed_0 7 rfl rfl)
theorem dX8_feed_10 : decode cX8_feed 10 = .ok (.if_icmp .le 5, 3) := dk_164 0 5 (dk_at dksX8_feed_0 10 rfl rfl)
theorem dX8_feed_13 : decode cX8_feed 13 = .ok (.iconst (-1), 1) := dk_2 (dk_at dksX8_feed_0 13 rfl rfl)
theorem dX8_feed_14 : decode cX8_feed 14 = .ok (.ireturn, 1) := dk_172 (dk_at dksX8_feed_0 14 rfl rfl)
theorem dX8_feed_15 : decode cX8_feed 15 = .ok (.aload_n 0, 1) := dk_42 (dk_at dksX8_feed_0 15 rfl rfl)
theorem dX8_feed_16 : decode cX8_feed 16 = .ok (.getfield 31, 3) := dk_180 0 31 (dk_at dksX8_feed_0 16 rfl rfl)
theorem dX8_feed_19 : decode cX8_feed 19 = .ok (.iconst 0, 1) := dk_3 (dk_at dksX8_feed_0 19 rfl rfl)
theorem dX8_feed_20 : decode cX8_feed 20 = .ok (.iload_n 1, 1) := dk_27 (dk_at dksX8_feed_0 20 rfl rfl)
theorem dX8_feed_21 : decode cX8_feed 21 = .ok (.iastore, 1) := dk_79 (dk_at dksX8_feed_0 21 rfl rfl)
theorem dX8_feed_22 : decode cX8_feed 22 = .ok (.aload_n 0, 1) := dk_42 (dk_at dksX8_feed_0 22 rfl rfl)
theorem dX8_feed_23 : decode cX8_feed 23 = .ok (.getfield 31, 3) := dk_180 0 31 (dk_at dksX8_feed_1 0 rfl rfl)
theorem dX8_feed_26 : decode cX8_feed 26 = .ok (.iconst 1, 1) := dk_4 (dk_at dksX8_feed_1 3 rfl rfl)
theorem dX8_feed_27 : decode cX8_feed 27 = .ok (.iload_n 2, 1) := dk_28 (dk_at dksX8_feed_1 4 rfl rfl)
theorem dX8_feed_28 : decode cX8_feed 28 = .ok (.iastore, 1) := dk_79 (dk_at dksX8_feed_1 5 rfl rfl)
theorem dX8_feed_29 : decode cX8_feed 29 = .ok (.aload_n 0, 1) := dk_42 (dk_at dksX8_feed_1 6 rfl rfl)
theorem dX8_feed_30 : decode cX8_feed 30 = .ok (.getfield 31, 3) := dk_180 0 31 (dk_at dksX8_feed_1 7 rfl rfl)
theorem dX8_feed_33 : decode cX8_feed 33 = .ok (.iconst 2, 1) := dk_5 (dk_at dksX8_feed_1 10 rfl rfl)
theorem dX8_feed_34 : decode cX8_feed 34 = .ok (.iload_n 3, 1) := dk_29 (dk_at dksX8_feed_1 11 rfl rfl)
theorem dX8_feed_35 : decode cX8_feed 35 = .ok (.iastore, 1) := dk_79 (dk_at dksX8_feed_1 12 rfl rfl)
theorem dX8_feed_36 : decode cX8_feed 36 = .ok (.aload_n 0, 1) := dk_42 (dk_at dksX8_feed_1 13 rfl rfl)
theorem dX8_feed_37 : decode cX8_feed 37 = .ok (.getfield 31, 3) := dk_180 0 31 (dk_at dksX8_feed_1 14 rfl rfl)
theorem dX8_feed_40 : decode cX8_feed 40 = .ok (.iconst 3, 1) := dk_6 (dk_at dksX8_feed_1 17 rfl rfl)
theorem dX8_feed_41 : decode cX8_feed 41 = .ok (.iload 4, 2) := dk_21 4 (dk_at dksX8_feed_1 18 rfl rfl)
theorem dX8_feed_43 : decode cX8_feed 43 = .ok (.iastore, 1) := dk_79 (dk_at dksX8_feed_1 20 rfl rfl)
theorem dX8_feed_44 : decode cX8_feed 44 = .ok (.aload_n 0, 1) := dk_42 (dk_at dksX8_feed_1 21 rfl rfl)
theorem dX8_feed_45 : decode cX8_feed 45 = .ok (.getfield 31, 3) := dk_180 0 31 (dk_at dksX8_feed_2 0 rfl rfl)
theorem dX8_feed_48 : decode cX8_feed 48 = .ok (.iconst 4, 1) := dk_7 (dk_at dksX8_feed_2 3 rfl rfl)
theorem dX8_feed_49 : decode cX8_feed 49 = .ok (.iload 5, 2) := dk_21 5 (dk_at dksX8_feed_2 4 rfl rfl)
theorem dX8_feed_51 : decode cX8_feed 51 = .ok (.iastore, 1) := dk_79 (dk_at dksX8_feed_2 6 rfl rfl)
theorem dX8_feed_52 : decode cX8_feed 52 = .ok (.iconst 0, 1) := dk_3 (dk_at dksX8_feed_2 7 rfl rfl)
theorem dX8_feed_53 : decode cX8_feed 53 = .ok (.istore 6, 2) := dk_54 6 (dk_at dksX8_feed_2 8 rfl rfl)
theorem dX8_feed_55 : decode cX8_feed 55 = .ok (.iload 6, 2) := dk_21 6 (dk_at dksX8_feed_2 10 rfl rfl)
theorem dX8_feed_57 : decode cX8_feed 57 = .ok (.bipush 20, 2) := dk_16 20 (dk_at dksX8_feed_2 12 rfl rfl)
theorem dX8_feed_59 : decode cX8_feed 59 = .ok (.if_icmp .ge 42, 3) := dk_162 0 42 (dk_at dksX8_feed_2 14 rfl rfl)
theorem dX8_feed_62 : decode cX8_feed 62 = .ok (.aload_n 0, 1) := dk_42 (dk_at dksX8_feed_2 17 rfl rfl)
theorem dX8_feed_63 : decode cX8_feed 63 = .ok (.getfield 27, 3) := dk_180 0 27 (dk_at dksX8_feed_2 18 rfl rfl)
theorem dX8_feed_66 : decode cX8_feed 66 = .ok (.aload_n 0, 1) := dk_42 (dk_at dksX8_feed_2 21 rfl rfl)
theorem dX8_feed_67 : decode cX8_feed 67 = .ok (.getfield 122, 3) := dk_180 0 122 (dk_at dksX8_feed_3 0 rfl rfl)
theorem dX8_feed_70 : decode cX8_feed 70 = .ok (.iload 6, 2) := dk_21 6 (dk_at dksX8_feed_3 3 rfl rfl)
theorem dX8_feed_72 : decode cX8_feed 72 = .ok (.iadd, 1) := dk_96 (dk_at dksX8_feed_3 5 rfl rfl)
theorem dX8_feed_73 : decode cX8_feed 73 = .ok (.aload_n 0, 1) := dk_42 (dk_at dksX8_feed_3 6 rfl rfl)
theorem dX8_feed_74 : decode cX8_feed 74 = .ok (.getfield 31, 3) := dk_180 0 31 (dk_at dksX8_feed_3 7 rfl rfl)
theorem dX8_feed_77 : decode cX8_feed 77 = .ok (.iload 6, 2) := dk_21 6 (dk_at dksX8_feed_3 10 rfl rfl)
theorem dX8_feed_79 : decode cX8_feed 79 = .ok (.iconst 4, 1) := dk_7 (dk_at dksX8_feed_3 12 rfl rfl)
theorem dX8_feed_80 : decode cX8_feed 80 = .ok (.idiv, 1) := dk_108 (dk_at dksX8_feed_3 13 rfl rfl)
theorem dX8_feed_81 : decode cX8_feed 81 = .ok (.iaload, 1) := dk_46 (dk_at dksX8_feed_3 14 rfl rfl)
theorem dX8_feed_82 : decode cX8_feed 82 = .ok (.bipush 24, 2) := dk_16 24 (dk_at dksX8_feed_3 15 rfl rfl)
theorem dX8_feed_84 : decode cX8_feed 84 = .ok (.bipush 8, 2) := dk_16 8 (dk_at dksX8_feed_3 17 rfl rfl)
theorem dX8_feed_86 : decode cX8_feed 86 = .ok (.iload 6, 2) := dk_21 6 (dk_at dksX8_feed_3 19 rfl rfl)
theorem dX8_feed_88 : decode cX8_feed 88 = .ok (.iconst 4, 1) := dk_7 (dk_at dksX8_feed_3 21 rfl rfl)
theorem dX8_feed_89 : decode cX8_feed 89 = .ok (.irem, 1) := dk_112 (dk_at dksX8_feed_3 22 rfl rfl)
theorem dX8_feed_90 : decode cX8_feed 90 = .ok (.imul, 1) := dk_104 (dk_at dksX8_feed_3 23 rfl rfl)
theorem dX8_feed_91 : decode cX8_feed 91 = .ok (.isub, 1) := dk_100 (dk_at dksX8_feed_4 0 rfl rfl)
theorem dX8_feed_92 : decode cX8_feed 92 = .ok (.ishr, 1) := dk_122 (dk_at dksX8_feed_4 1 rfl rfl)
theorem dX8_feed_93 : decode cX8_feed 93 = .ok (.i2b, 1) := dk_145 (dk_at dksX8_feed_4 2 rfl rfl)
theorem dX8_feed_94 : decode cX8_feed 94 = .ok (.bastore, 1) := dk_84 (dk_at dksX8_feed_4 3 rfl rfl)
theorem dX8_feed_95 : decode cX8_feed 95 = .ok (.iinc 6 1, 3) := dk_132 6 1 (dk_at dksX8_feed_4 4 rfl rfl)
theorem dX8_feed_98 : decode cX8_feed 98 = .ok (.goto (-43), 3) := dk_167 255 213 (dk_at dksX8_feed_4 7 rfl rfl)
theorem dX8_feed_101 : decode cX8_feed 101 = .ok (.aload_n 0, 1) := dk_42 (dk_at dksX8_feed_4 10 rfl rfl)
theorem dX8_feed_102 : decode cX8_feed 102 = .ok (.dup, 1) := dk_89 (dk_at dksX8_feed_4 11 rfl rfl)
theorem dX8_feed_103 : decode cX8_feed 103 = .ok (.getfield 122, 3) := dk_180 0 122 (dk_at dksX8_feed_4 12 rfl rfl)
theorem dX8_feed_106 : decode cX8_feed 106 = .ok (.bipush 20, 2) := dk_16 20 (dk_at dksX8_feed_4 15 rfl rfl)
theorem dX8_feed_108 : decode cX8_feed 108 = .ok (.iadd, 1) := dk_96 (dk_at dksX8_feed_4 17 rfl rfl)
theorem dX8_feed_109 : decode cX8_feed 109 = .ok (.putfield 122, 3) := dk_181 0 122 (dk_at dksX8_feed_4 18 rfl rfl)
theorem dX8_feed_112 : decode cX8_feed 112 = .ok (.aload_n 0, 1) := dk_42 (dk_at dksX8_feed_4 21 rfl rfl)
theorem dX8_feed_113 : decode cX8_feed 113 = .ok (.getfield 122, 3) := dk_180 0 122 (dk_at dksX8_feed_5 0 rfl rfl)
theorem dX8_feed_116 : decode cX8_feed 116 = .ok (.ireturn, 1) := dk_172 (dk_at dksX8_feed_5 3 rfl rfl)
abbrev cX8_end : ByteArray := prog_16_method_20_code
def yX8_end : MethodName := ⟨RX8, "end", "(I)I"⟩
def dkwX8_end_0 : List UInt8 := [27, 133, 9, 42, 180, 0, 122, 133, 184, 0, 110, 154, 0, 5, 2, 172, 42, 27, 181, 0, 122, 27, 172]
abbrev dktX8_end_0 : List UInt8 := dkwX8_end_0 ++ []
theorem dksX8_end_0 : cX8_end.data.toList.drop 0 = dktX8_end_0 := by decide +kernel
theorem dX8_end_0 : decode cX8_end 0 = .ok (.iload_n 1, 1) := dk_27 (dk_at dksX8_end_0 0 rfl rfl)
theorem dX8_end_1 : decode cX8_end 1 = .ok (.i2l, 1) := dk_133 (dk_at dksX8_end_0 1 rfl rfl)
theorem dX8_end_2 : decode cX8_end 2 = .ok (.lconst 0, 1) := dk_9 (dk_at dksX8_end_0 2 rfl rfl)
theorem dX8_end_3 : decode cX8_end 3 = .ok (.aload_n 0, 1) := dk_42 (dk_at dksX8_end_0 3 rfl rfl)
theorem dX8_end_4 : decode cX8_end 4 = .ok (.getfield 122, 3) := dk_180 0 122 (dk_at dksX8_end_0 4 rfl rfl)
theorem dX8_end_7 : decode cX8_end 7 = .ok (.i2l, 1) := dk_133 (dk_at dksX8_end_0 7 rfl rfl)
theorem dX8_end_8 : decode cX8_end 8 = .ok (.invokestatic 110, 3) := dk_184 0 110 (dk_at dksX8_end_0 8 rfl rfl)
theorem dX8_end_11 : decode cX8_end 11 = .ok (.ifCond .ne 5, 3) := dk_154 0 5 (dk_at dksX8_end_0 11 rfl rfl)
theorem dX8_end_14 : decode cX8_end 14 = .ok (.iconst (-1), 1) := dk_2 (dk_at dksX8_end_0 14 rfl rfl)
theorem dX8_end_15 : decode cX8_end 15 = .ok (.ireturn, 1) := dk_172 (dk_at dksX8_end_0 15 rfl rfl)
theorem dX8_end_16 : decode cX8_end 16 = .ok (.aload_n 0, 1) := dk_42 (dk_at dksX8_end_0 16 rfl rfl)
theorem dX8_end_17 : decode cX8_end 17 = .ok (.iload_n 1, 1) := dk_27 (dk_at dksX8_end_0 17 rfl rfl)
theorem dX8_end_18 : decode cX8_end 18 = .ok (.putfield 122, 3) := dk_181 0 122 (dk_at dksX8_end_0 18 rfl rfl)
theorem dX8_end_21 : decode cX8_end 21 = .ok (.iload_n 1, 1) := dk_27 (dk_at dksX8_end_0 21 rfl rfl)
theorem dX8_end_22 : decode cX8_end 22 = .ok (.ireturn, 1) := dk_172 (dk_at dksX8_end_0 22 rfl rfl)
abbrev cX8_text : ByteArray := prog_16_method_41_code
def yX8_text : MethodName := ⟨RX8, "text", "()I"⟩
def dkwX8_text_6 : List UInt8 := [132, 1, 1, 167, 255, 234, 42, 182, 0, 90, 42, 180, 0, 13, 3, 46, 172]
abbrev dktX8_text_6 : List UInt8 := dkwX8_text_6 ++ []
def dkwX8_text_5 : List UInt8 := [16, 252, 172, 3, 60, 27, 17, 3, 42, 162, 0, 21, 42, 180, 0, 13, 27, 42, 180, 0, 37, 27, 46, 79]
abbrev dktX8_text_5 : List UInt8 := dkwX8_text_5 ++ dktX8_text_6
def dkwX8_text_4 : List UInt8 := [153, 0, 17, 42, 180, 0, 138, 153, 0, 10, 42, 182, 1, 42, 167, 255, 238, 42, 182, 0, 161, 154, 0, 6]
abbrev dktX8_text_4 : List UInt8 := dkwX8_text_4 ++ dktX8_text_5
def dkwX8_text_3 : List UInt8 := [162, 0, 16, 42, 180, 0, 43, 27, 3, 84, 132, 1, 1, 167, 255, 240, 42, 182, 0, 178, 42, 182, 0, 161]
abbrev dktX8_text_3 : List UInt8 := dkwX8_text_3 ++ dktX8_text_4
def dkwX8_text_2 : List UInt8 := [7, 162, 0, 16, 42, 180, 0, 40, 27, 3, 84, 132, 1, 1, 167, 255, 241, 3, 60, 27, 16, 12]
abbrev dktX8_text_2 : List UInt8 := dkwX8_text_2 ++ dktX8_text_3
def dkwX8_text_1 : List UInt8 := [2, 181, 0, 34, 42, 180, 0, 37, 184, 0, 86, 42, 3, 181, 1, 18, 42, 3, 181, 1, 22, 3, 60, 27]
abbrev dktX8_text_1 : List UInt8 := dkwX8_text_1 ++ dktX8_text_2
def dkwX8_text_0 : List UInt8 := [42, 42, 180, 0, 122, 181, 0, 125, 42, 3, 181, 0, 122, 42, 3, 181, 0, 128, 42, 3, 181, 0, 158, 42]
abbrev dktX8_text_0 : List UInt8 := dkwX8_text_0 ++ dktX8_text_1
theorem dksX8_text_0 : cX8_text.data.toList.drop 0 = dktX8_text_0 := by decide +kernel
theorem dksX8_text_1 : cX8_text.data.toList.drop 24 = dktX8_text_1 := dk_seg dksX8_text_0 24 rfl rfl
theorem dksX8_text_2 : cX8_text.data.toList.drop 48 = dktX8_text_2 := dk_seg dksX8_text_1 24 rfl rfl
theorem dksX8_text_3 : cX8_text.data.toList.drop 70 = dktX8_text_3 := dk_seg dksX8_text_2 22 rfl rfl
theorem dksX8_text_4 : cX8_text.data.toList.drop 94 = dktX8_text_4 := dk_seg dksX8_text_3 24 rfl rfl
theorem dksX8_text_5 : cX8_text.data.toList.drop 118 = dktX8_text_5 := dk_seg dksX8_text_4 24 rfl rfl
theorem dksX8_text_6 : cX8_text.data.toList.drop 142 = dktX8_text_6 := dk_seg dksX8_text_5 24 rfl rfl
theorem dX8_text_0 : decode cX8_text 0 = .ok (.aload_n 0, 1) := dk_42 (dk_at dksX8_text_0 0 rfl rfl)
theorem dX8_text_1 : decode cX8_text 1 = .ok (.aload_n 0, 1) := dk_42 (dk_at dksX8_text_0 1 rfl rfl)
theorem dX8_text_2 : decode cX8_text 2 = .ok (.getfield 122, 3) := dk_180 0 122 (dk_at dksX8_text_0 2 rfl rfl)
theorem dX8_text_5 : decode cX8_text 5 = .ok (.putfield 125, 3) := dk_181 0 125 (dk_at dksX8_text_0 5 rfl rfl)
theorem dX8_text_8 : decode cX8_text 8 = .ok (.aload_n 0, 1) := dk_42 (dk_at dksX8_text_0 8 rfl rfl)
theorem dX8_text_9 : decode cX8_text 9 = .ok (.iconst 0, 1) := dk_3 (dk_at dksX8_text_0 9 rfl rfl)
theorem dX8_text_10 : decode cX8_text 10 = .ok (.putfield 122, 3) := dk_181 0 122 (dk_at dksX8_text_0 10 rfl rfl)
theorem dX8_text_13 : decode cX8_text 13 = .ok (.aload_n 0, 1) := dk_42 (dk_at dksX8_text_0 13 rfl rfl)
theorem dX8_text_14 : decode cX8_text 14 = .ok (.iconst 0, 1) := dk_3 (dk_at dksX8_text_0 14 rfl rfl)
theorem dX8_text_15 : decode cX8_text 15 = .ok (.putfield 128, 3) := dk_181 0 128 (dk_at dksX8_text_0 15 rfl rfl)
theorem dX8_text_18 : decode cX8_text 18 = .ok (.aload_n 0, 1) := dk_42 (dk_at dksX8_text_0 18 rfl rfl)
theorem dX8_text_19 : decode cX8_text 19 = .ok (.iconst 0, 1) := dk_3 (dk_at dksX8_text_0 19 rfl rfl)
theorem dX8_text_20 : decode cX8_text 20 = .ok (.putfield 158, 3) := dk_181 0 158 (dk_at dksX8_text_0 20 rfl rfl)
theorem dX8_text_23 : decode cX8_text 23 = .ok (.aload_n 0, 1) := dk_42 (dk_at dksX8_text_0 23 rfl rfl)
theorem dX8_text_24 : decode cX8_text 24 = .ok (.iconst (-1), 1) := dk_2 (dk_at dksX8_text_1 0 rfl rfl)
theorem dX8_text_25 : decode cX8_text 25 = .ok (.putfield 34, 3) := dk_181 0 34 (dk_at dksX8_text_1 1 rfl rfl)
theorem dX8_text_28 : decode cX8_text 28 = .ok (.aload_n 0, 1) := dk_42 (dk_at dksX8_text_1 4 rfl rfl)
theorem dX8_text_29 : decode cX8_text 29 = .ok (.getfield 37, 3) := dk_180 0 37 (dk_at dksX8_text_1 5 rfl rfl)
theorem dX8_text_32 : decode cX8_text 32 = .ok (.invokestatic 86, 3) := dk_184 0 86 (dk_at dksX8_text_1 8 rfl rfl)
theorem dX8_text_35 : decode cX8_text 35 = .ok (.aload_n 0, 1) := dk_42 (dk_at dksX8_text_1 11 rfl rfl)
theorem dX8_text_36 : decode cX8_text 36 = .ok (.iconst 0, 1) := dk_3 (dk_at dksX8_text_1 12 rfl rfl)
theorem dX8_text_37 : decode cX8_text 37 = .ok (.putfield 274, 3) := dk_181 1 18 (dk_at dksX8_text_1 13 rfl rfl)
theorem dX8_text_40 : decode cX8_text 40 = .ok (.aload_n 0, 1) := dk_42 (dk_at dksX8_text_1 16 rfl rfl)
theorem dX8_text_41 : decode cX8_text 41 = .ok (.iconst 0, 1) := dk_3 (dk_at dksX8_text_1 17 rfl rfl)
theorem dX8_text_42 : decode cX8_text 42 = .ok (.putfield 278, 3) := dk_181 1 22 (dk_at dksX8_text_1 18 rfl rfl)
theorem dX8_text_45 : decode cX8_text 45 = .ok (.iconst 0, 1) := dk_3 (dk_at dksX8_text_1 21 rfl rfl)
theorem dX8_text_46 : decode cX8_text 46 = .ok (.istore_n 1, 1) := dk_60 (dk_at dksX8_text_1 22 rfl rfl)
theorem dX8_text_47 : decode cX8_text 47 = .ok (.iload_n 1, 1) := dk_27 (dk_at dksX8_text_1 23 rfl rfl)
theorem dX8_text_48 : decode cX8_text 48 = .ok (.iconst 4, 1) := dk_7 (dk_at dksX8_text_2 0 rfl rfl)
theorem dX8_text_49 : decode cX8_text 49 = .ok (.if_icmp .ge 16, 3) := dk_162 0 16 (dk_at dksX8_text_2 1 rfl rfl)
theorem dX8_text_52 : decode cX8_text 52 = .ok (.aload_n 0, 1) := dk_42 (dk_at dksX8_text_2 4 rfl rfl)
theorem dX8_text_53 : decode cX8_text 53 = .ok (.getfield 40, 3) := dk_180 0 40 (dk_at dksX8_text_2 5 rfl rfl)
theorem dX8_text_56 : decode cX8_text 56 = .ok (.iload_n 1, 1) := dk_27 (dk_at dksX8_text_2 8 rfl rfl)
theorem dX8_text_57 : decode cX8_text 57 = .ok (.iconst 0, 1) := dk_3 (dk_at dksX8_text_2 9 rfl rfl)
theorem dX8_text_58 : decode cX8_text 58 = .ok (.bastore, 1) := dk_84 (dk_at dksX8_text_2 10 rfl rfl)
theorem dX8_text_59 : decode cX8_text 59 = .ok (.iinc 1 1, 3) := dk_132 1 1 (dk_at dksX8_text_2 11 rfl rfl)
theorem dX8_text_62 : decode cX8_text 62 = .ok (.goto (-15), 3) := dk_167 255 241 (dk_at dksX8_text_2 14 rfl rfl)
theorem dX8_text_65 : decode cX8_text 65 = .ok (.iconst 0, 1) := dk_3 (dk_at dksX8_text_2 17 rfl rfl)
theorem dX8_text_66 : decode cX8_text 66 = .ok (.istore_n 1, 1) := dk_60 (dk_at dksX8_text_2 18 rfl rfl)
theorem dX8_text_67 : decode cX8_text 67 = .ok (.iload_n 1, 1) := dk_27 (dk_at dksX8_text_2 19 rfl rfl)
theorem dX8_text_68 : decode cX8_text 68 = .ok (.bipush 12, 2) := dk_16 12 (dk_at dksX8_text_2 20 rfl rfl)
theorem dX8_text_70 : decode cX8_text 70 = .ok (.if_icmp .ge 16, 3) := dk_162 0 16 (dk_at dksX8_text_3 0 rfl rfl)
theorem dX8_text_73 : decode cX8_text 73 = .ok (.aload_n 0, 1) := dk_42 (dk_at dksX8_text_3 3 rfl rfl)
theorem dX8_text_74 : decode cX8_text 74 = .ok (.getfield 43, 3) := dk_180 0 43 (dk_at dksX8_text_3 4 rfl rfl)
theorem dX8_text_77 : decode cX8_text 77 = .ok (.iload_n 1, 1) := dk_27 (dk_at dksX8_text_3 7 rfl rfl)
theorem dX8_text_78 : decode cX8_text 78 = .ok (.iconst 0, 1) := dk_3 (dk_at dksX8_text_3 8 rfl rfl)
theorem dX8_text_79 : decode cX8_text 79 = .ok (.bastore, 1) := dk_84 (dk_at dksX8_text_3 9 rfl rfl)
theorem dX8_text_80 : decode cX8_text 80 = .ok (.iinc 1 1, 3) := dk_132 1 1 (dk_at dksX8_text_3 10 rfl rfl)
theorem dX8_text_83 : decode cX8_text 83 = .ok (.goto (-16), 3) := dk_167 255 240 (dk_at dksX8_text_3 13 rfl rfl)
theorem dX8_text_86 : decode cX8_text 86 = .ok (.aload_n 0, 1) := dk_42 (dk_at dksX8_text_3 16 rfl rfl)
theorem dX8_text_87 : decode cX8_text 87 = .ok (.invokevirtual 178, 3) := dk_182 0 178 (dk_at dksX8_text_3 17 rfl rfl)
theorem dX8_text_90 : decode cX8_text 90 = .ok (.aload_n 0, 1) := dk_42 (dk_at dksX8_text_3 20 rfl rfl)
theorem dX8_text_91 : decode cX8_text 91 = .ok (.invokevirtual 161, 3) := dk_182 0 161 (dk_at dksX8_text_3 21 rfl rfl)
theorem dX8_text_94 : decode cX8_text 94 = .ok (.ifCond .eq 17, 3) := dk_153 0 17 (dk_at dksX8_text_4 0 rfl rfl)
theorem dX8_text_97 : decode cX8_text 97 = .ok (.aload_n 0, 1) := dk_42 (dk_at dksX8_text_4 3 rfl rfl)
theorem dX8_text_98 : decode cX8_text 98 = .ok (.getfield 138, 3) := dk_180 0 138 (dk_at dksX8_text_4 4 rfl rfl)
theorem dX8_text_101 : decode cX8_text 101 = .ok (.ifCond .eq 10, 3) := dk_153 0 10 (dk_at dksX8_text_4 7 rfl rfl)
theorem dX8_text_104 : decode cX8_text 104 = .ok (.aload_n 0, 1) := dk_42 (dk_at dksX8_text_4 10 rfl rfl)
theorem dX8_text_105 : decode cX8_text 105 = .ok (.invokevirtual 298, 3) := dk_182 1 42 (dk_at dksX8_text_4 11 rfl rfl)
theorem dX8_text_108 : decode cX8_text 108 = .ok (.goto (-18), 3) := dk_167 255 238 (dk_at dksX8_text_4 14 rfl rfl)
theorem dX8_text_111 : decode cX8_text 111 = .ok (.aload_n 0, 1) := dk_42 (dk_at dksX8_text_4 17 rfl rfl)
theorem dX8_text_112 : decode cX8_text 112 = .ok (.invokevirtual 161, 3) := dk_182 0 161 (dk_at dksX8_text_4 18 rfl rfl)
theorem dX8_text_115 : decode cX8_text 115 = .ok (.ifCond .ne 6, 3) := dk_154 0 6 (dk_at dksX8_text_4 21 rfl rfl)
theorem dX8_text_118 : decode cX8_text 118 = .ok (.bipush (-4), 2) := dk_16 252 (dk_at dksX8_text_5 0 rfl rfl)
theorem dX8_text_120 : decode cX8_text 120 = .ok (.ireturn, 1) := dk_172 (dk_at dksX8_text_5 2 rfl rfl)
theorem dX8_text_121 : decode cX8_text 121 = .ok (.iconst 0, 1) := dk_3 (dk_at dksX8_text_5 3 rfl rfl)
theorem dX8_text_122 : decode cX8_text 122 = .ok (.istore_n 1, 1) := dk_60 (dk_at dksX8_text_5 4 rfl rfl)
theorem dX8_text_123 : decode cX8_text 123 = .ok (.iload_n 1, 1) := dk_27 (dk_at dksX8_text_5 5 rfl rfl)
theorem dX8_text_124 : decode cX8_text 124 = .ok (.sipush 810, 3) := dk_17 3 42 (dk_at dksX8_text_5 6 rfl rfl)
theorem dX8_text_127 : decode cX8_text 127 = .ok (.if_icmp .ge 21, 3) := dk_162 0 21 (dk_at dksX8_text_5 9 rfl rfl)
theorem dX8_text_130 : decode cX8_text 130 = .ok (.aload_n 0, 1) := dk_42 (dk_at dksX8_text_5 12 rfl rfl)
theorem dX8_text_131 : decode cX8_text 131 = .ok (.getfield 13, 3) := dk_180 0 13 (dk_at dksX8_text_5 13 rfl rfl)
theorem dX8_text_134 : decode cX8_text 134 = .ok (.iload_n 1, 1) := dk_27 (dk_at dksX8_text_5 16 rfl rfl)
theorem dX8_text_135 : decode cX8_text 135 = .ok (.aload_n 0, 1) := dk_42 (dk_at dksX8_text_5 17 rfl rfl)
theorem dX8_text_136 : decode cX8_text 136 = .ok (.getfield 37, 3) := dk_180 0 37 (dk_at dksX8_text_5 18 rfl rfl)
theorem dX8_text_139 : decode cX8_text 139 = .ok (.iload_n 1, 1) := dk_27 (dk_at dksX8_text_5 21 rfl rfl)
theorem dX8_text_140 : decode cX8_text 140 = .ok (.iaload, 1) := dk_46 (dk_at dksX8_text_5 22 rfl rfl)
theorem dX8_text_141 : decode cX8_text 141 = .ok (.iastore, 1) := dk_79 (dk_at dksX8_text_5 23 rfl rfl)
theorem dX8_text_142 : decode cX8_text 142 = .ok (.iinc 1 1, 3) := dk_132 1 1 (dk_at dksX8_text_6 0 rfl rfl)
theorem dX8_text_145 : decode cX8_text 145 = .ok (.goto (-22), 3) := dk_167 255 234 (dk_at dksX8_text_6 3 rfl rfl)
theorem dX8_text_148 : decode cX8_text 148 = .ok (.aload_n 0, 1) := dk_42 (dk_at dksX8_text_6 6 rfl rfl)
theorem dX8_text_149 : decode cX8_text 149 = .ok (.invokevirtual 90, 3) := dk_182 0 90 (dk_at dksX8_text_6 7 rfl rfl)
theorem dX8_text_152 : decode cX8_text 152 = .ok (.aload_n 0, 1) := dk_42 (dk_at dksX8_text_6 10 rfl rfl)
theorem dX8_text_153 : decode cX8_text 153 = .ok (.getfield 13, 3) := dk_180 0 13 (dk_at dksX8_text_6 11 rfl rfl)
theorem dX8_text_156 : decode cX8_text 156 = .ok (.iconst 0, 1) := dk_3 (dk_at dksX8_text_6 14 rfl rfl)
theorem dX8_text_157 : decode cX8_text 157 = .ok (.iaload, 1) := dk_46 (dk_at dksX8_text_6 15 rfl rfl)
theorem dX8_text_158 : decode cX8_text 158 = .ok (.ireturn, 1) := dk_172 (dk_at dksX8_text_6 16 rfl rfl)
abbrev cX8_step : ByteArray := prog_16_method_22_code
def yX8_step : MethodName := ⟨RX8, "step", "()V"⟩
def dkwX8_step_11 : List UInt8 := [181, 0, 128, 177]
abbrev dktX8_step_11 : List UInt8 := dkwX8_step_11 ++ []
def dkwX8_step_10 : List UInt8 := [159, 0, 9, 27, 16, 59, 160, 0, 7, 6, 167, 0, 4, 7, 181, 0, 138, 42, 89, 180, 0, 128, 4, 96]
abbrev dktX8_step_10 : List UInt8 := dkwX8_step_10 ++ dktX8_step_11
def dkwX8_step_9 : List UInt8 := [167, 0, 51, 42, 27, 181, 0, 149, 42, 27, 16, 60, 159, 0, 21, 27, 16, 62, 159, 0, 15, 27, 16, 45]
abbrev dktX8_step_9 : List UInt8 := dkwX8_step_9 ++ dktX8_step_10
def dkwX8_step_8 : List UInt8 := [184, 0, 153, 181, 0, 149, 42, 89, 180, 0, 128, 4, 96, 181, 0, 128, 167, 255, 197, 42, 5, 181, 0, 138]
abbrev dktX8_step_8 : List UInt8 := dkwX8_step_8 ++ dktX8_step_9
def dkwX8_step_7 : List UInt8 := [42, 18, 152, 16, 10, 42, 180, 0, 149, 104, 42, 42, 180, 0, 128, 182, 0, 131, 96, 16, 48, 100]
abbrev dktX8_step_7 : List UInt8 := dkwX8_step_7 ++ dktX8_step_8
def dkwX8_step_6 : List UInt8 := [181, 0, 149, 42, 42, 180, 0, 128, 182, 0, 131, 133, 20, 0, 145, 20, 0, 147, 184, 0, 110, 153, 0, 44]
abbrev dktX8_step_6 : List UInt8 := dkwX8_step_6 ++ dktX8_step_7
def dkwX8_step_5 : List UInt8 := [181, 0, 138, 167, 0, 140, 27, 133, 20, 0, 145, 20, 0, 147, 184, 0, 110, 153, 0, 78, 42, 3]
abbrev dktX8_step_5 : List UInt8 := dkwX8_step_5 ++ dktX8_step_6
def dkwX8_step_4 : List UInt8 := [20, 0, 143, 184, 0, 110, 153, 0, 16, 42, 89, 180, 0, 128, 4, 96, 181, 0, 128, 167, 255, 225, 42, 4]
abbrev dktX8_step_4 : List UInt8 := dkwX8_step_4 ++ dktX8_step_5
def dkwX8_step_3 : List UInt8 := [20, 0, 141, 20, 0, 143, 184, 0, 110, 153, 0, 45, 42, 42, 180, 0, 128, 182, 0, 131, 133, 20, 0, 141]
abbrev dktX8_step_3 : List UInt8 := dkwX8_step_3 ++ dktX8_step_4
def dkwX8_step_2 : List UInt8 := [42, 42, 180, 0, 128, 182, 0, 131, 60, 27, 2, 160, 0, 11, 42, 3, 181, 0, 138, 167, 0, 196, 27, 133]
abbrev dktX8_step_2 : List UInt8 := dkwX8_step_2 ++ dktX8_step_3
def dkwX8_step_1 : List UInt8 := [160, 0, 16, 42, 89, 180, 0, 128, 4, 96, 181, 0, 128, 167, 255, 220, 42, 42, 180, 0, 128, 181, 0, 135]
abbrev dktX8_step_1 : List UInt8 := dkwX8_step_1 ++ dktX8_step_2
def dkwX8_step_0 : List UInt8 := [42, 42, 180, 0, 128, 182, 0, 131, 16, 32, 159, 0, 16, 42, 42, 180, 0, 128, 182, 0, 131, 16, 10]
abbrev dktX8_step_0 : List UInt8 := dkwX8_step_0 ++ dktX8_step_1
theorem dksX8_step_0 : cX8_step.data.toList.drop 0 = dktX8_step_0 := by decide +kernel
theorem dksX8_step_1 : cX8_step.data.toList.drop 23 = dktX8_step_1 := dk_seg dksX8_step_0 23 rfl rfl
theorem dksX8_step_2 : cX8_step.data.toList.drop 47 = dktX8_step_2 := dk_seg dksX8_step_1 24 rfl rfl
theorem dksX8_step_3 : cX8_step.data.toList.drop 71 = dktX8_step_3 := dk_seg dksX8_step_2 24 rfl rfl
theorem dksX8_step_4 : cX8_step.data.toList.drop 95 = dktX8_step_4 := dk_seg dksX8_step_3 24 rfl rfl
theorem dksX8_step_5 : cX8_step.data.toList.drop 119 = dktX8_step_5 := dk_seg dksX8_step_4 24 rfl rfl
theorem dksX8_step_6 : cX8_step.data.toList.drop 141 = dktX8_step_6 := dk_seg dksX8_step_5 22 rfl rfl
theorem dksX8_step_7 : cX8_step.data.toList.drop 165 = dktX8_step_7 := dk_seg dksX8_step_6 24 rfl rfl
theorem dksX8_step_8 : cX8_step.data.toList.drop 187 = dktX8_step_8 := dk_seg dksX8_step_7 22 rfl rfl
theorem dksX8_step_9 : cX8_step.data.toList.drop 211 = dktX8_step_9 := dk_seg dksX8_step_8 24 rfl rfl
theorem dksX8_step_10 : cX8_step.data.toList.drop 235 = dktX8_step_10 := dk_seg dksX8_step_9 24 rfl rfl
theorem dksX8_step_11 : cX8_step.data.toList.drop 259 = dktX8_step_11 := dk_seg dksX8_step_10 24 rfl rfl
theorem dX8_step_0 : decode cX8_step 0 = .ok (.aload_n 0, 1) := dk_42 (dk_at dksX8_step_0 0 rfl rfl)
theorem dX8_step_1 : decode cX8_step 1 = .ok (.aload_n 0, 1) := dk_42 (dk_at dksX8_step_0 1 rfl rfl)
theorem dX8_step_2 : decode cX8_step 2 = .ok (.getfield 128, 3) := dk_180 0 128 (dk_at dksX8_step_0 2 rfl rfl)
theorem dX8_step_5 : decode cX8_step 5 = .ok (.invokevirtual 131, 3) := dk_182 0 131 (dk_at dksX8_step_0 5 rfl rfl)
theorem dX8_step_8 : decode cX8_step 8 = .ok (.bipush 32, 2) := dk_16 32 (dk_at dksX8_step_0 8 rfl rfl)
theorem dX8_step_10 : decode cX8_step 10 = .ok (.if_icmp .eq 16, 3) := dk_159 0 16 (dk_at dksX8_step_0 10 rfl rfl)
theorem dX8_step_13 : decode cX8_step 13 = .ok (.aload_n 0, 1) := dk_42 (dk_at dksX8_step_0 13 rfl rfl)
theorem dX8_step_14 : decode cX8_step 14 = .ok (.aload_n 0, 1) := dk_42 (dk_at dksX8_step_0 14 rfl rfl)
theorem dX8_step_15 : decode cX8_step 15 = .ok (.getfield 128, 3) := dk_180 0 128 (dk_at dksX8_step_0 15 rfl rfl)
theorem dX8_step_18 : decode cX8_step 18 = .ok (.invokevirtual 131, 3) := dk_182 0 131 (dk_at dksX8_step_0 18 rfl rfl)
theorem dX8_step_21 : decode cX8_step 21 = .ok (.bipush 10, 2) := dk_16 10 (dk_at dksX8_step_0 21 rfl rfl)
theorem dX8_step_23 : decode cX8_step 23 = .ok (.if_icmp .ne 16, 3) := dk_160 0 16 (dk_at dksX8_step_1 0 rfl rfl)
theorem dX8_step_26 : decode cX8_step 26 = .ok (.aload_n 0, 1) := dk_42 (dk_at dksX8_step_1 3 rfl rfl)
theorem dX8_step_27 : decode cX8_step 27 = .ok (.dup, 1) := dk_89 (dk_at dksX8_step_1 4 rfl rfl)
theorem dX8_step_28 : decode cX8_step 28 = .ok (.getfield 128, 3) := dk_180 0 128 (dk_at dksX8_step_1 5 rfl rfl)
theorem dX8_step_31 : decode cX8_step 31 = .ok (.iconst 1, 1) := dk_4 (dk_at dksX8_step_1 8 rfl rfl)
theorem dX8_step_32 : decode cX8_step 32 = .ok (.iadd, 1) := dk_96 (dk_at dksX8_step_1 9 rfl rfl)
theorem dX8_step_33 : decode cX8_step 33 = .ok (.putfield 128, 3) := dk_181 0 128 (dk_at dksX8_step_1 10 rfl rfl)
theorem dX8_step_36 : decode cX8_step 36 = .ok (.goto (-36), 3) := dk_167 255 220 (dk_at dksX8_step_1 13 rfl rfl)
theorem dX8_step_39 : decode cX8_step 39 = .ok (.aload_n 0, 1) := dk_42 (dk_at dksX8_step_1 16 rfl rfl)
theorem dX8_step_40 : decode cX8_step 40 = .ok (.aload_n 0, 1) := dk_42 (dk_at dksX8_step_1 17 rfl rfl)
theorem dX8_step_41 : decode cX8_step 41 = .ok (.getfield 128, 3) := dk_180 0 128 (dk_at dksX8_step_1 18 rfl rfl)
theorem dX8_step_44 : decode cX8_step 44 = .ok (.putfield 135, 3) := dk_181 0 135 (dk_at dksX8_step_1 21 rfl rfl)
theorem dX8_step_47 : decode cX8_step 47 = .ok (.aload_n 0, 1) := dk_42 (dk_at dksX8_step_2 0 rfl rfl)
theorem dX8_step_48 : decode cX8_step 48 = .ok (.aload_n 0, 1) := dk_42 (dk_at dksX8_step_2 1 rfl rfl)
theorem dX8_step_49 : decode cX8_step 49 = .ok (.getfield 128, 3) := dk_180 0 128 (dk_at dksX8_step_2 2 rfl rfl)
theorem dX8_step_52 : decode cX8_step 52 = .ok (.invokevirtual 131, 3) := dk_182 0 131 (dk_at dksX8_step_2 5 rfl rfl)
theorem dX8_step_55 : decode cX8_step 55 = .ok (.istore_n 1, 1) := dk_60 (dk_at dksX8_step_2 8 rfl rfl)
theorem dX8_step_56 : decode cX8_step 56 = .ok (.iload_n 1, 1) := dk_27 (dk_at dksX8_step_2 9 rfl rfl)
theorem dX8_step_57 : decode cX8_step 57 = .ok (.iconst (-1), 1) := dk_2 (dk_at dksX8_step_2 10 rfl rfl)
theorem dX8_step_58 : decode cX8_step 58 = .ok (.if_icmp .ne 11, 3) := dk_160 0 11 (dk_at dksX8_step_2 11 rfl rfl)
theorem dX8_step_61 : decode cX8_step 61 = .ok (.aload_n 0, 1) := dk_42 (dk_at dksX8_step_2 14 rfl rfl)
theorem dX8_step_62 : decode cX8_step 62 = .ok (.iconst 0, 1) := dk_3 (dk_at dksX8_step_2 15 rfl rfl)
theorem dX8_step_63 : decode cX8_step 63 = .ok (.putfield 138, 3) := dk_181 0 138 (dk_at dksX8_step_2 16 rfl rfl)
theorem dX8_step_66 : decode cX8_step 66 = .ok (.goto 196, 3) := dk_167 0 196 (dk_at dksX8_step_2 19 rfl rfl)
theorem dX8_step_69 : decode cX8_step 69 = .ok (.iload_n 1, 1) := dk_27 (dk_at dksX8_step_2 22 rfl rfl)
theorem dX8_step_70 : decode cX8_step 70 = .ok (.i2l, 1) := dk_133 (dk_at dksX8_step_2 23 rfl rfl)
theorem dX8_step_71 : decode cX8_step 71 = .ok (.ldc2_w 141, 3) := dk_20 0 141 (dk_at dksX8_step_3 0 rfl rfl)
theorem dX8_step_74 : decode cX8_step 74 = .ok (.ldc2_w 143, 3) := dk_20 0 143 (dk_at dksX8_step_3 3 rfl rfl)
theorem dX8_step_77 : decode cX8_step 77 = .ok (.invokestatic 110, 3) := dk_184 0 110 (dk_at dksX8_step_3 6 rfl rfl)
theorem dX8_step_80 : decode cX8_step 80 = .ok (.ifCond .eq 45, 3) := dk_153 0 45 (dk_at dksX8_step_3 9 rfl rfl)
theorem dX8_step_83 : decode cX8_step 83 = .ok (.aload_n 0, 1) := dk_42 (dk_at dksX8_step_3 12 rfl rfl)
theorem dX8_step_84 : decode cX8_step 84 = .ok (.aload_n 0, 1) := dk_42 (dk_at dksX8_step_3 13 rfl rfl)
theorem dX8_step_85 : decode cX8_step 85 = .ok (.getfield 128, 3) := dk_180 0 128 (dk_at dksX8_step_3 14 rfl rfl)
theorem dX8_step_88 : decode cX8_step 88 = .ok (.invokevirtual 131, 3) := dk_182 0 131 (dk_at dksX8_step_3 17 rfl rfl)
theorem dX8_step_91 : decode cX8_step 91 = .ok (.i2l, 1) := dk_133 (dk_at dksX8_step_3 20 rfl rfl)
theorem dX8_step_92 : decode cX8_step 92 = .ok (.ldc2_w 141, 3) := dk_20 0 141 (dk_at dksX8_step_3 21 rfl rfl)
theorem dX8_step_95 : decode cX8_step 95 = .ok (.ldc2_w 143, 3) := dk_20 0 143 (dk_at dksX8_step_4 0 rfl rfl)
theorem dX8_step_98 : decode cX8_step 98 = .ok (.invokestatic 110, 3) := dk_184 0 110 (dk_at dksX8_step_4 3 rfl rfl)
theorem dX8_step_101 : decode cX8_step 101 = .ok (.ifCond .eq 16, 3) := dk_153 0 16 (dk_at dksX8_step_4 6 rfl rfl)
theorem dX8_step_104 : decode cX8_step 104 = .ok (.aload_n 0, 1) := dk_42 (dk_at dksX8_step_4 9 rfl rfl)
theorem dX8_step_105 : decode cX8_step 105 = .ok (.dup, 1) := dk_89 (dk_at dksX8_step_4 10 rfl rfl)
theorem dX8_step_106 : decode cX8_step 106 = .ok (.getfield 128, 3) := dk_180 0 128 (dk_at dksX8_step_4 11 rfl rfl)
theorem dX8_step_109 : decode cX8_step 109 = .ok (.iconst 1, 1) := dk_4 (dk_at dksX8_step_4 14 rfl rfl)
theorem dX8_step_110 : decode cX8_step 110 = .ok (.iadd, 1) := dk_96 (dk_at dksX8_step_4 15 rfl rfl)
theorem dX8_step_111 : decode cX8_step 111 = .ok (.putfield 128, 3) := dk_181 0 128 (dk_at dksX8_step_4 16 rfl rfl)
theorem dX8_step_114 : decode cX8_step 114 = .ok (.goto (-31), 3) := dk_167 255 225 (dk_at dksX8_step_4 19 rfl rfl)
theorem dX8_step_117 : decode cX8_step 117 = .ok (.aload_n 0, 1) := dk_42 (dk_at dksX8_step_4 22 rfl rfl)
theorem dX8_step_118 : decode cX8_step 118 = .ok (.iconst 1, 1) := dk_4 (dk_at dksX8_step_4 23 rfl rfl)
theorem dX8_step_119 : decode cX8_step 119 = .ok (.putfield 138, 3) := dk_181 0 138 (dk_at dksX8_step_5 0 rfl rfl)
theorem dX8_step_122 : decode cX8_step 122 = .ok (.goto 140, 3) := dk_167 0 140 (dk_at dksX8_step_5 3 rfl rfl)
theorem dX8_step_125 : decode cX8_step 125 = .ok (.iload_n 1, 1) := dk_27 (dk_at dksX8_step_5 6 rfl rfl)
theorem dX8_step_126 : decode cX8_step 126 = .ok (.i2l, 1) := dk_133 (dk_at dksX8_step_5 7 rfl rfl)
theorem dX8_step_127 : decode cX8_step 127 = .ok (.ldc2_w 145, 3) := dk_20 0 145 (dk_at dksX8_step_5 8 rfl rfl)
theorem dX8_step_130 : decode cX8_step 130 = .ok (.ldc2_w 147, 3) := dk_20 0 147 (dk_at dksX8_step_5 11 rfl rfl)
theorem dX8_step_133 : decode cX8_step 133 = .ok (.invokestatic 110, 3) := dk_184 0 110 (dk_at dksX8_step_5 14 rfl rfl)
theorem dX8_step_136 : decode cX8_step 136 = .ok (.ifCond .eq 78, 3) := dk_153 0 78 (dk_at dksX8_step_5 17 rfl rfl)
theorem dX8_step_139 : decode cX8_step 139 = .ok (.aload_n 0, 1) := dk_42 (dk_at dksX8_step_5 20 rfl rfl)
theorem dX8_step_140 : decode cX8_step 140 = .ok (.iconst 0, 1) := dk_3 (dk_at dksX8_step_5 21 rfl rfl)
theorem dX8_step_141 : decode cX8_step 141 = .ok (.putfield 149, 3) := dk_181 0 149 (dk_at dksX8_step_6 0 rfl rfl)
theorem dX8_step_144 : decode cX8_step 144 = .ok (.aload_n 0, 1) := dk_42 (dk_at dksX8_step_6 3 rfl rfl)
theorem dX8_step_145 : decode cX8_step 145 = .ok (.aload_n 0, 1) := dk_42 (dk_at dksX8_step_6 4 rfl rfl)
theorem dX8_step_146 : decode cX8_step 146 = .ok (.getfield 128, 3) := dk_180 0 128 (dk_at dksX8_step_6 5 rfl rfl)
theorem dX8_step_149 : decode cX8_step 149 = .ok (.invokevirtual 131, 3) := dk_182 0 131 (dk_at dksX8_step_6 8 rfl rfl)
theorem dX8_step_152 : decode cX8_step 152 = .ok (.i2l, 1) := dk_133 (dk_at dksX8_step_6 11 rfl rfl)
theorem dX8_step_153 : decode cX8_step 153 = .ok (.ldc2_w 145, 3) := dk_20 0 145 (dk_at dksX8_step_6 12 rfl rfl)
theorem dX8_step_156 : decode cX8_step 156 = .ok (.ldc2_w 147, 3) := dk_20 0 147 (dk_at dksX8_step_6 15 rfl rfl)
theorem dX8_step_159 : decode cX8_step 159 = .ok (.invokestatic 110, 3) := dk_184 0 110 (dk_at dksX8_step_6 18 rfl rfl)
theorem dX8_step_162 : decode cX8_step 162 = .ok (.ifCond .eq 44, 3) := dk_153 0 44 (dk_at dksX8_step_6 21 rfl rfl)
theorem dX8_step_165 : decode cX8_step 165 = .ok (.aload_n 0, 1) := dk_42 (dk_at dksX8_step_7 0 rfl rfl)
theorem dX8_step_166 : decode cX8_step 166 = .ok (.ldc 152, 2) := dk_18 152 (dk_at dksX8_step_7 1 rfl rfl)
theorem dX8_step_168 : decode cX8_step 168 = .ok (.bipush 10, 2) := dk_16 10 (dk_at dksX8_step_7 3 rfl rfl)
theorem dX8_step_170 : decode cX8_step 170 = .ok (.aload_n 0, 1) := dk_42 (dk_at dksX8_step_7 5 rfl rfl)
theorem dX8_step_171 : decode cX8_step 171 = .ok (.getfield 149, 3) := dk_180 0 149 (dk_at dksX8_step_7 6 rfl rfl)
theorem dX8_step_174 : decode cX8_step 174 = .ok (.imul, 1) := dk_104 (dk_at dksX8_step_7 9 rfl rfl)
theorem dX8_step_175 : decode cX8_step 175 = .ok (.aload_n 0, 1) := dk_42 (dk_at dksX8_step_7 10 rfl rfl)
theorem dX8_step_176 : decode cX8_step 176 = .ok (.aload_n 0, 1) := dk_42 (dk_at dksX8_step_7 11 rfl rfl)
theorem dX8_step_177 : decode cX8_step 177 = .ok (.getfield 128, 3) := dk_180 0 128 (dk_at dksX8_step_7 12 rfl rfl)
theorem dX8_step_180 : decode cX8_step 180 = .ok (.invokevirtual 131, 3) := dk_182 0 131 (dk_at dksX8_step_7 15 rfl rfl)
theorem dX8_step_183 : decode cX8_step 183 = .ok (.iadd, 1) := dk_96 (dk_at dksX8_step_7 18 rfl rfl)
theorem dX8_step_184 : decode cX8_step 184 = .ok (.bipush 48, 2) := dk_16 48 (dk_at dksX8_step_7 19 rfl rfl)
theorem dX8_step_186 : decode cX8_step 186 = .ok (.isub, 1) := dk_100 (dk_at dksX8_step_7 21 rfl rfl)
theorem dX8_step_187 : decode cX8_step 187 = .ok (.invokestatic 153, 3) := dk_184 0 153 (dk_at dksX8_step_8 0 rfl rfl)
theorem dX8_step_190 : decode cX8_step 190 = .ok (.putfield 149, 3) := dk_181 0 149 (dk_at dksX8_step_8 3 rfl rfl)
theorem dX8_step_193 : decode cX8_step 193 = .ok (.aload_n 0, 1) := dk_42 (dk_at dksX8_step_8 6 rfl rfl)
theorem dX8_step_194 : decode cX8_step 194 = .ok (.dup, 1) := dk_89 (dk_at dksX8_step_8 7 rfl rfl)
theorem dX8_step_195 : decode cX8_step 195 = .ok (.getfield 128, 3) := dk_180 0 128 (dk_at dksX8_step_8 8 rfl rfl)
theorem dX8_step_198 : decode cX8_step 198 = .ok (.iconst 1, 1) := dk_4 (dk_at dksX8_step_8 11 rfl rfl)
theorem dX8_step_199 : decode cX8_step 199 = .ok (.iadd, 1) := dk_96 (dk_at dksX8_step_8 12 rfl rfl)
theorem dX8_step_200 : decode cX8_step 200 = .ok (.putfield 128, 3) := dk_181 0 128 (dk_at dksX8_step_8 13 rfl rfl)
theorem dX8_step_203 : decode cX8_step 203 = .ok (.goto (-59), 3) := dk_167 255 197 (dk_at dksX8_step_8 16 rfl rfl)
theorem dX8_step_206 : decode cX8_step 206 = .ok (.aload_n 0, 1) := dk_42 (dk_at dksX8_step_8 19 rfl rfl)
theorem dX8_step_207 : decode cX8_step 207 = .ok (.iconst 2, 1) := dk_5 (dk_at dksX8_step_8 20 rfl rfl)
theorem dX8_step_208 : decode cX8_step 208 = .ok (.putfield 138, 3) := dk_181 0 138 (dk_at dksX8_step_8 21 rfl rfl)
theorem dX8_step_211 : decode cX8_step 211 = .ok (.goto 51, 3) := dk_167 0 51 (dk_at dksX8_step_9 0 rfl rfl)
theorem dX8_step_214 : decode cX8_step 214 = .ok (.aload_n 0, 1) := dk_42 (dk_at dksX8_step_9 3 rfl rfl)
theorem dX8_step_215 : decode cX8_step 215 = .ok (.iload_n 1, 1) := dk_27 (dk_at dksX8_step_9 4 rfl rfl)
theorem dX8_step_216 : decode cX8_step 216 = .ok (.putfield 149, 3) := dk_181 0 149 (dk_at dksX8_step_9 5 rfl rfl)
theorem dX8_step_219 : decode cX8_step 219 = .ok (.aload_n 0, 1) := dk_42 (dk_at dksX8_step_9 8 rfl rfl)
theorem dX8_step_220 : decode cX8_step 220 = .ok (.iload_n 1, 1) := dk_27 (dk_at dksX8_step_9 9 rfl rfl)
theorem dX8_step_221 : decode cX8_step 221 = .ok (.bipush 60, 2) := dk_16 60 (dk_at dksX8_step_9 10 rfl rfl)
theorem dX8_step_223 : decode cX8_step 223 = .ok (.if_icmp .eq 21, 3) := dk_159 0 21 (dk_at dksX8_step_9 12 rfl rfl)
theorem dX8_step_226 : decode cX8_step 226 = .ok (.iload_n 1, 1) := dk_27 (dk_at dksX8_step_9 15 rfl rfl)
theorem dX8_step_227 : decode cX8_step 227 = .ok (.bipush 62, 2) := dk_16 62 (dk_at dksX8_step_9 16 rfl rfl)
theorem dX8_step_229 : decode cX8_step 229 = .ok (.if_icmp .eq 15, 3) := dk_159 0 15 (dk_at dksX8_step_9 18 rfl rfl)
theorem dX8_step_232 : decode cX8_step 232 = .ok (.iload_n 1, 1) := dk_27 (dk_at dksX8_step_9 21 rfl rfl)
theorem dX8_step_233 : decode cX8_step 233 = .ok (.bipush 45, 2) := dk_16 45 (dk_at dksX8_step_9 22 rfl rfl)
theorem dX8_step_235 : decode cX8_step 235 = .ok (.if_icmp .eq 9, 3) := dk_159 0 9 (dk_at dksX8_step_10 0 rfl rfl)
theorem dX8_step_238 : decode cX8_step 238 = .ok (.iload_n 1, 1) := dk_27 (dk_at dksX8_step_10 3 rfl rfl)
theorem dX8_step_239 : decode cX8_step 239 = .ok (.bipush 59, 2) := dk_16 59 (dk_at dksX8_step_10 4 rfl rfl)
theorem dX8_step_241 : decode cX8_step 241 = .ok (.if_icmp .ne 7, 3) := dk_160 0 7 (dk_at dksX8_step_10 6 rfl rfl)
theorem dX8_step_244 : decode cX8_step 244 = .ok (.iconst 3, 1) := dk_6 (dk_at dksX8_step_10 9 rfl rfl)
theorem dX8_step_245 : decode cX8_step 245 = .ok (.goto 4, 3) := dk_167 0 4 (dk_at dksX8_step_10 10 rfl rfl)
theorem dX8_step_248 : decode cX8_step 248 = .ok (.iconst 4, 1) := dk_7 (dk_at dksX8_step_10 13 rfl rfl)
theorem dX8_step_249 : decode cX8_step 249 = .ok (.putfield 138, 3) := dk_181 0 138 (dk_at dksX8_step_10 14 rfl rfl)
theorem dX8_step_252 : decode cX8_step 252 = .ok (.aload_n 0, 1) := dk_42 (dk_at dksX8_step_10 17 rfl rfl)
theorem dX8_step_253 : decode cX8_step 253 = .ok (.dup, 1) := dk_89 (dk_at dksX8_step_10 18 rfl rfl)
theorem dX8_step_254 : decode cX8_step 254 = .ok (.getfield 128, 3) := dk_180 0 128 (dk_at dksX8_step_10 19 rfl rfl)
theorem dX8_step_257 : decode cX8_step 257 = .ok (.iconst 1, 1) := dk_4 (dk_at dksX8_step_10 22 rfl rfl)
theorem dX8_step_258 : decode cX8_step 258 = .ok (.iadd, 1) := dk_96 (dk_at dksX8_step_10 23 rfl rfl)
theorem dX8_step_259 : decode cX8_step 259 = .ok (.putfield 128, 3) := dk_181 0 128 (dk_at dksX8_step_11 0 rfl rfl)
theorem dX8_step_262 : decode cX8_step 262 = .ok (.return_, 1) := dk_177 (dk_at dksX8_step_11 3 rfl rfl)
abbrev cX8_see : ByteArray := prog_16_method_21_code
def yX8_see : MethodName := ⟨RX8, "see", "(I)I"⟩
def dkwX8_see_0 : List UInt8 := [27, 42, 180, 0, 125, 162, 0, 16, 42, 180, 0, 27, 27, 51, 17, 0, 255, 126, 167, 0, 4, 2, 172]
abbrev dktX8_see_0 : List UInt8 := dkwX8_see_0 ++ []
theorem dksX8_see_0 : cX8_see.data.toList.drop 0 = dktX8_see_0 := by decide +kernel
theorem dX8_see_0 : decode cX8_see 0 = .ok (.iload_n 1, 1) := dk_27 (dk_at dksX8_see_0 0 rfl rfl)
theorem dX8_see_1 : decode cX8_see 1 = .ok (.aload_n 0, 1) := dk_42 (dk_at dksX8_see_0 1 rfl rfl)
theorem dX8_see_2 : decode cX8_see 2 = .ok (.getfield 125, 3) := dk_180 0 125 (dk_at dksX8_see_0 2 rfl rfl)
theorem dX8_see_5 : decode cX8_see 5 = .ok (.if_icmp .ge 16, 3) := dk_162 0 16 (dk_at dksX8_see_0 5 rfl rfl)
theorem dX8_see_8 : decode cX8_see 8 = .ok (.aload_n 0, 1) := dk_42 (dk_at dksX8_see_0 8 rfl rfl)
theorem dX8_see_9 : decode cX8_see 9 = .ok (.getfield 27, 3) := dk_180 0 27 (dk_at dksX8_see_0 9 rfl rfl)
theorem dX8_see_12 : decode cX8_see 12 = .ok (.iload_n 1, 1) := dk_27 (dk_at dksX8_see_0 12 rfl rfl)
theorem dX8_see_13 : decode cX8_see 13 = .ok (.baload, 1) := dk_51 (dk_at dksX8_see_0 13 rfl rfl)
theorem dX8_see_14 : decode cX8_see 14 = .ok (.sipush 255, 3) := dk_17 0 255 (dk_at dksX8_see_0 14 rfl rfl)
theorem dX8_see_17 : decode cX8_see 17 = .ok (.iand, 1) := dk_126 (dk_at dksX8_see_0 17 rfl rfl)
theorem dX8_see_18 : decode cX8_see 18 = .ok (.goto 4, 3) := dk_167 0 4 (dk_at dksX8_see_0 18 rfl rfl)
theorem dX8_see_21 : decode cX8_see 21 = .ok (.iconst (-1), 1) := dk_2 (dk_at dksX8_see_0 21 rfl rfl)
theorem dX8_see_22 : decode cX8_see 22 = .ok (.ireturn, 1) := dk_172 (dk_at dksX8_see_0 22 rfl rfl)
abbrev cX8_good : ByteArray := prog_16_method_23_code
def yX8_good : MethodName := ⟨RX8, "good", "()Z"⟩
def dkwX8_good_0 : List UInt8 := [42, 180, 0, 158, 154, 0, 7, 4, 167, 0, 4, 3, 172]
abbrev dktX8_good_0 : List UInt8 := dkwX8_good_0 ++ []
theorem dksX8_good_0 : cX8_good.data.toList.drop 0 = dktX8_good_0 := by decide +kernel
theorem dX8_good_0 : decode cX8_good 0 = .ok (.aload_n 0, 1) := dk_42 (dk_at dksX8_good_0 0 rfl rfl)
theorem dX8_good_1 : decode cX8_good 1 = .ok (.getfield 158, 3) := dk_180 0 158 (dk_at dksX8_good_0 1 rfl rfl)
theorem dX8_good_4 : decode cX8_good 4 = .ok (.ifCond .ne 7, 3) := dk_154 0 7 (dk_at dksX8_good_0 4 rfl rfl)
theorem dX8_good_7 : decode cX8_good 7 = .ok (.iconst 1, 1) := dk_4 (dk_at dksX8_good_0 7 rfl rfl)
theorem dX8_good_8 : decode cX8_good 8 = .ok (.goto 4, 3) := dk_167 0 4 (dk_at dksX8_good_0 8 rfl rfl)
theorem dX8_good_11 : decode cX8_good 11 = .ok (.iconst 0, 1) := dk_3 (dk_at dksX8_good_0 11 rfl rfl)
theorem dX8_good_12 : decode cX8_good 12 = .ok (.ireturn, 1) := dk_172 (dk_at dksX8_good_0 12 rfl rfl)
abbrev cX8_readLine : ByteArray := prog_16_method_40_code
def yX8_readLine : MethodName := ⟨RX8, "readLine", "()V"⟩
def dkwX8_readLine_24 : List UInt8 := [182, 0, 161, 153, 0, 7, 42, 182, 0, 178, 177]
abbrev dktX8_readLine_24 : List UInt8 := dkwX8_readLine_24 ++ []
def dkwX8_readLine_23 : List UInt8 := [180, 0, 37, 6, 92, 46, 4, 96, 79, 42, 16, 59, 182, 0, 195, 154, 0, 8, 42, 4, 182, 0, 184, 42]
abbrev dktX8_readLine_23 : List UInt8 := dkwX8_readLine_23 ++ dktX8_readLine_24
def dkwX8_readLine_22 : List UInt8 := [182, 0, 192, 79, 42, 180, 0, 37, 29, 4, 96, 42, 19, 1, 40, 3, 17, 3, 231, 182, 0, 202, 79, 42]
abbrev dktX8_readLine_22 : List UInt8 := dkwX8_readLine_22 ++ dktX8_readLine_23
def dkwX8_readLine_21 : List UInt8 := [17, 2, 220, 6, 42, 180, 0, 37, 6, 46, 104, 96, 62, 42, 180, 0, 37, 29, 42, 3, 16, 10]
abbrev dktX8_readLine_21 : List UInt8 := dkwX8_readLine_21 ++ dktX8_readLine_22
def dkwX8_readLine_20 : List UInt8 := [180, 0, 224, 79, 42, 180, 0, 37, 16, 11, 42, 180, 0, 227, 79, 167, 0, 62, 42, 182, 0, 178]
abbrev dktX8_readLine_20 : List UInt8 := dkwX8_readLine_20 ++ dktX8_readLine_21
def dkwX8_readLine_19 : List UInt8 := [42, 180, 0, 216, 79, 42, 180, 0, 37, 16, 9, 42, 180, 0, 219, 79, 42, 180, 0, 37, 16, 10, 42]
abbrev dktX8_readLine_19 : List UInt8 := dkwX8_readLine_19 ++ dktX8_readLine_20
def dkwX8_readLine_18 : List UInt8 := [153, 0, 65, 42, 4, 16, 10, 182, 0, 230, 42, 180, 0, 37, 16, 7, 4, 79, 42, 180, 0, 37, 16, 8]
abbrev dktX8_readLine_18 : List UInt8 := dkwX8_readLine_18 ++ dktX8_readLine_19
def dkwX8_readLine_17 : List UInt8 := [180, 0, 37, 16, 6, 42, 3, 18, 93, 182, 0, 192, 79, 167, 0, 134, 42, 19, 1, 8, 182, 0, 181]
abbrev dktX8_readLine_17 : List UInt8 := dkwX8_readLine_17 ++ dktX8_readLine_18
def dkwX8_readLine_16 : List UInt8 := [182, 0, 192, 79, 167, 0, 166, 42, 19, 1, 12, 182, 0, 181, 153, 0, 25, 42, 4, 181, 1, 22, 42]
abbrev dktX8_readLine_16 : List UInt8 := dkwX8_readLine_16 ++ dktX8_readLine_17
def dkwX8_readLine_15 : List UInt8 := [19, 1, 7, 182, 0, 181, 153, 0, 25, 42, 4, 181, 1, 18, 42, 180, 0, 37, 8, 42, 4, 17, 1, 44]
abbrev dktX8_readLine_15 : List UInt8 := dkwX8_readLine_15 ++ dktX8_readLine_16
def dkwX8_readLine_14 : List UInt8 := [182, 1, 34, 167, 0, 215, 42, 19, 1, 16, 182, 0, 181, 153, 0, 10, 42, 182, 1, 37, 167, 0, 198, 42]
abbrev dktX8_readLine_14 : List UInt8 := dkwX8_readLine_14 ++ dktX8_readLine_15
def dkwX8_readLine_13 : List UInt8 := [182, 0, 181, 153, 0, 10, 42, 182, 1, 31, 167, 0, 232, 42, 19, 1, 10, 182, 0, 181, 153, 0, 10, 42]
abbrev dktX8_readLine_13 : List UInt8 := dkwX8_readLine_13 ++ dktX8_readLine_14
def dkwX8_readLine_12 : List UInt8 := [167, 1, 10, 42, 19, 1, 3, 182, 0, 181, 153, 0, 10, 42, 182, 1, 28, 167, 0, 249, 42, 19, 1, 5]
abbrev dktX8_readLine_12 : List UInt8 := dkwX8_readLine_12 ++ dktX8_readLine_13
def dkwX8_readLine_11 : List UInt8 := [180, 0, 37, 3, 92, 46, 4, 96, 79, 42, 18, 234, 182, 0, 181, 153, 0, 10, 42, 182, 1, 25]
abbrev dktX8_readLine_11 : List UInt8 := dkwX8_readLine_11 ++ dktX8_readLine_12
def dkwX8_readLine_10 : List UInt8 := [182, 0, 184, 167, 0, 12, 28, 153, 0, 8, 42, 6, 182, 0, 184, 42, 182, 0, 161, 154, 0, 4, 177, 42]
abbrev dktX8_readLine_10 : List UInt8 := dkwX8_readLine_10 ++ dktX8_readLine_11
def dkwX8_readLine_9 : List UInt8 := [153, 0, 14, 42, 180, 1, 22, 153, 0, 7, 4, 167, 0, 4, 3, 61, 27, 154, 0, 11, 42, 4]
abbrev dktX8_readLine_9 : List UInt8 := dkwX8_readLine_9 ++ dktX8_readLine_10
def dkwX8_readLine_8 : List UInt8 := [182, 0, 174, 153, 0, 14, 42, 180, 0, 37, 16, 7, 46, 4, 159, 0, 20, 42, 19, 1, 12, 182, 0, 174]
abbrev dktX8_readLine_8 : List UInt8 := dkwX8_readLine_8 ++ dktX8_readLine_9
def dkwX8_readLine_7 : List UInt8 := [159, 0, 58, 42, 19, 1, 7, 182, 0, 174, 153, 0, 10, 42, 180, 1, 18, 154, 0, 41, 42, 19, 1, 8]
abbrev dktX8_readLine_7 : List UInt8 := dkwX8_readLine_7 ++ dktX8_readLine_8
def dkwX8_readLine_6 : List UInt8 := [6, 46, 16, 6, 159, 0, 78, 42, 19, 1, 16, 182, 0, 174, 153, 0, 13, 42, 180, 0, 37, 7, 46, 7]
abbrev dktX8_readLine_6 : List UInt8 := dkwX8_readLine_6 ++ dktX8_readLine_7
def dkwX8_readLine_5 : List UInt8 := [180, 0, 37, 5, 46, 16, 12, 159, 0, 99, 42, 19, 1, 14, 182, 0, 174, 153, 0, 14, 42, 180, 0, 37]
abbrev dktX8_readLine_5 : List UInt8 := dkwX8_readLine_5 ++ dktX8_readLine_6
def dkwX8_readLine_4 : List UInt8 := [60, 42, 180, 0, 37, 3, 46, 16, 40, 159, 0, 120, 42, 19, 1, 10, 182, 0, 174, 153, 0, 14, 42]
abbrev dktX8_readLine_4 : List UInt8 := dkwX8_readLine_4 ++ dktX8_readLine_5
def dkwX8_readLine_3 : List UInt8 := [19, 1, 14, 182, 0, 174, 154, 0, 13, 42, 19, 1, 16, 182, 0, 174, 153, 0, 7, 4, 167, 0, 4, 3]
abbrev dktX8_readLine_3 : List UInt8 := dkwX8_readLine_3 ++ dktX8_readLine_4
def dkwX8_readLine_2 : List UInt8 := [154, 0, 43, 42, 19, 1, 10, 182, 0, 174, 154, 0, 33, 42, 19, 1, 12, 182, 0, 174, 154, 0, 23, 42]
abbrev dktX8_readLine_2 : List UInt8 := dkwX8_readLine_2 ++ dktX8_readLine_3
def dkwX8_readLine_1 : List UInt8 := [182, 0, 174, 154, 0, 63, 42, 19, 1, 7, 182, 0, 174, 154, 0, 53, 42, 19, 1, 8, 182, 0, 174]
abbrev dktX8_readLine_1 : List UInt8 := dkwX8_readLine_1 ++ dktX8_readLine_2
def dkwX8_readLine_0 : List UInt8 := [42, 18, 234, 182, 0, 174, 154, 0, 83, 42, 19, 1, 3, 182, 0, 174, 154, 0, 73, 42, 19, 1, 5]
abbrev dktX8_readLine_0 : List UInt8 := dkwX8_readLine_0 ++ dktX8_readLine_1
theorem dksX8_readLine_0 : cX8_readLine.data.toList.drop 0 = dktX8_readLine_0 := by decide +kernel
theorem dksX8_readLine_1 : cX8_readLine.data.toList.drop 23 = dktX8_readLine_1 := dk_seg dksX8_readLine_0 23 rfl rfl
theorem dksX8_readLine_2 : cX8_readLine.data.toList.drop 46 = dktX8_readLine_2 := dk_seg dksX8_readLine_1 23 rfl rfl
theorem dksX8_readLine_3 : cX8_readLine.data.toList.drop 70 = dktX8_readLine_3 := dk_seg dksX8_readLine_2 24 rfl rfl
theorem dksX8_readLine_4 : cX8_readLine.data.toList.drop 94 = dktX8_readLine_4 := dk_seg dksX8_readLine_3 24 rfl rfl
theorem dksX8_readLine_5 : cX8_readLine.data.toList.drop 117 = dktX8_readLine_5 := dk_seg dksX8_readLine_4 23 rfl rfl
theorem dksX8_readLine_6 : cX8_readLine.data.toList.drop 141 = dktX8_readLine_6 := dk_seg dksX8_readLine_5 24 rfl rfl
theorem dksX8_readLine_7 : cX8_readLine.data.toList.drop 165 = dktX8_readLine_7 := dk_seg dksX8_readLine_6 24 rfl rfl
theorem dksX8_readLine_8 : cX8_readLine.data.toList.drop 189 = dktX8_readLine_8 := dk_seg dksX8_readLine_7 24 rfl rfl
theorem dksX8_readLine_9 : cX8_readLine.data.toList.drop 213 = dktX8_readLine_9 := dk_seg dksX8_readLine_8 24 rfl rfl
theorem dksX8_readLine_10 : cX8_readLine.data.toList.drop 235 = dktX8_readLine_10 := dk_seg dksX8_readLine_9 22 rfl rfl
theorem dksX8_readLine_11 : cX8_readLine.data.toList.drop 259 = dktX8_readLine_11 := dk_seg dksX8_readLine_10 24 rfl rfl
theorem dksX8_readLine_12 : cX8_readLine.data.toList.drop 281 = dktX8_readLine_12 := dk_seg dksX8_readLine_11 22 rfl rfl
theorem dksX8_readLine_13 : cX8_readLine.data.toList.drop 305 = dktX8_readLine_13 := dk_seg dksX8_readLine_12 24 rfl rfl
theorem dksX8_readLine_14 : cX8_readLine.data.toList.drop 329 = dktX8_readLine_14 := dk_seg dksX8_readLine_13 24 rfl rfl
theorem dksX8_readLine_15 : cX8_readLine.data.toList.drop 353 = dktX8_readLine_15 := dk_seg dksX8_readLine_14 24 rfl rfl
theorem dksX8_readLine_16 : cX8_readLine.data.toList.drop 377 = dktX8_readLine_16 := dk_seg dksX8_readLine_15 24 rfl rfl
theorem dksX8_readLine_17 : cX8_readLine.data.toList.drop 400 = dktX8_readLine_17 := dk_seg dksX8_readLine_16 23 rfl rfl
theorem dksX8_readLine_18 : cX8_readLine.data.toList.drop 423 = dktX8_readLine_18 := dk_seg dksX8_readLine_17 23 rfl rfl
theorem dksX8_readLine_19 : cX8_readLine.data.toList.drop 447 = dktX8_readLine_19 := dk_seg dksX8_readLine_18 24 rfl rfl
theorem dksX8_readLine_20 : cX8_readLine.data.toList.drop 470 = dktX8_readLine_20 := dk_seg dksX8_readLine_19 23 rfl rfl
theorem dksX8_readLine_21 : cX8_readLine.data.toList.drop 492 = dktX8_readLine_21 := dk_seg dksX8_readLine_20 22 rfl rfl
theorem dksX8_readLine_22 : cX8_readLine.data.toList.drop 514 = dktX8_readLine_22 := dk_seg dksX8_readLine_21 22 rfl rfl
theorem dksX8_readLine_23 : cX8_readLine.data.toList.drop 538 = dktX8_readLine_23 := dk_seg dksX8_readLine_22 24 rfl rfl
theorem dksX8_readLine_24 : cX8_readLine.data.toList.drop 562 = dktX8_readLine_24 := dk_seg dksX8_readLine_23 24 rfl rfl
theorem dX8_readLine_0 : decode cX8_readLine 0 = .ok (.aload_n 0, 1) := dk_42 (dk_at dksX8_readLine_0 0 rfl rfl)
theorem dX8_readLine_1 : decode cX8_readLine 1 = .ok (.ldc 234, 2) := dk_18 234 (dk_at dksX8_readLine_0 1 rfl rfl)
theorem dX8_readLine_3 : decode cX8_readLine 3 = .ok (.invokevirtual 174, 3) := dk_182 0 174 (dk_at dksX8_readLine_0 3 rfl rfl)
theorem dX8_readLine_6 : decode cX8_readLine 6 = .ok (.ifCond .ne 83, 3) := dk_154 0 83 (dk_at dksX8_readLine_0 6 rfl rfl)
theorem dX8_readLine_9 : decode cX8_readLine 9 = .ok (.aload_n 0, 1) := dk_42 (dk_at dksX8_readLine_0 9 rfl rfl)
theorem dX8_readLine_10 : decode cX8_readLine 10 = .ok (.ldc_w 259, 3) := dk_19 1 3 (dk_at dksX8_readLine_0 10 rfl rfl)
theorem dX8_readLine_13 : decode cX8_readLine 13 = .ok (.invokevirtual 174, 3) := dk_182 0 174 (dk_at dksX8_readLine_0 13 rfl rfl)
theorem dX8_readLine_16 : decode cX8_readLine 16 = .ok (.ifCond .ne 73, 3) := dk_154 0 73 (dk_at dksX8_readLine_0 16 rfl rfl)
theorem dX8_readLine_19 : decode cX8_readLine 19 = .ok (.aload_n 0, 1) := dk_42 (dk_at dksX8_readLine_0 19 rfl rfl)
theorem dX8_readLine_20 : decode cX8_readLine 20 = .ok (.ldc_w 261, 3) := dk_19 1 5 (dk_at dksX8_readLine_0 20 rfl rfl)
theorem dX8_readLine_23 : decode cX8_readLine 23 = .ok (.invokevirtual 174, 3) := dk_182 0 174 (dk_at dksX8_readLine_1 0 rfl rfl)
theorem dX8_readLine_26 : decode cX8_readLine 26 = .ok (.ifCond .ne 63, 3) := dk_154 0 63 (dk_at dksX8_readLine_1 3 rfl rfl)
theorem dX8_readLine_29 : decode cX8_readLine 29 = .ok (.aload_n 0, 1) := dk_42 (dk_at dksX8_readLine_1 6 rfl rfl)
theorem dX8_readLine_30 : decode cX8_readLine 30 = .ok (.ldc_w 263, 3) := dk_19 1 7 (dk_at dksX8_readLine_1 7 rfl rfl)
theorem dX8_readLine_33 : decode cX8_readLine 33 = .ok (.invokevirtual 174, 3) := dk_182 0 174 (dk_at dksX8_readLine_1 10 rfl rfl)
theorem dX8_readLine_36 : decode cX8_readLine 36 = .ok (.ifCond .ne 53, 3) := dk_154 0 53 (dk_at dksX8_readLine_1 13 rfl rfl)
theorem dX8_readLine_39 : decode cX8_readLine 39 = .ok (.aload_n 0, 1) := dk_42 (dk_at dksX8_readLine_1 16 rfl rfl)
theorem dX8_readLine_40 : decode cX8_readLine 40 = .ok (.ldc_w 264, 3) := dk_19 1 8 (dk_at dksX8_readLine_1 17 rfl rfl)
theorem dX8_readLine_43 : decode cX8_readLine 43 = .ok (.invokevirtual 174, 3) := dk_182 0 174 (dk_at dksX8_readLine_1 20 rfl rfl)
theorem dX8_readLine_46 : decode cX8_readLine 46 = .ok (.ifCond .ne 43, 3) := dk_154 0 43 (dk_at dksX8_readLine_2 0 rfl rfl)
theorem dX8_readLine_49 : decode cX8_readLine 49 = .ok (.aload_n 0, 1) := dk_42 (dk_at dksX8_readLine_2 3 rfl rfl)
theorem dX8_readLine_50 : decode cX8_readLine 50 = .ok (.ldc_w 266, 3) := dk_19 1 10 (dk_at dksX8_readLine_2 4 rfl rfl)
theorem dX8_readLine_53 : decode cX8_readLine 53 = .ok (.invokevirtual 174, 3) := dk_182 0 174 (dk_at dksX8_readLine_2 7 rfl rfl)
theorem dX8_readLine_56 : decode cX8_readLine 56 = .ok (.ifCond .ne 33, 3) := dk_154 0 33 (dk_at dksX8_readLine_2 10 rfl rfl)
theorem dX8_readLine_59 : decode cX8_readLine 59 = .ok (.aload_n 0, 1) := dk_42 (dk_at dksX8_readLine_2 13 rfl rfl)
theorem dX8_readLine_60 : decode cX8_readLine 60 = .ok (.ldc_w 268, 3) := dk_19 1 12 (dk_at dksX8_readLine_2 14 rfl rfl)
theorem dX8_readLine_63 : decode cX8_readLine 63 = .ok (.invokevirtual 174, 3) := dk_182 0 174 (dk_at dksX8_readLine_2 17 rfl rfl)
theorem dX8_readLine_66 : decode cX8_readLine 66 = .ok (.ifCond .ne 23, 3) := dk_154 0 23 (dk_at dksX8_readLine_2 20 rfl rfl)
theorem dX8_readLine_69 : decode cX8_readLine 69 = .ok (.aload_n 0, 1) := dk_42 (dk_at dksX8_readLine_2 23 rfl rfl)
theorem dX8_readLine_70 : decode cX8_readLine 70 = .ok (.ldc_w 270, 3) := dk_19 1 14 (dk_at dksX8_readLine_3 0 rfl rfl)
theorem dX8_readLine_73 : decode cX8_readLine 73 = .ok (.invokevirtual 174, 3) := dk_182 0 174 (dk_at dksX8_readLine_3 3 rfl rfl)
theorem dX8_readLine_76 : decode cX8_readLine 76 = .ok (.ifCond .ne 13, 3) := dk_154 0 13 (dk_at dksX8_readLine_3 6 rfl rfl)
theorem dX8_readLine_79 : decode cX8_readLine 79 = .ok (.aload_n 0, 1) := dk_42 (dk_at dksX8_readLine_3 9 rfl rfl)
theorem dX8_readLine_80 : decode cX8_readLine 80 = .ok (.ldc_w 272, 3) := dk_19 1 16 (dk_at dksX8_readLine_3 10 rfl rfl)
theorem dX8_readLine_83 : decode cX8_readLine 83 = .ok (.invokevirtual 174, 3) := dk_182 0 174 (dk_at dksX8_readLine_3 13 rfl rfl)
theorem dX8_readLine_86 : decode cX8_readLine 86 = .ok (.ifCond .eq 7, 3) := dk_153 0 7 (dk_at dksX8_readLine_3 16 rfl rfl)
theorem dX8_readLine_89 : decode cX8_readLine 89 = .ok (.iconst 1, 1) := dk_4 (dk_at dksX8_readLine_3 19 rfl rfl)
theorem dX8_readLine_90 : decode cX8_readLine 90 = .ok (.goto 4, 3) := dk_167 0 4 (dk_at dksX8_readLine_3 20 rfl rfl)
theorem dX8_readLine_93 : decode cX8_readLine 93 = .ok (.iconst 0, 1) := dk_3 (dk_at dksX8_readLine_3 23 rfl rfl)
theorem dX8_readLine_94 : decode cX8_readLine 94 = .ok (.istore_n 1, 1) := dk_60 (dk_at dksX8_readLine_4 0 rfl rfl)
theorem dX8_readLine_95 : decode cX8_readLine 95 = .ok (.aload_n 0, 1) := dk_42 (dk_at dksX8_readLine_4 1 rfl rfl)
theorem dX8_readLine_96 : decode cX8_readLine 96 = .ok (.getfield 37, 3) := dk_180 0 37 (dk_at dksX8_readLine_4 2 rfl rfl)
theorem dX8_readLine_99 : decode cX8_readLine 99 = .ok (.iconst 0, 1) := dk_3 (dk_at dksX8_readLine_4 5 rfl rfl)
theorem dX8_readLine_100 : decode cX8_readLine 100 = .ok (.iaload, 1) := dk_46 (dk_at dksX8_readLine_4 6 rfl rfl)
theorem dX8_readLine_101 : decode cX8_readLine 101 = .ok (.bipush 40, 2) := dk_16 40 (dk_at dksX8_readLine_4 7 rfl rfl)
theorem dX8_readLine_103 : decode cX8_readLine 103 = .ok (.if_icmp .eq 120, 3) := dk_159 0 120 (dk_at dksX8_readLine_4 9 rfl rfl)
theorem dX8_readLine_106 : decode cX8_readLine 106 = .ok (.aload_n 0, 1) := dk_42 (dk_at dksX8_readLine_4 12 rfl rfl)
theorem dX8_readLine_107 : decode cX8_readLine 107 = .ok (.ldc_w 266, 3) := dk_19 1 10 (dk_at dksX8_readLine_4 13 rfl rfl)
theorem dX8_readLine_110 : decode cX8_readLine 110 = .ok (.invokevirtual 174, 3) := dk_182 0 174 (dk_at dksX8_readLine_4 16 rfl rfl)
theorem dX8_readLine_113 : decode cX8_readLine 113 = .ok (.ifCond .eq 14, 3) := dk_153 0 14 (dk_at dksX8_readLine_4 19 rfl rfl)
theorem dX8_readLine_116 : decode cX8_readLine 116 = .ok (.aload_n 0, 1) := dk_42 (dk_at dksX8_readLine_4 22 rfl rfl)
theorem dX8_readLine_117 : decode cX8_readLine 117 = .ok (.getfield 37, 3) := dk_180 0 37 (dk_at dksX8_readLine_5 0 rfl rfl)
theorem dX8_readLine_120 : decode cX8_readLine 120 = .ok (.iconst 2, 1) := dk_5 (dk_at dksX8_readLine_5 3 rfl rfl)
theorem dX8_readLine_121 : decode cX8_readLine 121 = .ok (.iaload, 1) := dk_46 (dk_at dksX8_readLine_5 4 rfl rfl)
theorem dX8_readLine_122 : decode cX8_readLine 122 = .ok (.bipush 12, 2) := dk_16 12 (dk_at dksX8_readLine_5 5 rfl rfl)
theorem dX8_readLine_124 : decode cX8_readLine 124 = .ok (.if_icmp .eq 99, 3) := dk_159 0 99 (dk_at dksX8_readLine_5 7 rfl rfl)
theorem dX8_readLine_127 : decode cX8_readLine 127 = .ok (.aload_n 0, 1) := dk_42 (dk_at dksX8_readLine_5 10 rfl rfl)
theorem dX8_readLine_128 : decode cX8_readLine 128 = .ok (.ldc_w 270, 3) := dk_19 1 14 (dk_at dksX8_readLine_5 11 rfl rfl)
theorem dX8_readLine_131 : decode cX8_readLine 131 = .ok (.invokevirtual 174, 3) := dk_182 0 174 (dk_at dksX8_readLine_5 14 rfl rfl)
theorem dX8_readLine_134 : decode cX8_readLine 134 = .ok (.ifCond .eq 14, 3) := dk_153 0 14 (dk_at dksX8_readLine_5 17 rfl rfl)
theorem dX8_readLine_137 : decode cX8_readLine 137 = .ok (.aload_n 0, 1) := dk_42 (dk_at dksX8_readLine_5 20 rfl rfl)
theorem dX8_readLine_138 : decode cX8_readLine 138 = .ok (.getfield 37, 3) := dk_180 0 37 (dk_at dksX8_readLine_5 21 rfl rfl)
theorem dX8_readLine_141 : decode cX8_readLine 141 = .ok (.iconst 3, 1) := dk_6 (dk_at dksX8_readLine_6 0 rfl rfl)
theorem dX8_readLine_142 : decode cX8_readLine 142 = .ok (.iaload, 1) := dk_46 (dk_at dksX8_readLine_6 1 rfl rfl)
theorem dX8_readLine_143 : decode cX8_readLine 143 = .ok (.bipush 6, 2) := dk_16 6 (dk_at dksX8_readLine_6 2 rfl rfl)
theorem dX8_readLine_145 : decode cX8_readLine 145 = .ok (.if_icmp .eq 78, 3) := dk_159 0 78 (dk_at dksX8_readLine_6 4 rfl rfl)
theorem dX8_readLine_148 : decode cX8_readLine 148 = .ok (.aload_n 0, 1) := dk_42 (dk_at dksX8_readLine_6 7 rfl rfl)
theorem dX8_readLine_149 : decode cX8_readLine 149 = .ok (.ldc_w 272, 3) := dk_19 1 16 (dk_at dksX8_readLine_6 8 rfl rfl)
theorem dX8_readLine_152 : decode cX8_readLine 152 = .ok (.invokevirtual 174, 3) := dk_182 0 174 (dk_at dksX8_readLine_6 11 rfl rfl)
theorem dX8_readLine_155 : decode cX8_readLine 155 = .ok (.ifCond .eq 13, 3) := dk_153 0 13 (dk_at dksX8_readLine_6 14 rfl rfl)
theorem dX8_readLine_158 : decode cX8_readLine 158 = .ok (.aload_n 0, 1) := dk_42 (dk_at dksX8_readLine_6 17 rfl rfl)
theorem dX8_readLine_159 : decode cX8_readLine 159 = .ok (.getfield 37, 3) := dk_180 0 37 (dk_at dksX8_readLine_6 18 rfl rfl)
theorem dX8_readLine_162 : decode cX8_readLine 162 = .ok (.iconst 4, 1) := dk_7 (dk_at dksX8_readLine_6 21 rfl rfl)
theorem dX8_readLine_163 : decode cX8_readLine 163 = .ok (.iaload, 1) := dk_46 (dk_at dksX8_readLine_6 22 rfl rfl)
theorem dX8_readLine_164 : decode cX8_readLine 164 = .ok (.iconst 4, 1) := dk_7 (dk_at dksX8_readLine_6 23 rfl rfl)
theorem dX8_readLine_165 : decode cX8_readLine 165 = .ok (.if_icmp .eq 58, 3) := dk_159 0 58 (dk_at dksX8_readLine_7 0 rfl rfl)
theorem dX8_readLine_168 : decode cX8_readLine 168 = .ok (.aload_n 0, 1) := dk_42 (dk_at dksX8_readLine_7 3 rfl rfl)
theorem dX8_readLine_169 : decode cX8_readLine 169 = .ok (.ldc_w 263, 3) := dk_19 1 7 (dk_at dksX8_readLine_7 4 rfl rfl)
theorem dX8_readLine_172 : decode cX8_readLine 172 = .ok (.invokevirtual 174, 3) := dk_182 0 174 (dk_at dksX8_readLine_7 7 rfl rfl)
theorem dX8_readLine_175 : decode cX8_readLine 175 = .ok (.ifCond .eq 10, 3) := dk_153 0 10 (dk_at dksX8_readLine_7 10 rfl rfl)
theorem dX8_readLine_178 : decode cX8_readLine 178 = .ok (.aload_n 0, 1) := dk_42 (dk_at dksX8_readLine_7 13 rfl rfl)
theorem dX8_readLine_179 : decode cX8_readLine 179 = .ok (.getfield 274, 3) := dk_180 1 18 (dk_at dksX8_readLine_7 14 rfl rfl)
theorem dX8_readLine_182 : decode cX8_readLine 182 = .ok (.ifCond .ne 41, 3) := dk_154 0 41 (dk_at dksX8_readLine_7 17 rfl rfl)
theorem dX8_readLine_185 : decode cX8_readLine 185 = .ok (.aload_n 0, 1) := dk_42 (dk_at dksX8_readLine_7 20 rfl rfl)
theorem dX8_readLine_186 : decode cX8_readLine 186 = .ok (.ldc_w 264, 3) := dk_19 1 8 (dk_at dksX8_readLine_7 21 rfl rfl)
theorem dX8_readLine_189 : decode cX8_readLine 189 = .ok (.invokevirtual 174, 3) := dk_182 0 174 (dk_at dksX8_readLine_8 0 rfl rfl)
theorem dX8_readLine_192 : decode cX8_readLine 192 = .ok (.ifCond .eq 14, 3) := dk_153 0 14 (dk_at dksX8_readLine_8 3 rfl rfl)
theorem dX8_readLine_195 : decode cX8_readLine 195 = .ok (.aload_n 0, 1) := dk_42 (dk_at dksX8_readLine_8 6 rfl rfl)
theorem dX8_readLine_196 : decode cX8_readLine 196 = .ok (.getfield 37, 3) := dk_180 0 37 (dk_at dksX8_readLine_8 7 rfl rfl)
theorem dX8_readLine_199 : decode cX8_readLine 199 = .ok (.bipush 7, 2) := dk_16 7 (dk_at dksX8_readLine_8 10 rfl rfl)
theorem dX8_readLine_201 : decode cX8_readLine 201 = .ok (.iaload, 1) := dk_46 (dk_at dksX8_readLine_8 12 rfl rfl)
theorem dX8_readLine_202 : decode cX8_readLine 202 = .ok (.iconst 1, 1) := dk_4 (dk_at dksX8_readLine_8 13 rfl rfl)
theorem dX8_readLine_203 : decode cX8_readLine 203 = .ok (.if_icmp .eq 20, 3) := dk_159 0 20 (dk_at dksX8_readLine_8 14 rfl rfl)
theorem dX8_readLine_206 : decode cX8_readLine 206 = .ok (.aload_n 0, 1) := dk_42 (dk_at dksX8_readLine_8 17 rfl rfl)
theorem dX8_readLine_207 : decode cX8_readLine 207 = .ok (.ldc_w 268, 3) := dk_19 1 12 (dk_at dksX8_readLine_8 18 rfl rfl)
theorem dX8_readLine_210 : decode cX8_readLine 210 = .ok (.invokevirtual 174, 3) := dk_182 0 174 (dk_at dksX8_readLine_8 21 rfl rfl)
theorem dX8_readLine_213 : decode cX8_readLine 213 = .ok (.ifCond .eq 14, 3) := dk_153 0 14 (dk_at dksX8_readLine_9 0 rfl rfl)
theorem dX8_readLine_216 : decode cX8_readLine 216 = .ok (.aload_n 0, 1) := dk_42 (dk_at dksX8_readLine_9 3 rfl rfl)
theorem dX8_readLine_217 : decode cX8_readLine 217 = .ok (.getfield 278, 3) := dk_180 1 22 (dk_at dksX8_readLine_9 4 rfl rfl)
theorem dX8_readLine_220 : decode cX8_readLine 220 = .ok (.ifCond .eq 7, 3) := dk_153 0 7 (dk_at dksX8_readLine_9 7 rfl rfl)
theorem dX8_readLine_223 : decode cX8_readLine 223 = .ok (.iconst 1, 1) := dk_4 (dk_at dksX8_readLine_9 10 rfl rfl)
theorem dX8_readLine_224 : decode cX8_readLine 224 = .ok (.goto 4, 3) := dk_167 0 4 (dk_at dksX8_readLine_9 11 rfl rfl)
theorem dX8_readLine_227 : decode cX8_readLine 227 = .ok (.iconst 0, 1) := dk_3 (dk_at dksX8_readLine_9 14 rfl rfl)
theorem dX8_readLine_228 : decode cX8_readLine 228 = .ok (.istore_n 2, 1) := dk_61 (dk_at dksX8_readLine_9 15 rfl rfl)
theorem dX8_readLine_229 : decode cX8_readLine 229 = .ok (.iload_n 1, 1) := dk_27 (dk_at dksX8_readLine_9 16 rfl rfl)
theorem dX8_readLine_230 : decode cX8_readLine 230 = .ok (.ifCond .ne 11, 3) := dk_154 0 11 (dk_at dksX8_readLine_9 17 rfl rfl)
theorem dX8_readLine_233 : decode cX8_readLine 233 = .ok (.aload_n 0, 1) := dk_42 (dk_at dksX8_readLine_9 20 rfl rfl)
theorem dX8_readLine_234 : decode cX8_readLine 234 = .ok (.iconst 1, 1) := dk_4 (dk_at dksX8_readLine_9 21 rfl rfl)
theorem dX8_readLine_235 : decode cX8_readLine 235 = .ok (.invokevirtual 184, 3) := dk_182 0 184 (dk_at dksX8_readLine_10 0 rfl rfl)
theorem dX8_readLine_238 : decode cX8_readLine 238 = .ok (.goto 12, 3) := dk_167 0 12 (dk_at dksX8_readLine_10 3 rfl rfl)
theorem dX8_readLine_241 : decode cX8_readLine 241 = .ok (.iload_n 2, 1) := dk_28 (dk_at dksX8_readLine_10 6 rfl rfl)
theorem dX8_readLine_242 : decode cX8_readLine 242 = .ok (.ifCond .eq 8, 3) := dk_153 0 8 (dk_at dksX8_readLine_10 7 rfl rfl)
theorem dX8_readLine_245 : decode cX8_readLine 245 = .ok (.aload_n 0, 1) := dk_42 (dk_at dksX8_readLine_10 10 rfl rfl)
theorem dX8_readLine_246 : decode cX8_readLine 246 = .ok (.iconst 3, 1) := dk_6 (dk_at dksX8_readLine_10 11 rfl rfl)
theorem dX8_readLine_247 : decode cX8_readLine 247 = .ok (.invokevirtual 184, 3) := dk_182 0 184 (dk_at dksX8_readLine_10 12 rfl rfl)
theorem dX8_readLine_250 : decode cX8_readLine 250 = .ok (.aload_n 0, 1) := dk_42 (dk_at dksX8_readLine_10 15 rfl rfl)
theorem dX8_readLine_251 : decode cX8_readLine 251 = .ok (.invokevirtual 161, 3) := dk_182 0 161 (dk_at dksX8_readLine_10 16 rfl rfl)
theorem dX8_readLine_254 : decode cX8_readLine 254 = .ok (.ifCond .ne 4, 3) := dk_154 0 4 (dk_at dksX8_readLine_10 19 rfl rfl)
theorem dX8_readLine_257 : decode cX8_readLine 257 = .ok (.return_, 1) := dk_177 (dk_at dksX8_readLine_10 22 rfl rfl)
theorem dX8_readLine_258 : decode cX8_readLine 258 = .ok (.aload_n 0, 1) := dk_42 (dk_at dksX8_readLine_10 23 rfl rfl)
theorem dX8_readLine_259 : decode cX8_readLine 259 = .ok (.getfield 37, 3) := dk_180 0 37 (dk_at dksX8_readLine_11 0 rfl rfl)
theorem dX8_readLine_262 : decode cX8_readLine 262 = .ok (.iconst 0, 1) := dk_3 (dk_at dksX8_readLine_11 3 rfl rfl)
theorem dX8_readLine_263 : decode cX8_readLine 263 = .ok (.dup2, 1) := dk_92 (dk_at dksX8_readLine_11 4 rfl rfl)
theorem dX8_readLine_264 : decode cX8_readLine 264 = .ok (.iaload, 1) := dk_46 (dk_at dksX8_readLine_11 5 rfl rfl)
theorem dX8_readLine_265 : decode cX8_readLine 265 = .ok (.iconst 1, 1) := dk_4 (dk_at dksX8_readLine_11 6 rfl rfl)
theorem dX8_readLine_266 : decode cX8_readLine 266 = .ok (.iadd, 1) := dk_96 (dk_at dksX8_readLine_11 7 rfl rfl)
theorem dX8_readLine_267 : decode cX8_readLine 267 = .ok (.iastore, 1) := dk_79 (dk_at dksX8_readLine_11 8 rfl rfl)
theorem dX8_readLine_268 : decode cX8_readLine 268 = .ok (.aload_n 0, 1) := dk_42 (dk_at dksX8_readLine_11 9 rfl rfl)
theorem dX8_readLine_269 : decode cX8_readLine 269 = .ok (.ldc 234, 2) := dk_18 234 (dk_at dksX8_readLine_11 10 rfl rfl)
theorem dX8_readLine_271 : decode cX8_readLine 271 = .ok (.invokevirtual 181, 3) := dk_182 0 181 (dk_at dksX8_readLine_11 12 rfl rfl)
theorem dX8_readLine_274 : decode cX8_readLine 274 = .ok (.ifCond .eq 10, 3) := dk_153 0 10 (dk_at dksX8_readLine_11 15 rfl rfl)
theorem dX8_readLine_277 : decode cX8_readLine 277 = .ok (.aload_n 0, 1) := dk_42 (dk_at dksX8_readLine_11 18 rfl rfl)
theorem dX8_readLine_278 : decode cX8_readLine 278 = .ok (.invokevirtual 281, 3) := dk_182 1 25 (dk_at dksX8_readLine_11 19 rfl rfl)
theorem dX8_readLine_281 : decode cX8_readLine 281 = .ok (.goto 266, 3) := dk_167 1 10 (dk_at dksX8_readLine_12 0 rfl rfl)
theorem dX8_readLine_284 : decode cX8_readLine 284 = .ok (.aload_n 0, 1) := dk_42 (dk_at dksX8_readLine_12 3 rfl rfl)
theorem dX8_readLine_285 : decode cX8_readLine 285 = .ok (.ldc_w 259, 3) := dk_19 1 3 (dk_at dksX8_readLine_12 4 rfl rfl)
theorem dX8_readLine_288 : decode cX8_readLine 288 = .ok (.invokevirtual 181, 3) := dk_182 0 181 (dk_at dksX8_readLine_12 7 rfl rfl)
theorem dX8_readLine_291 : decode cX8_readLine 291 = .ok (.ifCond .eq 10, 3) := dk_153 0 10 (dk_at dksX8_readLine_12 10 rfl rfl)
theorem dX8_readLine_294 : decode cX8_readLine 294 = .ok (.aload_n 0, 1) := dk_42 (dk_at dksX8_readLine_12 13 rfl rfl)
theorem dX8_readLine_295 : decode cX8_readLine 295 = .ok (.invokevirtual 284, 3) := dk_182 1 28 (dk_at dksX8_readLine_12 14 rfl rfl)
theorem dX8_readLine_298 : decode cX8_readLine 298 = .ok (.goto 249, 3) := dk_167 0 249 (dk_at dksX8_readLine_12 17 rfl rfl)
theorem dX8_readLine_301 : decode cX8_readLine 301 = .ok (.aload_n 0, 1) := dk_42 (dk_at dksX8_readLine_12 20 rfl rfl)
theorem dX8_readLine_302 : decode cX8_readLine 302 = .ok (.ldc_w 261, 3) := dk_19 1 5 (dk_at dksX8_readLine_12 21 rfl rfl)
theorem dX8_readLine_305 : decode cX8_readLine 305 = .ok (.invokevirtual 181, 3) := dk_182 0 181 (dk_at dksX8_readLine_13 0 rfl rfl)
theorem dX8_readLine_308 : decode cX8_readLine 308 = .ok (.ifCond .eq 10, 3) := dk_153 0 10 (dk_at dksX8_readLine_13 3 rfl rfl)
theorem dX8_readLine_311 : decode cX8_readLine 311 = .ok (.aload_n 0, 1) := dk_42 (dk_at dksX8_readLine_13 6 rfl rfl)
theorem dX8_readLine_312 : decode cX8_readLine 312 = .ok (.invokevirtual 287, 3) := dk_182 1 31 (dk_at dksX8_readLine_13 7 rfl rfl)
theorem dX8_readLine_315 : decode cX8_readLine 315 = .ok (.goto 232, 3) := dk_167 0 232 (dk_at dksX8_readLine_13 10 rfl rfl)
theorem dX8_readLine_318 : decode cX8_readLine 318 = .ok (.aload_n 0, 1) := dk_42 (dk_at dksX8_readLine_13 13 rfl rfl)
theorem dX8_readLine_319 : decode cX8_readLine 319 = .ok (.ldc_w 266, 3) := dk_19 1 10 (dk_at dksX8_readLine_13 14 rfl rfl)
theorem dX8_readLine_322 : decode cX8_readLine 322 = .ok (.invokevirtual 181, 3) := dk_182 0 181 (dk_at dksX8_readLine_13 17 rfl rfl)
theorem dX8_readLine_325 : decode cX8_readLine 325 = .ok (.ifCond .eq 10, 3) := dk_153 0 10 (dk_at dksX8_readLine_13 20 rfl rfl)
theorem dX8_readLine_328 : decode cX8_readLine 328 = .ok (.aload_n 0, 1) := dk_42 (dk_at dksX8_readLine_13 23 rfl rfl)
theorem dX8_readLine_329 : decode cX8_readLine 329 = .ok (.invokevirtual 290, 3) := dk_182 1 34 (dk_at dksX8_readLine_14 0 rfl rfl)
theorem dX8_readLine_332 : decode cX8_readLine 332 = .ok (.goto 215, 3) := dk_167 0 215 (dk_at dksX8_readLine_14 3 rfl rfl)
theorem dX8_readLine_335 : decode cX8_readLine 335 = .ok (.aload_n 0, 1) := dk_42 (dk_at dksX8_readLine_14 6 rfl rfl)
theorem dX8_readLine_336 : decode cX8_readLine 336 = .ok (.ldc_w 272, 3) := dk_19 1 16 (dk_at dksX8_readLine_14 7 rfl rfl)
theorem dX8_readLine_339 : decode cX8_readLine 339 = .ok (.invokevirtual 181, 3) := dk_182 0 181 (dk_at dksX8_readLine_14 10 rfl rfl)
theorem dX8_readLine_342 : decode cX8_readLine 342 = .ok (.ifCond .eq 10, 3) := dk_153 0 10 (dk_at dksX8_readLine_14 13 rfl rfl)
theorem dX8_readLine_345 : decode cX8_readLine 345 = .ok (.aload_n 0, 1) := dk_42 (dk_at dksX8_readLine_14 16 rfl rfl)
theorem dX8_readLine_346 : decode cX8_readLine 346 = .ok (.invokevirtual 293, 3) := dk_182 1 37 (dk_at dksX8_readLine_14 17 rfl rfl)
theorem dX8_readLine_349 : decode cX8_readLine 349 = .ok (.goto 198, 3) := dk_167 0 198 (dk_at dksX8_readLine_14 20 rfl rfl)
theorem dX8_readLine_352 : decode cX8_readLine 352 = .ok (.aload_n 0, 1) := dk_42 (dk_at dksX8_readLine_14 23 rfl rfl)
theorem dX8_readLine_353 : decode cX8_readLine 353 = .ok (.ldc_w 263, 3) := dk_19 1 7 (dk_at dksX8_readLine_15 0 rfl rfl)
theorem dX8_readLine_356 : decode cX8_readLine 356 = .ok (.invokevirtual 181, 3) := dk_182 0 181 (dk_at dksX8_readLine_15 3 rfl rfl)
theorem dX8_readLine_359 : decode cX8_readLine 359 = .ok (.ifCond .eq 25, 3) := dk_153 0 25 (dk_at dksX8_readLine_15 6 rfl rfl)
theorem dX8_readLine_362 : decode cX8_readLine 362 = .ok (.aload_n 0, 1) := dk_42 (dk_at dksX8_readLine_15 9 rfl rfl)
theorem dX8_readLine_363 : decode cX8_readLine 363 = .ok (.iconst 1, 1) := dk_4 (dk_at dksX8_readLine_15 10 rfl rfl)
theorem dX8_readLine_364 : decode cX8_readLine 364 = .ok (.putfield 274, 3) := dk_181 1 18 (dk_at dksX8_readLine_15 11 rfl rfl)
theorem dX8_readLine_367 : decode cX8_readLine 367 = .ok (.aload_n 0, 1) := dk_42 (dk_at dksX8_readLine_15 14 rfl rfl)
theorem dX8_readLine_368 : decode cX8_readLine 368 = .ok (.getfield 37, 3) := dk_180 0 37 (dk_at dksX8_readLine_15 15 rfl rfl)
theorem dX8_readLine_371 : decode cX8_readLine 371 = .ok (.iconst 5, 1) := dk_8 (dk_at dksX8_readLine_15 18 rfl rfl)
theorem dX8_readLine_372 : decode cX8_readLine 372 = .ok (.aload_n 0, 1) := dk_42 (dk_at dksX8_readLine_15 19 rfl rfl)
theorem dX8_readLine_373 : decode cX8_readLine 373 = .ok (.iconst 1, 1) := dk_4 (dk_at dksX8_readLine_15 20 rfl rfl)
theorem dX8_readLine_374 : decode cX8_readLine 374 = .ok (.sipush 300, 3) := dk_17 1 44 (dk_at dksX8_readLine_15 21 rfl rfl)
theorem dX8_readLine_377 : decode cX8_readLine 377 = .ok (.invokevirtual 192, 3) := dk_182 0 192 (dk_at dksX8_readLine_16 0 rfl rfl)
theorem dX8_readLine_380 : decode cX8_readLine 380 = .ok (.iastore, 1) := dk_79 (dk_at dksX8_readLine_16 3 rfl rfl)
theorem dX8_readLine_381 : decode cX8_readLine 381 = .ok (.goto 166, 3) := dk_167 0 166 (dk_at dksX8_readLine_16 4 rfl rfl)
theorem dX8_readLine_384 : decode cX8_readLine 384 = .ok (.aload_n 0, 1) := dk_42 (dk_at dksX8_readLine_16 7 rfl rfl)
theorem dX8_readLine_385 : decode cX8_readLine 385 = .ok (.ldc_w 268, 3) := dk_19 1 12 (dk_at dksX8_readLine_16 8 rfl rfl)
theorem dX8_readLine_388 : decode cX8_readLine 388 = .ok (.invokevirtual 181, 3) := dk_182 0 181 (dk_at dksX8_readLine_16 11 rfl rfl)
theorem dX8_readLine_391 : decode cX8_readLine 391 = .ok (.ifCond .eq 25, 3) := dk_153 0 25 (dk_at dksX8_readLine_16 14 rfl rfl)
theorem dX8_readLine_394 : decode cX8_readLine 394 = .ok (.aload_n 0, 1) := dk_42 (dk_at dksX8_readLine_16 17 rfl rfl)
theorem dX8_readLine_395 : decode cX8_readLine 395 = .ok (.iconst 1, 1) := dk_4 (dk_at dksX8_readLine_16 18 rfl rfl)
theorem dX8_readLine_396 : decode cX8_readLine 396 = .ok (.putfield 278, 3) := dk_181 1 22 (dk_at dksX8_readLine_16 19 rfl rfl)
theorem dX8_readLine_399 : decode cX8_readLine 399 = .ok (.aload_n 0, 1) := dk_42 (dk_at dksX8_readLine_16 22 rfl rfl)
theorem dX8_readLine_400 : decode cX8_readLine 400 = .ok (.getfield 37, 3) := dk_180 0 37 (dk_at dksX8_readLine_17 0 rfl rfl)
theorem dX8_readLine_403 : decode cX8_readLine 403 = .ok (.bipush 6, 2) := dk_16 6 (dk_at dksX8_readLine_17 3 rfl rfl)
theorem dX8_readLine_405 : decode cX8_readLine 405 = .ok (.aload_n 0, 1) := dk_42 (dk_at dksX8_readLine_17 5 rfl rfl)
theorem dX8_readLine_406 : decode cX8_readLine 406 = .ok (.iconst 0, 1) := dk_3 (dk_at dksX8_readLine_17 6 rfl rfl)
theorem dX8_readLine_407 : decode cX8_readLine 407 = .ok (.ldc 93, 2) := dk_18 93 (dk_at dksX8_readLine_17 7 rfl rfl)
theorem dX8_readLine_409 : decode cX8_readLine 409 = .ok (.invokevirtual 192, 3) := dk_182 0 192 (dk_at dksX8_readLine_17 9 rfl rfl)
theorem dX8_readLine_412 : decode cX8_readLine 412 = .ok (.iastore, 1) := dk_79 (dk_at dksX8_readLine_17 12 rfl rfl)
theorem dX8_readLine_413 : decode cX8_readLine 413 = .ok (.goto 134, 3) := dk_167 0 134 (dk_at dksX8_readLine_17 13 rfl rfl)
theorem dX8_readLine_416 : decode cX8_readLine 416 = .ok (.aload_n 0, 1) := dk_42 (dk_at dksX8_readLine_17 16 rfl rfl)
theorem dX8_readLine_417 : decode cX8_readLine 417 = .ok (.ldc_w 264, 3) := dk_19 1 8 (dk_at dksX8_readLine_17 17 rfl rfl)
theorem dX8_readLine_420 : decode cX8_readLine 420 = .ok (.invokevirtual 181, 3) := dk_182 0 181 (dk_at dksX8_readLine_17 20 rfl rfl)
theorem dX8_readLine_423 : decode cX8_readLine 423 = .ok (.ifCond .eq 65, 3) := dk_153 0 65 (dk_at dksX8_readLine_18 0 rfl rfl)
theorem dX8_readLine_426 : decode cX8_readLine 426 = .ok (.aload_n 0, 1) := dk_42 (dk_at dksX8_readLine_18 3 rfl rfl)
theorem dX8_readLine_427 : decode cX8_readLine 427 = .ok (.iconst 1, 1) := dk_4 (dk_at dksX8_readLine_18 4 rfl rfl)
theorem dX8_readLine_428 : decode cX8_readLine 428 = .ok (.bipush 10, 2) := dk_16 10 (dk_at dksX8_readLine_18 5 rfl rfl)
theorem dX8_readLine_430 : decode cX8_readLine 430 = .ok (.invokevirtual 230, 3) := dk_182 0 230 (dk_at dksX8_readLine_18 7 rfl rfl)
theorem dX8_readLine_433 : decode cX8_readLine 433 = .ok (.aload_n 0, 1) := dk_42 (dk_at dksX8_readLine_18 10 rfl rfl)
theorem dX8_readLine_434 : decode cX8_readLine 434 = .ok (.getfield 37, 3) := dk_180 0 37 (dk_at dksX8_readLine_18 11 rfl rfl)
theorem dX8_readLine_437 : decode cX8_readLine 437 = .ok (.bipush 7, 2) := dk_16 7 (dk_at dksX8_readLine_18 14 rfl rfl)
theorem dX8_readLine_439 : decode cX8_readLine 439 = .ok (.iconst 1, 1) := dk_4 (dk_at dksX8_readLine_18 16 rfl rfl)
theorem dX8_readLine_440 : decode cX8_readLine 440 = .ok (.iastore, 1) := dk_79 (dk_at dksX8_readLine_18 17 rfl rfl)
theorem dX8_readLine_441 : decode cX8_readLine 441 = .ok (.aload_n 0, 1) := dk_42 (dk_at dksX8_readLine_18 18 rfl rfl)
theorem dX8_readLine_442 : decode cX8_readLine 442 = .ok (.getfield 37, 3) := dk_180 0 37 (dk_at dksX8_readLine_18 19 rfl rfl)
theorem dX8_readLine_445 : decode cX8_readLine 445 = .ok (.bipush 8, 2) := dk_16 8 (dk_at dksX8_readLine_18 22 rfl rfl)
theorem dX8_readLine_447 : decode cX8_readLine 447 = .ok (.aload_n 0, 1) := dk_42 (dk_at dksX8_readLine_19 0 rfl rfl)
theorem dX8_readLine_448 : decode cX8_readLine 448 = .ok (.getfield 216, 3) := dk_180 0 216 (dk_at dksX8_readLine_19 1 rfl rfl)
theorem dX8_readLine_451 : decode cX8_readLine 451 = .ok (.iastore, 1) := dk_79 (dk_at dksX8_readLine_19 4 rfl rfl)
theorem dX8_readLine_452 : decode cX8_readLine 452 = .ok (.aload_n 0, 1) := dk_42 (dk_at dksX8_readLine_19 5 rfl rfl)
theorem dX8_readLine_453 : decode cX8_readLine 453 = .ok (.getfield 37, 3) := dk_180 0 37 (dk_at dksX8_readLine_19 6 rfl rfl)
theorem dX8_readLine_456 : decode cX8_readLine 456 = .ok (.bipush 9, 2) := dk_16 9 (dk_at dksX8_readLine_19 9 rfl rfl)
theorem dX8_readLine_458 : decode cX8_readLine 458 = .ok (.aload_n 0, 1) := dk_42 (dk_at dksX8_readLine_19 11 rfl rfl)
theorem dX8_readLine_459 : decode cX8_readLine 459 = .ok (.getfield 219, 3) := dk_180 0 219 (dk_at dksX8_readLine_19 12 rfl rfl)
theorem dX8_readLine_462 : decode cX8_readLine 462 = .ok (.iastore, 1) := dk_79 (dk_at dksX8_readLine_19 15 rfl rfl)
theorem dX8_readLine_463 : decode cX8_readLine 463 = .ok (.aload_n 0, 1) := dk_42 (dk_at dksX8_readLine_19 16 rfl rfl)
theorem dX8_readLine_464 : decode cX8_readLine 464 = .ok (.getfield 37, 3) := dk_180 0 37 (dk_at dksX8_readLine_19 17 rfl rfl)
theorem dX8_readLine_467 : decode cX8_readLine 467 = .ok (.bipush 10, 2) := dk_16 10 (dk_at dksX8_readLine_19 20 rfl rfl)
theorem dX8_readLine_469 : decode cX8_readLine 469 = .ok (.aload_n 0, 1) := dk_42 (dk_at dksX8_readLine_19 22 rfl rfl)
theorem dX8_readLine_470 : decode cX8_readLine 470 = .ok (.getfield 224, 3) := dk_180 0 224 (dk_at dksX8_readLine_20 0 rfl rfl)
theorem dX8_readLine_473 : decode cX8_readLine 473 = .ok (.iastore, 1) := dk_79 (dk_at dksX8_readLine_20 3 rfl rfl)
theorem dX8_readLine_474 : decode cX8_readLine 474 = .ok (.aload_n 0, 1) := dk_42 (dk_at dksX8_readLine_20 4 rfl rfl)
theorem dX8_readLine_475 : decode cX8_readLine 475 = .ok (.getfield 37, 3) := dk_180 0 37 (dk_at dksX8_readLine_20 5 rfl rfl)
theorem dX8_readLine_478 : decode cX8_readLine 478 = .ok (.bipush 11, 2) := dk_16 11 (dk_at dksX8_readLine_20 8 rfl rfl)
theorem dX8_readLine_480 : decode cX8_readLine 480 = .ok (.aload_n 0, 1) := dk_42 (dk_at dksX8_readLine_20 10 rfl rfl)
theorem dX8_readLine_481 : decode cX8_readLine 481 = .ok (.getfield 227, 3) := dk_180 0 227 (dk_at dksX8_readLine_20 11 rfl rfl)
theorem dX8_readLine_484 : decode cX8_readLine 484 = .ok (.iastore, 1) := dk_79 (dk_at dksX8_readLine_20 14 rfl rfl)
theorem dX8_readLine_485 : decode cX8_readLine 485 = .ok (.goto 62, 3) := dk_167 0 62 (dk_at dksX8_readLine_20 15 rfl rfl)
theorem dX8_readLine_488 : decode cX8_readLine 488 = .ok (.aload_n 0, 1) := dk_42 (dk_at dksX8_readLine_20 18 rfl rfl)
theorem dX8_readLine_489 : decode cX8_readLine 489 = .ok (.invokevirtual 178, 3) := dk_182 0 178 (dk_at dksX8_readLine_20 19 rfl rfl)
theorem dX8_readLine_492 : decode cX8_readLine 492 = .ok (.sipush 732, 3) := dk_17 2 220 (dk_at dksX8_readLine_21 0 rfl rfl)
theorem dX8_readLine_495 : decode cX8_readLine 495 = .ok (.iconst 3, 1) := dk_6 (dk_at dksX8_readLine_21 3 rfl rfl)
theorem dX8_readLine_496 : decode cX8_readLine 496 = .ok (.aload_n 0, 1) := dk_42 (dk_at dksX8_readLine_21 4 rfl rfl)
theorem dX8_readLine_497 : decode cX8_readLine 497 = .ok (.getfield 37, 3) := dk_180 0 37 (dk_at dksX8_readLine_21 5 rfl rfl)
theorem dX8_readLine_500 : decode cX8_readLine 500 = .ok (.iconst 3, 1) := dk_6 (dk_at dksX8_readLine_21 8 rfl rfl)
theorem dX8_readLine_501 : decode cX8_readLine 501 = .ok (.iaload, 1) := dk_46 (dk_at dksX8_readLine_21 9 rfl rfl)
theorem dX8_readLine_502 : decode cX8_readLine 502 = .ok (.imul, 1) := dk_104 (dk_at dksX8_readLine_21 10 rfl rfl)
theorem dX8_readLine_503 : decode cX8_readLine 503 = .ok (.iadd, 1) := dk_96 (dk_at dksX8_readLine_21 11 rfl rfl)
theorem dX8_readLine_504 : decode cX8_readLine 504 = .ok (.istore_n 3, 1) := dk_62 (dk_at dksX8_readLine_21 12 rfl rfl)
theorem dX8_readLine_505 : decode cX8_readLine 505 = .ok (.aload_n 0, 1) := dk_42 (dk_at dksX8_readLine_21 13 rfl rfl)
theorem dX8_readLine_506 : decode cX8_readLine 506 = .ok (.getfield 37, 3) := dk_180 0 37 (dk_at dksX8_readLine_21 14 rfl rfl)
theorem dX8_readLine_509 : decode cX8_readLine 509 = .ok (.iload_n 3, 1) := dk_29 (dk_at dksX8_readLine_21 17 rfl rfl)
theorem dX8_readLine_510 : decode cX8_readLine 510 = .ok (.aload_n 0, 1) := dk_42 (dk_at dksX8_readLine_21 18 rfl rfl)
theorem dX8_readLine_511 : decode cX8_readLine 511 = .ok (.iconst 0, 1) := dk_3 (dk_at dksX8_readLine_21 19 rfl rfl)
theorem dX8_readLine_512 : decode cX8_readLine 512 = .ok (.bipush 10, 2) := dk_16 10 (dk_at dksX8_readLine_21 20 rfl rfl)
theorem dX8_readLine_514 : decode cX8_readLine 514 = .ok (.invokevirtual 192, 3) := dk_182 0 192 (dk_at dksX8_readLine_22 0 rfl rfl)
theorem dX8_readLine_517 : decode cX8_readLine 517 = .ok (.iastore, 1) := dk_79 (dk_at dksX8_readLine_22 3 rfl rfl)
theorem dX8_readLine_518 : decode cX8_readLine 518 = .ok (.aload_n 0, 1) := dk_42 (dk_at dksX8_readLine_22 4 rfl rfl)
theorem dX8_readLine_519 : decode cX8_readLine 519 = .ok (.getfield 37, 3) := dk_180 0 37 (dk_at dksX8_readLine_22 5 rfl rfl)
theorem dX8_readLine_522 : decode cX8_readLine 522 = .ok (.iload_n 3, 1) := dk_29 (dk_at dksX8_readLine_22 8 rfl rfl)
theorem dX8_readLine_523 : decode cX8_readLine 523 = .ok (.iconst 1, 1) := dk_4 (dk_at dksX8_readLine_22 9 rfl rfl)
theorem dX8_readLine_524 : decode cX8_readLine 524 = .ok (.iadd, 1) := dk_96 (dk_at dksX8_readLine_22 10 rfl rfl)
theorem dX8_readLine_525 : decode cX8_readLine 525 = .ok (.aload_n 0, 1) := dk_42 (dk_at dksX8_readLine_22 11 rfl rfl)
theorem dX8_readLine_526 : decode cX8_readLine 526 = .ok (.ldc_w 296, 3) := dk_19 1 40 (dk_at dksX8_readLine_22 12 rfl rfl)
theorem dX8_readLine_529 : decode cX8_readLine 529 = .ok (.iconst 0, 1) := dk_3 (dk_at dksX8_readLine_22 15 rfl rfl)
theorem dX8_readLine_530 : decode cX8_readLine 530 = .ok (.sipush 999, 3) := dk_17 3 231 (dk_at dksX8_readLine_22 16 rfl rfl)
theorem dX8_readLine_533 : decode cX8_readLine 533 = .ok (.invokevirtual 202, 3) := dk_182 0 202 (dk_at dksX8_readLine_22 19 rfl rfl)
theorem dX8_readLine_536 : decode cX8_readLine 536 = .ok (.iastore, 1) := dk_79 (dk_at dksX8_readLine_22 22 rfl rfl)
theorem dX8_readLine_537 : decode cX8_readLine 537 = .ok (.aload_n 0, 1) := dk_42 (dk_at dksX8_readLine_22 23 rfl rfl)
theorem dX8_readLine_538 : decode cX8_readLine 538 = .ok (.getfield 37, 3) := dk_180 0 37 (dk_at dksX8_readLine_23 0 rfl rfl)
theorem dX8_readLine_541 : decode cX8_readLine 541 = .ok (.iconst 3, 1) := dk_6 (dk_at dksX8_readLine_23 3 rfl rfl)
theorem dX8_readLine_542 : decode cX8_readLine 542 = .ok (.dup2, 1) := dk_92 (dk_at dksX8_readLine_23 4 rfl rfl)
theorem dX8_readLine_543 : decode cX8_readLine 543 = .ok (.iaload, 1) := dk_46 (dk_at dksX8_readLine_23 5 rfl rfl)
theorem dX8_readLine_544 : decode cX8_readLine 544 = .ok (.iconst 1, 1) := dk_4 (dk_at dksX8_readLine_23 6 rfl rfl)
theorem dX8_readLine_545 : decode cX8_readLine 545 = .ok (.iadd, 1) := dk_96 (dk_at dksX8_readLine_23 7 rfl rfl)
theorem dX8_readLine_546 : decode cX8_readLine 546 = .ok (.iastore, 1) := dk_79 (dk_at dksX8_readLine_23 8 rfl rfl)
theorem dX8_readLine_547 : decode cX8_readLine 547 = .ok (.aload_n 0, 1) := dk_42 (dk_at dksX8_readLine_23 9 rfl rfl)
theorem dX8_readLine_548 : decode cX8_readLine 548 = .ok (.bipush 59, 2) := dk_16 59 (dk_at dksX8_readLine_23 10 rfl rfl)
theorem dX8_readLine_550 : decode cX8_readLine 550 = .ok (.invokevirtual 195, 3) := dk_182 0 195 (dk_at dksX8_readLine_23 12 rfl rfl)
theorem dX8_readLine_553 : decode cX8_readLine 553 = .ok (.ifCond .ne 8, 3) := dk_154 0 8 (dk_at dksX8_readLine_23 15 rfl rfl)
theorem dX8_readLine_556 : decode cX8_readLine 556 = .ok (.aload_n 0, 1) := dk_42 (dk_at dksX8_readLine_23 18 rfl rfl)
theorem dX8_readLine_557 : decode cX8_readLine 557 = .ok (.iconst 1, 1) := dk_4 (dk_at dksX8_readLine_23 19 rfl rfl)
theorem dX8_readLine_558 : decode cX8_readLine 558 = .ok (.invokevirtual 184, 3) := dk_182 0 184 (dk_at dksX8_readLine_23 20 rfl rfl)
theorem dX8_readLine_561 : decode cX8_readLine 561 = .ok (.aload_n 0, 1) := dk_42 (dk_at dksX8_readLine_23 23 rfl rfl)
theorem dX8_readLine_562 : decode cX8_readLine 562 = .ok (.invokevirtual 161, 3) := dk_182 0 161 (dk_at dksX8_readLine_24 0 rfl rfl)
theorem dX8_readLine_565 : decode cX8_readLine 565 = .ok (.ifCond .eq 7, 3) := dk_153 0 7 (dk_at dksX8_readLine_24 3 rfl rfl)
theorem dX8_readLine_568 : decode cX8_readLine 568 = .ok (.aload_n 0, 1) := dk_42 (dk_at dksX8_readLine_24 6 rfl rfl)
theorem dX8_readLine_569 : decode cX8_readLine 569 = .ok (.invokevirtual 178, 3) := dk_182 0 178 (dk_at dksX8_readLine_24 7 rfl rfl)
theorem dX8_readLine_572 : decode cX8_readLine 572 = .ok (.return_, 1) := dk_177 (dk_at dksX8_readLine_24 10 rfl rfl)
abbrev cX8_is : ByteArray := prog_16_method_25_code
def yX8_is : MethodName := ⟨RX8, "is", "(Ljava/lang/String;)Z"⟩
def dkwX8_is_3 : List UInt8 := [167, 0, 4, 3, 61, 132, 3, 1, 167, 255, 216, 28, 172]
abbrev dktX8_is_3 : List UInt8 := dkwX8_is_3 ++ []
def dkwX8_is_2 : List UInt8 := [153, 0, 34, 42, 180, 0, 27, 42, 180, 0, 135, 29, 96, 51, 43, 29, 182, 0, 170, 160, 0, 7, 4]
abbrev dktX8_is_2 : List UInt8 := dkwX8_is_2 ++ dktX8_is_3
def dkwX8_is_1 : List UInt8 := [43, 182, 0, 165, 160, 0, 7, 4, 167, 0, 4, 3, 61, 3, 62, 29, 43, 182, 0, 165, 162, 0, 38, 28]
abbrev dktX8_is_1 : List UInt8 := dkwX8_is_1 ++ dktX8_is_2
def dkwX8_is_0 : List UInt8 := [42, 182, 0, 161, 153, 0, 31, 42, 180, 0, 138, 4, 160, 0, 23, 42, 180, 0, 128, 42, 180, 0, 135, 100]
abbrev dktX8_is_0 : List UInt8 := dkwX8_is_0 ++ dktX8_is_1
theorem dksX8_is_0 : cX8_is.data.toList.drop 0 = dktX8_is_0 := by decide +kernel
theorem dksX8_is_1 : cX8_is.data.toList.drop 24 = dktX8_is_1 := dk_seg dksX8_is_0 24 rfl rfl
theorem dksX8_is_2 : cX8_is.data.toList.drop 48 = dktX8_is_2 := dk_seg dksX8_is_1 24 rfl rfl
theorem dksX8_is_3 : cX8_is.data.toList.drop 71 = dktX8_is_3 := dk_seg dksX8_is_2 23 rfl rfl
theorem dX8_is_0 : decode cX8_is 0 = .ok (.aload_n 0, 1) := dk_42 (dk_at dksX8_is_0 0 rfl rfl)
theorem dX8_is_1 : decode cX8_is 1 = .ok (.invokevirtual 161, 3) := dk_182 0 161 (dk_at dksX8_is_0 1 rfl rfl)
theorem dX8_is_4 : decode cX8_is 4 = .ok (.ifCond .eq 31, 3) := dk_153 0 31 (dk_at dksX8_is_0 4 rfl rfl)
theorem dX8_is_7 : decode cX8_is 7 = .ok (.aload_n 0, 1) := dk_42 (dk_at dksX8_is_0 7 rfl rfl)
theorem dX8_is_8 : decode cX8_is 8 = .ok (.getfield 138, 3) := dk_180 0 138 (dk_at dksX8_is_0 8 rfl rfl)
theorem dX8_is_11 : decode cX8_is 11 = .ok (.iconst 1, 1) := dk_4 (dk_at dksX8_is_0 11 rfl rfl)
theorem dX8_is_12 : decode cX8_is 12 = .ok (.if_icmp .ne 23, 3) := dk_160 0 23 (dk_at dksX8_is_0 12 rfl rfl)
theorem dX8_is_15 : decode cX8_is 15 = .ok (.aload_n 0, 1) := dk_42 (dk_at dksX8_is_0 15 rfl rfl)
theorem dX8_is_16 : decode cX8_is 16 = .ok (.getfield 128, 3) := dk_180 0 128 (dk_at dksX8_is_0 16 rfl rfl)
theorem dX8_is_19 : decode cX8_is 19 = .ok (.aload_n 0, 1) := dk_42 (dk_at dksX8_is_0 19 rfl rfl)
theorem dX8_is_20 : decode cX8_is 20 = .ok (.getfield 135, 3) := dk_180 0 135 (dk_at dksX8_is_0 20 rfl rfl)
theorem dX8_is_23 : decode cX8_is 23 = .ok (.isub, 1) := dk_100 (dk_at dksX8_is_0 23 rfl rfl)
theorem dX8_is_24 : decode cX8_is 24 = .ok (.aload_n 1, 1) := dk_43 (dk_at dksX8_is_1 0 rfl rfl)
theorem dX8_is_25 : decode cX8_is 25 = .ok (.invokevirtual 165, 3) := dk_182 0 165 (dk_at dksX8_is_1 1 rfl rfl)
theorem dX8_is_28 : decode cX8_is 28 = .ok (.if_icmp .ne 7, 3) := dk_160 0 7 (dk_at dksX8_is_1 4 rfl rfl)
theorem dX8_is_31 : decode cX8_is 31 = .ok (.iconst 1, 1) := dk_4 (dk_at dksX8_is_1 7 rfl rfl)
theorem dX8_is_32 : decode cX8_is 32 = .ok (.goto 4, 3) := dk_167 0 4 (dk_at dksX8_is_1 8 rfl rfl)
theorem dX8_is_35 : decode cX8_is 35 = .ok (.iconst 0, 1) := dk_3 (dk_at dksX8_is_1 11 rfl rfl)
theorem dX8_is_36 : decode cX8_is 36 = .ok (.istore_n 2, 1) := dk_61 (dk_at dksX8_is_1 12 rfl rfl)
theorem dX8_is_37 : decode cX8_is 37 = .ok (.iconst 0, 1) := dk_3 (dk_at dksX8_is_1 13 rfl rfl)
theorem dX8_is_38 : decode cX8_is 38 = .ok (.istore_n 3, 1) := dk_62 (dk_at dksX8_is_1 14 rfl rfl)
theorem dX8_is_39 : decode cX8_is 39 = .ok (.iload_n 3, 1) := dk_29 (dk_at dksX8_is_1 15 rfl rfl)
theorem dX8_is_40 : decode cX8_is 40 = .ok (.aload_n 1, 1) := dk_43 (dk_at dksX8_is_1 16 rfl rfl)
theorem dX8_is_41 : decode cX8_is 41 = .ok (.invokevirtual 165, 3) := dk_182 0 165 (dk_at dksX8_is_1 17 rfl rfl)
theorem dX8_is_44 : decode cX8_is 44 = .ok (.if_icmp .ge 38, 3) := dk_162 0 38 (dk_at dksX8_is_1 20 rfl rfl)
theorem dX8_is_47 : decode cX8_is 47 = .ok (.iload_n 2, 1) := dk_28 (dk_at dksX8_is_1 23 rfl rfl)
theorem dX8_is_48 : decode cX8_is 48 = .ok (.ifCond .eq 34, 3) := dk_153 0 34 (dk_at dksX8_is_2 0 rfl rfl)
theorem dX8_is_51 : decode cX8_is 51 = .ok (.aload_n 0, 1) := dk_42 (dk_at dksX8_is_2 3 rfl rfl)
theorem dX8_is_52 : decode cX8_is 52 = .ok (.getfield 27, 3) := dk_180 0 27 (dk_at dksX8_is_2 4 rfl rfl)
theorem dX8_is_55 : decode cX8_is 55 = .ok (.aload_n 0, 1) := dk_42 (dk_at dksX8_is_2 7 rfl rfl)
theorem dX8_is_56 : decode cX8_is 56 = .ok (.getfield 135, 3) := dk_180 0 135 (dk_at dksX8_is_2 8 rfl rfl)
theorem dX8_is_59 : decode cX8_is 59 = .ok (.iload_n 3, 1) := dk_29 (dk_at dksX8_is_2 11 rfl rfl)
theorem dX8_is_60 : decode cX8_is 60 = .ok (.iadd, 1) := dk_96 (dk_at dksX8_is_2 12 rfl rfl)
theorem dX8_is_61 : decode cX8_is 61 = .ok (.baload, 1) := dk_51 (dk_at dksX8_is_2 13 rfl rfl)
theorem dX8_is_62 : decode cX8_is 62 = .ok (.aload_n 1, 1) := dk_43 (dk_at dksX8_is_2 14 rfl rfl)
theorem dX8_is_63 : decode cX8_is 63 = .ok (.iload_n 3, 1) := dk_29 (dk_at dksX8_is_2 15 rfl rfl)
theorem dX8_is_64 : decode cX8_is 64 = .ok (.invokevirtual 170, 3) := dk_182 0 170 (dk_at dksX8_is_2 16 rfl rfl)
theorem dX8_is_67 : decode cX8_is 67 = .ok (.if_icmp .ne 7, 3) := dk_160 0 7 (dk_at dksX8_is_2 19 rfl rfl)
theorem dX8_is_70 : decode cX8_is 70 = .ok (.iconst 1, 1) := dk_4 (dk_at dksX8_is_2 22 rfl rfl)
theorem dX8_is_71 : decode cX8_is 71 = .ok (.goto 4, 3) := dk_167 0 4 (dk_at dksX8_is_3 0 rfl rfl)
theorem dX8_is_74 : decode cX8_is 74 = .ok (.iconst 0, 1) := dk_3 (dk_at dksX8_is_3 3 rfl rfl)
theorem dX8_is_75 : decode cX8_is 75 = .ok (.istore_n 2, 1) := dk_61 (dk_at dksX8_is_3 4 rfl rfl)
theorem dX8_is_76 : decode cX8_is 76 = .ok (.iinc 3 1, 3) := dk_132 3 1 (dk_at dksX8_is_3 5 rfl rfl)
theorem dX8_is_79 : decode cX8_is 79 = .ok (.goto (-40), 3) := dk_167 255 216 (dk_at dksX8_is_3 8 rfl rfl)
theorem dX8_is_82 : decode cX8_is 82 = .ok (.iload_n 2, 1) := dk_28 (dk_at dksX8_is_3 11 rfl rfl)
theorem dX8_is_83 : decode cX8_is 83 = .ok (.ireturn, 1) := dk_172 (dk_at dksX8_is_3 12 rfl rfl)
abbrev cX8_wrong : ByteArray := prog_16_method_24_code
def yX8_wrong : MethodName := ⟨RX8, "wrong", "(I)V"⟩
def dkwX8_wrong_0 : List UInt8 := [42, 182, 0, 161, 154, 0, 4, 177, 42, 27, 181, 0, 158, 42, 42, 180, 0, 135, 181, 0, 34, 177]
abbrev dktX8_wrong_0 : List UInt8 := dkwX8_wrong_0 ++ []
theorem dksX8_wrong_0 : cX8_wrong.data.toList.drop 0 = dktX8_wrong_0 := by decide +kernel
theorem dX8_wrong_0 : decode cX8_wrong 0 = .ok (.aload_n 0, 1) := dk_42 (dk_at dksX8_wrong_0 0 rfl rfl)
theorem dX8_wrong_1 : decode cX8_wrong 1 = .ok (.invokevirtual 161, 3) := dk_182 0 161 (dk_at dksX8_wrong_0 1 rfl rfl)
theorem dX8_wrong_4 : decode cX8_wrong 4 = .ok (.ifCond .ne 4, 3) := dk_154 0 4 (dk_at dksX8_wrong_0 4 rfl rfl)
theorem dX8_wrong_7 : decode cX8_wrong 7 = .ok (.return_, 1) := dk_177 (dk_at dksX8_wrong_0 7 rfl rfl)
theorem dX8_wrong_8 : decode cX8_wrong 8 = .ok (.aload_n 0, 1) := dk_42 (dk_at dksX8_wrong_0 8 rfl rfl)
theorem dX8_wrong_9 : decode cX8_wrong 9 = .ok (.iload_n 1, 1) := dk_27 (dk_at dksX8_wrong_0 9 rfl rfl)
theorem dX8_wrong_10 : decode cX8_wrong 10 = .ok (.putfield 158, 3) := dk_181 0 158 (dk_at dksX8_wrong_0 10 rfl rfl)
theorem dX8_wrong_13 : decode cX8_wrong 13 = .ok (.aload_n 0, 1) := dk_42 (dk_at dksX8_wrong_0 13 rfl rfl)
theorem dX8_wrong_14 : decode cX8_wrong 14 = .ok (.aload_n 0, 1) := dk_42 (dk_at dksX8_wrong_0 14 rfl rfl)
theorem dX8_wrong_15 : decode cX8_wrong 15 = .ok (.getfield 135, 3) := dk_180 0 135 (dk_at dksX8_wrong_0 15 rfl rfl)
theorem dX8_wrong_18 : decode cX8_wrong 18 = .ok (.putfield 34, 3) := dk_181 0 34 (dk_at dksX8_wrong_0 18 rfl rfl)
theorem dX8_wrong_21 : decode cX8_wrong 21 = .ok (.return_, 1) := dk_177 (dk_at dksX8_wrong_0 21 rfl rfl)
abbrev cX8_takes : ByteArray := prog_16_method_26_code
def yX8_takes : MethodName := ⟨RX8, "takes", "(Ljava/lang/String;)Z"⟩
def dkwX8_takes_0 : List UInt8 := [42, 43, 182, 0, 174, 61, 28, 153, 0, 7, 42, 182, 0, 178, 28, 172]
abbrev dktX8_takes_0 : List UInt8 := dkwX8_takes_0 ++ []
theorem dksX8_takes_0 : cX8_takes.data.toList.drop 0 = dktX8_takes_0 := by decide +kernel
theorem dX8_takes_0 : decode cX8_takes 0 = .ok (.aload_n 0, 1) := dk_42 (dk_at dksX8_takes_0 0 rfl rfl)
theorem dX8_takes_1 : decode cX8_takes 1 = .ok (.aload_n 1, 1) := dk_43 (dk_at dksX8_takes_0 1 rfl rfl)
theorem dX8_takes_2 : decode cX8_takes 2 = .ok (.invokevirtual 174, 3) := dk_182 0 174 (dk_at dksX8_takes_0 2 rfl rfl)
theorem dX8_takes_5 : decode cX8_takes 5 = .ok (.istore_n 2, 1) := dk_61 (dk_at dksX8_takes_0 5 rfl rfl)
theorem dX8_takes_6 : decode cX8_takes 6 = .ok (.iload_n 2, 1) := dk_28 (dk_at dksX8_takes_0 6 rfl rfl)
theorem dX8_takes_7 : decode cX8_takes 7 = .ok (.ifCond .eq 7, 3) := dk_153 0 7 (dk_at dksX8_takes_0 7 rfl rfl)
theorem dX8_takes_10 : decode cX8_takes 10 = .ok (.aload_n 0, 1) := dk_42 (dk_at dksX8_takes_0 10 rfl rfl)
theorem dX8_takes_11 : decode cX8_takes 11 = .ok (.invokevirtual 178, 3) := dk_182 0 178 (dk_at dksX8_takes_0 11 rfl rfl)
theorem dX8_takes_14 : decode cX8_takes 14 = .ok (.iload_n 2, 1) := dk_28 (dk_at dksX8_takes_0 14 rfl rfl)
theorem dX8_takes_15 : decode cX8_takes 15 = .ok (.ireturn, 1) := dk_172 (dk_at dksX8_takes_0 15 rfl rfl)
abbrev cX8_readGround : ByteArray := prog_16_method_32_code
def yX8_readGround : MethodName := ⟨RX8, "readGround", "()V"⟩
def dkwX8_readGround_6 : List UInt8 := [27, 104, 96, 6, 96, 42, 18, 210, 16, 226, 182, 0, 212, 79, 177]
abbrev dktX8_readGround_6 : List UInt8 := dkwX8_readGround_6 ++ []
def dkwX8_readGround_5 : List UInt8 := [7, 27, 104, 96, 5, 96, 42, 18, 208, 4, 17, 3, 231, 182, 0, 202, 79, 42, 180, 0, 37, 16, 20, 7]
abbrev dktX8_readGround_5 : List UInt8 := dkwX8_readGround_5 ++ dktX8_readGround_6
def dkwX8_readGround_4 : List UInt8 := [16, 20, 7, 27, 104, 96, 4, 96, 42, 18, 206, 3, 16, 15, 182, 0, 202, 79, 42, 180, 0, 37, 16, 20]
abbrev dktX8_readGround_4 : List UInt8 := dkwX8_readGround_4 ++ dktX8_readGround_5
def dkwX8_readGround_3 : List UInt8 := [180, 0, 37, 16, 20, 7, 27, 104, 96, 42, 18, 200, 3, 16, 15, 182, 0, 202, 79, 42, 180, 0, 37]
abbrev dktX8_readGround_3 : List UInt8 := dkwX8_readGround_3 ++ dktX8_readGround_4
def dkwX8_readGround_2 : List UInt8 := [3, 6, 182, 0, 192, 60, 42, 182, 0, 161, 154, 0, 4, 177, 42, 180, 0, 40, 27, 4, 84, 42]
abbrev dktX8_readGround_2 : List UInt8 := dkwX8_readGround_2 ++ dktX8_readGround_3
def dkwX8_readGround_1 : List UInt8 := [184, 0, 110, 153, 0, 20, 42, 180, 0, 40, 42, 180, 0, 149, 51, 153, 0, 8, 42, 5, 182, 0, 184, 42]
abbrev dktX8_readGround_1 : List UInt8 := dkwX8_readGround_1 ++ dktX8_readGround_2
def dkwX8_readGround_0 : List UInt8 := [42, 182, 0, 161, 153, 0, 43, 42, 180, 0, 138, 5, 160, 0, 35, 42, 180, 0, 149, 133, 9, 20, 0, 198]
abbrev dktX8_readGround_0 : List UInt8 := dkwX8_readGround_0 ++ dktX8_readGround_1
theorem dksX8_readGround_0 : cX8_readGround.data.toList.drop 0 = dktX8_readGround_0 := by decide +kernel
theorem dksX8_readGround_1 : cX8_readGround.data.toList.drop 24 = dktX8_readGround_1 := dk_seg dksX8_readGround_0 24 rfl rfl
theorem dksX8_readGround_2 : cX8_readGround.data.toList.drop 48 = dktX8_readGround_2 := dk_seg dksX8_readGround_1 24 rfl rfl
theorem dksX8_readGround_3 : cX8_readGround.data.toList.drop 70 = dktX8_readGround_3 := dk_seg dksX8_readGround_2 22 rfl rfl
theorem dksX8_readGround_4 : cX8_readGround.data.toList.drop 93 = dktX8_readGround_4 := dk_seg dksX8_readGround_3 23 rfl rfl
theorem dksX8_readGround_5 : cX8_readGround.data.toList.drop 117 = dktX8_readGround_5 := dk_seg dksX8_readGround_4 24 rfl rfl
theorem dksX8_readGround_6 : cX8_readGround.data.toList.drop 141 = dktX8_readGround_6 := dk_seg dksX8_readGround_5 24 rfl rfl
theorem dX8_readGround_0 : decode cX8_readGround 0 = .ok (.aload_n 0, 1) := dk_42 (dk_at dksX8_readGround_0 0 rfl rfl)
theorem dX8_readGround_1 : decode cX8_readGround 1 = .ok (.invokevirtual 161, 3) := dk_182 0 161 (dk_at dksX8_readGround_0 1 rfl rfl)
theorem dX8_readGround_4 : decode cX8_readGround 4 = .ok (.ifCond .eq 43, 3) := dk_153 0 43 (dk_at dksX8_readGround_0 4 rfl rfl)
theorem dX8_readGround_7 : decode cX8_readGround 7 = .ok (.aload_n 0, 1) := dk_42 (dk_at dksX8_readGround_0 7 rfl rfl)
theorem dX8_readGround_8 : decode cX8_readGround 8 = .ok (.getfield 138, 3) := dk_180 0 138 (dk_at dksX8_readGround_0 8 rfl rfl)
theorem dX8_readGround_11 : decode cX8_readGround 11 = .ok (.iconst 2, 1) := dk_5 (dk_at dksX8_readGround_0 11 rfl rfl)
theorem dX8_readGround_12 : decode cX8_readGround 12 = .ok (.if_icmp .ne 35, 3) := dk_160 0 35 (dk_at dksX8_readGround_0 12 rfl rfl)
theorem dX8_readGround_15 : decode cX8_readGround 15 = .ok (.aload_n 0, 1) := dk_42 (dk_at dksX8_readGround_0 15 rfl rfl)
theorem dX8_readGround_16 : decode cX8_readGround 16 = .ok (.getfield 149, 3) := dk_180 0 149 (dk_at dksX8_readGround_0 16 rfl rfl)
theorem dX8_readGround_19 : decode cX8_readGround 19 = .ok (.i2l, 1) := dk_133 (dk_at dksX8_readGround_0 19 rfl rfl)
theorem dX8_readGround_20 : decode cX8_readGround 20 = .ok (.lconst 0, 1) := dk_9 (dk_at dksX8_readGround_0 20 rfl rfl)
theorem dX8_readGround_21 : decode cX8_readGround 21 = .ok (.ldc2_w 198, 3) := dk_20 0 198 (dk_at dksX8_readGround_0 21 rfl rfl)
theorem dX8_readGround_24 : decode cX8_readGround 24 = .ok (.invokestatic 110, 3) := dk_184 0 110 (dk_at dksX8_readGround_1 0 rfl rfl)
theorem dX8_readGround_27 : decode cX8_readGround 27 = .ok (.ifCond .eq 20, 3) := dk_153 0 20 (dk_at dksX8_readGround_1 3 rfl rfl)
theorem dX8_readGround_30 : decode cX8_readGround 30 = .ok (.aload_n 0, 1) := dk_42 (dk_at dksX8_readGround_1 6 rfl rfl)
theorem dX8_readGround_31 : decode cX8_readGround 31 = .ok (.getfield 40, 3) := dk_180 0 40 (dk_at dksX8_readGround_1 7 rfl rfl)
theorem dX8_readGround_34 : decode cX8_readGround 34 = .ok (.aload_n 0, 1) := dk_42 (dk_at dksX8_readGround_1 10 rfl rfl)
theorem dX8_readGround_35 : decode cX8_readGround 35 = .ok (.getfield 149, 3) := dk_180 0 149 (dk_at dksX8_readGround_1 11 rfl rfl)
theorem dX8_readGround_38 : decode cX8_readGround 38 = .ok (.baload, 1) := dk_51 (dk_at dksX8_readGround_1 14 rfl rfl)
theorem dX8_readGround_39 : decode cX8_readGround 39 = .ok (.ifCond .eq 8, 3) := dk_153 0 8 (dk_at dksX8_readGround_1 15 rfl rfl)
theorem dX8_readGround_42 : decode cX8_readGround 42 = .ok (.aload_n 0, 1) := dk_42 (dk_at dksX8_readGround_1 18 rfl rfl)
theorem dX8_readGround_43 : decode cX8_readGround 43 = .ok (.iconst 2, 1) := dk_5 (dk_at dksX8_readGround_1 19 rfl rfl)
theorem dX8_readGround_44 : decode cX8_readGround 44 = .ok (.invokevirtual 184, 3) := dk_182 0 184 (dk_at dksX8_readGround_1 20 rfl rfl)
theorem dX8_readGround_47 : decode cX8_readGround 47 = .ok (.aload_n 0, 1) := dk_42 (dk_at dksX8_readGround_1 23 rfl rfl)
theorem dX8_readGround_48 : decode cX8_readGround 48 = .ok (.iconst 0, 1) := dk_3 (dk_at dksX8_readGround_2 0 rfl rfl)
theorem dX8_readGround_49 : decode cX8_readGround 49 = .ok (.iconst 3, 1) := dk_6 (dk_at dksX8_readGround_2 1 rfl rfl)
theorem dX8_readGround_50 : decode cX8_readGround 50 = .ok (.invokevirtual 192, 3) := dk_182 0 192 (dk_at dksX8_readGround_2 2 rfl rfl)
theorem dX8_readGround_53 : decode cX8_readGround 53 = .ok (.istore_n 1, 1) := dk_60 (dk_at dksX8_readGround_2 5 rfl rfl)
theorem dX8_readGround_54 : decode cX8_readGround 54 = .ok (.aload_n 0, 1) := dk_42 (dk_at dksX8_readGround_2 6 rfl rfl)
theorem dX8_readGround_55 : decode cX8_readGround 55 = .ok (.invokevirtual 161, 3) := dk_182 0 161 (dk_at dksX8_readGround_2 7 rfl rfl)
theorem dX8_readGround_58 : decode cX8_readGround 58 = .ok (.ifCond .ne 4, 3) := dk_154 0 4 (dk_at dksX8_readGround_2 10 rfl rfl)
theorem dX8_readGround_61 : decode cX8_readGround 61 = .ok (.return_, 1) := dk_177 (dk_at dksX8_readGround_2 13 rfl rfl)
theorem dX8_readGround_62 : decode cX8_readGround 62 = .ok (.aload_n 0, 1) := dk_42 (dk_at dksX8_readGround_2 14 rfl rfl)
theorem dX8_readGround_63 : decode cX8_readGround 63 = .ok (.getfield 40, 3) := dk_180 0 40 (dk_at dksX8_readGround_2 15 rfl rfl)
theorem dX8_readGround_66 : decode cX8_readGround 66 = .ok (.iload_n 1, 1) := dk_27 (dk_at dksX8_readGround_2 18 rfl rfl)
theorem dX8_readGround_67 : decode cX8_readGround 67 = .ok (.iconst 1, 1) := dk_4 (dk_at dksX8_readGround_2 19 rfl rfl)
theorem dX8_readGround_68 : decode cX8_readGround 68 = .ok (.bastore, 1) := dk_84 (dk_at dksX8_readGround_2 20 rfl rfl)
theorem dX8_readGround_69 : decode cX8_readGround 69 = .ok (.aload_n 0, 1) := dk_42 (dk_at dksX8_readGround_2 21 rfl rfl)
theorem dX8_readGround_70 : decode cX8_readGround 70 = .ok (.getfield 37, 3) := dk_180 0 37 (dk_at dksX8_readGround_3 0 rfl rfl)
theorem dX8_readGround_73 : decode cX8_readGround 73 = .ok (.bipush 20, 2) := dk_16 20 (dk_at dksX8_readGround_3 3 rfl rfl)
theorem dX8_readGround_75 : decode cX8_readGround 75 = .ok (.iconst 4, 1) := dk_7 (dk_at dksX8_readGround_3 5 rfl rfl)
theorem dX8_readGround_76 : decode cX8_readGround 76 = .ok (.iload_n 1, 1) := dk_27 (dk_at dksX8_readGround_3 6 rfl rfl)
theorem dX8_readGround_77 : decode cX8_readGround 77 = .ok (.imul, 1) := dk_104 (dk_at dksX8_readGround_3 7 rfl rfl)
theorem dX8_readGround_78 : decode cX8_readGround 78 = .ok (.iadd, 1) := dk_96 (dk_at dksX8_readGround_3 8 rfl rfl)
theorem dX8_readGround_79 : decode cX8_readGround 79 = .ok (.aload_n 0, 1) := dk_42 (dk_at dksX8_readGround_3 9 rfl rfl)
theorem dX8_readGround_80 : decode cX8_readGround 80 = .ok (.ldc 200, 2) := dk_18 200 (dk_at dksX8_readGround_3 10 rfl rfl)
theorem dX8_readGround_82 : decode cX8_readGround 82 = .ok (.iconst 0, 1) := dk_3 (dk_at dksX8_readGround_3 12 rfl rfl)
theorem dX8_readGround_83 : decode cX8_readGround 83 = .ok (.bipush 15, 2) := dk_16 15 (dk_at dksX8_readGround_3 13 rfl rfl)
theorem dX8_readGround_85 : decode cX8_readGround 85 = .ok (.invokevirtual 202, 3) := dk_182 0 202 (dk_at dksX8_readGround_3 15 rfl rfl)
theorem dX8_readGround_88 : decode cX8_readGround 88 = .ok (.iastore, 1) := dk_79 (dk_at dksX8_readGround_3 18 rfl rfl)
theorem dX8_readGround_89 : decode cX8_readGround 89 = .ok (.aload_n 0, 1) := dk_42 (dk_at dksX8_readGround_3 19 rfl rfl)
theorem dX8_readGround_90 : decode cX8_readGround 90 = .ok (.getfield 37, 3) := dk_180 0 37 (dk_at dksX8_readGround_3 20 rfl rfl)
theorem dX8_readGround_93 : decode cX8_readGround 93 = .ok (.bipush 20, 2) := dk_16 20 (dk_at dksX8_readGround_4 0 rfl rfl)
theorem dX8_readGround_95 : decode cX8_readGround 95 = .ok (.iconst 4, 1) := dk_7 (dk_at dksX8_readGround_4 2 rfl rfl)
theorem dX8_readGround_96 : decode cX8_readGround 96 = .ok (.iload_n 1, 1) := dk_27 (dk_at dksX8_readGround_4 3 rfl rfl)
theorem dX8_readGround_97 : decode cX8_readGround 97 = .ok (.imul, 1) := dk_104 (dk_at dksX8_readGround_4 4 rfl rfl)
theorem dX8_readGround_98 : decode cX8_readGround 98 = .ok (.iadd, 1) := dk_96 (dk_at dksX8_readGround_4 5 rfl rfl)
theorem dX8_readGround_99 : decode cX8_readGround 99 = .ok (.iconst 1, 1) := dk_4 (dk_at dksX8_readGround_4 6 rfl rfl)
theorem dX8_readGround_100 : decode cX8_readGround 100 = .ok (.iadd, 1) := dk_96 (dk_at dksX8_readGround_4 7 rfl rfl)
theorem dX8_readGround_101 : decode cX8_readGround 101 = .ok (.aload_n 0, 1) := dk_42 (dk_at dksX8_readGround_4 8 rfl rfl)
theorem dX8_readGround_102 : decode cX8_readGround 102 = .ok (.ldc 206, 2) := dk_18 206 (dk_at dksX8_readGround_4 9 rfl rfl)
theorem dX8_readGround_104 : decode cX8_readGround 104 = .ok (.iconst 0, 1) := dk_3 (dk_at dksX8_readGround_4 11 rfl rfl)
theorem dX8_readGround_105 : decode cX8_readGround 105 = .ok (.bipush 15, 2) := dk_16 15 (dk_at dksX8_readGround_4 12 rfl rfl)
theorem dX8_readGround_107 : decode cX8_readGround 107 = .ok (.invokevirtual 202, 3) := dk_182 0 202 (dk_at dksX8_readGround_4 14 rfl rfl)
theorem dX8_readGround_110 : decode cX8_readGround 110 = .ok (.iastore, 1) := dk_79 (dk_at dksX8_readGround_4 17 rfl rfl)
theorem dX8_readGround_111 : decode cX8_readGround 111 = .ok (.aload_n 0, 1) := dk_42 (dk_at dksX8_readGround_4 18 rfl rfl)
theorem dX8_readGround_112 : decode cX8_readGround 112 = .ok (.getfield 37, 3) := dk_180 0 37 (dk_at dksX8_readGround_4 19 rfl rfl)
theorem dX8_readGround_115 : decode cX8_readGround 115 = .ok (.bipush 20, 2) := dk_16 20 (dk_at dksX8_readGround_4 22 rfl rfl)
theorem dX8_readGround_117 : decode cX8_readGround 117 = .ok (.iconst 4, 1) := dk_7 (dk_at dksX8_readGround_5 0 rfl rfl)
theorem dX8_readGround_118 : decode cX8_readGround 118 = .ok (.iload_n 1, 1) := dk_27 (dk_at dksX8_readGround_5 1 rfl rfl)
theorem dX8_readGround_119 : decode cX8_readGround 119 = .ok (.imul, 1) := dk_104 (dk_at dksX8_readGround_5 2 rfl rfl)
theorem dX8_readGround_120 : decode cX8_readGround 120 = .ok (.iadd, 1) := dk_96 (dk_at dksX8_readGround_5 3 rfl rfl)
theorem dX8_readGround_121 : decode cX8_readGround 121 = .ok (.iconst 2, 1) := dk_5 (dk_at dksX8_readGround_5 4 rfl rfl)
theorem dX8_readGround_122 : decode cX8_readGround 122 = .ok (.iadd, 1) := dk_96 (dk_at dksX8_readGround_5 5 rfl rfl)
theorem dX8_readGround_123 : decode cX8_readGround 123 = .ok (.aload_n 0, 1) := dk_42 (dk_at dksX8_readGround_5 6 rfl rfl)
theorem dX8_readGround_124 : decode cX8_readGround 124 = .ok (.ldc 208, 2) := dk_18 208 (dk_at dksX8_readGround_5 7 rfl rfl)
theorem dX8_readGround_126 : decode cX8_readGround 126 = .ok (.iconst 1, 1) := dk_4 (dk_at dksX8_readGround_5 9 rfl rfl)
theorem dX8_readGround_127 : decode cX8_readGround 127 = .ok (.sipush 999, 3) := dk_17 3 231 (dk_at dksX8_readGround_5 10 rfl rfl)
theorem dX8_readGround_130 : decode cX8_readGround 130 = .ok (.invokevirtual 202, 3) := dk_182 0 202 (dk_at dksX8_readGround_5 13 rfl rfl)
theorem dX8_readGround_133 : decode cX8_readGround 133 = .ok (.iastore, 1) := dk_79 (dk_at dksX8_readGround_5 16 rfl rfl)
theorem dX8_readGround_134 : decode cX8_readGround 134 = .ok (.aload_n 0, 1) := dk_42 (dk_at dksX8_readGround_5 17 rfl rfl)
theorem dX8_readGround_135 : decode cX8_readGround 135 = .ok (.getfield 37, 3) := dk_180 0 37 (dk_at dksX8_readGround_5 18 rfl rfl)
theorem dX8_readGround_138 : decode cX8_readGround 138 = .ok (.bipush 20, 2) := dk_16 20 (dk_at dksX8_readGround_5 21 rfl rfl)
theorem dX8_readGround_140 : decode cX8_readGround 140 = .ok (.iconst 4, 1) := dk_7 (dk_at dksX8_readGround_5 23 rfl rfl)
theorem dX8_readGround_141 : decode cX8_readGround 141 = .ok (.iload_n 1, 1) := dk_27 (dk_at dksX8_readGround_6 0 rfl rfl)
theorem dX8_readGround_142 : decode cX8_readGround 142 = .ok (.imul, 1) := dk_104 (dk_at dksX8_readGround_6 1 rfl rfl)
theorem dX8_readGround_143 : decode cX8_readGround 143 = .ok (.iadd, 1) := dk_96 (dk_at dksX8_readGround_6 2 rfl rfl)
theorem dX8_readGround_144 : decode cX8_readGround 144 = .ok (.iconst 3, 1) := dk_6 (dk_at dksX8_readGround_6 3 rfl rfl)
theorem dX8_readGround_145 : decode cX8_readGround 145 = .ok (.iadd, 1) := dk_96 (dk_at dksX8_readGround_6 4 rfl rfl)
theorem dX8_readGround_146 : decode cX8_readGround 146 = .ok (.aload_n 0, 1) := dk_42 (dk_at dksX8_readGround_6 5 rfl rfl)
theorem dX8_readGround_147 : decode cX8_readGround 147 = .ok (.ldc 210, 2) := dk_18 210 (dk_at dksX8_readGround_6 6 rfl rfl)
theorem dX8_readGround_149 : decode cX8_readGround 149 = .ok (.bipush (-30), 2) := dk_16 226 (dk_at dksX8_readGround_6 8 rfl rfl)
theorem dX8_readGround_151 : decode cX8_readGround 151 = .ok (.invokevirtual 212, 3) := dk_182 0 212 (dk_at dksX8_readGround_6 10 rfl rfl)
theorem dX8_readGround_154 : decode cX8_readGround 154 = .ok (.iastore, 1) := dk_79 (dk_at dksX8_readGround_6 13 rfl rfl)
theorem dX8_readGround_155 : decode cX8_readGround 155 = .ok (.return_, 1) := dk_177 (dk_at dksX8_readGround_6 14 rfl rfl)
abbrev cX8_number : ByteArray := prog_16_method_29_code
def yX8_number : MethodName := ⟨RX8, "number", "(II)I"⟩
def dkwX8_number_2 : List UInt8 := [182, 0, 161, 154, 0, 5, 3, 172, 42, 180, 0, 149, 62, 42, 182, 0, 178, 29, 172]
abbrev dktX8_number_2 : List UInt8 := dkwX8_number_2 ++ []
def dkwX8_number_1 : List UInt8 := [153, 0, 23, 42, 180, 0, 149, 133, 27, 133, 28, 133, 184, 0, 110, 154, 0, 8, 42, 5, 182, 0, 184, 42]
abbrev dktX8_number_1 : List UInt8 := dkwX8_number_1 ++ dktX8_number_2
def dkwX8_number_0 : List UInt8 := [42, 182, 0, 161, 153, 0, 16, 42, 180, 0, 138, 5, 159, 0, 8, 42, 4, 182, 0, 184, 42, 182, 0, 161]
abbrev dktX8_number_0 : List UInt8 := dkwX8_number_0 ++ dktX8_number_1
theorem dksX8_number_0 : cX8_number.data.toList.drop 0 = dktX8_number_0 := by decide +kernel
theorem dksX8_number_1 : cX8_number.data.toList.drop 24 = dktX8_number_1 := dk_seg dksX8_number_0 24 rfl rfl
theorem dksX8_number_2 : cX8_number.data.toList.drop 48 = dktX8_number_2 := dk_seg dksX8_number_1 24 rfl rfl
theorem dX8_number_0 : decode cX8_number 0 = .ok (.aload_n 0, 1) := dk_42 (dk_at dksX8_number_0 0 rfl rfl)
theorem dX8_number_1 : decode cX8_number 1 = .ok (.invokevirtual 161, 3) := dk_182 0 161 (dk_at dksX8_number_0 1 rfl rfl)
theorem dX8_number_4 : decode cX8_number 4 = .ok (.ifCond .eq 16, 3) := dk_153 0 16 (dk_at dksX8_number_0 4 rfl rfl)
theorem dX8_number_7 : decode cX8_number 7 = .ok (.aload_n 0, 1) := dk_42 (dk_at dksX8_number_0 7 rfl rfl)
theorem dX8_number_8 : decode cX8_number 8 = .ok (.getfield 138, 3) := dk_180 0 138 (dk_at dksX8_number_0 8 rfl rfl)
theorem dX8_number_11 : decode cX8_number 11 = .ok (.iconst 2, 1) := dk_5 (dk_at dksX8_number_0 11 rfl rfl)
theorem dX8_number_12 : decode cX8_number 12 = .ok (.if_icmp .eq 8, 3) := dk_159 0 8 (dk_at dksX8_number_0 12 rfl rfl)
theorem dX8_number_15 : decode cX8_number 15 = .ok (.aload_n 0, 1) := dk_42 (dk_at dksX8_number_0 15 rfl rfl)
theorem dX8_number_16 : decode cX8_number 16 = .ok (.iconst 1, 1) := dk_4 (dk_at dksX8_number_0 16 rfl rfl)
theorem dX8_number_17 : decode cX8_number 17 = .ok (.invokevirtual 184, 3) := dk_182 0 184 (dk_at dksX8_number_0 17 rfl rfl)
theorem dX8_number_20 : decode cX8_number 20 = .ok (.aload_n 0, 1) := dk_42 (dk_at dksX8_number_0 20 rfl rfl)
theorem dX8_number_21 : decode cX8_number 21 = .ok (.invokevirtual 161, 3) := dk_182 0 161 (dk_at dksX8_number_0 21 rfl rfl)
theorem dX8_number_24 : decode cX8_number 24 = .ok (.ifCond .eq 23, 3) := dk_153 0 23 (dk_at dksX8_number_1 0 rfl rfl)
theorem dX8_number_27 : decode cX8_number 27 = .ok (.aload_n 0, 1) := dk_42 (dk_at dksX8_number_1 3 rfl rfl)
theorem dX8_number_28 : decode cX8_number 28 = .ok (.getfield 149, 3) := dk_180 0 149 (dk_at dksX8_number_1 4 rfl rfl)
theorem dX8_number_31 : decode cX8_number 31 = .ok (.i2l, 1) := dk_133 (dk_at dksX8_number_1 7 rfl rfl)
theorem dX8_number_32 : decode cX8_number 32 = .ok (.iload_n 1, 1) := dk_27 (dk_at dksX8_number_1 8 rfl rfl)
theorem dX8_number_33 : decode cX8_number 33 = .ok (.i2l, 1) := dk_133 (dk_at dksX8_number_1 9 rfl rfl)
theorem dX8_number_34 : decode cX8_number 34 = .ok (.iload_n 2, 1) := dk_28 (dk_at dksX8_number_1 10 rfl rfl)
theorem dX8_number_35 : decode cX8_number 35 = .ok (.i2l, 1) := dk_133 (dk_at dksX8_number_1 11 rfl rfl)
theorem dX8_number_36 : decode cX8_number 36 = .ok (.invokestatic 110, 3) := dk_184 0 110 (dk_at dksX8_number_1 12 rfl rfl)
theorem dX8_number_39 : decode cX8_number 39 = .ok (.ifCond .ne 8, 3) := dk_154 0 8 (dk_at dksX8_number_1 15 rfl rfl)
theorem dX8_number_42 : decode cX8_number 42 = .ok (.aload_n 0, 1) := dk_42 (dk_at dksX8_number_1 18 rfl rfl)
theorem dX8_number_43 : decode cX8_number 43 = .ok (.iconst 2, 1) := dk_5 (dk_at dksX8_number_1 19 rfl rfl)
theorem dX8_number_44 : decode cX8_number 44 = .ok (.invokevirtual 184, 3) := dk_182 0 184 (dk_at dksX8_number_1 20 rfl rfl)
theorem dX8_number_47 : decode cX8_number 47 = .ok (.aload_n 0, 1) := dk_42 (dk_at dksX8_number_1 23 rfl rfl)
theorem dX8_number_48 : decode cX8_number 48 = .ok (.invokevirtual 161, 3) := dk_182 0 161 (dk_at dksX8_number_2 0 rfl rfl)
theorem dX8_number_51 : decode cX8_number 51 = .ok (.ifCond .ne 5, 3) := dk_154 0 5 (dk_at dksX8_number_2 3 rfl rfl)
theorem dX8_number_54 : decode cX8_number 54 = .ok (.iconst 0, 1) := dk_3 (dk_at dksX8_number_2 6 rfl rfl)
theorem dX8_number_55 : decode cX8_number 55 = .ok (.ireturn, 1) := dk_172 (dk_at dksX8_number_2 7 rfl rfl)
theorem dX8_number_56 : decode cX8_number 56 = .ok (.aload_n 0, 1) := dk_42 (dk_at dksX8_number_2 8 rfl rfl)
theorem dX8_number_57 : decode cX8_number 57 = .ok (.getfield 149, 3) := dk_180 0 149 (dk_at dksX8_number_2 9 rfl rfl)
theorem dX8_number_60 : decode cX8_number 60 = .ok (.istore_n 3, 1) := dk_62 (dk_at dksX8_number_2 12 rfl rfl)
theorem dX8_number_61 : decode cX8_number 61 = .ok (.aload_n 0, 1) := dk_42 (dk_at dksX8_number_2 13 rfl rfl)
theorem dX8_number_62 : decode cX8_number 62 = .ok (.invokevirtual 178, 3) := dk_182 0 178 (dk_at dksX8_number_2 14 rfl rfl)
theorem dX8_number_65 : decode cX8_number 65 = .ok (.iload_n 3, 1) := dk_29 (dk_at dksX8_number_2 17 rfl rfl)
theorem dX8_number_66 : decode cX8_number 66 = .ok (.ireturn, 1) := dk_172 (dk_at dksX8_number_2 18 rfl rfl)
abbrev cX8_told : ByteArray := prog_16_method_30_code
def yX8_told : MethodName := ⟨RX8, "told", "(Ljava/lang/String;II)I"⟩
def dkwX8_told_0 : List UInt8 := [42, 43, 182, 0, 188, 42, 28, 29, 182, 0, 192, 172]
abbrev dktX8_told_0 : List UInt8 := dkwX8_told_0 ++ []
theorem dksX8_told_0 : cX8_told.data.toList.drop 0 = dktX8_told_0 := by decide +kernel
theorem dX8_told_0 : decode cX8_told 0 = .ok (.aload_n 0, 1) := dk_42 (dk_at dksX8_told_0 0 rfl rfl)
theorem dX8_told_1 : decode cX8_told 1 = .ok (.aload_n 1, 1) := dk_43 (dk_at dksX8_told_0 1 rfl rfl)
theorem dX8_told_2 : decode cX8_told 2 = .ok (.invokevirtual 188, 3) := dk_182 0 188 (dk_at dksX8_told_0 2 rfl rfl)
theorem dX8_told_5 : decode cX8_told 5 = .ok (.aload_n 0, 1) := dk_42 (dk_at dksX8_told_0 5 rfl rfl)
theorem dX8_told_6 : decode cX8_told 6 = .ok (.iload_n 2, 1) := dk_28 (dk_at dksX8_told_0 6 rfl rfl)
theorem dX8_told_7 : decode cX8_told 7 = .ok (.iload_n 3, 1) := dk_29 (dk_at dksX8_told_0 7 rfl rfl)
theorem dX8_told_8 : decode cX8_told 8 = .ok (.invokevirtual 192, 3) := dk_182 0 192 (dk_at dksX8_told_0 8 rfl rfl)
theorem dX8_told_11 : decode cX8_told 11 = .ok (.ireturn, 1) := dk_172 (dk_at dksX8_told_0 11 rfl rfl)
abbrev cX8_needs : ByteArray := prog_16_method_27_code
def yX8_needs : MethodName := ⟨RX8, "needs", "(Ljava/lang/String;)V"⟩
def dkwX8_needs_0 : List UInt8 := [42, 43, 182, 0, 181, 154, 0, 8, 42, 4, 182, 0, 184, 177]
abbrev dktX8_needs_0 : List UInt8 := dkwX8_needs_0 ++ []
theorem dksX8_needs_0 : cX8_needs.data.toList.drop 0 = dktX8_needs_0 := by decide +kernel
theorem dX8_needs_0 : decode cX8_needs 0 = .ok (.aload_n 0, 1) := dk_42 (dk_at dksX8_needs_0 0 rfl rfl)
theorem dX8_needs_1 : decode cX8_needs 1 = .ok (.aload_n 1, 1) := dk_43 (dk_at dksX8_needs_0 1 rfl rfl)
theorem dX8_needs_2 : decode cX8_needs 2 = .ok (.invokevirtual 181, 3) := dk_182 0 181 (dk_at dksX8_needs_0 2 rfl rfl)
theorem dX8_needs_5 : decode cX8_needs 5 = .ok (.ifCond .ne 8, 3) := dk_154 0 8 (dk_at dksX8_needs_0 5 rfl rfl)
theorem dX8_needs_8 : decode cX8_needs 8 = .ok (.aload_n 0, 1) := dk_42 (dk_at dksX8_needs_0 8 rfl rfl)
theorem dX8_needs_9 : decode cX8_needs 9 = .ok (.iconst 1, 1) := dk_4 (dk_at dksX8_needs_0 9 rfl rfl)
theorem dX8_needs_10 : decode cX8_needs 10 = .ok (.invokevirtual 184, 3) := dk_182 0 184 (dk_at dksX8_needs_0 10 rfl rfl)
theorem dX8_needs_13 : decode cX8_needs 13 = .ok (.return_, 1) := dk_177 (dk_at dksX8_needs_0 13 rfl rfl)
abbrev cX8_below : ByteArray := prog_16_method_31_code
def yX8_below : MethodName := ⟨RX8, "below", "(Ljava/lang/String;I)I"⟩
def dkwX8_below_1 : List UInt8 := [42, 3, 28, 116, 182, 0, 192, 116, 167, 0, 9, 42, 3, 3, 182, 0, 192, 172]
abbrev dktX8_below_1 : List UInt8 := dkwX8_below_1 ++ []
def dkwX8_below_0 : List UInt8 := [42, 43, 182, 0, 188, 42, 16, 45, 182, 0, 195, 62, 29, 153, 0, 7, 42, 182, 0, 178, 29, 153, 0, 14]
abbrev dktX8_below_0 : List UInt8 := dkwX8_below_0 ++ dktX8_below_1
theorem dksX8_below_0 : cX8_below.data.toList.drop 0 = dktX8_below_0 := by decide +kernel
theorem dksX8_below_1 : cX8_below.data.toList.drop 24 = dktX8_below_1 := dk_seg dksX8_below_0 24 rfl rfl
theorem dX8_below_0 : decode cX8_below 0 = .ok (.aload_n 0, 1) := dk_42 (dk_at dksX8_below_0 0 rfl rfl)
theorem dX8_below_1 : decode cX8_below 1 = .ok (.aload_n 1, 1) := dk_43 (dk_at dksX8_below_0 1 rfl rfl)
theorem dX8_below_2 : decode cX8_below 2 = .ok (.invokevirtual 188, 3) := dk_182 0 188 (dk_at dksX8_below_0 2 rfl rfl)
theorem dX8_below_5 : decode cX8_below 5 = .ok (.aload_n 0, 1) := dk_42 (dk_at dksX8_below_0 5 rfl rfl)
theorem dX8_below_6 : decode cX8_below 6 = .ok (.bipush 45, 2) := dk_16 45 (dk_at dksX8_below_0 6 rfl rfl)
theorem dX8_below_8 : decode cX8_below 8 = .ok (.invokevirtual 195, 3) := dk_182 0 195 (dk_at dksX8_below_0 8 rfl rfl)
theorem dX8_below_11 : decode cX8_below 11 = .ok (.istore_n 3, 1) := dk_62 (dk_at dksX8_below_0 11 rfl rfl)
theorem dX8_below_12 : decode cX8_below 12 = .ok (.iload_n 3, 1) := dk_29 (dk_at dksX8_below_0 12 rfl rfl)
theorem dX8_below_13 : decode cX8_below 13 = .ok (.ifCond .eq 7, 3) := dk_153 0 7 (dk_at dksX8_below_0 13 rfl rfl)
theorem dX8_below_16 : decode cX8_below 16 = .ok (.aload_n 0, 1) := dk_42 (dk_at dksX8_below_0 16 rfl rfl)
theorem dX8_below_17 : decode cX8_below 17 = .ok (.invokevirtual 178, 3) := dk_182 0 178 (dk_at dksX8_below_0 17 rfl rfl)
theorem dX8_below_20 : decode cX8_below 20 = .ok (.iload_n 3, 1) := dk_29 (dk_at dksX8_below_0 20 rfl rfl)
theorem dX8_below_21 : decode cX8_below 21 = .ok (.ifCond .eq 14, 3) := dk_153 0 14 (dk_at dksX8_below_0 21 rfl rfl)
theorem dX8_below_24 : decode cX8_below 24 = .ok (.aload_n 0, 1) := dk_42 (dk_at dksX8_below_1 0 rfl rfl)
theorem dX8_below_25 : decode cX8_below 25 = .ok (.iconst 0, 1) := dk_3 (dk_at dksX8_below_1 1 rfl rfl)
theorem dX8_below_26 : decode cX8_below 26 = .ok (.iload_n 2, 1) := dk_28 (dk_at dksX8_below_1 2 rfl rfl)
theorem dX8_below_27 : decode cX8_below 27 = .ok (.ineg, 1) := dk_116 (dk_at dksX8_below_1 3 rfl rfl)
theorem dX8_below_28 : decode cX8_below 28 = .ok (.invokevirtual 192, 3) := dk_182 0 192 (dk_at dksX8_below_1 4 rfl rfl)
theorem dX8_below_31 : decode cX8_below 31 = .ok (.ineg, 1) := dk_116 (dk_at dksX8_below_1 7 rfl rfl)
theorem dX8_below_32 : decode cX8_below 32 = .ok (.goto 9, 3) := dk_167 0 9 (dk_at dksX8_below_1 8 rfl rfl)
theorem dX8_below_35 : decode cX8_below 35 = .ok (.aload_n 0, 1) := dk_42 (dk_at dksX8_below_1 11 rfl rfl)
theorem dX8_below_36 : decode cX8_below 36 = .ok (.iconst 0, 1) := dk_3 (dk_at dksX8_below_1 12 rfl rfl)
theorem dX8_below_37 : decode cX8_below 37 = .ok (.iconst 0, 1) := dk_3 (dk_at dksX8_below_1 13 rfl rfl)
theorem dX8_below_38 : decode cX8_below 38 = .ok (.invokevirtual 192, 3) := dk_182 0 192 (dk_at dksX8_below_1 14 rfl rfl)
theorem dX8_below_41 : decode cX8_below 41 = .ok (.ireturn, 1) := dk_172 (dk_at dksX8_below_1 17 rfl rfl)
abbrev cX8_isSign : ByteArray := prog_16_method_28_code
def yX8_isSign : MethodName := ⟨RX8, "isSign", "(I)Z"⟩
def dkwX8_isSign_1 : List UInt8 := [167, 0, 4, 3, 172]
abbrev dktX8_isSign_1 : List UInt8 := dkwX8_isSign_1 ++ []
def dkwX8_isSign_0 : List UInt8 := [42, 182, 0, 161, 153, 0, 23, 42, 180, 0, 138, 6, 160, 0, 15, 42, 180, 0, 149, 27, 160, 0, 7, 4]
abbrev dktX8_isSign_0 : List UInt8 := dkwX8_isSign_0 ++ dktX8_isSign_1
theorem dksX8_isSign_0 : cX8_isSign.data.toList.drop 0 = dktX8_isSign_0 := by decide +kernel
theorem dksX8_isSign_1 : cX8_isSign.data.toList.drop 24 = dktX8_isSign_1 := dk_seg dksX8_isSign_0 24 rfl rfl
theorem dX8_isSign_0 : decode cX8_isSign 0 = .ok (.aload_n 0, 1) := dk_42 (dk_at dksX8_isSign_0 0 rfl rfl)
theorem dX8_isSign_1 : decode cX8_isSign 1 = .ok (.invokevirtual 161, 3) := dk_182 0 161 (dk_at dksX8_isSign_0 1 rfl rfl)
theorem dX8_isSign_4 : decode cX8_isSign 4 = .ok (.ifCond .eq 23, 3) := dk_153 0 23 (dk_at dksX8_isSign_0 4 rfl rfl)
theorem dX8_isSign_7 : decode cX8_isSign 7 = .ok (.aload_n 0, 1) := dk_42 (dk_at dksX8_isSign_0 7 rfl rfl)
theorem dX8_isSign_8 : decode cX8_isSign 8 = .ok (.getfield 138, 3) := dk_180 0 138 (dk_at dksX8_isSign_0 8 rfl rfl)
theorem dX8_isSign_11 : decode cX8_isSign 11 = .ok (.iconst 3, 1) := dk_6 (dk_at dksX8_isSign_0 11 rfl rfl)
theorem dX8_isSign_12 : decode cX8_isSign 12 = .ok (.if_icmp .ne 15, 3) := dk_160 0 15 (dk_at dksX8_isSign_0 12 rfl rfl)
theorem dX8_isSign_15 : decode cX8_isSign 15 = .ok (.aload_n 0, 1) := dk_42 (dk_at dksX8_isSign_0 15 rfl rfl)
theorem dX8_isSign_16 : decode cX8_isSign 16 = .ok (.getfield 149, 3) := dk_180 0 149 (dk_at dksX8_isSign_0 16 rfl rfl)
theorem dX8_isSign_19 : decode cX8_isSign 19 = .ok (.iload_n 1, 1) := dk_27 (dk_at dksX8_isSign_0 19 rfl rfl)
theorem dX8_isSign_20 : decode cX8_isSign 20 = .ok (.if_icmp .ne 7, 3) := dk_160 0 7 (dk_at dksX8_isSign_0 20 rfl rfl)
theorem dX8_isSign_23 : decode cX8_isSign 23 = .ok (.iconst 1, 1) := dk_4 (dk_at dksX8_isSign_0 23 rfl rfl)
theorem dX8_isSign_24 : decode cX8_isSign 24 = .ok (.goto 4, 3) := dk_167 0 4 (dk_at dksX8_isSign_1 0 rfl rfl)
theorem dX8_isSign_27 : decode cX8_isSign 27 = .ok (.iconst 0, 1) := dk_3 (dk_at dksX8_isSign_1 3 rfl rfl)
theorem dX8_isSign_28 : decode cX8_isSign 28 = .ok (.ireturn, 1) := dk_172 (dk_at dksX8_isSign_1 4 rfl rfl)
abbrev cX8_readLay : ByteArray := prog_16_method_34_code
def yX8_readLay : MethodName := ⟨RX8, "readLay", "()V"⟩
def dkwX8_readLay_3 : List UInt8 := [132, 2, 1, 167, 255, 211, 177]
abbrev dktX8_readLay_3 : List UInt8 := dkwX8_readLay_3 ++ []
def dkwX8_readLay_2 : List UInt8 := [163, 0, 24, 42, 180, 0, 37, 16, 48, 16, 12, 28, 104, 96, 29, 96, 27, 79, 132, 3, 1, 167, 255, 230]
abbrev dktX8_readLay_2 : List UInt8 := dkwX8_readLay_2 ++ dktX8_readLay_3
def dkwX8_readLay_1 : List UInt8 := [42, 180, 0, 219, 61, 28, 42, 180, 0, 227, 163, 0, 43, 42, 180, 0, 216, 62, 29, 42, 180, 0, 224]
abbrev dktX8_readLay_1 : List UInt8 := dkwX8_readLay_1 ++ dktX8_readLay_2
def dkwX8_readLay_0 : List UInt8 := [42, 3, 16, 11, 182, 0, 230, 42, 18, 234, 3, 6, 182, 0, 202, 60, 42, 182, 0, 161, 154, 0, 4, 177]
abbrev dktX8_readLay_0 : List UInt8 := dkwX8_readLay_0 ++ dktX8_readLay_1
theorem dksX8_readLay_0 : cX8_readLay.data.toList.drop 0 = dktX8_readLay_0 := by decide +kernel
theorem dksX8_readLay_1 : cX8_readLay.data.toList.drop 24 = dktX8_readLay_1 := dk_seg dksX8_readLay_0 24 rfl rfl
theorem dksX8_readLay_2 : cX8_readLay.data.toList.drop 47 = dktX8_readLay_2 := dk_seg dksX8_readLay_1 23 rfl rfl
theorem dksX8_readLay_3 : cX8_readLay.data.toList.drop 71 = dktX8_readLay_3 := dk_seg dksX8_readLay_2 24 rfl rfl
theorem dX8_readLay_0 : decode cX8_readLay 0 = .ok (.aload_n 0, 1) := dk_42 (dk_at dksX8_readLay_0 0 rfl rfl)
theorem dX8_readLay_1 : decode cX8_readLay 1 = .ok (.iconst 0, 1) := dk_3 (dk_at dksX8_readLay_0 1 rfl rfl)
theorem dX8_readLay_2 : decode cX8_readLay 2 = .ok (.bipush 11, 2) := dk_16 11 (dk_at dksX8_readLay_0 2 rfl rfl)
theorem dX8_readLay_4 : decode cX8_readLay 4 = .ok (.invokevirtual 230, 3) := dk_182 0 230 (dk_at dksX8_readLay_0 4 rfl rfl)
theorem dX8_readLay_7 : decode cX8_readLay 7 = .ok (.aload_n 0, 1) := dk_42 (dk_at dksX8_readLay_0 7 rfl rfl)
theorem dX8_readLay_8 : decode cX8_readLay 8 = .ok (.ldc 234, 2) := dk_18 234 (dk_at dksX8_readLay_0 8 rfl rfl)
theorem dX8_readLay_10 : decode cX8_readLay 10 = .ok (.iconst 0, 1) := dk_3 (dk_at dksX8_readLay_0 10 rfl rfl)
theorem dX8_readLay_11 : decode cX8_readLay 11 = .ok (.iconst 3, 1) := dk_6 (dk_at dksX8_readLay_0 11 rfl rfl)
theorem dX8_readLay_12 : decode cX8_readLay 12 = .ok (.invokevirtual 202, 3) := dk_182 0 202 (dk_at dksX8_readLay_0 12 rfl rfl)
theorem dX8_readLay_15 : decode cX8_readLay 15 = .ok (.istore_n 1, 1) := dk_60 (dk_at dksX8_readLay_0 15 rfl rfl)
theorem dX8_readLay_16 : decode cX8_readLay 16 = .ok (.aload_n 0, 1) := dk_42 (dk_at dksX8_readLay_0 16 rfl rfl)
theorem dX8_readLay_17 : decode cX8_readLay 17 = .ok (.invokevirtual 161, 3) := dk_182 0 161 (dk_at dksX8_readLay_0 17 rfl rfl)
theorem dX8_readLay_20 : decode cX8_readLay 20 = .ok (.ifCond .ne 4, 3) := dk_154 0 4 (dk_at dksX8_readLay_0 20 rfl rfl)
theorem dX8_readLay_23 : decode cX8_readLay 23 = .ok (.return_, 1) := dk_177 (dk_at dksX8_readLay_0 23 rfl rfl)
theorem dX8_readLay_24 : decode cX8_readLay 24 = .ok (.aload_n 0, 1) := dk_42 (dk_at dksX8_readLay_1 0 rfl rfl)
theorem dX8_readLay_25 : decode cX8_readLay 25 = .ok (.getfield 219, 3) := dk_180 0 219 (dk_at dksX8_readLay_1 1 rfl rfl)
theorem dX8_readLay_28 : decode cX8_readLay 28 = .ok (.istore_n 2, 1) := dk_61 (dk_at dksX8_readLay_1 4 rfl rfl)
theorem dX8_readLay_29 : decode cX8_readLay 29 = .ok (.iload_n 2, 1) := dk_28 (dk_at dksX8_readLay_1 5 rfl rfl)
theorem dX8_readLay_30 : decode cX8_readLay 30 = .ok (.aload_n 0, 1) := dk_42 (dk_at dksX8_readLay_1 6 rfl rfl)
theorem dX8_readLay_31 : decode cX8_readLay 31 = .ok (.getfield 227, 3) := dk_180 0 227 (dk_at dksX8_readLay_1 7 rfl rfl)
theorem dX8_readLay_34 : decode cX8_readLay 34 = .ok (.if_icmp .gt 43, 3) := dk_163 0 43 (dk_at dksX8_readLay_1 10 rfl rfl)
theorem dX8_readLay_37 : decode cX8_readLay 37 = .ok (.aload_n 0, 1) := dk_42 (dk_at dksX8_readLay_1 13 rfl rfl)
theorem dX8_readLay_38 : decode cX8_readLay 38 = .ok (.getfield 216, 3) := dk_180 0 216 (dk_at dksX8_readLay_1 14 rfl rfl)
theorem dX8_readLay_41 : decode cX8_readLay 41 = .ok (.istore_n 3, 1) := dk_62 (dk_at dksX8_readLay_1 17 rfl rfl)
theorem dX8_readLay_42 : decode cX8_readLay 42 = .ok (.iload_n 3, 1) := dk_29 (dk_at dksX8_readLay_1 18 rfl rfl)
theorem dX8_readLay_43 : decode cX8_readLay 43 = .ok (.aload_n 0, 1) := dk_42 (dk_at dksX8_readLay_1 19 rfl rfl)
theorem dX8_readLay_44 : decode cX8_readLay 44 = .ok (.getfield 224, 3) := dk_180 0 224 (dk_at dksX8_readLay_1 20 rfl rfl)
theorem dX8_readLay_47 : decode cX8_readLay 47 = .ok (.if_icmp .gt 24, 3) := dk_163 0 24 (dk_at dksX8_readLay_2 0 rfl rfl)
theorem dX8_readLay_50 : decode cX8_readLay 50 = .ok (.aload_n 0, 1) := dk_42 (dk_at dksX8_readLay_2 3 rfl rfl)
theorem dX8_readLay_51 : decode cX8_readLay 51 = .ok (.getfield 37, 3) := dk_180 0 37 (dk_at dksX8_readLay_2 4 rfl rfl)
theorem dX8_readLay_54 : decode cX8_readLay 54 = .ok (.bipush 48, 2) := dk_16 48 (dk_at dksX8_readLay_2 7 rfl rfl)
theorem dX8_readLay_56 : decode cX8_readLay 56 = .ok (.bipush 12, 2) := dk_16 12 (dk_at dksX8_readLay_2 9 rfl rfl)
theorem dX8_readLay_58 : decode cX8_readLay 58 = .ok (.iload_n 2, 1) := dk_28 (dk_at dksX8_readLay_2 11 rfl rfl)
theorem dX8_readLay_59 : decode cX8_readLay 59 = .ok (.imul, 1) := dk_104 (dk_at dksX8_readLay_2 12 rfl rfl)
theorem dX8_readLay_60 : decode cX8_readLay 60 = .ok (.iadd, 1) := dk_96 (dk_at dksX8_readLay_2 13 rfl rfl)
theorem dX8_readLay_61 : decode cX8_readLay 61 = .ok (.iload_n 3, 1) := dk_29 (dk_at dksX8_readLay_2 14 rfl rfl)
theorem dX8_readLay_62 : decode cX8_readLay 62 = .ok (.iadd, 1) := dk_96 (dk_at dksX8_readLay_2 15 rfl rfl)
theorem dX8_readLay_63 : decode cX8_readLay 63 = .ok (.iload_n 1, 1) := dk_27 (dk_at dksX8_readLay_2 16 rfl rfl)
theorem dX8_readLay_64 : decode cX8_readLay 64 = .ok (.iastore, 1) := dk_79 (dk_at dksX8_readLay_2 17 rfl rfl)
theorem dX8_readLay_65 : decode cX8_readLay 65 = .ok (.iinc 3 1, 3) := dk_132 3 1 (dk_at dksX8_readLay_2 18 rfl rfl)
theorem dX8_readLay_68 : decode cX8_readLay 68 = .ok (.goto (-26), 3) := dk_167 255 230 (dk_at dksX8_readLay_2 21 rfl rfl)
theorem dX8_readLay_71 : decode cX8_readLay 71 = .ok (.iinc 2 1, 3) := dk_132 2 1 (dk_at dksX8_readLay_3 0 rfl rfl)
theorem dX8_readLay_74 : decode cX8_readLay 74 = .ok (.goto (-45), 3) := dk_167 255 211 (dk_at dksX8_readLay_3 3 rfl rfl)
theorem dX8_readLay_77 : decode cX8_readLay 77 = .ok (.return_, 1) := dk_177 (dk_at dksX8_readLay_3 6 rfl rfl)
abbrev cX8_readBox : ByteArray := prog_16_method_33_code
def yX8_readBox : MethodName := ⟨RX8, "readBox", "(II)V"⟩
def dkwX8_readBox_2 : List UInt8 := [182, 0, 192, 181, 0, 227, 177]
abbrev dktX8_readBox_2 : List UInt8 := dkwX8_readBox_2 ++ []
def dkwX8_readBox_1 : List UInt8 := [182, 0, 188, 42, 42, 42, 180, 0, 216, 28, 182, 0, 192, 181, 0, 224, 42, 42, 42, 180, 0, 219, 28]
abbrev dktX8_readBox_1 : List UInt8 := dkwX8_readBox_1 ++ dktX8_readBox_2
def dkwX8_readBox_0 : List UInt8 := [42, 42, 27, 28, 182, 0, 192, 181, 0, 216, 42, 42, 27, 28, 182, 0, 192, 181, 0, 219, 42, 18, 222]
abbrev dktX8_readBox_0 : List UInt8 := dkwX8_readBox_0 ++ dktX8_readBox_1
theorem dksX8_readBox_0 : cX8_readBox.data.toList.drop 0 = dktX8_readBox_0 := by decide +kernel
theorem dksX8_readBox_1 : cX8_readBox.data.toList.drop 23 = dktX8_readBox_1 := dk_seg dksX8_readBox_0 23 rfl rfl
theorem dksX8_readBox_2 : cX8_readBox.data.toList.drop 46 = dktX8_readBox_2 := dk_seg dksX8_readBox_1 23 rfl rfl
theorem dX8_readBox_0 : decode cX8_readBox 0 = .ok (.aload_n 0, 1) := dk_42 (dk_at dksX8_readBox_0 0 rfl rfl)
theorem dX8_readBox_1 : decode cX8_readBox 1 = .ok (.aload_n 0, 1) := dk_42 (dk_at dksX8_readBox_0 1 rfl rfl)
theorem dX8_readBox_2 : decode cX8_readBox 2 = .ok (.iload_n 1, 1) := dk_27 (dk_at dksX8_readBox_0 2 rfl rfl)
theorem dX8_readBox_3 : decode cX8_readBox 3 = .ok (.iload_n 2, 1) := dk_28 (dk_at dksX8_readBox_0 3 rfl rfl)
theorem dX8_readBox_4 : decode cX8_readBox 4 = .ok (.invokevirtual 192, 3) := dk_182 0 192 (dk_at dksX8_readBox_0 4 rfl rfl)
theorem dX8_readBox_7 : decode cX8_readBox 7 = .ok (.putfield 216, 3) := dk_181 0 216 (dk_at dksX8_readBox_0 7 rfl rfl)
theorem dX8_readBox_10 : decode cX8_readBox 10 = .ok (.aload_n 0, 1) := dk_42 (dk_at dksX8_readBox_0 10 rfl rfl)
theorem dX8_readBox_11 : decode cX8_readBox 11 = .ok (.aload_n 0, 1) := dk_42 (dk_at dksX8_readBox_0 11 rfl rfl)
theorem dX8_readBox_12 : decode cX8_readBox 12 = .ok (.iload_n 1, 1) := dk_27 (dk_at dksX8_readBox_0 12 rfl rfl)
theorem dX8_readBox_13 : decode cX8_readBox 13 = .ok (.iload_n 2, 1) := dk_28 (dk_at dksX8_readBox_0 13 rfl rfl)
theorem dX8_readBox_14 : decode cX8_readBox 14 = .ok (.invokevirtual 192, 3) := dk_182 0 192 (dk_at dksX8_readBox_0 14 rfl rfl)
theorem dX8_readBox_17 : decode cX8_readBox 17 = .ok (.putfield 219, 3) := dk_181 0 219 (dk_at dksX8_readBox_0 17 rfl rfl)
theorem dX8_readBox_20 : decode cX8_readBox 20 = .ok (.aload_n 0, 1) := dk_42 (dk_at dksX8_readBox_0 20 rfl rfl)
theorem dX8_readBox_21 : decode cX8_readBox 21 = .ok (.ldc 222, 2) := dk_18 222 (dk_at dksX8_readBox_0 21 rfl rfl)
theorem dX8_readBox_23 : decode cX8_readBox 23 = .ok (.invokevirtual 188, 3) := dk_182 0 188 (dk_at dksX8_readBox_1 0 rfl rfl)
theorem dX8_readBox_26 : decode cX8_readBox 26 = .ok (.aload_n 0, 1) := dk_42 (dk_at dksX8_readBox_1 3 rfl rfl)
theorem dX8_readBox_27 : decode cX8_readBox 27 = .ok (.aload_n 0, 1) := dk_42 (dk_at dksX8_readBox_1 4 rfl rfl)
theorem dX8_readBox_28 : decode cX8_readBox 28 = .ok (.aload_n 0, 1) := dk_42 (dk_at dksX8_readBox_1 5 rfl rfl)
theorem dX8_readBox_29 : decode cX8_readBox 29 = .ok (.getfield 216, 3) := dk_180 0 216 (dk_at dksX8_readBox_1 6 rfl rfl)
theorem dX8_readBox_32 : decode cX8_readBox 32 = .ok (.iload_n 2, 1) := dk_28 (dk_at dksX8_readBox_1 9 rfl rfl)
theorem dX8_readBox_33 : decode cX8_readBox 33 = .ok (.invokevirtual 192, 3) := dk_182 0 192 (dk_at dksX8_readBox_1 10 rfl rfl)
theorem dX8_readBox_36 : decode cX8_readBox 36 = .ok (.putfield 224, 3) := dk_181 0 224 (dk_at dksX8_readBox_1 13 rfl rfl)
theorem dX8_readBox_39 : decode cX8_readBox 39 = .ok (.aload_n 0, 1) := dk_42 (dk_at dksX8_readBox_1 16 rfl rfl)
theorem dX8_readBox_40 : decode cX8_readBox 40 = .ok (.aload_n 0, 1) := dk_42 (dk_at dksX8_readBox_1 17 rfl rfl)
theorem dX8_readBox_41 : decode cX8_readBox 41 = .ok (.aload_n 0, 1) := dk_42 (dk_at dksX8_readBox_1 18 rfl rfl)
theorem dX8_readBox_42 : decode cX8_readBox 42 = .ok (.getfield 219, 3) := dk_180 0 219 (dk_at dksX8_readBox_1 19 rfl rfl)
theorem dX8_readBox_45 : decode cX8_readBox 45 = .ok (.iload_n 2, 1) := dk_28 (dk_at dksX8_readBox_1 22 rfl rfl)
theorem dX8_readBox_46 : decode cX8_readBox 46 = .ok (.invokevirtual 192, 3) := dk_182 0 192 (dk_at dksX8_readBox_2 0 rfl rfl)
theorem dX8_readBox_49 : decode cX8_readBox 49 = .ok (.putfield 227, 3) := dk_181 0 227 (dk_at dksX8_readBox_2 3 rfl rfl)
theorem dX8_readBox_52 : decode cX8_readBox 52 = .ok (.return_, 1) := dk_177 (dk_at dksX8_readBox_2 6 rfl rfl)
abbrev cX8_readStream : ByteArray := prog_16_method_35_code
def yX8_readStream : MethodName := ⟨RX8, "readStream", "()V"⟩
def dkwX8_readStream_3 : List UInt8 := [177, 42, 180, 0, 43, 27, 4, 84, 42, 180, 0, 37, 16, 36, 27, 96, 28, 79, 177]
abbrev dktX8_readStream_3 : List UInt8 := dkwX8_readStream_3 ++ []
def dkwX8_readStream_2 : List UInt8 := [3, 16, 11, 182, 0, 192, 60, 42, 18, 236, 3, 16, 30, 182, 0, 202, 61, 42, 182, 0, 161, 154, 0, 4]
abbrev dktX8_readStream_2 : List UInt8 := dkwX8_readStream_2 ++ dktX8_readStream_3
def dkwX8_readStream_1 : List UInt8 := [184, 0, 110, 153, 0, 20, 42, 180, 0, 43, 42, 180, 0, 149, 51, 153, 0, 8, 42, 5, 182, 0, 184, 42]
abbrev dktX8_readStream_1 : List UInt8 := dkwX8_readStream_1 ++ dktX8_readStream_2
def dkwX8_readStream_0 : List UInt8 := [42, 182, 0, 161, 153, 0, 43, 42, 180, 0, 138, 5, 160, 0, 35, 42, 180, 0, 149, 133, 9, 20, 0, 114]
abbrev dktX8_readStream_0 : List UInt8 := dkwX8_readStream_0 ++ dktX8_readStream_1
theorem dksX8_readStream_0 : cX8_readStream.data.toList.drop 0 = dktX8_readStream_0 := by decide +kernel
theorem dksX8_readStream_1 : cX8_readStream.data.toList.drop 24 = dktX8_readStream_1 := dk_seg dksX8_readStream_0 24 rfl rfl
theorem dksX8_readStream_2 : cX8_readStream.data.toList.drop 48 = dktX8_readStream_2 := dk_seg dksX8_readStream_1 24 rfl rfl
theorem dksX8_readStream_3 : cX8_readStream.data.toList.drop 72 = dktX8_readStream_3 := dk_seg dksX8_readStream_2 24 rfl rfl
theorem dX8_readStream_0 : decode cX8_readStream 0 = .ok (.aload_n 0, 1) := dk_42 (dk_at dksX8_readStream_0 0 rfl rfl)
theorem dX8_readStream_1 : decode cX8_readStream 1 = .ok (.invokevirtual 161, 3) := dk_182 0 161 (dk_at dksX8_readStream_0 1 rfl rfl)
theorem dX8_readStream_4 : decode cX8_readStream 4 = .ok (.ifCond .eq 43, 3) := dk_153 0 43 (dk_at dksX8_readStream_0 4 rfl rfl)
theorem dX8_readStream_7 : decode cX8_readStream 7 = .ok (.aload_n 0, 1) := dk_42 (dk_at dksX8_readStream_0 7 rfl rfl)
theorem dX8_readStream_8 : decode cX8_readStream 8 = .ok (.getfield 138, 3) := dk_180 0 138 (dk_at dksX8_readStream_0 8 rfl rfl)
theorem dX8_readStream_11 : decode cX8_readStream 11 = .ok (.iconst 2, 1) := dk_5 (dk_at dksX8_readStream_0 11 rfl rfl)
theorem dX8_readStream_12 : decode cX8_readStream 12 = .ok (.if_icmp .ne 35, 3) := dk_160 0 35 (dk_at dksX8_readStream_0 12 rfl rfl)
theorem dX8_readStream_15 : decode cX8_readStream 15 = .ok (.aload_n 0, 1) := dk_42 (dk_at dksX8_readStream_0 15 rfl rfl)
theorem dX8_readStream_16 : decode cX8_readStream 16 = .ok (.getfield 149, 3) := dk_180 0 149 (dk_at dksX8_readStream_0 16 rfl rfl)
theorem dX8_readStream_19 : decode cX8_readStream 19 = .ok (.i2l, 1) := dk_133 (dk_at dksX8_readStream_0 19 rfl rfl)
theorem dX8_readStream_20 : decode cX8_readStream 20 = .ok (.lconst 0, 1) := dk_9 (dk_at dksX8_readStream_0 20 rfl rfl)
theorem dX8_readStream_21 : decode cX8_readStream 21 = .ok (.ldc2_w 114, 3) := dk_20 0 114 (dk_at dksX8_readStream_0 21 rfl rfl)
theorem dX8_readStream_24 : decode cX8_readStream 24 = .ok (.invokestatic 110, 3) := dk_184 0 110 (dk_at dksX8_readStream_1 0 rfl rfl)
theorem dX8_readStream_27 : decode cX8_readStream 27 = .ok (.ifCond .eq 20, 3) := dk_153 0 20 (dk_at dksX8_readStream_1 3 rfl rfl)
theorem dX8_readStream_30 : decode cX8_readStream 30 = .ok (.aload_n 0, 1) := dk_42 (dk_at dksX8_readStream_1 6 rfl rfl)
theorem dX8_readStream_31 : decode cX8_readStream 31 = .ok (.getfield 43, 3) := dk_180 0 43 (dk_at dksX8_readStream_1 7 rfl rfl)
theorem dX8_readStream_34 : decode cX8_readStream 34 = .ok (.aload_n 0, 1) := dk_42 (dk_at dksX8_readStream_1 10 rfl rfl)
theorem dX8_readStream_35 : decode cX8_readStream 35 = .ok (.getfield 149, 3) := dk_180 0 149 (dk_at dksX8_readStream_1 11 rfl rfl)
theorem dX8_readStream_38 : decode cX8_readStream 38 = .ok (.baload, 1) := dk_51 (dk_at dksX8_readStream_1 14 rfl rfl)
theorem dX8_readStream_39 : decode cX8_readStream 39 = .ok (.ifCond .eq 8, 3) := dk_153 0 8 (dk_at dksX8_readStream_1 15 rfl rfl)
theorem dX8_readStream_42 : decode cX8_readStream 42 = .ok (.aload_n 0, 1) := dk_42 (dk_at dksX8_readStream_1 18 rfl rfl)
theorem dX8_readStream_43 : decode cX8_readStream 43 = .ok (.iconst 2, 1) := dk_5 (dk_at dksX8_readStream_1 19 rfl rfl)
theorem dX8_readStream_44 : decode cX8_readStream 44 = .ok (.invokevirtual 184, 3) := dk_182 0 184 (dk_at dksX8_readStream_1 20 rfl rfl)
theorem dX8_readStream_47 : decode cX8_readStream 47 = .ok (.aload_n 0, 1) := dk_42 (dk_at dksX8_readStream_1 23 rfl rfl)
theorem dX8_readStream_48 : decode cX8_readStream 48 = .ok (.iconst 0, 1) := dk_3 (dk_at dksX8_readStream_2 0 rfl rfl)
theorem dX8_readStream_49 : decode cX8_readStream 49 = .ok (.bipush 11, 2) := dk_16 11 (dk_at dksX8_readStream_2 1 rfl rfl)
theorem dX8_readStream_51 : decode cX8_readStream 51 = .ok (.invokevirtual 192, 3) := dk_182 0 192 (dk_at dksX8_readStream_2 3 rfl rfl)
theorem dX8_readStream_54 : decode cX8_readStream 54 = .ok (.istore_n 1, 1) := dk_60 (dk_at dksX8_readStream_2 6 rfl rfl)
theorem dX8_readStream_55 : decode cX8_readStream 55 = .ok (.aload_n 0, 1) := dk_42 (dk_at dksX8_readStream_2 7 rfl rfl)
theorem dX8_readStream_56 : decode cX8_readStream 56 = .ok (.ldc 236, 2) := dk_18 236 (dk_at dksX8_readStream_2 8 rfl rfl)
theorem dX8_readStream_58 : decode cX8_readStream 58 = .ok (.iconst 0, 1) := dk_3 (dk_at dksX8_readStream_2 10 rfl rfl)
theorem dX8_readStream_59 : decode cX8_readStream 59 = .ok (.bipush 30, 2) := dk_16 30 (dk_at dksX8_readStream_2 11 rfl rfl)
theorem dX8_readStream_61 : decode cX8_readStream 61 = .ok (.invokevirtual 202, 3) := dk_182 0 202 (dk_at dksX8_readStream_2 13 rfl rfl)
theorem dX8_readStream_64 : decode cX8_readStream 64 = .ok (.istore_n 2, 1) := dk_61 (dk_at dksX8_readStream_2 16 rfl rfl)
theorem dX8_readStream_65 : decode cX8_readStream 65 = .ok (.aload_n 0, 1) := dk_42 (dk_at dksX8_readStream_2 17 rfl rfl)
theorem dX8_readStream_66 : decode cX8_readStream 66 = .ok (.invokevirtual 161, 3) := dk_182 0 161 (dk_at dksX8_readStream_2 18 rfl rfl)
theorem dX8_readStream_69 : decode cX8_readStream 69 = .ok (.ifCond .ne 4, 3) := dk_154 0 4 (dk_at dksX8_readStream_2 21 rfl rfl)
theorem dX8_readStream_72 : decode cX8_readStream 72 = .ok (.return_, 1) := dk_177 (dk_at dksX8_readStream_3 0 rfl rfl)
theorem dX8_readStream_73 : decode cX8_readStream 73 = .ok (.aload_n 0, 1) := dk_42 (dk_at dksX8_readStream_3 1 rfl rfl)
theorem dX8_readStream_74 : decode cX8_readStream 74 = .ok (.getfield 43, 3) := dk_180 0 43 (dk_at dksX8_readStream_3 2 rfl rfl)
theorem dX8_readStream_77 : decode cX8_readStream 77 = .ok (.iload_n 1, 1) := dk_27 (dk_at dksX8_readStream_3 5 rfl rfl)
theorem dX8_readStream_78 : decode cX8_readStream 78 = .ok (.iconst 1, 1) := dk_4 (dk_at dksX8_readStream_3 6 rfl rfl)
theorem dX8_readStream_79 : decode cX8_readStream 79 = .ok (.bastore, 1) := dk_84 (dk_at dksX8_readStream_3 7 rfl rfl)
theorem dX8_readStream_80 : decode cX8_readStream 80 = .ok (.aload_n 0, 1) := dk_42 (dk_at dksX8_readStream_3 8 rfl rfl)
theorem dX8_readStream_81 : decode cX8_readStream 81 = .ok (.getfield 37, 3) := dk_180 0 37 (dk_at dksX8_readStream_3 9 rfl rfl)
theorem dX8_readStream_84 : decode cX8_readStream 84 = .ok (.bipush 36, 2) := dk_16 36 (dk_at dksX8_readStream_3 12 rfl rfl)
theorem dX8_readStream_86 : decode cX8_readStream 86 = .ok (.iload_n 1, 1) := dk_27 (dk_at dksX8_readStream_3 14 rfl rfl)
theorem dX8_readStream_87 : decode cX8_readStream 87 = .ok (.iadd, 1) := dk_96 (dk_at dksX8_readStream_3 15 rfl rfl)
theorem dX8_readStream_88 : decode cX8_readStream 88 = .ok (.iload_n 2, 1) := dk_28 (dk_at dksX8_readStream_3 16 rfl rfl)
theorem dX8_readStream_89 : decode cX8_readStream 89 = .ok (.iastore, 1) := dk_79 (dk_at dksX8_readStream_3 17 rfl rfl)
theorem dX8_readStream_90 : decode cX8_readStream 90 = .ok (.return_, 1) := dk_177 (dk_at dksX8_readStream_3 18 rfl rfl)
abbrev cX8_readPipe : ByteArray := prog_16_method_36_code
def yX8_readPipe : MethodName := ⟨RX8, "readPipe", "()V"⟩
def dkwX8_readPipe_8 : List UInt8 := [4, 96, 79, 177]
abbrev dktX8_readPipe_8 : List UInt8 := dkwX8_readPipe_8 ++ []
def dkwX8_readPipe_7 : List UInt8 := [21, 5, 5, 96, 21, 4, 79, 42, 180, 0, 37, 21, 5, 6, 96, 4, 79, 42, 180, 0, 37, 5, 92, 46]
abbrev dktX8_readPipe_7 : List UInt8 := dkwX8_readPipe_7 ++ dktX8_readPipe_8
def dkwX8_readPipe_6 : List UInt8 := [21, 5, 16, 12, 28, 104, 27, 96, 79, 42, 180, 0, 37, 21, 5, 4, 96, 29, 79, 42, 180, 0, 37]
abbrev dktX8_readPipe_6 : List UInt8 := dkwX8_readPipe_6 ++ dktX8_readPipe_7
def dkwX8_readPipe_5 : List UInt8 := [154, 0, 4, 177, 17, 2, 112, 16, 6, 42, 180, 0, 37, 5, 46, 104, 96, 54, 5, 42, 180, 0, 37]
abbrev dktX8_readPipe_5 : List UInt8 := dkwX8_readPipe_5 ++ dktX8_readPipe_6
def dkwX8_readPipe_4 : List UInt8 := [18, 238, 17, 254, 112, 182, 0, 212, 62, 42, 18, 200, 3, 16, 60, 182, 0, 202, 54, 4, 42, 182, 0, 161]
abbrev dktX8_readPipe_4 : List UInt8 := dkwX8_readPipe_4 ++ dktX8_readPipe_5
def dkwX8_readPipe_3 : List UInt8 := [96, 160, 0, 8, 42, 5, 182, 0, 184, 132, 2, 1, 167, 255, 213, 42, 3, 16, 11, 182, 0, 192, 61, 42]
abbrev dktX8_readPipe_3 : List UInt8 := dkwX8_readPipe_3 ++ dktX8_readPipe_4
def dkwX8_readPipe_2 : List UInt8 := [162, 0, 39, 42, 180, 0, 37, 17, 2, 112, 16, 6, 28, 104, 96, 46, 16, 12, 42, 180, 0, 149, 104, 27]
abbrev dktX8_readPipe_2 : List UInt8 := dkwX8_readPipe_2 ++ dktX8_readPipe_3
def dkwX8_readPipe_1 : List UInt8 := [180, 0, 149, 133, 9, 20, 0, 114, 184, 0, 110, 153, 0, 51, 3, 61, 28, 42, 180, 0, 37, 5, 46]
abbrev dktX8_readPipe_1 : List UInt8 := dkwX8_readPipe_1 ++ dktX8_readPipe_2
def dkwX8_readPipe_0 : List UInt8 := [42, 3, 16, 11, 182, 0, 192, 60, 42, 182, 0, 161, 153, 0, 74, 42, 180, 0, 138, 5, 160, 0, 66, 42]
abbrev dktX8_readPipe_0 : List UInt8 := dkwX8_readPipe_0 ++ dktX8_readPipe_1
theorem dksX8_readPipe_0 : cX8_readPipe.data.toList.drop 0 = dktX8_readPipe_0 := by decide +kernel
theorem dksX8_readPipe_1 : cX8_readPipe.data.toList.drop 24 = dktX8_readPipe_1 := dk_seg dksX8_readPipe_0 24 rfl rfl
theorem dksX8_readPipe_2 : cX8_readPipe.data.toList.drop 47 = dktX8_readPipe_2 := dk_seg dksX8_readPipe_1 23 rfl rfl
theorem dksX8_readPipe_3 : cX8_readPipe.data.toList.drop 71 = dktX8_readPipe_3 := dk_seg dksX8_readPipe_2 24 rfl rfl
theorem dksX8_readPipe_4 : cX8_readPipe.data.toList.drop 95 = dktX8_readPipe_4 := dk_seg dksX8_readPipe_3 24 rfl rfl
theorem dksX8_readPipe_5 : cX8_readPipe.data.toList.drop 119 = dktX8_readPipe_5 := dk_seg dksX8_readPipe_4 24 rfl rfl
theorem dksX8_readPipe_6 : cX8_readPipe.data.toList.drop 142 = dktX8_readPipe_6 := dk_seg dksX8_readPipe_5 23 rfl rfl
theorem dksX8_readPipe_7 : cX8_readPipe.data.toList.drop 165 = dktX8_readPipe_7 := dk_seg dksX8_readPipe_6 23 rfl rfl
theorem dksX8_readPipe_8 : cX8_readPipe.data.toList.drop 189 = dktX8_readPipe_8 := dk_seg dksX8_readPipe_7 24 rfl rfl
theorem dX8_readPipe_0 : decode cX8_readPipe 0 = .ok (.aload_n 0, 1) := dk_42 (dk_at dksX8_readPipe_0 0 rfl rfl)
theorem dX8_readPipe_1 : decode cX8_readPipe 1 = .ok (.iconst 0, 1) := dk_3 (dk_at dksX8_readPipe_0 1 rfl rfl)
theorem dX8_readPipe_2 : decode cX8_readPipe 2 = .ok (.bipush 11, 2) := dk_16 11 (dk_at dksX8_readPipe_0 2 rfl rfl)
theorem dX8_readPipe_4 : decode cX8_readPipe 4 = .ok (.invokevirtual 192, 3) := dk_182 0 192 (dk_at dksX8_readPipe_0 4 rfl rfl)
theorem dX8_readPipe_7 : decode cX8_readPipe 7 = .ok (.istore_n 1, 1) := dk_60 (dk_at dksX8_readPipe_0 7 rfl rfl)
theorem dX8_readPipe_8 : decode cX8_readPipe 8 = .ok (.aload_n 0, 1) := dk_42 (dk_at dksX8_readPipe_0 8 rfl rfl)
theorem dX8_readPipe_9 : decode cX8_readPipe 9 = .ok (.invokevirtual 161, 3) := dk_182 0 161 (dk_at dksX8_readPipe_0 9 rfl rfl)
theorem dX8_readPipe_12 : decode cX8_readPipe 12 = .ok (.ifCond .eq 74, 3) := dk_153 0 74 (dk_at dksX8_readPipe_0 12 rfl rfl)
theorem dX8_readPipe_15 : decode cX8_readPipe 15 = .ok (.aload_n 0, 1) := dk_42 (dk_at dksX8_readPipe_0 15 rfl rfl)
theorem dX8_readPipe_16 : decode cX8_readPipe 16 = .ok (.getfield 138, 3) := dk_180 0 138 (dk_at dksX8_readPipe_0 16 rfl rfl)
theorem dX8_readPipe_19 : decode cX8_readPipe 19 = .ok (.iconst 2, 1) := dk_5 (dk_at dksX8_readPipe_0 19 rfl rfl)
theorem dX8_readPipe_20 : decode cX8_readPipe 20 = .ok (.if_icmp .ne 66, 3) := dk_160 0 66 (dk_at dksX8_readPipe_0 20 rfl rfl)
theorem dX8_readPipe_23 : decode cX8_readPipe 23 = .ok (.aload_n 0, 1) := dk_42 (dk_at dksX8_readPipe_0 23 rfl rfl)
theorem dX8_readPipe_24 : decode cX8_readPipe 24 = .ok (.getfield 149, 3) := dk_180 0 149 (dk_at dksX8_readPipe_1 0 rfl rfl)
theorem dX8_readPipe_27 : decode cX8_readPipe 27 = .ok (.i2l, 1) := dk_133 (dk_at dksX8_readPipe_1 3 rfl rfl)
theorem dX8_readPipe_28 : decode cX8_readPipe 28 = .ok (.lconst 0, 1) := dk_9 (dk_at dksX8_readPipe_1 4 rfl rfl)
theorem dX8_readPipe_29 : decode cX8_readPipe 29 = .ok (.ldc2_w 114, 3) := dk_20 0 114 (dk_at dksX8_readPipe_1 5 rfl rfl)
theorem dX8_readPipe_32 : decode cX8_readPipe 32 = .ok (.invokestatic 110, 3) := dk_184 0 110 (dk_at dksX8_readPipe_1 8 rfl rfl)
theorem dX8_readPipe_35 : decode cX8_readPipe 35 = .ok (.ifCond .eq 51, 3) := dk_153 0 51 (dk_at dksX8_readPipe_1 11 rfl rfl)
theorem dX8_readPipe_38 : decode cX8_readPipe 38 = .ok (.iconst 0, 1) := dk_3 (dk_at dksX8_readPipe_1 14 rfl rfl)
theorem dX8_readPipe_39 : decode cX8_readPipe 39 = .ok (.istore_n 2, 1) := dk_61 (dk_at dksX8_readPipe_1 15 rfl rfl)
theorem dX8_readPipe_40 : decode cX8_readPipe 40 = .ok (.iload_n 2, 1) := dk_28 (dk_at dksX8_readPipe_1 16 rfl rfl)
theorem dX8_readPipe_41 : decode cX8_readPipe 41 = .ok (.aload_n 0, 1) := dk_42 (dk_at dksX8_readPipe_1 17 rfl rfl)
theorem dX8_readPipe_42 : decode cX8_readPipe 42 = .ok (.getfield 37, 3) := dk_180 0 37 (dk_at dksX8_readPipe_1 18 rfl rfl)
theorem dX8_readPipe_45 : decode cX8_readPipe 45 = .ok (.iconst 2, 1) := dk_5 (dk_at dksX8_readPipe_1 21 rfl rfl)
theorem dX8_readPipe_46 : decode cX8_readPipe 46 = .ok (.iaload, 1) := dk_46 (dk_at dksX8_readPipe_1 22 rfl rfl)
theorem dX8_readPipe_47 : decode cX8_readPipe 47 = .ok (.if_icmp .ge 39, 3) := dk_162 0 39 (dk_at dksX8_readPipe_2 0 rfl rfl)
theorem dX8_readPipe_50 : decode cX8_readPipe 50 = .ok (.aload_n 0, 1) := dk_42 (dk_at dksX8_readPipe_2 3 rfl rfl)
theorem dX8_readPipe_51 : decode cX8_readPipe 51 = .ok (.getfield 37, 3) := dk_180 0 37 (dk_at dksX8_readPipe_2 4 rfl rfl)
theorem dX8_readPipe_54 : decode cX8_readPipe 54 = .ok (.sipush 624, 3) := dk_17 2 112 (dk_at dksX8_readPipe_2 7 rfl rfl)
theorem dX8_readPipe_57 : decode cX8_readPipe 57 = .ok (.bipush 6, 2) := dk_16 6 (dk_at dksX8_readPipe_2 10 rfl rfl)
theorem dX8_readPipe_59 : decode cX8_readPipe 59 = .ok (.iload_n 2, 1) := dk_28 (dk_at dksX8_readPipe_2 12 rfl rfl)
theorem dX8_readPipe_60 : decode cX8_readPipe 60 = .ok (.imul, 1) := dk_104 (dk_at dksX8_readPipe_2 13 rfl rfl)
theorem dX8_readPipe_61 : decode cX8_readPipe 61 = .ok (.iadd, 1) := dk_96 (dk_at dksX8_readPipe_2 14 rfl rfl)
theorem dX8_readPipe_62 : decode cX8_readPipe 62 = .ok (.iaload, 1) := dk_46 (dk_at dksX8_readPipe_2 15 rfl rfl)
theorem dX8_readPipe_63 : decode cX8_readPipe 63 = .ok (.bipush 12, 2) := dk_16 12 (dk_at dksX8_readPipe_2 16 rfl rfl)
theorem dX8_readPipe_65 : decode cX8_readPipe 65 = .ok (.aload_n 0, 1) := dk_42 (dk_at dksX8_readPipe_2 18 rfl rfl)
theorem dX8_readPipe_66 : decode cX8_readPipe 66 = .ok (.getfield 149, 3) := dk_180 0 149 (dk_at dksX8_readPipe_2 19 rfl rfl)
theorem dX8_readPipe_69 : decode cX8_readPipe 69 = .ok (.imul, 1) := dk_104 (dk_at dksX8_readPipe_2 22 rfl rfl)
theorem dX8_readPipe_70 : decode cX8_readPipe 70 = .ok (.iload_n 1, 1) := dk_27 (dk_at dksX8_readPipe_2 23 rfl rfl)
theorem dX8_readPipe_71 : decode cX8_readPipe 71 = .ok (.iadd, 1) := dk_96 (dk_at dksX8_readPipe_3 0 rfl rfl)
theorem dX8_readPipe_72 : decode cX8_readPipe 72 = .ok (.if_icmp .ne 8, 3) := dk_160 0 8 (dk_at dksX8_readPipe_3 1 rfl rfl)
theorem dX8_readPipe_75 : decode cX8_readPipe 75 = .ok (.aload_n 0, 1) := dk_42 (dk_at dksX8_readPipe_3 4 rfl rfl)
theorem dX8_readPipe_76 : decode cX8_readPipe 76 = .ok (.iconst 2, 1) := dk_5 (dk_at dksX8_readPipe_3 5 rfl rfl)
theorem dX8_readPipe_77 : decode cX8_readPipe 77 = .ok (.invokevirtual 184, 3) := dk_182 0 184 (dk_at dksX8_readPipe_3 6 rfl rfl)
theorem dX8_readPipe_80 : decode cX8_readPipe 80 = .ok (.iinc 2 1, 3) := dk_132 2 1 (dk_at dksX8_readPipe_3 9 rfl rfl)
theorem dX8_readPipe_83 : decode cX8_readPipe 83 = .ok (.goto (-43), 3) := dk_167 255 213 (dk_at dksX8_readPipe_3 12 rfl rfl)
theorem dX8_readPipe_86 : decode cX8_readPipe 86 = .ok (.aload_n 0, 1) := dk_42 (dk_at dksX8_readPipe_3 15 rfl rfl)
theorem dX8_readPipe_87 : decode cX8_readPipe 87 = .ok (.iconst 0, 1) := dk_3 (dk_at dksX8_readPipe_3 16 rfl rfl)
theorem dX8_readPipe_88 : decode cX8_readPipe 88 = .ok (.bipush 11, 2) := dk_16 11 (dk_at dksX8_readPipe_3 17 rfl rfl)
theorem dX8_readPipe_90 : decode cX8_readPipe 90 = .ok (.invokevirtual 192, 3) := dk_182 0 192 (dk_at dksX8_readPipe_3 19 rfl rfl)
theorem dX8_readPipe_93 : decode cX8_readPipe 93 = .ok (.istore_n 2, 1) := dk_61 (dk_at dksX8_readPipe_3 22 rfl rfl)
theorem dX8_readPipe_94 : decode cX8_readPipe 94 = .ok (.aload_n 0, 1) := dk_42 (dk_at dksX8_readPipe_3 23 rfl rfl)
theorem dX8_readPipe_95 : decode cX8_readPipe 95 = .ok (.ldc 238, 2) := dk_18 238 (dk_at dksX8_readPipe_4 0 rfl rfl)
theorem dX8_readPipe_97 : decode cX8_readPipe 97 = .ok (.sipush (-400), 3) := dk_17 254 112 (dk_at dksX8_readPipe_4 2 rfl rfl)
theorem dX8_readPipe_100 : decode cX8_readPipe 100 = .ok (.invokevirtual 212, 3) := dk_182 0 212 (dk_at dksX8_readPipe_4 5 rfl rfl)
theorem dX8_readPipe_103 : decode cX8_readPipe 103 = .ok (.istore_n 3, 1) := dk_62 (dk_at dksX8_readPipe_4 8 rfl rfl)
theorem dX8_readPipe_104 : decode cX8_readPipe 104 = .ok (.aload_n 0, 1) := dk_42 (dk_at dksX8_readPipe_4 9 rfl rfl)
theorem dX8_readPipe_105 : decode cX8_readPipe 105 = .ok (.ldc 200, 2) := dk_18 200 (dk_at dksX8_readPipe_4 10 rfl rfl)
theorem dX8_readPipe_107 : decode cX8_readPipe 107 = .ok (.iconst 0, 1) := dk_3 (dk_at dksX8_readPipe_4 12 rfl rfl)
theorem dX8_readPipe_108 : decode cX8_readPipe 108 = .ok (.bipush 60, 2) := dk_16 60 (dk_at dksX8_readPipe_4 13 rfl rfl)
theorem dX8_readPipe_110 : decode cX8_readPipe 110 = .ok (.invokevirtual 202, 3) := dk_182 0 202 (dk_at dksX8_readPipe_4 15 rfl rfl)
theorem dX8_readPipe_113 : decode cX8_readPipe 113 = .ok (.istore 4, 2) := dk_54 4 (dk_at dksX8_readPipe_4 18 rfl rfl)
theorem dX8_readPipe_115 : decode cX8_readPipe 115 = .ok (.aload_n 0, 1) := dk_42 (dk_at dksX8_readPipe_4 20 rfl rfl)
theorem dX8_readPipe_116 : decode cX8_readPipe 116 = .ok (.invokevirtual 161, 3) := dk_182 0 161 (dk_at dksX8_readPipe_4 21 rfl rfl)
theorem dX8_readPipe_119 : decode cX8_readPipe 119 = .ok (.ifCond .ne 4, 3) := dk_154 0 4 (dk_at dksX8_readPipe_5 0 rfl rfl)
theorem dX8_readPipe_122 : decode cX8_readPipe 122 = .ok (.return_, 1) := dk_177 (dk_at dksX8_readPipe_5 3 rfl rfl)
theorem dX8_readPipe_123 : decode cX8_readPipe 123 = .ok (.sipush 624, 3) := dk_17 2 112 (dk_at dksX8_readPipe_5 4 rfl rfl)
theorem dX8_readPipe_126 : decode cX8_readPipe 126 = .ok (.bipush 6, 2) := dk_16 6 (dk_at dksX8_readPipe_5 7 rfl rfl)
theorem dX8_readPipe_128 : decode cX8_readPipe 128 = .ok (.aload_n 0, 1) := dk_42 (dk_at dksX8_readPipe_5 9 rfl rfl)
theorem dX8_readPipe_129 : decode cX8_readPipe 129 = .ok (.getfield 37, 3) := dk_180 0 37 (dk_at dksX8_readPipe_5 10 rfl rfl)
theorem dX8_readPipe_132 : decode cX8_readPipe 132 = .ok (.iconst 2, 1) := dk_5 (dk_at dksX8_readPipe_5 13 rfl rfl)
theorem dX8_readPipe_133 : decode cX8_readPipe 133 = .ok (.iaload, 1) := dk_46 (dk_at dksX8_readPipe_5 14 rfl rfl)
theorem dX8_readPipe_134 : decode cX8_readPipe 134 = .ok (.imul, 1) := dk_104 (dk_at dksX8_readPipe_5 15 rfl rfl)
theorem dX8_readPipe_135 : decode cX8_readPipe 135 = .ok (.iadd, 1) := dk_96 (dk_at dksX8_readPipe_5 16 rfl rfl)
theorem dX8_readPipe_136 : decode cX8_readPipe 136 = .ok (.istore 5, 2) := dk_54 5 (dk_at dksX8_readPipe_5 17 rfl rfl)
theorem dX8_readPipe_138 : decode cX8_readPipe 138 = .ok (.aload_n 0, 1) := dk_42 (dk_at dksX8_readPipe_5 19 rfl rfl)
theorem dX8_readPipe_139 : decode cX8_readPipe 139 = .ok (.getfield 37, 3) := dk_180 0 37 (dk_at dksX8_readPipe_5 20 rfl rfl)
theorem dX8_readPipe_142 : decode cX8_readPipe 142 = .ok (.iload 5, 2) := dk_21 5 (dk_at dksX8_readPipe_6 0 rfl rfl)
theorem dX8_readPipe_144 : decode cX8_readPipe 144 = .ok (.bipush 12, 2) := dk_16 12 (dk_at dksX8_readPipe_6 2 rfl rfl)
theorem dX8_readPipe_146 : decode cX8_readPipe 146 = .ok (.iload_n 2, 1) := dk_28 (dk_at dksX8_readPipe_6 4 rfl rfl)
theorem dX8_readPipe_147 : decode cX8_readPipe 147 = .ok (.imul, 1) := dk_104 (dk_at dksX8_readPipe_6 5 rfl rfl)
theorem dX8_readPipe_148 : decode cX8_readPipe 148 = .ok (.iload_n 1, 1) := dk_27 (dk_at dksX8_readPipe_6 6 rfl rfl)
theorem dX8_readPipe_149 : decode cX8_readPipe 149 = .ok (.iadd, 1) := dk_96 (dk_at dksX8_readPipe_6 7 rfl rfl)
theorem dX8_readPipe_150 : decode cX8_readPipe 150 = .ok (.iastore, 1) := dk_79 (dk_at dksX8_readPipe_6 8 rfl rfl)
theorem dX8_readPipe_151 : decode cX8_readPipe 151 = .ok (.aload_n 0, 1) := dk_42 (dk_at dksX8_readPipe_6 9 rfl rfl)
theorem dX8_readPipe_152 : decode cX8_readPipe 152 = .ok (.getfield 37, 3) := dk_180 0 37 (dk_at dksX8_readPipe_6 10 rfl rfl)
theorem dX8_readPipe_155 : decode cX8_readPipe 155 = .ok (.iload 5, 2) := dk_21 5 (dk_at dksX8_readPipe_6 13 rfl rfl)
theorem dX8_readPipe_157 : decode cX8_readPipe 157 = .ok (.iconst 1, 1) := dk_4 (dk_at dksX8_readPipe_6 15 rfl rfl)
theorem dX8_readPipe_158 : decode cX8_readPipe 158 = .ok (.iadd, 1) := dk_96 (dk_at dksX8_readPipe_6 16 rfl rfl)
theorem dX8_readPipe_159 : decode cX8_readPipe 159 = .ok (.iload_n 3, 1) := dk_29 (dk_at dksX8_readPipe_6 17 rfl rfl)
theorem dX8_readPipe_160 : decode cX8_readPipe 160 = .ok (.iastore, 1) := dk_79 (dk_at dksX8_readPipe_6 18 rfl rfl)
theorem dX8_readPipe_161 : decode cX8_readPipe 161 = .ok (.aload_n 0, 1) := dk_42 (dk_at dksX8_readPipe_6 19 rfl rfl)
theorem dX8_readPipe_162 : decode cX8_readPipe 162 = .ok (.getfield 37, 3) := dk_180 0 37 (dk_at dksX8_readPipe_6 20 rfl rfl)
theorem dX8_readPipe_165 : decode cX8_readPipe 165 = .ok (.iload 5, 2) := dk_21 5 (dk_at dksX8_readPipe_7 0 rfl rfl)
theorem dX8_readPipe_167 : decode cX8_readPipe 167 = .ok (.iconst 2, 1) := dk_5 (dk_at dksX8_readPipe_7 2 rfl rfl)
theorem dX8_readPipe_168 : decode cX8_readPipe 168 = .ok (.iadd, 1) := dk_96 (dk_at dksX8_readPipe_7 3 rfl rfl)
theorem dX8_readPipe_169 : decode cX8_readPipe 169 = .ok (.iload 4, 2) := dk_21 4 (dk_at dksX8_readPipe_7 4 rfl rfl)
theorem dX8_readPipe_171 : decode cX8_readPipe 171 = .ok (.iastore, 1) := dk_79 (dk_at dksX8_readPipe_7 6 rfl rfl)
theorem dX8_readPipe_172 : decode cX8_readPipe 172 = .ok (.aload_n 0, 1) := dk_42 (dk_at dksX8_readPipe_7 7 rfl rfl)
theorem dX8_readPipe_173 : decode cX8_readPipe 173 = .ok (.getfield 37, 3) := dk_180 0 37 (dk_at dksX8_readPipe_7 8 rfl rfl)
theorem dX8_readPipe_176 : decode cX8_readPipe 176 = .ok (.iload 5, 2) := dk_21 5 (dk_at dksX8_readPipe_7 11 rfl rfl)
theorem dX8_readPipe_178 : decode cX8_readPipe 178 = .ok (.iconst 3, 1) := dk_6 (dk_at dksX8_readPipe_7 13 rfl rfl)
theorem dX8_readPipe_179 : decode cX8_readPipe 179 = .ok (.iadd, 1) := dk_96 (dk_at dksX8_readPipe_7 14 rfl rfl)
theorem dX8_readPipe_180 : decode cX8_readPipe 180 = .ok (.iconst 1, 1) := dk_4 (dk_at dksX8_readPipe_7 15 rfl rfl)
theorem dX8_readPipe_181 : decode cX8_readPipe 181 = .ok (.iastore, 1) := dk_79 (dk_at dksX8_readPipe_7 16 rfl rfl)
theorem dX8_readPipe_182 : decode cX8_readPipe 182 = .ok (.aload_n 0, 1) := dk_42 (dk_at dksX8_readPipe_7 17 rfl rfl)
theorem dX8_readPipe_183 : decode cX8_readPipe 183 = .ok (.getfield 37, 3) := dk_180 0 37 (dk_at dksX8_readPipe_7 18 rfl rfl)
theorem dX8_readPipe_186 : decode cX8_readPipe 186 = .ok (.iconst 2, 1) := dk_5 (dk_at dksX8_readPipe_7 21 rfl rfl)
theorem dX8_readPipe_187 : decode cX8_readPipe 187 = .ok (.dup2, 1) := dk_92 (dk_at dksX8_readPipe_7 22 rfl rfl)
theorem dX8_readPipe_188 : decode cX8_readPipe 188 = .ok (.iaload, 1) := dk_46 (dk_at dksX8_readPipe_7 23 rfl rfl)
theorem dX8_readPipe_189 : decode cX8_readPipe 189 = .ok (.iconst 1, 1) := dk_4 (dk_at dksX8_readPipe_8 0 rfl rfl)
theorem dX8_readPipe_190 : decode cX8_readPipe 190 = .ok (.iadd, 1) := dk_96 (dk_at dksX8_readPipe_8 1 rfl rfl)
theorem dX8_readPipe_191 : decode cX8_readPipe 191 = .ok (.iastore, 1) := dk_79 (dk_at dksX8_readPipe_8 2 rfl rfl)
theorem dX8_readPipe_192 : decode cX8_readPipe 192 = .ok (.return_, 1) := dk_177 (dk_at dksX8_readPipe_8 3 rfl rfl)
abbrev cX8_readRule : ByteArray := prog_16_method_39_code
def yX8_readRule : MethodName := ⟨RX8, "readRule", "()V"⟩
def dkwX8_readRule_2 : List UInt8 := [167, 255, 232, 42, 182, 0, 161, 153, 0, 13, 42, 180, 0, 37, 7, 92, 46, 4, 96, 79, 177]
abbrev dktX8_readRule_2 : List UInt8 := dkwX8_readRule_2 ++ []
def dkwX8_readRule_1 : List UInt8 := [153, 0, 26, 42, 182, 0, 161, 153, 0, 19, 42, 27, 182, 0, 254, 42, 19, 1, 1, 182, 0, 181, 61]
abbrev dktX8_readRule_1 : List UInt8 := dkwX8_readRule_1 ++ dktX8_readRule_2
def dkwX8_readRule_0 : List UInt8 := [42, 18, 252, 182, 0, 188, 17, 2, 238, 16, 10, 42, 180, 0, 37, 7, 46, 104, 96, 60, 4, 61, 28]
abbrev dktX8_readRule_0 : List UInt8 := dkwX8_readRule_0 ++ dktX8_readRule_1
theorem dksX8_readRule_0 : cX8_readRule.data.toList.drop 0 = dktX8_readRule_0 := by decide +kernel
theorem dksX8_readRule_1 : cX8_readRule.data.toList.drop 23 = dktX8_readRule_1 := dk_seg dksX8_readRule_0 23 rfl rfl
theorem dksX8_readRule_2 : cX8_readRule.data.toList.drop 46 = dktX8_readRule_2 := dk_seg dksX8_readRule_1 23 rfl rfl
theorem dX8_readRule_0 : decode cX8_readRule 0 = .ok (.aload_n 0, 1) := dk_42 (dk_at dksX8_readRule_0 0 rfl rfl)
theorem dX8_readRule_1 : decode cX8_readRule 1 = .ok (.ldc 252, 2) := dk_18 252 (dk_at dksX8_readRule_0 1 rfl rfl)
theorem dX8_readRule_3 : decode cX8_readRule 3 = .ok (.invokevirtual 188, 3) := dk_182 0 188 (dk_at dksX8_readRule_0 3 rfl rfl)
theorem dX8_readRule_6 : decode cX8_readRule 6 = .ok (.sipush 750, 3) := dk_17 2 238 (dk_at dksX8_readRule_0 6 rfl rfl)
theorem dX8_readRule_9 : decode cX8_readRule 9 = .ok (.bipush 10, 2) := dk_16 10 (dk_at dksX8_readRule_0 9 rfl rfl)
theorem dX8_readRule_11 : decode cX8_readRule 11 = .ok (.aload_n 0, 1) := dk_42 (dk_at dksX8_readRule_0 11 rfl rfl)
theorem dX8_readRule_12 : decode cX8_readRule 12 = .ok (.getfield 37, 3) := dk_180 0 37 (dk_at dksX8_readRule_0 12 rfl rfl)
theorem dX8_readRule_15 : decode cX8_readRule 15 = .ok (.iconst 4, 1) := dk_7 (dk_at dksX8_readRule_0 15 rfl rfl)
theorem dX8_readRule_16 : decode cX8_readRule 16 = .ok (.iaload, 1) := dk_46 (dk_at dksX8_readRule_0 16 rfl rfl)
theorem dX8_readRule_17 : decode cX8_readRule 17 = .ok (.imul, 1) := dk_104 (dk_at dksX8_readRule_0 17 rfl rfl)
theorem dX8_readRule_18 : decode cX8_readRule 18 = .ok (.iadd, 1) := dk_96 (dk_at dksX8_readRule_0 18 rfl rfl)
theorem dX8_readRule_19 : decode cX8_readRule 19 = .ok (.istore_n 1, 1) := dk_60 (dk_at dksX8_readRule_0 19 rfl rfl)
theorem dX8_readRule_20 : decode cX8_readRule 20 = .ok (.iconst 1, 1) := dk_4 (dk_at dksX8_readRule_0 20 rfl rfl)
theorem dX8_readRule_21 : decode cX8_readRule 21 = .ok (.istore_n 2, 1) := dk_61 (dk_at dksX8_readRule_0 21 rfl rfl)
theorem dX8_readRule_22 : decode cX8_readRule 22 = .ok (.iload_n 2, 1) := dk_28 (dk_at dksX8_readRule_0 22 rfl rfl)
theorem dX8_readRule_23 : decode cX8_readRule 23 = .ok (.ifCond .eq 26, 3) := dk_153 0 26 (dk_at dksX8_readRule_1 0 rfl rfl)
theorem dX8_readRule_26 : decode cX8_readRule 26 = .ok (.aload_n 0, 1) := dk_42 (dk_at dksX8_readRule_1 3 rfl rfl)
theorem dX8_readRule_27 : decode cX8_readRule 27 = .ok (.invokevirtual 161, 3) := dk_182 0 161 (dk_at dksX8_readRule_1 4 rfl rfl)
theorem dX8_readRule_30 : decode cX8_readRule 30 = .ok (.ifCond .eq 19, 3) := dk_153 0 19 (dk_at dksX8_readRule_1 7 rfl rfl)
theorem dX8_readRule_33 : decode cX8_readRule 33 = .ok (.aload_n 0, 1) := dk_42 (dk_at dksX8_readRule_1 10 rfl rfl)
theorem dX8_readRule_34 : decode cX8_readRule 34 = .ok (.iload_n 1, 1) := dk_27 (dk_at dksX8_readRule_1 11 rfl rfl)
theorem dX8_readRule_35 : decode cX8_readRule 35 = .ok (.invokevirtual 254, 3) := dk_182 0 254 (dk_at dksX8_readRule_1 12 rfl rfl)
theorem dX8_readRule_38 : decode cX8_readRule 38 = .ok (.aload_n 0, 1) := dk_42 (dk_at dksX8_readRule_1 15 rfl rfl)
theorem dX8_readRule_39 : decode cX8_readRule 39 = .ok (.ldc_w 257, 3) := dk_19 1 1 (dk_at dksX8_readRule_1 16 rfl rfl)
theorem dX8_readRule_42 : decode cX8_readRule 42 = .ok (.invokevirtual 181, 3) := dk_182 0 181 (dk_at dksX8_readRule_1 19 rfl rfl)
theorem dX8_readRule_45 : decode cX8_readRule 45 = .ok (.istore_n 2, 1) := dk_61 (dk_at dksX8_readRule_1 22 rfl rfl)
theorem dX8_readRule_46 : decode cX8_readRule 46 = .ok (.goto (-24), 3) := dk_167 255 232 (dk_at dksX8_readRule_2 0 rfl rfl)
theorem dX8_readRule_49 : decode cX8_readRule 49 = .ok (.aload_n 0, 1) := dk_42 (dk_at dksX8_readRule_2 3 rfl rfl)
theorem dX8_readRule_50 : decode cX8_readRule 50 = .ok (.invokevirtual 161, 3) := dk_182 0 161 (dk_at dksX8_readRule_2 4 rfl rfl)
theorem dX8_readRule_53 : decode cX8_readRule 53 = .ok (.ifCond .eq 13, 3) := dk_153 0 13 (dk_at dksX8_readRule_2 7 rfl rfl)
theorem dX8_readRule_56 : decode cX8_readRule 56 = .ok (.aload_n 0, 1) := dk_42 (dk_at dksX8_readRule_2 10 rfl rfl)
theorem dX8_readRule_57 : decode cX8_readRule 57 = .ok (.getfield 37, 3) := dk_180 0 37 (dk_at dksX8_readRule_2 11 rfl rfl)
theorem dX8_readRule_60 : decode cX8_readRule 60 = .ok (.iconst 4, 1) := dk_7 (dk_at dksX8_readRule_2 14 rfl rfl)
theorem dX8_readRule_61 : decode cX8_readRule 61 = .ok (.dup2, 1) := dk_92 (dk_at dksX8_readRule_2 15 rfl rfl)
theorem dX8_readRule_62 : decode cX8_readRule 62 = .ok (.iaload, 1) := dk_46 (dk_at dksX8_readRule_2 16 rfl rfl)
theorem dX8_readRule_63 : decode cX8_readRule 63 = .ok (.iconst 1, 1) := dk_4 (dk_at dksX8_readRule_2 17 rfl rfl)
theorem dX8_readRule_64 : decode cX8_readRule 64 = .ok (.iadd, 1) := dk_96 (dk_at dksX8_readRule_2 18 rfl rfl)
theorem dX8_readRule_65 : decode cX8_readRule 65 = .ok (.iastore, 1) := dk_79 (dk_at dksX8_readRule_2 19 rfl rfl)
theorem dX8_readRule_66 : decode cX8_readRule 66 = .ok (.return_, 1) := dk_177 (dk_at dksX8_readRule_2 20 rfl rfl)
abbrev cX8_readCond : ByteArray := prog_16_method_38_code
def yX8_readCond : MethodName := ⟨RX8, "readCond", "(I)V"⟩
def dkwX8_readCond_5 : List UInt8 := [29, 5, 96, 42, 3, 18, 93, 182, 0, 192, 79, 42, 180, 0, 37, 27, 92, 46, 4, 96, 79, 177]
abbrev dktX8_readCond_5 : List UInt8 := dkwX8_readCond_5 ++ []
def dkwX8_readCond_4 : List UInt8 := [154, 0, 4, 177, 42, 180, 0, 37, 29, 4, 96, 42, 180, 0, 149, 79, 42, 182, 0, 178, 42, 180, 0, 37]
abbrev dktX8_readCond_4 : List UInt8 := dkwX8_readCond_4 ++ dktX8_readCond_5
def dkwX8_readCond_3 : List UInt8 := [182, 0, 195, 154, 0, 17, 42, 16, 62, 182, 0, 195, 154, 0, 8, 42, 4, 182, 0, 184, 42, 182, 0, 161]
abbrev dktX8_readCond_3 : List UInt8 := dkwX8_readCond_3 ++ dktX8_readCond_4
def dkwX8_readCond_2 : List UInt8 := [6, 42, 180, 0, 37, 27, 46, 104, 96, 62, 42, 180, 0, 37, 29, 28, 79, 28, 158, 0, 65, 42, 16, 60]
abbrev dktX8_readCond_2 : List UInt8 := dkwX8_readCond_2 ++ dktX8_readCond_3
def dkwX8_readCond_1 : List UInt8 := [6, 160, 0, 8, 42, 6, 182, 0, 184, 42, 182, 0, 161, 154, 0, 4, 177, 42, 182, 0, 178, 27, 4, 96]
abbrev dktX8_readCond_1 : List UInt8 := dkwX8_readCond_1 ++ dktX8_readCond_2
def dkwX8_readCond_0 : List UInt8 := [42, 182, 0, 249, 61, 28, 2, 160, 0, 11, 42, 4, 182, 0, 184, 167, 0, 18, 42, 180, 0, 37, 27, 46]
abbrev dktX8_readCond_0 : List UInt8 := dkwX8_readCond_0 ++ dktX8_readCond_1
theorem dksX8_readCond_0 : cX8_readCond.data.toList.drop 0 = dktX8_readCond_0 := by decide +kernel
theorem dksX8_readCond_1 : cX8_readCond.data.toList.drop 24 = dktX8_readCond_1 := dk_seg dksX8_readCond_0 24 rfl rfl
theorem dksX8_readCond_2 : cX8_readCond.data.toList.drop 48 = dktX8_readCond_2 := dk_seg dksX8_readCond_1 24 rfl rfl
theorem dksX8_readCond_3 : cX8_readCond.data.toList.drop 72 = dktX8_readCond_3 := dk_seg dksX8_readCond_2 24 rfl rfl
theorem dksX8_readCond_4 : cX8_readCond.data.toList.drop 96 = dktX8_readCond_4 := dk_seg dksX8_readCond_3 24 rfl rfl
theorem dksX8_readCond_5 : cX8_readCond.data.toList.drop 120 = dktX8_readCond_5 := dk_seg dksX8_readCond_4 24 rfl rfl
theorem dX8_readCond_0 : decode cX8_readCond 0 = .ok (.aload_n 0, 1) := dk_42 (dk_at dksX8_readCond_0 0 rfl rfl)
theorem dX8_readCond_1 : decode cX8_readCond 1 = .ok (.invokevirtual 249, 3) := dk_182 0 249 (dk_at dksX8_readCond_0 1 rfl rfl)
theorem dX8_readCond_4 : decode cX8_readCond 4 = .ok (.istore_n 2, 1) := dk_61 (dk_at dksX8_readCond_0 4 rfl rfl)
theorem dX8_readCond_5 : decode cX8_readCond 5 = .ok (.iload_n 2, 1) := dk_28 (dk_at dksX8_readCond_0 5 rfl rfl)
theorem dX8_readCond_6 : decode cX8_readCond 6 = .ok (.iconst (-1), 1) := dk_2 (dk_at dksX8_readCond_0 6 rfl rfl)
theorem dX8_readCond_7 : decode cX8_readCond 7 = .ok (.if_icmp .ne 11, 3) := dk_160 0 11 (dk_at dksX8_readCond_0 7 rfl rfl)
theorem dX8_readCond_10 : decode cX8_readCond 10 = .ok (.aload_n 0, 1) := dk_42 (dk_at dksX8_readCond_0 10 rfl rfl)
theorem dX8_readCond_11 : decode cX8_readCond 11 = .ok (.iconst 1, 1) := dk_4 (dk_at dksX8_readCond_0 11 rfl rfl)
theorem dX8_readCond_12 : decode cX8_readCond 12 = .ok (.invokevirtual 184, 3) := dk_182 0 184 (dk_at dksX8_readCond_0 12 rfl rfl)
theorem dX8_readCond_15 : decode cX8_readCond 15 = .ok (.goto 18, 3) := dk_167 0 18 (dk_at dksX8_readCond_0 15 rfl rfl)
theorem dX8_readCond_18 : decode cX8_readCond 18 = .ok (.aload_n 0, 1) := dk_42 (dk_at dksX8_readCond_0 18 rfl rfl)
theorem dX8_readCond_19 : decode cX8_readCond 19 = .ok (.getfield 37, 3) := dk_180 0 37 (dk_at dksX8_readCond_0 19 rfl rfl)
theorem dX8_readCond_22 : decode cX8_readCond 22 = .ok (.iload_n 1, 1) := dk_27 (dk_at dksX8_readCond_0 22 rfl rfl)
theorem dX8_readCond_23 : decode cX8_readCond 23 = .ok (.iaload, 1) := dk_46 (dk_at dksX8_readCond_0 23 rfl rfl)
theorem dX8_readCond_24 : decode cX8_readCond 24 = .ok (.iconst 3, 1) := dk_6 (dk_at dksX8_readCond_1 0 rfl rfl)
theorem dX8_readCond_25 : decode cX8_readCond 25 = .ok (.if_icmp .ne 8, 3) := dk_160 0 8 (dk_at dksX8_readCond_1 1 rfl rfl)
theorem dX8_readCond_28 : decode cX8_readCond 28 = .ok (.aload_n 0, 1) := dk_42 (dk_at dksX8_readCond_1 4 rfl rfl)
theorem dX8_readCond_29 : decode cX8_readCond 29 = .ok (.iconst 3, 1) := dk_6 (dk_at dksX8_readCond_1 5 rfl rfl)
theorem dX8_readCond_30 : decode cX8_readCond 30 = .ok (.invokevirtual 184, 3) := dk_182 0 184 (dk_at dksX8_readCond_1 6 rfl rfl)
theorem dX8_readCond_33 : decode cX8_readCond 33 = .ok (.aload_n 0, 1) := dk_42 (dk_at dksX8_readCond_1 9 rfl rfl)
theorem dX8_readCond_34 : decode cX8_readCond 34 = .ok (.invokevirtual 161, 3) := dk_182 0 161 (dk_at dksX8_readCond_1 10 rfl rfl)
theorem dX8_readCond_37 : decode cX8_readCond 37 = .ok (.ifCond .ne 4, 3) := dk_154 0 4 (dk_at dksX8_readCond_1 13 rfl rfl)
theorem dX8_readCond_40 : decode cX8_readCond 40 = .ok (.return_, 1) := dk_177 (dk_at dksX8_readCond_1 16 rfl rfl)
theorem dX8_readCond_41 : decode cX8_readCond 41 = .ok (.aload_n 0, 1) := dk_42 (dk_at dksX8_readCond_1 17 rfl rfl)
theorem dX8_readCond_42 : decode cX8_readCond 42 = .ok (.invokevirtual 178, 3) := dk_182 0 178 (dk_at dksX8_readCond_1 18 rfl rfl)
theorem dX8_readCond_45 : decode cX8_readCond 45 = .ok (.iload_n 1, 1) := dk_27 (dk_at dksX8_readCond_1 21 rfl rfl)
theorem dX8_readCond_46 : decode cX8_readCond 46 = .ok (.iconst 1, 1) := dk_4 (dk_at dksX8_readCond_1 22 rfl rfl)
theorem dX8_readCond_47 : decode cX8_readCond 47 = .ok (.iadd, 1) := dk_96 (dk_at dksX8_readCond_1 23 rfl rfl)
theorem dX8_readCond_48 : decode cX8_readCond 48 = .ok (.iconst 3, 1) := dk_6 (dk_at dksX8_readCond_2 0 rfl rfl)
theorem dX8_readCond_49 : decode cX8_readCond 49 = .ok (.aload_n 0, 1) := dk_42 (dk_at dksX8_readCond_2 1 rfl rfl)
theorem dX8_readCond_50 : decode cX8_readCond 50 = .ok (.getfield 37, 3) := dk_180 0 37 (dk_at dksX8_readCond_2 2 rfl rfl)
theorem dX8_readCond_53 : decode cX8_readCond 53 = .ok (.iload_n 1, 1) := dk_27 (dk_at dksX8_readCond_2 5 rfl rfl)
theorem dX8_readCond_54 : decode cX8_readCond 54 = .ok (.iaload, 1) := dk_46 (dk_at dksX8_readCond_2 6 rfl rfl)
theorem dX8_readCond_55 : decode cX8_readCond 55 = .ok (.imul, 1) := dk_104 (dk_at dksX8_readCond_2 7 rfl rfl)
theorem dX8_readCond_56 : decode cX8_readCond 56 = .ok (.iadd, 1) := dk_96 (dk_at dksX8_readCond_2 8 rfl rfl)
theorem dX8_readCond_57 : decode cX8_readCond 57 = .ok (.istore_n 3, 1) := dk_62 (dk_at dksX8_readCond_2 9 rfl rfl)
theorem dX8_readCond_58 : decode cX8_readCond 58 = .ok (.aload_n 0, 1) := dk_42 (dk_at dksX8_readCond_2 10 rfl rfl)
theorem dX8_readCond_59 : decode cX8_readCond 59 = .ok (.getfield 37, 3) := dk_180 0 37 (dk_at dksX8_readCond_2 11 rfl rfl)
theorem dX8_readCond_62 : decode cX8_readCond 62 = .ok (.iload_n 3, 1) := dk_29 (dk_at dksX8_readCond_2 14 rfl rfl)
theorem dX8_readCond_63 : decode cX8_readCond 63 = .ok (.iload_n 2, 1) := dk_28 (dk_at dksX8_readCond_2 15 rfl rfl)
theorem dX8_readCond_64 : decode cX8_readCond 64 = .ok (.iastore, 1) := dk_79 (dk_at dksX8_readCond_2 16 rfl rfl)
theorem dX8_readCond_65 : decode cX8_readCond 65 = .ok (.iload_n 2, 1) := dk_28 (dk_at dksX8_readCond_2 17 rfl rfl)
theorem dX8_readCond_66 : decode cX8_readCond 66 = .ok (.ifCond .le 65, 3) := dk_158 0 65 (dk_at dksX8_readCond_2 18 rfl rfl)
theorem dX8_readCond_69 : decode cX8_readCond 69 = .ok (.aload_n 0, 1) := dk_42 (dk_at dksX8_readCond_2 21 rfl rfl)
theorem dX8_readCond_70 : decode cX8_readCond 70 = .ok (.bipush 60, 2) := dk_16 60 (dk_at dksX8_readCond_2 22 rfl rfl)
theorem dX8_readCond_72 : decode cX8_readCond 72 = .ok (.invokevirtual 195, 3) := dk_182 0 195 (dk_at dksX8_readCond_3 0 rfl rfl)
theorem dX8_readCond_75 : decode cX8_readCond 75 = .ok (.ifCond .ne 17, 3) := dk_154 0 17 (dk_at dksX8_readCond_3 3 rfl rfl)
theorem dX8_readCond_78 : decode cX8_readCond 78 = .ok (.aload_n 0, 1) := dk_42 (dk_at dksX8_readCond_3 6 rfl rfl)
theorem dX8_readCond_79 : decode cX8_readCond 79 = .ok (.bipush 62, 2) := dk_16 62 (dk_at dksX8_readCond_3 7 rfl rfl)
theorem dX8_readCond_81 : decode cX8_readCond 81 = .ok (.invokevirtual 195, 3) := dk_182 0 195 (dk_at dksX8_readCond_3 9 rfl rfl)
theorem dX8_readCond_84 : decode cX8_readCond 84 = .ok (.ifCond .ne 8, 3) := dk_154 0 8 (dk_at dksX8_readCond_3 12 rfl rfl)
theorem dX8_readCond_87 : decode cX8_readCond 87 = .ok (.aload_n 0, 1) := dk_42 (dk_at dksX8_readCond_3 15 rfl rfl)
theorem dX8_readCond_88 : decode cX8_readCond 88 = .ok (.iconst 1, 1) := dk_4 (dk_at dksX8_readCond_3 16 rfl rfl)
theorem dX8_readCond_89 : decode cX8_readCond 89 = .ok (.invokevirtual 184, 3) := dk_182 0 184 (dk_at dksX8_readCond_3 17 rfl rfl)
theorem dX8_readCond_92 : decode cX8_readCond 92 = .ok (.aload_n 0, 1) := dk_42 (dk_at dksX8_readCond_3 20 rfl rfl)
theorem dX8_readCond_93 : decode cX8_readCond 93 = .ok (.invokevirtual 161, 3) := dk_182 0 161 (dk_at dksX8_readCond_3 21 rfl rfl)
theorem dX8_readCond_96 : decode cX8_readCond 96 = .ok (.ifCond .ne 4, 3) := dk_154 0 4 (dk_at dksX8_readCond_4 0 rfl rfl)
theorem dX8_readCond_99 : decode cX8_readCond 99 = .ok (.return_, 1) := dk_177 (dk_at dksX8_readCond_4 3 rfl rfl)
theorem dX8_readCond_100 : decode cX8_readCond 100 = .ok (.aload_n 0, 1) := dk_42 (dk_at dksX8_readCond_4 4 rfl rfl)
theorem dX8_readCond_101 : decode cX8_readCond 101 = .ok (.getfield 37, 3) := dk_180 0 37 (dk_at dksX8_readCond_4 5 rfl rfl)
theorem dX8_readCond_104 : decode cX8_readCond 104 = .ok (.iload_n 3, 1) := dk_29 (dk_at dksX8_readCond_4 8 rfl rfl)
theorem dX8_readCond_105 : decode cX8_readCond 105 = .ok (.iconst 1, 1) := dk_4 (dk_at dksX8_readCond_4 9 rfl rfl)
theorem dX8_readCond_106 : decode cX8_readCond 106 = .ok (.iadd, 1) := dk_96 (dk_at dksX8_readCond_4 10 rfl rfl)
theorem dX8_readCond_107 : decode cX8_readCond 107 = .ok (.aload_n 0, 1) := dk_42 (dk_at dksX8_readCond_4 11 rfl rfl)
theorem dX8_readCond_108 : decode cX8_readCond 108 = .ok (.getfield 149, 3) := dk_180 0 149 (dk_at dksX8_readCond_4 12 rfl rfl)
theorem dX8_readCond_111 : decode cX8_readCond 111 = .ok (.iastore, 1) := dk_79 (dk_at dksX8_readCond_4 15 rfl rfl)
theorem dX8_readCond_112 : decode cX8_readCond 112 = .ok (.aload_n 0, 1) := dk_42 (dk_at dksX8_readCond_4 16 rfl rfl)
theorem dX8_readCond_113 : decode cX8_readCond 113 = .ok (.invokevirtual 178, 3) := dk_182 0 178 (dk_at dksX8_readCond_4 17 rfl rfl)
theorem dX8_readCond_116 : decode cX8_readCond 116 = .ok (.aload_n 0, 1) := dk_42 (dk_at dksX8_readCond_4 20 rfl rfl)
theorem dX8_readCond_117 : decode cX8_readCond 117 = .ok (.getfield 37, 3) := dk_180 0 37 (dk_at dksX8_readCond_4 21 rfl rfl)
theorem dX8_readCond_120 : decode cX8_readCond 120 = .ok (.iload_n 3, 1) := dk_29 (dk_at dksX8_readCond_5 0 rfl rfl)
theorem dX8_readCond_121 : decode cX8_readCond 121 = .ok (.iconst 2, 1) := dk_5 (dk_at dksX8_readCond_5 1 rfl rfl)
theorem dX8_readCond_122 : decode cX8_readCond 122 = .ok (.iadd, 1) := dk_96 (dk_at dksX8_readCond_5 2 rfl rfl)
theorem dX8_readCond_123 : decode cX8_readCond 123 = .ok (.aload_n 0, 1) := dk_42 (dk_at dksX8_readCond_5 3 rfl rfl)
theorem dX8_readCond_124 : decode cX8_readCond 124 = .ok (.iconst 0, 1) := dk_3 (dk_at dksX8_readCond_5 4 rfl rfl)
theorem dX8_readCond_125 : decode cX8_readCond 125 = .ok (.ldc 93, 2) := dk_18 93 (dk_at dksX8_readCond_5 5 rfl rfl)
theorem dX8_readCond_127 : decode cX8_readCond 127 = .ok (.invokevirtual 192, 3) := dk_182 0 192 (dk_at dksX8_readCond_5 7 rfl rfl)
theorem dX8_readCond_130 : decode cX8_readCond 130 = .ok (.iastore, 1) := dk_79 (dk_at dksX8_readCond_5 10 rfl rfl)
theorem dX8_readCond_131 : decode cX8_readCond 131 = .ok (.aload_n 0, 1) := dk_42 (dk_at dksX8_readCond_5 11 rfl rfl)
theorem dX8_readCond_132 : decode cX8_readCond 132 = .ok (.getfield 37, 3) := dk_180 0 37 (dk_at dksX8_readCond_5 12 rfl rfl)
theorem dX8_readCond_135 : decode cX8_readCond 135 = .ok (.iload_n 1, 1) := dk_27 (dk_at dksX8_readCond_5 15 rfl rfl)
theorem dX8_readCond_136 : decode cX8_readCond 136 = .ok (.dup2, 1) := dk_92 (dk_at dksX8_readCond_5 16 rfl rfl)
theorem dX8_readCond_137 : decode cX8_readCond 137 = .ok (.iaload, 1) := dk_46 (dk_at dksX8_readCond_5 17 rfl rfl)
theorem dX8_readCond_138 : decode cX8_readCond 138 = .ok (.iconst 1, 1) := dk_4 (dk_at dksX8_readCond_5 18 rfl rfl)
theorem dX8_readCond_139 : decode cX8_readCond 139 = .ok (.iadd, 1) := dk_96 (dk_at dksX8_readCond_5 19 rfl rfl)
theorem dX8_readCond_140 : decode cX8_readCond 140 = .ok (.iastore, 1) := dk_79 (dk_at dksX8_readCond_5 20 rfl rfl)
theorem dX8_readCond_141 : decode cX8_readCond 141 = .ok (.return_, 1) := dk_177 (dk_at dksX8_readCond_5 21 rfl rfl)
abbrev cX8_wordHere : ByteArray := prog_16_method_37_code
def yX8_wordHere : MethodName := ⟨RX8, "wordHere", "()I"⟩
def dkwX8_wordHere_2 : List UInt8 := [153, 0, 7, 6, 167, 0, 17, 42, 18, 247, 182, 0, 174, 153, 0, 7, 7, 167, 0, 4, 2, 172]
abbrev dktX8_wordHere_2 : List UInt8 := dkwX8_wordHere_2 ++ []
def dkwX8_wordHere_1 : List UInt8 := [167, 0, 43, 42, 18, 243, 182, 0, 174, 153, 0, 7, 5, 167, 0, 30, 42, 18, 245, 182, 0, 174]
abbrev dktX8_wordHere_1 : List UInt8 := dkwX8_wordHere_1 ++ dktX8_wordHere_2
def dkwX8_wordHere_0 : List UInt8 := [42, 18, 239, 182, 0, 174, 153, 0, 7, 3, 167, 0, 56, 42, 18, 241, 182, 0, 174, 153, 0, 7, 4]
abbrev dktX8_wordHere_0 : List UInt8 := dkwX8_wordHere_0 ++ dktX8_wordHere_1
theorem dksX8_wordHere_0 : cX8_wordHere.data.toList.drop 0 = dktX8_wordHere_0 := by decide +kernel
theorem dksX8_wordHere_1 : cX8_wordHere.data.toList.drop 23 = dktX8_wordHere_1 := dk_seg dksX8_wordHere_0 23 rfl rfl
theorem dksX8_wordHere_2 : cX8_wordHere.data.toList.drop 45 = dktX8_wordHere_2 := dk_seg dksX8_wordHere_1 22 rfl rfl
theorem dX8_wordHere_0 : decode cX8_wordHere 0 = .ok (.aload_n 0, 1) := dk_42 (dk_at dksX8_wordHere_0 0 rfl rfl)
theorem dX8_wordHere_1 : decode cX8_wordHere 1 = .ok (.ldc 239, 2) := dk_18 239 (dk_at dksX8_wordHere_0 1 rfl rfl)
theorem dX8_wordHere_3 : decode cX8_wordHere 3 = .ok (.invokevirtual 174, 3) := dk_182 0 174 (dk_at dksX8_wordHere_0 3 rfl rfl)
theorem dX8_wordHere_6 : decode cX8_wordHere 6 = .ok (.ifCond .eq 7, 3) := dk_153 0 7 (dk_at dksX8_wordHere_0 6 rfl rfl)
theorem dX8_wordHere_9 : decode cX8_wordHere 9 = .ok (.iconst 0, 1) := dk_3 (dk_at dksX8_wordHere_0 9 rfl rfl)
theorem dX8_wordHere_10 : decode cX8_wordHere 10 = .ok (.goto 56, 3) := dk_167 0 56 (dk_at dksX8_wordHere_0 10 rfl rfl)
theorem dX8_wordHere_13 : decode cX8_wordHere 13 = .ok (.aload_n 0, 1) := dk_42 (dk_at dksX8_wordHere_0 13 rfl rfl)
theorem dX8_wordHere_14 : decode cX8_wordHere 14 = .ok (.ldc 241, 2) := dk_18 241 (dk_at dksX8_wordHere_0 14 rfl rfl)
theorem dX8_wordHere_16 : decode cX8_wordHere 16 = .ok (.invokevirtual 174, 3) := dk_182 0 174 (dk_at dksX8_wordHere_0 16 rfl rfl)
theorem dX8_wordHere_19 : decode cX8_wordHere 19 = .ok (.ifCond .eq 7, 3) := dk_153 0 7 (dk_at dksX8_wordHere_0 19 rfl rfl)
theorem dX8_wordHere_22 : decode cX8_wordHere 22 = .ok (.iconst 1, 1) := dk_4 (dk_at dksX8_wordHere_0 22 rfl rfl)
theorem dX8_wordHere_23 : decode cX8_wordHere 23 = .ok (.goto 43, 3) := dk_167 0 43 (dk_at dksX8_wordHere_1 0 rfl rfl)
theorem dX8_wordHere_26 : decode cX8_wordHere 26 = .ok (.aload_n 0, 1) := dk_42 (dk_at dksX8_wordHere_1 3 rfl rfl)
theorem dX8_wordHere_27 : decode cX8_wordHere 27 = .ok (.ldc 243, 2) := dk_18 243 (dk_at dksX8_wordHere_1 4 rfl rfl)
theorem dX8_wordHere_29 : decode cX8_wordHere 29 = .ok (.invokevirtual 174, 3) := dk_182 0 174 (dk_at dksX8_wordHere_1 6 rfl rfl)
theorem dX8_wordHere_32 : decode cX8_wordHere 32 = .ok (.ifCond .eq 7, 3) := dk_153 0 7 (dk_at dksX8_wordHere_1 9 rfl rfl)
theorem dX8_wordHere_35 : decode cX8_wordHere 35 = .ok (.iconst 2, 1) := dk_5 (dk_at dksX8_wordHere_1 12 rfl rfl)
theorem dX8_wordHere_36 : decode cX8_wordHere 36 = .ok (.goto 30, 3) := dk_167 0 30 (dk_at dksX8_wordHere_1 13 rfl rfl)
theorem dX8_wordHere_39 : decode cX8_wordHere 39 = .ok (.aload_n 0, 1) := dk_42 (dk_at dksX8_wordHere_1 16 rfl rfl)
theorem dX8_wordHere_40 : decode cX8_wordHere 40 = .ok (.ldc 245, 2) := dk_18 245 (dk_at dksX8_wordHere_1 17 rfl rfl)
theorem dX8_wordHere_42 : decode cX8_wordHere 42 = .ok (.invokevirtual 174, 3) := dk_182 0 174 (dk_at dksX8_wordHere_1 19 rfl rfl)
theorem dX8_wordHere_45 : decode cX8_wordHere 45 = .ok (.ifCond .eq 7, 3) := dk_153 0 7 (dk_at dksX8_wordHere_2 0 rfl rfl)
theorem dX8_wordHere_48 : decode cX8_wordHere 48 = .ok (.iconst 3, 1) := dk_6 (dk_at dksX8_wordHere_2 3 rfl rfl)
theorem dX8_wordHere_49 : decode cX8_wordHere 49 = .ok (.goto 17, 3) := dk_167 0 17 (dk_at dksX8_wordHere_2 4 rfl rfl)
theorem dX8_wordHere_52 : decode cX8_wordHere 52 = .ok (.aload_n 0, 1) := dk_42 (dk_at dksX8_wordHere_2 7 rfl rfl)
theorem dX8_wordHere_53 : decode cX8_wordHere 53 = .ok (.ldc 247, 2) := dk_18 247 (dk_at dksX8_wordHere_2 8 rfl rfl)
theorem dX8_wordHere_55 : decode cX8_wordHere 55 = .ok (.invokevirtual 174, 3) := dk_182 0 174 (dk_at dksX8_wordHere_2 10 rfl rfl)
theorem dX8_wordHere_58 : decode cX8_wordHere 58 = .ok (.ifCond .eq 7, 3) := dk_153 0 7 (dk_at dksX8_wordHere_2 13 rfl rfl)
theorem dX8_wordHere_61 : decode cX8_wordHere 61 = .ok (.iconst 4, 1) := dk_7 (dk_at dksX8_wordHere_2 16 rfl rfl)
theorem dX8_wordHere_62 : decode cX8_wordHere 62 = .ok (.goto 4, 3) := dk_167 0 4 (dk_at dksX8_wordHere_2 17 rfl rfl)
theorem dX8_wordHere_65 : decode cX8_wordHere 65 = .ok (.iconst (-1), 1) := dk_2 (dk_at dksX8_wordHere_2 20 rfl rfl)
theorem dX8_wordHere_66 : decode cX8_wordHere 66 = .ok (.ireturn, 1) := dk_172 (dk_at dksX8_wordHere_2 21 rfl rfl)
abbrev cX8_fault : ByteArray := prog_16_method_42_code
def yX8_fault : MethodName := ⟨RX8, "fault", "(I)I"⟩
def dkwX8_fault_1 : List UInt8 := [172]
abbrev dktX8_fault_1 : List UInt8 := dkwX8_fault_1 ++ []
def dkwX8_fault_0 : List UInt8 := [27, 154, 0, 10, 42, 180, 0, 158, 167, 0, 16, 27, 4, 160, 0, 10, 42, 180, 0, 34, 167, 0, 4, 2]
abbrev dktX8_fault_0 : List UInt8 := dkwX8_fault_0 ++ dktX8_fault_1
theorem dksX8_fault_0 : cX8_fault.data.toList.drop 0 = dktX8_fault_0 := by decide +kernel
theorem dksX8_fault_1 : cX8_fault.data.toList.drop 24 = dktX8_fault_1 := dk_seg dksX8_fault_0 24 rfl rfl
theorem dX8_fault_0 : decode cX8_fault 0 = .ok (.iload_n 1, 1) := dk_27 (dk_at dksX8_fault_0 0 rfl rfl)
theorem dX8_fault_1 : decode cX8_fault 1 = .ok (.ifCond .ne 10, 3) := dk_154 0 10 (dk_at dksX8_fault_0 1 rfl rfl)
theorem dX8_fault_4 : decode cX8_fault 4 = .ok (.aload_n 0, 1) := dk_42 (dk_at dksX8_fault_0 4 rfl rfl)
theorem dX8_fault_5 : decode cX8_fault 5 = .ok (.getfield 158, 3) := dk_180 0 158 (dk_at dksX8_fault_0 5 rfl rfl)
theorem dX8_fault_8 : decode cX8_fault 8 = .ok (.goto 16, 3) := dk_167 0 16 (dk_at dksX8_fault_0 8 rfl rfl)
theorem dX8_fault_11 : decode cX8_fault 11 = .ok (.iload_n 1, 1) := dk_27 (dk_at dksX8_fault_0 11 rfl rfl)
theorem dX8_fault_12 : decode cX8_fault 12 = .ok (.iconst 1, 1) := dk_4 (dk_at dksX8_fault_0 12 rfl rfl)
theorem dX8_fault_13 : decode cX8_fault 13 = .ok (.if_icmp .ne 10, 3) := dk_160 0 10 (dk_at dksX8_fault_0 13 rfl rfl)
theorem dX8_fault_16 : decode cX8_fault 16 = .ok (.aload_n 0, 1) := dk_42 (dk_at dksX8_fault_0 16 rfl rfl)
theorem dX8_fault_17 : decode cX8_fault 17 = .ok (.getfield 34, 3) := dk_180 0 34 (dk_at dksX8_fault_0 17 rfl rfl)
theorem dX8_fault_20 : decode cX8_fault 20 = .ok (.goto 4, 3) := dk_167 0 4 (dk_at dksX8_fault_0 20 rfl rfl)
theorem dX8_fault_23 : decode cX8_fault 23 = .ok (.iconst (-1), 1) := dk_2 (dk_at dksX8_fault_0 23 rfl rfl)
theorem dX8_fault_24 : decode cX8_fault 24 = .ok (.ireturn, 1) := dk_172 (dk_at dksX8_fault_1 0 rfl rfl)
abbrev cX8_tick : ByteArray := prog_16_method_50_code
def yX8_tick : MethodName := ⟨RX8, "tick", "(I)I"⟩
def dkwX8_tick_2 : List UInt8 := [167, 255, 244, 42, 180, 0, 13, 4, 46, 172]
abbrev dktX8_tick_2 : List UInt8 := dkwX8_tick_2 ++ []
def dkwX8_tick_1 : List UInt8 := [17, 7, 208, 164, 0, 6, 16, 253, 172, 3, 61, 28, 27, 162, 0, 13, 42, 182, 1, 83, 132, 2, 1]
abbrev dktX8_tick_1 : List UInt8 := dkwX8_tick_1 ++ dktX8_tick_2
def dkwX8_tick_0 : List UInt8 := [27, 133, 10, 20, 1, 81, 184, 0, 110, 154, 0, 6, 16, 254, 172, 42, 180, 0, 13, 4, 46, 27, 96]
abbrev dktX8_tick_0 : List UInt8 := dkwX8_tick_0 ++ dktX8_tick_1
theorem dksX8_tick_0 : cX8_tick.data.toList.drop 0 = dktX8_tick_0 := by decide +kernel
theorem dksX8_tick_1 : cX8_tick.data.toList.drop 23 = dktX8_tick_1 := dk_seg dksX8_tick_0 23 rfl rfl
theorem dksX8_tick_2 : cX8_tick.data.toList.drop 46 = dktX8_tick_2 := dk_seg dksX8_tick_1 23 rfl rfl
theorem dX8_tick_0 : decode cX8_tick 0 = .ok (.iload_n 1, 1) := dk_27 (dk_at dksX8_tick_0 0 rfl rfl)
theorem dX8_tick_1 : decode cX8_tick 1 = .ok (.i2l, 1) := dk_133 (dk_at dksX8_tick_0 1 rfl rfl)
theorem dX8_tick_2 : decode cX8_tick 2 = .ok (.lconst 1, 1) := dk_10 (dk_at dksX8_tick_0 2 rfl rfl)
theorem dX8_tick_3 : decode cX8_tick 3 = .ok (.ldc2_w 337, 3) := dk_20 1 81 (dk_at dksX8_tick_0 3 rfl rfl)
theorem dX8_tick_6 : decode cX8_tick 6 = .ok (.invokestatic 110, 3) := dk_184 0 110 (dk_at dksX8_tick_0 6 rfl rfl)
theorem dX8_tick_9 : decode cX8_tick 9 = .ok (.ifCond .ne 6, 3) := dk_154 0 6 (dk_at dksX8_tick_0 9 rfl rfl)
theorem dX8_tick_12 : decode cX8_tick 12 = .ok (.bipush (-2), 2) := dk_16 254 (dk_at dksX8_tick_0 12 rfl rfl)
theorem dX8_tick_14 : decode cX8_tick 14 = .ok (.ireturn, 1) := dk_172 (dk_at dksX8_tick_0 14 rfl rfl)
theorem dX8_tick_15 : decode cX8_tick 15 = .ok (.aload_n 0, 1) := dk_42 (dk_at dksX8_tick_0 15 rfl rfl)
theorem dX8_tick_16 : decode cX8_tick 16 = .ok (.getfield 13, 3) := dk_180 0 13 (dk_at dksX8_tick_0 16 rfl rfl)
theorem dX8_tick_19 : decode cX8_tick 19 = .ok (.iconst 1, 1) := dk_4 (dk_at dksX8_tick_0 19 rfl rfl)
theorem dX8_tick_20 : decode cX8_tick 20 = .ok (.iaload, 1) := dk_46 (dk_at dksX8_tick_0 20 rfl rfl)
theorem dX8_tick_21 : decode cX8_tick 21 = .ok (.iload_n 1, 1) := dk_27 (dk_at dksX8_tick_0 21 rfl rfl)
theorem dX8_tick_22 : decode cX8_tick 22 = .ok (.iadd, 1) := dk_96 (dk_at dksX8_tick_0 22 rfl rfl)
theorem dX8_tick_23 : decode cX8_tick 23 = .ok (.sipush 2000, 3) := dk_17 7 208 (dk_at dksX8_tick_1 0 rfl rfl)
theorem dX8_tick_26 : decode cX8_tick 26 = .ok (.if_icmp .le 6, 3) := dk_164 0 6 (dk_at dksX8_tick_1 3 rfl rfl)
theorem dX8_tick_29 : decode cX8_tick 29 = .ok (.bipush (-3), 2) := dk_16 253 (dk_at dksX8_tick_1 6 rfl rfl)
theorem dX8_tick_31 : decode cX8_tick 31 = .ok (.ireturn, 1) := dk_172 (dk_at dksX8_tick_1 8 rfl rfl)
theorem dX8_tick_32 : decode cX8_tick 32 = .ok (.iconst 0, 1) := dk_3 (dk_at dksX8_tick_1 9 rfl rfl)
theorem dX8_tick_33 : decode cX8_tick 33 = .ok (.istore_n 2, 1) := dk_61 (dk_at dksX8_tick_1 10 rfl rfl)
theorem dX8_tick_34 : decode cX8_tick 34 = .ok (.iload_n 2, 1) := dk_28 (dk_at dksX8_tick_1 11 rfl rfl)
theorem dX8_tick_35 : decode cX8_tick 35 = .ok (.iload_n 1, 1) := dk_27 (dk_at dksX8_tick_1 12 rfl rfl)
theorem dX8_tick_36 : decode cX8_tick 36 = .ok (.if_icmp .ge 13, 3) := dk_162 0 13 (dk_at dksX8_tick_1 13 rfl rfl)
theorem dX8_tick_39 : decode cX8_tick 39 = .ok (.aload_n 0, 1) := dk_42 (dk_at dksX8_tick_1 16 rfl rfl)
theorem dX8_tick_40 : decode cX8_tick 40 = .ok (.invokevirtual 339, 3) := dk_182 1 83 (dk_at dksX8_tick_1 17 rfl rfl)
theorem dX8_tick_43 : decode cX8_tick 43 = .ok (.iinc 2 1, 3) := dk_132 2 1 (dk_at dksX8_tick_1 20 rfl rfl)
theorem dX8_tick_46 : decode cX8_tick 46 = .ok (.goto (-12), 3) := dk_167 255 244 (dk_at dksX8_tick_2 0 rfl rfl)
theorem dX8_tick_49 : decode cX8_tick 49 = .ok (.aload_n 0, 1) := dk_42 (dk_at dksX8_tick_2 3 rfl rfl)
theorem dX8_tick_50 : decode cX8_tick 50 = .ok (.getfield 13, 3) := dk_180 0 13 (dk_at dksX8_tick_2 4 rfl rfl)
theorem dX8_tick_53 : decode cX8_tick 53 = .ok (.iconst 1, 1) := dk_4 (dk_at dksX8_tick_2 7 rfl rfl)
theorem dX8_tick_54 : decode cX8_tick 54 = .ok (.iaload, 1) := dk_46 (dk_at dksX8_tick_2 8 rfl rfl)
theorem dX8_tick_55 : decode cX8_tick 55 = .ok (.ireturn, 1) := dk_172 (dk_at dksX8_tick_2 9 rfl rfl)
abbrev cX8_ticks : ByteArray := prog_16_method_48_code
def yX8_ticks : MethodName := ⟨RX8, "ticks", "()V"⟩
def dkwX8_ticks_9 : List UInt8 := [180, 0, 13, 16, 12, 4, 79, 42, 180, 0, 13, 16, 13, 92, 46, 4, 96, 79, 177]
abbrev dktX8_ticks_9 : List UInt8 := dkwX8_ticks_9 ++ []
def dkwX8_ticks_8 : List UInt8 := [180, 0, 13, 16, 12, 46, 154, 0, 36, 42, 182, 1, 75, 153, 0, 29, 42, 182, 1, 78, 154, 0, 22, 42]
abbrev dktX8_ticks_8 : List UInt8 := dkwX8_ticks_8 ++ dktX8_ticks_9
def dkwX8_ticks_7 : List UInt8 := [164, 0, 17, 42, 180, 0, 13, 28, 5, 96, 42, 180, 0, 13, 4, 46, 79, 132, 1, 1, 167, 255, 172, 42]
abbrev dktX8_ticks_7 : List UInt8 := dkwX8_ticks_7 ++ dktX8_ticks_8
def dkwX8_ticks_6 : List UInt8 := [180, 0, 13, 28, 46, 4, 96, 182, 1, 69, 100, 184, 1, 72, 42, 180, 0, 13, 28, 4, 96, 46]
abbrev dktX8_ticks_6 : List UInt8 := dkwX8_ticks_6 ++ dktX8_ticks_7
def dkwX8_ticks_5 : List UInt8 := [42, 180, 0, 13, 28, 5, 96, 46, 2, 160, 0, 54, 42, 42, 180, 0, 13, 28, 46, 182, 1, 69, 42, 42]
abbrev dktX8_ticks_5 : List UInt8 := dkwX8_ticks_5 ++ dktX8_ticks_6
def dkwX8_ticks_4 : List UInt8 := [46, 4, 96, 79, 3, 60, 27, 42, 180, 0, 13, 6, 46, 162, 0, 80, 17, 2, 220, 6, 27, 104, 96, 61]
abbrev dktX8_ticks_4 : List UInt8 := dkwX8_ticks_4 ++ dktX8_ticks_5
def dkwX8_ticks_3 : List UInt8 := [27, 182, 0, 102, 154, 0, 8, 42, 27, 182, 1, 66, 132, 1, 1, 167, 255, 233, 42, 180, 0, 13, 4, 92]
abbrev dktX8_ticks_3 : List UInt8 := dkwX8_ticks_3 ++ dktX8_ticks_4
def dkwX8_ticks_2 : List UInt8 := [27, 182, 1, 60, 132, 1, 1, 167, 255, 225, 42, 182, 1, 63, 3, 60, 27, 17, 0, 144, 162, 0, 22, 42]
abbrev dktX8_ticks_2 : List UInt8 := dkwX8_ticks_2 ++ dktX8_ticks_3
def dkwX8_ticks_1 : List UInt8 := [27, 17, 0, 144, 162, 0, 30, 42, 27, 182, 0, 102, 153, 0, 6, 167, 0, 13, 42, 27, 182, 1, 57, 42]
abbrev dktX8_ticks_1 : List UInt8 := dkwX8_ticks_1 ++ dktX8_ticks_2
def dkwX8_ticks_0 : List UInt8 := [3, 60, 27, 17, 0, 144, 162, 0, 16, 42, 180, 0, 46, 27, 3, 79, 132, 1, 1, 167, 255, 239, 3, 60]
abbrev dktX8_ticks_0 : List UInt8 := dkwX8_ticks_0 ++ dktX8_ticks_1
theorem dksX8_ticks_0 : cX8_ticks.data.toList.drop 0 = dktX8_ticks_0 := by decide +kernel
theorem dksX8_ticks_1 : cX8_ticks.data.toList.drop 24 = dktX8_ticks_1 := dk_seg dksX8_ticks_0 24 rfl rfl
theorem dksX8_ticks_2 : cX8_ticks.data.toList.drop 48 = dktX8_ticks_2 := dk_seg dksX8_ticks_1 24 rfl rfl
theorem dksX8_ticks_3 : cX8_ticks.data.toList.drop 72 = dktX8_ticks_3 := dk_seg dksX8_ticks_2 24 rfl rfl
theorem dksX8_ticks_4 : cX8_ticks.data.toList.drop 96 = dktX8_ticks_4 := dk_seg dksX8_ticks_3 24 rfl rfl
theorem dksX8_ticks_5 : cX8_ticks.data.toList.drop 120 = dktX8_ticks_5 := dk_seg dksX8_ticks_4 24 rfl rfl
theorem dksX8_ticks_6 : cX8_ticks.data.toList.drop 144 = dktX8_ticks_6 := dk_seg dksX8_ticks_5 24 rfl rfl
theorem dksX8_ticks_7 : cX8_ticks.data.toList.drop 166 = dktX8_ticks_7 := dk_seg dksX8_ticks_6 22 rfl rfl
theorem dksX8_ticks_8 : cX8_ticks.data.toList.drop 190 = dktX8_ticks_8 := dk_seg dksX8_ticks_7 24 rfl rfl
theorem dksX8_ticks_9 : cX8_ticks.data.toList.drop 214 = dktX8_ticks_9 := dk_seg dksX8_ticks_8 24 rfl rfl
theorem dX8_ticks_0 : decode cX8_ticks 0 = .ok (.iconst 0, 1) := dk_3 (dk_at dksX8_ticks_0 0 rfl rfl)
theorem dX8_ticks_1 : decode cX8_ticks 1 = .ok (.istore_n 1, 1) := dk_60 (dk_at dksX8_ticks_0 1 rfl rfl)
theorem dX8_ticks_2 : decode cX8_ticks 2 = .ok (.iload_n 1, 1) := dk_27 (dk_at dksX8_ticks_0 2 rfl rfl)
theorem dX8_ticks_3 : decode cX8_ticks 3 = .ok (.sipush 144, 3) := dk_17 0 144 (dk_at dksX8_ticks_0 3 rfl rfl)
theorem dX8_ticks_6 : decode cX8_ticks 6 = .ok (.if_icmp .ge 16, 3) := dk_162 0 16 (dk_at dksX8_ticks_0 6 rfl rfl)
theorem dX8_ticks_9 : decode cX8_ticks 9 = .ok (.aload_n 0, 1) := dk_42 (dk_at dksX8_ticks_0 9 rfl rfl)
theorem dX8_ticks_10 : decode cX8_ticks 10 = .ok (.getfield 46, 3) := dk_180 0 46 (dk_at dksX8_ticks_0 10 rfl rfl)
theorem dX8_ticks_13 : decode cX8_ticks 13 = .ok (.iload_n 1, 1) := dk_27 (dk_at dksX8_ticks_0 13 rfl rfl)
theorem dX8_ticks_14 : decode cX8_ticks 14 = .ok (.iconst 0, 1) := dk_3 (dk_at dksX8_ticks_0 14 rfl rfl)
theorem dX8_ticks_15 : decode cX8_ticks 15 = .ok (.iastore, 1) := dk_79 (dk_at dksX8_ticks_0 15 rfl rfl)
theorem dX8_ticks_16 : decode cX8_ticks 16 = .ok (.iinc 1 1, 3) := dk_132 1 1 (dk_at dksX8_ticks_0 16 rfl rfl)
theorem dX8_ticks_19 : decode cX8_ticks 19 = .ok (.goto (-17), 3) := dk_167 255 239 (dk_at dksX8_ticks_0 19 rfl rfl)
theorem dX8_ticks_22 : decode cX8_ticks 22 = .ok (.iconst 0, 1) := dk_3 (dk_at dksX8_ticks_0 22 rfl rfl)
theorem dX8_ticks_23 : decode cX8_ticks 23 = .ok (.istore_n 1, 1) := dk_60 (dk_at dksX8_ticks_0 23 rfl rfl)
theorem dX8_ticks_24 : decode cX8_ticks 24 = .ok (.iload_n 1, 1) := dk_27 (dk_at dksX8_ticks_1 0 rfl rfl)
theorem dX8_ticks_25 : decode cX8_ticks 25 = .ok (.sipush 144, 3) := dk_17 0 144 (dk_at dksX8_ticks_1 1 rfl rfl)
theorem dX8_ticks_28 : decode cX8_ticks 28 = .ok (.if_icmp .ge 30, 3) := dk_162 0 30 (dk_at dksX8_ticks_1 4 rfl rfl)
theorem dX8_ticks_31 : decode cX8_ticks 31 = .ok (.aload_n 0, 1) := dk_42 (dk_at dksX8_ticks_1 7 rfl rfl)
theorem dX8_ticks_32 : decode cX8_ticks 32 = .ok (.iload_n 1, 1) := dk_27 (dk_at dksX8_ticks_1 8 rfl rfl)
theorem dX8_ticks_33 : decode cX8_ticks 33 = .ok (.invokevirtual 102, 3) := dk_182 0 102 (dk_at dksX8_ticks_1 9 rfl rfl)
theorem dX8_ticks_36 : decode cX8_ticks 36 = .ok (.ifCond .eq 6, 3) := dk_153 0 6 (dk_at dksX8_ticks_1 12 rfl rfl)
theorem dX8_ticks_39 : decode cX8_ticks 39 = .ok (.goto 13, 3) := dk_167 0 13 (dk_at dksX8_ticks_1 15 rfl rfl)
theorem dX8_ticks_42 : decode cX8_ticks 42 = .ok (.aload_n 0, 1) := dk_42 (dk_at dksX8_ticks_1 18 rfl rfl)
theorem dX8_ticks_43 : decode cX8_ticks 43 = .ok (.iload_n 1, 1) := dk_27 (dk_at dksX8_ticks_1 19 rfl rfl)
theorem dX8_ticks_44 : decode cX8_ticks 44 = .ok (.invokevirtual 313, 3) := dk_182 1 57 (dk_at dksX8_ticks_1 20 rfl rfl)
theorem dX8_ticks_47 : decode cX8_ticks 47 = .ok (.aload_n 0, 1) := dk_42 (dk_at dksX8_ticks_1 23 rfl rfl)
theorem dX8_ticks_48 : decode cX8_ticks 48 = .ok (.iload_n 1, 1) := dk_27 (dk_at dksX8_ticks_2 0 rfl rfl)
theorem dX8_ticks_49 : decode cX8_ticks 49 = .ok (.invokevirtual 316, 3) := dk_182 1 60 (dk_at dksX8_ticks_2 1 rfl rfl)
theorem dX8_ticks_52 : decode cX8_ticks 52 = .ok (.iinc 1 1, 3) := dk_132 1 1 (dk_at dksX8_ticks_2 4 rfl rfl)
theorem dX8_ticks_55 : decode cX8_ticks 55 = .ok (.goto (-31), 3) := dk_167 255 225 (dk_at dksX8_ticks_2 7 rfl rfl)
theorem dX8_ticks_58 : decode cX8_ticks 58 = .ok (.aload_n 0, 1) := dk_42 (dk_at dksX8_ticks_2 10 rfl rfl)
theorem dX8_ticks_59 : decode cX8_ticks 59 = .ok (.invokevirtual 319, 3) := dk_182 1 63 (dk_at dksX8_ticks_2 11 rfl rfl)
theorem dX8_ticks_62 : decode cX8_ticks 62 = .ok (.iconst 0, 1) := dk_3 (dk_at dksX8_ticks_2 14 rfl rfl)
theorem dX8_ticks_63 : decode cX8_ticks 63 = .ok (.istore_n 1, 1) := dk_60 (dk_at dksX8_ticks_2 15 rfl rfl)
theorem dX8_ticks_64 : decode cX8_ticks 64 = .ok (.iload_n 1, 1) := dk_27 (dk_at dksX8_ticks_2 16 rfl rfl)
theorem dX8_ticks_65 : decode cX8_ticks 65 = .ok (.sipush 144, 3) := dk_17 0 144 (dk_at dksX8_ticks_2 17 rfl rfl)
theorem dX8_ticks_68 : decode cX8_ticks 68 = .ok (.if_icmp .ge 22, 3) := dk_162 0 22 (dk_at dksX8_ticks_2 20 rfl rfl)
theorem dX8_ticks_71 : decode cX8_ticks 71 = .ok (.aload_n 0, 1) := dk_42 (dk_at dksX8_ticks_2 23 rfl rfl)
theorem dX8_ticks_72 : decode cX8_ticks 72 = .ok (.iload_n 1, 1) := dk_27 (dk_at dksX8_ticks_3 0 rfl rfl)
theorem dX8_ticks_73 : decode cX8_ticks 73 = .ok (.invokevirtual 102, 3) := dk_182 0 102 (dk_at dksX8_ticks_3 1 rfl rfl)
theorem dX8_ticks_76 : decode cX8_ticks 76 = .ok (.ifCond .ne 8, 3) := dk_154 0 8 (dk_at dksX8_ticks_3 4 rfl rfl)
theorem dX8_ticks_79 : decode cX8_ticks 79 = .ok (.aload_n 0, 1) := dk_42 (dk_at dksX8_ticks_3 7 rfl rfl)
theorem dX8_ticks_80 : decode cX8_ticks 80 = .ok (.iload_n 1, 1) := dk_27 (dk_at dksX8_ticks_3 8 rfl rfl)
theorem dX8_ticks_81 : decode cX8_ticks 81 = .ok (.invokevirtual 322, 3) := dk_182 1 66 (dk_at dksX8_ticks_3 9 rfl rfl)
theorem dX8_ticks_84 : decode cX8_ticks 84 = .ok (.iinc 1 1, 3) := dk_132 1 1 (dk_at dksX8_ticks_3 12 rfl rfl)
theorem dX8_ticks_87 : decode cX8_ticks 87 = .ok (.goto (-23), 3) := dk_167 255 233 (dk_at dksX8_ticks_3 15 rfl rfl)
theorem dX8_ticks_90 : decode cX8_ticks 90 = .ok (.aload_n 0, 1) := dk_42 (dk_at dksX8_ticks_3 18 rfl rfl)
theorem dX8_ticks_91 : decode cX8_ticks 91 = .ok (.getfield 13, 3) := dk_180 0 13 (dk_at dksX8_ticks_3 19 rfl rfl)
theorem dX8_ticks_94 : decode cX8_ticks 94 = .ok (.iconst 1, 1) := dk_4 (dk_at dksX8_ticks_3 22 rfl rfl)
theorem dX8_ticks_95 : decode cX8_ticks 95 = .ok (.dup2, 1) := dk_92 (dk_at dksX8_ticks_3 23 rfl rfl)
theorem dX8_ticks_96 : decode cX8_ticks 96 = .ok (.iaload, 1) := dk_46 (dk_at dksX8_ticks_4 0 rfl rfl)
theorem dX8_ticks_97 : decode cX8_ticks 97 = .ok (.iconst 1, 1) := dk_4 (dk_at dksX8_ticks_4 1 rfl rfl)
theorem dX8_ticks_98 : decode cX8_ticks 98 = .ok (.iadd, 1) := dk_96 (dk_at dksX8_ticks_4 2 rfl rfl)
theorem dX8_ticks_99 : decode cX8_ticks 99 = .ok (.iastore, 1) := dk_79 (dk_at dksX8_ticks_4 3 rfl rfl)
theorem dX8_ticks_100 : decode cX8_ticks 100 = .ok (.iconst 0, 1) := dk_3 (dk_at dksX8_ticks_4 4 rfl rfl)
theorem dX8_ticks_101 : decode cX8_ticks 101 = .ok (.istore_n 1, 1) := dk_60 (dk_at dksX8_ticks_4 5 rfl rfl)
theorem dX8_ticks_102 : decode cX8_ticks 102 = .ok (.iload_n 1, 1) := dk_27 (dk_at dksX8_ticks_4 6 rfl rfl)
theorem dX8_ticks_103 : decode cX8_ticks 103 = .ok (.aload_n 0, 1) := dk_42 (dk_at dksX8_ticks_4 7 rfl rfl)
theorem dX8_ticks_104 : decode cX8_ticks 104 = .ok (.getfield 13, 3) := dk_180 0 13 (dk_at dksX8_ticks_4 8 rfl rfl)
theorem dX8_ticks_107 : decode cX8_ticks 107 = .ok (.iconst 3, 1) := dk_6 (dk_at dksX8_ticks_4 11 rfl rfl)
theorem dX8_ticks_108 : decode cX8_ticks 108 = .ok (.iaload, 1) := dk_46 (dk_at dksX8_ticks_4 12 rfl rfl)
theorem dX8_ticks_109 : decode cX8_ticks 109 = .ok (.if_icmp .ge 80, 3) := dk_162 0 80 (dk_at dksX8_ticks_4 13 rfl rfl)
theorem dX8_ticks_112 : decode cX8_ticks 112 = .ok (.sipush 732, 3) := dk_17 2 220 (dk_at dksX8_ticks_4 16 rfl rfl)
theorem dX8_ticks_115 : decode cX8_ticks 115 = .ok (.iconst 3, 1) := dk_6 (dk_at dksX8_ticks_4 19 rfl rfl)
theorem dX8_ticks_116 : decode cX8_ticks 116 = .ok (.iload_n 1, 1) := dk_27 (dk_at dksX8_ticks_4 20 rfl rfl)
theorem dX8_ticks_117 : decode cX8_ticks 117 = .ok (.imul, 1) := dk_104 (dk_at dksX8_ticks_4 21 rfl rfl)
theorem dX8_ticks_118 : decode cX8_ticks 118 = .ok (.iadd, 1) := dk_96 (dk_at dksX8_ticks_4 22 rfl rfl)
theorem dX8_ticks_119 : decode cX8_ticks 119 = .ok (.istore_n 2, 1) := dk_61 (dk_at dksX8_ticks_4 23 rfl rfl)
theorem dX8_ticks_120 : decode cX8_ticks 120 = .ok (.aload_n 0, 1) := dk_42 (dk_at dksX8_ticks_5 0 rfl rfl)
theorem dX8_ticks_121 : decode cX8_ticks 121 = .ok (.getfield 13, 3) := dk_180 0 13 (dk_at dksX8_ticks_5 1 rfl rfl)
theorem dX8_ticks_124 : decode cX8_ticks 124 = .ok (.iload_n 2, 1) := dk_28 (dk_at dksX8_ticks_5 4 rfl rfl)
theorem dX8_ticks_125 : decode cX8_ticks 125 = .ok (.iconst 2, 1) := dk_5 (dk_at dksX8_ticks_5 5 rfl rfl)
theorem dX8_ticks_126 : decode cX8_ticks 126 = .ok (.iadd, 1) := dk_96 (dk_at dksX8_ticks_5 6 rfl rfl)
theorem dX8_ticks_127 : decode cX8_ticks 127 = .ok (.iaload, 1) := dk_46 (dk_at dksX8_ticks_5 7 rfl rfl)
theorem dX8_ticks_128 : decode cX8_ticks 128 = .ok (.iconst (-1), 1) := dk_2 (dk_at dksX8_ticks_5 8 rfl rfl)
theorem dX8_ticks_129 : decode cX8_ticks 129 = .ok (.if_icmp .ne 54, 3) := dk_160 0 54 (dk_at dksX8_ticks_5 9 rfl rfl)
theorem dX8_ticks_132 : decode cX8_ticks 132 = .ok (.aload_n 0, 1) := dk_42 (dk_at dksX8_ticks_5 12 rfl rfl)
theorem dX8_ticks_133 : decode cX8_ticks 133 = .ok (.aload_n 0, 1) := dk_42 (dk_at dksX8_ticks_5 13 rfl rfl)
theorem dX8_ticks_134 : decode cX8_ticks 134 = .ok (.getfield 13, 3) := dk_180 0 13 (dk_at dksX8_ticks_5 14 rfl rfl)
theorem dX8_ticks_137 : decode cX8_ticks 137 = .ok (.iload_n 2, 1) := dk_28 (dk_at dksX8_ticks_5 17 rfl rfl)
theorem dX8_ticks_138 : decode cX8_ticks 138 = .ok (.iaload, 1) := dk_46 (dk_at dksX8_ticks_5 18 rfl rfl)
theorem dX8_ticks_139 : decode cX8_ticks 139 = .ok (.invokevirtual 325, 3) := dk_182 1 69 (dk_at dksX8_ticks_5 19 rfl rfl)
theorem dX8_ticks_142 : decode cX8_ticks 142 = .ok (.aload_n 0, 1) := dk_42 (dk_at dksX8_ticks_5 22 rfl rfl)
theorem dX8_ticks_143 : decode cX8_ticks 143 = .ok (.aload_n 0, 1) := dk_42 (dk_at dksX8_ticks_5 23 rfl rfl)
theorem dX8_ticks_144 : decode cX8_ticks 144 = .ok (.getfield 13, 3) := dk_180 0 13 (dk_at dksX8_ticks_6 0 rfl rfl)
theorem dX8_ticks_147 : decode cX8_ticks 147 = .ok (.iload_n 2, 1) := dk_28 (dk_at dksX8_ticks_6 3 rfl rfl)
theorem dX8_ticks_148 : decode cX8_ticks 148 = .ok (.iaload, 1) := dk_46 (dk_at dksX8_ticks_6 4 rfl rfl)
theorem dX8_ticks_149 : decode cX8_ticks 149 = .ok (.iconst 1, 1) := dk_4 (dk_at dksX8_ticks_6 5 rfl rfl)
theorem dX8_ticks_150 : decode cX8_ticks 150 = .ok (.iadd, 1) := dk_96 (dk_at dksX8_ticks_6 6 rfl rfl)
theorem dX8_ticks_151 : decode cX8_ticks 151 = .ok (.invokevirtual 325, 3) := dk_182 1 69 (dk_at dksX8_ticks_6 7 rfl rfl)
theorem dX8_ticks_154 : decode cX8_ticks 154 = .ok (.isub, 1) := dk_100 (dk_at dksX8_ticks_6 10 rfl rfl)
theorem dX8_ticks_155 : decode cX8_ticks 155 = .ok (.invokestatic 328, 3) := dk_184 1 72 (dk_at dksX8_ticks_6 11 rfl rfl)
theorem dX8_ticks_158 : decode cX8_ticks 158 = .ok (.aload_n 0, 1) := dk_42 (dk_at dksX8_ticks_6 14 rfl rfl)
theorem dX8_ticks_159 : decode cX8_ticks 159 = .ok (.getfield 13, 3) := dk_180 0 13 (dk_at dksX8_ticks_6 15 rfl rfl)
theorem dX8_ticks_162 : decode cX8_ticks 162 = .ok (.iload_n 2, 1) := dk_28 (dk_at dksX8_ticks_6 18 rfl rfl)
theorem dX8_ticks_163 : decode cX8_ticks 163 = .ok (.iconst 1, 1) := dk_4 (dk_at dksX8_ticks_6 19 rfl rfl)
theorem dX8_ticks_164 : decode cX8_ticks 164 = .ok (.iadd, 1) := dk_96 (dk_at dksX8_ticks_6 20 rfl rfl)
theorem dX8_ticks_165 : decode cX8_ticks 165 = .ok (.iaload, 1) := dk_46 (dk_at dksX8_ticks_6 21 rfl rfl)
theorem dX8_ticks_166 : decode cX8_ticks 166 = .ok (.if_icmp .le 17, 3) := dk_164 0 17 (dk_at dksX8_ticks_7 0 rfl rfl)
theorem dX8_ticks_169 : decode cX8_ticks 169 = .ok (.aload_n 0, 1) := dk_42 (dk_at dksX8_ticks_7 3 rfl rfl)
theorem dX8_ticks_170 : decode cX8_ticks 170 = .ok (.getfield 13, 3) := dk_180 0 13 (dk_at dksX8_ticks_7 4 rfl rfl)
theorem dX8_ticks_173 : decode cX8_ticks 173 = .ok (.iload_n 2, 1) := dk_28 (dk_at dksX8_ticks_7 7 rfl rfl)
theorem dX8_ticks_174 : decode cX8_ticks 174 = .ok (.iconst 2, 1) := dk_5 (dk_at dksX8_ticks_7 8 rfl rfl)
theorem dX8_ticks_175 : decode cX8_ticks 175 = .ok (.iadd, 1) := dk_96 (dk_at dksX8_ticks_7 9 rfl rfl)
theorem dX8_ticks_176 : decode cX8_ticks 176 = .ok (.aload_n 0, 1) := dk_42 (dk_at dksX8_ticks_7 10 rfl rfl)
theorem dX8_ticks_177 : decode cX8_ticks 177 = .ok (.getfield 13, 3) := dk_180 0 13 (dk_at dksX8_ticks_7 11 rfl rfl)
theorem dX8_ticks_180 : decode cX8_ticks 180 = .ok (.iconst 1, 1) := dk_4 (dk_at dksX8_ticks_7 14 rfl rfl)
theorem dX8_ticks_181 : decode cX8_ticks 181 = .ok (.iaload, 1) := dk_46 (dk_at dksX8_ticks_7 15 rfl rfl)
theorem dX8_ticks_182 : decode cX8_ticks 182 = .ok (.iastore, 1) := dk_79 (dk_at dksX8_ticks_7 16 rfl rfl)
theorem dX8_ticks_183 : decode cX8_ticks 183 = .ok (.iinc 1 1, 3) := dk_132 1 1 (dk_at dksX8_ticks_7 17 rfl rfl)
theorem dX8_ticks_186 : decode cX8_ticks 186 = .ok (.goto (-84), 3) := dk_167 255 172 (dk_at dksX8_ticks_7 20 rfl rfl)
theorem dX8_ticks_189 : decode cX8_ticks 189 = .ok (.aload_n 0, 1) := dk_42 (dk_at dksX8_ticks_7 23 rfl rfl)
theorem dX8_ticks_190 : decode cX8_ticks 190 = .ok (.getfield 13, 3) := dk_180 0 13 (dk_at dksX8_ticks_8 0 rfl rfl)
theorem dX8_ticks_193 : decode cX8_ticks 193 = .ok (.bipush 12, 2) := dk_16 12 (dk_at dksX8_ticks_8 3 rfl rfl)
theorem dX8_ticks_195 : decode cX8_ticks 195 = .ok (.iaload, 1) := dk_46 (dk_at dksX8_ticks_8 5 rfl rfl)
theorem dX8_ticks_196 : decode cX8_ticks 196 = .ok (.ifCond .ne 36, 3) := dk_154 0 36 (dk_at dksX8_ticks_8 6 rfl rfl)
theorem dX8_ticks_199 : decode cX8_ticks 199 = .ok (.aload_n 0, 1) := dk_42 (dk_at dksX8_ticks_8 9 rfl rfl)
theorem dX8_ticks_200 : decode cX8_ticks 200 = .ok (.invokevirtual 331, 3) := dk_182 1 75 (dk_at dksX8_ticks_8 10 rfl rfl)
theorem dX8_ticks_203 : decode cX8_ticks 203 = .ok (.ifCond .eq 29, 3) := dk_153 0 29 (dk_at dksX8_ticks_8 13 rfl rfl)
theorem dX8_ticks_206 : decode cX8_ticks 206 = .ok (.aload_n 0, 1) := dk_42 (dk_at dksX8_ticks_8 16 rfl rfl)
theorem dX8_ticks_207 : decode cX8_ticks 207 = .ok (.invokevirtual 334, 3) := dk_182 1 78 (dk_at dksX8_ticks_8 17 rfl rfl)
theorem dX8_ticks_210 : decode cX8_ticks 210 = .ok (.ifCond .ne 22, 3) := dk_154 0 22 (dk_at dksX8_ticks_8 20 rfl rfl)
theorem dX8_ticks_213 : decode cX8_ticks 213 = .ok (.aload_n 0, 1) := dk_42 (dk_at dksX8_ticks_8 23 rfl rfl)
theorem dX8_ticks_214 : decode cX8_ticks 214 = .ok (.getfield 13, 3) := dk_180 0 13 (dk_at dksX8_ticks_9 0 rfl rfl)
theorem dX8_ticks_217 : decode cX8_ticks 217 = .ok (.bipush 12, 2) := dk_16 12 (dk_at dksX8_ticks_9 3 rfl rfl)
theorem dX8_ticks_219 : decode cX8_ticks 219 = .ok (.iconst 1, 1) := dk_4 (dk_at dksX8_ticks_9 5 rfl rfl)
theorem dX8_ticks_220 : decode cX8_ticks 220 = .ok (.iastore, 1) := dk_79 (dk_at dksX8_ticks_9 6 rfl rfl)
theorem dX8_ticks_221 : decode cX8_ticks 221 = .ok (.aload_n 0, 1) := dk_42 (dk_at dksX8_ticks_9 7 rfl rfl)
theorem dX8_ticks_222 : decode cX8_ticks 222 = .ok (.getfield 13, 3) := dk_180 0 13 (dk_at dksX8_ticks_9 8 rfl rfl)
theorem dX8_ticks_225 : decode cX8_ticks 225 = .ok (.bipush 13, 2) := dk_16 13 (dk_at dksX8_ticks_9 11 rfl rfl)
theorem dX8_ticks_227 : decode cX8_ticks 227 = .ok (.dup2, 1) := dk_92 (dk_at dksX8_ticks_9 13 rfl rfl)
theorem dX8_ticks_228 : decode cX8_ticks 228 = .ok (.iaload, 1) := dk_46 (dk_at dksX8_ticks_9 14 rfl rfl)
theorem dX8_ticks_229 : decode cX8_ticks 229 = .ok (.iconst 1, 1) := dk_4 (dk_at dksX8_ticks_9 15 rfl rfl)
theorem dX8_ticks_230 : decode cX8_ticks 230 = .ok (.iadd, 1) := dk_96 (dk_at dksX8_ticks_9 16 rfl rfl)
theorem dX8_ticks_231 : decode cX8_ticks 231 = .ok (.iastore, 1) := dk_79 (dk_at dksX8_ticks_9 17 rfl rfl)
theorem dX8_ticks_232 : decode cX8_ticks 232 = .ok (.return_, 1) := dk_177 (dk_at dksX8_ticks_9 18 rfl rfl)
abbrev cX8_isDug : ByteArray := prog_16_method_9_code
def yX8_isDug : MethodName := ⟨RX8, "isDug", "(I)Z"⟩
def dkwX8_isDug_0 : List UInt8 := [42, 180, 0, 13, 17, 1, 224, 27, 96, 46, 4, 160, 0, 7, 4, 167, 0, 4, 3, 172]
abbrev dktX8_isDug_0 : List UInt8 := dkwX8_isDug_0 ++ []
theorem dksX8_isDug_0 : cX8_isDug.data.toList.drop 0 = dktX8_isDug_0 := by decide +kernel
theorem dX8_isDug_0 : decode cX8_isDug 0 = .ok (.aload_n 0, 1) := dk_42 (dk_at dksX8_isDug_0 0 rfl rfl)
theorem dX8_isDug_1 : decode cX8_isDug 1 = .ok (.getfield 13, 3) := dk_180 0 13 (dk_at dksX8_isDug_0 1 rfl rfl)
theorem dX8_isDug_4 : decode cX8_isDug 4 = .ok (.sipush 480, 3) := dk_17 1 224 (dk_at dksX8_isDug_0 4 rfl rfl)
theorem dX8_isDug_7 : decode cX8_isDug 7 = .ok (.iload_n 1, 1) := dk_27 (dk_at dksX8_isDug_0 7 rfl rfl)
theorem dX8_isDug_8 : decode cX8_isDug 8 = .ok (.iadd, 1) := dk_96 (dk_at dksX8_isDug_0 8 rfl rfl)
theorem dX8_isDug_9 : decode cX8_isDug 9 = .ok (.iaload, 1) := dk_46 (dk_at dksX8_isDug_0 9 rfl rfl)
theorem dX8_isDug_10 : decode cX8_isDug 10 = .ok (.iconst 1, 1) := dk_4 (dk_at dksX8_isDug_0 10 rfl rfl)
theorem dX8_isDug_11 : decode cX8_isDug 11 = .ok (.if_icmp .ne 7, 3) := dk_160 0 7 (dk_at dksX8_isDug_0 11 rfl rfl)
theorem dX8_isDug_14 : decode cX8_isDug 14 = .ok (.iconst 1, 1) := dk_4 (dk_at dksX8_isDug_0 14 rfl rfl)
theorem dX8_isDug_15 : decode cX8_isDug 15 = .ok (.goto 4, 3) := dk_167 0 4 (dk_at dksX8_isDug_0 15 rfl rfl)
theorem dX8_isDug_18 : decode cX8_isDug 18 = .ok (.iconst 0, 1) := dk_3 (dk_at dksX8_isDug_0 18 rfl rfl)
theorem dX8_isDug_19 : decode cX8_isDug 19 = .ok (.ireturn, 1) := dk_172 (dk_at dksX8_isDug_0 19 rfl rfl)
abbrev cX8_comesBeside : ByteArray := prog_16_method_44_code
def yX8_comesBeside : MethodName := ⟨RX8, "comesBeside", "(I)V"⟩
def dkwX8_comesBeside_5 : List UInt8 := [182, 1, 51, 184, 0, 153, 104, 16, 100, 108, 96, 79, 132, 2, 1, 167, 255, 128, 177]
abbrev dktX8_comesBeside_5 : List UInt8 := dkwX8_comesBeside_5 ++ []
def dkwX8_comesBeside_4 : List UInt8 := [17, 0, 192, 29, 96, 46, 42, 180, 0, 13, 17, 0, 192, 27, 96, 46, 100, 42, 27, 182, 1, 51, 42, 29]
abbrev dktX8_comesBeside_4 : List UInt8 := dkwX8_comesBeside_4 ++ dktX8_comesBeside_5
def dkwX8_comesBeside_3 : List UInt8 := [167, 0, 58, 42, 29, 182, 0, 102, 154, 0, 50, 42, 180, 0, 46, 27, 92, 46, 42, 180, 0, 13]
abbrev dktX8_comesBeside_3 : List UInt8 := dkwX8_comesBeside_3 ++ dktX8_comesBeside_4
def dkwX8_comesBeside_2 : List UInt8 := [180, 0, 46, 27, 92, 46, 21, 4, 96, 79, 42, 180, 0, 13, 16, 15, 92, 46, 21, 4, 96, 79]
abbrev dktX8_comesBeside_2 : List UInt8 := dkwX8_comesBeside_2 ++ dktX8_comesBeside_3
def dkwX8_comesBeside_1 : List UInt8 := [42, 180, 0, 13, 17, 0, 192, 27, 96, 46, 100, 42, 27, 182, 1, 51, 104, 16, 100, 108, 54, 4, 42]
abbrev dktX8_comesBeside_1 : List UInt8 := dkwX8_comesBeside_1 ++ dktX8_comesBeside_2
def dkwX8_comesBeside_0 : List UInt8 := [3, 61, 28, 7, 162, 0, 129, 27, 28, 184, 1, 48, 62, 29, 2, 160, 0, 57, 42, 180, 0, 13, 8, 46]
abbrev dktX8_comesBeside_0 : List UInt8 := dkwX8_comesBeside_0 ++ dktX8_comesBeside_1
theorem dksX8_comesBeside_0 : cX8_comesBeside.data.toList.drop 0 = dktX8_comesBeside_0 := by decide +kernel
theorem dksX8_comesBeside_1 : cX8_comesBeside.data.toList.drop 24 = dktX8_comesBeside_1 := dk_seg dksX8_comesBeside_0 24 rfl rfl
theorem dksX8_comesBeside_2 : cX8_comesBeside.data.toList.drop 47 = dktX8_comesBeside_2 := dk_seg dksX8_comesBeside_1 23 rfl rfl
theorem dksX8_comesBeside_3 : cX8_comesBeside.data.toList.drop 69 = dktX8_comesBeside_3 := dk_seg dksX8_comesBeside_2 22 rfl rfl
theorem dksX8_comesBeside_4 : cX8_comesBeside.data.toList.drop 91 = dktX8_comesBeside_4 := dk_seg dksX8_comesBeside_3 22 rfl rfl
theorem dksX8_comesBeside_5 : cX8_comesBeside.data.toList.drop 115 = dktX8_comesBeside_5 := dk_seg dksX8_comesBeside_4 24 rfl rfl
theorem dX8_comesBeside_0 : decode cX8_comesBeside 0 = .ok (.iconst 0, 1) := dk_3 (dk_at dksX8_comesBeside_0 0 rfl rfl)
theorem dX8_comesBeside_1 : decode cX8_comesBeside 1 = .ok (.istore_n 2, 1) := dk_61 (dk_at dksX8_comesBeside_0 1 rfl rfl)
theorem dX8_comesBeside_2 : decode cX8_comesBeside 2 = .ok (.iload_n 2, 1) := dk_28 (dk_at dksX8_comesBeside_0 2 rfl rfl)
theorem dX8_comesBeside_3 : decode cX8_comesBeside 3 = .ok (.iconst 4, 1) := dk_7 (dk_at dksX8_comesBeside_0 3 rfl rfl)
theorem dX8_comesBeside_4 : decode cX8_comesBeside 4 = .ok (.if_icmp .ge 129, 3) := dk_162 0 129 (dk_at dksX8_comesBeside_0 4 rfl rfl)
theorem dX8_comesBeside_7 : decode cX8_comesBeside 7 = .ok (.iload_n 1, 1) := dk_27 (dk_at dksX8_comesBeside_0 7 rfl rfl)
theorem dX8_comesBeside_8 : decode cX8_comesBeside 8 = .ok (.iload_n 2, 1) := dk_28 (dk_at dksX8_comesBeside_0 8 rfl rfl)
theorem dX8_comesBeside_9 : decode cX8_comesBeside 9 = .ok (.invokestatic 304, 3) := dk_184 1 48 (dk_at dksX8_comesBeside_0 9 rfl rfl)
theorem dX8_comesBeside_12 : decode cX8_comesBeside 12 = .ok (.istore_n 3, 1) := dk_62 (dk_at dksX8_comesBeside_0 12 rfl rfl)
theorem dX8_comesBeside_13 : decode cX8_comesBeside 13 = .ok (.iload_n 3, 1) := dk_29 (dk_at dksX8_comesBeside_0 13 rfl rfl)
theorem dX8_comesBeside_14 : decode cX8_comesBeside 14 = .ok (.iconst (-1), 1) := dk_2 (dk_at dksX8_comesBeside_0 14 rfl rfl)
theorem dX8_comesBeside_15 : decode cX8_comesBeside 15 = .ok (.if_icmp .ne 57, 3) := dk_160 0 57 (dk_at dksX8_comesBeside_0 15 rfl rfl)
theorem dX8_comesBeside_18 : decode cX8_comesBeside 18 = .ok (.aload_n 0, 1) := dk_42 (dk_at dksX8_comesBeside_0 18 rfl rfl)
theorem dX8_comesBeside_19 : decode cX8_comesBeside 19 = .ok (.getfield 13, 3) := dk_180 0 13 (dk_at dksX8_comesBeside_0 19 rfl rfl)
theorem dX8_comesBeside_22 : decode cX8_comesBeside 22 = .ok (.iconst 5, 1) := dk_8 (dk_at dksX8_comesBeside_0 22 rfl rfl)
theorem dX8_comesBeside_23 : decode cX8_comesBeside 23 = .ok (.iaload, 1) := dk_46 (dk_at dksX8_comesBeside_0 23 rfl rfl)
theorem dX8_comesBeside_24 : decode cX8_comesBeside 24 = .ok (.aload_n 0, 1) := dk_42 (dk_at dksX8_comesBeside_1 0 rfl rfl)
theorem dX8_comesBeside_25 : decode cX8_comesBeside 25 = .ok (.getfield 13, 3) := dk_180 0 13 (dk_at dksX8_comesBeside_1 1 rfl rfl)
theorem dX8_comesBeside_28 : decode cX8_comesBeside 28 = .ok (.sipush 192, 3) := dk_17 0 192 (dk_at dksX8_comesBeside_1 4 rfl rfl)
theorem dX8_comesBeside_31 : decode cX8_comesBeside 31 = .ok (.iload_n 1, 1) := dk_27 (dk_at dksX8_comesBeside_1 7 rfl rfl)
theorem dX8_comesBeside_32 : decode cX8_comesBeside 32 = .ok (.iadd, 1) := dk_96 (dk_at dksX8_comesBeside_1 8 rfl rfl)
theorem dX8_comesBeside_33 : decode cX8_comesBeside 33 = .ok (.iaload, 1) := dk_46 (dk_at dksX8_comesBeside_1 9 rfl rfl)
theorem dX8_comesBeside_34 : decode cX8_comesBeside 34 = .ok (.isub, 1) := dk_100 (dk_at dksX8_comesBeside_1 10 rfl rfl)
theorem dX8_comesBeside_35 : decode cX8_comesBeside 35 = .ok (.aload_n 0, 1) := dk_42 (dk_at dksX8_comesBeside_1 11 rfl rfl)
theorem dX8_comesBeside_36 : decode cX8_comesBeside 36 = .ok (.iload_n 1, 1) := dk_27 (dk_at dksX8_comesBeside_1 12 rfl rfl)
theorem dX8_comesBeside_37 : decode cX8_comesBeside 37 = .ok (.invokevirtual 307, 3) := dk_182 1 51 (dk_at dksX8_comesBeside_1 13 rfl rfl)
theorem dX8_comesBeside_40 : decode cX8_comesBeside 40 = .ok (.imul, 1) := dk_104 (dk_at dksX8_comesBeside_1 16 rfl rfl)
theorem dX8_comesBeside_41 : decode cX8_comesBeside 41 = .ok (.bipush 100, 2) := dk_16 100 (dk_at dksX8_comesBeside_1 17 rfl rfl)
theorem dX8_comesBeside_43 : decode cX8_comesBeside 43 = .ok (.idiv, 1) := dk_108 (dk_at dksX8_comesBeside_1 19 rfl rfl)
theorem dX8_comesBeside_44 : decode cX8_comesBeside 44 = .ok (.istore 4, 2) := dk_54 4 (dk_at dksX8_comesBeside_1 20 rfl rfl)
theorem dX8_comesBeside_46 : decode cX8_comesBeside 46 = .ok (.aload_n 0, 1) := dk_42 (dk_at dksX8_comesBeside_1 22 rfl rfl)
theorem dX8_comesBeside_47 : decode cX8_comesBeside 47 = .ok (.getfield 46, 3) := dk_180 0 46 (dk_at dksX8_comesBeside_2 0 rfl rfl)
theorem dX8_comesBeside_50 : decode cX8_comesBeside 50 = .ok (.iload_n 1, 1) := dk_27 (dk_at dksX8_comesBeside_2 3 rfl rfl)
theorem dX8_comesBeside_51 : decode cX8_comesBeside 51 = .ok (.dup2, 1) := dk_92 (dk_at dksX8_comesBeside_2 4 rfl rfl)
theorem dX8_comesBeside_52 : decode cX8_comesBeside 52 = .ok (.iaload, 1) := dk_46 (dk_at dksX8_comesBeside_2 5 rfl rfl)
theorem dX8_comesBeside_53 : decode cX8_comesBeside 53 = .ok (.iload 4, 2) := dk_21 4 (dk_at dksX8_comesBeside_2 6 rfl rfl)
theorem dX8_comesBeside_55 : decode cX8_comesBeside 55 = .ok (.iadd, 1) := dk_96 (dk_at dksX8_comesBeside_2 8 rfl rfl)
theorem dX8_comesBeside_56 : decode cX8_comesBeside 56 = .ok (.iastore, 1) := dk_79 (dk_at dksX8_comesBeside_2 9 rfl rfl)
theorem dX8_comesBeside_57 : decode cX8_comesBeside 57 = .ok (.aload_n 0, 1) := dk_42 (dk_at dksX8_comesBeside_2 10 rfl rfl)
theorem dX8_comesBeside_58 : decode cX8_comesBeside 58 = .ok (.getfield 13, 3) := dk_180 0 13 (dk_at dksX8_comesBeside_2 11 rfl rfl)
theorem dX8_comesBeside_61 : decode cX8_comesBeside 61 = .ok (.bipush 15, 2) := dk_16 15 (dk_at dksX8_comesBeside_2 14 rfl rfl)
theorem dX8_comesBeside_63 : decode cX8_comesBeside 63 = .ok (.dup2, 1) := dk_92 (dk_at dksX8_comesBeside_2 16 rfl rfl)
theorem dX8_comesBeside_64 : decode cX8_comesBeside 64 = .ok (.iaload, 1) := dk_46 (dk_at dksX8_comesBeside_2 17 rfl rfl)
theorem dX8_comesBeside_65 : decode cX8_comesBeside 65 = .ok (.iload 4, 2) := dk_21 4 (dk_at dksX8_comesBeside_2 18 rfl rfl)
theorem dX8_comesBeside_67 : decode cX8_comesBeside 67 = .ok (.iadd, 1) := dk_96 (dk_at dksX8_comesBeside_2 20 rfl rfl)
theorem dX8_comesBeside_68 : decode cX8_comesBeside 68 = .ok (.iastore, 1) := dk_79 (dk_at dksX8_comesBeside_2 21 rfl rfl)
theorem dX8_comesBeside_69 : decode cX8_comesBeside 69 = .ok (.goto 58, 3) := dk_167 0 58 (dk_at dksX8_comesBeside_3 0 rfl rfl)
theorem dX8_comesBeside_72 : decode cX8_comesBeside 72 = .ok (.aload_n 0, 1) := dk_42 (dk_at dksX8_comesBeside_3 3 rfl rfl)
theorem dX8_comesBeside_73 : decode cX8_comesBeside 73 = .ok (.iload_n 3, 1) := dk_29 (dk_at dksX8_comesBeside_3 4 rfl rfl)
theorem dX8_comesBeside_74 : decode cX8_comesBeside 74 = .ok (.invokevirtual 102, 3) := dk_182 0 102 (dk_at dksX8_comesBeside_3 5 rfl rfl)
theorem dX8_comesBeside_77 : decode cX8_comesBeside 77 = .ok (.ifCond .ne 50, 3) := dk_154 0 50 (dk_at dksX8_comesBeside_3 8 rfl rfl)
theorem dX8_comesBeside_80 : decode cX8_comesBeside 80 = .ok (.aload_n 0, 1) := dk_42 (dk_at dksX8_comesBeside_3 11 rfl rfl)
theorem dX8_comesBeside_81 : decode cX8_comesBeside 81 = .ok (.getfield 46, 3) := dk_180 0 46 (dk_at dksX8_comesBeside_3 12 rfl rfl)
theorem dX8_comesBeside_84 : decode cX8_comesBeside 84 = .ok (.iload_n 1, 1) := dk_27 (dk_at dksX8_comesBeside_3 15 rfl rfl)
theorem dX8_comesBeside_85 : decode cX8_comesBeside 85 = .ok (.dup2, 1) := dk_92 (dk_at dksX8_comesBeside_3 16 rfl rfl)
theorem dX8_comesBeside_86 : decode cX8_comesBeside 86 = .ok (.iaload, 1) := dk_46 (dk_at dksX8_comesBeside_3 17 rfl rfl)
theorem dX8_comesBeside_87 : decode cX8_comesBeside 87 = .ok (.aload_n 0, 1) := dk_42 (dk_at dksX8_comesBeside_3 18 rfl rfl)
theorem dX8_comesBeside_88 : decode cX8_comesBeside 88 = .ok (.getfield 13, 3) := dk_180 0 13 (dk_at dksX8_comesBeside_3 19 rfl rfl)
theorem dX8_comesBeside_91 : decode cX8_comesBeside 91 = .ok (.sipush 192, 3) := dk_17 0 192 (dk_at dksX8_comesBeside_4 0 rfl rfl)
theorem dX8_comesBeside_94 : decode cX8_comesBeside 94 = .ok (.iload_n 3, 1) := dk_29 (dk_at dksX8_comesBeside_4 3 rfl rfl)
theorem dX8_comesBeside_95 : decode cX8_comesBeside 95 = .ok (.iadd, 1) := dk_96 (dk_at dksX8_comesBeside_4 4 rfl rfl)
theorem dX8_comesBeside_96 : decode cX8_comesBeside 96 = .ok (.iaload, 1) := dk_46 (dk_at dksX8_comesBeside_4 5 rfl rfl)
theorem dX8_comesBeside_97 : decode cX8_comesBeside 97 = .ok (.aload_n 0, 1) := dk_42 (dk_at dksX8_comesBeside_4 6 rfl rfl)
theorem dX8_comesBeside_98 : decode cX8_comesBeside 98 = .ok (.getfield 13, 3) := dk_180 0 13 (dk_at dksX8_comesBeside_4 7 rfl rfl)
theorem dX8_comesBeside_101 : decode cX8_comesBeside 101 = .ok (.sipush 192, 3) := dk_17 0 192 (dk_at dksX8_comesBeside_4 10 rfl rfl)
theorem dX8_comesBeside_104 : decode cX8_comesBeside 104 = .ok (.iload_n 1, 1) := dk_27 (dk_at dksX8_comesBeside_4 13 rfl rfl)
theorem dX8_comesBeside_105 : decode cX8_comesBeside 105 = .ok (.iadd, 1) := dk_96 (dk_at dksX8_comesBeside_4 14 rfl rfl)
theorem dX8_comesBeside_106 : decode cX8_comesBeside 106 = .ok (.iaload, 1) := dk_46 (dk_at dksX8_comesBeside_4 15 rfl rfl)
theorem dX8_comesBeside_107 : decode cX8_comesBeside 107 = .ok (.isub, 1) := dk_100 (dk_at dksX8_comesBeside_4 16 rfl rfl)
theorem dX8_comesBeside_108 : decode cX8_comesBeside 108 = .ok (.aload_n 0, 1) := dk_42 (dk_at dksX8_comesBeside_4 17 rfl rfl)
theorem dX8_comesBeside_109 : decode cX8_comesBeside 109 = .ok (.iload_n 1, 1) := dk_27 (dk_at dksX8_comesBeside_4 18 rfl rfl)
theorem dX8_comesBeside_110 : decode cX8_comesBeside 110 = .ok (.invokevirtual 307, 3) := dk_182 1 51 (dk_at dksX8_comesBeside_4 19 rfl rfl)
theorem dX8_comesBeside_113 : decode cX8_comesBeside 113 = .ok (.aload_n 0, 1) := dk_42 (dk_at dksX8_comesBeside_4 22 rfl rfl)
theorem dX8_comesBeside_114 : decode cX8_comesBeside 114 = .ok (.iload_n 3, 1) := dk_29 (dk_at dksX8_comesBeside_4 23 rfl rfl)
theorem dX8_comesBeside_115 : decode cX8_comesBeside 115 = .ok (.invokevirtual 307, 3) := dk_182 1 51 (dk_at dksX8_comesBeside_5 0 rfl rfl)
theorem dX8_comesBeside_118 : decode cX8_comesBeside 118 = .ok (.invokestatic 153, 3) := dk_184 0 153 (dk_at dksX8_comesBeside_5 3 rfl rfl)
theorem dX8_comesBeside_121 : decode cX8_comesBeside 121 = .ok (.imul, 1) := dk_104 (dk_at dksX8_comesBeside_5 6 rfl rfl)
theorem dX8_comesBeside_122 : decode cX8_comesBeside 122 = .ok (.bipush 100, 2) := dk_16 100 (dk_at dksX8_comesBeside_5 7 rfl rfl)
theorem dX8_comesBeside_124 : decode cX8_comesBeside 124 = .ok (.idiv, 1) := dk_108 (dk_at dksX8_comesBeside_5 9 rfl rfl)
theorem dX8_comesBeside_125 : decode cX8_comesBeside 125 = .ok (.iadd, 1) := dk_96 (dk_at dksX8_comesBeside_5 10 rfl rfl)
theorem dX8_comesBeside_126 : decode cX8_comesBeside 126 = .ok (.iastore, 1) := dk_79 (dk_at dksX8_comesBeside_5 11 rfl rfl)
theorem dX8_comesBeside_127 : decode cX8_comesBeside 127 = .ok (.iinc 2 1, 3) := dk_132 2 1 (dk_at dksX8_comesBeside_5 12 rfl rfl)
theorem dX8_comesBeside_130 : decode cX8_comesBeside 130 = .ok (.goto (-128), 3) := dk_167 255 128 (dk_at dksX8_comesBeside_5 15 rfl rfl)
theorem dX8_comesBeside_133 : decode cX8_comesBeside 133 = .ok (.return_, 1) := dk_177 (dk_at dksX8_comesBeside_5 18 rfl rfl)
abbrev cX8_beside : ByteArray := prog_16_method_13_code
def yX8_beside : MethodName := ⟨RX8, "beside", "(II)I"⟩
def dkwX8_beside_2 : List UInt8 := [62, 28, 29, 184, 0, 116, 153, 0, 12, 16, 12, 29, 104, 28, 96, 167, 0, 4, 2, 172]
abbrev dktX8_beside_2 : List UInt8 := dkwX8_beside_2 ++ []
def dkwX8_beside_1 : List UInt8 := [26, 16, 12, 108, 27, 5, 160, 0, 7, 4, 167, 0, 13, 27, 6, 160, 0, 7, 2, 167, 0, 4, 3, 96]
abbrev dktX8_beside_1 : List UInt8 := dkwX8_beside_1 ++ dktX8_beside_2
def dkwX8_beside_0 : List UInt8 := [26, 16, 12, 112, 27, 154, 0, 7, 4, 167, 0, 13, 27, 4, 160, 0, 7, 2, 167, 0, 4, 3, 96, 61]
abbrev dktX8_beside_0 : List UInt8 := dkwX8_beside_0 ++ dktX8_beside_1
theorem dksX8_beside_0 : cX8_beside.data.toList.drop 0 = dktX8_beside_0 := by decide +kernel
theorem dksX8_beside_1 : cX8_beside.data.toList.drop 24 = dktX8_beside_1 := dk_seg dksX8_beside_0 24 rfl rfl
theorem dksX8_beside_2 : cX8_beside.data.toList.drop 48 = dktX8_beside_2 := dk_seg dksX8_beside_1 24 rfl rfl
theorem dX8_beside_0 : decode cX8_beside 0 = .ok (.iload_n 0, 1) := dk_26 (dk_at dksX8_beside_0 0 rfl rfl)
theorem dX8_beside_1 : decode cX8_beside 1 = .ok (.bipush 12, 2) := dk_16 12 (dk_at dksX8_beside_0 1 rfl rfl)
theorem dX8_beside_3 : decode cX8_beside 3 = .ok (.irem, 1) := dk_112 (dk_at dksX8_beside_0 3 rfl rfl)
theorem dX8_beside_4 : decode cX8_beside 4 = .ok (.iload_n 1, 1) := dk_27 (dk_at dksX8_beside_0 4 rfl rfl)
theorem dX8_beside_5 : decode cX8_beside 5 = .ok (.ifCond .ne 7, 3) := dk_154 0 7 (dk_at dksX8_beside_0 5 rfl rfl)
theorem dX8_beside_8 : decode cX8_beside 8 = .ok (.iconst 1, 1) := dk_4 (dk_at dksX8_beside_0 8 rfl rfl)
theorem dX8_beside_9 : decode cX8_beside 9 = .ok (.goto 13, 3) := dk_167 0 13 (dk_at dksX8_beside_0 9 rfl rfl)
theorem dX8_beside_12 : decode cX8_beside 12 = .ok (.iload_n 1, 1) := dk_27 (dk_at dksX8_beside_0 12 rfl rfl)
theorem dX8_beside_13 : decode cX8_beside 13 = .ok (.iconst 1, 1) := dk_4 (dk_at dksX8_beside_0 13 rfl rfl)
theorem dX8_beside_14 : decode cX8_beside 14 = .ok (.if_icmp .ne 7, 3) := dk_160 0 7 (dk_at dksX8_beside_0 14 rfl rfl)
theorem dX8_beside_17 : decode cX8_beside 17 = .ok (.iconst (-1), 1) := dk_2 (dk_at dksX8_beside_0 17 rfl rfl)
theorem dX8_beside_18 : decode cX8_beside 18 = .ok (.goto 4, 3) := dk_167 0 4 (dk_at dksX8_beside_0 18 rfl rfl)
theorem dX8_beside_21 : decode cX8_beside 21 = .ok (.iconst 0, 1) := dk_3 (dk_at dksX8_beside_0 21 rfl rfl)
theorem dX8_beside_22 : decode cX8_beside 22 = .ok (.iadd, 1) := dk_96 (dk_at dksX8_beside_0 22 rfl rfl)
theorem dX8_beside_23 : decode cX8_beside 23 = .ok (.istore_n 2, 1) := dk_61 (dk_at dksX8_beside_0 23 rfl rfl)
theorem dX8_beside_24 : decode cX8_beside 24 = .ok (.iload_n 0, 1) := dk_26 (dk_at dksX8_beside_1 0 rfl rfl)
theorem dX8_beside_25 : decode cX8_beside 25 = .ok (.bipush 12, 2) := dk_16 12 (dk_at dksX8_beside_1 1 rfl rfl)
theorem dX8_beside_27 : decode cX8_beside 27 = .ok (.idiv, 1) := dk_108 (dk_at dksX8_beside_1 3 rfl rfl)
theorem dX8_beside_28 : decode cX8_beside 28 = .ok (.iload_n 1, 1) := dk_27 (dk_at dksX8_beside_1 4 rfl rfl)
theorem dX8_beside_29 : decode cX8_beside 29 = .ok (.iconst 2, 1) := dk_5 (dk_at dksX8_beside_1 5 rfl rfl)
theorem dX8_beside_30 : decode cX8_beside 30 = .ok (.if_icmp .ne 7, 3) := dk_160 0 7 (dk_at dksX8_beside_1 6 rfl rfl)
theorem dX8_beside_33 : decode cX8_beside 33 = .ok (.iconst 1, 1) := dk_4 (dk_at dksX8_beside_1 9 rfl rfl)
theorem dX8_beside_34 : decode cX8_beside 34 = .ok (.goto 13, 3) := dk_167 0 13 (dk_at dksX8_beside_1 10 rfl rfl)
theorem dX8_beside_37 : decode cX8_beside 37 = .ok (.iload_n 1, 1) := dk_27 (dk_at dksX8_beside_1 13 rfl rfl)
theorem dX8_beside_38 : decode cX8_beside 38 = .ok (.iconst 3, 1) := dk_6 (dk_at dksX8_beside_1 14 rfl rfl)
theorem dX8_beside_39 : decode cX8_beside 39 = .ok (.if_icmp .ne 7, 3) := dk_160 0 7 (dk_at dksX8_beside_1 15 rfl rfl)
theorem dX8_beside_42 : decode cX8_beside 42 = .ok (.iconst (-1), 1) := dk_2 (dk_at dksX8_beside_1 18 rfl rfl)
theorem dX8_beside_43 : decode cX8_beside 43 = .ok (.goto 4, 3) := dk_167 0 4 (dk_at dksX8_beside_1 19 rfl rfl)
theorem dX8_beside_46 : decode cX8_beside 46 = .ok (.iconst 0, 1) := dk_3 (dk_at dksX8_beside_1 22 rfl rfl)
theorem dX8_beside_47 : decode cX8_beside 47 = .ok (.iadd, 1) := dk_96 (dk_at dksX8_beside_1 23 rfl rfl)
theorem dX8_beside_48 : decode cX8_beside 48 = .ok (.istore_n 3, 1) := dk_62 (dk_at dksX8_beside_2 0 rfl rfl)
theorem dX8_beside_49 : decode cX8_beside 49 = .ok (.iload_n 2, 1) := dk_28 (dk_at dksX8_beside_2 1 rfl rfl)
theorem dX8_beside_50 : decode cX8_beside 50 = .ok (.iload_n 3, 1) := dk_29 (dk_at dksX8_beside_2 2 rfl rfl)
theorem dX8_beside_51 : decode cX8_beside 51 = .ok (.invokestatic 116, 3) := dk_184 0 116 (dk_at dksX8_beside_2 3 rfl rfl)
theorem dX8_beside_54 : decode cX8_beside 54 = .ok (.ifCond .eq 12, 3) := dk_153 0 12 (dk_at dksX8_beside_2 6 rfl rfl)
theorem dX8_beside_57 : decode cX8_beside 57 = .ok (.bipush 12, 2) := dk_16 12 (dk_at dksX8_beside_2 9 rfl rfl)
theorem dX8_beside_59 : decode cX8_beside 59 = .ok (.iload_n 3, 1) := dk_29 (dk_at dksX8_beside_2 11 rfl rfl)
theorem dX8_beside_60 : decode cX8_beside 60 = .ok (.imul, 1) := dk_104 (dk_at dksX8_beside_2 12 rfl rfl)
theorem dX8_beside_61 : decode cX8_beside 61 = .ok (.iload_n 2, 1) := dk_28 (dk_at dksX8_beside_2 13 rfl rfl)
theorem dX8_beside_62 : decode cX8_beside 62 = .ok (.iadd, 1) := dk_96 (dk_at dksX8_beside_2 14 rfl rfl)
theorem dX8_beside_63 : decode cX8_beside 63 = .ok (.goto 4, 3) := dk_167 0 4 (dk_at dksX8_beside_2 15 rfl rfl)
theorem dX8_beside_66 : decode cX8_beside 66 = .ok (.iconst (-1), 1) := dk_2 (dk_at dksX8_beside_2 18 rfl rfl)
theorem dX8_beside_67 : decode cX8_beside 67 = .ok (.ireturn, 1) := dk_172 (dk_at dksX8_beside_2 19 rfl rfl)
abbrev cX8_isPlace : ByteArray := prog_16_method_12_code
def yX8_isPlace : MethodName := ⟨RX8, "isPlace", "(II)Z"⟩
def dkwX8_isPlace_1 : List UInt8 := [4, 167, 0, 4, 3, 172]
abbrev dktX8_isPlace_1 : List UInt8 := dkwX8_isPlace_1 ++ []
def dkwX8_isPlace_0 : List UInt8 := [26, 133, 9, 20, 0, 114, 184, 0, 110, 153, 0, 19, 27, 133, 9, 20, 0, 114, 184, 0, 110, 153, 0, 7]
abbrev dktX8_isPlace_0 : List UInt8 := dkwX8_isPlace_0 ++ dktX8_isPlace_1
theorem dksX8_isPlace_0 : cX8_isPlace.data.toList.drop 0 = dktX8_isPlace_0 := by decide +kernel
theorem dksX8_isPlace_1 : cX8_isPlace.data.toList.drop 24 = dktX8_isPlace_1 := dk_seg dksX8_isPlace_0 24 rfl rfl
theorem dX8_isPlace_0 : decode cX8_isPlace 0 = .ok (.iload_n 0, 1) := dk_26 (dk_at dksX8_isPlace_0 0 rfl rfl)
theorem dX8_isPlace_1 : decode cX8_isPlace 1 = .ok (.i2l, 1) := dk_133 (dk_at dksX8_isPlace_0 1 rfl rfl)
theorem dX8_isPlace_2 : decode cX8_isPlace 2 = .ok (.lconst 0, 1) := dk_9 (dk_at dksX8_isPlace_0 2 rfl rfl)
theorem dX8_isPlace_3 : decode cX8_isPlace 3 = .ok (.ldc2_w 114, 3) := dk_20 0 114 (dk_at dksX8_isPlace_0 3 rfl rfl)
theorem dX8_isPlace_6 : decode cX8_isPlace 6 = .ok (.invokestatic 110, 3) := dk_184 0 110 (dk_at dksX8_isPlace_0 6 rfl rfl)
theorem dX8_isPlace_9 : decode cX8_isPlace 9 = .ok (.ifCond .eq 19, 3) := dk_153 0 19 (dk_at dksX8_isPlace_0 9 rfl rfl)
theorem dX8_isPlace_12 : decode cX8_isPlace 12 = .ok (.iload_n 1, 1) := dk_27 (dk_at dksX8_isPlace_0 12 rfl rfl)
theorem dX8_isPlace_13 : decode cX8_isPlace 13 = .ok (.i2l, 1) := dk_133 (dk_at dksX8_isPlace_0 13 rfl rfl)
theorem dX8_isPlace_14 : decode cX8_isPlace 14 = .ok (.lconst 0, 1) := dk_9 (dk_at dksX8_isPlace_0 14 rfl rfl)
theorem dX8_isPlace_15 : decode cX8_isPlace 15 = .ok (.ldc2_w 114, 3) := dk_20 0 114 (dk_at dksX8_isPlace_0 15 rfl rfl)
theorem dX8_isPlace_18 : decode cX8_isPlace 18 = .ok (.invokestatic 110, 3) := dk_184 0 110 (dk_at dksX8_isPlace_0 18 rfl rfl)
theorem dX8_isPlace_21 : decode cX8_isPlace 21 = .ok (.ifCond .eq 7, 3) := dk_153 0 7 (dk_at dksX8_isPlace_0 21 rfl rfl)
theorem dX8_isPlace_24 : decode cX8_isPlace 24 = .ok (.iconst 1, 1) := dk_4 (dk_at dksX8_isPlace_1 0 rfl rfl)
theorem dX8_isPlace_25 : decode cX8_isPlace 25 = .ok (.goto 4, 3) := dk_167 0 4 (dk_at dksX8_isPlace_1 1 rfl rfl)
theorem dX8_isPlace_28 : decode cX8_isPlace 28 = .ok (.iconst 0, 1) := dk_3 (dk_at dksX8_isPlace_1 4 rfl rfl)
theorem dX8_isPlace_29 : decode cX8_isPlace 29 = .ok (.ireturn, 1) := dk_172 (dk_at dksX8_isPlace_1 5 rfl rfl)
abbrev cX8_leadOf : ByteArray := prog_16_method_43_code
def yX8_leadOf : MethodName := ⟨RX8, "leadOf", "(I)I"⟩
def dkwX8_leadOf_0 : List UInt8 := [42, 27, 42, 27, 182, 1, 45, 153, 0, 7, 4, 167, 0, 4, 3, 182, 0, 106, 172]
abbrev dktX8_leadOf_0 : List UInt8 := dkwX8_leadOf_0 ++ []
theorem dksX8_leadOf_0 : cX8_leadOf.data.toList.drop 0 = dktX8_leadOf_0 := by decide +kernel
theorem dX8_leadOf_0 : decode cX8_leadOf 0 = .ok (.aload_n 0, 1) := dk_42 (dk_at dksX8_leadOf_0 0 rfl rfl)
theorem dX8_leadOf_1 : decode cX8_leadOf 1 = .ok (.iload_n 1, 1) := dk_27 (dk_at dksX8_leadOf_0 1 rfl rfl)
theorem dX8_leadOf_2 : decode cX8_leadOf 2 = .ok (.aload_n 0, 1) := dk_42 (dk_at dksX8_leadOf_0 2 rfl rfl)
theorem dX8_leadOf_3 : decode cX8_leadOf 3 = .ok (.iload_n 1, 1) := dk_27 (dk_at dksX8_leadOf_0 3 rfl rfl)
theorem dX8_leadOf_4 : decode cX8_leadOf 4 = .ok (.invokevirtual 301, 3) := dk_182 1 45 (dk_at dksX8_leadOf_0 4 rfl rfl)
theorem dX8_leadOf_7 : decode cX8_leadOf 7 = .ok (.ifCond .eq 7, 3) := dk_153 0 7 (dk_at dksX8_leadOf_0 7 rfl rfl)
theorem dX8_leadOf_10 : decode cX8_leadOf 10 = .ok (.iconst 1, 1) := dk_4 (dk_at dksX8_leadOf_0 10 rfl rfl)
theorem dX8_leadOf_11 : decode cX8_leadOf 11 = .ok (.goto 4, 3) := dk_167 0 4 (dk_at dksX8_leadOf_0 11 rfl rfl)
theorem dX8_leadOf_14 : decode cX8_leadOf 14 = .ok (.iconst 0, 1) := dk_3 (dk_at dksX8_leadOf_0 14 rfl rfl)
theorem dX8_leadOf_15 : decode cX8_leadOf 15 = .ok (.invokevirtual 106, 3) := dk_182 0 106 (dk_at dksX8_leadOf_0 15 rfl rfl)
theorem dX8_leadOf_18 : decode cX8_leadOf 18 = .ok (.ireturn, 1) := dk_172 (dk_at dksX8_leadOf_0 18 rfl rfl)
abbrev cX8_isFrozen : ByteArray := prog_16_method_10_code
def yX8_isFrozen : MethodName := ⟨RX8, "isFrozen", "(I)Z"⟩
def dkwX8_isFrozen_1 : List UInt8 := [160, 0, 7, 4, 167, 0, 4, 3, 172]
abbrev dktX8_isFrozen_1 : List UInt8 := dkwX8_isFrozen_1 ++ []
def dkwX8_isFrozen_0 : List UInt8 := [42, 27, 182, 0, 102, 154, 0, 26, 42, 180, 0, 13, 17, 1, 80, 27, 96, 46, 42, 27, 5, 182, 0, 106]
abbrev dktX8_isFrozen_0 : List UInt8 := dkwX8_isFrozen_0 ++ dktX8_isFrozen_1
theorem dksX8_isFrozen_0 : cX8_isFrozen.data.toList.drop 0 = dktX8_isFrozen_0 := by decide +kernel
theorem dksX8_isFrozen_1 : cX8_isFrozen.data.toList.drop 24 = dktX8_isFrozen_1 := dk_seg dksX8_isFrozen_0 24 rfl rfl
theorem dX8_isFrozen_0 : decode cX8_isFrozen 0 = .ok (.aload_n 0, 1) := dk_42 (dk_at dksX8_isFrozen_0 0 rfl rfl)
theorem dX8_isFrozen_1 : decode cX8_isFrozen 1 = .ok (.iload_n 1, 1) := dk_27 (dk_at dksX8_isFrozen_0 1 rfl rfl)
theorem dX8_isFrozen_2 : decode cX8_isFrozen 2 = .ok (.invokevirtual 102, 3) := dk_182 0 102 (dk_at dksX8_isFrozen_0 2 rfl rfl)
theorem dX8_isFrozen_5 : decode cX8_isFrozen 5 = .ok (.ifCond .ne 26, 3) := dk_154 0 26 (dk_at dksX8_isFrozen_0 5 rfl rfl)
theorem dX8_isFrozen_8 : decode cX8_isFrozen 8 = .ok (.aload_n 0, 1) := dk_42 (dk_at dksX8_isFrozen_0 8 rfl rfl)
theorem dX8_isFrozen_9 : decode cX8_isFrozen 9 = .ok (.getfield 13, 3) := dk_180 0 13 (dk_at dksX8_isFrozen_0 9 rfl rfl)
theorem dX8_isFrozen_12 : decode cX8_isFrozen 12 = .ok (.sipush 336, 3) := dk_17 1 80 (dk_at dksX8_isFrozen_0 12 rfl rfl)
theorem dX8_isFrozen_15 : decode cX8_isFrozen 15 = .ok (.iload_n 1, 1) := dk_27 (dk_at dksX8_isFrozen_0 15 rfl rfl)
theorem dX8_isFrozen_16 : decode cX8_isFrozen 16 = .ok (.iadd, 1) := dk_96 (dk_at dksX8_isFrozen_0 16 rfl rfl)
theorem dX8_isFrozen_17 : decode cX8_isFrozen 17 = .ok (.iaload, 1) := dk_46 (dk_at dksX8_isFrozen_0 17 rfl rfl)
theorem dX8_isFrozen_18 : decode cX8_isFrozen 18 = .ok (.aload_n 0, 1) := dk_42 (dk_at dksX8_isFrozen_0 18 rfl rfl)
theorem dX8_isFrozen_19 : decode cX8_isFrozen 19 = .ok (.iload_n 1, 1) := dk_27 (dk_at dksX8_isFrozen_0 19 rfl rfl)
theorem dX8_isFrozen_20 : decode cX8_isFrozen 20 = .ok (.iconst 2, 1) := dk_5 (dk_at dksX8_isFrozen_0 20 rfl rfl)
theorem dX8_isFrozen_21 : decode cX8_isFrozen 21 = .ok (.invokevirtual 106, 3) := dk_182 0 106 (dk_at dksX8_isFrozen_0 21 rfl rfl)
theorem dX8_isFrozen_24 : decode cX8_isFrozen 24 = .ok (.if_icmp .ne 7, 3) := dk_160 0 7 (dk_at dksX8_isFrozen_1 0 rfl rfl)
theorem dX8_isFrozen_27 : decode cX8_isFrozen 27 = .ok (.iconst 1, 1) := dk_4 (dk_at dksX8_isFrozen_1 3 rfl rfl)
theorem dX8_isFrozen_28 : decode cX8_isFrozen 28 = .ok (.goto 4, 3) := dk_167 0 4 (dk_at dksX8_isFrozen_1 4 rfl rfl)
theorem dX8_isFrozen_31 : decode cX8_isFrozen 31 = .ok (.iconst 0, 1) := dk_3 (dk_at dksX8_isFrozen_1 7 rfl rfl)
theorem dX8_isFrozen_32 : decode cX8_isFrozen 32 = .ok (.ireturn, 1) := dk_172 (dk_at dksX8_isFrozen_1 8 rfl rfl)
abbrev cX8_groundOf : ByteArray := prog_16_method_8_code
def yX8_groundOf : MethodName := ⟨RX8, "groundOf", "(II)I"⟩
def dkwX8_groundOf_0 : List UInt8 := [42, 180, 0, 13, 16, 20, 7, 42, 180, 0, 13, 16, 48, 27, 96, 46, 104, 96, 28, 96, 46, 172]
abbrev dktX8_groundOf_0 : List UInt8 := dkwX8_groundOf_0 ++ []
theorem dksX8_groundOf_0 : cX8_groundOf.data.toList.drop 0 = dktX8_groundOf_0 := by decide +kernel
theorem dX8_groundOf_0 : decode cX8_groundOf 0 = .ok (.aload_n 0, 1) := dk_42 (dk_at dksX8_groundOf_0 0 rfl rfl)
theorem dX8_groundOf_1 : decode cX8_groundOf 1 = .ok (.getfield 13, 3) := dk_180 0 13 (dk_at dksX8_groundOf_0 1 rfl rfl)
theorem dX8_groundOf_4 : decode cX8_groundOf 4 = .ok (.bipush 20, 2) := dk_16 20 (dk_at dksX8_groundOf_0 4 rfl rfl)
theorem dX8_groundOf_6 : decode cX8_groundOf 6 = .ok (.iconst 4, 1) := dk_7 (dk_at dksX8_groundOf_0 6 rfl rfl)
theorem dX8_groundOf_7 : decode cX8_groundOf 7 = .ok (.aload_n 0, 1) := dk_42 (dk_at dksX8_groundOf_0 7 rfl rfl)
theorem dX8_groundOf_8 : decode cX8_groundOf 8 = .ok (.getfield 13, 3) := dk_180 0 13 (dk_at dksX8_groundOf_0 8 rfl rfl)
theorem dX8_groundOf_11 : decode cX8_groundOf 11 = .ok (.bipush 48, 2) := dk_16 48 (dk_at dksX8_groundOf_0 11 rfl rfl)
theorem dX8_groundOf_13 : decode cX8_groundOf 13 = .ok (.iload_n 1, 1) := dk_27 (dk_at dksX8_groundOf_0 13 rfl rfl)
theorem dX8_groundOf_14 : decode cX8_groundOf 14 = .ok (.iadd, 1) := dk_96 (dk_at dksX8_groundOf_0 14 rfl rfl)
theorem dX8_groundOf_15 : decode cX8_groundOf 15 = .ok (.iaload, 1) := dk_46 (dk_at dksX8_groundOf_0 15 rfl rfl)
theorem dX8_groundOf_16 : decode cX8_groundOf 16 = .ok (.imul, 1) := dk_104 (dk_at dksX8_groundOf_0 16 rfl rfl)
theorem dX8_groundOf_17 : decode cX8_groundOf 17 = .ok (.iadd, 1) := dk_96 (dk_at dksX8_groundOf_0 17 rfl rfl)
theorem dX8_groundOf_18 : decode cX8_groundOf 18 = .ok (.iload_n 2, 1) := dk_28 (dk_at dksX8_groundOf_0 18 rfl rfl)
theorem dX8_groundOf_19 : decode cX8_groundOf 19 = .ok (.iadd, 1) := dk_96 (dk_at dksX8_groundOf_0 19 rfl rfl)
theorem dX8_groundOf_20 : decode cX8_groundOf 20 = .ok (.iaload, 1) := dk_46 (dk_at dksX8_groundOf_0 20 rfl rfl)
theorem dX8_groundOf_21 : decode cX8_groundOf 21 = .ok (.ireturn, 1) := dk_172 (dk_at dksX8_groundOf_0 21 rfl rfl)
abbrev cX8_streams : ByteArray := prog_16_method_45_code
def yX8_streams : MethodName := ⟨RX8, "streams", "(I)V"⟩
def dkwX8_streams_5 : List UInt8 := [96, 79, 177]
abbrev dktX8_streams_5 : List UInt8 := dkwX8_streams_5 ++ []
def dkwX8_streams_4 : List UInt8 := [108, 54, 4, 42, 180, 0, 46, 27, 92, 46, 21, 4, 96, 79, 42, 180, 0, 13, 16, 16, 92, 46, 21, 4]
abbrev dktX8_streams_4 : List UInt8 := dkwX8_streams_4 ++ dktX8_streams_5
def dkwX8_streams_3 : List UInt8 := [180, 0, 13, 17, 0, 192, 29, 96, 46, 42, 180, 0, 13, 17, 0, 192, 27, 96, 46, 100, 28, 104, 16, 100]
abbrev dktX8_streams_3 : List UInt8 := dkwX8_streams_3 ++ dktX8_streams_4
def dkwX8_streams_2 : List UInt8 := [29, 182, 0, 102, 153, 0, 4, 177, 29, 2, 160, 0, 12, 42, 180, 0, 13, 8, 46, 167, 0, 13, 42]
abbrev dktX8_streams_2 : List UInt8 := dkwX8_streams_2 ++ dktX8_streams_3
def dkwX8_streams_1 : List UInt8 := [153, 0, 4, 177, 27, 4, 184, 1, 48, 62, 29, 2, 159, 0, 20, 42, 29, 182, 1, 45, 154, 0, 11, 42]
abbrev dktX8_streams_1 : List UInt8 := dkwX8_streams_1 ++ dktX8_streams_2
def dkwX8_streams_0 : List UInt8 := [42, 180, 0, 13, 16, 36, 27, 16, 12, 108, 96, 46, 61, 28, 153, 0, 11, 42, 27, 182, 1, 45]
abbrev dktX8_streams_0 : List UInt8 := dkwX8_streams_0 ++ dktX8_streams_1
theorem dksX8_streams_0 : cX8_streams.data.toList.drop 0 = dktX8_streams_0 := by decide +kernel
theorem dksX8_streams_1 : cX8_streams.data.toList.drop 22 = dktX8_streams_1 := dk_seg dksX8_streams_0 22 rfl rfl
theorem dksX8_streams_2 : cX8_streams.data.toList.drop 46 = dktX8_streams_2 := dk_seg dksX8_streams_1 24 rfl rfl
theorem dksX8_streams_3 : cX8_streams.data.toList.drop 69 = dktX8_streams_3 := dk_seg dksX8_streams_2 23 rfl rfl
theorem dksX8_streams_4 : cX8_streams.data.toList.drop 93 = dktX8_streams_4 := dk_seg dksX8_streams_3 24 rfl rfl
theorem dksX8_streams_5 : cX8_streams.data.toList.drop 117 = dktX8_streams_5 := dk_seg dksX8_streams_4 24 rfl rfl
theorem dX8_streams_0 : decode cX8_streams 0 = .ok (.aload_n 0, 1) := dk_42 (dk_at dksX8_streams_0 0 rfl rfl)
theorem dX8_streams_1 : decode cX8_streams 1 = .ok (.getfield 13, 3) := dk_180 0 13 (dk_at dksX8_streams_0 1 rfl rfl)
theorem dX8_streams_4 : decode cX8_streams 4 = .ok (.bipush 36, 2) := dk_16 36 (dk_at dksX8_streams_0 4 rfl rfl)
theorem dX8_streams_6 : decode cX8_streams 6 = .ok (.iload_n 1, 1) := dk_27 (dk_at dksX8_streams_0 6 rfl rfl)
theorem dX8_streams_7 : decode cX8_streams 7 = .ok (.bipush 12, 2) := dk_16 12 (dk_at dksX8_streams_0 7 rfl rfl)
theorem dX8_streams_9 : decode cX8_streams 9 = .ok (.idiv, 1) := dk_108 (dk_at dksX8_streams_0 9 rfl rfl)
theorem dX8_streams_10 : decode cX8_streams 10 = .ok (.iadd, 1) := dk_96 (dk_at dksX8_streams_0 10 rfl rfl)
theorem dX8_streams_11 : decode cX8_streams 11 = .ok (.iaload, 1) := dk_46 (dk_at dksX8_streams_0 11 rfl rfl)
theorem dX8_streams_12 : decode cX8_streams 12 = .ok (.istore_n 2, 1) := dk_61 (dk_at dksX8_streams_0 12 rfl rfl)
theorem dX8_streams_13 : decode cX8_streams 13 = .ok (.iload_n 2, 1) := dk_28 (dk_at dksX8_streams_0 13 rfl rfl)
theorem dX8_streams_14 : decode cX8_streams 14 = .ok (.ifCond .eq 11, 3) := dk_153 0 11 (dk_at dksX8_streams_0 14 rfl rfl)
theorem dX8_streams_17 : decode cX8_streams 17 = .ok (.aload_n 0, 1) := dk_42 (dk_at dksX8_streams_0 17 rfl rfl)
theorem dX8_streams_18 : decode cX8_streams 18 = .ok (.iload_n 1, 1) := dk_27 (dk_at dksX8_streams_0 18 rfl rfl)
theorem dX8_streams_19 : decode cX8_streams 19 = .ok (.invokevirtual 301, 3) := dk_182 1 45 (dk_at dksX8_streams_0 19 rfl rfl)
theorem dX8_streams_22 : decode cX8_streams 22 = .ok (.ifCond .eq 4, 3) := dk_153 0 4 (dk_at dksX8_streams_1 0 rfl rfl)
theorem dX8_streams_25 : decode cX8_streams 25 = .ok (.return_, 1) := dk_177 (dk_at dksX8_streams_1 3 rfl rfl)
theorem dX8_streams_26 : decode cX8_streams 26 = .ok (.iload_n 1, 1) := dk_27 (dk_at dksX8_streams_1 4 rfl rfl)
theorem dX8_streams_27 : decode cX8_streams 27 = .ok (.iconst 1, 1) := dk_4 (dk_at dksX8_streams_1 5 rfl rfl)
theorem dX8_streams_28 : decode cX8_streams 28 = .ok (.invokestatic 304, 3) := dk_184 1 48 (dk_at dksX8_streams_1 6 rfl rfl)
theorem dX8_streams_31 : decode cX8_streams 31 = .ok (.istore_n 3, 1) := dk_62 (dk_at dksX8_streams_1 9 rfl rfl)
theorem dX8_streams_32 : decode cX8_streams 32 = .ok (.iload_n 3, 1) := dk_29 (dk_at dksX8_streams_1 10 rfl rfl)
theorem dX8_streams_33 : decode cX8_streams 33 = .ok (.iconst (-1), 1) := dk_2 (dk_at dksX8_streams_1 11 rfl rfl)
theorem dX8_streams_34 : decode cX8_streams 34 = .ok (.if_icmp .eq 20, 3) := dk_159 0 20 (dk_at dksX8_streams_1 12 rfl rfl)
theorem dX8_streams_37 : decode cX8_streams 37 = .ok (.aload_n 0, 1) := dk_42 (dk_at dksX8_streams_1 15 rfl rfl)
theorem dX8_streams_38 : decode cX8_streams 38 = .ok (.iload_n 3, 1) := dk_29 (dk_at dksX8_streams_1 16 rfl rfl)
theorem dX8_streams_39 : decode cX8_streams 39 = .ok (.invokevirtual 301, 3) := dk_182 1 45 (dk_at dksX8_streams_1 17 rfl rfl)
theorem dX8_streams_42 : decode cX8_streams 42 = .ok (.ifCond .ne 11, 3) := dk_154 0 11 (dk_at dksX8_streams_1 20 rfl rfl)
theorem dX8_streams_45 : decode cX8_streams 45 = .ok (.aload_n 0, 1) := dk_42 (dk_at dksX8_streams_1 23 rfl rfl)
theorem dX8_streams_46 : decode cX8_streams 46 = .ok (.iload_n 3, 1) := dk_29 (dk_at dksX8_streams_2 0 rfl rfl)
theorem dX8_streams_47 : decode cX8_streams 47 = .ok (.invokevirtual 102, 3) := dk_182 0 102 (dk_at dksX8_streams_2 1 rfl rfl)
theorem dX8_streams_50 : decode cX8_streams 50 = .ok (.ifCond .eq 4, 3) := dk_153 0 4 (dk_at dksX8_streams_2 4 rfl rfl)
theorem dX8_streams_53 : decode cX8_streams 53 = .ok (.return_, 1) := dk_177 (dk_at dksX8_streams_2 7 rfl rfl)
theorem dX8_streams_54 : decode cX8_streams 54 = .ok (.iload_n 3, 1) := dk_29 (dk_at dksX8_streams_2 8 rfl rfl)
theorem dX8_streams_55 : decode cX8_streams 55 = .ok (.iconst (-1), 1) := dk_2 (dk_at dksX8_streams_2 9 rfl rfl)
theorem dX8_streams_56 : decode cX8_streams 56 = .ok (.if_icmp .ne 12, 3) := dk_160 0 12 (dk_at dksX8_streams_2 10 rfl rfl)
theorem dX8_streams_59 : decode cX8_streams 59 = .ok (.aload_n 0, 1) := dk_42 (dk_at dksX8_streams_2 13 rfl rfl)
theorem dX8_streams_60 : decode cX8_streams 60 = .ok (.getfield 13, 3) := dk_180 0 13 (dk_at dksX8_streams_2 14 rfl rfl)
theorem dX8_streams_63 : decode cX8_streams 63 = .ok (.iconst 5, 1) := dk_8 (dk_at dksX8_streams_2 17 rfl rfl)
theorem dX8_streams_64 : decode cX8_streams 64 = .ok (.iaload, 1) := dk_46 (dk_at dksX8_streams_2 18 rfl rfl)
theorem dX8_streams_65 : decode cX8_streams 65 = .ok (.goto 13, 3) := dk_167 0 13 (dk_at dksX8_streams_2 19 rfl rfl)
theorem dX8_streams_68 : decode cX8_streams 68 = .ok (.aload_n 0, 1) := dk_42 (dk_at dksX8_streams_2 22 rfl rfl)
theorem dX8_streams_69 : decode cX8_streams 69 = .ok (.getfield 13, 3) := dk_180 0 13 (dk_at dksX8_streams_3 0 rfl rfl)
theorem dX8_streams_72 : decode cX8_streams 72 = .ok (.sipush 192, 3) := dk_17 0 192 (dk_at dksX8_streams_3 3 rfl rfl)
theorem dX8_streams_75 : decode cX8_streams 75 = .ok (.iload_n 3, 1) := dk_29 (dk_at dksX8_streams_3 6 rfl rfl)
theorem dX8_streams_76 : decode cX8_streams 76 = .ok (.iadd, 1) := dk_96 (dk_at dksX8_streams_3 7 rfl rfl)
theorem dX8_streams_77 : decode cX8_streams 77 = .ok (.iaload, 1) := dk_46 (dk_at dksX8_streams_3 8 rfl rfl)
theorem dX8_streams_78 : decode cX8_streams 78 = .ok (.aload_n 0, 1) := dk_42 (dk_at dksX8_streams_3 9 rfl rfl)
theorem dX8_streams_79 : decode cX8_streams 79 = .ok (.getfield 13, 3) := dk_180 0 13 (dk_at dksX8_streams_3 10 rfl rfl)
theorem dX8_streams_82 : decode cX8_streams 82 = .ok (.sipush 192, 3) := dk_17 0 192 (dk_at dksX8_streams_3 13 rfl rfl)
theorem dX8_streams_85 : decode cX8_streams 85 = .ok (.iload_n 1, 1) := dk_27 (dk_at dksX8_streams_3 16 rfl rfl)
theorem dX8_streams_86 : decode cX8_streams 86 = .ok (.iadd, 1) := dk_96 (dk_at dksX8_streams_3 17 rfl rfl)
theorem dX8_streams_87 : decode cX8_streams 87 = .ok (.iaload, 1) := dk_46 (dk_at dksX8_streams_3 18 rfl rfl)
theorem dX8_streams_88 : decode cX8_streams 88 = .ok (.isub, 1) := dk_100 (dk_at dksX8_streams_3 19 rfl rfl)
theorem dX8_streams_89 : decode cX8_streams 89 = .ok (.iload_n 2, 1) := dk_28 (dk_at dksX8_streams_3 20 rfl rfl)
theorem dX8_streams_90 : decode cX8_streams 90 = .ok (.imul, 1) := dk_104 (dk_at dksX8_streams_3 21 rfl rfl)
theorem dX8_streams_91 : decode cX8_streams 91 = .ok (.bipush 100, 2) := dk_16 100 (dk_at dksX8_streams_3 22 rfl rfl)
theorem dX8_streams_93 : decode cX8_streams 93 = .ok (.idiv, 1) := dk_108 (dk_at dksX8_streams_4 0 rfl rfl)
theorem dX8_streams_94 : decode cX8_streams 94 = .ok (.istore 4, 2) := dk_54 4 (dk_at dksX8_streams_4 1 rfl rfl)
theorem dX8_streams_96 : decode cX8_streams 96 = .ok (.aload_n 0, 1) := dk_42 (dk_at dksX8_streams_4 3 rfl rfl)
theorem dX8_streams_97 : decode cX8_streams 97 = .ok (.getfield 46, 3) := dk_180 0 46 (dk_at dksX8_streams_4 4 rfl rfl)
theorem dX8_streams_100 : decode cX8_streams 100 = .ok (.iload_n 1, 1) := dk_27 (dk_at dksX8_streams_4 7 rfl rfl)
theorem dX8_streams_101 : decode cX8_streams 101 = .ok (.dup2, 1) := dk_92 (dk_at dksX8_streams_4 8 rfl rfl)
theorem dX8_streams_102 : decode cX8_streams 102 = .ok (.iaload, 1) := dk_46 (dk_at dksX8_streams_4 9 rfl rfl)
theorem dX8_streams_103 : decode cX8_streams 103 = .ok (.iload 4, 2) := dk_21 4 (dk_at dksX8_streams_4 10 rfl rfl)
theorem dX8_streams_105 : decode cX8_streams 105 = .ok (.iadd, 1) := dk_96 (dk_at dksX8_streams_4 12 rfl rfl)
theorem dX8_streams_106 : decode cX8_streams 106 = .ok (.iastore, 1) := dk_79 (dk_at dksX8_streams_4 13 rfl rfl)
theorem dX8_streams_107 : decode cX8_streams 107 = .ok (.aload_n 0, 1) := dk_42 (dk_at dksX8_streams_4 14 rfl rfl)
theorem dX8_streams_108 : decode cX8_streams 108 = .ok (.getfield 13, 3) := dk_180 0 13 (dk_at dksX8_streams_4 15 rfl rfl)
theorem dX8_streams_111 : decode cX8_streams 111 = .ok (.bipush 16, 2) := dk_16 16 (dk_at dksX8_streams_4 18 rfl rfl)
theorem dX8_streams_113 : decode cX8_streams 113 = .ok (.dup2, 1) := dk_92 (dk_at dksX8_streams_4 20 rfl rfl)
theorem dX8_streams_114 : decode cX8_streams 114 = .ok (.iaload, 1) := dk_46 (dk_at dksX8_streams_4 21 rfl rfl)
theorem dX8_streams_115 : decode cX8_streams 115 = .ok (.iload 4, 2) := dk_21 4 (dk_at dksX8_streams_4 22 rfl rfl)
theorem dX8_streams_117 : decode cX8_streams 117 = .ok (.iadd, 1) := dk_96 (dk_at dksX8_streams_5 0 rfl rfl)
theorem dX8_streams_118 : decode cX8_streams 118 = .ok (.iastore, 1) := dk_79 (dk_at dksX8_streams_5 1 rfl rfl)
theorem dX8_streams_119 : decode cX8_streams 119 = .ok (.return_, 1) := dk_177 (dk_at dksX8_streams_5 2 rfl rfl)
abbrev cX8_pipes : ByteArray := prog_16_method_46_code
def yX8_pipes : MethodName := ⟨RX8, "pipes", "()V"⟩
def dkwX8_pipes_11 : List UInt8 := [79, 42, 180, 0, 13, 16, 14, 92, 46, 21, 5, 96, 79, 132, 3, 1, 167, 255, 136, 177]
abbrev dktX8_pipes_11 : List UInt8 := dkwX8_pipes_11 ++ []
def dkwX8_pipes_10 : List UInt8 := [42, 180, 0, 13, 21, 4, 7, 96, 21, 5, 79, 42, 180, 0, 13, 21, 4, 8, 96, 92, 46, 21, 5, 96]
abbrev dktX8_pipes_10 : List UInt8 := dkwX8_pipes_10 ++ dktX8_pipes_11
def dkwX8_pipes_9 : List UInt8 := [180, 0, 49, 29, 46, 54, 5, 42, 180, 0, 46, 42, 180, 0, 13, 21, 4, 46, 92, 46, 21, 5, 100, 79]
abbrev dktX8_pipes_9 : List UInt8 := dkwX8_pipes_9 ++ dktX8_pipes_10
def dkwX8_pipes_8 : List UInt8 := [180, 0, 49, 29, 46, 133, 42, 180, 0, 13, 16, 6, 46, 133, 105, 31, 109, 136, 167, 0, 9, 42]
abbrev dktX8_pipes_8 : List UInt8 := dkwX8_pipes_8 ++ dktX8_pipes_9
def dkwX8_pipes_7 : List UInt8 := [17, 2, 112, 16, 6, 29, 104, 96, 54, 4, 31, 42, 180, 0, 13, 16, 6, 46, 133, 148, 158, 0, 25, 42]
abbrev dktX8_pipes_7 : List UInt8 := dkwX8_pipes_7 ++ dktX8_pipes_8
def dkwX8_pipes_6 : List UInt8 := [46, 133, 97, 64, 132, 3, 1, 167, 255, 113, 3, 62, 29, 42, 180, 0, 13, 5, 46, 162, 0, 116]
abbrev dktX8_pipes_6 : List UInt8 := dkwX8_pipes_6 ++ dktX8_pipes_7
def dkwX8_pipes_5 : List UInt8 := [42, 180, 0, 13, 21, 4, 5, 96, 46, 104, 16, 100, 108, 167, 0, 4, 3, 79, 31, 42, 180, 0, 49, 29]
abbrev dktX8_pipes_5 : List UInt8 := dkwX8_pipes_5 ++ dktX8_pipes_6
def dkwX8_pipes_4 : List UInt8 := [153, 0, 40, 42, 180, 0, 13, 17, 0, 192, 21, 5, 96, 46, 42, 180, 0, 13, 21, 4, 4, 96, 46, 100]
abbrev dktX8_pipes_4 : List UInt8 := dkwX8_pipes_4 ++ dktX8_pipes_5
def dkwX8_pipes_3 : List UInt8 := [21, 4, 4, 96, 46, 164, 0, 7, 4, 167, 0, 4, 3, 54, 6, 42, 180, 0, 49, 29, 21, 6]
abbrev dktX8_pipes_3 : List UInt8 := dkwX8_pipes_3 ++ dktX8_pipes_4
def dkwX8_pipes_2 : List UInt8 := [21, 5, 182, 0, 102, 154, 0, 30, 42, 180, 0, 13, 17, 0, 192, 21, 5, 96, 46, 42, 180, 0, 13]
abbrev dktX8_pipes_2 : List UInt8 := dkwX8_pipes_2 ++ dktX8_pipes_3
def dkwX8_pipes_1 : List UInt8 := [42, 180, 0, 13, 21, 4, 46, 54, 5, 42, 180, 0, 13, 21, 4, 6, 96, 46, 4, 160, 0, 39, 42]
abbrev dktX8_pipes_1 : List UInt8 := dkwX8_pipes_1 ++ dktX8_pipes_2
def dkwX8_pipes_0 : List UInt8 := [9, 64, 3, 62, 29, 42, 180, 0, 13, 5, 46, 162, 0, 139, 17, 2, 112, 16, 6, 29, 104, 96, 54, 4]
abbrev dktX8_pipes_0 : List UInt8 := dkwX8_pipes_0 ++ dktX8_pipes_1
theorem dksX8_pipes_0 : cX8_pipes.data.toList.drop 0 = dktX8_pipes_0 := by decide +kernel
theorem dksX8_pipes_1 : cX8_pipes.data.toList.drop 24 = dktX8_pipes_1 := dk_seg dksX8_pipes_0 24 rfl rfl
theorem dksX8_pipes_2 : cX8_pipes.data.toList.drop 47 = dktX8_pipes_2 := dk_seg dksX8_pipes_1 23 rfl rfl
theorem dksX8_pipes_3 : cX8_pipes.data.toList.drop 70 = dktX8_pipes_3 := dk_seg dksX8_pipes_2 23 rfl rfl
theorem dksX8_pipes_4 : cX8_pipes.data.toList.drop 92 = dktX8_pipes_4 := dk_seg dksX8_pipes_3 22 rfl rfl
theorem dksX8_pipes_5 : cX8_pipes.data.toList.drop 116 = dktX8_pipes_5 := dk_seg dksX8_pipes_4 24 rfl rfl
theorem dksX8_pipes_6 : cX8_pipes.data.toList.drop 140 = dktX8_pipes_6 := dk_seg dksX8_pipes_5 24 rfl rfl
theorem dksX8_pipes_7 : cX8_pipes.data.toList.drop 162 = dktX8_pipes_7 := dk_seg dksX8_pipes_6 22 rfl rfl
theorem dksX8_pipes_8 : cX8_pipes.data.toList.drop 186 = dktX8_pipes_8 := dk_seg dksX8_pipes_7 24 rfl rfl
theorem dksX8_pipes_9 : cX8_pipes.data.toList.drop 208 = dktX8_pipes_9 := dk_seg dksX8_pipes_8 22 rfl rfl
theorem dksX8_pipes_10 : cX8_pipes.data.toList.drop 232 = dktX8_pipes_10 := dk_seg dksX8_pipes_9 24 rfl rfl
theorem dksX8_pipes_11 : cX8_pipes.data.toList.drop 256 = dktX8_pipes_11 := dk_seg dksX8_pipes_10 24 rfl rfl
theorem dX8_pipes_0 : decode cX8_pipes 0 = .ok (.lconst 0, 1) := dk_9 (dk_at dksX8_pipes_0 0 rfl rfl)
theorem dX8_pipes_1 : decode cX8_pipes 1 = .ok (.lstore_n 1, 1) := dk_64 (dk_at dksX8_pipes_0 1 rfl rfl)
theorem dX8_pipes_2 : decode cX8_pipes 2 = .ok (.iconst 0, 1) := dk_3 (dk_at dksX8_pipes_0 2 rfl rfl)
theorem dX8_pipes_3 : decode cX8_pipes 3 = .ok (.istore_n 3, 1) := dk_62 (dk_at dksX8_pipes_0 3 rfl rfl)
theorem dX8_pipes_4 : decode cX8_pipes 4 = .ok (.iload_n 3, 1) := dk_29 (dk_at dksX8_pipes_0 4 rfl rfl)
theorem dX8_pipes_5 : decode cX8_pipes 5 = .ok (.aload_n 0, 1) := dk_42 (dk_at dksX8_pipes_0 5 rfl rfl)
theorem dX8_pipes_6 : decode cX8_pipes 6 = .ok (.getfield 13, 3) := dk_180 0 13 (dk_at dksX8_pipes_0 6 rfl rfl)
theorem dX8_pipes_9 : decode cX8_pipes 9 = .ok (.iconst 2, 1) := dk_5 (dk_at dksX8_pipes_0 9 rfl rfl)
theorem dX8_pipes_10 : decode cX8_pipes 10 = .ok (.iaload, 1) := dk_46 (dk_at dksX8_pipes_0 10 rfl rfl)
theorem dX8_pipes_11 : decode cX8_pipes 11 = .ok (.if_icmp .ge 139, 3) := dk_162 0 139 (dk_at dksX8_pipes_0 11 rfl rfl)
theorem dX8_pipes_14 : decode cX8_pipes 14 = .ok (.sipush 624, 3) := dk_17 2 112 (dk_at dksX8_pipes_0 14 rfl rfl)
theorem dX8_pipes_17 : decode cX8_pipes 17 = .ok (.bipush 6, 2) := dk_16 6 (dk_at dksX8_pipes_0 17 rfl rfl)
theorem dX8_pipes_19 : decode cX8_pipes 19 = .ok (.iload_n 3, 1) := dk_29 (dk_at dksX8_pipes_0 19 rfl rfl)
theorem dX8_pipes_20 : decode cX8_pipes 20 = .ok (.imul, 1) := dk_104 (dk_at dksX8_pipes_0 20 rfl rfl)
theorem dX8_pipes_21 : decode cX8_pipes 21 = .ok (.iadd, 1) := dk_96 (dk_at dksX8_pipes_0 21 rfl rfl)
theorem dX8_pipes_22 : decode cX8_pipes 22 = .ok (.istore 4, 2) := dk_54 4 (dk_at dksX8_pipes_0 22 rfl rfl)
theorem dX8_pipes_24 : decode cX8_pipes 24 = .ok (.aload_n 0, 1) := dk_42 (dk_at dksX8_pipes_1 0 rfl rfl)
theorem dX8_pipes_25 : decode cX8_pipes 25 = .ok (.getfield 13, 3) := dk_180 0 13 (dk_at dksX8_pipes_1 1 rfl rfl)
theorem dX8_pipes_28 : decode cX8_pipes 28 = .ok (.iload 4, 2) := dk_21 4 (dk_at dksX8_pipes_1 4 rfl rfl)
theorem dX8_pipes_30 : decode cX8_pipes 30 = .ok (.iaload, 1) := dk_46 (dk_at dksX8_pipes_1 6 rfl rfl)
theorem dX8_pipes_31 : decode cX8_pipes 31 = .ok (.istore 5, 2) := dk_54 5 (dk_at dksX8_pipes_1 7 rfl rfl)
theorem dX8_pipes_33 : decode cX8_pipes 33 = .ok (.aload_n 0, 1) := dk_42 (dk_at dksX8_pipes_1 9 rfl rfl)
theorem dX8_pipes_34 : decode cX8_pipes 34 = .ok (.getfield 13, 3) := dk_180 0 13 (dk_at dksX8_pipes_1 10 rfl rfl)
theorem dX8_pipes_37 : decode cX8_pipes 37 = .ok (.iload 4, 2) := dk_21 4 (dk_at dksX8_pipes_1 13 rfl rfl)
theorem dX8_pipes_39 : decode cX8_pipes 39 = .ok (.iconst 3, 1) := dk_6 (dk_at dksX8_pipes_1 15 rfl rfl)
theorem dX8_pipes_40 : decode cX8_pipes 40 = .ok (.iadd, 1) := dk_96 (dk_at dksX8_pipes_1 16 rfl rfl)
theorem dX8_pipes_41 : decode cX8_pipes 41 = .ok (.iaload, 1) := dk_46 (dk_at dksX8_pipes_1 17 rfl rfl)
theorem dX8_pipes_42 : decode cX8_pipes 42 = .ok (.iconst 1, 1) := dk_4 (dk_at dksX8_pipes_1 18 rfl rfl)
theorem dX8_pipes_43 : decode cX8_pipes 43 = .ok (.if_icmp .ne 39, 3) := dk_160 0 39 (dk_at dksX8_pipes_1 19 rfl rfl)
theorem dX8_pipes_46 : decode cX8_pipes 46 = .ok (.aload_n 0, 1) := dk_42 (dk_at dksX8_pipes_1 22 rfl rfl)
theorem dX8_pipes_47 : decode cX8_pipes 47 = .ok (.iload 5, 2) := dk_21 5 (dk_at dksX8_pipes_2 0 rfl rfl)
theorem dX8_pipes_49 : decode cX8_pipes 49 = .ok (.invokevirtual 102, 3) := dk_182 0 102 (dk_at dksX8_pipes_2 2 rfl rfl)
theorem dX8_pipes_52 : decode cX8_pipes 52 = .ok (.ifCond .ne 30, 3) := dk_154 0 30 (dk_at dksX8_pipes_2 5 rfl rfl)
theorem dX8_pipes_55 : decode cX8_pipes 55 = .ok (.aload_n 0, 1) := dk_42 (dk_at dksX8_pipes_2 8 rfl rfl)
theorem dX8_pipes_56 : decode cX8_pipes 56 = .ok (.getfield 13, 3) := dk_180 0 13 (dk_at dksX8_pipes_2 9 rfl rfl)
theorem dX8_pipes_59 : decode cX8_pipes 59 = .ok (.sipush 192, 3) := dk_17 0 192 (dk_at dksX8_pipes_2 12 rfl rfl)
theorem dX8_pipes_62 : decode cX8_pipes 62 = .ok (.iload 5, 2) := dk_21 5 (dk_at dksX8_pipes_2 15 rfl rfl)
theorem dX8_pipes_64 : decode cX8_pipes 64 = .ok (.iadd, 1) := dk_96 (dk_at dksX8_pipes_2 17 rfl rfl)
theorem dX8_pipes_65 : decode cX8_pipes 65 = .ok (.iaload, 1) := dk_46 (dk_at dksX8_pipes_2 18 rfl rfl)
theorem dX8_pipes_66 : decode cX8_pipes 66 = .ok (.aload_n 0, 1) := dk_42 (dk_at dksX8_pipes_2 19 rfl rfl)
theorem dX8_pipes_67 : decode cX8_pipes 67 = .ok (.getfield 13, 3) := dk_180 0 13 (dk_at dksX8_pipes_2 20 rfl rfl)
theorem dX8_pipes_70 : decode cX8_pipes 70 = .ok (.iload 4, 2) := dk_21 4 (dk_at dksX8_pipes_3 0 rfl rfl)
theorem dX8_pipes_72 : decode cX8_pipes 72 = .ok (.iconst 1, 1) := dk_4 (dk_at dksX8_pipes_3 2 rfl rfl)
theorem dX8_pipes_73 : decode cX8_pipes 73 = .ok (.iadd, 1) := dk_96 (dk_at dksX8_pipes_3 3 rfl rfl)
theorem dX8_pipes_74 : decode cX8_pipes 74 = .ok (.iaload, 1) := dk_46 (dk_at dksX8_pipes_3 4 rfl rfl)
theorem dX8_pipes_75 : decode cX8_pipes 75 = .ok (.if_icmp .le 7, 3) := dk_164 0 7 (dk_at dksX8_pipes_3 5 rfl rfl)
theorem dX8_pipes_78 : decode cX8_pipes 78 = .ok (.iconst 1, 1) := dk_4 (dk_at dksX8_pipes_3 8 rfl rfl)
theorem dX8_pipes_79 : decode cX8_pipes 79 = .ok (.goto 4, 3) := dk_167 0 4 (dk_at dksX8_pipes_3 9 rfl rfl)
theorem dX8_pipes_82 : decode cX8_pipes 82 = .ok (.iconst 0, 1) := dk_3 (dk_at dksX8_pipes_3 12 rfl rfl)
theorem dX8_pipes_83 : decode cX8_pipes 83 = .ok (.istore 6, 2) := dk_54 6 (dk_at dksX8_pipes_3 13 rfl rfl)
theorem dX8_pipes_85 : decode cX8_pipes 85 = .ok (.aload_n 0, 1) := dk_42 (dk_at dksX8_pipes_3 15 rfl rfl)
theorem dX8_pipes_86 : decode cX8_pipes 86 = .ok (.getfield 49, 3) := dk_180 0 49 (dk_at dksX8_pipes_3 16 rfl rfl)
theorem dX8_pipes_89 : decode cX8_pipes 89 = .ok (.iload_n 3, 1) := dk_29 (dk_at dksX8_pipes_3 19 rfl rfl)
theorem dX8_pipes_90 : decode cX8_pipes 90 = .ok (.iload 6, 2) := dk_21 6 (dk_at dksX8_pipes_3 20 rfl rfl)
theorem dX8_pipes_92 : decode cX8_pipes 92 = .ok (.ifCond .eq 40, 3) := dk_153 0 40 (dk_at dksX8_pipes_4 0 rfl rfl)
theorem dX8_pipes_95 : decode cX8_pipes 95 = .ok (.aload_n 0, 1) := dk_42 (dk_at dksX8_pipes_4 3 rfl rfl)
theorem dX8_pipes_96 : decode cX8_pipes 96 = .ok (.getfield 13, 3) := dk_180 0 13 (dk_at dksX8_pipes_4 4 rfl rfl)
theorem dX8_pipes_99 : decode cX8_pipes 99 = .ok (.sipush 192, 3) := dk_17 0 192 (dk_at dksX8_pipes_4 7 rfl rfl)
theorem dX8_pipes_102 : decode cX8_pipes 102 = .ok (.iload 5, 2) := dk_21 5 (dk_at dksX8_pipes_4 10 rfl rfl)
theorem dX8_pipes_104 : decode cX8_pipes 104 = .ok (.iadd, 1) := dk_96 (dk_at dksX8_pipes_4 12 rfl rfl)
theorem dX8_pipes_105 : decode cX8_pipes 105 = .ok (.iaload, 1) := dk_46 (dk_at dksX8_pipes_4 13 rfl rfl)
theorem dX8_pipes_106 : decode cX8_pipes 106 = .ok (.aload_n 0, 1) := dk_42 (dk_at dksX8_pipes_4 14 rfl rfl)
theorem dX8_pipes_107 : decode cX8_pipes 107 = .ok (.getfield 13, 3) := dk_180 0 13 (dk_at dksX8_pipes_4 15 rfl rfl)
theorem dX8_pipes_110 : decode cX8_pipes 110 = .ok (.iload 4, 2) := dk_21 4 (dk_at dksX8_pipes_4 18 rfl rfl)
theorem dX8_pipes_112 : decode cX8_pipes 112 = .ok (.iconst 1, 1) := dk_4 (dk_at dksX8_pipes_4 20 rfl rfl)
theorem dX8_pipes_113 : decode cX8_pipes 113 = .ok (.iadd, 1) := dk_96 (dk_at dksX8_pipes_4 21 rfl rfl)
theorem dX8_pipes_114 : decode cX8_pipes 114 = .ok (.iaload, 1) := dk_46 (dk_at dksX8_pipes_4 22 rfl rfl)
theorem dX8_pipes_115 : decode cX8_pipes 115 = .ok (.isub, 1) := dk_100 (dk_at dksX8_pipes_4 23 rfl rfl)
theorem dX8_pipes_116 : decode cX8_pipes 116 = .ok (.aload_n 0, 1) := dk_42 (dk_at dksX8_pipes_5 0 rfl rfl)
theorem dX8_pipes_117 : decode cX8_pipes 117 = .ok (.getfield 13, 3) := dk_180 0 13 (dk_at dksX8_pipes_5 1 rfl rfl)
theorem dX8_pipes_120 : decode cX8_pipes 120 = .ok (.iload 4, 2) := dk_21 4 (dk_at dksX8_pipes_5 4 rfl rfl)
theorem dX8_pipes_122 : decode cX8_pipes 122 = .ok (.iconst 2, 1) := dk_5 (dk_at dksX8_pipes_5 6 rfl rfl)
theorem dX8_pipes_123 : decode cX8_pipes 123 = .ok (.iadd, 1) := dk_96 (dk_at dksX8_pipes_5 7 rfl rfl)
theorem dX8_pipes_124 : decode cX8_pipes 124 = .ok (.iaload, 1) := dk_46 (dk_at dksX8_pipes_5 8 rfl rfl)
theorem dX8_pipes_125 : decode cX8_pipes 125 = .ok (.imul, 1) := dk_104 (dk_at dksX8_pipes_5 9 rfl rfl)
theorem dX8_pipes_126 : decode cX8_pipes 126 = .ok (.bipush 100, 2) := dk_16 100 (dk_at dksX8_pipes_5 10 rfl rfl)
theorem dX8_pipes_128 : decode cX8_pipes 128 = .ok (.idiv, 1) := dk_108 (dk_at dksX8_pipes_5 12 rfl rfl)
theorem dX8_pipes_129 : decode cX8_pipes 129 = .ok (.goto 4, 3) := dk_167 0 4 (dk_at dksX8_pipes_5 13 rfl rfl)
theorem dX8_pipes_132 : decode cX8_pipes 132 = .ok (.iconst 0, 1) := dk_3 (dk_at dksX8_pipes_5 16 rfl rfl)
theorem dX8_pipes_133 : decode cX8_pipes 133 = .ok (.iastore, 1) := dk_79 (dk_at dksX8_pipes_5 17 rfl rfl)
theorem dX8_pipes_134 : decode cX8_pipes 134 = .ok (.lload_n 1, 1) := dk_31 (dk_at dksX8_pipes_5 18 rfl rfl)
theorem dX8_pipes_135 : decode cX8_pipes 135 = .ok (.aload_n 0, 1) := dk_42 (dk_at dksX8_pipes_5 19 rfl rfl)
theorem dX8_pipes_136 : decode cX8_pipes 136 = .ok (.getfield 49, 3) := dk_180 0 49 (dk_at dksX8_pipes_5 20 rfl rfl)
theorem dX8_pipes_139 : decode cX8_pipes 139 = .ok (.iload_n 3, 1) := dk_29 (dk_at dksX8_pipes_5 23 rfl rfl)
theorem dX8_pipes_140 : decode cX8_pipes 140 = .ok (.iaload, 1) := dk_46 (dk_at dksX8_pipes_6 0 rfl rfl)
theorem dX8_pipes_141 : decode cX8_pipes 141 = .ok (.i2l, 1) := dk_133 (dk_at dksX8_pipes_6 1 rfl rfl)
theorem dX8_pipes_142 : decode cX8_pipes 142 = .ok (.ladd, 1) := dk_97 (dk_at dksX8_pipes_6 2 rfl rfl)
theorem dX8_pipes_143 : decode cX8_pipes 143 = .ok (.lstore_n 1, 1) := dk_64 (dk_at dksX8_pipes_6 3 rfl rfl)
theorem dX8_pipes_144 : decode cX8_pipes 144 = .ok (.iinc 3 1, 3) := dk_132 3 1 (dk_at dksX8_pipes_6 4 rfl rfl)
theorem dX8_pipes_147 : decode cX8_pipes 147 = .ok (.goto (-143), 3) := dk_167 255 113 (dk_at dksX8_pipes_6 7 rfl rfl)
theorem dX8_pipes_150 : decode cX8_pipes 150 = .ok (.iconst 0, 1) := dk_3 (dk_at dksX8_pipes_6 10 rfl rfl)
theorem dX8_pipes_151 : decode cX8_pipes 151 = .ok (.istore_n 3, 1) := dk_62 (dk_at dksX8_pipes_6 11 rfl rfl)
theorem dX8_pipes_152 : decode cX8_pipes 152 = .ok (.iload_n 3, 1) := dk_29 (dk_at dksX8_pipes_6 12 rfl rfl)
theorem dX8_pipes_153 : decode cX8_pipes 153 = .ok (.aload_n 0, 1) := dk_42 (dk_at dksX8_pipes_6 13 rfl rfl)
theorem dX8_pipes_154 : decode cX8_pipes 154 = .ok (.getfield 13, 3) := dk_180 0 13 (dk_at dksX8_pipes_6 14 rfl rfl)
theorem dX8_pipes_157 : decode cX8_pipes 157 = .ok (.iconst 2, 1) := dk_5 (dk_at dksX8_pipes_6 17 rfl rfl)
theorem dX8_pipes_158 : decode cX8_pipes 158 = .ok (.iaload, 1) := dk_46 (dk_at dksX8_pipes_6 18 rfl rfl)
theorem dX8_pipes_159 : decode cX8_pipes 159 = .ok (.if_icmp .ge 116, 3) := dk_162 0 116 (dk_at dksX8_pipes_6 19 rfl rfl)
theorem dX8_pipes_162 : decode cX8_pipes 162 = .ok (.sipush 624, 3) := dk_17 2 112 (dk_at dksX8_pipes_7 0 rfl rfl)
theorem dX8_pipes_165 : decode cX8_pipes 165 = .ok (.bipush 6, 2) := dk_16 6 (dk_at dksX8_pipes_7 3 rfl rfl)
theorem dX8_pipes_167 : decode cX8_pipes 167 = .ok (.iload_n 3, 1) := dk_29 (dk_at dksX8_pipes_7 5 rfl rfl)
theorem dX8_pipes_168 : decode cX8_pipes 168 = .ok (.imul, 1) := dk_104 (dk_at dksX8_pipes_7 6 rfl rfl)
theorem dX8_pipes_169 : decode cX8_pipes 169 = .ok (.iadd, 1) := dk_96 (dk_at dksX8_pipes_7 7 rfl rfl)
theorem dX8_pipes_170 : decode cX8_pipes 170 = .ok (.istore 4, 2) := dk_54 4 (dk_at dksX8_pipes_7 8 rfl rfl)
theorem dX8_pipes_172 : decode cX8_pipes 172 = .ok (.lload_n 1, 1) := dk_31 (dk_at dksX8_pipes_7 10 rfl rfl)
theorem dX8_pipes_173 : decode cX8_pipes 173 = .ok (.aload_n 0, 1) := dk_42 (dk_at dksX8_pipes_7 11 rfl rfl)
theorem dX8_pipes_174 : decode cX8_pipes 174 = .ok (.getfield 13, 3) := dk_180 0 13 (dk_at dksX8_pipes_7 12 rfl rfl)
theorem dX8_pipes_177 : decode cX8_pipes 177 = .ok (.bipush 6, 2) := dk_16 6 (dk_at dksX8_pipes_7 15 rfl rfl)
theorem dX8_pipes_179 : decode cX8_pipes 179 = .ok (.iaload, 1) := dk_46 (dk_at dksX8_pipes_7 17 rfl rfl)
theorem dX8_pipes_180 : decode cX8_pipes 180 = .ok (.i2l, 1) := dk_133 (dk_at dksX8_pipes_7 18 rfl rfl)
theorem dX8_pipes_181 : decode cX8_pipes 181 = .ok (.lcmp, 1) := dk_148 (dk_at dksX8_pipes_7 19 rfl rfl)
theorem dX8_pipes_182 : decode cX8_pipes 182 = .ok (.ifCond .le 25, 3) := dk_158 0 25 (dk_at dksX8_pipes_7 20 rfl rfl)
theorem dX8_pipes_185 : decode cX8_pipes 185 = .ok (.aload_n 0, 1) := dk_42 (dk_at dksX8_pipes_7 23 rfl rfl)
theorem dX8_pipes_186 : decode cX8_pipes 186 = .ok (.getfield 49, 3) := dk_180 0 49 (dk_at dksX8_pipes_8 0 rfl rfl)
theorem dX8_pipes_189 : decode cX8_pipes 189 = .ok (.iload_n 3, 1) := dk_29 (dk_at dksX8_pipes_8 3 rfl rfl)
theorem dX8_pipes_190 : decode cX8_pipes 190 = .ok (.iaload, 1) := dk_46 (dk_at dksX8_pipes_8 4 rfl rfl)
theorem dX8_pipes_191 : decode cX8_pipes 191 = .ok (.i2l, 1) := dk_133 (dk_at dksX8_pipes_8 5 rfl rfl)
theorem dX8_pipes_192 : decode cX8_pipes 192 = .ok (.aload_n 0, 1) := dk_42 (dk_at dksX8_pipes_8 6 rfl rfl)
theorem dX8_pipes_193 : decode cX8_pipes 193 = .ok (.getfield 13, 3) := dk_180 0 13 (dk_at dksX8_pipes_8 7 rfl rfl)
theorem dX8_pipes_196 : decode cX8_pipes 196 = .ok (.bipush 6, 2) := dk_16 6 (dk_at dksX8_pipes_8 10 rfl rfl)
theorem dX8_pipes_198 : decode cX8_pipes 198 = .ok (.iaload, 1) := dk_46 (dk_at dksX8_pipes_8 12 rfl rfl)
theorem dX8_pipes_199 : decode cX8_pipes 199 = .ok (.i2l, 1) := dk_133 (dk_at dksX8_pipes_8 13 rfl rfl)
theorem dX8_pipes_200 : decode cX8_pipes 200 = .ok (.lmul, 1) := dk_105 (dk_at dksX8_pipes_8 14 rfl rfl)
theorem dX8_pipes_201 : decode cX8_pipes 201 = .ok (.lload_n 1, 1) := dk_31 (dk_at dksX8_pipes_8 15 rfl rfl)
theorem dX8_pipes_202 : decode cX8_pipes 202 = .ok (.ldiv, 1) := dk_109 (dk_at dksX8_pipes_8 16 rfl rfl)
theorem dX8_pipes_203 : decode cX8_pipes 203 = .ok (.l2i, 1) := dk_136 (dk_at dksX8_pipes_8 17 rfl rfl)
theorem dX8_pipes_204 : decode cX8_pipes 204 = .ok (.goto 9, 3) := dk_167 0 9 (dk_at dksX8_pipes_8 18 rfl rfl)
theorem dX8_pipes_207 : decode cX8_pipes 207 = .ok (.aload_n 0, 1) := dk_42 (dk_at dksX8_pipes_8 21 rfl rfl)
theorem dX8_pipes_208 : decode cX8_pipes 208 = .ok (.getfield 49, 3) := dk_180 0 49 (dk_at dksX8_pipes_9 0 rfl rfl)
theorem dX8_pipes_211 : decode cX8_pipes 211 = .ok (.iload_n 3, 1) := dk_29 (dk_at dksX8_pipes_9 3 rfl rfl)
theorem dX8_pipes_212 : decode cX8_pipes 212 = .ok (.iaload, 1) := dk_46 (dk_at dksX8_pipes_9 4 rfl rfl)
theorem dX8_pipes_213 : decode cX8_pipes 213 = .ok (.istore 5, 2) := dk_54 5 (dk_at dksX8_pipes_9 5 rfl rfl)
theorem dX8_pipes_215 : decode cX8_pipes 215 = .ok (.aload_n 0, 1) := dk_42 (dk_at dksX8_pipes_9 7 rfl rfl)
theorem dX8_pipes_216 : decode cX8_pipes 216 = .ok (.getfield 46, 3) := dk_180 0 46 (dk_at dksX8_pipes_9 8 rfl rfl)
theorem dX8_pipes_219 : decode cX8_pipes 219 = .ok (.aload_n 0, 1) := dk_42 (dk_at dksX8_pipes_9 11 rfl rfl)
theorem dX8_pipes_220 : decode cX8_pipes 220 = .ok (.getfield 13, 3) := dk_180 0 13 (dk_at dksX8_pipes_9 12 rfl rfl)
theorem dX8_pipes_223 : decode cX8_pipes 223 = .ok (.iload 4, 2) := dk_21 4 (dk_at dksX8_pipes_9 15 rfl rfl)
theorem dX8_pipes_225 : decode cX8_pipes 225 = .ok (.iaload, 1) := dk_46 (dk_at dksX8_pipes_9 17 rfl rfl)
theorem dX8_pipes_226 : decode cX8_pipes 226 = .ok (.dup2, 1) := dk_92 (dk_at dksX8_pipes_9 18 rfl rfl)
theorem dX8_pipes_227 : decode cX8_pipes 227 = .ok (.iaload, 1) := dk_46 (dk_at dksX8_pipes_9 19 rfl rfl)
theorem dX8_pipes_228 : decode cX8_pipes 228 = .ok (.iload 5, 2) := dk_21 5 (dk_at dksX8_pipes_9 20 rfl rfl)
theorem dX8_pipes_230 : decode cX8_pipes 230 = .ok (.isub, 1) := dk_100 (dk_at dksX8_pipes_9 22 rfl rfl)
theorem dX8_pipes_231 : decode cX8_pipes 231 = .ok (.iastore, 1) := dk_79 (dk_at dksX8_pipes_9 23 rfl rfl)
theorem dX8_pipes_232 : decode cX8_pipes 232 = .ok (.aload_n 0, 1) := dk_42 (dk_at dksX8_pipes_10 0 rfl rfl)
theorem dX8_pipes_233 : decode cX8_pipes 233 = .ok (.getfield 13, 3) := dk_180 0 13 (dk_at dksX8_pipes_10 1 rfl rfl)
theorem dX8_pipes_236 : decode cX8_pipes 236 = .ok (.iload 4, 2) := dk_21 4 (dk_at dksX8_pipes_10 4 rfl rfl)
theorem dX8_pipes_238 : decode cX8_pipes 238 = .ok (.iconst 4, 1) := dk_7 (dk_at dksX8_pipes_10 6 rfl rfl)
theorem dX8_pipes_239 : decode cX8_pipes 239 = .ok (.iadd, 1) := dk_96 (dk_at dksX8_pipes_10 7 rfl rfl)
theorem dX8_pipes_240 : decode cX8_pipes 240 = .ok (.iload 5, 2) := dk_21 5 (dk_at dksX8_pipes_10 8 rfl rfl)
theorem dX8_pipes_242 : decode cX8_pipes 242 = .ok (.iastore, 1) := dk_79 (dk_at dksX8_pipes_10 10 rfl rfl)
theorem dX8_pipes_243 : decode cX8_pipes 243 = .ok (.aload_n 0, 1) := dk_42 (dk_at dksX8_pipes_10 11 rfl rfl)
theorem dX8_pipes_244 : decode cX8_pipes 244 = .ok (.getfield 13, 3) := dk_180 0 13 (dk_at dksX8_pipes_10 12 rfl rfl)
theorem dX8_pipes_247 : decode cX8_pipes 247 = .ok (.iload 4, 2) := dk_21 4 (dk_at dksX8_pipes_10 15 rfl rfl)
theorem dX8_pipes_249 : decode cX8_pipes 249 = .ok (.iconst 5, 1) := dk_8 (dk_at dksX8_pipes_10 17 rfl rfl)
theorem dX8_pipes_250 : decode cX8_pipes 250 = .ok (.iadd, 1) := dk_96 (dk_at dksX8_pipes_10 18 rfl rfl)
theorem dX8_pipes_251 : decode cX8_pipes 251 = .ok (.dup2, 1) := dk_92 (dk_at dksX8_pipes_10 19 rfl rfl)
theorem dX8_pipes_252 : decode cX8_pipes 252 = .ok (.iaload, 1) := dk_46 (dk_at dksX8_pipes_10 20 rfl rfl)
theorem dX8_pipes_253 : decode cX8_pipes 253 = .ok (.iload 5, 2) := dk_21 5 (dk_at dksX8_pipes_10 21 rfl rfl)
theorem dX8_pipes_255 : decode cX8_pipes 255 = .ok (.iadd, 1) := dk_96 (dk_at dksX8_pipes_10 23 rfl rfl)
theorem dX8_pipes_256 : decode cX8_pipes 256 = .ok (.iastore, 1) := dk_79 (dk_at dksX8_pipes_11 0 rfl rfl)
theorem dX8_pipes_257 : decode cX8_pipes 257 = .ok (.aload_n 0, 1) := dk_42 (dk_at dksX8_pipes_11 1 rfl rfl)
theorem dX8_pipes_258 : decode cX8_pipes 258 = .ok (.getfield 13, 3) := dk_180 0 13 (dk_at dksX8_pipes_11 2 rfl rfl)
theorem dX8_pipes_261 : decode cX8_pipes 261 = .ok (.bipush 14, 2) := dk_16 14 (dk_at dksX8_pipes_11 5 rfl rfl)
theorem dX8_pipes_263 : decode cX8_pipes 263 = .ok (.dup2, 1) := dk_92 (dk_at dksX8_pipes_11 7 rfl rfl)
theorem dX8_pipes_264 : decode cX8_pipes 264 = .ok (.iaload, 1) := dk_46 (dk_at dksX8_pipes_11 8 rfl rfl)
theorem dX8_pipes_265 : decode cX8_pipes 265 = .ok (.iload 5, 2) := dk_21 5 (dk_at dksX8_pipes_11 9 rfl rfl)
theorem dX8_pipes_267 : decode cX8_pipes 267 = .ok (.iadd, 1) := dk_96 (dk_at dksX8_pipes_11 11 rfl rfl)
theorem dX8_pipes_268 : decode cX8_pipes 268 = .ok (.iastore, 1) := dk_79 (dk_at dksX8_pipes_11 12 rfl rfl)
theorem dX8_pipes_269 : decode cX8_pipes 269 = .ok (.iinc 3 1, 3) := dk_132 3 1 (dk_at dksX8_pipes_11 13 rfl rfl)
theorem dX8_pipes_272 : decode cX8_pipes 272 = .ok (.goto (-120), 3) := dk_167 255 136 (dk_at dksX8_pipes_11 16 rfl rfl)
theorem dX8_pipes_275 : decode cX8_pipes 275 = .ok (.return_, 1) := dk_177 (dk_at dksX8_pipes_11 19 rfl rfl)
abbrev cX8_does : ByteArray := prog_16_method_47_code
def yX8_does : MethodName := ⟨RX8, "does", "(I)V"⟩
def dkwX8_does_7 : List UInt8 := [17, 0, 192, 27, 96, 92, 46, 29, 21, 5, 100, 96, 79, 177]
abbrev dktX8_does_7 : List UInt8 := dkwX8_does_7 ++ []
def dkwX8_does_6 : List UInt8 := [184, 0, 153, 54, 5, 42, 180, 0, 13, 17, 1, 80, 27, 96, 92, 46, 21, 5, 100, 79, 42, 180, 0, 13]
abbrev dktX8_does_6 : List UInt8 := dkwX8_does_6 ++ dktX8_does_7
def dkwX8_does_5 : List UInt8 := [184, 1, 54, 184, 0, 153, 54, 4, 29, 21, 4, 100, 42, 180, 0, 13, 17, 1, 80, 27, 96, 46]
abbrev dktX8_does_5 : List UInt8 := dkwX8_does_5 ++ dktX8_does_6
def dkwX8_does_4 : List UInt8 := [46, 29, 21, 5, 96, 96, 79, 167, 0, 76, 29, 3, 28, 42, 180, 0, 13, 17, 0, 192, 27, 96, 46, 100]
abbrev dktX8_does_4 : List UInt8 := dkwX8_does_4 ++ dktX8_does_5
def dkwX8_does_3 : List UInt8 := [180, 0, 13, 17, 1, 80, 27, 96, 92, 46, 21, 5, 96, 79, 42, 180, 0, 13, 17, 0, 192, 27, 96, 92]
abbrev dktX8_does_3 : List UInt8 := dkwX8_does_3 ++ dktX8_does_4
def dkwX8_does_2 : List UInt8 := [42, 27, 5, 182, 0, 106, 42, 180, 0, 13, 17, 1, 80, 27, 96, 46, 100, 184, 0, 153, 54, 5, 42]
abbrev dktX8_does_2 : List UInt8 := dkwX8_does_2 ++ dktX8_does_3
def dkwX8_does_1 : List UInt8 := [180, 0, 13, 17, 0, 192, 27, 96, 46, 28, 100, 184, 1, 54, 184, 0, 153, 54, 4, 29, 116, 21, 4, 100]
abbrev dktX8_does_1 : List UInt8 := dkwX8_does_1 ++ dktX8_does_2
def dkwX8_does_0 : List UInt8 := [42, 27, 6, 182, 0, 106, 61, 42, 180, 0, 46, 27, 46, 62, 29, 156, 0, 88, 29, 116, 3, 42]
abbrev dktX8_does_0 : List UInt8 := dkwX8_does_0 ++ dktX8_does_1
theorem dksX8_does_0 : cX8_does.data.toList.drop 0 = dktX8_does_0 := by decide +kernel
theorem dksX8_does_1 : cX8_does.data.toList.drop 22 = dktX8_does_1 := dk_seg dksX8_does_0 22 rfl rfl
theorem dksX8_does_2 : cX8_does.data.toList.drop 46 = dktX8_does_2 := dk_seg dksX8_does_1 24 rfl rfl
theorem dksX8_does_3 : cX8_does.data.toList.drop 69 = dktX8_does_3 := dk_seg dksX8_does_2 23 rfl rfl
theorem dksX8_does_4 : cX8_does.data.toList.drop 93 = dktX8_does_4 := dk_seg dksX8_does_3 24 rfl rfl
theorem dksX8_does_5 : cX8_does.data.toList.drop 117 = dktX8_does_5 := dk_seg dksX8_does_4 24 rfl rfl
theorem dksX8_does_6 : cX8_does.data.toList.drop 139 = dktX8_does_6 := dk_seg dksX8_does_5 22 rfl rfl
theorem dksX8_does_7 : cX8_does.data.toList.drop 163 = dktX8_does_7 := dk_seg dksX8_does_6 24 rfl rfl
theorem dX8_does_0 : decode cX8_does 0 = .ok (.aload_n 0, 1) := dk_42 (dk_at dksX8_does_0 0 rfl rfl)
theorem dX8_does_1 : decode cX8_does 1 = .ok (.iload_n 1, 1) := dk_27 (dk_at dksX8_does_0 1 rfl rfl)
theorem dX8_does_2 : decode cX8_does 2 = .ok (.iconst 3, 1) := dk_6 (dk_at dksX8_does_0 2 rfl rfl)
theorem dX8_does_3 : decode cX8_does 3 = .ok (.invokevirtual 106, 3) := dk_182 0 106 (dk_at dksX8_does_0 3 rfl rfl)
theorem dX8_does_6 : decode cX8_does 6 = .ok (.istore_n 2, 1) := dk_61 (dk_at dksX8_does_0 6 rfl rfl)
theorem dX8_does_7 : decode cX8_does 7 = .ok (.aload_n 0, 1) := dk_42 (dk_at dksX8_does_0 7 rfl rfl)
theorem dX8_does_8 : decode cX8_does 8 = .ok (.getfield 46, 3) := dk_180 0 46 (dk_at dksX8_does_0 8 rfl rfl)
theorem dX8_does_11 : decode cX8_does 11 = .ok (.iload_n 1, 1) := dk_27 (dk_at dksX8_does_0 11 rfl rfl)
theorem dX8_does_12 : decode cX8_does 12 = .ok (.iaload, 1) := dk_46 (dk_at dksX8_does_0 12 rfl rfl)
theorem dX8_does_13 : decode cX8_does 13 = .ok (.istore_n 3, 1) := dk_62 (dk_at dksX8_does_0 13 rfl rfl)
theorem dX8_does_14 : decode cX8_does 14 = .ok (.iload_n 3, 1) := dk_29 (dk_at dksX8_does_0 14 rfl rfl)
theorem dX8_does_15 : decode cX8_does 15 = .ok (.ifCond .ge 88, 3) := dk_156 0 88 (dk_at dksX8_does_0 15 rfl rfl)
theorem dX8_does_18 : decode cX8_does 18 = .ok (.iload_n 3, 1) := dk_29 (dk_at dksX8_does_0 18 rfl rfl)
theorem dX8_does_19 : decode cX8_does 19 = .ok (.ineg, 1) := dk_116 (dk_at dksX8_does_0 19 rfl rfl)
theorem dX8_does_20 : decode cX8_does 20 = .ok (.iconst 0, 1) := dk_3 (dk_at dksX8_does_0 20 rfl rfl)
theorem dX8_does_21 : decode cX8_does 21 = .ok (.aload_n 0, 1) := dk_42 (dk_at dksX8_does_0 21 rfl rfl)
theorem dX8_does_22 : decode cX8_does 22 = .ok (.getfield 13, 3) := dk_180 0 13 (dk_at dksX8_does_1 0 rfl rfl)
theorem dX8_does_25 : decode cX8_does 25 = .ok (.sipush 192, 3) := dk_17 0 192 (dk_at dksX8_does_1 3 rfl rfl)
theorem dX8_does_28 : decode cX8_does 28 = .ok (.iload_n 1, 1) := dk_27 (dk_at dksX8_does_1 6 rfl rfl)
theorem dX8_does_29 : decode cX8_does 29 = .ok (.iadd, 1) := dk_96 (dk_at dksX8_does_1 7 rfl rfl)
theorem dX8_does_30 : decode cX8_does 30 = .ok (.iaload, 1) := dk_46 (dk_at dksX8_does_1 8 rfl rfl)
theorem dX8_does_31 : decode cX8_does 31 = .ok (.iload_n 2, 1) := dk_28 (dk_at dksX8_does_1 9 rfl rfl)
theorem dX8_does_32 : decode cX8_does 32 = .ok (.isub, 1) := dk_100 (dk_at dksX8_does_1 10 rfl rfl)
theorem dX8_does_33 : decode cX8_does 33 = .ok (.invokestatic 310, 3) := dk_184 1 54 (dk_at dksX8_does_1 11 rfl rfl)
theorem dX8_does_36 : decode cX8_does 36 = .ok (.invokestatic 153, 3) := dk_184 0 153 (dk_at dksX8_does_1 14 rfl rfl)
theorem dX8_does_39 : decode cX8_does 39 = .ok (.istore 4, 2) := dk_54 4 (dk_at dksX8_does_1 17 rfl rfl)
theorem dX8_does_41 : decode cX8_does 41 = .ok (.iload_n 3, 1) := dk_29 (dk_at dksX8_does_1 19 rfl rfl)
theorem dX8_does_42 : decode cX8_does 42 = .ok (.ineg, 1) := dk_116 (dk_at dksX8_does_1 20 rfl rfl)
theorem dX8_does_43 : decode cX8_does 43 = .ok (.iload 4, 2) := dk_21 4 (dk_at dksX8_does_1 21 rfl rfl)
theorem dX8_does_45 : decode cX8_does 45 = .ok (.isub, 1) := dk_100 (dk_at dksX8_does_1 23 rfl rfl)
theorem dX8_does_46 : decode cX8_does 46 = .ok (.aload_n 0, 1) := dk_42 (dk_at dksX8_does_2 0 rfl rfl)
theorem dX8_does_47 : decode cX8_does 47 = .ok (.iload_n 1, 1) := dk_27 (dk_at dksX8_does_2 1 rfl rfl)
theorem dX8_does_48 : decode cX8_does 48 = .ok (.iconst 2, 1) := dk_5 (dk_at dksX8_does_2 2 rfl rfl)
theorem dX8_does_49 : decode cX8_does 49 = .ok (.invokevirtual 106, 3) := dk_182 0 106 (dk_at dksX8_does_2 3 rfl rfl)
theorem dX8_does_52 : decode cX8_does 52 = .ok (.aload_n 0, 1) := dk_42 (dk_at dksX8_does_2 6 rfl rfl)
theorem dX8_does_53 : decode cX8_does 53 = .ok (.getfield 13, 3) := dk_180 0 13 (dk_at dksX8_does_2 7 rfl rfl)
theorem dX8_does_56 : decode cX8_does 56 = .ok (.sipush 336, 3) := dk_17 1 80 (dk_at dksX8_does_2 10 rfl rfl)
theorem dX8_does_59 : decode cX8_does 59 = .ok (.iload_n 1, 1) := dk_27 (dk_at dksX8_does_2 13 rfl rfl)
theorem dX8_does_60 : decode cX8_does 60 = .ok (.iadd, 1) := dk_96 (dk_at dksX8_does_2 14 rfl rfl)
theorem dX8_does_61 : decode cX8_does 61 = .ok (.iaload, 1) := dk_46 (dk_at dksX8_does_2 15 rfl rfl)
theorem dX8_does_62 : decode cX8_does 62 = .ok (.isub, 1) := dk_100 (dk_at dksX8_does_2 16 rfl rfl)
theorem dX8_does_63 : decode cX8_does 63 = .ok (.invokestatic 153, 3) := dk_184 0 153 (dk_at dksX8_does_2 17 rfl rfl)
theorem dX8_does_66 : decode cX8_does 66 = .ok (.istore 5, 2) := dk_54 5 (dk_at dksX8_does_2 20 rfl rfl)
theorem dX8_does_68 : decode cX8_does 68 = .ok (.aload_n 0, 1) := dk_42 (dk_at dksX8_does_2 22 rfl rfl)
theorem dX8_does_69 : decode cX8_does 69 = .ok (.getfield 13, 3) := dk_180 0 13 (dk_at dksX8_does_3 0 rfl rfl)
theorem dX8_does_72 : decode cX8_does 72 = .ok (.sipush 336, 3) := dk_17 1 80 (dk_at dksX8_does_3 3 rfl rfl)
theorem dX8_does_75 : decode cX8_does 75 = .ok (.iload_n 1, 1) := dk_27 (dk_at dksX8_does_3 6 rfl rfl)
theorem dX8_does_76 : decode cX8_does 76 = .ok (.iadd, 1) := dk_96 (dk_at dksX8_does_3 7 rfl rfl)
theorem dX8_does_77 : decode cX8_does 77 = .ok (.dup2, 1) := dk_92 (dk_at dksX8_does_3 8 rfl rfl)
theorem dX8_does_78 : decode cX8_does 78 = .ok (.iaload, 1) := dk_46 (dk_at dksX8_does_3 9 rfl rfl)
theorem dX8_does_79 : decode cX8_does 79 = .ok (.iload 5, 2) := dk_21 5 (dk_at dksX8_does_3 10 rfl rfl)
theorem dX8_does_81 : decode cX8_does 81 = .ok (.iadd, 1) := dk_96 (dk_at dksX8_does_3 12 rfl rfl)
theorem dX8_does_82 : decode cX8_does 82 = .ok (.iastore, 1) := dk_79 (dk_at dksX8_does_3 13 rfl rfl)
theorem dX8_does_83 : decode cX8_does 83 = .ok (.aload_n 0, 1) := dk_42 (dk_at dksX8_does_3 14 rfl rfl)
theorem dX8_does_84 : decode cX8_does 84 = .ok (.getfield 13, 3) := dk_180 0 13 (dk_at dksX8_does_3 15 rfl rfl)
theorem dX8_does_87 : decode cX8_does 87 = .ok (.sipush 192, 3) := dk_17 0 192 (dk_at dksX8_does_3 18 rfl rfl)
theorem dX8_does_90 : decode cX8_does 90 = .ok (.iload_n 1, 1) := dk_27 (dk_at dksX8_does_3 21 rfl rfl)
theorem dX8_does_91 : decode cX8_does 91 = .ok (.iadd, 1) := dk_96 (dk_at dksX8_does_3 22 rfl rfl)
theorem dX8_does_92 : decode cX8_does 92 = .ok (.dup2, 1) := dk_92 (dk_at dksX8_does_3 23 rfl rfl)
theorem dX8_does_93 : decode cX8_does 93 = .ok (.iaload, 1) := dk_46 (dk_at dksX8_does_4 0 rfl rfl)
theorem dX8_does_94 : decode cX8_does 94 = .ok (.iload_n 3, 1) := dk_29 (dk_at dksX8_does_4 1 rfl rfl)
theorem dX8_does_95 : decode cX8_does 95 = .ok (.iload 5, 2) := dk_21 5 (dk_at dksX8_does_4 2 rfl rfl)
theorem dX8_does_97 : decode cX8_does 97 = .ok (.iadd, 1) := dk_96 (dk_at dksX8_does_4 4 rfl rfl)
theorem dX8_does_98 : decode cX8_does 98 = .ok (.iadd, 1) := dk_96 (dk_at dksX8_does_4 5 rfl rfl)
theorem dX8_does_99 : decode cX8_does 99 = .ok (.iastore, 1) := dk_79 (dk_at dksX8_does_4 6 rfl rfl)
theorem dX8_does_100 : decode cX8_does 100 = .ok (.goto 76, 3) := dk_167 0 76 (dk_at dksX8_does_4 7 rfl rfl)
theorem dX8_does_103 : decode cX8_does 103 = .ok (.iload_n 3, 1) := dk_29 (dk_at dksX8_does_4 10 rfl rfl)
theorem dX8_does_104 : decode cX8_does 104 = .ok (.iconst 0, 1) := dk_3 (dk_at dksX8_does_4 11 rfl rfl)
theorem dX8_does_105 : decode cX8_does 105 = .ok (.iload_n 2, 1) := dk_28 (dk_at dksX8_does_4 12 rfl rfl)
theorem dX8_does_106 : decode cX8_does 106 = .ok (.aload_n 0, 1) := dk_42 (dk_at dksX8_does_4 13 rfl rfl)
theorem dX8_does_107 : decode cX8_does 107 = .ok (.getfield 13, 3) := dk_180 0 13 (dk_at dksX8_does_4 14 rfl rfl)
theorem dX8_does_110 : decode cX8_does 110 = .ok (.sipush 192, 3) := dk_17 0 192 (dk_at dksX8_does_4 17 rfl rfl)
theorem dX8_does_113 : decode cX8_does 113 = .ok (.iload_n 1, 1) := dk_27 (dk_at dksX8_does_4 20 rfl rfl)
theorem dX8_does_114 : decode cX8_does 114 = .ok (.iadd, 1) := dk_96 (dk_at dksX8_does_4 21 rfl rfl)
theorem dX8_does_115 : decode cX8_does 115 = .ok (.iaload, 1) := dk_46 (dk_at dksX8_does_4 22 rfl rfl)
theorem dX8_does_116 : decode cX8_does 116 = .ok (.isub, 1) := dk_100 (dk_at dksX8_does_4 23 rfl rfl)
theorem dX8_does_117 : decode cX8_does 117 = .ok (.invokestatic 310, 3) := dk_184 1 54 (dk_at dksX8_does_5 0 rfl rfl)
theorem dX8_does_120 : decode cX8_does 120 = .ok (.invokestatic 153, 3) := dk_184 0 153 (dk_at dksX8_does_5 3 rfl rfl)
theorem dX8_does_123 : decode cX8_does 123 = .ok (.istore 4, 2) := dk_54 4 (dk_at dksX8_does_5 6 rfl rfl)
theorem dX8_does_125 : decode cX8_does 125 = .ok (.iload_n 3, 1) := dk_29 (dk_at dksX8_does_5 8 rfl rfl)
theorem dX8_does_126 : decode cX8_does 126 = .ok (.iload 4, 2) := dk_21 4 (dk_at dksX8_does_5 9 rfl rfl)
theorem dX8_does_128 : decode cX8_does 128 = .ok (.isub, 1) := dk_100 (dk_at dksX8_does_5 11 rfl rfl)
theorem dX8_does_129 : decode cX8_does 129 = .ok (.aload_n 0, 1) := dk_42 (dk_at dksX8_does_5 12 rfl rfl)
theorem dX8_does_130 : decode cX8_does 130 = .ok (.getfield 13, 3) := dk_180 0 13 (dk_at dksX8_does_5 13 rfl rfl)
theorem dX8_does_133 : decode cX8_does 133 = .ok (.sipush 336, 3) := dk_17 1 80 (dk_at dksX8_does_5 16 rfl rfl)
theorem dX8_does_136 : decode cX8_does 136 = .ok (.iload_n 1, 1) := dk_27 (dk_at dksX8_does_5 19 rfl rfl)
theorem dX8_does_137 : decode cX8_does 137 = .ok (.iadd, 1) := dk_96 (dk_at dksX8_does_5 20 rfl rfl)
theorem dX8_does_138 : decode cX8_does 138 = .ok (.iaload, 1) := dk_46 (dk_at dksX8_does_5 21 rfl rfl)
theorem dX8_does_139 : decode cX8_does 139 = .ok (.invokestatic 153, 3) := dk_184 0 153 (dk_at dksX8_does_6 0 rfl rfl)
theorem dX8_does_142 : decode cX8_does 142 = .ok (.istore 5, 2) := dk_54 5 (dk_at dksX8_does_6 3 rfl rfl)
theorem dX8_does_144 : decode cX8_does 144 = .ok (.aload_n 0, 1) := dk_42 (dk_at dksX8_does_6 5 rfl rfl)
theorem dX8_does_145 : decode cX8_does 145 = .ok (.getfield 13, 3) := dk_180 0 13 (dk_at dksX8_does_6 6 rfl rfl)
theorem dX8_does_148 : decode cX8_does 148 = .ok (.sipush 336, 3) := dk_17 1 80 (dk_at dksX8_does_6 9 rfl rfl)
theorem dX8_does_151 : decode cX8_does 151 = .ok (.iload_n 1, 1) := dk_27 (dk_at dksX8_does_6 12 rfl rfl)
theorem dX8_does_152 : decode cX8_does 152 = .ok (.iadd, 1) := dk_96 (dk_at dksX8_does_6 13 rfl rfl)
theorem dX8_does_153 : decode cX8_does 153 = .ok (.dup2, 1) := dk_92 (dk_at dksX8_does_6 14 rfl rfl)
theorem dX8_does_154 : decode cX8_does 154 = .ok (.iaload, 1) := dk_46 (dk_at dksX8_does_6 15 rfl rfl)
theorem dX8_does_155 : decode cX8_does 155 = .ok (.iload 5, 2) := dk_21 5 (dk_at dksX8_does_6 16 rfl rfl)
theorem dX8_does_157 : decode cX8_does 157 = .ok (.isub, 1) := dk_100 (dk_at dksX8_does_6 18 rfl rfl)
theorem dX8_does_158 : decode cX8_does 158 = .ok (.iastore, 1) := dk_79 (dk_at dksX8_does_6 19 rfl rfl)
theorem dX8_does_159 : decode cX8_does 159 = .ok (.aload_n 0, 1) := dk_42 (dk_at dksX8_does_6 20 rfl rfl)
theorem dX8_does_160 : decode cX8_does 160 = .ok (.getfield 13, 3) := dk_180 0 13 (dk_at dksX8_does_6 21 rfl rfl)
theorem dX8_does_163 : decode cX8_does 163 = .ok (.sipush 192, 3) := dk_17 0 192 (dk_at dksX8_does_7 0 rfl rfl)
theorem dX8_does_166 : decode cX8_does 166 = .ok (.iload_n 1, 1) := dk_27 (dk_at dksX8_does_7 3 rfl rfl)
theorem dX8_does_167 : decode cX8_does 167 = .ok (.iadd, 1) := dk_96 (dk_at dksX8_does_7 4 rfl rfl)
theorem dX8_does_168 : decode cX8_does 168 = .ok (.dup2, 1) := dk_92 (dk_at dksX8_does_7 5 rfl rfl)
theorem dX8_does_169 : decode cX8_does 169 = .ok (.iaload, 1) := dk_46 (dk_at dksX8_does_7 6 rfl rfl)
theorem dX8_does_170 : decode cX8_does 170 = .ok (.iload_n 3, 1) := dk_29 (dk_at dksX8_does_7 7 rfl rfl)
theorem dX8_does_171 : decode cX8_does 171 = .ok (.iload 5, 2) := dk_21 5 (dk_at dksX8_does_7 8 rfl rfl)
theorem dX8_does_173 : decode cX8_does 173 = .ok (.isub, 1) := dk_100 (dk_at dksX8_does_7 10 rfl rfl)
theorem dX8_does_174 : decode cX8_does 174 = .ok (.iadd, 1) := dk_96 (dk_at dksX8_does_7 11 rfl rfl)
theorem dX8_does_175 : decode cX8_does 175 = .ok (.iastore, 1) := dk_79 (dk_at dksX8_does_7 12 rfl rfl)
theorem dX8_does_176 : decode cX8_does 176 = .ok (.return_, 1) := dk_177 (dk_at dksX8_does_7 13 rfl rfl)
abbrev cX8_liftOf : ByteArray := prog_16_method_73_code
def yX8_liftOf : MethodName := ⟨RX8, "liftOf", "(I)I"⟩
def dkwX8_liftOf_2 : List UInt8 := [132, 3, 1, 167, 255, 209, 28, 172]
abbrev dktX8_liftOf_2 : List UInt8 := dkwX8_liftOf_2 ++ []
def dkwX8_liftOf_1 : List UInt8 := [3, 167, 0, 21, 42, 180, 0, 13, 17, 1, 80, 16, 12, 29, 104, 96, 27, 96, 46, 16, 10, 108, 96, 61]
abbrev dktX8_liftOf_1 : List UInt8 := dkwX8_liftOf_1 ++ dktX8_liftOf_2
def dkwX8_liftOf_0 : List UInt8 := [3, 61, 3, 62, 29, 16, 12, 162, 0, 47, 28, 42, 16, 12, 29, 104, 27, 96, 182, 0, 102, 153, 0, 7]
abbrev dktX8_liftOf_0 : List UInt8 := dkwX8_liftOf_0 ++ dktX8_liftOf_1
theorem dksX8_liftOf_0 : cX8_liftOf.data.toList.drop 0 = dktX8_liftOf_0 := by decide +kernel
theorem dksX8_liftOf_1 : cX8_liftOf.data.toList.drop 24 = dktX8_liftOf_1 := dk_seg dksX8_liftOf_0 24 rfl rfl
theorem dksX8_liftOf_2 : cX8_liftOf.data.toList.drop 48 = dktX8_liftOf_2 := dk_seg dksX8_liftOf_1 24 rfl rfl
theorem dX8_liftOf_0 : decode cX8_liftOf 0 = .ok (.iconst 0, 1) := dk_3 (dk_at dksX8_liftOf_0 0 rfl rfl)
theorem dX8_liftOf_1 : decode cX8_liftOf 1 = .ok (.istore_n 2, 1) := dk_61 (dk_at dksX8_liftOf_0 1 rfl rfl)
theorem dX8_liftOf_2 : decode cX8_liftOf 2 = .ok (.iconst 0, 1) := dk_3 (dk_at dksX8_liftOf_0 2 rfl rfl)
theorem dX8_liftOf_3 : decode cX8_liftOf 3 = .ok (.istore_n 3, 1) := dk_62 (dk_at dksX8_liftOf_0 3 rfl rfl)
theorem dX8_liftOf_4 : decode cX8_liftOf 4 = .ok (.iload_n 3, 1) := dk_29 (dk_at dksX8_liftOf_0 4 rfl rfl)
theorem dX8_liftOf_5 : decode cX8_liftOf 5 = .ok (.bipush 12, 2) := dk_16 12 (dk_at dksX8_liftOf_0 5 rfl rfl)
theorem dX8_liftOf_7 : decode cX8_liftOf 7 = .ok (.if_icmp .ge 47, 3) := dk_162 0 47 (dk_at dksX8_liftOf_0 7 rfl rfl)
theorem dX8_liftOf_10 : decode cX8_liftOf 10 = .ok (.iload_n 2, 1) := dk_28 (dk_at dksX8_liftOf_0 10 rfl rfl)
theorem dX8_liftOf_11 : decode cX8_liftOf 11 = .ok (.aload_n 0, 1) := dk_42 (dk_at dksX8_liftOf_0 11 rfl rfl)
theorem dX8_liftOf_12 : decode cX8_liftOf 12 = .ok (.bipush 12, 2) := dk_16 12 (dk_at dksX8_liftOf_0 12 rfl rfl)
theorem dX8_liftOf_14 : decode cX8_liftOf 14 = .ok (.iload_n 3, 1) := dk_29 (dk_at dksX8_liftOf_0 14 rfl rfl)
theorem dX8_liftOf_15 : decode cX8_liftOf 15 = .ok (.imul, 1) := dk_104 (dk_at dksX8_liftOf_0 15 rfl rfl)
theorem dX8_liftOf_16 : decode cX8_liftOf 16 = .ok (.iload_n 1, 1) := dk_27 (dk_at dksX8_liftOf_0 16 rfl rfl)
theorem dX8_liftOf_17 : decode cX8_liftOf 17 = .ok (.iadd, 1) := dk_96 (dk_at dksX8_liftOf_0 17 rfl rfl)
theorem dX8_liftOf_18 : decode cX8_liftOf 18 = .ok (.invokevirtual 102, 3) := dk_182 0 102 (dk_at dksX8_liftOf_0 18 rfl rfl)
theorem dX8_liftOf_21 : decode cX8_liftOf 21 = .ok (.ifCond .eq 7, 3) := dk_153 0 7 (dk_at dksX8_liftOf_0 21 rfl rfl)
theorem dX8_liftOf_24 : decode cX8_liftOf 24 = .ok (.iconst 0, 1) := dk_3 (dk_at dksX8_liftOf_1 0 rfl rfl)
theorem dX8_liftOf_25 : decode cX8_liftOf 25 = .ok (.goto 21, 3) := dk_167 0 21 (dk_at dksX8_liftOf_1 1 rfl rfl)
theorem dX8_liftOf_28 : decode cX8_liftOf 28 = .ok (.aload_n 0, 1) := dk_42 (dk_at dksX8_liftOf_1 4 rfl rfl)
theorem dX8_liftOf_29 : decode cX8_liftOf 29 = .ok (.getfield 13, 3) := dk_180 0 13 (dk_at dksX8_liftOf_1 5 rfl rfl)
theorem dX8_liftOf_32 : decode cX8_liftOf 32 = .ok (.sipush 336, 3) := dk_17 1 80 (dk_at dksX8_liftOf_1 8 rfl rfl)
theorem dX8_liftOf_35 : decode cX8_liftOf 35 = .ok (.bipush 12, 2) := dk_16 12 (dk_at dksX8_liftOf_1 11 rfl rfl)
theorem dX8_liftOf_37 : decode cX8_liftOf 37 = .ok (.iload_n 3, 1) := dk_29 (dk_at dksX8_liftOf_1 13 rfl rfl)
theorem dX8_liftOf_38 : decode cX8_liftOf 38 = .ok (.imul, 1) := dk_104 (dk_at dksX8_liftOf_1 14 rfl rfl)
theorem dX8_liftOf_39 : decode cX8_liftOf 39 = .ok (.iadd, 1) := dk_96 (dk_at dksX8_liftOf_1 15 rfl rfl)
theorem dX8_liftOf_40 : decode cX8_liftOf 40 = .ok (.iload_n 1, 1) := dk_27 (dk_at dksX8_liftOf_1 16 rfl rfl)
theorem dX8_liftOf_41 : decode cX8_liftOf 41 = .ok (.iadd, 1) := dk_96 (dk_at dksX8_liftOf_1 17 rfl rfl)
theorem dX8_liftOf_42 : decode cX8_liftOf 42 = .ok (.iaload, 1) := dk_46 (dk_at dksX8_liftOf_1 18 rfl rfl)
theorem dX8_liftOf_43 : decode cX8_liftOf 43 = .ok (.bipush 10, 2) := dk_16 10 (dk_at dksX8_liftOf_1 19 rfl rfl)
theorem dX8_liftOf_45 : decode cX8_liftOf 45 = .ok (.idiv, 1) := dk_108 (dk_at dksX8_liftOf_1 21 rfl rfl)
theorem dX8_liftOf_46 : decode cX8_liftOf 46 = .ok (.iadd, 1) := dk_96 (dk_at dksX8_liftOf_1 22 rfl rfl)
theorem dX8_liftOf_47 : decode cX8_liftOf 47 = .ok (.istore_n 2, 1) := dk_61 (dk_at dksX8_liftOf_1 23 rfl rfl)
theorem dX8_liftOf_48 : decode cX8_liftOf 48 = .ok (.iinc 3 1, 3) := dk_132 3 1 (dk_at dksX8_liftOf_2 0 rfl rfl)
theorem dX8_liftOf_51 : decode cX8_liftOf 51 = .ok (.goto (-47), 3) := dk_167 255 209 (dk_at dksX8_liftOf_2 3 rfl rfl)
theorem dX8_liftOf_54 : decode cX8_liftOf 54 = .ok (.iload_n 2, 1) := dk_28 (dk_at dksX8_liftOf_2 6 rfl rfl)
theorem dX8_liftOf_55 : decode cX8_liftOf 55 = .ok (.ireturn, 1) := dk_172 (dk_at dksX8_liftOf_2 7 rfl rfl)
abbrev cX8_anyDug : ByteArray := prog_16_method_49_code
def yX8_anyDug : MethodName := ⟨RX8, "anyDug", "()Z"⟩
def dkwX8_anyDug_1 : List UInt8 := [167, 0, 4, 3, 60, 132, 2, 1, 167, 255, 228, 27, 172]
abbrev dktX8_anyDug_1 : List UInt8 := dkwX8_anyDug_1 ++ []
def dkwX8_anyDug_0 : List UInt8 := [3, 60, 3, 61, 28, 17, 0, 144, 162, 0, 27, 27, 154, 0, 11, 42, 28, 182, 0, 102, 153, 0, 7, 4]
abbrev dktX8_anyDug_0 : List UInt8 := dkwX8_anyDug_0 ++ dktX8_anyDug_1
theorem dksX8_anyDug_0 : cX8_anyDug.data.toList.drop 0 = dktX8_anyDug_0 := by decide +kernel
theorem dksX8_anyDug_1 : cX8_anyDug.data.toList.drop 24 = dktX8_anyDug_1 := dk_seg dksX8_anyDug_0 24 rfl rfl
theorem dX8_anyDug_0 : decode cX8_anyDug 0 = .ok (.iconst 0, 1) := dk_3 (dk_at dksX8_anyDug_0 0 rfl rfl)
theorem dX8_anyDug_1 : decode cX8_anyDug 1 = .ok (.istore_n 1, 1) := dk_60 (dk_at dksX8_anyDug_0 1 rfl rfl)
theorem dX8_anyDug_2 : decode cX8_anyDug 2 = .ok (.iconst 0, 1) := dk_3 (dk_at dksX8_anyDug_0 2 rfl rfl)
theorem dX8_anyDug_3 : decode cX8_anyDug 3 = .ok (.istore_n 2, 1) := dk_61 (dk_at dksX8_anyDug_0 3 rfl rfl)
theorem dX8_anyDug_4 : decode cX8_anyDug 4 = .ok (.iload_n 2, 1) := dk_28 (dk_at dksX8_anyDug_0 4 rfl rfl)
theorem dX8_anyDug_5 : decode cX8_anyDug 5 = .ok (.sipush 144, 3) := dk_17 0 144 (dk_at dksX8_anyDug_0 5 rfl rfl)
theorem dX8_anyDug_8 : decode cX8_anyDug 8 = .ok (.if_icmp .ge 27, 3) := dk_162 0 27 (dk_at dksX8_anyDug_0 8 rfl rfl)
theorem dX8_anyDug_11 : decode cX8_anyDug 11 = .ok (.iload_n 1, 1) := dk_27 (dk_at dksX8_anyDug_0 11 rfl rfl)
theorem dX8_anyDug_12 : decode cX8_anyDug 12 = .ok (.ifCond .ne 11, 3) := dk_154 0 11 (dk_at dksX8_anyDug_0 12 rfl rfl)
theorem dX8_anyDug_15 : decode cX8_anyDug 15 = .ok (.aload_n 0, 1) := dk_42 (dk_at dksX8_anyDug_0 15 rfl rfl)
theorem dX8_anyDug_16 : decode cX8_anyDug 16 = .ok (.iload_n 2, 1) := dk_28 (dk_at dksX8_anyDug_0 16 rfl rfl)
theorem dX8_anyDug_17 : decode cX8_anyDug 17 = .ok (.invokevirtual 102, 3) := dk_182 0 102 (dk_at dksX8_anyDug_0 17 rfl rfl)
theorem dX8_anyDug_20 : decode cX8_anyDug 20 = .ok (.ifCond .eq 7, 3) := dk_153 0 7 (dk_at dksX8_anyDug_0 20 rfl rfl)
theorem dX8_anyDug_23 : decode cX8_anyDug 23 = .ok (.iconst 1, 1) := dk_4 (dk_at dksX8_anyDug_0 23 rfl rfl)
theorem dX8_anyDug_24 : decode cX8_anyDug 24 = .ok (.goto 4, 3) := dk_167 0 4 (dk_at dksX8_anyDug_1 0 rfl rfl)
theorem dX8_anyDug_27 : decode cX8_anyDug 27 = .ok (.iconst 0, 1) := dk_3 (dk_at dksX8_anyDug_1 3 rfl rfl)
theorem dX8_anyDug_28 : decode cX8_anyDug 28 = .ok (.istore_n 1, 1) := dk_60 (dk_at dksX8_anyDug_1 4 rfl rfl)
theorem dX8_anyDug_29 : decode cX8_anyDug 29 = .ok (.iinc 2 1, 3) := dk_132 2 1 (dk_at dksX8_anyDug_1 5 rfl rfl)
theorem dX8_anyDug_32 : decode cX8_anyDug 32 = .ok (.goto (-28), 3) := dk_167 255 228 (dk_at dksX8_anyDug_1 8 rfl rfl)
theorem dX8_anyDug_35 : decode cX8_anyDug 35 = .ok (.iload_n 1, 1) := dk_27 (dk_at dksX8_anyDug_1 11 rfl rfl)
theorem dX8_anyDug_36 : decode cX8_anyDug 36 = .ok (.ireturn, 1) := dk_172 (dk_at dksX8_anyDug_1 12 rfl rfl)
abbrev cX8_isShut : ByteArray := prog_16_method_62_code
def yX8_isShut : MethodName := ⟨RX8, "isShut", "()Z"⟩
def dkwX8_isShut_0 : List UInt8 := [42, 2, 4, 182, 1, 106, 2, 160, 0, 7, 4, 167, 0, 4, 3, 172]
abbrev dktX8_isShut_0 : List UInt8 := dkwX8_isShut_0 ++ []
theorem dksX8_isShut_0 : cX8_isShut.data.toList.drop 0 = dktX8_isShut_0 := by decide +kernel
theorem dX8_isShut_0 : decode cX8_isShut 0 = .ok (.aload_n 0, 1) := dk_42 (dk_at dksX8_isShut_0 0 rfl rfl)
theorem dX8_isShut_1 : decode cX8_isShut 1 = .ok (.iconst (-1), 1) := dk_2 (dk_at dksX8_isShut_0 1 rfl rfl)
theorem dX8_isShut_2 : decode cX8_isShut 2 = .ok (.iconst 1, 1) := dk_4 (dk_at dksX8_isShut_0 2 rfl rfl)
theorem dX8_isShut_3 : decode cX8_isShut 3 = .ok (.invokevirtual 362, 3) := dk_182 1 106 (dk_at dksX8_isShut_0 3 rfl rfl)
theorem dX8_isShut_6 : decode cX8_isShut 6 = .ok (.iconst (-1), 1) := dk_2 (dk_at dksX8_isShut_0 6 rfl rfl)
theorem dX8_isShut_7 : decode cX8_isShut 7 = .ok (.if_icmp .ne 7, 3) := dk_160 0 7 (dk_at dksX8_isShut_0 7 rfl rfl)
theorem dX8_isShut_10 : decode cX8_isShut 10 = .ok (.iconst 1, 1) := dk_4 (dk_at dksX8_isShut_0 10 rfl rfl)
theorem dX8_isShut_11 : decode cX8_isShut 11 = .ok (.goto 4, 3) := dk_167 0 4 (dk_at dksX8_isShut_0 11 rfl rfl)
theorem dX8_isShut_14 : decode cX8_isShut 14 = .ok (.iconst 0, 1) := dk_3 (dk_at dksX8_isShut_0 14 rfl rfl)
theorem dX8_isShut_15 : decode cX8_isShut 15 = .ok (.ireturn, 1) := dk_172 (dk_at dksX8_isShut_0 15 rfl rfl)
abbrev cX8_leastOut : ByteArray := prog_16_method_60_code
def yX8_leastOut : MethodName := ⟨RX8, "leastOut", "(II)I"⟩
def dkwX8_leastOut_12 : List UInt8 := [132, 5, 1, 167, 255, 199, 21, 4, 172]
abbrev dktX8_leastOut_12 : List UInt8 := dkwX8_leastOut_12 ++ []
def dkwX8_leastOut_11 : List UInt8 := [159, 0, 15, 42, 180, 0, 52, 21, 5, 46, 21, 4, 162, 0, 12, 42, 180, 0, 52, 21, 5, 46, 54, 4]
abbrev dktX8_leastOut_11 : List UInt8 := dkwX8_leastOut_11 ++ dktX8_leastOut_12
def dkwX8_leastOut_10 : List UInt8 := [21, 5, 184, 1, 103, 153, 0, 41, 42, 180, 0, 52, 21, 5, 46, 2, 159, 0, 30, 21, 4, 2]
abbrev dktX8_leastOut_10 : List UInt8 := dkwX8_leastOut_10 ++ dktX8_leastOut_11
def dkwX8_leastOut_9 : List UInt8 := [132, 4, 1, 167, 255, 77, 167, 255, 65, 2, 54, 4, 3, 54, 5, 21, 5, 17, 0, 144, 162, 0, 55]
abbrev dktX8_leastOut_9 : List UInt8 := dkwX8_leastOut_9 ++ dktX8_leastOut_10
def dkwX8_leastOut_8 : List UInt8 := [180, 0, 52, 21, 4, 46, 161, 0, 6, 167, 0, 14, 42, 180, 0, 52, 21, 4, 21, 6, 79, 4, 62]
abbrev dktX8_leastOut_8 : List UInt8 := dkwX8_leastOut_8 ++ dktX8_leastOut_9
def dkwX8_leastOut_7 : List UInt8 := [167, 255, 188, 21, 6, 2, 159, 0, 40, 42, 180, 0, 52, 21, 4, 46, 2, 159, 0, 18, 21, 6, 42]
abbrev dktX8_leastOut_7 : List UInt8 := dkwX8_leastOut_7 ++ dktX8_leastOut_8
def dkwX8_leastOut_6 : List UInt8 := [21, 5, 96, 21, 6, 162, 0, 15, 42, 180, 0, 52, 21, 8, 46, 21, 5, 96, 54, 6, 132, 7, 1]
abbrev dktX8_leastOut_6 : List UInt8 := dkwX8_leastOut_6 ++ dktX8_leastOut_7
def dkwX8_leastOut_5 : List UInt8 := [180, 0, 52, 21, 8, 46, 2, 159, 0, 36, 21, 6, 2, 159, 0, 18, 42, 180, 0, 52, 21, 8, 46]
abbrev dktX8_leastOut_5 : List UInt8 := dkwX8_leastOut_5 ++ dktX8_leastOut_6
def dkwX8_leastOut_4 : List UInt8 := [54, 7, 21, 7, 7, 162, 0, 68, 21, 4, 21, 7, 184, 1, 48, 54, 8, 21, 8, 2, 159, 0, 47, 42]
abbrev dktX8_leastOut_4 : List UInt8 := dkwX8_leastOut_4 ++ dktX8_leastOut_5
def dkwX8_leastOut_3 : List UInt8 := [160, 0, 6, 167, 0, 137, 42, 21, 4, 182, 1, 100, 153, 0, 8, 21, 5, 167, 0, 4, 2, 54, 6, 3]
abbrev dktX8_leastOut_3 : List UInt8 := dkwX8_leastOut_3 ++ dktX8_leastOut_4
def dkwX8_leastOut_2 : List UInt8 := [153, 0, 7, 27, 167, 0, 4, 28, 54, 5, 42, 21, 4, 182, 1, 90, 154, 0, 146, 21, 5, 2]
abbrev dktX8_leastOut_2 : List UInt8 := dkwX8_leastOut_2 ++ dktX8_leastOut_3
def dkwX8_leastOut_1 : List UInt8 := [29, 153, 0, 193, 3, 62, 3, 54, 4, 21, 4, 17, 0, 144, 162, 0, 177, 42, 21, 4, 182, 1, 45]
abbrev dktX8_leastOut_1 : List UInt8 := dkwX8_leastOut_1 ++ dktX8_leastOut_2
def dkwX8_leastOut_0 : List UInt8 := [3, 62, 29, 17, 0, 144, 162, 0, 16, 42, 180, 0, 52, 29, 2, 79, 132, 3, 1, 167, 255, 239, 4, 62]
abbrev dktX8_leastOut_0 : List UInt8 := dkwX8_leastOut_0 ++ dktX8_leastOut_1
theorem dksX8_leastOut_0 : cX8_leastOut.data.toList.drop 0 = dktX8_leastOut_0 := by decide +kernel
theorem dksX8_leastOut_1 : cX8_leastOut.data.toList.drop 24 = dktX8_leastOut_1 := dk_seg dksX8_leastOut_0 24 rfl rfl
theorem dksX8_leastOut_2 : cX8_leastOut.data.toList.drop 47 = dktX8_leastOut_2 := dk_seg dksX8_leastOut_1 23 rfl rfl
theorem dksX8_leastOut_3 : cX8_leastOut.data.toList.drop 69 = dktX8_leastOut_3 := dk_seg dksX8_leastOut_2 22 rfl rfl
theorem dksX8_leastOut_4 : cX8_leastOut.data.toList.drop 93 = dktX8_leastOut_4 := dk_seg dksX8_leastOut_3 24 rfl rfl
theorem dksX8_leastOut_5 : cX8_leastOut.data.toList.drop 117 = dktX8_leastOut_5 := dk_seg dksX8_leastOut_4 24 rfl rfl
theorem dksX8_leastOut_6 : cX8_leastOut.data.toList.drop 140 = dktX8_leastOut_6 := dk_seg dksX8_leastOut_5 23 rfl rfl
theorem dksX8_leastOut_7 : cX8_leastOut.data.toList.drop 163 = dktX8_leastOut_7 := dk_seg dksX8_leastOut_6 23 rfl rfl
theorem dksX8_leastOut_8 : cX8_leastOut.data.toList.drop 186 = dktX8_leastOut_8 := dk_seg dksX8_leastOut_7 23 rfl rfl
theorem dksX8_leastOut_9 : cX8_leastOut.data.toList.drop 209 = dktX8_leastOut_9 := dk_seg dksX8_leastOut_8 23 rfl rfl
theorem dksX8_leastOut_10 : cX8_leastOut.data.toList.drop 232 = dktX8_leastOut_10 := dk_seg dksX8_leastOut_9 23 rfl rfl
theorem dksX8_leastOut_11 : cX8_leastOut.data.toList.drop 254 = dktX8_leastOut_11 := dk_seg dksX8_leastOut_10 22 rfl rfl
theorem dksX8_leastOut_12 : cX8_leastOut.data.toList.drop 278 = dktX8_leastOut_12 := dk_seg dksX8_leastOut_11 24 rfl rfl
theorem dX8_leastOut_0 : decode cX8_leastOut 0 = .ok (.iconst 0, 1) := dk_3 (dk_at dksX8_leastOut_0 0 rfl rfl)
theorem dX8_leastOut_1 : decode cX8_leastOut 1 = .ok (.istore_n 3, 1) := dk_62 (dk_at dksX8_leastOut_0 1 rfl rfl)
theorem dX8_leastOut_2 : decode cX8_leastOut 2 = .ok (.iload_n 3, 1) := dk_29 (dk_at dksX8_leastOut_0 2 rfl rfl)
theorem dX8_leastOut_3 : decode cX8_leastOut 3 = .ok (.sipush 144, 3) := dk_17 0 144 (dk_at dksX8_leastOut_0 3 rfl rfl)
theorem dX8_leastOut_6 : decode cX8_leastOut 6 = .ok (.if_icmp .ge 16, 3) := dk_162 0 16 (dk_at dksX8_leastOut_0 6 rfl rfl)
theorem dX8_leastOut_9 : decode cX8_leastOut 9 = .ok (.aload_n 0, 1) := dk_42 (dk_at dksX8_leastOut_0 9 rfl rfl)
theorem dX8_leastOut_10 : decode cX8_leastOut 10 = .ok (.getfield 52, 3) := dk_180 0 52 (dk_at dksX8_leastOut_0 10 rfl rfl)
theorem dX8_leastOut_13 : decode cX8_leastOut 13 = .ok (.iload_n 3, 1) := dk_29 (dk_at dksX8_leastOut_0 13 rfl rfl)
theorem dX8_leastOut_14 : decode cX8_leastOut 14 = .ok (.iconst (-1), 1) := dk_2 (dk_at dksX8_leastOut_0 14 rfl rfl)
theorem dX8_leastOut_15 : decode cX8_leastOut 15 = .ok (.iastore, 1) := dk_79 (dk_at dksX8_leastOut_0 15 rfl rfl)
theorem dX8_leastOut_16 : decode cX8_leastOut 16 = .ok (.iinc 3 1, 3) := dk_132 3 1 (dk_at dksX8_leastOut_0 16 rfl rfl)
theorem dX8_leastOut_19 : decode cX8_leastOut 19 = .ok (.goto (-17), 3) := dk_167 255 239 (dk_at dksX8_leastOut_0 19 rfl rfl)
theorem dX8_leastOut_22 : decode cX8_leastOut 22 = .ok (.iconst 1, 1) := dk_4 (dk_at dksX8_leastOut_0 22 rfl rfl)
theorem dX8_leastOut_23 : decode cX8_leastOut 23 = .ok (.istore_n 3, 1) := dk_62 (dk_at dksX8_leastOut_0 23 rfl rfl)
theorem dX8_leastOut_24 : decode cX8_leastOut 24 = .ok (.iload_n 3, 1) := dk_29 (dk_at dksX8_leastOut_1 0 rfl rfl)
theorem dX8_leastOut_25 : decode cX8_leastOut 25 = .ok (.ifCond .eq 193, 3) := dk_153 0 193 (dk_at dksX8_leastOut_1 1 rfl rfl)
theorem dX8_leastOut_28 : decode cX8_leastOut 28 = .ok (.iconst 0, 1) := dk_3 (dk_at dksX8_leastOut_1 4 rfl rfl)
theorem dX8_leastOut_29 : decode cX8_leastOut 29 = .ok (.istore_n 3, 1) := dk_62 (dk_at dksX8_leastOut_1 5 rfl rfl)
theorem dX8_leastOut_30 : decode cX8_leastOut 30 = .ok (.iconst 0, 1) := dk_3 (dk_at dksX8_leastOut_1 6 rfl rfl)
theorem dX8_leastOut_31 : decode cX8_leastOut 31 = .ok (.istore 4, 2) := dk_54 4 (dk_at dksX8_leastOut_1 7 rfl rfl)
theorem dX8_leastOut_33 : decode cX8_leastOut 33 = .ok (.iload 4, 2) := dk_21 4 (dk_at dksX8_leastOut_1 9 rfl rfl)
theorem dX8_leastOut_35 : decode cX8_leastOut 35 = .ok (.sipush 144, 3) := dk_17 0 144 (dk_at dksX8_leastOut_1 11 rfl rfl)
theorem dX8_leastOut_38 : decode cX8_leastOut 38 = .ok (.if_icmp .ge 177, 3) := dk_162 0 177 (dk_at dksX8_leastOut_1 14 rfl rfl)
theorem dX8_leastOut_41 : decode cX8_leastOut 41 = .ok (.aload_n 0, 1) := dk_42 (dk_at dksX8_leastOut_1 17 rfl rfl)
theorem dX8_leastOut_42 : decode cX8_leastOut 42 = .ok (.iload 4, 2) := dk_21 4 (dk_at dksX8_leastOut_1 18 rfl rfl)
theorem dX8_leastOut_44 : decode cX8_leastOut 44 = .ok (.invokevirtual 301, 3) := dk_182 1 45 (dk_at dksX8_leastOut_1 20 rfl rfl)
theorem dX8_leastOut_47 : decode cX8_leastOut 47 = .ok (.ifCond .eq 7, 3) := dk_153 0 7 (dk_at dksX8_leastOut_2 0 rfl rfl)
theorem dX8_leastOut_50 : decode cX8_leastOut 50 = .ok (.iload_n 1, 1) := dk_27 (dk_at dksX8_leastOut_2 3 rfl rfl)
theorem dX8_leastOut_51 : decode cX8_leastOut 51 = .ok (.goto 4, 3) := dk_167 0 4 (dk_at dksX8_leastOut_2 4 rfl rfl)
theorem dX8_leastOut_54 : decode cX8_leastOut 54 = .ok (.iload_n 2, 1) := dk_28 (dk_at dksX8_leastOut_2 7 rfl rfl)
theorem dX8_leastOut_55 : decode cX8_leastOut 55 = .ok (.istore 5, 2) := dk_54 5 (dk_at dksX8_leastOut_2 8 rfl rfl)
theorem dX8_leastOut_57 : decode cX8_leastOut 57 = .ok (.aload_n 0, 1) := dk_42 (dk_at dksX8_leastOut_2 10 rfl rfl)
theorem dX8_leastOut_58 : decode cX8_leastOut 58 = .ok (.iload 4, 2) := dk_21 4 (dk_at dksX8_leastOut_2 11 rfl rfl)
theorem dX8_leastOut_60 : decode cX8_leastOut 60 = .ok (.invokevirtual 346, 3) := dk_182 1 90 (dk_at dksX8_leastOut_2 13 rfl rfl)
theorem dX8_leastOut_63 : decode cX8_leastOut 63 = .ok (.ifCond .ne 146, 3) := dk_154 0 146 (dk_at dksX8_leastOut_2 16 rfl rfl)
theorem dX8_leastOut_66 : decode cX8_leastOut 66 = .ok (.iload 5, 2) := dk_21 5 (dk_at dksX8_leastOut_2 19 rfl rfl)
theorem dX8_leastOut_68 : decode cX8_leastOut 68 = .ok (.iconst (-1), 1) := dk_2 (dk_at dksX8_leastOut_2 21 rfl rfl)
theorem dX8_leastOut_69 : decode cX8_leastOut 69 = .ok (.if_icmp .ne 6, 3) := dk_160 0 6 (dk_at dksX8_leastOut_3 0 rfl rfl)
theorem dX8_leastOut_72 : decode cX8_leastOut 72 = .ok (.goto 137, 3) := dk_167 0 137 (dk_at dksX8_leastOut_3 3 rfl rfl)
theorem dX8_leastOut_75 : decode cX8_leastOut 75 = .ok (.aload_n 0, 1) := dk_42 (dk_at dksX8_leastOut_3 6 rfl rfl)
theorem dX8_leastOut_76 : decode cX8_leastOut 76 = .ok (.iload 4, 2) := dk_21 4 (dk_at dksX8_leastOut_3 7 rfl rfl)
theorem dX8_leastOut_78 : decode cX8_leastOut 78 = .ok (.invokevirtual 356, 3) := dk_182 1 100 (dk_at dksX8_leastOut_3 9 rfl rfl)
theorem dX8_leastOut_81 : decode cX8_leastOut 81 = .ok (.ifCond .eq 8, 3) := dk_153 0 8 (dk_at dksX8_leastOut_3 12 rfl rfl)
theorem dX8_leastOut_84 : decode cX8_leastOut 84 = .ok (.iload 5, 2) := dk_21 5 (dk_at dksX8_leastOut_3 15 rfl rfl)
theorem dX8_leastOut_86 : decode cX8_leastOut 86 = .ok (.goto 4, 3) := dk_167 0 4 (dk_at dksX8_leastOut_3 17 rfl rfl)
theorem dX8_leastOut_89 : decode cX8_leastOut 89 = .ok (.iconst (-1), 1) := dk_2 (dk_at dksX8_leastOut_3 20 rfl rfl)
theorem dX8_leastOut_90 : decode cX8_leastOut 90 = .ok (.istore 6, 2) := dk_54 6 (dk_at dksX8_leastOut_3 21 rfl rfl)
theorem dX8_leastOut_92 : decode cX8_leastOut 92 = .ok (.iconst 0, 1) := dk_3 (dk_at dksX8_leastOut_3 23 rfl rfl)
theorem dX8_leastOut_93 : decode cX8_leastOut 93 = .ok (.istore 7, 2) := dk_54 7 (dk_at dksX8_leastOut_4 0 rfl rfl)
theorem dX8_leastOut_95 : decode cX8_leastOut 95 = .ok (.iload 7, 2) := dk_21 7 (dk_at dksX8_leastOut_4 2 rfl rfl)
theorem dX8_leastOut_97 : decode cX8_leastOut 97 = .ok (.iconst 4, 1) := dk_7 (dk_at dksX8_leastOut_4 4 rfl rfl)
theorem dX8_leastOut_98 : decode cX8_leastOut 98 = .ok (.if_icmp .ge 68, 3) := dk_162 0 68 (dk_at dksX8_leastOut_4 5 rfl rfl)
theorem dX8_leastOut_101 : decode cX8_leastOut 101 = .ok (.iload 4, 2) := dk_21 4 (dk_at dksX8_leastOut_4 8 rfl rfl)
theorem dX8_leastOut_103 : decode cX8_leastOut 103 = .ok (.iload 7, 2) := dk_21 7 (dk_at dksX8_leastOut_4 10 rfl rfl)
theorem dX8_leastOut_105 : decode cX8_leastOut 105 = .ok (.invokestatic 304, 3) := dk_184 1 48 (dk_at dksX8_leastOut_4 12 rfl rfl)
theorem dX8_leastOut_108 : decode cX8_leastOut 108 = .ok (.istore 8, 2) := dk_54 8 (dk_at dksX8_leastOut_4 15 rfl rfl)
theorem dX8_leastOut_110 : decode cX8_leastOut 110 = .ok (.iload 8, 2) := dk_21 8 (dk_at dksX8_leastOut_4 17 rfl rfl)
theorem dX8_leastOut_112 : decode cX8_leastOut 112 = .ok (.iconst (-1), 1) := dk_2 (dk_at dksX8_leastOut_4 19 rfl rfl)
theorem dX8_leastOut_113 : decode cX8_leastOut 113 = .ok (.if_icmp .eq 47, 3) := dk_159 0 47 (dk_at dksX8_leastOut_4 20 rfl rfl)
theorem dX8_leastOut_116 : decode cX8_leastOut 116 = .ok (.aload_n 0, 1) := dk_42 (dk_at dksX8_leastOut_4 23 rfl rfl)
theorem dX8_leastOut_117 : decode cX8_leastOut 117 = .ok (.getfield 52, 3) := dk_180 0 52 (dk_at dksX8_leastOut_5 0 rfl rfl)
theorem dX8_leastOut_120 : decode cX8_leastOut 120 = .ok (.iload 8, 2) := dk_21 8 (dk_at dksX8_leastOut_5 3 rfl rfl)
theorem dX8_leastOut_122 : decode cX8_leastOut 122 = .ok (.iaload, 1) := dk_46 (dk_at dksX8_leastOut_5 5 rfl rfl)
theorem dX8_leastOut_123 : decode cX8_leastOut 123 = .ok (.iconst (-1), 1) := dk_2 (dk_at dksX8_leastOut_5 6 rfl rfl)
theorem dX8_leastOut_124 : decode cX8_leastOut 124 = .ok (.if_icmp .eq 36, 3) := dk_159 0 36 (dk_at dksX8_leastOut_5 7 rfl rfl)
theorem dX8_leastOut_127 : decode cX8_leastOut 127 = .ok (.iload 6, 2) := dk_21 6 (dk_at dksX8_leastOut_5 10 rfl rfl)
theorem dX8_leastOut_129 : decode cX8_leastOut 129 = .ok (.iconst (-1), 1) := dk_2 (dk_at dksX8_leastOut_5 12 rfl rfl)
theorem dX8_leastOut_130 : decode cX8_leastOut 130 = .ok (.if_icmp .eq 18, 3) := dk_159 0 18 (dk_at dksX8_leastOut_5 13 rfl rfl)
theorem dX8_leastOut_133 : decode cX8_leastOut 133 = .ok (.aload_n 0, 1) := dk_42 (dk_at dksX8_leastOut_5 16 rfl rfl)
theorem dX8_leastOut_134 : decode cX8_leastOut 134 = .ok (.getfield 52, 3) := dk_180 0 52 (dk_at dksX8_leastOut_5 17 rfl rfl)
theorem dX8_leastOut_137 : decode cX8_leastOut 137 = .ok (.iload 8, 2) := dk_21 8 (dk_at dksX8_leastOut_5 20 rfl rfl)
theorem dX8_leastOut_139 : decode cX8_leastOut 139 = .ok (.iaload, 1) := dk_46 (dk_at dksX8_leastOut_5 22 rfl rfl)
theorem dX8_leastOut_140 : decode cX8_leastOut 140 = .ok (.iload 5, 2) := dk_21 5 (dk_at dksX8_leastOut_6 0 rfl rfl)
theorem dX8_leastOut_142 : decode cX8_leastOut 142 = .ok (.iadd, 1) := dk_96 (dk_at dksX8_leastOut_6 2 rfl rfl)
theorem dX8_leastOut_143 : decode cX8_leastOut 143 = .ok (.iload 6, 2) := dk_21 6 (dk_at dksX8_leastOut_6 3 rfl rfl)
theorem dX8_leastOut_145 : decode cX8_leastOut 145 = .ok (.if_icmp .ge 15, 3) := dk_162 0 15 (dk_at dksX8_leastOut_6 5 rfl rfl)
theorem dX8_leastOut_148 : decode cX8_leastOut 148 = .ok (.aload_n 0, 1) := dk_42 (dk_at dksX8_leastOut_6 8 rfl rfl)
theorem dX8_leastOut_149 : decode cX8_leastOut 149 = .ok (.getfield 52, 3) := dk_180 0 52 (dk_at dksX8_leastOut_6 9 rfl rfl)
theorem dX8_leastOut_152 : decode cX8_leastOut 152 = .ok (.iload 8, 2) := dk_21 8 (dk_at dksX8_leastOut_6 12 rfl rfl)
theorem dX8_leastOut_154 : decode cX8_leastOut 154 = .ok (.iaload, 1) := dk_46 (dk_at dksX8_leastOut_6 14 rfl rfl)
theorem dX8_leastOut_155 : decode cX8_leastOut 155 = .ok (.iload 5, 2) := dk_21 5 (dk_at dksX8_leastOut_6 15 rfl rfl)
theorem dX8_leastOut_157 : decode cX8_leastOut 157 = .ok (.iadd, 1) := dk_96 (dk_at dksX8_leastOut_6 17 rfl rfl)
theorem dX8_leastOut_158 : decode cX8_leastOut 158 = .ok (.istore 6, 2) := dk_54 6 (dk_at dksX8_leastOut_6 18 rfl rfl)
theorem dX8_leastOut_160 : decode cX8_leastOut 160 = .ok (.iinc 7 1, 3) := dk_132 7 1 (dk_at dksX8_leastOut_6 20 rfl rfl)
theorem dX8_leastOut_163 : decode cX8_leastOut 163 = .ok (.goto (-68), 3) := dk_167 255 188 (dk_at dksX8_leastOut_7 0 rfl rfl)
theorem dX8_leastOut_166 : decode cX8_leastOut 166 = .ok (.iload 6, 2) := dk_21 6 (dk_at dksX8_leastOut_7 3 rfl rfl)
theorem dX8_leastOut_168 : decode cX8_leastOut 168 = .ok (.iconst (-1), 1) := dk_2 (dk_at dksX8_leastOut_7 5 rfl rfl)
theorem dX8_leastOut_169 : decode cX8_leastOut 169 = .ok (.if_icmp .eq 40, 3) := dk_159 0 40 (dk_at dksX8_leastOut_7 6 rfl rfl)
theorem dX8_leastOut_172 : decode cX8_leastOut 172 = .ok (.aload_n 0, 1) := dk_42 (dk_at dksX8_leastOut_7 9 rfl rfl)
theorem dX8_leastOut_173 : decode cX8_leastOut 173 = .ok (.getfield 52, 3) := dk_180 0 52 (dk_at dksX8_leastOut_7 10 rfl rfl)
theorem dX8_leastOut_176 : decode cX8_leastOut 176 = .ok (.iload 4, 2) := dk_21 4 (dk_at dksX8_leastOut_7 13 rfl rfl)
theorem dX8_leastOut_178 : decode cX8_leastOut 178 = .ok (.iaload, 1) := dk_46 (dk_at dksX8_leastOut_7 15 rfl rfl)
theorem dX8_leastOut_179 : decode cX8_leastOut 179 = .ok (.iconst (-1), 1) := dk_2 (dk_at dksX8_leastOut_7 16 rfl rfl)
theorem dX8_leastOut_180 : decode cX8_leastOut 180 = .ok (.if_icmp .eq 18, 3) := dk_159 0 18 (dk_at dksX8_leastOut_7 17 rfl rfl)
theorem dX8_leastOut_183 : decode cX8_leastOut 183 = .ok (.iload 6, 2) := dk_21 6 (dk_at dksX8_leastOut_7 20 rfl rfl)
theorem dX8_leastOut_185 : decode cX8_leastOut 185 = .ok (.aload_n 0, 1) := dk_42 (dk_at dksX8_leastOut_7 22 rfl rfl)
theorem dX8_leastOut_186 : decode cX8_leastOut 186 = .ok (.getfield 52, 3) := dk_180 0 52 (dk_at dksX8_leastOut_8 0 rfl rfl)
theorem dX8_leastOut_189 : decode cX8_leastOut 189 = .ok (.iload 4, 2) := dk_21 4 (dk_at dksX8_leastOut_8 3 rfl rfl)
theorem dX8_leastOut_191 : decode cX8_leastOut 191 = .ok (.iaload, 1) := dk_46 (dk_at dksX8_leastOut_8 5 rfl rfl)
theorem dX8_leastOut_192 : decode cX8_leastOut 192 = .ok (.if_icmp .lt 6, 3) := dk_161 0 6 (dk_at dksX8_leastOut_8 6 rfl rfl)
theorem dX8_leastOut_195 : decode cX8_leastOut 195 = .ok (.goto 14, 3) := dk_167 0 14 (dk_at dksX8_leastOut_8 9 rfl rfl)
theorem dX8_leastOut_198 : decode cX8_leastOut 198 = .ok (.aload_n 0, 1) := dk_42 (dk_at dksX8_leastOut_8 12 rfl rfl)
theorem dX8_leastOut_199 : decode cX8_leastOut 199 = .ok (.getfield 52, 3) := dk_180 0 52 (dk_at dksX8_leastOut_8 13 rfl rfl)
theorem dX8_leastOut_202 : decode cX8_leastOut 202 = .ok (.iload 4, 2) := dk_21 4 (dk_at dksX8_leastOut_8 16 rfl rfl)
theorem dX8_leastOut_204 : decode cX8_leastOut 204 = .ok (.iload 6, 2) := dk_21 6 (dk_at dksX8_leastOut_8 18 rfl rfl)
theorem dX8_leastOut_206 : decode cX8_leastOut 206 = .ok (.iastore, 1) := dk_79 (dk_at dksX8_leastOut_8 20 rfl rfl)
theorem dX8_leastOut_207 : decode cX8_leastOut 207 = .ok (.iconst 1, 1) := dk_4 (dk_at dksX8_leastOut_8 21 rfl rfl)
theorem dX8_leastOut_208 : decode cX8_leastOut 208 = .ok (.istore_n 3, 1) := dk_62 (dk_at dksX8_leastOut_8 22 rfl rfl)
theorem dX8_leastOut_209 : decode cX8_leastOut 209 = .ok (.iinc 4 1, 3) := dk_132 4 1 (dk_at dksX8_leastOut_9 0 rfl rfl)
theorem dX8_leastOut_212 : decode cX8_leastOut 212 = .ok (.goto (-179), 3) := dk_167 255 77 (dk_at dksX8_leastOut_9 3 rfl rfl)
theorem dX8_leastOut_215 : decode cX8_leastOut 215 = .ok (.goto (-191), 3) := dk_167 255 65 (dk_at dksX8_leastOut_9 6 rfl rfl)
theorem dX8_leastOut_218 : decode cX8_leastOut 218 = .ok (.iconst (-1), 1) := dk_2 (dk_at dksX8_leastOut_9 9 rfl rfl)
theorem dX8_leastOut_219 : decode cX8_leastOut 219 = .ok (.istore 4, 2) := dk_54 4 (dk_at dksX8_leastOut_9 10 rfl rfl)
theorem dX8_leastOut_221 : decode cX8_leastOut 221 = .ok (.iconst 0, 1) := dk_3 (dk_at dksX8_leastOut_9 12 rfl rfl)
theorem dX8_leastOut_222 : decode cX8_leastOut 222 = .ok (.istore 5, 2) := dk_54 5 (dk_at dksX8_leastOut_9 13 rfl rfl)
theorem dX8_leastOut_224 : decode cX8_leastOut 224 = .ok (.iload 5, 2) := dk_21 5 (dk_at dksX8_leastOut_9 15 rfl rfl)
theorem dX8_leastOut_226 : decode cX8_leastOut 226 = .ok (.sipush 144, 3) := dk_17 0 144 (dk_at dksX8_leastOut_9 17 rfl rfl)
theorem dX8_leastOut_229 : decode cX8_leastOut 229 = .ok (.if_icmp .ge 55, 3) := dk_162 0 55 (dk_at dksX8_leastOut_9 20 rfl rfl)
theorem dX8_leastOut_232 : decode cX8_leastOut 232 = .ok (.iload 5, 2) := dk_21 5 (dk_at dksX8_leastOut_10 0 rfl rfl)
theorem dX8_leastOut_234 : decode cX8_leastOut 234 = .ok (.invokestatic 359, 3) := dk_184 1 103 (dk_at dksX8_leastOut_10 2 rfl rfl)
theorem dX8_leastOut_237 : decode cX8_leastOut 237 = .ok (.ifCond .eq 41, 3) := dk_153 0 41 (dk_at dksX8_leastOut_10 5 rfl rfl)
theorem dX8_leastOut_240 : decode cX8_leastOut 240 = .ok (.aload_n 0, 1) := dk_42 (dk_at dksX8_leastOut_10 8 rfl rfl)
theorem dX8_leastOut_241 : decode cX8_leastOut 241 = .ok (.getfield 52, 3) := dk_180 0 52 (dk_at dksX8_leastOut_10 9 rfl rfl)
theorem dX8_leastOut_244 : decode cX8_leastOut 244 = .ok (.iload 5, 2) := dk_21 5 (dk_at dksX8_leastOut_10 12 rfl rfl)
theorem dX8_leastOut_246 : decode cX8_leastOut 246 = .ok (.iaload, 1) := dk_46 (dk_at dksX8_leastOut_10 14 rfl rfl)
theorem dX8_leastOut_247 : decode cX8_leastOut 247 = .ok (.iconst (-1), 1) := dk_2 (dk_at dksX8_leastOut_10 15 rfl rfl)
theorem dX8_leastOut_248 : decode cX8_leastOut 248 = .ok (.if_icmp .eq 30, 3) := dk_159 0 30 (dk_at dksX8_leastOut_10 16 rfl rfl)
theorem dX8_leastOut_251 : decode cX8_leastOut 251 = .ok (.iload 4, 2) := dk_21 4 (dk_at dksX8_leastOut_10 19 rfl rfl)
theorem dX8_leastOut_253 : decode cX8_leastOut 253 = .ok (.iconst (-1), 1) := dk_2 (dk_at dksX8_leastOut_10 21 rfl rfl)
theorem dX8_leastOut_254 : decode cX8_leastOut 254 = .ok (.if_icmp .eq 15, 3) := dk_159 0 15 (dk_at dksX8_leastOut_11 0 rfl rfl)
theorem dX8_leastOut_257 : decode cX8_leastOut 257 = .ok (.aload_n 0, 1) := dk_42 (dk_at dksX8_leastOut_11 3 rfl rfl)
theorem dX8_leastOut_258 : decode cX8_leastOut 258 = .ok (.getfield 52, 3) := dk_180 0 52 (dk_at dksX8_leastOut_11 4 rfl rfl)
theorem dX8_leastOut_261 : decode cX8_leastOut 261 = .ok (.iload 5, 2) := dk_21 5 (dk_at dksX8_leastOut_11 7 rfl rfl)
theorem dX8_leastOut_263 : decode cX8_leastOut 263 = .ok (.iaload, 1) := dk_46 (dk_at dksX8_leastOut_11 9 rfl rfl)
theorem dX8_leastOut_264 : decode cX8_leastOut 264 = .ok (.iload 4, 2) := dk_21 4 (dk_at dksX8_leastOut_11 10 rfl rfl)
theorem dX8_leastOut_266 : decode cX8_leastOut 266 = .ok (.if_icmp .ge 12, 3) := dk_162 0 12 (dk_at dksX8_leastOut_11 12 rfl rfl)
theorem dX8_leastOut_269 : decode cX8_leastOut 269 = .ok (.aload_n 0, 1) := dk_42 (dk_at dksX8_leastOut_11 15 rfl rfl)
theorem dX8_leastOut_270 : decode cX8_leastOut 270 = .ok (.getfield 52, 3) := dk_180 0 52 (dk_at dksX8_leastOut_11 16 rfl rfl)
theorem dX8_leastOut_273 : decode cX8_leastOut 273 = .ok (.iload 5, 2) := dk_21 5 (dk_at dksX8_leastOut_11 19 rfl rfl)
theorem dX8_leastOut_275 : decode cX8_leastOut 275 = .ok (.iaload, 1) := dk_46 (dk_at dksX8_leastOut_11 21 rfl rfl)
theorem dX8_leastOut_276 : decode cX8_leastOut 276 = .ok (.istore 4, 2) := dk_54 4 (dk_at dksX8_leastOut_11 22 rfl rfl)
theorem dX8_leastOut_278 : decode cX8_leastOut 278 = .ok (.iinc 5 1, 3) := dk_132 5 1 (dk_at dksX8_leastOut_12 0 rfl rfl)
theorem dX8_leastOut_281 : decode cX8_leastOut 281 = .ok (.goto (-57), 3) := dk_167 255 199 (dk_at dksX8_leastOut_12 3 rfl rfl)
theorem dX8_leastOut_284 : decode cX8_leastOut 284 = .ok (.iload 4, 2) := dk_21 4 (dk_at dksX8_leastOut_12 6 rfl rfl)
theorem dX8_leastOut_286 : decode cX8_leastOut 286 = .ok (.ireturn, 1) := dk_172 (dk_at dksX8_leastOut_12 8 rfl rfl)
abbrev cX8_isShaft : ByteArray := prog_16_method_11_code
def yX8_isShaft : MethodName := ⟨RX8, "isShaft", "(I)Z"⟩
def dkwX8_isShaft_2 : List UInt8 := [16, 9, 46, 133, 42, 180, 0, 13, 16, 11, 46, 133, 184, 0, 110, 153, 0, 7, 4, 167, 0, 4, 3, 172]
abbrev dktX8_isShaft_2 : List UInt8 := dkwX8_isShaft_2 ++ []
def dkwX8_isShaft_1 : List UInt8 := [42, 180, 0, 13, 16, 10, 46, 133, 184, 0, 110, 153, 0, 34, 27, 16, 12, 108, 133, 42, 180, 0, 13]
abbrev dktX8_isShaft_1 : List UInt8 := dkwX8_isShaft_1 ++ dktX8_isShaft_2
def dkwX8_isShaft_0 : List UInt8 := [42, 180, 0, 13, 16, 7, 46, 4, 160, 0, 61, 27, 16, 12, 112, 133, 42, 180, 0, 13, 16, 8, 46, 133]
abbrev dktX8_isShaft_0 : List UInt8 := dkwX8_isShaft_0 ++ dktX8_isShaft_1
theorem dksX8_isShaft_0 : cX8_isShaft.data.toList.drop 0 = dktX8_isShaft_0 := by decide +kernel
theorem dksX8_isShaft_1 : cX8_isShaft.data.toList.drop 24 = dktX8_isShaft_1 := dk_seg dksX8_isShaft_0 24 rfl rfl
theorem dksX8_isShaft_2 : cX8_isShaft.data.toList.drop 47 = dktX8_isShaft_2 := dk_seg dksX8_isShaft_1 23 rfl rfl
theorem dX8_isShaft_0 : decode cX8_isShaft 0 = .ok (.aload_n 0, 1) := dk_42 (dk_at dksX8_isShaft_0 0 rfl rfl)
theorem dX8_isShaft_1 : decode cX8_isShaft 1 = .ok (.getfield 13, 3) := dk_180 0 13 (dk_at dksX8_isShaft_0 1 rfl rfl)
theorem dX8_isShaft_4 : decode cX8_isShaft 4 = .ok (.bipush 7, 2) := dk_16 7 (dk_at dksX8_isShaft_0 4 rfl rfl)
theorem dX8_isShaft_6 : decode cX8_isShaft 6 = .ok (.iaload, 1) := dk_46 (dk_at dksX8_isShaft_0 6 rfl rfl)
theorem dX8_isShaft_7 : decode cX8_isShaft 7 = .ok (.iconst 1, 1) := dk_4 (dk_at dksX8_isShaft_0 7 rfl rfl)
theorem dX8_isShaft_8 : decode cX8_isShaft 8 = .ok (.if_icmp .ne 61, 3) := dk_160 0 61 (dk_at dksX8_isShaft_0 8 rfl rfl)
theorem dX8_isShaft_11 : decode cX8_isShaft 11 = .ok (.iload_n 1, 1) := dk_27 (dk_at dksX8_isShaft_0 11 rfl rfl)
theorem dX8_isShaft_12 : decode cX8_isShaft 12 = .ok (.bipush 12, 2) := dk_16 12 (dk_at dksX8_isShaft_0 12 rfl rfl)
theorem dX8_isShaft_14 : decode cX8_isShaft 14 = .ok (.irem, 1) := dk_112 (dk_at dksX8_isShaft_0 14 rfl rfl)
theorem dX8_isShaft_15 : decode cX8_isShaft 15 = .ok (.i2l, 1) := dk_133 (dk_at dksX8_isShaft_0 15 rfl rfl)
theorem dX8_isShaft_16 : decode cX8_isShaft 16 = .ok (.aload_n 0, 1) := dk_42 (dk_at dksX8_isShaft_0 16 rfl rfl)
theorem dX8_isShaft_17 : decode cX8_isShaft 17 = .ok (.getfield 13, 3) := dk_180 0 13 (dk_at dksX8_isShaft_0 17 rfl rfl)
theorem dX8_isShaft_20 : decode cX8_isShaft 20 = .ok (.bipush 8, 2) := dk_16 8 (dk_at dksX8_isShaft_0 20 rfl rfl)
theorem dX8_isShaft_22 : decode cX8_isShaft 22 = .ok (.iaload, 1) := dk_46 (dk_at dksX8_isShaft_0 22 rfl rfl)
theorem dX8_isShaft_23 : decode cX8_isShaft 23 = .ok (.i2l, 1) := dk_133 (dk_at dksX8_isShaft_0 23 rfl rfl)
theorem dX8_isShaft_24 : decode cX8_isShaft 24 = .ok (.aload_n 0, 1) := dk_42 (dk_at dksX8_isShaft_1 0 rfl rfl)
theorem dX8_isShaft_25 : decode cX8_isShaft 25 = .ok (.getfield 13, 3) := dk_180 0 13 (dk_at dksX8_isShaft_1 1 rfl rfl)
theorem dX8_isShaft_28 : decode cX8_isShaft 28 = .ok (.bipush 10, 2) := dk_16 10 (dk_at dksX8_isShaft_1 4 rfl rfl)
theorem dX8_isShaft_30 : decode cX8_isShaft 30 = .ok (.iaload, 1) := dk_46 (dk_at dksX8_isShaft_1 6 rfl rfl)
theorem dX8_isShaft_31 : decode cX8_isShaft 31 = .ok (.i2l, 1) := dk_133 (dk_at dksX8_isShaft_1 7 rfl rfl)
theorem dX8_isShaft_32 : decode cX8_isShaft 32 = .ok (.invokestatic 110, 3) := dk_184 0 110 (dk_at dksX8_isShaft_1 8 rfl rfl)
theorem dX8_isShaft_35 : decode cX8_isShaft 35 = .ok (.ifCond .eq 34, 3) := dk_153 0 34 (dk_at dksX8_isShaft_1 11 rfl rfl)
theorem dX8_isShaft_38 : decode cX8_isShaft 38 = .ok (.iload_n 1, 1) := dk_27 (dk_at dksX8_isShaft_1 14 rfl rfl)
theorem dX8_isShaft_39 : decode cX8_isShaft 39 = .ok (.bipush 12, 2) := dk_16 12 (dk_at dksX8_isShaft_1 15 rfl rfl)
theorem dX8_isShaft_41 : decode cX8_isShaft 41 = .ok (.idiv, 1) := dk_108 (dk_at dksX8_isShaft_1 17 rfl rfl)
theorem dX8_isShaft_42 : decode cX8_isShaft 42 = .ok (.i2l, 1) := dk_133 (dk_at dksX8_isShaft_1 18 rfl rfl)
theorem dX8_isShaft_43 : decode cX8_isShaft 43 = .ok (.aload_n 0, 1) := dk_42 (dk_at dksX8_isShaft_1 19 rfl rfl)
theorem dX8_isShaft_44 : decode cX8_isShaft 44 = .ok (.getfield 13, 3) := dk_180 0 13 (dk_at dksX8_isShaft_1 20 rfl rfl)
theorem dX8_isShaft_47 : decode cX8_isShaft 47 = .ok (.bipush 9, 2) := dk_16 9 (dk_at dksX8_isShaft_2 0 rfl rfl)
theorem dX8_isShaft_49 : decode cX8_isShaft 49 = .ok (.iaload, 1) := dk_46 (dk_at dksX8_isShaft_2 2 rfl rfl)
theorem dX8_isShaft_50 : decode cX8_isShaft 50 = .ok (.i2l, 1) := dk_133 (dk_at dksX8_isShaft_2 3 rfl rfl)
theorem dX8_isShaft_51 : decode cX8_isShaft 51 = .ok (.aload_n 0, 1) := dk_42 (dk_at dksX8_isShaft_2 4 rfl rfl)
theorem dX8_isShaft_52 : decode cX8_isShaft 52 = .ok (.getfield 13, 3) := dk_180 0 13 (dk_at dksX8_isShaft_2 5 rfl rfl)
theorem dX8_isShaft_55 : decode cX8_isShaft 55 = .ok (.bipush 11, 2) := dk_16 11 (dk_at dksX8_isShaft_2 8 rfl rfl)
theorem dX8_isShaft_57 : decode cX8_isShaft 57 = .ok (.iaload, 1) := dk_46 (dk_at dksX8_isShaft_2 10 rfl rfl)
theorem dX8_isShaft_58 : decode cX8_isShaft 58 = .ok (.i2l, 1) := dk_133 (dk_at dksX8_isShaft_2 11 rfl rfl)
theorem dX8_isShaft_59 : decode cX8_isShaft 59 = .ok (.invokestatic 110, 3) := dk_184 0 110 (dk_at dksX8_isShaft_2 12 rfl rfl)
theorem dX8_isShaft_62 : decode cX8_isShaft 62 = .ok (.ifCond .eq 7, 3) := dk_153 0 7 (dk_at dksX8_isShaft_2 15 rfl rfl)
theorem dX8_isShaft_65 : decode cX8_isShaft 65 = .ok (.iconst 1, 1) := dk_4 (dk_at dksX8_isShaft_2 18 rfl rfl)
theorem dX8_isShaft_66 : decode cX8_isShaft 66 = .ok (.goto 4, 3) := dk_167 0 4 (dk_at dksX8_isShaft_2 19 rfl rfl)
theorem dX8_isShaft_69 : decode cX8_isShaft 69 = .ok (.iconst 0, 1) := dk_3 (dk_at dksX8_isShaft_2 22 rfl rfl)
theorem dX8_isShaft_70 : decode cX8_isShaft 70 = .ok (.ireturn, 1) := dk_172 (dk_at dksX8_isShaft_2 23 rfl rfl)
abbrev cX8_isBesideShaft : ByteArray := prog_16_method_58_code
def yX8_isBesideShaft : MethodName := ⟨RX8, "isBesideShaft", "(I)Z"⟩
def dkwX8_isBesideShaft_2 : List UInt8 := [153, 0, 15, 42, 27, 182, 1, 90, 154, 0, 7, 4, 167, 0, 4, 3, 172]
abbrev dktX8_isBesideShaft_2 : List UInt8 := dkwX8_isBesideShaft_2 ++ []
def dkwX8_isBesideShaft_1 : List UInt8 := [29, 184, 1, 48, 182, 1, 90, 153, 0, 7, 4, 167, 0, 4, 3, 61, 132, 3, 1, 167, 255, 217, 28]
abbrev dktX8_isBesideShaft_1 : List UInt8 := dkwX8_isBesideShaft_1 ++ dktX8_isBesideShaft_2
def dkwX8_isBesideShaft_0 : List UInt8 := [3, 61, 3, 62, 29, 7, 162, 0, 40, 28, 154, 0, 24, 27, 29, 184, 1, 48, 2, 159, 0, 19, 42, 27]
abbrev dktX8_isBesideShaft_0 : List UInt8 := dkwX8_isBesideShaft_0 ++ dktX8_isBesideShaft_1
theorem dksX8_isBesideShaft_0 : cX8_isBesideShaft.data.toList.drop 0 = dktX8_isBesideShaft_0 := by decide +kernel
theorem dksX8_isBesideShaft_1 : cX8_isBesideShaft.data.toList.drop 24 = dktX8_isBesideShaft_1 := dk_seg dksX8_isBesideShaft_0 24 rfl rfl
theorem dksX8_isBesideShaft_2 : cX8_isBesideShaft.data.toList.drop 47 = dktX8_isBesideShaft_2 := dk_seg dksX8_isBesideShaft_1 23 rfl rfl
theorem dX8_isBesideShaft_0 : decode cX8_isBesideShaft 0 = .ok (.iconst 0, 1) := dk_3 (dk_at dksX8_isBesideShaft_0 0 rfl rfl)
theorem dX8_isBesideShaft_1 : decode cX8_isBesideShaft 1 = .ok (.istore_n 2, 1) := dk_61 (dk_at dksX8_isBesideShaft_0 1 rfl rfl)
theorem dX8_isBesideShaft_2 : decode cX8_isBesideShaft 2 = .ok (.iconst 0, 1) := dk_3 (dk_at dksX8_isBesideShaft_0 2 rfl rfl)
theorem dX8_isBesideShaft_3 : decode cX8_isBesideShaft 3 = .ok (.istore_n 3, 1) := dk_62 (dk_at dksX8_isBesideShaft_0 3 rfl rfl)
theorem dX8_isBesideShaft_4 : decode cX8_isBesideShaft 4 = .ok (.iload_n 3, 1) := dk_29 (dk_at dksX8_isBesideShaft_0 4 rfl rfl)
theorem dX8_isBesideShaft_5 : decode cX8_isBesideShaft 5 = .ok (.iconst 4, 1) := dk_7 (dk_at dksX8_isBesideShaft_0 5 rfl rfl)
theorem dX8_isBesideShaft_6 : decode cX8_isBesideShaft 6 = .ok (.if_icmp .ge 40, 3) := dk_162 0 40 (dk_at dksX8_isBesideShaft_0 6 rfl rfl)
theorem dX8_isBesideShaft_9 : decode cX8_isBesideShaft 9 = .ok (.iload_n 2, 1) := dk_28 (dk_at dksX8_isBesideShaft_0 9 rfl rfl)
theorem dX8_isBesideShaft_10 : decode cX8_isBesideShaft 10 = .ok (.ifCond .ne 24, 3) := dk_154 0 24 (dk_at dksX8_isBesideShaft_0 10 rfl rfl)
theorem dX8_isBesideShaft_13 : decode cX8_isBesideShaft 13 = .ok (.iload_n 1, 1) := dk_27 (dk_at dksX8_isBesideShaft_0 13 rfl rfl)
theorem dX8_isBesideShaft_14 : decode cX8_isBesideShaft 14 = .ok (.iload_n 3, 1) := dk_29 (dk_at dksX8_isBesideShaft_0 14 rfl rfl)
theorem dX8_isBesideShaft_15 : decode cX8_isBesideShaft 15 = .ok (.invokestatic 304, 3) := dk_184 1 48 (dk_at dksX8_isBesideShaft_0 15 rfl rfl)
theorem dX8_isBesideShaft_18 : decode cX8_isBesideShaft 18 = .ok (.iconst (-1), 1) := dk_2 (dk_at dksX8_isBesideShaft_0 18 rfl rfl)
theorem dX8_isBesideShaft_19 : decode cX8_isBesideShaft 19 = .ok (.if_icmp .eq 19, 3) := dk_159 0 19 (dk_at dksX8_isBesideShaft_0 19 rfl rfl)
theorem dX8_isBesideShaft_22 : decode cX8_isBesideShaft 22 = .ok (.aload_n 0, 1) := dk_42 (dk_at dksX8_isBesideShaft_0 22 rfl rfl)
theorem dX8_isBesideShaft_23 : decode cX8_isBesideShaft 23 = .ok (.iload_n 1, 1) := dk_27 (dk_at dksX8_isBesideShaft_0 23 rfl rfl)
theorem dX8_isBesideShaft_24 : decode cX8_isBesideShaft 24 = .ok (.iload_n 3, 1) := dk_29 (dk_at dksX8_isBesideShaft_1 0 rfl rfl)
theorem dX8_isBesideShaft_25 : decode cX8_isBesideShaft 25 = .ok (.invokestatic 304, 3) := dk_184 1 48 (dk_at dksX8_isBesideShaft_1 1 rfl rfl)
theorem dX8_isBesideShaft_28 : decode cX8_isBesideShaft 28 = .ok (.invokevirtual 346, 3) := dk_182 1 90 (dk_at dksX8_isBesideShaft_1 4 rfl rfl)
theorem dX8_isBesideShaft_31 : decode cX8_isBesideShaft 31 = .ok (.ifCond .eq 7, 3) := dk_153 0 7 (dk_at dksX8_isBesideShaft_1 7 rfl rfl)
theorem dX8_isBesideShaft_34 : decode cX8_isBesideShaft 34 = .ok (.iconst 1, 1) := dk_4 (dk_at dksX8_isBesideShaft_1 10 rfl rfl)
theorem dX8_isBesideShaft_35 : decode cX8_isBesideShaft 35 = .ok (.goto 4, 3) := dk_167 0 4 (dk_at dksX8_isBesideShaft_1 11 rfl rfl)
theorem dX8_isBesideShaft_38 : decode cX8_isBesideShaft 38 = .ok (.iconst 0, 1) := dk_3 (dk_at dksX8_isBesideShaft_1 14 rfl rfl)
theorem dX8_isBesideShaft_39 : decode cX8_isBesideShaft 39 = .ok (.istore_n 2, 1) := dk_61 (dk_at dksX8_isBesideShaft_1 15 rfl rfl)
theorem dX8_isBesideShaft_40 : decode cX8_isBesideShaft 40 = .ok (.iinc 3 1, 3) := dk_132 3 1 (dk_at dksX8_isBesideShaft_1 16 rfl rfl)
theorem dX8_isBesideShaft_43 : decode cX8_isBesideShaft 43 = .ok (.goto (-39), 3) := dk_167 255 217 (dk_at dksX8_isBesideShaft_1 19 rfl rfl)
theorem dX8_isBesideShaft_46 : decode cX8_isBesideShaft 46 = .ok (.iload_n 2, 1) := dk_28 (dk_at dksX8_isBesideShaft_1 22 rfl rfl)
theorem dX8_isBesideShaft_47 : decode cX8_isBesideShaft 47 = .ok (.ifCond .eq 15, 3) := dk_153 0 15 (dk_at dksX8_isBesideShaft_2 0 rfl rfl)
theorem dX8_isBesideShaft_50 : decode cX8_isBesideShaft 50 = .ok (.aload_n 0, 1) := dk_42 (dk_at dksX8_isBesideShaft_2 3 rfl rfl)
theorem dX8_isBesideShaft_51 : decode cX8_isBesideShaft 51 = .ok (.iload_n 1, 1) := dk_27 (dk_at dksX8_isBesideShaft_2 4 rfl rfl)
theorem dX8_isBesideShaft_52 : decode cX8_isBesideShaft 52 = .ok (.invokevirtual 346, 3) := dk_182 1 90 (dk_at dksX8_isBesideShaft_2 5 rfl rfl)
theorem dX8_isBesideShaft_55 : decode cX8_isBesideShaft 55 = .ok (.ifCond .ne 7, 3) := dk_154 0 7 (dk_at dksX8_isBesideShaft_2 8 rfl rfl)
theorem dX8_isBesideShaft_58 : decode cX8_isBesideShaft 58 = .ok (.iconst 1, 1) := dk_4 (dk_at dksX8_isBesideShaft_2 11 rfl rfl)
theorem dX8_isBesideShaft_59 : decode cX8_isBesideShaft 59 = .ok (.goto 4, 3) := dk_167 0 4 (dk_at dksX8_isBesideShaft_2 12 rfl rfl)
theorem dX8_isBesideShaft_62 : decode cX8_isBesideShaft 62 = .ok (.iconst 0, 1) := dk_3 (dk_at dksX8_isBesideShaft_2 15 rfl rfl)
theorem dX8_isBesideShaft_63 : decode cX8_isBesideShaft 63 = .ok (.ireturn, 1) := dk_172 (dk_at dksX8_isBesideShaft_2 16 rfl rfl)
abbrev cX8_isRim : ByteArray := prog_16_method_59_code
def yX8_isRim : MethodName := ⟨RX8, "isRim", "(I)Z"⟩
def dkwX8_isRim_1 : List UInt8 := [16, 12, 108, 16, 11, 160, 0, 7, 4, 167, 0, 4, 3, 172]
abbrev dktX8_isRim_1 : List UInt8 := dkwX8_isRim_1 ++ []
def dkwX8_isRim_0 : List UInt8 := [26, 16, 12, 112, 153, 0, 28, 26, 16, 12, 112, 16, 11, 159, 0, 19, 26, 16, 12, 108, 153, 0, 12, 26]
abbrev dktX8_isRim_0 : List UInt8 := dkwX8_isRim_0 ++ dktX8_isRim_1
theorem dksX8_isRim_0 : cX8_isRim.data.toList.drop 0 = dktX8_isRim_0 := by decide +kernel
theorem dksX8_isRim_1 : cX8_isRim.data.toList.drop 24 = dktX8_isRim_1 := dk_seg dksX8_isRim_0 24 rfl rfl
theorem dX8_isRim_0 : decode cX8_isRim 0 = .ok (.iload_n 0, 1) := dk_26 (dk_at dksX8_isRim_0 0 rfl rfl)
theorem dX8_isRim_1 : decode cX8_isRim 1 = .ok (.bipush 12, 2) := dk_16 12 (dk_at dksX8_isRim_0 1 rfl rfl)
theorem dX8_isRim_3 : decode cX8_isRim 3 = .ok (.irem, 1) := dk_112 (dk_at dksX8_isRim_0 3 rfl rfl)
theorem dX8_isRim_4 : decode cX8_isRim 4 = .ok (.ifCond .eq 28, 3) := dk_153 0 28 (dk_at dksX8_isRim_0 4 rfl rfl)
theorem dX8_isRim_7 : decode cX8_isRim 7 = .ok (.iload_n 0, 1) := dk_26 (dk_at dksX8_isRim_0 7 rfl rfl)
theorem dX8_isRim_8 : decode cX8_isRim 8 = .ok (.bipush 12, 2) := dk_16 12 (dk_at dksX8_isRim_0 8 rfl rfl)
theorem dX8_isRim_10 : decode cX8_isRim 10 = .ok (.irem, 1) := dk_112 (dk_at dksX8_isRim_0 10 rfl rfl)
theorem dX8_isRim_11 : decode cX8_isRim 11 = .ok (.bipush 11, 2) := dk_16 11 (dk_at dksX8_isRim_0 11 rfl rfl)
theorem dX8_isRim_13 : decode cX8_isRim 13 = .ok (.if_icmp .eq 19, 3) := dk_159 0 19 (dk_at dksX8_isRim_0 13 rfl rfl)
theorem dX8_isRim_16 : decode cX8_isRim 16 = .ok (.iload_n 0, 1) := dk_26 (dk_at dksX8_isRim_0 16 rfl rfl)
theorem dX8_isRim_17 : decode cX8_isRim 17 = .ok (.bipush 12, 2) := dk_16 12 (dk_at dksX8_isRim_0 17 rfl rfl)
theorem dX8_isRim_19 : decode cX8_isRim 19 = .ok (.idiv, 1) := dk_108 (dk_at dksX8_isRim_0 19 rfl rfl)
theorem dX8_isRim_20 : decode cX8_isRim 20 = .ok (.ifCond .eq 12, 3) := dk_153 0 12 (dk_at dksX8_isRim_0 20 rfl rfl)
theorem dX8_isRim_23 : decode cX8_isRim 23 = .ok (.iload_n 0, 1) := dk_26 (dk_at dksX8_isRim_0 23 rfl rfl)
theorem dX8_isRim_24 : decode cX8_isRim 24 = .ok (.bipush 12, 2) := dk_16 12 (dk_at dksX8_isRim_1 0 rfl rfl)
theorem dX8_isRim_26 : decode cX8_isRim 26 = .ok (.idiv, 1) := dk_108 (dk_at dksX8_isRim_1 2 rfl rfl)
theorem dX8_isRim_27 : decode cX8_isRim 27 = .ok (.bipush 11, 2) := dk_16 11 (dk_at dksX8_isRim_1 3 rfl rfl)
theorem dX8_isRim_29 : decode cX8_isRim 29 = .ok (.if_icmp .ne 7, 3) := dk_160 0 7 (dk_at dksX8_isRim_1 5 rfl rfl)
theorem dX8_isRim_32 : decode cX8_isRim 32 = .ok (.iconst 1, 1) := dk_4 (dk_at dksX8_isRim_1 8 rfl rfl)
theorem dX8_isRim_33 : decode cX8_isRim 33 = .ok (.goto 4, 3) := dk_167 0 4 (dk_at dksX8_isRim_1 9 rfl rfl)
theorem dX8_isRim_36 : decode cX8_isRim 36 = .ok (.iconst 0, 1) := dk_3 (dk_at dksX8_isRim_1 12 rfl rfl)
theorem dX8_isRim_37 : decode cX8_isRim 37 = .ok (.ireturn, 1) := dk_172 (dk_at dksX8_isRim_1 13 rfl rfl)
abbrev cX8_cell : ByteArray := prog_16_method_51_code
def yX8_cell : MethodName := ⟨RX8, "cell", "(III)I"⟩
def dkwX8_cell_5 : List UInt8 := [21, 4, 182, 1, 90, 153, 0, 7, 4, 167, 0, 4, 3, 172, 19, 1, 86, 172]
abbrev dktX8_cell_5 : List UInt8 := dkwX8_cell_5 ++ []
def dkwX8_cell_4 : List UInt8 := [42, 21, 4, 182, 1, 45, 153, 0, 7, 4, 167, 0, 4, 3, 172, 42, 21, 4, 182, 1, 87, 172, 42]
abbrev dktX8_cell_4 : List UInt8 := dkwX8_cell_4 ++ dktX8_cell_5
def dkwX8_cell_3 : List UInt8 := [180, 0, 13, 17, 1, 80, 21, 4, 96, 46, 172, 42, 21, 4, 182, 0, 102, 153, 0, 7, 5, 167, 0, 17]
abbrev dktX8_cell_3 : List UInt8 := dkwX8_cell_3 ++ dktX8_cell_4
def dkwX8_cell_2 : List UInt8 := [42, 180, 0, 13, 16, 48, 21, 4, 96, 46, 172, 42, 180, 0, 13, 17, 0, 192, 21, 4, 96, 46, 172, 42]
abbrev dktX8_cell_2 : List UInt8 := dkwX8_cell_2 ++ dktX8_cell_3
def dkwX8_cell_1 : List UInt8 := [170, 0, 0, 0, 0, 0, 124, 0, 0, 0, 0, 0, 0, 0, 5, 0, 0, 0, 39, 0, 0, 0, 50, 0, 0, 0, 62, 0, 0, 0, 74, 0, 0, 0, 102, 0, 0, 0, 109]
abbrev dktX8_cell_1 : List UInt8 := dkwX8_cell_1 ++ dktX8_cell_2
def dkwX8_cell_0 : List UInt8 := [27, 28, 184, 0, 116, 154, 0, 7, 19, 1, 86, 172, 16, 12, 28, 104, 27, 96, 54, 4, 29]
abbrev dktX8_cell_0 : List UInt8 := dkwX8_cell_0 ++ dktX8_cell_1
theorem dksX8_cell_0 : cX8_cell.data.toList.drop 0 = dktX8_cell_0 := by decide +kernel
theorem dksX8_cell_1 : cX8_cell.data.toList.drop 21 = dktX8_cell_1 := dk_seg dksX8_cell_0 21 rfl rfl
theorem dksX8_cell_2 : cX8_cell.data.toList.drop 60 = dktX8_cell_2 := dk_seg dksX8_cell_1 39 rfl rfl
theorem dksX8_cell_3 : cX8_cell.data.toList.drop 84 = dktX8_cell_3 := dk_seg dksX8_cell_2 24 rfl rfl
theorem dksX8_cell_4 : cX8_cell.data.toList.drop 108 = dktX8_cell_4 := dk_seg dksX8_cell_3 24 rfl rfl
theorem dksX8_cell_5 : cX8_cell.data.toList.drop 131 = dktX8_cell_5 := dk_seg dksX8_cell_4 23 rfl rfl
theorem dX8_cell_0 : decode cX8_cell 0 = .ok (.iload_n 1, 1) := dk_27 (dk_at dksX8_cell_0 0 rfl rfl)
theorem dX8_cell_1 : decode cX8_cell 1 = .ok (.iload_n 2, 1) := dk_28 (dk_at dksX8_cell_0 1 rfl rfl)
theorem dX8_cell_2 : decode cX8_cell 2 = .ok (.invokestatic 116, 3) := dk_184 0 116 (dk_at dksX8_cell_0 2 rfl rfl)
theorem dX8_cell_5 : decode cX8_cell 5 = .ok (.ifCond .ne 7, 3) := dk_154 0 7 (dk_at dksX8_cell_0 5 rfl rfl)
theorem dX8_cell_8 : decode cX8_cell 8 = .ok (.ldc_w 342, 3) := dk_19 1 86 (dk_at dksX8_cell_0 8 rfl rfl)
theorem dX8_cell_11 : decode cX8_cell 11 = .ok (.ireturn, 1) := dk_172 (dk_at dksX8_cell_0 11 rfl rfl)
theorem dX8_cell_12 : decode cX8_cell 12 = .ok (.bipush 12, 2) := dk_16 12 (dk_at dksX8_cell_0 12 rfl rfl)
theorem dX8_cell_14 : decode cX8_cell 14 = .ok (.iload_n 2, 1) := dk_28 (dk_at dksX8_cell_0 14 rfl rfl)
theorem dX8_cell_15 : decode cX8_cell 15 = .ok (.imul, 1) := dk_104 (dk_at dksX8_cell_0 15 rfl rfl)
theorem dX8_cell_16 : decode cX8_cell 16 = .ok (.iload_n 1, 1) := dk_27 (dk_at dksX8_cell_0 16 rfl rfl)
theorem dX8_cell_17 : decode cX8_cell 17 = .ok (.iadd, 1) := dk_96 (dk_at dksX8_cell_0 17 rfl rfl)
theorem dX8_cell_18 : decode cX8_cell 18 = .ok (.istore 4, 2) := dk_54 4 (dk_at dksX8_cell_0 18 rfl rfl)
theorem dX8_cell_20 : decode cX8_cell 20 = .ok (.iload_n 3, 1) := dk_29 (dk_at dksX8_cell_0 20 rfl rfl)
theorem dX8_cell_21 : decode cX8_cell 21 = .ok (.tableswitch 124 0 5 #[39, 50, 62, 74, 102, 109], 39) := by decide +kernel
theorem dX8_cell_60 : decode cX8_cell 60 = .ok (.aload_n 0, 1) := dk_42 (dk_at dksX8_cell_2 0 rfl rfl)
theorem dX8_cell_61 : decode cX8_cell 61 = .ok (.getfield 13, 3) := dk_180 0 13 (dk_at dksX8_cell_2 1 rfl rfl)
theorem dX8_cell_64 : decode cX8_cell 64 = .ok (.bipush 48, 2) := dk_16 48 (dk_at dksX8_cell_2 4 rfl rfl)
theorem dX8_cell_66 : decode cX8_cell 66 = .ok (.iload 4, 2) := dk_21 4 (dk_at dksX8_cell_2 6 rfl rfl)
theorem dX8_cell_68 : decode cX8_cell 68 = .ok (.iadd, 1) := dk_96 (dk_at dksX8_cell_2 8 rfl rfl)
theorem dX8_cell_69 : decode cX8_cell 69 = .ok (.iaload, 1) := dk_46 (dk_at dksX8_cell_2 9 rfl rfl)
theorem dX8_cell_70 : decode cX8_cell 70 = .ok (.ireturn, 1) := dk_172 (dk_at dksX8_cell_2 10 rfl rfl)
theorem dX8_cell_71 : decode cX8_cell 71 = .ok (.aload_n 0, 1) := dk_42 (dk_at dksX8_cell_2 11 rfl rfl)
theorem dX8_cell_72 : decode cX8_cell 72 = .ok (.getfield 13, 3) := dk_180 0 13 (dk_at dksX8_cell_2 12 rfl rfl)
theorem dX8_cell_75 : decode cX8_cell 75 = .ok (.sipush 192, 3) := dk_17 0 192 (dk_at dksX8_cell_2 15 rfl rfl)
theorem dX8_cell_78 : decode cX8_cell 78 = .ok (.iload 4, 2) := dk_21 4 (dk_at dksX8_cell_2 18 rfl rfl)
theorem dX8_cell_80 : decode cX8_cell 80 = .ok (.iadd, 1) := dk_96 (dk_at dksX8_cell_2 20 rfl rfl)
theorem dX8_cell_81 : decode cX8_cell 81 = .ok (.iaload, 1) := dk_46 (dk_at dksX8_cell_2 21 rfl rfl)
theorem dX8_cell_82 : decode cX8_cell 82 = .ok (.ireturn, 1) := dk_172 (dk_at dksX8_cell_2 22 rfl rfl)
theorem dX8_cell_83 : decode cX8_cell 83 = .ok (.aload_n 0, 1) := dk_42 (dk_at dksX8_cell_2 23 rfl rfl)
theorem dX8_cell_84 : decode cX8_cell 84 = .ok (.getfield 13, 3) := dk_180 0 13 (dk_at dksX8_cell_3 0 rfl rfl)
theorem dX8_cell_87 : decode cX8_cell 87 = .ok (.sipush 336, 3) := dk_17 1 80 (dk_at dksX8_cell_3 3 rfl rfl)
theorem dX8_cell_90 : decode cX8_cell 90 = .ok (.iload 4, 2) := dk_21 4 (dk_at dksX8_cell_3 6 rfl rfl)
theorem dX8_cell_92 : decode cX8_cell 92 = .ok (.iadd, 1) := dk_96 (dk_at dksX8_cell_3 8 rfl rfl)
theorem dX8_cell_93 : decode cX8_cell 93 = .ok (.iaload, 1) := dk_46 (dk_at dksX8_cell_3 9 rfl rfl)
theorem dX8_cell_94 : decode cX8_cell 94 = .ok (.ireturn, 1) := dk_172 (dk_at dksX8_cell_3 10 rfl rfl)
theorem dX8_cell_95 : decode cX8_cell 95 = .ok (.aload_n 0, 1) := dk_42 (dk_at dksX8_cell_3 11 rfl rfl)
theorem dX8_cell_96 : decode cX8_cell 96 = .ok (.iload 4, 2) := dk_21 4 (dk_at dksX8_cell_3 12 rfl rfl)
theorem dX8_cell_98 : decode cX8_cell 98 = .ok (.invokevirtual 102, 3) := dk_182 0 102 (dk_at dksX8_cell_3 14 rfl rfl)
theorem dX8_cell_101 : decode cX8_cell 101 = .ok (.ifCond .eq 7, 3) := dk_153 0 7 (dk_at dksX8_cell_3 17 rfl rfl)
theorem dX8_cell_104 : decode cX8_cell 104 = .ok (.iconst 2, 1) := dk_5 (dk_at dksX8_cell_3 20 rfl rfl)
theorem dX8_cell_105 : decode cX8_cell 105 = .ok (.goto 17, 3) := dk_167 0 17 (dk_at dksX8_cell_3 21 rfl rfl)
theorem dX8_cell_108 : decode cX8_cell 108 = .ok (.aload_n 0, 1) := dk_42 (dk_at dksX8_cell_4 0 rfl rfl)
theorem dX8_cell_109 : decode cX8_cell 109 = .ok (.iload 4, 2) := dk_21 4 (dk_at dksX8_cell_4 1 rfl rfl)
theorem dX8_cell_111 : decode cX8_cell 111 = .ok (.invokevirtual 301, 3) := dk_182 1 45 (dk_at dksX8_cell_4 3 rfl rfl)
theorem dX8_cell_114 : decode cX8_cell 114 = .ok (.ifCond .eq 7, 3) := dk_153 0 7 (dk_at dksX8_cell_4 6 rfl rfl)
theorem dX8_cell_117 : decode cX8_cell 117 = .ok (.iconst 1, 1) := dk_4 (dk_at dksX8_cell_4 9 rfl rfl)
theorem dX8_cell_118 : decode cX8_cell 118 = .ok (.goto 4, 3) := dk_167 0 4 (dk_at dksX8_cell_4 10 rfl rfl)
theorem dX8_cell_121 : decode cX8_cell 121 = .ok (.iconst 0, 1) := dk_3 (dk_at dksX8_cell_4 13 rfl rfl)
theorem dX8_cell_122 : decode cX8_cell 122 = .ok (.ireturn, 1) := dk_172 (dk_at dksX8_cell_4 14 rfl rfl)
theorem dX8_cell_123 : decode cX8_cell 123 = .ok (.aload_n 0, 1) := dk_42 (dk_at dksX8_cell_4 15 rfl rfl)
theorem dX8_cell_124 : decode cX8_cell 124 = .ok (.iload 4, 2) := dk_21 4 (dk_at dksX8_cell_4 16 rfl rfl)
theorem dX8_cell_126 : decode cX8_cell 126 = .ok (.invokevirtual 343, 3) := dk_182 1 87 (dk_at dksX8_cell_4 18 rfl rfl)
theorem dX8_cell_129 : decode cX8_cell 129 = .ok (.ireturn, 1) := dk_172 (dk_at dksX8_cell_4 21 rfl rfl)
theorem dX8_cell_130 : decode cX8_cell 130 = .ok (.aload_n 0, 1) := dk_42 (dk_at dksX8_cell_4 22 rfl rfl)
theorem dX8_cell_131 : decode cX8_cell 131 = .ok (.iload 4, 2) := dk_21 4 (dk_at dksX8_cell_5 0 rfl rfl)
theorem dX8_cell_133 : decode cX8_cell 133 = .ok (.invokevirtual 346, 3) := dk_182 1 90 (dk_at dksX8_cell_5 2 rfl rfl)
theorem dX8_cell_136 : decode cX8_cell 136 = .ok (.ifCond .eq 7, 3) := dk_153 0 7 (dk_at dksX8_cell_5 5 rfl rfl)
theorem dX8_cell_139 : decode cX8_cell 139 = .ok (.iconst 1, 1) := dk_4 (dk_at dksX8_cell_5 8 rfl rfl)
theorem dX8_cell_140 : decode cX8_cell 140 = .ok (.goto 4, 3) := dk_167 0 4 (dk_at dksX8_cell_5 9 rfl rfl)
theorem dX8_cell_143 : decode cX8_cell 143 = .ok (.iconst 0, 1) := dk_3 (dk_at dksX8_cell_5 12 rfl rfl)
theorem dX8_cell_144 : decode cX8_cell 144 = .ok (.ireturn, 1) := dk_172 (dk_at dksX8_cell_5 13 rfl rfl)
theorem dX8_cell_145 : decode cX8_cell 145 = .ok (.ldc_w 342, 3) := dk_19 1 86 (dk_at dksX8_cell_5 14 rfl rfl)
theorem dX8_cell_148 : decode cX8_cell 148 = .ok (.ireturn, 1) := dk_172 (dk_at dksX8_cell_5 17 rfl rfl)
abbrev cX8_pipeAt : ByteArray := prog_16_method_14_code
def yX8_pipeAt : MethodName := ⟨RX8, "pipeAt", "(I)I"⟩
def dkwX8_pipeAt_1 : List UInt8 := [46, 27, 160, 0, 5, 28, 172, 132, 2, 1, 167, 255, 224, 2, 172]
abbrev dktX8_pipeAt_1 : List UInt8 := dkwX8_pipeAt_1 ++ []
def dkwX8_pipeAt_0 : List UInt8 := [3, 61, 28, 42, 180, 0, 13, 5, 46, 162, 0, 28, 42, 180, 0, 13, 17, 2, 112, 16, 6, 28, 104, 96]
abbrev dktX8_pipeAt_0 : List UInt8 := dkwX8_pipeAt_0 ++ dktX8_pipeAt_1
theorem dksX8_pipeAt_0 : cX8_pipeAt.data.toList.drop 0 = dktX8_pipeAt_0 := by decide +kernel
theorem dksX8_pipeAt_1 : cX8_pipeAt.data.toList.drop 24 = dktX8_pipeAt_1 := dk_seg dksX8_pipeAt_0 24 rfl rfl
theorem dX8_pipeAt_0 : decode cX8_pipeAt 0 = .ok (.iconst 0, 1) := dk_3 (dk_at dksX8_pipeAt_0 0 rfl rfl)
theorem dX8_pipeAt_1 : decode cX8_pipeAt 1 = .ok (.istore_n 2, 1) := dk_61 (dk_at dksX8_pipeAt_0 1 rfl rfl)
theorem dX8_pipeAt_2 : decode cX8_pipeAt 2 = .ok (.iload_n 2, 1) := dk_28 (dk_at dksX8_pipeAt_0 2 rfl rfl)
theorem dX8_pipeAt_3 : decode cX8_pipeAt 3 = .ok (.aload_n 0, 1) := dk_42 (dk_at dksX8_pipeAt_0 3 rfl rfl)
theorem dX8_pipeAt_4 : decode cX8_pipeAt 4 = .ok (.getfield 13, 3) := dk_180 0 13 (dk_at dksX8_pipeAt_0 4 rfl rfl)
theorem dX8_pipeAt_7 : decode cX8_pipeAt 7 = .ok (.iconst 2, 1) := dk_5 (dk_at dksX8_pipeAt_0 7 rfl rfl)
theorem dX8_pipeAt_8 : decode cX8_pipeAt 8 = .ok (.iaload, 1) := dk_46 (dk_at dksX8_pipeAt_0 8 rfl rfl)
theorem dX8_pipeAt_9 : decode cX8_pipeAt 9 = .ok (.if_icmp .ge 28, 3) := dk_162 0 28 (dk_at dksX8_pipeAt_0 9 rfl rfl)
theorem dX8_pipeAt_12 : decode cX8_pipeAt 12 = .ok (.aload_n 0, 1) := dk_42 (dk_at dksX8_pipeAt_0 12 rfl rfl)
theorem dX8_pipeAt_13 : decode cX8_pipeAt 13 = .ok (.getfield 13, 3) := dk_180 0 13 (dk_at dksX8_pipeAt_0 13 rfl rfl)
theorem dX8_pipeAt_16 : decode cX8_pipeAt 16 = .ok (.sipush 624, 3) := dk_17 2 112 (dk_at dksX8_pipeAt_0 16 rfl rfl)
theorem dX8_pipeAt_19 : decode cX8_pipeAt 19 = .ok (.bipush 6, 2) := dk_16 6 (dk_at dksX8_pipeAt_0 19 rfl rfl)
theorem dX8_pipeAt_21 : decode cX8_pipeAt 21 = .ok (.iload_n 2, 1) := dk_28 (dk_at dksX8_pipeAt_0 21 rfl rfl)
theorem dX8_pipeAt_22 : decode cX8_pipeAt 22 = .ok (.imul, 1) := dk_104 (dk_at dksX8_pipeAt_0 22 rfl rfl)
theorem dX8_pipeAt_23 : decode cX8_pipeAt 23 = .ok (.iadd, 1) := dk_96 (dk_at dksX8_pipeAt_0 23 rfl rfl)
theorem dX8_pipeAt_24 : decode cX8_pipeAt 24 = .ok (.iaload, 1) := dk_46 (dk_at dksX8_pipeAt_1 0 rfl rfl)
theorem dX8_pipeAt_25 : decode cX8_pipeAt 25 = .ok (.iload_n 1, 1) := dk_27 (dk_at dksX8_pipeAt_1 1 rfl rfl)
theorem dX8_pipeAt_26 : decode cX8_pipeAt 26 = .ok (.if_icmp .ne 5, 3) := dk_160 0 5 (dk_at dksX8_pipeAt_1 2 rfl rfl)
theorem dX8_pipeAt_29 : decode cX8_pipeAt 29 = .ok (.iload_n 2, 1) := dk_28 (dk_at dksX8_pipeAt_1 5 rfl rfl)
theorem dX8_pipeAt_30 : decode cX8_pipeAt 30 = .ok (.ireturn, 1) := dk_172 (dk_at dksX8_pipeAt_1 6 rfl rfl)
theorem dX8_pipeAt_31 : decode cX8_pipeAt 31 = .ok (.iinc 2 1, 3) := dk_132 2 1 (dk_at dksX8_pipeAt_1 7 rfl rfl)
theorem dX8_pipeAt_34 : decode cX8_pipeAt 34 = .ok (.goto (-32), 3) := dk_167 255 224 (dk_at dksX8_pipeAt_1 10 rfl rfl)
theorem dX8_pipeAt_37 : decode cX8_pipeAt 37 = .ok (.iconst (-1), 1) := dk_2 (dk_at dksX8_pipeAt_1 13 rfl rfl)
theorem dX8_pipeAt_38 : decode cX8_pipeAt 38 = .ok (.ireturn, 1) := dk_172 (dk_at dksX8_pipeAt_1 14 rfl rfl)
abbrev cX8_heat : ByteArray := prog_16_method_52_code
def yX8_heat : MethodName := ⟨RX8, "heat", "(I)I"⟩
def dkwX8_heat_1 : List UInt8 := [180, 0, 13, 16, 14, 27, 96, 4, 100, 46, 167, 0, 6, 19, 1, 86, 172]
abbrev dktX8_heat_1 : List UInt8 := dkwX8_heat_1 ++ []
def dkwX8_heat_0 : List UInt8 := [27, 154, 0, 8, 42, 182, 0, 98, 172, 27, 133, 10, 20, 1, 93, 184, 0, 110, 153, 0, 17, 42]
abbrev dktX8_heat_0 : List UInt8 := dkwX8_heat_0 ++ dktX8_heat_1
theorem dksX8_heat_0 : cX8_heat.data.toList.drop 0 = dktX8_heat_0 := by decide +kernel
theorem dksX8_heat_1 : cX8_heat.data.toList.drop 22 = dktX8_heat_1 := dk_seg dksX8_heat_0 22 rfl rfl
theorem dX8_heat_0 : decode cX8_heat 0 = .ok (.iload_n 1, 1) := dk_27 (dk_at dksX8_heat_0 0 rfl rfl)
theorem dX8_heat_1 : decode cX8_heat 1 = .ok (.ifCond .ne 8, 3) := dk_154 0 8 (dk_at dksX8_heat_0 1 rfl rfl)
theorem dX8_heat_4 : decode cX8_heat 4 = .ok (.aload_n 0, 1) := dk_42 (dk_at dksX8_heat_0 4 rfl rfl)
theorem dX8_heat_5 : decode cX8_heat 5 = .ok (.invokevirtual 98, 3) := dk_182 0 98 (dk_at dksX8_heat_0 5 rfl rfl)
theorem dX8_heat_8 : decode cX8_heat 8 = .ok (.ireturn, 1) := dk_172 (dk_at dksX8_heat_0 8 rfl rfl)
theorem dX8_heat_9 : decode cX8_heat 9 = .ok (.iload_n 1, 1) := dk_27 (dk_at dksX8_heat_0 9 rfl rfl)
theorem dX8_heat_10 : decode cX8_heat 10 = .ok (.i2l, 1) := dk_133 (dk_at dksX8_heat_0 10 rfl rfl)
theorem dX8_heat_11 : decode cX8_heat 11 = .ok (.lconst 1, 1) := dk_10 (dk_at dksX8_heat_0 11 rfl rfl)
theorem dX8_heat_12 : decode cX8_heat 12 = .ok (.ldc2_w 349, 3) := dk_20 1 93 (dk_at dksX8_heat_0 12 rfl rfl)
theorem dX8_heat_15 : decode cX8_heat 15 = .ok (.invokestatic 110, 3) := dk_184 0 110 (dk_at dksX8_heat_0 15 rfl rfl)
theorem dX8_heat_18 : decode cX8_heat 18 = .ok (.ifCond .eq 17, 3) := dk_153 0 17 (dk_at dksX8_heat_0 18 rfl rfl)
theorem dX8_heat_21 : decode cX8_heat 21 = .ok (.aload_n 0, 1) := dk_42 (dk_at dksX8_heat_0 21 rfl rfl)
theorem dX8_heat_22 : decode cX8_heat 22 = .ok (.getfield 13, 3) := dk_180 0 13 (dk_at dksX8_heat_1 0 rfl rfl)
theorem dX8_heat_25 : decode cX8_heat 25 = .ok (.bipush 14, 2) := dk_16 14 (dk_at dksX8_heat_1 3 rfl rfl)
theorem dX8_heat_27 : decode cX8_heat 27 = .ok (.iload_n 1, 1) := dk_27 (dk_at dksX8_heat_1 5 rfl rfl)
theorem dX8_heat_28 : decode cX8_heat 28 = .ok (.iadd, 1) := dk_96 (dk_at dksX8_heat_1 6 rfl rfl)
theorem dX8_heat_29 : decode cX8_heat 29 = .ok (.iconst 1, 1) := dk_4 (dk_at dksX8_heat_1 7 rfl rfl)
theorem dX8_heat_30 : decode cX8_heat 30 = .ok (.isub, 1) := dk_100 (dk_at dksX8_heat_1 8 rfl rfl)
theorem dX8_heat_31 : decode cX8_heat 31 = .ok (.iaload, 1) := dk_46 (dk_at dksX8_heat_1 9 rfl rfl)
theorem dX8_heat_32 : decode cX8_heat 32 = .ok (.goto 6, 3) := dk_167 0 6 (dk_at dksX8_heat_1 10 rfl rfl)
theorem dX8_heat_35 : decode cX8_heat 35 = .ok (.ldc_w 342, 3) := dk_19 1 86 (dk_at dksX8_heat_1 13 rfl rfl)
theorem dX8_heat_38 : decode cX8_heat 38 = .ok (.ireturn, 1) := dk_172 (dk_at dksX8_heat_1 16 rfl rfl)
abbrev cX8_run : ByteArray := prog_16_method_54_code
def yX8_run : MethodName := ⟨RX8, "run", "(IZ)Z"⟩
def dkwX8_run_2 : List UInt8 := [153, 0, 7, 4, 167, 0, 4, 3, 79, 21, 4, 28, 159, 0, 7, 4, 167, 0, 4, 3, 172]
abbrev dktX8_run_2 : List UInt8 := dkwX8_run_2 ++ []
def dkwX8_run_1 : List UInt8 := [180, 0, 13, 29, 46, 4, 160, 0, 7, 4, 167, 0, 4, 3, 54, 4, 42, 180, 0, 13, 29, 28]
abbrev dktX8_run_1 : List UInt8 := dkwX8_run_1 ++ dktX8_run_2
def dkwX8_run_0 : List UInt8 := [42, 27, 182, 1, 95, 154, 0, 5, 3, 172, 17, 2, 112, 16, 6, 27, 104, 96, 6, 96, 62, 42]
abbrev dktX8_run_0 : List UInt8 := dkwX8_run_0 ++ dktX8_run_1
theorem dksX8_run_0 : cX8_run.data.toList.drop 0 = dktX8_run_0 := by decide +kernel
theorem dksX8_run_1 : cX8_run.data.toList.drop 22 = dktX8_run_1 := dk_seg dksX8_run_0 22 rfl rfl
theorem dksX8_run_2 : cX8_run.data.toList.drop 44 = dktX8_run_2 := dk_seg dksX8_run_1 22 rfl rfl
theorem dX8_run_0 : decode cX8_run 0 = .ok (.aload_n 0, 1) := dk_42 (dk_at dksX8_run_0 0 rfl rfl)
theorem dX8_run_1 : decode cX8_run 1 = .ok (.iload_n 1, 1) := dk_27 (dk_at dksX8_run_0 1 rfl rfl)
theorem dX8_run_2 : decode cX8_run 2 = .ok (.invokevirtual 351, 3) := dk_182 1 95 (dk_at dksX8_run_0 2 rfl rfl)
theorem dX8_run_5 : decode cX8_run 5 = .ok (.ifCond .ne 5, 3) := dk_154 0 5 (dk_at dksX8_run_0 5 rfl rfl)
theorem dX8_run_8 : decode cX8_run 8 = .ok (.iconst 0, 1) := dk_3 (dk_at dksX8_run_0 8 rfl rfl)
theorem dX8_run_9 : decode cX8_run 9 = .ok (.ireturn, 1) := dk_172 (dk_at dksX8_run_0 9 rfl rfl)
theorem dX8_run_10 : decode cX8_run 10 = .ok (.sipush 624, 3) := dk_17 2 112 (dk_at dksX8_run_0 10 rfl rfl)
theorem dX8_run_13 : decode cX8_run 13 = .ok (.bipush 6, 2) := dk_16 6 (dk_at dksX8_run_0 13 rfl rfl)
theorem dX8_run_15 : decode cX8_run 15 = .ok (.iload_n 1, 1) := dk_27 (dk_at dksX8_run_0 15 rfl rfl)
theorem dX8_run_16 : decode cX8_run 16 = .ok (.imul, 1) := dk_104 (dk_at dksX8_run_0 16 rfl rfl)
theorem dX8_run_17 : decode cX8_run 17 = .ok (.iadd, 1) := dk_96 (dk_at dksX8_run_0 17 rfl rfl)
theorem dX8_run_18 : decode cX8_run 18 = .ok (.iconst 3, 1) := dk_6 (dk_at dksX8_run_0 18 rfl rfl)
theorem dX8_run_19 : decode cX8_run 19 = .ok (.iadd, 1) := dk_96 (dk_at dksX8_run_0 19 rfl rfl)
theorem dX8_run_20 : decode cX8_run 20 = .ok (.istore_n 3, 1) := dk_62 (dk_at dksX8_run_0 20 rfl rfl)
theorem dX8_run_21 : decode cX8_run 21 = .ok (.aload_n 0, 1) := dk_42 (dk_at dksX8_run_0 21 rfl rfl)
theorem dX8_run_22 : decode cX8_run 22 = .ok (.getfield 13, 3) := dk_180 0 13 (dk_at dksX8_run_1 0 rfl rfl)
theorem dX8_run_25 : decode cX8_run 25 = .ok (.iload_n 3, 1) := dk_29 (dk_at dksX8_run_1 3 rfl rfl)
theorem dX8_run_26 : decode cX8_run 26 = .ok (.iaload, 1) := dk_46 (dk_at dksX8_run_1 4 rfl rfl)
theorem dX8_run_27 : decode cX8_run 27 = .ok (.iconst 1, 1) := dk_4 (dk_at dksX8_run_1 5 rfl rfl)
theorem dX8_run_28 : decode cX8_run 28 = .ok (.if_icmp .ne 7, 3) := dk_160 0 7 (dk_at dksX8_run_1 6 rfl rfl)
theorem dX8_run_31 : decode cX8_run 31 = .ok (.iconst 1, 1) := dk_4 (dk_at dksX8_run_1 9 rfl rfl)
theorem dX8_run_32 : decode cX8_run 32 = .ok (.goto 4, 3) := dk_167 0 4 (dk_at dksX8_run_1 10 rfl rfl)
theorem dX8_run_35 : decode cX8_run 35 = .ok (.iconst 0, 1) := dk_3 (dk_at dksX8_run_1 13 rfl rfl)
theorem dX8_run_36 : decode cX8_run 36 = .ok (.istore 4, 2) := dk_54 4 (dk_at dksX8_run_1 14 rfl rfl)
theorem dX8_run_38 : decode cX8_run 38 = .ok (.aload_n 0, 1) := dk_42 (dk_at dksX8_run_1 16 rfl rfl)
theorem dX8_run_39 : decode cX8_run 39 = .ok (.getfield 13, 3) := dk_180 0 13 (dk_at dksX8_run_1 17 rfl rfl)
theorem dX8_run_42 : decode cX8_run 42 = .ok (.iload_n 3, 1) := dk_29 (dk_at dksX8_run_1 20 rfl rfl)
theorem dX8_run_43 : decode cX8_run 43 = .ok (.iload_n 2, 1) := dk_28 (dk_at dksX8_run_1 21 rfl rfl)
theorem dX8_run_44 : decode cX8_run 44 = .ok (.ifCond .eq 7, 3) := dk_153 0 7 (dk_at dksX8_run_2 0 rfl rfl)
theorem dX8_run_47 : decode cX8_run 47 = .ok (.iconst 1, 1) := dk_4 (dk_at dksX8_run_2 3 rfl rfl)
theorem dX8_run_48 : decode cX8_run 48 = .ok (.goto 4, 3) := dk_167 0 4 (dk_at dksX8_run_2 4 rfl rfl)
theorem dX8_run_51 : decode cX8_run 51 = .ok (.iconst 0, 1) := dk_3 (dk_at dksX8_run_2 7 rfl rfl)
theorem dX8_run_52 : decode cX8_run 52 = .ok (.iastore, 1) := dk_79 (dk_at dksX8_run_2 8 rfl rfl)
theorem dX8_run_53 : decode cX8_run 53 = .ok (.iload 4, 2) := dk_21 4 (dk_at dksX8_run_2 9 rfl rfl)
theorem dX8_run_55 : decode cX8_run 55 = .ok (.iload_n 2, 1) := dk_28 (dk_at dksX8_run_2 11 rfl rfl)
theorem dX8_run_56 : decode cX8_run 56 = .ok (.if_icmp .eq 7, 3) := dk_159 0 7 (dk_at dksX8_run_2 12 rfl rfl)
theorem dX8_run_59 : decode cX8_run 59 = .ok (.iconst 1, 1) := dk_4 (dk_at dksX8_run_2 15 rfl rfl)
theorem dX8_run_60 : decode cX8_run 60 = .ok (.goto 4, 3) := dk_167 0 4 (dk_at dksX8_run_2 16 rfl rfl)
theorem dX8_run_63 : decode cX8_run 63 = .ok (.iconst 0, 1) := dk_3 (dk_at dksX8_run_2 19 rfl rfl)
theorem dX8_run_64 : decode cX8_run 64 = .ok (.ireturn, 1) := dk_172 (dk_at dksX8_run_2 20 rfl rfl)
abbrev cX8_isPipe : ByteArray := prog_16_method_53_code
def yX8_isPipe : MethodName := ⟨RX8, "isPipe", "(I)Z"⟩
def dkwX8_isPipe_0 : List UInt8 := [27, 133, 9, 42, 180, 0, 13, 5, 46, 4, 100, 133, 184, 0, 110, 172]
abbrev dktX8_isPipe_0 : List UInt8 := dkwX8_isPipe_0 ++ []
theorem dksX8_isPipe_0 : cX8_isPipe.data.toList.drop 0 = dktX8_isPipe_0 := by decide +kernel
theorem dX8_isPipe_0 : decode cX8_isPipe 0 = .ok (.iload_n 1, 1) := dk_27 (dk_at dksX8_isPipe_0 0 rfl rfl)
theorem dX8_isPipe_1 : decode cX8_isPipe 1 = .ok (.i2l, 1) := dk_133 (dk_at dksX8_isPipe_0 1 rfl rfl)
theorem dX8_isPipe_2 : decode cX8_isPipe 2 = .ok (.lconst 0, 1) := dk_9 (dk_at dksX8_isPipe_0 2 rfl rfl)
theorem dX8_isPipe_3 : decode cX8_isPipe 3 = .ok (.aload_n 0, 1) := dk_42 (dk_at dksX8_isPipe_0 3 rfl rfl)
theorem dX8_isPipe_4 : decode cX8_isPipe 4 = .ok (.getfield 13, 3) := dk_180 0 13 (dk_at dksX8_isPipe_0 4 rfl rfl)
theorem dX8_isPipe_7 : decode cX8_isPipe 7 = .ok (.iconst 2, 1) := dk_5 (dk_at dksX8_isPipe_0 7 rfl rfl)
theorem dX8_isPipe_8 : decode cX8_isPipe 8 = .ok (.iaload, 1) := dk_46 (dk_at dksX8_isPipe_0 8 rfl rfl)
theorem dX8_isPipe_9 : decode cX8_isPipe 9 = .ok (.iconst 1, 1) := dk_4 (dk_at dksX8_isPipe_0 9 rfl rfl)
theorem dX8_isPipe_10 : decode cX8_isPipe 10 = .ok (.isub, 1) := dk_100 (dk_at dksX8_isPipe_0 10 rfl rfl)
theorem dX8_isPipe_11 : decode cX8_isPipe 11 = .ok (.i2l, 1) := dk_133 (dk_at dksX8_isPipe_0 11 rfl rfl)
theorem dX8_isPipe_12 : decode cX8_isPipe 12 = .ok (.invokestatic 110, 3) := dk_184 0 110 (dk_at dksX8_isPipe_0 12 rfl rfl)
theorem dX8_isPipe_15 : decode cX8_isPipe 15 = .ok (.ireturn, 1) := dk_172 (dk_at dksX8_isPipe_0 15 rfl rfl)
abbrev cX8_pipe : ByteArray := prog_16_method_55_code
def yX8_pipe : MethodName := ⟨RX8, "pipe", "(II)I"⟩
def dkwX8_pipe_1 : List UInt8 := [17, 2, 112, 16, 6, 27, 104, 96, 28, 96, 46, 167, 0, 6, 19, 1, 86, 172]
abbrev dktX8_pipe_1 : List UInt8 := dkwX8_pipe_1 ++ []
def dkwX8_pipe_0 : List UInt8 := [42, 27, 182, 1, 95, 153, 0, 33, 28, 133, 9, 20, 1, 93, 184, 0, 110, 153, 0, 21, 42, 180, 0, 13]
abbrev dktX8_pipe_0 : List UInt8 := dkwX8_pipe_0 ++ dktX8_pipe_1
theorem dksX8_pipe_0 : cX8_pipe.data.toList.drop 0 = dktX8_pipe_0 := by decide +kernel
theorem dksX8_pipe_1 : cX8_pipe.data.toList.drop 24 = dktX8_pipe_1 := dk_seg dksX8_pipe_0 24 rfl rfl
theorem dX8_pipe_0 : decode cX8_pipe 0 = .ok (.aload_n 0, 1) := dk_42 (dk_at dksX8_pipe_0 0 rfl rfl)
theorem dX8_pipe_1 : decode cX8_pipe 1 = .ok (.iload_n 1, 1) := dk_27 (dk_at dksX8_pipe_0 1 rfl rfl)
theorem dX8_pipe_2 : decode cX8_pipe 2 = .ok (.invokevirtual 351, 3) := dk_182 1 95 (dk_at dksX8_pipe_0 2 rfl rfl)
theorem dX8_pipe_5 : decode cX8_pipe 5 = .ok (.ifCond .eq 33, 3) := dk_153 0 33 (dk_at dksX8_pipe_0 5 rfl rfl)
theorem dX8_pipe_8 : decode cX8_pipe 8 = .ok (.iload_n 2, 1) := dk_28 (dk_at dksX8_pipe_0 8 rfl rfl)
theorem dX8_pipe_9 : decode cX8_pipe 9 = .ok (.i2l, 1) := dk_133 (dk_at dksX8_pipe_0 9 rfl rfl)
theorem dX8_pipe_10 : decode cX8_pipe 10 = .ok (.lconst 0, 1) := dk_9 (dk_at dksX8_pipe_0 10 rfl rfl)
theorem dX8_pipe_11 : decode cX8_pipe 11 = .ok (.ldc2_w 349, 3) := dk_20 1 93 (dk_at dksX8_pipe_0 11 rfl rfl)
theorem dX8_pipe_14 : decode cX8_pipe 14 = .ok (.invokestatic 110, 3) := dk_184 0 110 (dk_at dksX8_pipe_0 14 rfl rfl)
theorem dX8_pipe_17 : decode cX8_pipe 17 = .ok (.ifCond .eq 21, 3) := dk_153 0 21 (dk_at dksX8_pipe_0 17 rfl rfl)
theorem dX8_pipe_20 : decode cX8_pipe 20 = .ok (.aload_n 0, 1) := dk_42 (dk_at dksX8_pipe_0 20 rfl rfl)
theorem dX8_pipe_21 : decode cX8_pipe 21 = .ok (.getfield 13, 3) := dk_180 0 13 (dk_at dksX8_pipe_0 21 rfl rfl)
theorem dX8_pipe_24 : decode cX8_pipe 24 = .ok (.sipush 624, 3) := dk_17 2 112 (dk_at dksX8_pipe_1 0 rfl rfl)
theorem dX8_pipe_27 : decode cX8_pipe 27 = .ok (.bipush 6, 2) := dk_16 6 (dk_at dksX8_pipe_1 3 rfl rfl)
theorem dX8_pipe_29 : decode cX8_pipe 29 = .ok (.iload_n 1, 1) := dk_27 (dk_at dksX8_pipe_1 5 rfl rfl)
theorem dX8_pipe_30 : decode cX8_pipe 30 = .ok (.imul, 1) := dk_104 (dk_at dksX8_pipe_1 6 rfl rfl)
theorem dX8_pipe_31 : decode cX8_pipe 31 = .ok (.iadd, 1) := dk_96 (dk_at dksX8_pipe_1 7 rfl rfl)
theorem dX8_pipe_32 : decode cX8_pipe 32 = .ok (.iload_n 2, 1) := dk_28 (dk_at dksX8_pipe_1 8 rfl rfl)
theorem dX8_pipe_33 : decode cX8_pipe 33 = .ok (.iadd, 1) := dk_96 (dk_at dksX8_pipe_1 9 rfl rfl)
theorem dX8_pipe_34 : decode cX8_pipe 34 = .ok (.iaload, 1) := dk_46 (dk_at dksX8_pipe_1 10 rfl rfl)
theorem dX8_pipe_35 : decode cX8_pipe 35 = .ok (.goto 6, 3) := dk_167 0 6 (dk_at dksX8_pipe_1 11 rfl rfl)
theorem dX8_pipe_38 : decode cX8_pipe 38 = .ok (.ldc_w 342, 3) := dk_19 1 86 (dk_at dksX8_pipe_1 14 rfl rfl)
theorem dX8_pipe_41 : decode cX8_pipe 41 = .ok (.ireturn, 1) := dk_172 (dk_at dksX8_pipe_1 17 rfl rfl)
abbrev cX8_cold : ByteArray := prog_16_method_56_code
def yX8_cold : MethodName := ⟨RX8, "cold", "(I)I"⟩
def dkwX8_cold_1 : List UInt8 := [180, 0, 13, 16, 6, 27, 79, 28, 172]
abbrev dktX8_cold_1 : List UInt8 := dkwX8_cold_1 ++ []
def dkwX8_cold_0 : List UInt8 := [27, 133, 9, 20, 1, 98, 184, 0, 110, 154, 0, 6, 16, 254, 172, 42, 180, 0, 13, 16, 6, 46, 61, 42]
abbrev dktX8_cold_0 : List UInt8 := dkwX8_cold_0 ++ dktX8_cold_1
theorem dksX8_cold_0 : cX8_cold.data.toList.drop 0 = dktX8_cold_0 := by decide +kernel
theorem dksX8_cold_1 : cX8_cold.data.toList.drop 24 = dktX8_cold_1 := dk_seg dksX8_cold_0 24 rfl rfl
theorem dX8_cold_0 : decode cX8_cold 0 = .ok (.iload_n 1, 1) := dk_27 (dk_at dksX8_cold_0 0 rfl rfl)
theorem dX8_cold_1 : decode cX8_cold 1 = .ok (.i2l, 1) := dk_133 (dk_at dksX8_cold_0 1 rfl rfl)
theorem dX8_cold_2 : decode cX8_cold 2 = .ok (.lconst 0, 1) := dk_9 (dk_at dksX8_cold_0 2 rfl rfl)
theorem dX8_cold_3 : decode cX8_cold 3 = .ok (.ldc2_w 354, 3) := dk_20 1 98 (dk_at dksX8_cold_0 3 rfl rfl)
theorem dX8_cold_6 : decode cX8_cold 6 = .ok (.invokestatic 110, 3) := dk_184 0 110 (dk_at dksX8_cold_0 6 rfl rfl)
theorem dX8_cold_9 : decode cX8_cold 9 = .ok (.ifCond .ne 6, 3) := dk_154 0 6 (dk_at dksX8_cold_0 9 rfl rfl)
theorem dX8_cold_12 : decode cX8_cold 12 = .ok (.bipush (-2), 2) := dk_16 254 (dk_at dksX8_cold_0 12 rfl rfl)
theorem dX8_cold_14 : decode cX8_cold 14 = .ok (.ireturn, 1) := dk_172 (dk_at dksX8_cold_0 14 rfl rfl)
theorem dX8_cold_15 : decode cX8_cold 15 = .ok (.aload_n 0, 1) := dk_42 (dk_at dksX8_cold_0 15 rfl rfl)
theorem dX8_cold_16 : decode cX8_cold 16 = .ok (.getfield 13, 3) := dk_180 0 13 (dk_at dksX8_cold_0 16 rfl rfl)
theorem dX8_cold_19 : decode cX8_cold 19 = .ok (.bipush 6, 2) := dk_16 6 (dk_at dksX8_cold_0 19 rfl rfl)
theorem dX8_cold_21 : decode cX8_cold 21 = .ok (.iaload, 1) := dk_46 (dk_at dksX8_cold_0 21 rfl rfl)
theorem dX8_cold_22 : decode cX8_cold 22 = .ok (.istore_n 2, 1) := dk_61 (dk_at dksX8_cold_0 22 rfl rfl)
theorem dX8_cold_23 : decode cX8_cold 23 = .ok (.aload_n 0, 1) := dk_42 (dk_at dksX8_cold_0 23 rfl rfl)
theorem dX8_cold_24 : decode cX8_cold 24 = .ok (.getfield 13, 3) := dk_180 0 13 (dk_at dksX8_cold_1 0 rfl rfl)
theorem dX8_cold_27 : decode cX8_cold 27 = .ok (.bipush 6, 2) := dk_16 6 (dk_at dksX8_cold_1 3 rfl rfl)
theorem dX8_cold_29 : decode cX8_cold 29 = .ok (.iload_n 1, 1) := dk_27 (dk_at dksX8_cold_1 5 rfl rfl)
theorem dX8_cold_30 : decode cX8_cold 30 = .ok (.iastore, 1) := dk_79 (dk_at dksX8_cold_1 6 rfl rfl)
theorem dX8_cold_31 : decode cX8_cold 31 = .ok (.iload_n 2, 1) := dk_28 (dk_at dksX8_cold_1 7 rfl rfl)
theorem dX8_cold_32 : decode cX8_cold 32 = .ok (.ireturn, 1) := dk_172 (dk_at dksX8_cold_1 8 rfl rfl)
abbrev cX8_shut : ByteArray := prog_16_method_63_code
def yX8_shut : MethodName := ⟨RX8, "shut", "()I"⟩
def dkwX8_shut_1 : List UInt8 := [172]
abbrev dktX8_shut_1 : List UInt8 := dkwX8_shut_1 ++ []
def dkwX8_shut_0 : List UInt8 := [42, 182, 1, 109, 154, 0, 8, 16, 250, 167, 0, 15, 42, 182, 1, 78, 153, 0, 7, 4, 167, 0, 4, 3]
abbrev dktX8_shut_0 : List UInt8 := dkwX8_shut_0 ++ dktX8_shut_1
theorem dksX8_shut_0 : cX8_shut.data.toList.drop 0 = dktX8_shut_0 := by decide +kernel
theorem dksX8_shut_1 : cX8_shut.data.toList.drop 24 = dktX8_shut_1 := dk_seg dksX8_shut_0 24 rfl rfl
theorem dX8_shut_0 : decode cX8_shut 0 = .ok (.aload_n 0, 1) := dk_42 (dk_at dksX8_shut_0 0 rfl rfl)
theorem dX8_shut_1 : decode cX8_shut 1 = .ok (.invokevirtual 365, 3) := dk_182 1 109 (dk_at dksX8_shut_0 1 rfl rfl)
theorem dX8_shut_4 : decode cX8_shut 4 = .ok (.ifCond .ne 8, 3) := dk_154 0 8 (dk_at dksX8_shut_0 4 rfl rfl)
theorem dX8_shut_7 : decode cX8_shut 7 = .ok (.bipush (-6), 2) := dk_16 250 (dk_at dksX8_shut_0 7 rfl rfl)
theorem dX8_shut_9 : decode cX8_shut 9 = .ok (.goto 15, 3) := dk_167 0 15 (dk_at dksX8_shut_0 9 rfl rfl)
theorem dX8_shut_12 : decode cX8_shut 12 = .ok (.aload_n 0, 1) := dk_42 (dk_at dksX8_shut_0 12 rfl rfl)
theorem dX8_shut_13 : decode cX8_shut 13 = .ok (.invokevirtual 334, 3) := dk_182 1 78 (dk_at dksX8_shut_0 13 rfl rfl)
theorem dX8_shut_16 : decode cX8_shut 16 = .ok (.ifCond .eq 7, 3) := dk_153 0 7 (dk_at dksX8_shut_0 16 rfl rfl)
theorem dX8_shut_19 : decode cX8_shut 19 = .ok (.iconst 1, 1) := dk_4 (dk_at dksX8_shut_0 19 rfl rfl)
theorem dX8_shut_20 : decode cX8_shut 20 = .ok (.goto 4, 3) := dk_167 0 4 (dk_at dksX8_shut_0 20 rfl rfl)
theorem dX8_shut_23 : decode cX8_shut 23 = .ok (.iconst 0, 1) := dk_3 (dk_at dksX8_shut_0 23 rfl rfl)
theorem dX8_shut_24 : decode cX8_shut 24 = .ok (.ireturn, 1) := dk_172 (dk_at dksX8_shut_1 0 rfl rfl)
abbrev cX8_hasShaft : ByteArray := prog_16_method_61_code
def yX8_hasShaft : MethodName := ⟨RX8, "hasShaft", "()Z"⟩
def dkwX8_hasShaft_0 : List UInt8 := [42, 180, 0, 13, 16, 7, 46, 4, 160, 0, 7, 4, 167, 0, 4, 3, 172]
abbrev dktX8_hasShaft_0 : List UInt8 := dkwX8_hasShaft_0 ++ []
theorem dksX8_hasShaft_0 : cX8_hasShaft.data.toList.drop 0 = dktX8_hasShaft_0 := by decide +kernel
theorem dX8_hasShaft_0 : decode cX8_hasShaft 0 = .ok (.aload_n 0, 1) := dk_42 (dk_at dksX8_hasShaft_0 0 rfl rfl)
theorem dX8_hasShaft_1 : decode cX8_hasShaft 1 = .ok (.getfield 13, 3) := dk_180 0 13 (dk_at dksX8_hasShaft_0 1 rfl rfl)
theorem dX8_hasShaft_4 : decode cX8_hasShaft 4 = .ok (.bipush 7, 2) := dk_16 7 (dk_at dksX8_hasShaft_0 4 rfl rfl)
theorem dX8_hasShaft_6 : decode cX8_hasShaft 6 = .ok (.iaload, 1) := dk_46 (dk_at dksX8_hasShaft_0 6 rfl rfl)
theorem dX8_hasShaft_7 : decode cX8_hasShaft 7 = .ok (.iconst 1, 1) := dk_4 (dk_at dksX8_hasShaft_0 7 rfl rfl)
theorem dX8_hasShaft_8 : decode cX8_hasShaft 8 = .ok (.if_icmp .ne 7, 3) := dk_160 0 7 (dk_at dksX8_hasShaft_0 8 rfl rfl)
theorem dX8_hasShaft_11 : decode cX8_hasShaft 11 = .ok (.iconst 1, 1) := dk_4 (dk_at dksX8_hasShaft_0 11 rfl rfl)
theorem dX8_hasShaft_12 : decode cX8_hasShaft 12 = .ok (.goto 4, 3) := dk_167 0 4 (dk_at dksX8_hasShaft_0 12 rfl rfl)
theorem dX8_hasShaft_15 : decode cX8_hasShaft 15 = .ok (.iconst 0, 1) := dk_3 (dk_at dksX8_hasShaft_0 15 rfl rfl)
theorem dX8_hasShaft_16 : decode cX8_hasShaft 16 = .ok (.ireturn, 1) := dk_172 (dk_at dksX8_hasShaft_0 16 rfl rfl)
abbrev cX8_way : ByteArray := prog_16_method_64_code
def yX8_way : MethodName := ⟨RX8, "way", "()I"⟩
def dkwX8_way_0 : List UInt8 := [42, 182, 1, 109, 153, 0, 12, 42, 2, 4, 182, 1, 106, 167, 0, 5, 16, 250, 172]
abbrev dktX8_way_0 : List UInt8 := dkwX8_way_0 ++ []
theorem dksX8_way_0 : cX8_way.data.toList.drop 0 = dktX8_way_0 := by decide +kernel
theorem dX8_way_0 : decode cX8_way 0 = .ok (.aload_n 0, 1) := dk_42 (dk_at dksX8_way_0 0 rfl rfl)
theorem dX8_way_1 : decode cX8_way 1 = .ok (.invokevirtual 365, 3) := dk_182 1 109 (dk_at dksX8_way_0 1 rfl rfl)
theorem dX8_way_4 : decode cX8_way 4 = .ok (.ifCond .eq 12, 3) := dk_153 0 12 (dk_at dksX8_way_0 4 rfl rfl)
theorem dX8_way_7 : decode cX8_way 7 = .ok (.aload_n 0, 1) := dk_42 (dk_at dksX8_way_0 7 rfl rfl)
theorem dX8_way_8 : decode cX8_way 8 = .ok (.iconst (-1), 1) := dk_2 (dk_at dksX8_way_0 8 rfl rfl)
theorem dX8_way_9 : decode cX8_way 9 = .ok (.iconst 1, 1) := dk_4 (dk_at dksX8_way_0 9 rfl rfl)
theorem dX8_way_10 : decode cX8_way 10 = .ok (.invokevirtual 362, 3) := dk_182 1 106 (dk_at dksX8_way_0 10 rfl rfl)
theorem dX8_way_13 : decode cX8_way 13 = .ok (.goto 5, 3) := dk_167 0 5 (dk_at dksX8_way_0 13 rfl rfl)
theorem dX8_way_16 : decode cX8_way 16 = .ok (.bipush (-6), 2) := dk_16 250 (dk_at dksX8_way_0 16 rfl rfl)
theorem dX8_way_18 : decode cX8_way 18 = .ok (.ireturn, 1) := dk_172 (dk_at dksX8_way_0 18 rfl rfl)
abbrev cX8_thick : ByteArray := prog_16_method_65_code
def yX8_thick : MethodName := ⟨RX8, "thick", "()I"⟩
def dkwX8_thick_0 : List UInt8 := [42, 182, 1, 109, 153, 0, 12, 42, 4, 3, 182, 1, 106, 167, 0, 5, 16, 250, 172]
abbrev dktX8_thick_0 : List UInt8 := dkwX8_thick_0 ++ []
theorem dksX8_thick_0 : cX8_thick.data.toList.drop 0 = dktX8_thick_0 := by decide +kernel
theorem dX8_thick_0 : decode cX8_thick 0 = .ok (.aload_n 0, 1) := dk_42 (dk_at dksX8_thick_0 0 rfl rfl)
theorem dX8_thick_1 : decode cX8_thick 1 = .ok (.invokevirtual 365, 3) := dk_182 1 109 (dk_at dksX8_thick_0 1 rfl rfl)
theorem dX8_thick_4 : decode cX8_thick 4 = .ok (.ifCond .eq 12, 3) := dk_153 0 12 (dk_at dksX8_thick_0 4 rfl rfl)
theorem dX8_thick_7 : decode cX8_thick 7 = .ok (.aload_n 0, 1) := dk_42 (dk_at dksX8_thick_0 7 rfl rfl)
theorem dX8_thick_8 : decode cX8_thick 8 = .ok (.iconst 1, 1) := dk_4 (dk_at dksX8_thick_0 8 rfl rfl)
theorem dX8_thick_9 : decode cX8_thick 9 = .ok (.iconst 0, 1) := dk_3 (dk_at dksX8_thick_0 9 rfl rfl)
theorem dX8_thick_10 : decode cX8_thick 10 = .ok (.invokevirtual 362, 3) := dk_182 1 106 (dk_at dksX8_thick_0 10 rfl rfl)
theorem dX8_thick_13 : decode cX8_thick 13 = .ok (.goto 5, 3) := dk_167 0 5 (dk_at dksX8_thick_0 13 rfl rfl)
theorem dX8_thick_16 : decode cX8_thick 16 = .ok (.bipush (-6), 2) := dk_16 250 (dk_at dksX8_thick_0 16 rfl rfl)
theorem dX8_thick_18 : decode cX8_thick 18 = .ok (.ireturn, 1) := dk_172 (dk_at dksX8_thick_0 18 rfl rfl)
abbrev cX8_gaps : ByteArray := prog_16_method_71_code
def yX8_gaps : MethodName := ⟨RX8, "gaps", "()I"⟩
def dkwX8_gaps_2 : List UInt8 := [180, 1, 133, 28, 79, 42, 89, 180, 1, 133, 4, 96, 181, 1, 133, 132, 2, 1, 167, 255, 214, 27, 172]
abbrev dktX8_gaps_2 : List UInt8 := dkwX8_gaps_2 ++ []
def dkwX8_gaps_1 : List UInt8 := [17, 0, 144, 162, 0, 41, 42, 180, 0, 67, 28, 51, 154, 0, 6, 167, 0, 23, 42, 180, 0, 70, 42]
abbrev dktX8_gaps_1 : List UInt8 := dkwX8_gaps_1 ++ dktX8_gaps_2
def dkwX8_gaps_0 : List UInt8 := [42, 182, 1, 109, 154, 0, 6, 16, 250, 172, 42, 182, 1, 130, 60, 42, 3, 181, 1, 133, 3, 61, 28]
abbrev dktX8_gaps_0 : List UInt8 := dkwX8_gaps_0 ++ dktX8_gaps_1
theorem dksX8_gaps_0 : cX8_gaps.data.toList.drop 0 = dktX8_gaps_0 := by decide +kernel
theorem dksX8_gaps_1 : cX8_gaps.data.toList.drop 23 = dktX8_gaps_1 := dk_seg dksX8_gaps_0 23 rfl rfl
theorem dksX8_gaps_2 : cX8_gaps.data.toList.drop 46 = dktX8_gaps_2 := dk_seg dksX8_gaps_1 23 rfl rfl
theorem dX8_gaps_0 : decode cX8_gaps 0 = .ok (.aload_n 0, 1) := dk_42 (dk_at dksX8_gaps_0 0 rfl rfl)
theorem dX8_gaps_1 : decode cX8_gaps 1 = .ok (.invokevirtual 365, 3) := dk_182 1 109 (dk_at dksX8_gaps_0 1 rfl rfl)
theorem dX8_gaps_4 : decode cX8_gaps 4 = .ok (.ifCond .ne 6, 3) := dk_154 0 6 (dk_at dksX8_gaps_0 4 rfl rfl)
theorem dX8_gaps_7 : decode cX8_gaps 7 = .ok (.bipush (-6), 2) := dk_16 250 (dk_at dksX8_gaps_0 7 rfl rfl)
theorem dX8_gaps_9 : decode cX8_gaps 9 = .ok (.ireturn, 1) := dk_172 (dk_at dksX8_gaps_0 9 rfl rfl)
theorem dX8_gaps_10 : decode cX8_gaps 10 = .ok (.aload_n 0, 1) := dk_42 (dk_at dksX8_gaps_0 10 rfl rfl)
theorem dX8_gaps_11 : decode cX8_gaps 11 = .ok (.invokevirtual 386, 3) := dk_182 1 130 (dk_at dksX8_gaps_0 11 rfl rfl)
theorem dX8_gaps_14 : decode cX8_gaps 14 = .ok (.istore_n 1, 1) := dk_60 (dk_at dksX8_gaps_0 14 rfl rfl)
theorem dX8_gaps_15 : decode cX8_gaps 15 = .ok (.aload_n 0, 1) := dk_42 (dk_at dksX8_gaps_0 15 rfl rfl)
theorem dX8_gaps_16 : decode cX8_gaps 16 = .ok (.iconst 0, 1) := dk_3 (dk_at dksX8_gaps_0 16 rfl rfl)
theorem dX8_gaps_17 : decode cX8_gaps 17 = .ok (.putfield 389, 3) := dk_181 1 133 (dk_at dksX8_gaps_0 17 rfl rfl)
theorem dX8_gaps_20 : decode cX8_gaps 20 = .ok (.iconst 0, 1) := dk_3 (dk_at dksX8_gaps_0 20 rfl rfl)
theorem dX8_gaps_21 : decode cX8_gaps 21 = .ok (.istore_n 2, 1) := dk_61 (dk_at dksX8_gaps_0 21 rfl rfl)
theorem dX8_gaps_22 : decode cX8_gaps 22 = .ok (.iload_n 2, 1) := dk_28 (dk_at dksX8_gaps_0 22 rfl rfl)
theorem dX8_gaps_23 : decode cX8_gaps 23 = .ok (.sipush 144, 3) := dk_17 0 144 (dk_at dksX8_gaps_1 0 rfl rfl)
theorem dX8_gaps_26 : decode cX8_gaps 26 = .ok (.if_icmp .ge 41, 3) := dk_162 0 41 (dk_at dksX8_gaps_1 3 rfl rfl)
theorem dX8_gaps_29 : decode cX8_gaps 29 = .ok (.aload_n 0, 1) := dk_42 (dk_at dksX8_gaps_1 6 rfl rfl)
theorem dX8_gaps_30 : decode cX8_gaps 30 = .ok (.getfield 67, 3) := dk_180 0 67 (dk_at dksX8_gaps_1 7 rfl rfl)
theorem dX8_gaps_33 : decode cX8_gaps 33 = .ok (.iload_n 2, 1) := dk_28 (dk_at dksX8_gaps_1 10 rfl rfl)
theorem dX8_gaps_34 : decode cX8_gaps 34 = .ok (.baload, 1) := dk_51 (dk_at dksX8_gaps_1 11 rfl rfl)
theorem dX8_gaps_35 : decode cX8_gaps 35 = .ok (.ifCond .ne 6, 3) := dk_154 0 6 (dk_at dksX8_gaps_1 12 rfl rfl)
theorem dX8_gaps_38 : decode cX8_gaps 38 = .ok (.goto 23, 3) := dk_167 0 23 (dk_at dksX8_gaps_1 15 rfl rfl)
theorem dX8_gaps_41 : decode cX8_gaps 41 = .ok (.aload_n 0, 1) := dk_42 (dk_at dksX8_gaps_1 18 rfl rfl)
theorem dX8_gaps_42 : decode cX8_gaps 42 = .ok (.getfield 70, 3) := dk_180 0 70 (dk_at dksX8_gaps_1 19 rfl rfl)
theorem dX8_gaps_45 : decode cX8_gaps 45 = .ok (.aload_n 0, 1) := dk_42 (dk_at dksX8_gaps_1 22 rfl rfl)
theorem dX8_gaps_46 : decode cX8_gaps 46 = .ok (.getfield 389, 3) := dk_180 1 133 (dk_at dksX8_gaps_2 0 rfl rfl)
theorem dX8_gaps_49 : decode cX8_gaps 49 = .ok (.iload_n 2, 1) := dk_28 (dk_at dksX8_gaps_2 3 rfl rfl)
theorem dX8_gaps_50 : decode cX8_gaps 50 = .ok (.iastore, 1) := dk_79 (dk_at dksX8_gaps_2 4 rfl rfl)
theorem dX8_gaps_51 : decode cX8_gaps 51 = .ok (.aload_n 0, 1) := dk_42 (dk_at dksX8_gaps_2 5 rfl rfl)
theorem dX8_gaps_52 : decode cX8_gaps 52 = .ok (.dup, 1) := dk_89 (dk_at dksX8_gaps_2 6 rfl rfl)
theorem dX8_gaps_53 : decode cX8_gaps 53 = .ok (.getfield 389, 3) := dk_180 1 133 (dk_at dksX8_gaps_2 7 rfl rfl)
theorem dX8_gaps_56 : decode cX8_gaps 56 = .ok (.iconst 1, 1) := dk_4 (dk_at dksX8_gaps_2 10 rfl rfl)
theorem dX8_gaps_57 : decode cX8_gaps 57 = .ok (.iadd, 1) := dk_96 (dk_at dksX8_gaps_2 11 rfl rfl)
theorem dX8_gaps_58 : decode cX8_gaps 58 = .ok (.putfield 389, 3) := dk_181 1 133 (dk_at dksX8_gaps_2 12 rfl rfl)
theorem dX8_gaps_61 : decode cX8_gaps 61 = .ok (.iinc 2 1, 3) := dk_132 2 1 (dk_at dksX8_gaps_2 15 rfl rfl)
theorem dX8_gaps_64 : decode cX8_gaps 64 = .ok (.goto (-42), 3) := dk_167 255 214 (dk_at dksX8_gaps_2 18 rfl rfl)
theorem dX8_gaps_67 : decode cX8_gaps 67 = .ok (.iload_n 1, 1) := dk_27 (dk_at dksX8_gaps_2 21 rfl rfl)
theorem dX8_gaps_68 : decode cX8_gaps 68 = .ok (.ireturn, 1) := dk_172 (dk_at dksX8_gaps_2 22 rfl rfl)
abbrev cX8_findGaps : ByteArray := prog_16_method_70_code
def yX8_findGaps : MethodName := ⟨RX8, "findGaps", "()I"⟩
def dkwX8_findGaps_5 : List UInt8 := [84, 132, 3, 1, 167, 255, 209, 27, 172]
abbrev dktX8_findGaps_5 : List UInt8 := dkwX8_findGaps_5 ++ []
def dkwX8_findGaps_4 : List UInt8 := [46, 2, 159, 0, 21, 42, 180, 0, 61, 5, 29, 104, 4, 96, 46, 2, 160, 0, 7, 4, 167, 0, 4, 3]
abbrev dktX8_findGaps_4 : List UInt8 := dkwX8_findGaps_4 ++ dktX8_findGaps_5
def dkwX8_findGaps_3 : List UInt8 := [167, 255, 238, 3, 62, 29, 17, 0, 144, 162, 0, 46, 42, 180, 0, 67, 29, 42, 180, 0, 61, 5, 29, 104]
abbrev dktX8_findGaps_3 : List UInt8 := dkwX8_findGaps_3 ++ dktX8_findGaps_4
def dkwX8_findGaps_2 : List UInt8 := [42, 182, 1, 124, 61, 28, 2, 159, 0, 19, 42, 28, 182, 1, 127, 132, 1, 1, 42, 182, 1, 124, 61]
abbrev dktX8_findGaps_2 : List UInt8 := dkwX8_findGaps_2 ++ dktX8_findGaps_3
def dkwX8_findGaps_1 : List UInt8 := [180, 0, 58, 7, 27, 104, 28, 96, 3, 84, 132, 2, 1, 167, 255, 237, 132, 1, 1, 167, 255, 215, 3, 60]
abbrev dktX8_findGaps_1 : List UInt8 := dkwX8_findGaps_1 ++ dktX8_findGaps_2
def dkwX8_findGaps_0 : List UInt8 := [3, 60, 27, 17, 0, 144, 162, 0, 40, 42, 180, 0, 55, 27, 3, 84, 3, 61, 28, 7, 162, 0, 20, 42]
abbrev dktX8_findGaps_0 : List UInt8 := dkwX8_findGaps_0 ++ dktX8_findGaps_1
theorem dksX8_findGaps_0 : cX8_findGaps.data.toList.drop 0 = dktX8_findGaps_0 := by decide +kernel
theorem dksX8_findGaps_1 : cX8_findGaps.data.toList.drop 24 = dktX8_findGaps_1 := dk_seg dksX8_findGaps_0 24 rfl rfl
theorem dksX8_findGaps_2 : cX8_findGaps.data.toList.drop 48 = dktX8_findGaps_2 := dk_seg dksX8_findGaps_1 24 rfl rfl
theorem dksX8_findGaps_3 : cX8_findGaps.data.toList.drop 71 = dktX8_findGaps_3 := dk_seg dksX8_findGaps_2 23 rfl rfl
theorem dksX8_findGaps_4 : cX8_findGaps.data.toList.drop 95 = dktX8_findGaps_4 := dk_seg dksX8_findGaps_3 24 rfl rfl
theorem dksX8_findGaps_5 : cX8_findGaps.data.toList.drop 119 = dktX8_findGaps_5 := dk_seg dksX8_findGaps_4 24 rfl rfl
theorem dX8_findGaps_0 : decode cX8_findGaps 0 = .ok (.iconst 0, 1) := dk_3 (dk_at dksX8_findGaps_0 0 rfl rfl)
theorem dX8_findGaps_1 : decode cX8_findGaps 1 = .ok (.istore_n 1, 1) := dk_60 (dk_at dksX8_findGaps_0 1 rfl rfl)
theorem dX8_findGaps_2 : decode cX8_findGaps 2 = .ok (.iload_n 1, 1) := dk_27 (dk_at dksX8_findGaps_0 2 rfl rfl)
theorem dX8_findGaps_3 : decode cX8_findGaps 3 = .ok (.sipush 144, 3) := dk_17 0 144 (dk_at dksX8_findGaps_0 3 rfl rfl)
theorem dX8_findGaps_6 : decode cX8_findGaps 6 = .ok (.if_icmp .ge 40, 3) := dk_162 0 40 (dk_at dksX8_findGaps_0 6 rfl rfl)
theorem dX8_findGaps_9 : decode cX8_findGaps 9 = .ok (.aload_n 0, 1) := dk_42 (dk_at dksX8_findGaps_0 9 rfl rfl)
theorem dX8_findGaps_10 : decode cX8_findGaps 10 = .ok (.getfield 55, 3) := dk_180 0 55 (dk_at dksX8_findGaps_0 10 rfl rfl)
theorem dX8_findGaps_13 : decode cX8_findGaps 13 = .ok (.iload_n 1, 1) := dk_27 (dk_at dksX8_findGaps_0 13 rfl rfl)
theorem dX8_findGaps_14 : decode cX8_findGaps 14 = .ok (.iconst 0, 1) := dk_3 (dk_at dksX8_findGaps_0 14 rfl rfl)
theorem dX8_findGaps_15 : decode cX8_findGaps 15 = .ok (.bastore, 1) := dk_84 (dk_at dksX8_findGaps_0 15 rfl rfl)
theorem dX8_findGaps_16 : decode cX8_findGaps 16 = .ok (.iconst 0, 1) := dk_3 (dk_at dksX8_findGaps_0 16 rfl rfl)
theorem dX8_findGaps_17 : decode cX8_findGaps 17 = .ok (.istore_n 2, 1) := dk_61 (dk_at dksX8_findGaps_0 17 rfl rfl)
theorem dX8_findGaps_18 : decode cX8_findGaps 18 = .ok (.iload_n 2, 1) := dk_28 (dk_at dksX8_findGaps_0 18 rfl rfl)
theorem dX8_findGaps_19 : decode cX8_findGaps 19 = .ok (.iconst 4, 1) := dk_7 (dk_at dksX8_findGaps_0 19 rfl rfl)
theorem dX8_findGaps_20 : decode cX8_findGaps 20 = .ok (.if_icmp .ge 20, 3) := dk_162 0 20 (dk_at dksX8_findGaps_0 20 rfl rfl)
theorem dX8_findGaps_23 : decode cX8_findGaps 23 = .ok (.aload_n 0, 1) := dk_42 (dk_at dksX8_findGaps_0 23 rfl rfl)
theorem dX8_findGaps_24 : decode cX8_findGaps 24 = .ok (.getfield 58, 3) := dk_180 0 58 (dk_at dksX8_findGaps_1 0 rfl rfl)
theorem dX8_findGaps_27 : decode cX8_findGaps 27 = .ok (.iconst 4, 1) := dk_7 (dk_at dksX8_findGaps_1 3 rfl rfl)
theorem dX8_findGaps_28 : decode cX8_findGaps 28 = .ok (.iload_n 1, 1) := dk_27 (dk_at dksX8_findGaps_1 4 rfl rfl)
theorem dX8_findGaps_29 : decode cX8_findGaps 29 = .ok (.imul, 1) := dk_104 (dk_at dksX8_findGaps_1 5 rfl rfl)
theorem dX8_findGaps_30 : decode cX8_findGaps 30 = .ok (.iload_n 2, 1) := dk_28 (dk_at dksX8_findGaps_1 6 rfl rfl)
theorem dX8_findGaps_31 : decode cX8_findGaps 31 = .ok (.iadd, 1) := dk_96 (dk_at dksX8_findGaps_1 7 rfl rfl)
theorem dX8_findGaps_32 : decode cX8_findGaps 32 = .ok (.iconst 0, 1) := dk_3 (dk_at dksX8_findGaps_1 8 rfl rfl)
theorem dX8_findGaps_33 : decode cX8_findGaps 33 = .ok (.bastore, 1) := dk_84 (dk_at dksX8_findGaps_1 9 rfl rfl)
theorem dX8_findGaps_34 : decode cX8_findGaps 34 = .ok (.iinc 2 1, 3) := dk_132 2 1 (dk_at dksX8_findGaps_1 10 rfl rfl)
theorem dX8_findGaps_37 : decode cX8_findGaps 37 = .ok (.goto (-19), 3) := dk_167 255 237 (dk_at dksX8_findGaps_1 13 rfl rfl)
theorem dX8_findGaps_40 : decode cX8_findGaps 40 = .ok (.iinc 1 1, 3) := dk_132 1 1 (dk_at dksX8_findGaps_1 16 rfl rfl)
theorem dX8_findGaps_43 : decode cX8_findGaps 43 = .ok (.goto (-41), 3) := dk_167 255 215 (dk_at dksX8_findGaps_1 19 rfl rfl)
theorem dX8_findGaps_46 : decode cX8_findGaps 46 = .ok (.iconst 0, 1) := dk_3 (dk_at dksX8_findGaps_1 22 rfl rfl)
theorem dX8_findGaps_47 : decode cX8_findGaps 47 = .ok (.istore_n 1, 1) := dk_60 (dk_at dksX8_findGaps_1 23 rfl rfl)
theorem dX8_findGaps_48 : decode cX8_findGaps 48 = .ok (.aload_n 0, 1) := dk_42 (dk_at dksX8_findGaps_2 0 rfl rfl)
theorem dX8_findGaps_49 : decode cX8_findGaps 49 = .ok (.invokevirtual 380, 3) := dk_182 1 124 (dk_at dksX8_findGaps_2 1 rfl rfl)
theorem dX8_findGaps_52 : decode cX8_findGaps 52 = .ok (.istore_n 2, 1) := dk_61 (dk_at dksX8_findGaps_2 4 rfl rfl)
theorem dX8_findGaps_53 : decode cX8_findGaps 53 = .ok (.iload_n 2, 1) := dk_28 (dk_at dksX8_findGaps_2 5 rfl rfl)
theorem dX8_findGaps_54 : decode cX8_findGaps 54 = .ok (.iconst (-1), 1) := dk_2 (dk_at dksX8_findGaps_2 6 rfl rfl)
theorem dX8_findGaps_55 : decode cX8_findGaps 55 = .ok (.if_icmp .eq 19, 3) := dk_159 0 19 (dk_at dksX8_findGaps_2 7 rfl rfl)
theorem dX8_findGaps_58 : decode cX8_findGaps 58 = .ok (.aload_n 0, 1) := dk_42 (dk_at dksX8_findGaps_2 10 rfl rfl)
theorem dX8_findGaps_59 : decode cX8_findGaps 59 = .ok (.iload_n 2, 1) := dk_28 (dk_at dksX8_findGaps_2 11 rfl rfl)
theorem dX8_findGaps_60 : decode cX8_findGaps 60 = .ok (.invokevirtual 383, 3) := dk_182 1 127 (dk_at dksX8_findGaps_2 12 rfl rfl)
theorem dX8_findGaps_63 : decode cX8_findGaps 63 = .ok (.iinc 1 1, 3) := dk_132 1 1 (dk_at dksX8_findGaps_2 15 rfl rfl)
theorem dX8_findGaps_66 : decode cX8_findGaps 66 = .ok (.aload_n 0, 1) := dk_42 (dk_at dksX8_findGaps_2 18 rfl rfl)
theorem dX8_findGaps_67 : decode cX8_findGaps 67 = .ok (.invokevirtual 380, 3) := dk_182 1 124 (dk_at dksX8_findGaps_2 19 rfl rfl)
theorem dX8_findGaps_70 : decode cX8_findGaps 70 = .ok (.istore_n 2, 1) := dk_61 (dk_at dksX8_findGaps_2 22 rfl rfl)
theorem dX8_findGaps_71 : decode cX8_findGaps 71 = .ok (.goto (-18), 3) := dk_167 255 238 (dk_at dksX8_findGaps_3 0 rfl rfl)
theorem dX8_findGaps_74 : decode cX8_findGaps 74 = .ok (.iconst 0, 1) := dk_3 (dk_at dksX8_findGaps_3 3 rfl rfl)
theorem dX8_findGaps_75 : decode cX8_findGaps 75 = .ok (.istore_n 3, 1) := dk_62 (dk_at dksX8_findGaps_3 4 rfl rfl)
theorem dX8_findGaps_76 : decode cX8_findGaps 76 = .ok (.iload_n 3, 1) := dk_29 (dk_at dksX8_findGaps_3 5 rfl rfl)
theorem dX8_findGaps_77 : decode cX8_findGaps 77 = .ok (.sipush 144, 3) := dk_17 0 144 (dk_at dksX8_findGaps_3 6 rfl rfl)
theorem dX8_findGaps_80 : decode cX8_findGaps 80 = .ok (.if_icmp .ge 46, 3) := dk_162 0 46 (dk_at dksX8_findGaps_3 9 rfl rfl)
theorem dX8_findGaps_83 : decode cX8_findGaps 83 = .ok (.aload_n 0, 1) := dk_42 (dk_at dksX8_findGaps_3 12 rfl rfl)
theorem dX8_findGaps_84 : decode cX8_findGaps 84 = .ok (.getfield 67, 3) := dk_180 0 67 (dk_at dksX8_findGaps_3 13 rfl rfl)
theorem dX8_findGaps_87 : decode cX8_findGaps 87 = .ok (.iload_n 3, 1) := dk_29 (dk_at dksX8_findGaps_3 16 rfl rfl)
theorem dX8_findGaps_88 : decode cX8_findGaps 88 = .ok (.aload_n 0, 1) := dk_42 (dk_at dksX8_findGaps_3 17 rfl rfl)
theorem dX8_findGaps_89 : decode cX8_findGaps 89 = .ok (.getfield 61, 3) := dk_180 0 61 (dk_at dksX8_findGaps_3 18 rfl rfl)
theorem dX8_findGaps_92 : decode cX8_findGaps 92 = .ok (.iconst 2, 1) := dk_5 (dk_at dksX8_findGaps_3 21 rfl rfl)
theorem dX8_findGaps_93 : decode cX8_findGaps 93 = .ok (.iload_n 3, 1) := dk_29 (dk_at dksX8_findGaps_3 22 rfl rfl)
theorem dX8_findGaps_94 : decode cX8_findGaps 94 = .ok (.imul, 1) := dk_104 (dk_at dksX8_findGaps_3 23 rfl rfl)
theorem dX8_findGaps_95 : decode cX8_findGaps 95 = .ok (.iaload, 1) := dk_46 (dk_at dksX8_findGaps_4 0 rfl rfl)
theorem dX8_findGaps_96 : decode cX8_findGaps 96 = .ok (.iconst (-1), 1) := dk_2 (dk_at dksX8_findGaps_4 1 rfl rfl)
theorem dX8_findGaps_97 : decode cX8_findGaps 97 = .ok (.if_icmp .eq 21, 3) := dk_159 0 21 (dk_at dksX8_findGaps_4 2 rfl rfl)
theorem dX8_findGaps_100 : decode cX8_findGaps 100 = .ok (.aload_n 0, 1) := dk_42 (dk_at dksX8_findGaps_4 5 rfl rfl)
theorem dX8_findGaps_101 : decode cX8_findGaps 101 = .ok (.getfield 61, 3) := dk_180 0 61 (dk_at dksX8_findGaps_4 6 rfl rfl)
theorem dX8_findGaps_104 : decode cX8_findGaps 104 = .ok (.iconst 2, 1) := dk_5 (dk_at dksX8_findGaps_4 9 rfl rfl)
theorem dX8_findGaps_105 : decode cX8_findGaps 105 = .ok (.iload_n 3, 1) := dk_29 (dk_at dksX8_findGaps_4 10 rfl rfl)
theorem dX8_findGaps_106 : decode cX8_findGaps 106 = .ok (.imul, 1) := dk_104 (dk_at dksX8_findGaps_4 11 rfl rfl)
theorem dX8_findGaps_107 : decode cX8_findGaps 107 = .ok (.iconst 1, 1) := dk_4 (dk_at dksX8_findGaps_4 12 rfl rfl)
theorem dX8_findGaps_108 : decode cX8_findGaps 108 = .ok (.iadd, 1) := dk_96 (dk_at dksX8_findGaps_4 13 rfl rfl)
theorem dX8_findGaps_109 : decode cX8_findGaps 109 = .ok (.iaload, 1) := dk_46 (dk_at dksX8_findGaps_4 14 rfl rfl)
theorem dX8_findGaps_110 : decode cX8_findGaps 110 = .ok (.iconst (-1), 1) := dk_2 (dk_at dksX8_findGaps_4 15 rfl rfl)
theorem dX8_findGaps_111 : decode cX8_findGaps 111 = .ok (.if_icmp .ne 7, 3) := dk_160 0 7 (dk_at dksX8_findGaps_4 16 rfl rfl)
theorem dX8_findGaps_114 : decode cX8_findGaps 114 = .ok (.iconst 1, 1) := dk_4 (dk_at dksX8_findGaps_4 19 rfl rfl)
theorem dX8_findGaps_115 : decode cX8_findGaps 115 = .ok (.goto 4, 3) := dk_167 0 4 (dk_at dksX8_findGaps_4 20 rfl rfl)
theorem dX8_findGaps_118 : decode cX8_findGaps 118 = .ok (.iconst 0, 1) := dk_3 (dk_at dksX8_findGaps_4 23 rfl rfl)
theorem dX8_findGaps_119 : decode cX8_findGaps 119 = .ok (.bastore, 1) := dk_84 (dk_at dksX8_findGaps_5 0 rfl rfl)
theorem dX8_findGaps_120 : decode cX8_findGaps 120 = .ok (.iinc 3 1, 3) := dk_132 3 1 (dk_at dksX8_findGaps_5 1 rfl rfl)
theorem dX8_findGaps_123 : decode cX8_findGaps 123 = .ok (.goto (-47), 3) := dk_167 255 209 (dk_at dksX8_findGaps_5 4 rfl rfl)
theorem dX8_findGaps_126 : decode cX8_findGaps 126 = .ok (.iload_n 1, 1) := dk_27 (dk_at dksX8_findGaps_5 7 rfl rfl)
theorem dX8_findGaps_127 : decode cX8_findGaps 127 = .ok (.ireturn, 1) := dk_172 (dk_at dksX8_findGaps_5 8 rfl rfl)
abbrev cX8_search : ByteArray := prog_16_method_67_code
def yX8_search : MethodName := ⟨RX8, "search", "()I"⟩
def dkwX8_search_11 : List UInt8 := [104, 4, 96, 28, 182, 1, 118, 132, 4, 1, 167, 255, 196, 167, 255, 59, 2, 172]
abbrev dktX8_search_11 : List UInt8 := dkwX8_search_11 ++ []
def dkwX8_search_10 : List UInt8 := [153, 0, 31, 42, 180, 0, 58, 7, 21, 5, 104, 21, 4, 4, 130, 96, 51, 153, 0, 14, 42, 5, 21, 5]
abbrev dktX8_search_10 : List UInt8 := dkwX8_search_10 ++ dktX8_search_11
def dkwX8_search_9 : List UInt8 := [162, 0, 60, 29, 21, 4, 184, 1, 48, 54, 5, 21, 5, 2, 159, 0, 40, 42, 21, 5, 182, 1, 115]
abbrev dktX8_search_9 : List UInt8 := dkwX8_search_9 ++ dktX8_search_10
def dkwX8_search_8 : List UInt8 := [180, 0, 55, 29, 51, 154, 0, 13, 42, 5, 29, 104, 4, 96, 28, 182, 1, 118, 3, 54, 4, 21, 4, 7]
abbrev dktX8_search_8 : List UInt8 := dkwX8_search_8 ++ dktX8_search_9
def dkwX8_search_7 : List UInt8 := [153, 0, 12, 42, 5, 21, 5, 104, 28, 182, 1, 118, 132, 4, 1, 167, 255, 215, 167, 0, 88, 42]
abbrev dktX8_search_7 : List UInt8 := dkwX8_search_7 ++ dktX8_search_8
def dkwX8_search_6 : List UInt8 := [162, 0, 41, 29, 21, 4, 184, 1, 48, 54, 5, 21, 5, 2, 159, 0, 21, 42, 21, 5, 182, 1, 115]
abbrev dktX8_search_6 : List UInt8 := dkwX8_search_6 ++ dktX8_search_7
def dkwX8_search_5 : List UInt8 := [180, 0, 55, 29, 51, 153, 0, 11, 42, 5, 29, 104, 28, 182, 1, 118, 3, 54, 4, 21, 4, 7]
abbrev dktX8_search_5 : List UInt8 := dkwX8_search_5 ++ dktX8_search_6
def dkwX8_search_4 : List UInt8 := [112, 4, 160, 0, 12, 29, 184, 1, 103, 153, 0, 5, 28, 172, 28, 5, 112, 4, 160, 0, 70, 42]
abbrev dktX8_search_4 : List UInt8 := dkwX8_search_4 ++ dktX8_search_5
def dkwX8_search_3 : List UInt8 := [27, 42, 180, 1, 112, 162, 0, 195, 42, 180, 0, 64, 27, 46, 61, 132, 1, 1, 28, 5, 108, 62, 28, 5]
abbrev dktX8_search_3 : List UInt8 := dkwX8_search_3 ++ dktX8_search_4
def dkwX8_search_2 : List UInt8 := [182, 1, 100, 153, 0, 13, 42, 5, 27, 104, 17, 3, 232, 182, 1, 118, 132, 1, 1, 167, 255, 220, 3, 60]
abbrev dktX8_search_2 : List UInt8 := dkwX8_search_2 ++ dktX8_search_3
def dkwX8_search_1 : List UInt8 := [181, 1, 112, 3, 60, 27, 17, 0, 144, 162, 0, 35, 42, 27, 182, 1, 115, 153, 0, 21, 42, 27]
abbrev dktX8_search_1 : List UInt8 := dkwX8_search_1 ++ dktX8_search_2
def dkwX8_search_0 : List UInt8 := [3, 60, 27, 17, 1, 32, 162, 0, 16, 42, 180, 0, 61, 27, 2, 79, 132, 1, 1, 167, 255, 239, 42, 3]
abbrev dktX8_search_0 : List UInt8 := dkwX8_search_0 ++ dktX8_search_1
theorem dksX8_search_0 : cX8_search.data.toList.drop 0 = dktX8_search_0 := by decide +kernel
theorem dksX8_search_1 : cX8_search.data.toList.drop 24 = dktX8_search_1 := dk_seg dksX8_search_0 24 rfl rfl
theorem dksX8_search_2 : cX8_search.data.toList.drop 46 = dktX8_search_2 := dk_seg dksX8_search_1 22 rfl rfl
theorem dksX8_search_3 : cX8_search.data.toList.drop 70 = dktX8_search_3 := dk_seg dksX8_search_2 24 rfl rfl
theorem dksX8_search_4 : cX8_search.data.toList.drop 94 = dktX8_search_4 := dk_seg dksX8_search_3 24 rfl rfl
theorem dksX8_search_5 : cX8_search.data.toList.drop 116 = dktX8_search_5 := dk_seg dksX8_search_4 22 rfl rfl
theorem dksX8_search_6 : cX8_search.data.toList.drop 138 = dktX8_search_6 := dk_seg dksX8_search_5 22 rfl rfl
theorem dksX8_search_7 : cX8_search.data.toList.drop 161 = dktX8_search_7 := dk_seg dksX8_search_6 23 rfl rfl
theorem dksX8_search_8 : cX8_search.data.toList.drop 183 = dktX8_search_8 := dk_seg dksX8_search_7 22 rfl rfl
theorem dksX8_search_9 : cX8_search.data.toList.drop 207 = dktX8_search_9 := dk_seg dksX8_search_8 24 rfl rfl
theorem dksX8_search_10 : cX8_search.data.toList.drop 230 = dktX8_search_10 := dk_seg dksX8_search_9 23 rfl rfl
theorem dksX8_search_11 : cX8_search.data.toList.drop 254 = dktX8_search_11 := dk_seg dksX8_search_10 24 rfl rfl
theorem dX8_search_0 : decode cX8_search 0 = .ok (.iconst 0, 1) := dk_3 (dk_at dksX8_search_0 0 rfl rfl)
theorem dX8_search_1 : decode cX8_search 1 = .ok (.istore_n 1, 1) := dk_60 (dk_at dksX8_search_0 1 rfl rfl)
theorem dX8_search_2 : decode cX8_search 2 = .ok (.iload_n 1, 1) := dk_27 (dk_at dksX8_search_0 2 rfl rfl)
theorem dX8_search_3 : decode cX8_search 3 = .ok (.sipush 288, 3) := dk_17 1 32 (dk_at dksX8_search_0 3 rfl rfl)
theorem dX8_search_6 : decode cX8_search 6 = .ok (.if_icmp .ge 16, 3) := dk_162 0 16 (dk_at dksX8_search_0 6 rfl rfl)
theorem dX8_search_9 : decode cX8_search 9 = .ok (.aload_n 0, 1) := dk_42 (dk_at dksX8_search_0 9 rfl rfl)
theorem dX8_search_10 : decode cX8_search 10 = .ok (.getfield 61, 3) := dk_180 0 61 (dk_at dksX8_search_0 10 rfl rfl)
theorem dX8_search_13 : decode cX8_search 13 = .ok (.iload_n 1, 1) := dk_27 (dk_at dksX8_search_0 13 rfl rfl)
theorem dX8_search_14 : decode cX8_search 14 = .ok (.iconst (-1), 1) := dk_2 (dk_at dksX8_search_0 14 rfl rfl)
theorem dX8_search_15 : decode cX8_search 15 = .ok (.iastore, 1) := dk_79 (dk_at dksX8_search_0 15 rfl rfl)
theorem dX8_search_16 : decode cX8_search 16 = .ok (.iinc 1 1, 3) := dk_132 1 1 (dk_at dksX8_search_0 16 rfl rfl)
theorem dX8_search_19 : decode cX8_search 19 = .ok (.goto (-17), 3) := dk_167 255 239 (dk_at dksX8_search_0 19 rfl rfl)
theorem dX8_search_22 : decode cX8_search 22 = .ok (.aload_n 0, 1) := dk_42 (dk_at dksX8_search_0 22 rfl rfl)
theorem dX8_search_23 : decode cX8_search 23 = .ok (.iconst 0, 1) := dk_3 (dk_at dksX8_search_0 23 rfl rfl)
theorem dX8_search_24 : decode cX8_search 24 = .ok (.putfield 368, 3) := dk_181 1 112 (dk_at dksX8_search_1 0 rfl rfl)
theorem dX8_search_27 : decode cX8_search 27 = .ok (.iconst 0, 1) := dk_3 (dk_at dksX8_search_1 3 rfl rfl)
theorem dX8_search_28 : decode cX8_search 28 = .ok (.istore_n 1, 1) := dk_60 (dk_at dksX8_search_1 4 rfl rfl)
theorem dX8_search_29 : decode cX8_search 29 = .ok (.iload_n 1, 1) := dk_27 (dk_at dksX8_search_1 5 rfl rfl)
theorem dX8_search_30 : decode cX8_search 30 = .ok (.sipush 144, 3) := dk_17 0 144 (dk_at dksX8_search_1 6 rfl rfl)
theorem dX8_search_33 : decode cX8_search 33 = .ok (.if_icmp .ge 35, 3) := dk_162 0 35 (dk_at dksX8_search_1 9 rfl rfl)
theorem dX8_search_36 : decode cX8_search 36 = .ok (.aload_n 0, 1) := dk_42 (dk_at dksX8_search_1 12 rfl rfl)
theorem dX8_search_37 : decode cX8_search 37 = .ok (.iload_n 1, 1) := dk_27 (dk_at dksX8_search_1 13 rfl rfl)
theorem dX8_search_38 : decode cX8_search 38 = .ok (.invokevirtual 371, 3) := dk_182 1 115 (dk_at dksX8_search_1 14 rfl rfl)
theorem dX8_search_41 : decode cX8_search 41 = .ok (.ifCond .eq 21, 3) := dk_153 0 21 (dk_at dksX8_search_1 17 rfl rfl)
theorem dX8_search_44 : decode cX8_search 44 = .ok (.aload_n 0, 1) := dk_42 (dk_at dksX8_search_1 20 rfl rfl)
theorem dX8_search_45 : decode cX8_search 45 = .ok (.iload_n 1, 1) := dk_27 (dk_at dksX8_search_1 21 rfl rfl)
theorem dX8_search_46 : decode cX8_search 46 = .ok (.invokevirtual 356, 3) := dk_182 1 100 (dk_at dksX8_search_2 0 rfl rfl)
theorem dX8_search_49 : decode cX8_search 49 = .ok (.ifCond .eq 13, 3) := dk_153 0 13 (dk_at dksX8_search_2 3 rfl rfl)
theorem dX8_search_52 : decode cX8_search 52 = .ok (.aload_n 0, 1) := dk_42 (dk_at dksX8_search_2 6 rfl rfl)
theorem dX8_search_53 : decode cX8_search 53 = .ok (.iconst 2, 1) := dk_5 (dk_at dksX8_search_2 7 rfl rfl)
theorem dX8_search_54 : decode cX8_search 54 = .ok (.iload_n 1, 1) := dk_27 (dk_at dksX8_search_2 8 rfl rfl)
theorem dX8_search_55 : decode cX8_search 55 = .ok (.imul, 1) := dk_104 (dk_at dksX8_search_2 9 rfl rfl)
theorem dX8_search_56 : decode cX8_search 56 = .ok (.sipush 1000, 3) := dk_17 3 232 (dk_at dksX8_search_2 10 rfl rfl)
theorem dX8_search_59 : decode cX8_search 59 = .ok (.invokevirtual 374, 3) := dk_182 1 118 (dk_at dksX8_search_2 13 rfl rfl)
theorem dX8_search_62 : decode cX8_search 62 = .ok (.iinc 1 1, 3) := dk_132 1 1 (dk_at dksX8_search_2 16 rfl rfl)
theorem dX8_search_65 : decode cX8_search 65 = .ok (.goto (-36), 3) := dk_167 255 220 (dk_at dksX8_search_2 19 rfl rfl)
theorem dX8_search_68 : decode cX8_search 68 = .ok (.iconst 0, 1) := dk_3 (dk_at dksX8_search_2 22 rfl rfl)
theorem dX8_search_69 : decode cX8_search 69 = .ok (.istore_n 1, 1) := dk_60 (dk_at dksX8_search_2 23 rfl rfl)
theorem dX8_search_70 : decode cX8_search 70 = .ok (.iload_n 1, 1) := dk_27 (dk_at dksX8_search_3 0 rfl rfl)
theorem dX8_search_71 : decode cX8_search 71 = .ok (.aload_n 0, 1) := dk_42 (dk_at dksX8_search_3 1 rfl rfl)
theorem dX8_search_72 : decode cX8_search 72 = .ok (.getfield 368, 3) := dk_180 1 112 (dk_at dksX8_search_3 2 rfl rfl)
theorem dX8_search_75 : decode cX8_search 75 = .ok (.if_icmp .ge 195, 3) := dk_162 0 195 (dk_at dksX8_search_3 5 rfl rfl)
theorem dX8_search_78 : decode cX8_search 78 = .ok (.aload_n 0, 1) := dk_42 (dk_at dksX8_search_3 8 rfl rfl)
theorem dX8_search_79 : decode cX8_search 79 = .ok (.getfield 64, 3) := dk_180 0 64 (dk_at dksX8_search_3 9 rfl rfl)
theorem dX8_search_82 : decode cX8_search 82 = .ok (.iload_n 1, 1) := dk_27 (dk_at dksX8_search_3 12 rfl rfl)
theorem dX8_search_83 : decode cX8_search 83 = .ok (.iaload, 1) := dk_46 (dk_at dksX8_search_3 13 rfl rfl)
theorem dX8_search_84 : decode cX8_search 84 = .ok (.istore_n 2, 1) := dk_61 (dk_at dksX8_search_3 14 rfl rfl)
theorem dX8_search_85 : decode cX8_search 85 = .ok (.iinc 1 1, 3) := dk_132 1 1 (dk_at dksX8_search_3 15 rfl rfl)
theorem dX8_search_88 : decode cX8_search 88 = .ok (.iload_n 2, 1) := dk_28 (dk_at dksX8_search_3 18 rfl rfl)
theorem dX8_search_89 : decode cX8_search 89 = .ok (.iconst 2, 1) := dk_5 (dk_at dksX8_search_3 19 rfl rfl)
theorem dX8_search_90 : decode cX8_search 90 = .ok (.idiv, 1) := dk_108 (dk_at dksX8_search_3 20 rfl rfl)
theorem dX8_search_91 : decode cX8_search 91 = .ok (.istore_n 3, 1) := dk_62 (dk_at dksX8_search_3 21 rfl rfl)
theorem dX8_search_92 : decode cX8_search 92 = .ok (.iload_n 2, 1) := dk_28 (dk_at dksX8_search_3 22 rfl rfl)
theorem dX8_search_93 : decode cX8_search 93 = .ok (.iconst 2, 1) := dk_5 (dk_at dksX8_search_3 23 rfl rfl)
theorem dX8_search_94 : decode cX8_search 94 = .ok (.irem, 1) := dk_112 (dk_at dksX8_search_4 0 rfl rfl)
theorem dX8_search_95 : decode cX8_search 95 = .ok (.iconst 1, 1) := dk_4 (dk_at dksX8_search_4 1 rfl rfl)
theorem dX8_search_96 : decode cX8_search 96 = .ok (.if_icmp .ne 12, 3) := dk_160 0 12 (dk_at dksX8_search_4 2 rfl rfl)
theorem dX8_search_99 : decode cX8_search 99 = .ok (.iload_n 3, 1) := dk_29 (dk_at dksX8_search_4 5 rfl rfl)
theorem dX8_search_100 : decode cX8_search 100 = .ok (.invokestatic 359, 3) := dk_184 1 103 (dk_at dksX8_search_4 6 rfl rfl)
theorem dX8_search_103 : decode cX8_search 103 = .ok (.ifCond .eq 5, 3) := dk_153 0 5 (dk_at dksX8_search_4 9 rfl rfl)
theorem dX8_search_106 : decode cX8_search 106 = .ok (.iload_n 2, 1) := dk_28 (dk_at dksX8_search_4 12 rfl rfl)
theorem dX8_search_107 : decode cX8_search 107 = .ok (.ireturn, 1) := dk_172 (dk_at dksX8_search_4 13 rfl rfl)
theorem dX8_search_108 : decode cX8_search 108 = .ok (.iload_n 2, 1) := dk_28 (dk_at dksX8_search_4 14 rfl rfl)
theorem dX8_search_109 : decode cX8_search 109 = .ok (.iconst 2, 1) := dk_5 (dk_at dksX8_search_4 15 rfl rfl)
theorem dX8_search_110 : decode cX8_search 110 = .ok (.irem, 1) := dk_112 (dk_at dksX8_search_4 16 rfl rfl)
theorem dX8_search_111 : decode cX8_search 111 = .ok (.iconst 1, 1) := dk_4 (dk_at dksX8_search_4 17 rfl rfl)
theorem dX8_search_112 : decode cX8_search 112 = .ok (.if_icmp .ne 70, 3) := dk_160 0 70 (dk_at dksX8_search_4 18 rfl rfl)
theorem dX8_search_115 : decode cX8_search 115 = .ok (.aload_n 0, 1) := dk_42 (dk_at dksX8_search_4 21 rfl rfl)
theorem dX8_search_116 : decode cX8_search 116 = .ok (.getfield 55, 3) := dk_180 0 55 (dk_at dksX8_search_5 0 rfl rfl)
theorem dX8_search_119 : decode cX8_search 119 = .ok (.iload_n 3, 1) := dk_29 (dk_at dksX8_search_5 3 rfl rfl)
theorem dX8_search_120 : decode cX8_search 120 = .ok (.baload, 1) := dk_51 (dk_at dksX8_search_5 4 rfl rfl)
theorem dX8_search_121 : decode cX8_search 121 = .ok (.ifCond .eq 11, 3) := dk_153 0 11 (dk_at dksX8_search_5 5 rfl rfl)
theorem dX8_search_124 : decode cX8_search 124 = .ok (.aload_n 0, 1) := dk_42 (dk_at dksX8_search_5 8 rfl rfl)
theorem dX8_search_125 : decode cX8_search 125 = .ok (.iconst 2, 1) := dk_5 (dk_at dksX8_search_5 9 rfl rfl)
theorem dX8_search_126 : decode cX8_search 126 = .ok (.iload_n 3, 1) := dk_29 (dk_at dksX8_search_5 10 rfl rfl)
theorem dX8_search_127 : decode cX8_search 127 = .ok (.imul, 1) := dk_104 (dk_at dksX8_search_5 11 rfl rfl)
theorem dX8_search_128 : decode cX8_search 128 = .ok (.iload_n 2, 1) := dk_28 (dk_at dksX8_search_5 12 rfl rfl)
theorem dX8_search_129 : decode cX8_search 129 = .ok (.invokevirtual 374, 3) := dk_182 1 118 (dk_at dksX8_search_5 13 rfl rfl)
theorem dX8_search_132 : decode cX8_search 132 = .ok (.iconst 0, 1) := dk_3 (dk_at dksX8_search_5 16 rfl rfl)
theorem dX8_search_133 : decode cX8_search 133 = .ok (.istore 4, 2) := dk_54 4 (dk_at dksX8_search_5 17 rfl rfl)
theorem dX8_search_135 : decode cX8_search 135 = .ok (.iload 4, 2) := dk_21 4 (dk_at dksX8_search_5 19 rfl rfl)
theorem dX8_search_137 : decode cX8_search 137 = .ok (.iconst 4, 1) := dk_7 (dk_at dksX8_search_5 21 rfl rfl)
theorem dX8_search_138 : decode cX8_search 138 = .ok (.if_icmp .ge 41, 3) := dk_162 0 41 (dk_at dksX8_search_6 0 rfl rfl)
theorem dX8_search_141 : decode cX8_search 141 = .ok (.iload_n 3, 1) := dk_29 (dk_at dksX8_search_6 3 rfl rfl)
theorem dX8_search_142 : decode cX8_search 142 = .ok (.iload 4, 2) := dk_21 4 (dk_at dksX8_search_6 4 rfl rfl)
theorem dX8_search_144 : decode cX8_search 144 = .ok (.invokestatic 304, 3) := dk_184 1 48 (dk_at dksX8_search_6 6 rfl rfl)
theorem dX8_search_147 : decode cX8_search 147 = .ok (.istore 5, 2) := dk_54 5 (dk_at dksX8_search_6 9 rfl rfl)
theorem dX8_search_149 : decode cX8_search 149 = .ok (.iload 5, 2) := dk_21 5 (dk_at dksX8_search_6 11 rfl rfl)
theorem dX8_search_151 : decode cX8_search 151 = .ok (.iconst (-1), 1) := dk_2 (dk_at dksX8_search_6 13 rfl rfl)
theorem dX8_search_152 : decode cX8_search 152 = .ok (.if_icmp .eq 21, 3) := dk_159 0 21 (dk_at dksX8_search_6 14 rfl rfl)
theorem dX8_search_155 : decode cX8_search 155 = .ok (.aload_n 0, 1) := dk_42 (dk_at dksX8_search_6 17 rfl rfl)
theorem dX8_search_156 : decode cX8_search 156 = .ok (.iload 5, 2) := dk_21 5 (dk_at dksX8_search_6 18 rfl rfl)
theorem dX8_search_158 : decode cX8_search 158 = .ok (.invokevirtual 371, 3) := dk_182 1 115 (dk_at dksX8_search_6 20 rfl rfl)
theorem dX8_search_161 : decode cX8_search 161 = .ok (.ifCond .eq 12, 3) := dk_153 0 12 (dk_at dksX8_search_7 0 rfl rfl)
theorem dX8_search_164 : decode cX8_search 164 = .ok (.aload_n 0, 1) := dk_42 (dk_at dksX8_search_7 3 rfl rfl)
theorem dX8_search_165 : decode cX8_search 165 = .ok (.iconst 2, 1) := dk_5 (dk_at dksX8_search_7 4 rfl rfl)
theorem dX8_search_166 : decode cX8_search 166 = .ok (.iload 5, 2) := dk_21 5 (dk_at dksX8_search_7 5 rfl rfl)
theorem dX8_search_168 : decode cX8_search 168 = .ok (.imul, 1) := dk_104 (dk_at dksX8_search_7 7 rfl rfl)
theorem dX8_search_169 : decode cX8_search 169 = .ok (.iload_n 2, 1) := dk_28 (dk_at dksX8_search_7 8 rfl rfl)
theorem dX8_search_170 : decode cX8_search 170 = .ok (.invokevirtual 374, 3) := dk_182 1 118 (dk_at dksX8_search_7 9 rfl rfl)
theorem dX8_search_173 : decode cX8_search 173 = .ok (.iinc 4 1, 3) := dk_132 4 1 (dk_at dksX8_search_7 12 rfl rfl)
theorem dX8_search_176 : decode cX8_search 176 = .ok (.goto (-41), 3) := dk_167 255 215 (dk_at dksX8_search_7 15 rfl rfl)
theorem dX8_search_179 : decode cX8_search 179 = .ok (.goto 88, 3) := dk_167 0 88 (dk_at dksX8_search_7 18 rfl rfl)
theorem dX8_search_182 : decode cX8_search 182 = .ok (.aload_n 0, 1) := dk_42 (dk_at dksX8_search_7 21 rfl rfl)
theorem dX8_search_183 : decode cX8_search 183 = .ok (.getfield 55, 3) := dk_180 0 55 (dk_at dksX8_search_8 0 rfl rfl)
theorem dX8_search_186 : decode cX8_search 186 = .ok (.iload_n 3, 1) := dk_29 (dk_at dksX8_search_8 3 rfl rfl)
theorem dX8_search_187 : decode cX8_search 187 = .ok (.baload, 1) := dk_51 (dk_at dksX8_search_8 4 rfl rfl)
theorem dX8_search_188 : decode cX8_search 188 = .ok (.ifCond .ne 13, 3) := dk_154 0 13 (dk_at dksX8_search_8 5 rfl rfl)
theorem dX8_search_191 : decode cX8_search 191 = .ok (.aload_n 0, 1) := dk_42 (dk_at dksX8_search_8 8 rfl rfl)
theorem dX8_search_192 : decode cX8_search 192 = .ok (.iconst 2, 1) := dk_5 (dk_at dksX8_search_8 9 rfl rfl)
theorem dX8_search_193 : decode cX8_search 193 = .ok (.iload_n 3, 1) := dk_29 (dk_at dksX8_search_8 10 rfl rfl)
theorem dX8_search_194 : decode cX8_search 194 = .ok (.imul, 1) := dk_104 (dk_at dksX8_search_8 11 rfl rfl)
theorem dX8_search_195 : decode cX8_search 195 = .ok (.iconst 1, 1) := dk_4 (dk_at dksX8_search_8 12 rfl rfl)
theorem dX8_search_196 : decode cX8_search 196 = .ok (.iadd, 1) := dk_96 (dk_at dksX8_search_8 13 rfl rfl)
theorem dX8_search_197 : decode cX8_search 197 = .ok (.iload_n 2, 1) := dk_28 (dk_at dksX8_search_8 14 rfl rfl)
theorem dX8_search_198 : decode cX8_search 198 = .ok (.invokevirtual 374, 3) := dk_182 1 118 (dk_at dksX8_search_8 15 rfl rfl)
theorem dX8_search_201 : decode cX8_search 201 = .ok (.iconst 0, 1) := dk_3 (dk_at dksX8_search_8 18 rfl rfl)
theorem dX8_search_202 : decode cX8_search 202 = .ok (.istore 4, 2) := dk_54 4 (dk_at dksX8_search_8 19 rfl rfl)
theorem dX8_search_204 : decode cX8_search 204 = .ok (.iload 4, 2) := dk_21 4 (dk_at dksX8_search_8 21 rfl rfl)
theorem dX8_search_206 : decode cX8_search 206 = .ok (.iconst 4, 1) := dk_7 (dk_at dksX8_search_8 23 rfl rfl)
theorem dX8_search_207 : decode cX8_search 207 = .ok (.if_icmp .ge 60, 3) := dk_162 0 60 (dk_at dksX8_search_9 0 rfl rfl)
theorem dX8_search_210 : decode cX8_search 210 = .ok (.iload_n 3, 1) := dk_29 (dk_at dksX8_search_9 3 rfl rfl)
theorem dX8_search_211 : decode cX8_search 211 = .ok (.iload 4, 2) := dk_21 4 (dk_at dksX8_search_9 4 rfl rfl)
theorem dX8_search_213 : decode cX8_search 213 = .ok (.invokestatic 304, 3) := dk_184 1 48 (dk_at dksX8_search_9 6 rfl rfl)
theorem dX8_search_216 : decode cX8_search 216 = .ok (.istore 5, 2) := dk_54 5 (dk_at dksX8_search_9 9 rfl rfl)
theorem dX8_search_218 : decode cX8_search 218 = .ok (.iload 5, 2) := dk_21 5 (dk_at dksX8_search_9 11 rfl rfl)
theorem dX8_search_220 : decode cX8_search 220 = .ok (.iconst (-1), 1) := dk_2 (dk_at dksX8_search_9 13 rfl rfl)
theorem dX8_search_221 : decode cX8_search 221 = .ok (.if_icmp .eq 40, 3) := dk_159 0 40 (dk_at dksX8_search_9 14 rfl rfl)
theorem dX8_search_224 : decode cX8_search 224 = .ok (.aload_n 0, 1) := dk_42 (dk_at dksX8_search_9 17 rfl rfl)
theorem dX8_search_225 : decode cX8_search 225 = .ok (.iload 5, 2) := dk_21 5 (dk_at dksX8_search_9 18 rfl rfl)
theorem dX8_search_227 : decode cX8_search 227 = .ok (.invokevirtual 371, 3) := dk_182 1 115 (dk_at dksX8_search_9 20 rfl rfl)
theorem dX8_search_230 : decode cX8_search 230 = .ok (.ifCond .eq 31, 3) := dk_153 0 31 (dk_at dksX8_search_10 0 rfl rfl)
theorem dX8_search_233 : decode cX8_search 233 = .ok (.aload_n 0, 1) := dk_42 (dk_at dksX8_search_10 3 rfl rfl)
theorem dX8_search_234 : decode cX8_search 234 = .ok (.getfield 58, 3) := dk_180 0 58 (dk_at dksX8_search_10 4 rfl rfl)
theorem dX8_search_237 : decode cX8_search 237 = .ok (.iconst 4, 1) := dk_7 (dk_at dksX8_search_10 7 rfl rfl)
theorem dX8_search_238 : decode cX8_search 238 = .ok (.iload 5, 2) := dk_21 5 (dk_at dksX8_search_10 8 rfl rfl)
theorem dX8_search_240 : decode cX8_search 240 = .ok (.imul, 1) := dk_104 (dk_at dksX8_search_10 10 rfl rfl)
theorem dX8_search_241 : decode cX8_search 241 = .ok (.iload 4, 2) := dk_21 4 (dk_at dksX8_search_10 11 rfl rfl)
theorem dX8_search_243 : decode cX8_search 243 = .ok (.iconst 1, 1) := dk_4 (dk_at dksX8_search_10 13 rfl rfl)
theorem dX8_search_244 : decode cX8_search 244 = .ok (.ixor, 1) := dk_130 (dk_at dksX8_search_10 14 rfl rfl)
theorem dX8_search_245 : decode cX8_search 245 = .ok (.iadd, 1) := dk_96 (dk_at dksX8_search_10 15 rfl rfl)
theorem dX8_search_246 : decode cX8_search 246 = .ok (.baload, 1) := dk_51 (dk_at dksX8_search_10 16 rfl rfl)
theorem dX8_search_247 : decode cX8_search 247 = .ok (.ifCond .eq 14, 3) := dk_153 0 14 (dk_at dksX8_search_10 17 rfl rfl)
theorem dX8_search_250 : decode cX8_search 250 = .ok (.aload_n 0, 1) := dk_42 (dk_at dksX8_search_10 20 rfl rfl)
theorem dX8_search_251 : decode cX8_search 251 = .ok (.iconst 2, 1) := dk_5 (dk_at dksX8_search_10 21 rfl rfl)
theorem dX8_search_252 : decode cX8_search 252 = .ok (.iload 5, 2) := dk_21 5 (dk_at dksX8_search_10 22 rfl rfl)
theorem dX8_search_254 : decode cX8_search 254 = .ok (.imul, 1) := dk_104 (dk_at dksX8_search_11 0 rfl rfl)
theorem dX8_search_255 : decode cX8_search 255 = .ok (.iconst 1, 1) := dk_4 (dk_at dksX8_search_11 1 rfl rfl)
theorem dX8_search_256 : decode cX8_search 256 = .ok (.iadd, 1) := dk_96 (dk_at dksX8_search_11 2 rfl rfl)
theorem dX8_search_257 : decode cX8_search 257 = .ok (.iload_n 2, 1) := dk_28 (dk_at dksX8_search_11 3 rfl rfl)
theorem dX8_search_258 : decode cX8_search 258 = .ok (.invokevirtual 374, 3) := dk_182 1 118 (dk_at dksX8_search_11 4 rfl rfl)
theorem dX8_search_261 : decode cX8_search 261 = .ok (.iinc 4 1, 3) := dk_132 4 1 (dk_at dksX8_search_11 7 rfl rfl)
theorem dX8_search_264 : decode cX8_search 264 = .ok (.goto (-60), 3) := dk_167 255 196 (dk_at dksX8_search_11 10 rfl rfl)
theorem dX8_search_267 : decode cX8_search 267 = .ok (.goto (-197), 3) := dk_167 255 59 (dk_at dksX8_search_11 13 rfl rfl)
theorem dX8_search_270 : decode cX8_search 270 = .ok (.iconst (-1), 1) := dk_2 (dk_at dksX8_search_11 16 rfl rfl)
theorem dX8_search_271 : decode cX8_search 271 = .ok (.ireturn, 1) := dk_172 (dk_at dksX8_search_11 17 rfl rfl)
abbrev cX8_isOpen : ByteArray := prog_16_method_57_code
def yX8_isOpen : MethodName := ⟨RX8, "isOpen", "(I)Z"⟩
def dkwX8_isOpen_0 : List UInt8 := [42, 27, 182, 1, 90, 154, 0, 15, 42, 27, 182, 1, 45, 154, 0, 7, 4, 167, 0, 4, 3, 172]
abbrev dktX8_isOpen_0 : List UInt8 := dkwX8_isOpen_0 ++ []
theorem dksX8_isOpen_0 : cX8_isOpen.data.toList.drop 0 = dktX8_isOpen_0 := by decide +kernel
theorem dX8_isOpen_0 : decode cX8_isOpen 0 = .ok (.aload_n 0, 1) := dk_42 (dk_at dksX8_isOpen_0 0 rfl rfl)
theorem dX8_isOpen_1 : decode cX8_isOpen 1 = .ok (.iload_n 1, 1) := dk_27 (dk_at dksX8_isOpen_0 1 rfl rfl)
theorem dX8_isOpen_2 : decode cX8_isOpen 2 = .ok (.invokevirtual 346, 3) := dk_182 1 90 (dk_at dksX8_isOpen_0 2 rfl rfl)
theorem dX8_isOpen_5 : decode cX8_isOpen 5 = .ok (.ifCond .ne 15, 3) := dk_154 0 15 (dk_at dksX8_isOpen_0 5 rfl rfl)
theorem dX8_isOpen_8 : decode cX8_isOpen 8 = .ok (.aload_n 0, 1) := dk_42 (dk_at dksX8_isOpen_0 8 rfl rfl)
theorem dX8_isOpen_9 : decode cX8_isOpen 9 = .ok (.iload_n 1, 1) := dk_27 (dk_at dksX8_isOpen_0 9 rfl rfl)
theorem dX8_isOpen_10 : decode cX8_isOpen 10 = .ok (.invokevirtual 301, 3) := dk_182 1 45 (dk_at dksX8_isOpen_0 10 rfl rfl)
theorem dX8_isOpen_13 : decode cX8_isOpen 13 = .ok (.ifCond .ne 7, 3) := dk_154 0 7 (dk_at dksX8_isOpen_0 13 rfl rfl)
theorem dX8_isOpen_16 : decode cX8_isOpen 16 = .ok (.iconst 1, 1) := dk_4 (dk_at dksX8_isOpen_0 16 rfl rfl)
theorem dX8_isOpen_17 : decode cX8_isOpen 17 = .ok (.goto 4, 3) := dk_167 0 4 (dk_at dksX8_isOpen_0 17 rfl rfl)
theorem dX8_isOpen_20 : decode cX8_isOpen 20 = .ok (.iconst 0, 1) := dk_3 (dk_at dksX8_isOpen_0 20 rfl rfl)
theorem dX8_isOpen_21 : decode cX8_isOpen 21 = .ok (.ireturn, 1) := dk_172 (dk_at dksX8_isOpen_0 21 rfl rfl)
abbrev cX8_reach : ByteArray := prog_16_method_66_code
def yX8_reach : MethodName := ⟨RX8, "reach", "(II)V"⟩
def dkwX8_reach_1 : List UInt8 := [180, 1, 112, 27, 79, 42, 89, 180, 1, 112, 4, 96, 181, 1, 112, 177]
abbrev dktX8_reach_1 : List UInt8 := dkwX8_reach_1 ++ []
def dkwX8_reach_0 : List UInt8 := [42, 180, 0, 61, 27, 46, 2, 159, 0, 4, 177, 42, 180, 0, 61, 27, 28, 79, 42, 180, 0, 64, 42]
abbrev dktX8_reach_0 : List UInt8 := dkwX8_reach_0 ++ dktX8_reach_1
theorem dksX8_reach_0 : cX8_reach.data.toList.drop 0 = dktX8_reach_0 := by decide +kernel
theorem dksX8_reach_1 : cX8_reach.data.toList.drop 23 = dktX8_reach_1 := dk_seg dksX8_reach_0 23 rfl rfl
theorem dX8_reach_0 : decode cX8_reach 0 = .ok (.aload_n 0, 1) := dk_42 (dk_at dksX8_reach_0 0 rfl rfl)
theorem dX8_reach_1 : decode cX8_reach 1 = .ok (.getfield 61, 3) := dk_180 0 61 (dk_at dksX8_reach_0 1 rfl rfl)
theorem dX8_reach_4 : decode cX8_reach 4 = .ok (.iload_n 1, 1) := dk_27 (dk_at dksX8_reach_0 4 rfl rfl)
theorem dX8_reach_5 : decode cX8_reach 5 = .ok (.iaload, 1) := dk_46 (dk_at dksX8_reach_0 5 rfl rfl)
theorem dX8_reach_6 : decode cX8_reach 6 = .ok (.iconst (-1), 1) := dk_2 (dk_at dksX8_reach_0 6 rfl rfl)
theorem dX8_reach_7 : decode cX8_reach 7 = .ok (.if_icmp .eq 4, 3) := dk_159 0 4 (dk_at dksX8_reach_0 7 rfl rfl)
theorem dX8_reach_10 : decode cX8_reach 10 = .ok (.return_, 1) := dk_177 (dk_at dksX8_reach_0 10 rfl rfl)
theorem dX8_reach_11 : decode cX8_reach 11 = .ok (.aload_n 0, 1) := dk_42 (dk_at dksX8_reach_0 11 rfl rfl)
theorem dX8_reach_12 : decode cX8_reach 12 = .ok (.getfield 61, 3) := dk_180 0 61 (dk_at dksX8_reach_0 12 rfl rfl)
theorem dX8_reach_15 : decode cX8_reach 15 = .ok (.iload_n 1, 1) := dk_27 (dk_at dksX8_reach_0 15 rfl rfl)
theorem dX8_reach_16 : decode cX8_reach 16 = .ok (.iload_n 2, 1) := dk_28 (dk_at dksX8_reach_0 16 rfl rfl)
theorem dX8_reach_17 : decode cX8_reach 17 = .ok (.iastore, 1) := dk_79 (dk_at dksX8_reach_0 17 rfl rfl)
theorem dX8_reach_18 : decode cX8_reach 18 = .ok (.aload_n 0, 1) := dk_42 (dk_at dksX8_reach_0 18 rfl rfl)
theorem dX8_reach_19 : decode cX8_reach 19 = .ok (.getfield 64, 3) := dk_180 0 64 (dk_at dksX8_reach_0 19 rfl rfl)
theorem dX8_reach_22 : decode cX8_reach 22 = .ok (.aload_n 0, 1) := dk_42 (dk_at dksX8_reach_0 22 rfl rfl)
theorem dX8_reach_23 : decode cX8_reach 23 = .ok (.getfield 368, 3) := dk_180 1 112 (dk_at dksX8_reach_1 0 rfl rfl)
theorem dX8_reach_26 : decode cX8_reach 26 = .ok (.iload_n 1, 1) := dk_27 (dk_at dksX8_reach_1 3 rfl rfl)
theorem dX8_reach_27 : decode cX8_reach 27 = .ok (.iastore, 1) := dk_79 (dk_at dksX8_reach_1 4 rfl rfl)
theorem dX8_reach_28 : decode cX8_reach 28 = .ok (.aload_n 0, 1) := dk_42 (dk_at dksX8_reach_1 5 rfl rfl)
theorem dX8_reach_29 : decode cX8_reach 29 = .ok (.dup, 1) := dk_89 (dk_at dksX8_reach_1 6 rfl rfl)
theorem dX8_reach_30 : decode cX8_reach 30 = .ok (.getfield 368, 3) := dk_180 1 112 (dk_at dksX8_reach_1 7 rfl rfl)
theorem dX8_reach_33 : decode cX8_reach 33 = .ok (.iconst 1, 1) := dk_4 (dk_at dksX8_reach_1 10 rfl rfl)
theorem dX8_reach_34 : decode cX8_reach 34 = .ok (.iadd, 1) := dk_96 (dk_at dksX8_reach_1 11 rfl rfl)
theorem dX8_reach_35 : decode cX8_reach 35 = .ok (.putfield 368, 3) := dk_181 1 112 (dk_at dksX8_reach_1 12 rfl rfl)
theorem dX8_reach_38 : decode cX8_reach 38 = .ok (.return_, 1) := dk_177 (dk_at dksX8_reach_1 15 rfl rfl)
abbrev cX8_goes : ByteArray := prog_16_method_69_code
def yX8_goes : MethodName := ⟨RX8, "goes", "(I)V"⟩
def dkwX8_goes_4 : List UInt8 := [21, 5, 21, 4, 184, 1, 121, 96, 3, 84, 29, 61, 167, 255, 151, 177]
abbrev dktX8_goes_4 : List UInt8 := dkwX8_goes_4 ++ []
def dkwX8_goes_3 : List UInt8 := [21, 4, 104, 21, 4, 21, 5, 184, 1, 121, 96, 4, 84, 167, 0, 21, 42, 180, 0, 58, 7, 21, 5, 104]
abbrev dktX8_goes_3 : List UInt8 := dkwX8_goes_3 ++ dktX8_goes_4
def dkwX8_goes_2 : List UInt8 := [160, 0, 7, 4, 167, 0, 4, 3, 84, 167, 0, 48, 28, 5, 112, 154, 0, 24, 42, 180, 0, 58, 7]
abbrev dktX8_goes_2 : List UInt8 := dkwX8_goes_2 ++ dktX8_goes_3
def dkwX8_goes_1 : List UInt8 := [54, 4, 28, 5, 108, 54, 5, 21, 4, 21, 5, 160, 0, 25, 42, 180, 0, 55, 21, 4, 28, 5, 112, 4]
abbrev dktX8_goes_1 : List UInt8 := dkwX8_goes_1 ++ dktX8_goes_2
def dkwX8_goes_0 : List UInt8 := [27, 61, 42, 180, 0, 61, 28, 46, 17, 3, 232, 159, 0, 99, 42, 180, 0, 61, 28, 46, 62, 29, 5, 108]
abbrev dktX8_goes_0 : List UInt8 := dkwX8_goes_0 ++ dktX8_goes_1
theorem dksX8_goes_0 : cX8_goes.data.toList.drop 0 = dktX8_goes_0 := by decide +kernel
theorem dksX8_goes_1 : cX8_goes.data.toList.drop 24 = dktX8_goes_1 := dk_seg dksX8_goes_0 24 rfl rfl
theorem dksX8_goes_2 : cX8_goes.data.toList.drop 48 = dktX8_goes_2 := dk_seg dksX8_goes_1 24 rfl rfl
theorem dksX8_goes_3 : cX8_goes.data.toList.drop 71 = dktX8_goes_3 := dk_seg dksX8_goes_2 23 rfl rfl
theorem dksX8_goes_4 : cX8_goes.data.toList.drop 95 = dktX8_goes_4 := dk_seg dksX8_goes_3 24 rfl rfl
theorem dX8_goes_0 : decode cX8_goes 0 = .ok (.iload_n 1, 1) := dk_27 (dk_at dksX8_goes_0 0 rfl rfl)
theorem dX8_goes_1 : decode cX8_goes 1 = .ok (.istore_n 2, 1) := dk_61 (dk_at dksX8_goes_0 1 rfl rfl)
theorem dX8_goes_2 : decode cX8_goes 2 = .ok (.aload_n 0, 1) := dk_42 (dk_at dksX8_goes_0 2 rfl rfl)
theorem dX8_goes_3 : decode cX8_goes 3 = .ok (.getfield 61, 3) := dk_180 0 61 (dk_at dksX8_goes_0 3 rfl rfl)
theorem dX8_goes_6 : decode cX8_goes 6 = .ok (.iload_n 2, 1) := dk_28 (dk_at dksX8_goes_0 6 rfl rfl)
theorem dX8_goes_7 : decode cX8_goes 7 = .ok (.iaload, 1) := dk_46 (dk_at dksX8_goes_0 7 rfl rfl)
theorem dX8_goes_8 : decode cX8_goes 8 = .ok (.sipush 1000, 3) := dk_17 3 232 (dk_at dksX8_goes_0 8 rfl rfl)
theorem dX8_goes_11 : decode cX8_goes 11 = .ok (.if_icmp .eq 99, 3) := dk_159 0 99 (dk_at dksX8_goes_0 11 rfl rfl)
theorem dX8_goes_14 : decode cX8_goes 14 = .ok (.aload_n 0, 1) := dk_42 (dk_at dksX8_goes_0 14 rfl rfl)
theorem dX8_goes_15 : decode cX8_goes 15 = .ok (.getfield 61, 3) := dk_180 0 61 (dk_at dksX8_goes_0 15 rfl rfl)
theorem dX8_goes_18 : decode cX8_goes 18 = .ok (.iload_n 2, 1) := dk_28 (dk_at dksX8_goes_0 18 rfl rfl)
theorem dX8_goes_19 : decode cX8_goes 19 = .ok (.iaload, 1) := dk_46 (dk_at dksX8_goes_0 19 rfl rfl)
theorem dX8_goes_20 : decode cX8_goes 20 = .ok (.istore_n 3, 1) := dk_62 (dk_at dksX8_goes_0 20 rfl rfl)
theorem dX8_goes_21 : decode cX8_goes 21 = .ok (.iload_n 3, 1) := dk_29 (dk_at dksX8_goes_0 21 rfl rfl)
theorem dX8_goes_22 : decode cX8_goes 22 = .ok (.iconst 2, 1) := dk_5 (dk_at dksX8_goes_0 22 rfl rfl)
theorem dX8_goes_23 : decode cX8_goes 23 = .ok (.idiv, 1) := dk_108 (dk_at dksX8_goes_0 23 rfl rfl)
theorem dX8_goes_24 : decode cX8_goes 24 = .ok (.istore 4, 2) := dk_54 4 (dk_at dksX8_goes_1 0 rfl rfl)
theorem dX8_goes_26 : decode cX8_goes 26 = .ok (.iload_n 2, 1) := dk_28 (dk_at dksX8_goes_1 2 rfl rfl)
theorem dX8_goes_27 : decode cX8_goes 27 = .ok (.iconst 2, 1) := dk_5 (dk_at dksX8_goes_1 3 rfl rfl)
theorem dX8_goes_28 : decode cX8_goes 28 = .ok (.idiv, 1) := dk_108 (dk_at dksX8_goes_1 4 rfl rfl)
theorem dX8_goes_29 : decode cX8_goes 29 = .ok (.istore 5, 2) := dk_54 5 (dk_at dksX8_goes_1 5 rfl rfl)
theorem dX8_goes_31 : decode cX8_goes 31 = .ok (.iload 4, 2) := dk_21 4 (dk_at dksX8_goes_1 7 rfl rfl)
theorem dX8_goes_33 : decode cX8_goes 33 = .ok (.iload 5, 2) := dk_21 5 (dk_at dksX8_goes_1 9 rfl rfl)
theorem dX8_goes_35 : decode cX8_goes 35 = .ok (.if_icmp .ne 25, 3) := dk_160 0 25 (dk_at dksX8_goes_1 11 rfl rfl)
theorem dX8_goes_38 : decode cX8_goes 38 = .ok (.aload_n 0, 1) := dk_42 (dk_at dksX8_goes_1 14 rfl rfl)
theorem dX8_goes_39 : decode cX8_goes 39 = .ok (.getfield 55, 3) := dk_180 0 55 (dk_at dksX8_goes_1 15 rfl rfl)
theorem dX8_goes_42 : decode cX8_goes 42 = .ok (.iload 4, 2) := dk_21 4 (dk_at dksX8_goes_1 18 rfl rfl)
theorem dX8_goes_44 : decode cX8_goes 44 = .ok (.iload_n 2, 1) := dk_28 (dk_at dksX8_goes_1 20 rfl rfl)
theorem dX8_goes_45 : decode cX8_goes 45 = .ok (.iconst 2, 1) := dk_5 (dk_at dksX8_goes_1 21 rfl rfl)
theorem dX8_goes_46 : decode cX8_goes 46 = .ok (.irem, 1) := dk_112 (dk_at dksX8_goes_1 22 rfl rfl)
theorem dX8_goes_47 : decode cX8_goes 47 = .ok (.iconst 1, 1) := dk_4 (dk_at dksX8_goes_1 23 rfl rfl)
theorem dX8_goes_48 : decode cX8_goes 48 = .ok (.if_icmp .ne 7, 3) := dk_160 0 7 (dk_at dksX8_goes_2 0 rfl rfl)
theorem dX8_goes_51 : decode cX8_goes 51 = .ok (.iconst 1, 1) := dk_4 (dk_at dksX8_goes_2 3 rfl rfl)
theorem dX8_goes_52 : decode cX8_goes 52 = .ok (.goto 4, 3) := dk_167 0 4 (dk_at dksX8_goes_2 4 rfl rfl)
theorem dX8_goes_55 : decode cX8_goes 55 = .ok (.iconst 0, 1) := dk_3 (dk_at dksX8_goes_2 7 rfl rfl)
theorem dX8_goes_56 : decode cX8_goes 56 = .ok (.bastore, 1) := dk_84 (dk_at dksX8_goes_2 8 rfl rfl)
theorem dX8_goes_57 : decode cX8_goes 57 = .ok (.goto 48, 3) := dk_167 0 48 (dk_at dksX8_goes_2 9 rfl rfl)
theorem dX8_goes_60 : decode cX8_goes 60 = .ok (.iload_n 2, 1) := dk_28 (dk_at dksX8_goes_2 12 rfl rfl)
theorem dX8_goes_61 : decode cX8_goes 61 = .ok (.iconst 2, 1) := dk_5 (dk_at dksX8_goes_2 13 rfl rfl)
theorem dX8_goes_62 : decode cX8_goes 62 = .ok (.irem, 1) := dk_112 (dk_at dksX8_goes_2 14 rfl rfl)
theorem dX8_goes_63 : decode cX8_goes 63 = .ok (.ifCond .ne 24, 3) := dk_154 0 24 (dk_at dksX8_goes_2 15 rfl rfl)
theorem dX8_goes_66 : decode cX8_goes 66 = .ok (.aload_n 0, 1) := dk_42 (dk_at dksX8_goes_2 18 rfl rfl)
theorem dX8_goes_67 : decode cX8_goes 67 = .ok (.getfield 58, 3) := dk_180 0 58 (dk_at dksX8_goes_2 19 rfl rfl)
theorem dX8_goes_70 : decode cX8_goes 70 = .ok (.iconst 4, 1) := dk_7 (dk_at dksX8_goes_2 22 rfl rfl)
theorem dX8_goes_71 : decode cX8_goes 71 = .ok (.iload 4, 2) := dk_21 4 (dk_at dksX8_goes_3 0 rfl rfl)
theorem dX8_goes_73 : decode cX8_goes 73 = .ok (.imul, 1) := dk_104 (dk_at dksX8_goes_3 2 rfl rfl)
theorem dX8_goes_74 : decode cX8_goes 74 = .ok (.iload 4, 2) := dk_21 4 (dk_at dksX8_goes_3 3 rfl rfl)
theorem dX8_goes_76 : decode cX8_goes 76 = .ok (.iload 5, 2) := dk_21 5 (dk_at dksX8_goes_3 5 rfl rfl)
theorem dX8_goes_78 : decode cX8_goes 78 = .ok (.invokestatic 377, 3) := dk_184 1 121 (dk_at dksX8_goes_3 7 rfl rfl)
theorem dX8_goes_81 : decode cX8_goes 81 = .ok (.iadd, 1) := dk_96 (dk_at dksX8_goes_3 10 rfl rfl)
theorem dX8_goes_82 : decode cX8_goes 82 = .ok (.iconst 1, 1) := dk_4 (dk_at dksX8_goes_3 11 rfl rfl)
theorem dX8_goes_83 : decode cX8_goes 83 = .ok (.bastore, 1) := dk_84 (dk_at dksX8_goes_3 12 rfl rfl)
theorem dX8_goes_84 : decode cX8_goes 84 = .ok (.goto 21, 3) := dk_167 0 21 (dk_at dksX8_goes_3 13 rfl rfl)
theorem dX8_goes_87 : decode cX8_goes 87 = .ok (.aload_n 0, 1) := dk_42 (dk_at dksX8_goes_3 16 rfl rfl)
theorem dX8_goes_88 : decode cX8_goes 88 = .ok (.getfield 58, 3) := dk_180 0 58 (dk_at dksX8_goes_3 17 rfl rfl)
theorem dX8_goes_91 : decode cX8_goes 91 = .ok (.iconst 4, 1) := dk_7 (dk_at dksX8_goes_3 20 rfl rfl)
theorem dX8_goes_92 : decode cX8_goes 92 = .ok (.iload 5, 2) := dk_21 5 (dk_at dksX8_goes_3 21 rfl rfl)
theorem dX8_goes_94 : decode cX8_goes 94 = .ok (.imul, 1) := dk_104 (dk_at dksX8_goes_3 23 rfl rfl)
theorem dX8_goes_95 : decode cX8_goes 95 = .ok (.iload 5, 2) := dk_21 5 (dk_at dksX8_goes_4 0 rfl rfl)
theorem dX8_goes_97 : decode cX8_goes 97 = .ok (.iload 4, 2) := dk_21 4 (dk_at dksX8_goes_4 2 rfl rfl)
theorem dX8_goes_99 : decode cX8_goes 99 = .ok (.invokestatic 377, 3) := dk_184 1 121 (dk_at dksX8_goes_4 4 rfl rfl)
theorem dX8_goes_102 : decode cX8_goes 102 = .ok (.iadd, 1) := dk_96 (dk_at dksX8_goes_4 7 rfl rfl)
theorem dX8_goes_103 : decode cX8_goes 103 = .ok (.iconst 0, 1) := dk_3 (dk_at dksX8_goes_4 8 rfl rfl)
theorem dX8_goes_104 : decode cX8_goes 104 = .ok (.bastore, 1) := dk_84 (dk_at dksX8_goes_4 9 rfl rfl)
theorem dX8_goes_105 : decode cX8_goes 105 = .ok (.iload_n 3, 1) := dk_29 (dk_at dksX8_goes_4 10 rfl rfl)
theorem dX8_goes_106 : decode cX8_goes 106 = .ok (.istore_n 2, 1) := dk_61 (dk_at dksX8_goes_4 11 rfl rfl)
theorem dX8_goes_107 : decode cX8_goes 107 = .ok (.goto (-105), 3) := dk_167 255 151 (dk_at dksX8_goes_4 12 rfl rfl)
theorem dX8_goes_110 : decode cX8_goes 110 = .ok (.return_, 1) := dk_177 (dk_at dksX8_goes_4 15 rfl rfl)
abbrev cX8_wayTo : ByteArray := prog_16_method_68_code
def yX8_wayTo : MethodName := ⟨RX8, "wayTo", "(II)I"⟩
def dkwX8_wayTo_0 : List UInt8 := [3, 61, 26, 28, 184, 1, 48, 27, 159, 0, 9, 132, 2, 1, 167, 255, 244, 28, 172]
abbrev dktX8_wayTo_0 : List UInt8 := dkwX8_wayTo_0 ++ []
theorem dksX8_wayTo_0 : cX8_wayTo.data.toList.drop 0 = dktX8_wayTo_0 := by decide +kernel
theorem dX8_wayTo_0 : decode cX8_wayTo 0 = .ok (.iconst 0, 1) := dk_3 (dk_at dksX8_wayTo_0 0 rfl rfl)
theorem dX8_wayTo_1 : decode cX8_wayTo 1 = .ok (.istore_n 2, 1) := dk_61 (dk_at dksX8_wayTo_0 1 rfl rfl)
theorem dX8_wayTo_2 : decode cX8_wayTo 2 = .ok (.iload_n 0, 1) := dk_26 (dk_at dksX8_wayTo_0 2 rfl rfl)
theorem dX8_wayTo_3 : decode cX8_wayTo 3 = .ok (.iload_n 2, 1) := dk_28 (dk_at dksX8_wayTo_0 3 rfl rfl)
theorem dX8_wayTo_4 : decode cX8_wayTo 4 = .ok (.invokestatic 304, 3) := dk_184 1 48 (dk_at dksX8_wayTo_0 4 rfl rfl)
theorem dX8_wayTo_7 : decode cX8_wayTo 7 = .ok (.iload_n 1, 1) := dk_27 (dk_at dksX8_wayTo_0 7 rfl rfl)
theorem dX8_wayTo_8 : decode cX8_wayTo 8 = .ok (.if_icmp .eq 9, 3) := dk_159 0 9 (dk_at dksX8_wayTo_0 8 rfl rfl)
theorem dX8_wayTo_11 : decode cX8_wayTo 11 = .ok (.iinc 2 1, 3) := dk_132 2 1 (dk_at dksX8_wayTo_0 11 rfl rfl)
theorem dX8_wayTo_14 : decode cX8_wayTo 14 = .ok (.goto (-12), 3) := dk_167 255 244 (dk_at dksX8_wayTo_0 14 rfl rfl)
theorem dX8_wayTo_17 : decode cX8_wayTo 17 = .ok (.iload_n 2, 1) := dk_28 (dk_at dksX8_wayTo_0 17 rfl rfl)
theorem dX8_wayTo_18 : decode cX8_wayTo 18 = .ok (.ireturn, 1) := dk_172 (dk_at dksX8_wayTo_0 18 rfl rfl)
abbrev cX8_gap : ByteArray := prog_16_method_72_code
def yX8_gap : MethodName := ⟨RX8, "gap", "(I)I"⟩
def dkwX8_gap_1 : List UInt8 := [167, 0, 4, 2, 172]
abbrev dktX8_gap_1 : List UInt8 := dkwX8_gap_1 ++ []
def dkwX8_gap_0 : List UInt8 := [27, 133, 9, 42, 180, 1, 133, 4, 100, 133, 184, 0, 110, 153, 0, 12, 42, 180, 0, 70, 27, 46]
abbrev dktX8_gap_0 : List UInt8 := dkwX8_gap_0 ++ dktX8_gap_1
theorem dksX8_gap_0 : cX8_gap.data.toList.drop 0 = dktX8_gap_0 := by decide +kernel
theorem dksX8_gap_1 : cX8_gap.data.toList.drop 22 = dktX8_gap_1 := dk_seg dksX8_gap_0 22 rfl rfl
theorem dX8_gap_0 : decode cX8_gap 0 = .ok (.iload_n 1, 1) := dk_27 (dk_at dksX8_gap_0 0 rfl rfl)
theorem dX8_gap_1 : decode cX8_gap 1 = .ok (.i2l, 1) := dk_133 (dk_at dksX8_gap_0 1 rfl rfl)
theorem dX8_gap_2 : decode cX8_gap 2 = .ok (.lconst 0, 1) := dk_9 (dk_at dksX8_gap_0 2 rfl rfl)
theorem dX8_gap_3 : decode cX8_gap 3 = .ok (.aload_n 0, 1) := dk_42 (dk_at dksX8_gap_0 3 rfl rfl)
theorem dX8_gap_4 : decode cX8_gap 4 = .ok (.getfield 389, 3) := dk_180 1 133 (dk_at dksX8_gap_0 4 rfl rfl)
theorem dX8_gap_7 : decode cX8_gap 7 = .ok (.iconst 1, 1) := dk_4 (dk_at dksX8_gap_0 7 rfl rfl)
theorem dX8_gap_8 : decode cX8_gap 8 = .ok (.isub, 1) := dk_100 (dk_at dksX8_gap_0 8 rfl rfl)
theorem dX8_gap_9 : decode cX8_gap 9 = .ok (.i2l, 1) := dk_133 (dk_at dksX8_gap_0 9 rfl rfl)
theorem dX8_gap_10 : decode cX8_gap 10 = .ok (.invokestatic 110, 3) := dk_184 0 110 (dk_at dksX8_gap_0 10 rfl rfl)
theorem dX8_gap_13 : decode cX8_gap 13 = .ok (.ifCond .eq 12, 3) := dk_153 0 12 (dk_at dksX8_gap_0 13 rfl rfl)
theorem dX8_gap_16 : decode cX8_gap 16 = .ok (.aload_n 0, 1) := dk_42 (dk_at dksX8_gap_0 16 rfl rfl)
theorem dX8_gap_17 : decode cX8_gap 17 = .ok (.getfield 70, 3) := dk_180 0 70 (dk_at dksX8_gap_0 17 rfl rfl)
theorem dX8_gap_20 : decode cX8_gap 20 = .ok (.iload_n 1, 1) := dk_27 (dk_at dksX8_gap_0 20 rfl rfl)
theorem dX8_gap_21 : decode cX8_gap 21 = .ok (.iaload, 1) := dk_46 (dk_at dksX8_gap_0 21 rfl rfl)
theorem dX8_gap_22 : decode cX8_gap 22 = .ok (.goto 4, 3) := dk_167 0 4 (dk_at dksX8_gap_1 0 rfl rfl)
theorem dX8_gap_25 : decode cX8_gap 25 = .ok (.iconst (-1), 1) := dk_2 (dk_at dksX8_gap_1 3 rfl rfl)
theorem dX8_gap_26 : decode cX8_gap 26 = .ok (.ireturn, 1) := dk_172 (dk_at dksX8_gap_1 4 rfl rfl)
abbrev cX8_lacks : ByteArray := prog_16_method_76_code
def yX8_lacks : MethodName := ⟨RX8, "lacks", "(I)I"⟩
def dkwX8_lacks_3 : List UInt8 := [132, 4, 1, 167, 255, 216, 29, 172]
abbrev dktX8_lacks_3 : List UInt8 := dkwX8_lacks_3 ++ []
def dkwX8_lacks_2 : List UInt8 := [28, 4, 96, 6, 21, 4, 104, 96, 182, 1, 139, 153, 0, 7, 3, 167, 0, 7, 4, 21, 4, 120, 128, 62]
abbrev dktX8_lacks_2 : List UInt8 := dkwX8_lacks_2 ++ dktX8_lacks_3
def dkwX8_lacks_1 : List UInt8 := [16, 10, 27, 104, 96, 61, 3, 62, 3, 54, 4, 21, 4, 42, 180, 0, 13, 28, 46, 162, 0, 35, 29, 42]
abbrev dktX8_lacks_1 : List UInt8 := dkwX8_lacks_1 ++ dktX8_lacks_2
def dkwX8_lacks_0 : List UInt8 := [27, 133, 9, 42, 180, 0, 13, 7, 46, 4, 100, 133, 184, 0, 110, 154, 0, 5, 2, 172, 17, 2, 238]
abbrev dktX8_lacks_0 : List UInt8 := dkwX8_lacks_0 ++ dktX8_lacks_1
theorem dksX8_lacks_0 : cX8_lacks.data.toList.drop 0 = dktX8_lacks_0 := by decide +kernel
theorem dksX8_lacks_1 : cX8_lacks.data.toList.drop 23 = dktX8_lacks_1 := dk_seg dksX8_lacks_0 23 rfl rfl
theorem dksX8_lacks_2 : cX8_lacks.data.toList.drop 47 = dktX8_lacks_2 := dk_seg dksX8_lacks_1 24 rfl rfl
theorem dksX8_lacks_3 : cX8_lacks.data.toList.drop 71 = dktX8_lacks_3 := dk_seg dksX8_lacks_2 24 rfl rfl
theorem dX8_lacks_0 : decode cX8_lacks 0 = .ok (.iload_n 1, 1) := dk_27 (dk_at dksX8_lacks_0 0 rfl rfl)
theorem dX8_lacks_1 : decode cX8_lacks 1 = .ok (.i2l, 1) := dk_133 (dk_at dksX8_lacks_0 1 rfl rfl)
theorem dX8_lacks_2 : decode cX8_lacks 2 = .ok (.lconst 0, 1) := dk_9 (dk_at dksX8_lacks_0 2 rfl rfl)
theorem dX8_lacks_3 : decode cX8_lacks 3 = .ok (.aload_n 0, 1) := dk_42 (dk_at dksX8_lacks_0 3 rfl rfl)
theorem dX8_lacks_4 : decode cX8_lacks 4 = .ok (.getfield 13, 3) := dk_180 0 13 (dk_at dksX8_lacks_0 4 rfl rfl)
theorem dX8_lacks_7 : decode cX8_lacks 7 = .ok (.iconst 4, 1) := dk_7 (dk_at dksX8_lacks_0 7 rfl rfl)
theorem dX8_lacks_8 : decode cX8_lacks 8 = .ok (.iaload, 1) := dk_46 (dk_at dksX8_lacks_0 8 rfl rfl)
theorem dX8_lacks_9 : decode cX8_lacks 9 = .ok (.iconst 1, 1) := dk_4 (dk_at dksX8_lacks_0 9 rfl rfl)
theorem dX8_lacks_10 : decode cX8_lacks 10 = .ok (.isub, 1) := dk_100 (dk_at dksX8_lacks_0 10 rfl rfl)
theorem dX8_lacks_11 : decode cX8_lacks 11 = .ok (.i2l, 1) := dk_133 (dk_at dksX8_lacks_0 11 rfl rfl)
theorem dX8_lacks_12 : decode cX8_lacks 12 = .ok (.invokestatic 110, 3) := dk_184 0 110 (dk_at dksX8_lacks_0 12 rfl rfl)
theorem dX8_lacks_15 : decode cX8_lacks 15 = .ok (.ifCond .ne 5, 3) := dk_154 0 5 (dk_at dksX8_lacks_0 15 rfl rfl)
theorem dX8_lacks_18 : decode cX8_lacks 18 = .ok (.iconst (-1), 1) := dk_2 (dk_at dksX8_lacks_0 18 rfl rfl)
theorem dX8_lacks_19 : decode cX8_lacks 19 = .ok (.ireturn, 1) := dk_172 (dk_at dksX8_lacks_0 19 rfl rfl)
theorem dX8_lacks_20 : decode cX8_lacks 20 = .ok (.sipush 750, 3) := dk_17 2 238 (dk_at dksX8_lacks_0 20 rfl rfl)
theorem dX8_lacks_23 : decode cX8_lacks 23 = .ok (.bipush 10, 2) := dk_16 10 (dk_at dksX8_lacks_1 0 rfl rfl)
theorem dX8_lacks_25 : decode cX8_lacks 25 = .ok (.iload_n 1, 1) := dk_27 (dk_at dksX8_lacks_1 2 rfl rfl)
theorem dX8_lacks_26 : decode cX8_lacks 26 = .ok (.imul, 1) := dk_104 (dk_at dksX8_lacks_1 3 rfl rfl)
theorem dX8_lacks_27 : decode cX8_lacks 27 = .ok (.iadd, 1) := dk_96 (dk_at dksX8_lacks_1 4 rfl rfl)
theorem dX8_lacks_28 : decode cX8_lacks 28 = .ok (.istore_n 2, 1) := dk_61 (dk_at dksX8_lacks_1 5 rfl rfl)
theorem dX8_lacks_29 : decode cX8_lacks 29 = .ok (.iconst 0, 1) := dk_3 (dk_at dksX8_lacks_1 6 rfl rfl)
theorem dX8_lacks_30 : decode cX8_lacks 30 = .ok (.istore_n 3, 1) := dk_62 (dk_at dksX8_lacks_1 7 rfl rfl)
theorem dX8_lacks_31 : decode cX8_lacks 31 = .ok (.iconst 0, 1) := dk_3 (dk_at dksX8_lacks_1 8 rfl rfl)
theorem dX8_lacks_32 : decode cX8_lacks 32 = .ok (.istore 4, 2) := dk_54 4 (dk_at dksX8_lacks_1 9 rfl rfl)
theorem dX8_lacks_34 : decode cX8_lacks 34 = .ok (.iload 4, 2) := dk_21 4 (dk_at dksX8_lacks_1 11 rfl rfl)
theorem dX8_lacks_36 : decode cX8_lacks 36 = .ok (.aload_n 0, 1) := dk_42 (dk_at dksX8_lacks_1 13 rfl rfl)
theorem dX8_lacks_37 : decode cX8_lacks 37 = .ok (.getfield 13, 3) := dk_180 0 13 (dk_at dksX8_lacks_1 14 rfl rfl)
theorem dX8_lacks_40 : decode cX8_lacks 40 = .ok (.iload_n 2, 1) := dk_28 (dk_at dksX8_lacks_1 17 rfl rfl)
theorem dX8_lacks_41 : decode cX8_lacks 41 = .ok (.iaload, 1) := dk_46 (dk_at dksX8_lacks_1 18 rfl rfl)
theorem dX8_lacks_42 : decode cX8_lacks 42 = .ok (.if_icmp .ge 35, 3) := dk_162 0 35 (dk_at dksX8_lacks_1 19 rfl rfl)
theorem dX8_lacks_45 : decode cX8_lacks 45 = .ok (.iload_n 3, 1) := dk_29 (dk_at dksX8_lacks_1 22 rfl rfl)
theorem dX8_lacks_46 : decode cX8_lacks 46 = .ok (.aload_n 0, 1) := dk_42 (dk_at dksX8_lacks_1 23 rfl rfl)
theorem dX8_lacks_47 : decode cX8_lacks 47 = .ok (.iload_n 2, 1) := dk_28 (dk_at dksX8_lacks_2 0 rfl rfl)
theorem dX8_lacks_48 : decode cX8_lacks 48 = .ok (.iconst 1, 1) := dk_4 (dk_at dksX8_lacks_2 1 rfl rfl)
theorem dX8_lacks_49 : decode cX8_lacks 49 = .ok (.iadd, 1) := dk_96 (dk_at dksX8_lacks_2 2 rfl rfl)
theorem dX8_lacks_50 : decode cX8_lacks 50 = .ok (.iconst 3, 1) := dk_6 (dk_at dksX8_lacks_2 3 rfl rfl)
theorem dX8_lacks_51 : decode cX8_lacks 51 = .ok (.iload 4, 2) := dk_21 4 (dk_at dksX8_lacks_2 4 rfl rfl)
theorem dX8_lacks_53 : decode cX8_lacks 53 = .ok (.imul, 1) := dk_104 (dk_at dksX8_lacks_2 6 rfl rfl)
theorem dX8_lacks_54 : decode cX8_lacks 54 = .ok (.iadd, 1) := dk_96 (dk_at dksX8_lacks_2 7 rfl rfl)
theorem dX8_lacks_55 : decode cX8_lacks 55 = .ok (.invokevirtual 395, 3) := dk_182 1 139 (dk_at dksX8_lacks_2 8 rfl rfl)
theorem dX8_lacks_58 : decode cX8_lacks 58 = .ok (.ifCond .eq 7, 3) := dk_153 0 7 (dk_at dksX8_lacks_2 11 rfl rfl)
theorem dX8_lacks_61 : decode cX8_lacks 61 = .ok (.iconst 0, 1) := dk_3 (dk_at dksX8_lacks_2 14 rfl rfl)
theorem dX8_lacks_62 : decode cX8_lacks 62 = .ok (.goto 7, 3) := dk_167 0 7 (dk_at dksX8_lacks_2 15 rfl rfl)
theorem dX8_lacks_65 : decode cX8_lacks 65 = .ok (.iconst 1, 1) := dk_4 (dk_at dksX8_lacks_2 18 rfl rfl)
theorem dX8_lacks_66 : decode cX8_lacks 66 = .ok (.iload 4, 2) := dk_21 4 (dk_at dksX8_lacks_2 19 rfl rfl)
theorem dX8_lacks_68 : decode cX8_lacks 68 = .ok (.ishl, 1) := dk_120 (dk_at dksX8_lacks_2 21 rfl rfl)
theorem dX8_lacks_69 : decode cX8_lacks 69 = .ok (.ior, 1) := dk_128 (dk_at dksX8_lacks_2 22 rfl rfl)
theorem dX8_lacks_70 : decode cX8_lacks 70 = .ok (.istore_n 3, 1) := dk_62 (dk_at dksX8_lacks_2 23 rfl rfl)
theorem dX8_lacks_71 : decode cX8_lacks 71 = .ok (.iinc 4 1, 3) := dk_132 4 1 (dk_at dksX8_lacks_3 0 rfl rfl)
theorem dX8_lacks_74 : decode cX8_lacks 74 = .ok (.goto (-40), 3) := dk_167 255 216 (dk_at dksX8_lacks_3 3 rfl rfl)
theorem dX8_lacks_77 : decode cX8_lacks 77 = .ok (.iload_n 3, 1) := dk_29 (dk_at dksX8_lacks_3 6 rfl rfl)
theorem dX8_lacks_78 : decode cX8_lacks 78 = .ok (.ireturn, 1) := dk_172 (dk_at dksX8_lacks_3 7 rfl rfl)
abbrev cX8_condHolds : ByteArray := prog_16_method_75_code
def yX8_condHolds : MethodName := ⟨RX8, "condHolds", "(I)Z"⟩
def dkwX8_condHolds_3 : List UInt8 := [167, 0, 20, 28, 42, 180, 0, 13, 27, 5, 96, 46, 164, 0, 7, 4, 167, 0, 4, 3, 172]
abbrev dktX8_condHolds_3 : List UInt8 := dkwX8_condHolds_3 ++ []
def dkwX8_condHolds_2 : List UInt8 := [16, 60, 160, 0, 23, 28, 42, 180, 0, 13, 27, 5, 96, 46, 162, 0, 7, 4, 167, 0, 24, 3]
abbrev dktX8_condHolds_2 : List UInt8 := dkwX8_condHolds_2 ++ dktX8_condHolds_3
def dkwX8_condHolds_1 : List UInt8 := [167, 0, 4, 3, 172, 42, 42, 180, 0, 13, 27, 46, 182, 1, 136, 61, 42, 180, 0, 13, 27, 4, 96, 46]
abbrev dktX8_condHolds_1 : List UInt8 := dkwX8_condHolds_1 ++ dktX8_condHolds_2
def dkwX8_condHolds_0 : List UInt8 := [42, 180, 0, 13, 27, 46, 154, 0, 23, 42, 182, 1, 109, 153, 0, 14, 42, 182, 1, 78, 153, 0, 7, 4]
abbrev dktX8_condHolds_0 : List UInt8 := dkwX8_condHolds_0 ++ dktX8_condHolds_1
theorem dksX8_condHolds_0 : cX8_condHolds.data.toList.drop 0 = dktX8_condHolds_0 := by decide +kernel
theorem dksX8_condHolds_1 : cX8_condHolds.data.toList.drop 24 = dktX8_condHolds_1 := dk_seg dksX8_condHolds_0 24 rfl rfl
theorem dksX8_condHolds_2 : cX8_condHolds.data.toList.drop 48 = dktX8_condHolds_2 := dk_seg dksX8_condHolds_1 24 rfl rfl
theorem dksX8_condHolds_3 : cX8_condHolds.data.toList.drop 70 = dktX8_condHolds_3 := dk_seg dksX8_condHolds_2 22 rfl rfl
theorem dX8_condHolds_0 : decode cX8_condHolds 0 = .ok (.aload_n 0, 1) := dk_42 (dk_at dksX8_condHolds_0 0 rfl rfl)
theorem dX8_condHolds_1 : decode cX8_condHolds 1 = .ok (.getfield 13, 3) := dk_180 0 13 (dk_at dksX8_condHolds_0 1 rfl rfl)
theorem dX8_condHolds_4 : decode cX8_condHolds 4 = .ok (.iload_n 1, 1) := dk_27 (dk_at dksX8_condHolds_0 4 rfl rfl)
theorem dX8_condHolds_5 : decode cX8_condHolds 5 = .ok (.iaload, 1) := dk_46 (dk_at dksX8_condHolds_0 5 rfl rfl)
theorem dX8_condHolds_6 : decode cX8_condHolds 6 = .ok (.ifCond .ne 23, 3) := dk_154 0 23 (dk_at dksX8_condHolds_0 6 rfl rfl)
theorem dX8_condHolds_9 : decode cX8_condHolds 9 = .ok (.aload_n 0, 1) := dk_42 (dk_at dksX8_condHolds_0 9 rfl rfl)
theorem dX8_condHolds_10 : decode cX8_condHolds 10 = .ok (.invokevirtual 365, 3) := dk_182 1 109 (dk_at dksX8_condHolds_0 10 rfl rfl)
theorem dX8_condHolds_13 : decode cX8_condHolds 13 = .ok (.ifCond .eq 14, 3) := dk_153 0 14 (dk_at dksX8_condHolds_0 13 rfl rfl)
theorem dX8_condHolds_16 : decode cX8_condHolds 16 = .ok (.aload_n 0, 1) := dk_42 (dk_at dksX8_condHolds_0 16 rfl rfl)
theorem dX8_condHolds_17 : decode cX8_condHolds 17 = .ok (.invokevirtual 334, 3) := dk_182 1 78 (dk_at dksX8_condHolds_0 17 rfl rfl)
theorem dX8_condHolds_20 : decode cX8_condHolds 20 = .ok (.ifCond .eq 7, 3) := dk_153 0 7 (dk_at dksX8_condHolds_0 20 rfl rfl)
theorem dX8_condHolds_23 : decode cX8_condHolds 23 = .ok (.iconst 1, 1) := dk_4 (dk_at dksX8_condHolds_0 23 rfl rfl)
theorem dX8_condHolds_24 : decode cX8_condHolds 24 = .ok (.goto 4, 3) := dk_167 0 4 (dk_at dksX8_condHolds_1 0 rfl rfl)
theorem dX8_condHolds_27 : decode cX8_condHolds 27 = .ok (.iconst 0, 1) := dk_3 (dk_at dksX8_condHolds_1 3 rfl rfl)
theorem dX8_condHolds_28 : decode cX8_condHolds 28 = .ok (.ireturn, 1) := dk_172 (dk_at dksX8_condHolds_1 4 rfl rfl)
theorem dX8_condHolds_29 : decode cX8_condHolds 29 = .ok (.aload_n 0, 1) := dk_42 (dk_at dksX8_condHolds_1 5 rfl rfl)
theorem dX8_condHolds_30 : decode cX8_condHolds 30 = .ok (.aload_n 0, 1) := dk_42 (dk_at dksX8_condHolds_1 6 rfl rfl)
theorem dX8_condHolds_31 : decode cX8_condHolds 31 = .ok (.getfield 13, 3) := dk_180 0 13 (dk_at dksX8_condHolds_1 7 rfl rfl)
theorem dX8_condHolds_34 : decode cX8_condHolds 34 = .ok (.iload_n 1, 1) := dk_27 (dk_at dksX8_condHolds_1 10 rfl rfl)
theorem dX8_condHolds_35 : decode cX8_condHolds 35 = .ok (.iaload, 1) := dk_46 (dk_at dksX8_condHolds_1 11 rfl rfl)
theorem dX8_condHolds_36 : decode cX8_condHolds 36 = .ok (.invokevirtual 392, 3) := dk_182 1 136 (dk_at dksX8_condHolds_1 12 rfl rfl)
theorem dX8_condHolds_39 : decode cX8_condHolds 39 = .ok (.istore_n 2, 1) := dk_61 (dk_at dksX8_condHolds_1 15 rfl rfl)
theorem dX8_condHolds_40 : decode cX8_condHolds 40 = .ok (.aload_n 0, 1) := dk_42 (dk_at dksX8_condHolds_1 16 rfl rfl)
theorem dX8_condHolds_41 : decode cX8_condHolds 41 = .ok (.getfield 13, 3) := dk_180 0 13 (dk_at dksX8_condHolds_1 17 rfl rfl)
theorem dX8_condHolds_44 : decode cX8_condHolds 44 = .ok (.iload_n 1, 1) := dk_27 (dk_at dksX8_condHolds_1 20 rfl rfl)
theorem dX8_condHolds_45 : decode cX8_condHolds 45 = .ok (.iconst 1, 1) := dk_4 (dk_at dksX8_condHolds_1 21 rfl rfl)
theorem dX8_condHolds_46 : decode cX8_condHolds 46 = .ok (.iadd, 1) := dk_96 (dk_at dksX8_condHolds_1 22 rfl rfl)
theorem dX8_condHolds_47 : decode cX8_condHolds 47 = .ok (.iaload, 1) := dk_46 (dk_at dksX8_condHolds_1 23 rfl rfl)
theorem dX8_condHolds_48 : decode cX8_condHolds 48 = .ok (.bipush 60, 2) := dk_16 60 (dk_at dksX8_condHolds_2 0 rfl rfl)
theorem dX8_condHolds_50 : decode cX8_condHolds 50 = .ok (.if_icmp .ne 23, 3) := dk_160 0 23 (dk_at dksX8_condHolds_2 2 rfl rfl)
theorem dX8_condHolds_53 : decode cX8_condHolds 53 = .ok (.iload_n 2, 1) := dk_28 (dk_at dksX8_condHolds_2 5 rfl rfl)
theorem dX8_condHolds_54 : decode cX8_condHolds 54 = .ok (.aload_n 0, 1) := dk_42 (dk_at dksX8_condHolds_2 6 rfl rfl)
theorem dX8_condHolds_55 : decode cX8_condHolds 55 = .ok (.getfield 13, 3) := dk_180 0 13 (dk_at dksX8_condHolds_2 7 rfl rfl)
theorem dX8_condHolds_58 : decode cX8_condHolds 58 = .ok (.iload_n 1, 1) := dk_27 (dk_at dksX8_condHolds_2 10 rfl rfl)
theorem dX8_condHolds_59 : decode cX8_condHolds 59 = .ok (.iconst 2, 1) := dk_5 (dk_at dksX8_condHolds_2 11 rfl rfl)
theorem dX8_condHolds_60 : decode cX8_condHolds 60 = .ok (.iadd, 1) := dk_96 (dk_at dksX8_condHolds_2 12 rfl rfl)
theorem dX8_condHolds_61 : decode cX8_condHolds 61 = .ok (.iaload, 1) := dk_46 (dk_at dksX8_condHolds_2 13 rfl rfl)
theorem dX8_condHolds_62 : decode cX8_condHolds 62 = .ok (.if_icmp .ge 7, 3) := dk_162 0 7 (dk_at dksX8_condHolds_2 14 rfl rfl)
theorem dX8_condHolds_65 : decode cX8_condHolds 65 = .ok (.iconst 1, 1) := dk_4 (dk_at dksX8_condHolds_2 17 rfl rfl)
theorem dX8_condHolds_66 : decode cX8_condHolds 66 = .ok (.goto 24, 3) := dk_167 0 24 (dk_at dksX8_condHolds_2 18 rfl rfl)
theorem dX8_condHolds_69 : decode cX8_condHolds 69 = .ok (.iconst 0, 1) := dk_3 (dk_at dksX8_condHolds_2 21 rfl rfl)
theorem dX8_condHolds_70 : decode cX8_condHolds 70 = .ok (.goto 20, 3) := dk_167 0 20 (dk_at dksX8_condHolds_3 0 rfl rfl)
theorem dX8_condHolds_73 : decode cX8_condHolds 73 = .ok (.iload_n 2, 1) := dk_28 (dk_at dksX8_condHolds_3 3 rfl rfl)
theorem dX8_condHolds_74 : decode cX8_condHolds 74 = .ok (.aload_n 0, 1) := dk_42 (dk_at dksX8_condHolds_3 4 rfl rfl)
theorem dX8_condHolds_75 : decode cX8_condHolds 75 = .ok (.getfield 13, 3) := dk_180 0 13 (dk_at dksX8_condHolds_3 5 rfl rfl)
theorem dX8_condHolds_78 : decode cX8_condHolds 78 = .ok (.iload_n 1, 1) := dk_27 (dk_at dksX8_condHolds_3 8 rfl rfl)
theorem dX8_condHolds_79 : decode cX8_condHolds 79 = .ok (.iconst 2, 1) := dk_5 (dk_at dksX8_condHolds_3 9 rfl rfl)
theorem dX8_condHolds_80 : decode cX8_condHolds 80 = .ok (.iadd, 1) := dk_96 (dk_at dksX8_condHolds_3 10 rfl rfl)
theorem dX8_condHolds_81 : decode cX8_condHolds 81 = .ok (.iaload, 1) := dk_46 (dk_at dksX8_condHolds_3 11 rfl rfl)
theorem dX8_condHolds_82 : decode cX8_condHolds 82 = .ok (.if_icmp .le 7, 3) := dk_164 0 7 (dk_at dksX8_condHolds_3 12 rfl rfl)
theorem dX8_condHolds_85 : decode cX8_condHolds 85 = .ok (.iconst 1, 1) := dk_4 (dk_at dksX8_condHolds_3 15 rfl rfl)
theorem dX8_condHolds_86 : decode cX8_condHolds 86 = .ok (.goto 4, 3) := dk_167 0 4 (dk_at dksX8_condHolds_3 16 rfl rfl)
theorem dX8_condHolds_89 : decode cX8_condHolds 89 = .ok (.iconst 0, 1) := dk_3 (dk_at dksX8_condHolds_3 19 rfl rfl)
theorem dX8_condHolds_90 : decode cX8_condHolds 90 = .ok (.ireturn, 1) := dk_172 (dk_at dksX8_condHolds_3 20 rfl rfl)
abbrev cX8_wordOf : ByteArray := prog_16_method_74_code
def yX8_wordOf : MethodName := ⟨RX8, "wordOf", "(I)I"⟩
def dkwX8_wordOf_3 : List UInt8 := [42, 182, 1, 130, 172]
abbrev dktX8_wordOf_3 : List UInt8 := dkwX8_wordOf_3 ++ []
def dkwX8_wordOf_2 : List UInt8 := [182, 1, 109, 154, 0, 7, 3, 167, 0, 21, 27, 4, 160, 0, 12, 42, 4, 3, 182, 1, 106, 167, 0, 7]
abbrev dktX8_wordOf_2 : List UInt8 := dkwX8_wordOf_2 ++ dktX8_wordOf_3
def dkwX8_wordOf_1 : List UInt8 := [162, 0, 19, 28, 42, 29, 182, 1, 69, 184, 1, 54, 61, 132, 3, 1, 167, 255, 237, 28, 172, 42]
abbrev dktX8_wordOf_1 : List UInt8 := dkwX8_wordOf_1 ++ dktX8_wordOf_2
def dkwX8_wordOf_0 : List UInt8 := [27, 6, 160, 0, 10, 42, 180, 0, 13, 4, 46, 172, 27, 7, 160, 0, 31, 3, 61, 3, 62, 29, 16, 12]
abbrev dktX8_wordOf_0 : List UInt8 := dkwX8_wordOf_0 ++ dktX8_wordOf_1
theorem dksX8_wordOf_0 : cX8_wordOf.data.toList.drop 0 = dktX8_wordOf_0 := by decide +kernel
theorem dksX8_wordOf_1 : cX8_wordOf.data.toList.drop 24 = dktX8_wordOf_1 := dk_seg dksX8_wordOf_0 24 rfl rfl
theorem dksX8_wordOf_2 : cX8_wordOf.data.toList.drop 46 = dktX8_wordOf_2 := dk_seg dksX8_wordOf_1 22 rfl rfl
theorem dksX8_wordOf_3 : cX8_wordOf.data.toList.drop 70 = dktX8_wordOf_3 := dk_seg dksX8_wordOf_2 24 rfl rfl
theorem dX8_wordOf_0 : decode cX8_wordOf 0 = .ok (.iload_n 1, 1) := dk_27 (dk_at dksX8_wordOf_0 0 rfl rfl)
theorem dX8_wordOf_1 : decode cX8_wordOf 1 = .ok (.iconst 3, 1) := dk_6 (dk_at dksX8_wordOf_0 1 rfl rfl)
theorem dX8_wordOf_2 : decode cX8_wordOf 2 = .ok (.if_icmp .ne 10, 3) := dk_160 0 10 (dk_at dksX8_wordOf_0 2 rfl rfl)
theorem dX8_wordOf_5 : decode cX8_wordOf 5 = .ok (.aload_n 0, 1) := dk_42 (dk_at dksX8_wordOf_0 5 rfl rfl)
theorem dX8_wordOf_6 : decode cX8_wordOf 6 = .ok (.getfield 13, 3) := dk_180 0 13 (dk_at dksX8_wordOf_0 6 rfl rfl)
theorem dX8_wordOf_9 : decode cX8_wordOf 9 = .ok (.iconst 1, 1) := dk_4 (dk_at dksX8_wordOf_0 9 rfl rfl)
theorem dX8_wordOf_10 : decode cX8_wordOf 10 = .ok (.iaload, 1) := dk_46 (dk_at dksX8_wordOf_0 10 rfl rfl)
theorem dX8_wordOf_11 : decode cX8_wordOf 11 = .ok (.ireturn, 1) := dk_172 (dk_at dksX8_wordOf_0 11 rfl rfl)
theorem dX8_wordOf_12 : decode cX8_wordOf 12 = .ok (.iload_n 1, 1) := dk_27 (dk_at dksX8_wordOf_0 12 rfl rfl)
theorem dX8_wordOf_13 : decode cX8_wordOf 13 = .ok (.iconst 4, 1) := dk_7 (dk_at dksX8_wordOf_0 13 rfl rfl)
theorem dX8_wordOf_14 : decode cX8_wordOf 14 = .ok (.if_icmp .ne 31, 3) := dk_160 0 31 (dk_at dksX8_wordOf_0 14 rfl rfl)
theorem dX8_wordOf_17 : decode cX8_wordOf 17 = .ok (.iconst 0, 1) := dk_3 (dk_at dksX8_wordOf_0 17 rfl rfl)
theorem dX8_wordOf_18 : decode cX8_wordOf 18 = .ok (.istore_n 2, 1) := dk_61 (dk_at dksX8_wordOf_0 18 rfl rfl)
theorem dX8_wordOf_19 : decode cX8_wordOf 19 = .ok (.iconst 0, 1) := dk_3 (dk_at dksX8_wordOf_0 19 rfl rfl)
theorem dX8_wordOf_20 : decode cX8_wordOf 20 = .ok (.istore_n 3, 1) := dk_62 (dk_at dksX8_wordOf_0 20 rfl rfl)
theorem dX8_wordOf_21 : decode cX8_wordOf 21 = .ok (.iload_n 3, 1) := dk_29 (dk_at dksX8_wordOf_0 21 rfl rfl)
theorem dX8_wordOf_22 : decode cX8_wordOf 22 = .ok (.bipush 12, 2) := dk_16 12 (dk_at dksX8_wordOf_0 22 rfl rfl)
theorem dX8_wordOf_24 : decode cX8_wordOf 24 = .ok (.if_icmp .ge 19, 3) := dk_162 0 19 (dk_at dksX8_wordOf_1 0 rfl rfl)
theorem dX8_wordOf_27 : decode cX8_wordOf 27 = .ok (.iload_n 2, 1) := dk_28 (dk_at dksX8_wordOf_1 3 rfl rfl)
theorem dX8_wordOf_28 : decode cX8_wordOf 28 = .ok (.aload_n 0, 1) := dk_42 (dk_at dksX8_wordOf_1 4 rfl rfl)
theorem dX8_wordOf_29 : decode cX8_wordOf 29 = .ok (.iload_n 3, 1) := dk_29 (dk_at dksX8_wordOf_1 5 rfl rfl)
theorem dX8_wordOf_30 : decode cX8_wordOf 30 = .ok (.invokevirtual 325, 3) := dk_182 1 69 (dk_at dksX8_wordOf_1 6 rfl rfl)
theorem dX8_wordOf_33 : decode cX8_wordOf 33 = .ok (.invokestatic 310, 3) := dk_184 1 54 (dk_at dksX8_wordOf_1 9 rfl rfl)
theorem dX8_wordOf_36 : decode cX8_wordOf 36 = .ok (.istore_n 2, 1) := dk_61 (dk_at dksX8_wordOf_1 12 rfl rfl)
theorem dX8_wordOf_37 : decode cX8_wordOf 37 = .ok (.iinc 3 1, 3) := dk_132 3 1 (dk_at dksX8_wordOf_1 13 rfl rfl)
theorem dX8_wordOf_40 : decode cX8_wordOf 40 = .ok (.goto (-19), 3) := dk_167 255 237 (dk_at dksX8_wordOf_1 16 rfl rfl)
theorem dX8_wordOf_43 : decode cX8_wordOf 43 = .ok (.iload_n 2, 1) := dk_28 (dk_at dksX8_wordOf_1 19 rfl rfl)
theorem dX8_wordOf_44 : decode cX8_wordOf 44 = .ok (.ireturn, 1) := dk_172 (dk_at dksX8_wordOf_1 20 rfl rfl)
theorem dX8_wordOf_45 : decode cX8_wordOf 45 = .ok (.aload_n 0, 1) := dk_42 (dk_at dksX8_wordOf_1 21 rfl rfl)
theorem dX8_wordOf_46 : decode cX8_wordOf 46 = .ok (.invokevirtual 365, 3) := dk_182 1 109 (dk_at dksX8_wordOf_2 0 rfl rfl)
theorem dX8_wordOf_49 : decode cX8_wordOf 49 = .ok (.ifCond .ne 7, 3) := dk_154 0 7 (dk_at dksX8_wordOf_2 3 rfl rfl)
theorem dX8_wordOf_52 : decode cX8_wordOf 52 = .ok (.iconst 0, 1) := dk_3 (dk_at dksX8_wordOf_2 6 rfl rfl)
theorem dX8_wordOf_53 : decode cX8_wordOf 53 = .ok (.goto 21, 3) := dk_167 0 21 (dk_at dksX8_wordOf_2 7 rfl rfl)
theorem dX8_wordOf_56 : decode cX8_wordOf 56 = .ok (.iload_n 1, 1) := dk_27 (dk_at dksX8_wordOf_2 10 rfl rfl)
theorem dX8_wordOf_57 : decode cX8_wordOf 57 = .ok (.iconst 1, 1) := dk_4 (dk_at dksX8_wordOf_2 11 rfl rfl)
theorem dX8_wordOf_58 : decode cX8_wordOf 58 = .ok (.if_icmp .ne 12, 3) := dk_160 0 12 (dk_at dksX8_wordOf_2 12 rfl rfl)
theorem dX8_wordOf_61 : decode cX8_wordOf 61 = .ok (.aload_n 0, 1) := dk_42 (dk_at dksX8_wordOf_2 15 rfl rfl)
theorem dX8_wordOf_62 : decode cX8_wordOf 62 = .ok (.iconst 1, 1) := dk_4 (dk_at dksX8_wordOf_2 16 rfl rfl)
theorem dX8_wordOf_63 : decode cX8_wordOf 63 = .ok (.iconst 0, 1) := dk_3 (dk_at dksX8_wordOf_2 17 rfl rfl)
theorem dX8_wordOf_64 : decode cX8_wordOf 64 = .ok (.invokevirtual 362, 3) := dk_182 1 106 (dk_at dksX8_wordOf_2 18 rfl rfl)
theorem dX8_wordOf_67 : decode cX8_wordOf 67 = .ok (.goto 7, 3) := dk_167 0 7 (dk_at dksX8_wordOf_2 21 rfl rfl)
theorem dX8_wordOf_70 : decode cX8_wordOf 70 = .ok (.aload_n 0, 1) := dk_42 (dk_at dksX8_wordOf_3 0 rfl rfl)
theorem dX8_wordOf_71 : decode cX8_wordOf 71 = .ok (.invokevirtual 386, 3) := dk_182 1 130 (dk_at dksX8_wordOf_3 1 rfl rfl)
theorem dX8_wordOf_74 : decode cX8_wordOf 74 = .ok (.ireturn, 1) := dk_172 (dk_at dksX8_wordOf_3 4 rfl rfl)
abbrev cX8_dig : ByteArray := prog_16_method_78_code
def yX8_dig : MethodName := ⟨RX8, "dig", "(II)I"⟩
def dkwX8_dig_6 : List UInt8 := [154, 0, 7, 4, 167, 0, 4, 3, 96, 54, 4, 132, 5, 1, 167, 255, 217, 21, 4, 172]
abbrev dktX8_dig_6 : List UInt8 := dkwX8_dig_6 ++ []
def dkwX8_dig_5 : List UInt8 := [17, 0, 144, 162, 0, 37, 21, 4, 42, 21, 5, 182, 1, 90, 153, 0, 16, 42, 21, 5, 182, 0, 102]
abbrev dktX8_dig_5 : List UInt8 := dkwX8_dig_5 ++ dktX8_dig_6
def dkwX8_dig_4 : List UInt8 := [100, 96, 79, 42, 180, 0, 13, 17, 1, 224, 29, 96, 4, 79, 3, 54, 4, 3, 54, 5, 21, 5]
abbrev dktX8_dig_4 : List UInt8 := dkwX8_dig_4 ++ dktX8_dig_5
def dkwX8_dig_3 : List UInt8 := [16, 17, 92, 46, 42, 180, 0, 13, 17, 0, 192, 29, 96, 46, 42, 180, 0, 13, 17, 1, 80, 29, 96, 46]
abbrev dktX8_dig_3 : List UInt8 := dkwX8_dig_3 ++ dktX8_dig_4
def dkwX8_dig_2 : List UInt8 := [180, 0, 13, 16, 12, 46, 4, 160, 0, 6, 16, 249, 172, 16, 12, 28, 104, 27, 96, 62, 42, 180, 0, 13]
abbrev dktX8_dig_2 : List UInt8 := dkwX8_dig_2 ++ dktX8_dig_3
def dkwX8_dig_1 : List UInt8 := [28, 104, 27, 96, 182, 0, 102, 153, 0, 6, 16, 254, 172, 42, 182, 1, 145, 154, 0, 6, 16, 251, 172, 42]
abbrev dktX8_dig_1 : List UInt8 := dkwX8_dig_1 ++ dktX8_dig_2
def dkwX8_dig_0 : List UInt8 := [27, 28, 184, 0, 116, 153, 0, 29, 42, 16, 12, 28, 104, 27, 96, 182, 1, 90, 153, 0, 16, 42, 16, 12]
abbrev dktX8_dig_0 : List UInt8 := dkwX8_dig_0 ++ dktX8_dig_1
theorem dksX8_dig_0 : cX8_dig.data.toList.drop 0 = dktX8_dig_0 := by decide +kernel
theorem dksX8_dig_1 : cX8_dig.data.toList.drop 24 = dktX8_dig_1 := dk_seg dksX8_dig_0 24 rfl rfl
theorem dksX8_dig_2 : cX8_dig.data.toList.drop 48 = dktX8_dig_2 := dk_seg dksX8_dig_1 24 rfl rfl
theorem dksX8_dig_3 : cX8_dig.data.toList.drop 72 = dktX8_dig_3 := dk_seg dksX8_dig_2 24 rfl rfl
theorem dksX8_dig_4 : cX8_dig.data.toList.drop 96 = dktX8_dig_4 := dk_seg dksX8_dig_3 24 rfl rfl
theorem dksX8_dig_5 : cX8_dig.data.toList.drop 118 = dktX8_dig_5 := dk_seg dksX8_dig_4 22 rfl rfl
theorem dksX8_dig_6 : cX8_dig.data.toList.drop 141 = dktX8_dig_6 := dk_seg dksX8_dig_5 23 rfl rfl
theorem dX8_dig_0 : decode cX8_dig 0 = .ok (.iload_n 1, 1) := dk_27 (dk_at dksX8_dig_0 0 rfl rfl)
theorem dX8_dig_1 : decode cX8_dig 1 = .ok (.iload_n 2, 1) := dk_28 (dk_at dksX8_dig_0 1 rfl rfl)
theorem dX8_dig_2 : decode cX8_dig 2 = .ok (.invokestatic 116, 3) := dk_184 0 116 (dk_at dksX8_dig_0 2 rfl rfl)
theorem dX8_dig_5 : decode cX8_dig 5 = .ok (.ifCond .eq 29, 3) := dk_153 0 29 (dk_at dksX8_dig_0 5 rfl rfl)
theorem dX8_dig_8 : decode cX8_dig 8 = .ok (.aload_n 0, 1) := dk_42 (dk_at dksX8_dig_0 8 rfl rfl)
theorem dX8_dig_9 : decode cX8_dig 9 = .ok (.bipush 12, 2) := dk_16 12 (dk_at dksX8_dig_0 9 rfl rfl)
theorem dX8_dig_11 : decode cX8_dig 11 = .ok (.iload_n 2, 1) := dk_28 (dk_at dksX8_dig_0 11 rfl rfl)
theorem dX8_dig_12 : decode cX8_dig 12 = .ok (.imul, 1) := dk_104 (dk_at dksX8_dig_0 12 rfl rfl)
theorem dX8_dig_13 : decode cX8_dig 13 = .ok (.iload_n 1, 1) := dk_27 (dk_at dksX8_dig_0 13 rfl rfl)
theorem dX8_dig_14 : decode cX8_dig 14 = .ok (.iadd, 1) := dk_96 (dk_at dksX8_dig_0 14 rfl rfl)
theorem dX8_dig_15 : decode cX8_dig 15 = .ok (.invokevirtual 346, 3) := dk_182 1 90 (dk_at dksX8_dig_0 15 rfl rfl)
theorem dX8_dig_18 : decode cX8_dig 18 = .ok (.ifCond .eq 16, 3) := dk_153 0 16 (dk_at dksX8_dig_0 18 rfl rfl)
theorem dX8_dig_21 : decode cX8_dig 21 = .ok (.aload_n 0, 1) := dk_42 (dk_at dksX8_dig_0 21 rfl rfl)
theorem dX8_dig_22 : decode cX8_dig 22 = .ok (.bipush 12, 2) := dk_16 12 (dk_at dksX8_dig_0 22 rfl rfl)
theorem dX8_dig_24 : decode cX8_dig 24 = .ok (.iload_n 2, 1) := dk_28 (dk_at dksX8_dig_1 0 rfl rfl)
theorem dX8_dig_25 : decode cX8_dig 25 = .ok (.imul, 1) := dk_104 (dk_at dksX8_dig_1 1 rfl rfl)
theorem dX8_dig_26 : decode cX8_dig 26 = .ok (.iload_n 1, 1) := dk_27 (dk_at dksX8_dig_1 2 rfl rfl)
theorem dX8_dig_27 : decode cX8_dig 27 = .ok (.iadd, 1) := dk_96 (dk_at dksX8_dig_1 3 rfl rfl)
theorem dX8_dig_28 : decode cX8_dig 28 = .ok (.invokevirtual 102, 3) := dk_182 0 102 (dk_at dksX8_dig_1 4 rfl rfl)
theorem dX8_dig_31 : decode cX8_dig 31 = .ok (.ifCond .eq 6, 3) := dk_153 0 6 (dk_at dksX8_dig_1 7 rfl rfl)
theorem dX8_dig_34 : decode cX8_dig 34 = .ok (.bipush (-2), 2) := dk_16 254 (dk_at dksX8_dig_1 10 rfl rfl)
theorem dX8_dig_36 : decode cX8_dig 36 = .ok (.ireturn, 1) := dk_172 (dk_at dksX8_dig_1 12 rfl rfl)
theorem dX8_dig_37 : decode cX8_dig 37 = .ok (.aload_n 0, 1) := dk_42 (dk_at dksX8_dig_1 13 rfl rfl)
theorem dX8_dig_38 : decode cX8_dig 38 = .ok (.invokevirtual 401, 3) := dk_182 1 145 (dk_at dksX8_dig_1 14 rfl rfl)
theorem dX8_dig_41 : decode cX8_dig 41 = .ok (.ifCond .ne 6, 3) := dk_154 0 6 (dk_at dksX8_dig_1 17 rfl rfl)
theorem dX8_dig_44 : decode cX8_dig 44 = .ok (.bipush (-5), 2) := dk_16 251 (dk_at dksX8_dig_1 20 rfl rfl)
theorem dX8_dig_46 : decode cX8_dig 46 = .ok (.ireturn, 1) := dk_172 (dk_at dksX8_dig_1 22 rfl rfl)
theorem dX8_dig_47 : decode cX8_dig 47 = .ok (.aload_n 0, 1) := dk_42 (dk_at dksX8_dig_1 23 rfl rfl)
theorem dX8_dig_48 : decode cX8_dig 48 = .ok (.getfield 13, 3) := dk_180 0 13 (dk_at dksX8_dig_2 0 rfl rfl)
theorem dX8_dig_51 : decode cX8_dig 51 = .ok (.bipush 12, 2) := dk_16 12 (dk_at dksX8_dig_2 3 rfl rfl)
theorem dX8_dig_53 : decode cX8_dig 53 = .ok (.iaload, 1) := dk_46 (dk_at dksX8_dig_2 5 rfl rfl)
theorem dX8_dig_54 : decode cX8_dig 54 = .ok (.iconst 1, 1) := dk_4 (dk_at dksX8_dig_2 6 rfl rfl)
theorem dX8_dig_55 : decode cX8_dig 55 = .ok (.if_icmp .ne 6, 3) := dk_160 0 6 (dk_at dksX8_dig_2 7 rfl rfl)
theorem dX8_dig_58 : decode cX8_dig 58 = .ok (.bipush (-7), 2) := dk_16 249 (dk_at dksX8_dig_2 10 rfl rfl)
theorem dX8_dig_60 : decode cX8_dig 60 = .ok (.ireturn, 1) := dk_172 (dk_at dksX8_dig_2 12 rfl rfl)
theorem dX8_dig_61 : decode cX8_dig 61 = .ok (.bipush 12, 2) := dk_16 12 (dk_at dksX8_dig_2 13 rfl rfl)
theorem dX8_dig_63 : decode cX8_dig 63 = .ok (.iload_n 2, 1) := dk_28 (dk_at dksX8_dig_2 15 rfl rfl)
theorem dX8_dig_64 : decode cX8_dig 64 = .ok (.imul, 1) := dk_104 (dk_at dksX8_dig_2 16 rfl rfl)
theorem dX8_dig_65 : decode cX8_dig 65 = .ok (.iload_n 1, 1) := dk_27 (dk_at dksX8_dig_2 17 rfl rfl)
theorem dX8_dig_66 : decode cX8_dig 66 = .ok (.iadd, 1) := dk_96 (dk_at dksX8_dig_2 18 rfl rfl)
theorem dX8_dig_67 : decode cX8_dig 67 = .ok (.istore_n 3, 1) := dk_62 (dk_at dksX8_dig_2 19 rfl rfl)
theorem dX8_dig_68 : decode cX8_dig 68 = .ok (.aload_n 0, 1) := dk_42 (dk_at dksX8_dig_2 20 rfl rfl)
theorem dX8_dig_69 : decode cX8_dig 69 = .ok (.getfield 13, 3) := dk_180 0 13 (dk_at dksX8_dig_2 21 rfl rfl)
theorem dX8_dig_72 : decode cX8_dig 72 = .ok (.bipush 17, 2) := dk_16 17 (dk_at dksX8_dig_3 0 rfl rfl)
theorem dX8_dig_74 : decode cX8_dig 74 = .ok (.dup2, 1) := dk_92 (dk_at dksX8_dig_3 2 rfl rfl)
theorem dX8_dig_75 : decode cX8_dig 75 = .ok (.iaload, 1) := dk_46 (dk_at dksX8_dig_3 3 rfl rfl)
theorem dX8_dig_76 : decode cX8_dig 76 = .ok (.aload_n 0, 1) := dk_42 (dk_at dksX8_dig_3 4 rfl rfl)
theorem dX8_dig_77 : decode cX8_dig 77 = .ok (.getfield 13, 3) := dk_180 0 13 (dk_at dksX8_dig_3 5 rfl rfl)
theorem dX8_dig_80 : decode cX8_dig 80 = .ok (.sipush 192, 3) := dk_17 0 192 (dk_at dksX8_dig_3 8 rfl rfl)
theorem dX8_dig_83 : decode cX8_dig 83 = .ok (.iload_n 3, 1) := dk_29 (dk_at dksX8_dig_3 11 rfl rfl)
theorem dX8_dig_84 : decode cX8_dig 84 = .ok (.iadd, 1) := dk_96 (dk_at dksX8_dig_3 12 rfl rfl)
theorem dX8_dig_85 : decode cX8_dig 85 = .ok (.iaload, 1) := dk_46 (dk_at dksX8_dig_3 13 rfl rfl)
theorem dX8_dig_86 : decode cX8_dig 86 = .ok (.aload_n 0, 1) := dk_42 (dk_at dksX8_dig_3 14 rfl rfl)
theorem dX8_dig_87 : decode cX8_dig 87 = .ok (.getfield 13, 3) := dk_180 0 13 (dk_at dksX8_dig_3 15 rfl rfl)
theorem dX8_dig_90 : decode cX8_dig 90 = .ok (.sipush 336, 3) := dk_17 1 80 (dk_at dksX8_dig_3 18 rfl rfl)
theorem dX8_dig_93 : decode cX8_dig 93 = .ok (.iload_n 3, 1) := dk_29 (dk_at dksX8_dig_3 21 rfl rfl)
theorem dX8_dig_94 : decode cX8_dig 94 = .ok (.iadd, 1) := dk_96 (dk_at dksX8_dig_3 22 rfl rfl)
theorem dX8_dig_95 : decode cX8_dig 95 = .ok (.iaload, 1) := dk_46 (dk_at dksX8_dig_3 23 rfl rfl)
theorem dX8_dig_96 : decode cX8_dig 96 = .ok (.isub, 1) := dk_100 (dk_at dksX8_dig_4 0 rfl rfl)
theorem dX8_dig_97 : decode cX8_dig 97 = .ok (.iadd, 1) := dk_96 (dk_at dksX8_dig_4 1 rfl rfl)
theorem dX8_dig_98 : decode cX8_dig 98 = .ok (.iastore, 1) := dk_79 (dk_at dksX8_dig_4 2 rfl rfl)
theorem dX8_dig_99 : decode cX8_dig 99 = .ok (.aload_n 0, 1) := dk_42 (dk_at dksX8_dig_4 3 rfl rfl)
theorem dX8_dig_100 : decode cX8_dig 100 = .ok (.getfield 13, 3) := dk_180 0 13 (dk_at dksX8_dig_4 4 rfl rfl)
theorem dX8_dig_103 : decode cX8_dig 103 = .ok (.sipush 480, 3) := dk_17 1 224 (dk_at dksX8_dig_4 7 rfl rfl)
theorem dX8_dig_106 : decode cX8_dig 106 = .ok (.iload_n 3, 1) := dk_29 (dk_at dksX8_dig_4 10 rfl rfl)
theorem dX8_dig_107 : decode cX8_dig 107 = .ok (.iadd, 1) := dk_96 (dk_at dksX8_dig_4 11 rfl rfl)
theorem dX8_dig_108 : decode cX8_dig 108 = .ok (.iconst 1, 1) := dk_4 (dk_at dksX8_dig_4 12 rfl rfl)
theorem dX8_dig_109 : decode cX8_dig 109 = .ok (.iastore, 1) := dk_79 (dk_at dksX8_dig_4 13 rfl rfl)
theorem dX8_dig_110 : decode cX8_dig 110 = .ok (.iconst 0, 1) := dk_3 (dk_at dksX8_dig_4 14 rfl rfl)
theorem dX8_dig_111 : decode cX8_dig 111 = .ok (.istore 4, 2) := dk_54 4 (dk_at dksX8_dig_4 15 rfl rfl)
theorem dX8_dig_113 : decode cX8_dig 113 = .ok (.iconst 0, 1) := dk_3 (dk_at dksX8_dig_4 17 rfl rfl)
theorem dX8_dig_114 : decode cX8_dig 114 = .ok (.istore 5, 2) := dk_54 5 (dk_at dksX8_dig_4 18 rfl rfl)
theorem dX8_dig_116 : decode cX8_dig 116 = .ok (.iload 5, 2) := dk_21 5 (dk_at dksX8_dig_4 20 rfl rfl)
theorem dX8_dig_118 : decode cX8_dig 118 = .ok (.sipush 144, 3) := dk_17 0 144 (dk_at dksX8_dig_5 0 rfl rfl)
theorem dX8_dig_121 : decode cX8_dig 121 = .ok (.if_icmp .ge 37, 3) := dk_162 0 37 (dk_at dksX8_dig_5 3 rfl rfl)
theorem dX8_dig_124 : decode cX8_dig 124 = .ok (.iload 4, 2) := dk_21 4 (dk_at dksX8_dig_5 6 rfl rfl)
theorem dX8_dig_126 : decode cX8_dig 126 = .ok (.aload_n 0, 1) := dk_42 (dk_at dksX8_dig_5 8 rfl rfl)
theorem dX8_dig_127 : decode cX8_dig 127 = .ok (.iload 5, 2) := dk_21 5 (dk_at dksX8_dig_5 9 rfl rfl)
theorem dX8_dig_129 : decode cX8_dig 129 = .ok (.invokevirtual 346, 3) := dk_182 1 90 (dk_at dksX8_dig_5 11 rfl rfl)
theorem dX8_dig_132 : decode cX8_dig 132 = .ok (.ifCond .eq 16, 3) := dk_153 0 16 (dk_at dksX8_dig_5 14 rfl rfl)
theorem dX8_dig_135 : decode cX8_dig 135 = .ok (.aload_n 0, 1) := dk_42 (dk_at dksX8_dig_5 17 rfl rfl)
theorem dX8_dig_136 : decode cX8_dig 136 = .ok (.iload 5, 2) := dk_21 5 (dk_at dksX8_dig_5 18 rfl rfl)
theorem dX8_dig_138 : decode cX8_dig 138 = .ok (.invokevirtual 102, 3) := dk_182 0 102 (dk_at dksX8_dig_5 20 rfl rfl)
theorem dX8_dig_141 : decode cX8_dig 141 = .ok (.ifCond .ne 7, 3) := dk_154 0 7 (dk_at dksX8_dig_6 0 rfl rfl)
theorem dX8_dig_144 : decode cX8_dig 144 = .ok (.iconst 1, 1) := dk_4 (dk_at dksX8_dig_6 3 rfl rfl)
theorem dX8_dig_145 : decode cX8_dig 145 = .ok (.goto 4, 3) := dk_167 0 4 (dk_at dksX8_dig_6 4 rfl rfl)
theorem dX8_dig_148 : decode cX8_dig 148 = .ok (.iconst 0, 1) := dk_3 (dk_at dksX8_dig_6 7 rfl rfl)
theorem dX8_dig_149 : decode cX8_dig 149 = .ok (.iadd, 1) := dk_96 (dk_at dksX8_dig_6 8 rfl rfl)
theorem dX8_dig_150 : decode cX8_dig 150 = .ok (.istore 4, 2) := dk_54 4 (dk_at dksX8_dig_6 9 rfl rfl)
theorem dX8_dig_152 : decode cX8_dig 152 = .ok (.iinc 5 1, 3) := dk_132 5 1 (dk_at dksX8_dig_6 11 rfl rfl)
theorem dX8_dig_155 : decode cX8_dig 155 = .ok (.goto (-39), 3) := dk_167 255 217 (dk_at dksX8_dig_6 14 rfl rfl)
theorem dX8_dig_158 : decode cX8_dig 158 = .ok (.iload 4, 2) := dk_21 4 (dk_at dksX8_dig_6 17 rfl rfl)
theorem dX8_dig_160 : decode cX8_dig 160 = .ok (.ireturn, 1) := dk_172 (dk_at dksX8_dig_6 19 rfl rfl)
abbrev cX8_mayDig : ByteArray := prog_16_method_77_code
def yX8_mayDig : MethodName := ⟨RX8, "mayDig", "()Z"⟩
def dkwX8_mayDig_2 : List UInt8 := [167, 255, 225, 27, 172]
abbrev dktX8_mayDig_2 : List UInt8 := dkwX8_mayDig_2 ++ []
def dkwX8_mayDig_1 : List UInt8 := [162, 0, 27, 27, 154, 0, 11, 42, 28, 182, 1, 142, 154, 0, 7, 4, 167, 0, 4, 3, 60, 132, 2, 1]
abbrev dktX8_mayDig_1 : List UInt8 := dkwX8_mayDig_1 ++ dktX8_mayDig_2
def dkwX8_mayDig_0 : List UInt8 := [42, 180, 0, 13, 7, 46, 154, 0, 7, 4, 167, 0, 4, 3, 60, 3, 61, 28, 42, 180, 0, 13, 7, 46]
abbrev dktX8_mayDig_0 : List UInt8 := dkwX8_mayDig_0 ++ dktX8_mayDig_1
theorem dksX8_mayDig_0 : cX8_mayDig.data.toList.drop 0 = dktX8_mayDig_0 := by decide +kernel
theorem dksX8_mayDig_1 : cX8_mayDig.data.toList.drop 24 = dktX8_mayDig_1 := dk_seg dksX8_mayDig_0 24 rfl rfl
theorem dksX8_mayDig_2 : cX8_mayDig.data.toList.drop 48 = dktX8_mayDig_2 := dk_seg dksX8_mayDig_1 24 rfl rfl
theorem dX8_mayDig_0 : decode cX8_mayDig 0 = .ok (.aload_n 0, 1) := dk_42 (dk_at dksX8_mayDig_0 0 rfl rfl)
theorem dX8_mayDig_1 : decode cX8_mayDig 1 = .ok (.getfield 13, 3) := dk_180 0 13 (dk_at dksX8_mayDig_0 1 rfl rfl)
theorem dX8_mayDig_4 : decode cX8_mayDig 4 = .ok (.iconst 4, 1) := dk_7 (dk_at dksX8_mayDig_0 4 rfl rfl)
theorem dX8_mayDig_5 : decode cX8_mayDig 5 = .ok (.iaload, 1) := dk_46 (dk_at dksX8_mayDig_0 5 rfl rfl)
theorem dX8_mayDig_6 : decode cX8_mayDig 6 = .ok (.ifCond .ne 7, 3) := dk_154 0 7 (dk_at dksX8_mayDig_0 6 rfl rfl)
theorem dX8_mayDig_9 : decode cX8_mayDig 9 = .ok (.iconst 1, 1) := dk_4 (dk_at dksX8_mayDig_0 9 rfl rfl)
theorem dX8_mayDig_10 : decode cX8_mayDig 10 = .ok (.goto 4, 3) := dk_167 0 4 (dk_at dksX8_mayDig_0 10 rfl rfl)
theorem dX8_mayDig_13 : decode cX8_mayDig 13 = .ok (.iconst 0, 1) := dk_3 (dk_at dksX8_mayDig_0 13 rfl rfl)
theorem dX8_mayDig_14 : decode cX8_mayDig 14 = .ok (.istore_n 1, 1) := dk_60 (dk_at dksX8_mayDig_0 14 rfl rfl)
theorem dX8_mayDig_15 : decode cX8_mayDig 15 = .ok (.iconst 0, 1) := dk_3 (dk_at dksX8_mayDig_0 15 rfl rfl)
theorem dX8_mayDig_16 : decode cX8_mayDig 16 = .ok (.istore_n 2, 1) := dk_61 (dk_at dksX8_mayDig_0 16 rfl rfl)
theorem dX8_mayDig_17 : decode cX8_mayDig 17 = .ok (.iload_n 2, 1) := dk_28 (dk_at dksX8_mayDig_0 17 rfl rfl)
theorem dX8_mayDig_18 : decode cX8_mayDig 18 = .ok (.aload_n 0, 1) := dk_42 (dk_at dksX8_mayDig_0 18 rfl rfl)
theorem dX8_mayDig_19 : decode cX8_mayDig 19 = .ok (.getfield 13, 3) := dk_180 0 13 (dk_at dksX8_mayDig_0 19 rfl rfl)
theorem dX8_mayDig_22 : decode cX8_mayDig 22 = .ok (.iconst 4, 1) := dk_7 (dk_at dksX8_mayDig_0 22 rfl rfl)
theorem dX8_mayDig_23 : decode cX8_mayDig 23 = .ok (.iaload, 1) := dk_46 (dk_at dksX8_mayDig_0 23 rfl rfl)
theorem dX8_mayDig_24 : decode cX8_mayDig 24 = .ok (.if_icmp .ge 27, 3) := dk_162 0 27 (dk_at dksX8_mayDig_1 0 rfl rfl)
theorem dX8_mayDig_27 : decode cX8_mayDig 27 = .ok (.iload_n 1, 1) := dk_27 (dk_at dksX8_mayDig_1 3 rfl rfl)
theorem dX8_mayDig_28 : decode cX8_mayDig 28 = .ok (.ifCond .ne 11, 3) := dk_154 0 11 (dk_at dksX8_mayDig_1 4 rfl rfl)
theorem dX8_mayDig_31 : decode cX8_mayDig 31 = .ok (.aload_n 0, 1) := dk_42 (dk_at dksX8_mayDig_1 7 rfl rfl)
theorem dX8_mayDig_32 : decode cX8_mayDig 32 = .ok (.iload_n 2, 1) := dk_28 (dk_at dksX8_mayDig_1 8 rfl rfl)
theorem dX8_mayDig_33 : decode cX8_mayDig 33 = .ok (.invokevirtual 398, 3) := dk_182 1 142 (dk_at dksX8_mayDig_1 9 rfl rfl)
theorem dX8_mayDig_36 : decode cX8_mayDig 36 = .ok (.ifCond .ne 7, 3) := dk_154 0 7 (dk_at dksX8_mayDig_1 12 rfl rfl)
theorem dX8_mayDig_39 : decode cX8_mayDig 39 = .ok (.iconst 1, 1) := dk_4 (dk_at dksX8_mayDig_1 15 rfl rfl)
theorem dX8_mayDig_40 : decode cX8_mayDig 40 = .ok (.goto 4, 3) := dk_167 0 4 (dk_at dksX8_mayDig_1 16 rfl rfl)
theorem dX8_mayDig_43 : decode cX8_mayDig 43 = .ok (.iconst 0, 1) := dk_3 (dk_at dksX8_mayDig_1 19 rfl rfl)
theorem dX8_mayDig_44 : decode cX8_mayDig 44 = .ok (.istore_n 1, 1) := dk_60 (dk_at dksX8_mayDig_1 20 rfl rfl)
theorem dX8_mayDig_45 : decode cX8_mayDig 45 = .ok (.iinc 2 1, 3) := dk_132 2 1 (dk_at dksX8_mayDig_1 21 rfl rfl)
theorem dX8_mayDig_48 : decode cX8_mayDig 48 = .ok (.goto (-31), 3) := dk_167 255 225 (dk_at dksX8_mayDig_2 0 rfl rfl)
theorem dX8_mayDig_51 : decode cX8_mayDig 51 = .ok (.iload_n 1, 1) := dk_27 (dk_at dksX8_mayDig_2 3 rfl rfl)
theorem dX8_mayDig_52 : decode cX8_mayDig 52 = .ok (.ireturn, 1) := dk_172 (dk_at dksX8_mayDig_2 4 rfl rfl)
abbrev cX8_pump : ByteArray := prog_16_method_79_code
def yX8_pump : MethodName := ⟨RX8, "pump", "()I"⟩
def dkwX8_pump_1 : List UInt8 := [182, 1, 78, 154, 0, 6, 16, 248, 172, 42, 180, 0, 13, 16, 12, 3, 79, 3, 172]
abbrev dktX8_pump_1 : List UInt8 := dkwX8_pump_1 ++ []
def dkwX8_pump_0 : List UInt8 := [42, 182, 1, 109, 154, 0, 6, 16, 250, 172, 42, 180, 0, 13, 16, 12, 46, 154, 0, 6, 16, 251, 172, 42]
abbrev dktX8_pump_0 : List UInt8 := dkwX8_pump_0 ++ dktX8_pump_1
theorem dksX8_pump_0 : cX8_pump.data.toList.drop 0 = dktX8_pump_0 := by decide +kernel
theorem dksX8_pump_1 : cX8_pump.data.toList.drop 24 = dktX8_pump_1 := dk_seg dksX8_pump_0 24 rfl rfl
theorem dX8_pump_0 : decode cX8_pump 0 = .ok (.aload_n 0, 1) := dk_42 (dk_at dksX8_pump_0 0 rfl rfl)
theorem dX8_pump_1 : decode cX8_pump 1 = .ok (.invokevirtual 365, 3) := dk_182 1 109 (dk_at dksX8_pump_0 1 rfl rfl)
theorem dX8_pump_4 : decode cX8_pump 4 = .ok (.ifCond .ne 6, 3) := dk_154 0 6 (dk_at dksX8_pump_0 4 rfl rfl)
theorem dX8_pump_7 : decode cX8_pump 7 = .ok (.bipush (-6), 2) := dk_16 250 (dk_at dksX8_pump_0 7 rfl rfl)
theorem dX8_pump_9 : decode cX8_pump 9 = .ok (.ireturn, 1) := dk_172 (dk_at dksX8_pump_0 9 rfl rfl)
theorem dX8_pump_10 : decode cX8_pump 10 = .ok (.aload_n 0, 1) := dk_42 (dk_at dksX8_pump_0 10 rfl rfl)
theorem dX8_pump_11 : decode cX8_pump 11 = .ok (.getfield 13, 3) := dk_180 0 13 (dk_at dksX8_pump_0 11 rfl rfl)
theorem dX8_pump_14 : decode cX8_pump 14 = .ok (.bipush 12, 2) := dk_16 12 (dk_at dksX8_pump_0 14 rfl rfl)
theorem dX8_pump_16 : decode cX8_pump 16 = .ok (.iaload, 1) := dk_46 (dk_at dksX8_pump_0 16 rfl rfl)
theorem dX8_pump_17 : decode cX8_pump 17 = .ok (.ifCond .ne 6, 3) := dk_154 0 6 (dk_at dksX8_pump_0 17 rfl rfl)
theorem dX8_pump_20 : decode cX8_pump 20 = .ok (.bipush (-5), 2) := dk_16 251 (dk_at dksX8_pump_0 20 rfl rfl)
theorem dX8_pump_22 : decode cX8_pump 22 = .ok (.ireturn, 1) := dk_172 (dk_at dksX8_pump_0 22 rfl rfl)
theorem dX8_pump_23 : decode cX8_pump 23 = .ok (.aload_n 0, 1) := dk_42 (dk_at dksX8_pump_0 23 rfl rfl)
theorem dX8_pump_24 : decode cX8_pump 24 = .ok (.invokevirtual 334, 3) := dk_182 1 78 (dk_at dksX8_pump_1 0 rfl rfl)
theorem dX8_pump_27 : decode cX8_pump 27 = .ok (.ifCond .ne 6, 3) := dk_154 0 6 (dk_at dksX8_pump_1 3 rfl rfl)
theorem dX8_pump_30 : decode cX8_pump 30 = .ok (.bipush (-8), 2) := dk_16 248 (dk_at dksX8_pump_1 6 rfl rfl)
theorem dX8_pump_32 : decode cX8_pump 32 = .ok (.ireturn, 1) := dk_172 (dk_at dksX8_pump_1 8 rfl rfl)
theorem dX8_pump_33 : decode cX8_pump 33 = .ok (.aload_n 0, 1) := dk_42 (dk_at dksX8_pump_1 9 rfl rfl)
theorem dX8_pump_34 : decode cX8_pump 34 = .ok (.getfield 13, 3) := dk_180 0 13 (dk_at dksX8_pump_1 10 rfl rfl)
theorem dX8_pump_37 : decode cX8_pump 37 = .ok (.bipush 12, 2) := dk_16 12 (dk_at dksX8_pump_1 13 rfl rfl)
theorem dX8_pump_39 : decode cX8_pump 39 = .ok (.iconst 0, 1) := dk_3 (dk_at dksX8_pump_1 15 rfl rfl)
theorem dX8_pump_40 : decode cX8_pump 40 = .ok (.iastore, 1) := dk_79 (dk_at dksX8_pump_1 16 rfl rfl)
theorem dX8_pump_41 : decode cX8_pump 41 = .ok (.iconst 0, 1) := dk_3 (dk_at dksX8_pump_1 17 rfl rfl)
theorem dX8_pump_42 : decode cX8_pump 42 = .ok (.ireturn, 1) := dk_172 (dk_at dksX8_pump_1 18 rfl rfl)
abbrev cX8_lift : ByteArray := prog_16_method_80_code
def yX8_lift : MethodName := ⟨RX8, "lift", "(I)I"⟩
def dkwX8_lift_0 : List UInt8 := [27, 133, 9, 20, 0, 114, 184, 0, 110, 153, 0, 11, 42, 27, 182, 1, 69, 167, 0, 6, 19, 1, 86, 172]
abbrev dktX8_lift_0 : List UInt8 := dkwX8_lift_0 ++ []
theorem dksX8_lift_0 : cX8_lift.data.toList.drop 0 = dktX8_lift_0 := by decide +kernel
theorem dX8_lift_0 : decode cX8_lift 0 = .ok (.iload_n 1, 1) := dk_27 (dk_at dksX8_lift_0 0 rfl rfl)
theorem dX8_lift_1 : decode cX8_lift 1 = .ok (.i2l, 1) := dk_133 (dk_at dksX8_lift_0 1 rfl rfl)
theorem dX8_lift_2 : decode cX8_lift 2 = .ok (.lconst 0, 1) := dk_9 (dk_at dksX8_lift_0 2 rfl rfl)
theorem dX8_lift_3 : decode cX8_lift 3 = .ok (.ldc2_w 114, 3) := dk_20 0 114 (dk_at dksX8_lift_0 3 rfl rfl)
theorem dX8_lift_6 : decode cX8_lift 6 = .ok (.invokestatic 110, 3) := dk_184 0 110 (dk_at dksX8_lift_0 6 rfl rfl)
theorem dX8_lift_9 : decode cX8_lift 9 = .ok (.ifCond .eq 11, 3) := dk_153 0 11 (dk_at dksX8_lift_0 9 rfl rfl)
theorem dX8_lift_12 : decode cX8_lift 12 = .ok (.aload_n 0, 1) := dk_42 (dk_at dksX8_lift_0 12 rfl rfl)
theorem dX8_lift_13 : decode cX8_lift 13 = .ok (.iload_n 1, 1) := dk_27 (dk_at dksX8_lift_0 13 rfl rfl)
theorem dX8_lift_14 : decode cX8_lift 14 = .ok (.invokevirtual 325, 3) := dk_182 1 69 (dk_at dksX8_lift_0 14 rfl rfl)
theorem dX8_lift_17 : decode cX8_lift 17 = .ok (.goto 6, 3) := dk_167 0 6 (dk_at dksX8_lift_0 17 rfl rfl)
theorem dX8_lift_20 : decode cX8_lift 20 = .ok (.ldc_w 342, 3) := dk_19 1 86 (dk_at dksX8_lift_0 20 rfl rfl)
theorem dX8_lift_23 : decode cX8_lift 23 = .ok (.ireturn, 1) := dk_172 (dk_at dksX8_lift_0 23 rfl rfl)
abbrev cX8_cracks : ByteArray := prog_16_method_81_code
def yX8_cracks : MethodName := ⟨RX8, "cracks", "()I"⟩
def dkwX8_cracks_2 : List UInt8 := [27, 172]
abbrev dktX8_cracks_2 : List UInt8 := dkwX8_cracks_2 ++ []
def dkwX8_cracks_1 : List UInt8 := [104, 96, 5, 96, 46, 2, 160, 0, 7, 3, 167, 0, 6, 4, 28, 120, 128, 60, 132, 2, 1, 167, 255, 215]
abbrev dktX8_cracks_1 : List UInt8 := dkwX8_cracks_1 ++ dktX8_cracks_2
def dkwX8_cracks_0 : List UInt8 := [3, 60, 3, 61, 28, 42, 180, 0, 13, 6, 46, 162, 0, 37, 27, 42, 180, 0, 13, 17, 2, 220, 6, 28]
abbrev dktX8_cracks_0 : List UInt8 := dkwX8_cracks_0 ++ dktX8_cracks_1
theorem dksX8_cracks_0 : cX8_cracks.data.toList.drop 0 = dktX8_cracks_0 := by decide +kernel
theorem dksX8_cracks_1 : cX8_cracks.data.toList.drop 24 = dktX8_cracks_1 := dk_seg dksX8_cracks_0 24 rfl rfl
theorem dksX8_cracks_2 : cX8_cracks.data.toList.drop 48 = dktX8_cracks_2 := dk_seg dksX8_cracks_1 24 rfl rfl
theorem dX8_cracks_0 : decode cX8_cracks 0 = .ok (.iconst 0, 1) := dk_3 (dk_at dksX8_cracks_0 0 rfl rfl)
theorem dX8_cracks_1 : decode cX8_cracks 1 = .ok (.istore_n 1, 1) := dk_60 (dk_at dksX8_cracks_0 1 rfl rfl)
theorem dX8_cracks_2 : decode cX8_cracks 2 = .ok (.iconst 0, 1) := dk_3 (dk_at dksX8_cracks_0 2 rfl rfl)
theorem dX8_cracks_3 : decode cX8_cracks 3 = .ok (.istore_n 2, 1) := dk_61 (dk_at dksX8_cracks_0 3 rfl rfl)
theorem dX8_cracks_4 : decode cX8_cracks 4 = .ok (.iload_n 2, 1) := dk_28 (dk_at dksX8_cracks_0 4 rfl rfl)
theorem dX8_cracks_5 : decode cX8_cracks 5 = .ok (.aload_n 0, 1) := dk_42 (dk_at dksX8_cracks_0 5 rfl rfl)
theorem dX8_cracks_6 : decode cX8_cracks 6 = .ok (.getfield 13, 3) := dk_180 0 13 (dk_at dksX8_cracks_0 6 rfl rfl)
theorem dX8_cracks_9 : decode cX8_cracks 9 = .ok (.iconst 3, 1) := dk_6 (dk_at dksX8_cracks_0 9 rfl rfl)
theorem dX8_cracks_10 : decode cX8_cracks 10 = .ok (.iaload, 1) := dk_46 (dk_at dksX8_cracks_0 10 rfl rfl)
theorem dX8_cracks_11 : decode cX8_cracks 11 = .ok (.if_icmp .ge 37, 3) := dk_162 0 37 (dk_at dksX8_cracks_0 11 rfl rfl)
theorem dX8_cracks_14 : decode cX8_cracks 14 = .ok (.iload_n 1, 1) := dk_27 (dk_at dksX8_cracks_0 14 rfl rfl)
theorem dX8_cracks_15 : decode cX8_cracks 15 = .ok (.aload_n 0, 1) := dk_42 (dk_at dksX8_cracks_0 15 rfl rfl)
theorem dX8_cracks_16 : decode cX8_cracks 16 = .ok (.getfield 13, 3) := dk_180 0 13 (dk_at dksX8_cracks_0 16 rfl rfl)
theorem dX8_cracks_19 : decode cX8_cracks 19 = .ok (.sipush 732, 3) := dk_17 2 220 (dk_at dksX8_cracks_0 19 rfl rfl)
theorem dX8_cracks_22 : decode cX8_cracks 22 = .ok (.iconst 3, 1) := dk_6 (dk_at dksX8_cracks_0 22 rfl rfl)
theorem dX8_cracks_23 : decode cX8_cracks 23 = .ok (.iload_n 2, 1) := dk_28 (dk_at dksX8_cracks_0 23 rfl rfl)
theorem dX8_cracks_24 : decode cX8_cracks 24 = .ok (.imul, 1) := dk_104 (dk_at dksX8_cracks_1 0 rfl rfl)
theorem dX8_cracks_25 : decode cX8_cracks 25 = .ok (.iadd, 1) := dk_96 (dk_at dksX8_cracks_1 1 rfl rfl)
theorem dX8_cracks_26 : decode cX8_cracks 26 = .ok (.iconst 2, 1) := dk_5 (dk_at dksX8_cracks_1 2 rfl rfl)
theorem dX8_cracks_27 : decode cX8_cracks 27 = .ok (.iadd, 1) := dk_96 (dk_at dksX8_cracks_1 3 rfl rfl)
theorem dX8_cracks_28 : decode cX8_cracks 28 = .ok (.iaload, 1) := dk_46 (dk_at dksX8_cracks_1 4 rfl rfl)
theorem dX8_cracks_29 : decode cX8_cracks 29 = .ok (.iconst (-1), 1) := dk_2 (dk_at dksX8_cracks_1 5 rfl rfl)
theorem dX8_cracks_30 : decode cX8_cracks 30 = .ok (.if_icmp .ne 7, 3) := dk_160 0 7 (dk_at dksX8_cracks_1 6 rfl rfl)
theorem dX8_cracks_33 : decode cX8_cracks 33 = .ok (.iconst 0, 1) := dk_3 (dk_at dksX8_cracks_1 9 rfl rfl)
theorem dX8_cracks_34 : decode cX8_cracks 34 = .ok (.goto 6, 3) := dk_167 0 6 (dk_at dksX8_cracks_1 10 rfl rfl)
theorem dX8_cracks_37 : decode cX8_cracks 37 = .ok (.iconst 1, 1) := dk_4 (dk_at dksX8_cracks_1 13 rfl rfl)
theorem dX8_cracks_38 : decode cX8_cracks 38 = .ok (.iload_n 2, 1) := dk_28 (dk_at dksX8_cracks_1 14 rfl rfl)
theorem dX8_cracks_39 : decode cX8_cracks 39 = .ok (.ishl, 1) := dk_120 (dk_at dksX8_cracks_1 15 rfl rfl)
theorem dX8_cracks_40 : decode cX8_cracks 40 = .ok (.ior, 1) := dk_128 (dk_at dksX8_cracks_1 16 rfl rfl)
theorem dX8_cracks_41 : decode cX8_cracks 41 = .ok (.istore_n 1, 1) := dk_60 (dk_at dksX8_cracks_1 17 rfl rfl)
theorem dX8_cracks_42 : decode cX8_cracks 42 = .ok (.iinc 2 1, 3) := dk_132 2 1 (dk_at dksX8_cracks_1 18 rfl rfl)
theorem dX8_cracks_45 : decode cX8_cracks 45 = .ok (.goto (-41), 3) := dk_167 255 215 (dk_at dksX8_cracks_1 21 rfl rfl)
theorem dX8_cracks_48 : decode cX8_cracks 48 = .ok (.iload_n 1, 1) := dk_27 (dk_at dksX8_cracks_2 0 rfl rfl)
theorem dX8_cracks_49 : decode cX8_cracks 49 = .ok (.ireturn, 1) := dk_172 (dk_at dksX8_cracks_2 1 rfl rfl)
abbrev cX8_house : ByteArray := prog_16_method_82_code
def yX8_house : MethodName := ⟨RX8, "house", "(II)I"⟩
def dkwX8_house_2 : List UInt8 := [19, 1, 86, 172]
abbrev dktX8_house_2 : List UInt8 := dkwX8_house_2 ++ []
def dkwX8_house_1 : List UInt8 := [184, 0, 110, 153, 0, 20, 42, 180, 0, 13, 17, 2, 220, 6, 27, 104, 96, 28, 96, 46, 167, 0, 6]
abbrev dktX8_house_1 : List UInt8 := dkwX8_house_1 ++ dktX8_house_2
def dkwX8_house_0 : List UInt8 := [27, 133, 9, 42, 180, 0, 13, 6, 46, 4, 100, 133, 184, 0, 110, 153, 0, 32, 28, 133, 9, 20, 0, 120]
abbrev dktX8_house_0 : List UInt8 := dkwX8_house_0 ++ dktX8_house_1
theorem dksX8_house_0 : cX8_house.data.toList.drop 0 = dktX8_house_0 := by decide +kernel
theorem dksX8_house_1 : cX8_house.data.toList.drop 24 = dktX8_house_1 := dk_seg dksX8_house_0 24 rfl rfl
theorem dksX8_house_2 : cX8_house.data.toList.drop 47 = dktX8_house_2 := dk_seg dksX8_house_1 23 rfl rfl
theorem dX8_house_0 : decode cX8_house 0 = .ok (.iload_n 1, 1) := dk_27 (dk_at dksX8_house_0 0 rfl rfl)
theorem dX8_house_1 : decode cX8_house 1 = .ok (.i2l, 1) := dk_133 (dk_at dksX8_house_0 1 rfl rfl)
theorem dX8_house_2 : decode cX8_house 2 = .ok (.lconst 0, 1) := dk_9 (dk_at dksX8_house_0 2 rfl rfl)
theorem dX8_house_3 : decode cX8_house 3 = .ok (.aload_n 0, 1) := dk_42 (dk_at dksX8_house_0 3 rfl rfl)
theorem dX8_house_4 : decode cX8_house 4 = .ok (.getfield 13, 3) := dk_180 0 13 (dk_at dksX8_house_0 4 rfl rfl)
theorem dX8_house_7 : decode cX8_house 7 = .ok (.iconst 3, 1) := dk_6 (dk_at dksX8_house_0 7 rfl rfl)
theorem dX8_house_8 : decode cX8_house 8 = .ok (.iaload, 1) := dk_46 (dk_at dksX8_house_0 8 rfl rfl)
theorem dX8_house_9 : decode cX8_house 9 = .ok (.iconst 1, 1) := dk_4 (dk_at dksX8_house_0 9 rfl rfl)
theorem dX8_house_10 : decode cX8_house 10 = .ok (.isub, 1) := dk_100 (dk_at dksX8_house_0 10 rfl rfl)
theorem dX8_house_11 : decode cX8_house 11 = .ok (.i2l, 1) := dk_133 (dk_at dksX8_house_0 11 rfl rfl)
theorem dX8_house_12 : decode cX8_house 12 = .ok (.invokestatic 110, 3) := dk_184 0 110 (dk_at dksX8_house_0 12 rfl rfl)
theorem dX8_house_15 : decode cX8_house 15 = .ok (.ifCond .eq 32, 3) := dk_153 0 32 (dk_at dksX8_house_0 15 rfl rfl)
theorem dX8_house_18 : decode cX8_house 18 = .ok (.iload_n 2, 1) := dk_28 (dk_at dksX8_house_0 18 rfl rfl)
theorem dX8_house_19 : decode cX8_house 19 = .ok (.i2l, 1) := dk_133 (dk_at dksX8_house_0 19 rfl rfl)
theorem dX8_house_20 : decode cX8_house 20 = .ok (.lconst 0, 1) := dk_9 (dk_at dksX8_house_0 20 rfl rfl)
theorem dX8_house_21 : decode cX8_house 21 = .ok (.ldc2_w 120, 3) := dk_20 0 120 (dk_at dksX8_house_0 21 rfl rfl)
theorem dX8_house_24 : decode cX8_house 24 = .ok (.invokestatic 110, 3) := dk_184 0 110 (dk_at dksX8_house_1 0 rfl rfl)
theorem dX8_house_27 : decode cX8_house 27 = .ok (.ifCond .eq 20, 3) := dk_153 0 20 (dk_at dksX8_house_1 3 rfl rfl)
theorem dX8_house_30 : decode cX8_house 30 = .ok (.aload_n 0, 1) := dk_42 (dk_at dksX8_house_1 6 rfl rfl)
theorem dX8_house_31 : decode cX8_house 31 = .ok (.getfield 13, 3) := dk_180 0 13 (dk_at dksX8_house_1 7 rfl rfl)
theorem dX8_house_34 : decode cX8_house 34 = .ok (.sipush 732, 3) := dk_17 2 220 (dk_at dksX8_house_1 10 rfl rfl)
theorem dX8_house_37 : decode cX8_house 37 = .ok (.iconst 3, 1) := dk_6 (dk_at dksX8_house_1 13 rfl rfl)
theorem dX8_house_38 : decode cX8_house 38 = .ok (.iload_n 1, 1) := dk_27 (dk_at dksX8_house_1 14 rfl rfl)
theorem dX8_house_39 : decode cX8_house 39 = .ok (.imul, 1) := dk_104 (dk_at dksX8_house_1 15 rfl rfl)
theorem dX8_house_40 : decode cX8_house 40 = .ok (.iadd, 1) := dk_96 (dk_at dksX8_house_1 16 rfl rfl)
theorem dX8_house_41 : decode cX8_house 41 = .ok (.iload_n 2, 1) := dk_28 (dk_at dksX8_house_1 17 rfl rfl)
theorem dX8_house_42 : decode cX8_house 42 = .ok (.iadd, 1) := dk_96 (dk_at dksX8_house_1 18 rfl rfl)
theorem dX8_house_43 : decode cX8_house 43 = .ok (.iaload, 1) := dk_46 (dk_at dksX8_house_1 19 rfl rfl)
theorem dX8_house_44 : decode cX8_house 44 = .ok (.goto 6, 3) := dk_167 0 6 (dk_at dksX8_house_1 20 rfl rfl)
theorem dX8_house_47 : decode cX8_house 47 = .ok (.ldc_w 342, 3) := dk_19 1 86 (dk_at dksX8_house_2 0 rfl rfl)
theorem dX8_house_50 : decode cX8_house 50 = .ok (.ireturn, 1) := dk_172 (dk_at dksX8_house_2 3 rfl rfl)
abbrev cX8_foretell : ByteArray := prog_16_method_83_code
def yX8_foretell : MethodName := ⟨RX8, "foretell", "()I"⟩
def dkwX8_foretell_2 : List UInt8 := [132, 2, 1, 167, 255, 225, 42, 182, 1, 151, 27, 172]
abbrev dktX8_foretell_2 : List UInt8 := dkwX8_foretell_2 ++ []
def dkwX8_foretell_1 : List UInt8 := [27, 2, 160, 0, 26, 28, 158, 0, 7, 42, 182, 1, 83, 42, 182, 1, 78, 153, 0, 5, 28, 60]
abbrev dktX8_foretell_1 : List UInt8 := dkwX8_foretell_1 ++ dktX8_foretell_2
def dkwX8_foretell_0 : List UInt8 := [42, 182, 1, 109, 154, 0, 6, 16, 250, 172, 42, 182, 1, 148, 2, 60, 3, 61, 28, 16, 60, 163, 0, 31]
abbrev dktX8_foretell_0 : List UInt8 := dkwX8_foretell_0 ++ dktX8_foretell_1
theorem dksX8_foretell_0 : cX8_foretell.data.toList.drop 0 = dktX8_foretell_0 := by decide +kernel
theorem dksX8_foretell_1 : cX8_foretell.data.toList.drop 24 = dktX8_foretell_1 := dk_seg dksX8_foretell_0 24 rfl rfl
theorem dksX8_foretell_2 : cX8_foretell.data.toList.drop 46 = dktX8_foretell_2 := dk_seg dksX8_foretell_1 22 rfl rfl
theorem dX8_foretell_0 : decode cX8_foretell 0 = .ok (.aload_n 0, 1) := dk_42 (dk_at dksX8_foretell_0 0 rfl rfl)
theorem dX8_foretell_1 : decode cX8_foretell 1 = .ok (.invokevirtual 365, 3) := dk_182 1 109 (dk_at dksX8_foretell_0 1 rfl rfl)
theorem dX8_foretell_4 : decode cX8_foretell 4 = .ok (.ifCond .ne 6, 3) := dk_154 0 6 (dk_at dksX8_foretell_0 4 rfl rfl)
theorem dX8_foretell_7 : decode cX8_foretell 7 = .ok (.bipush (-6), 2) := dk_16 250 (dk_at dksX8_foretell_0 7 rfl rfl)
theorem dX8_foretell_9 : decode cX8_foretell 9 = .ok (.ireturn, 1) := dk_172 (dk_at dksX8_foretell_0 9 rfl rfl)
theorem dX8_foretell_10 : decode cX8_foretell 10 = .ok (.aload_n 0, 1) := dk_42 (dk_at dksX8_foretell_0 10 rfl rfl)
theorem dX8_foretell_11 : decode cX8_foretell 11 = .ok (.invokevirtual 404, 3) := dk_182 1 148 (dk_at dksX8_foretell_0 11 rfl rfl)
theorem dX8_foretell_14 : decode cX8_foretell 14 = .ok (.iconst (-1), 1) := dk_2 (dk_at dksX8_foretell_0 14 rfl rfl)
theorem dX8_foretell_15 : decode cX8_foretell 15 = .ok (.istore_n 1, 1) := dk_60 (dk_at dksX8_foretell_0 15 rfl rfl)
theorem dX8_foretell_16 : decode cX8_foretell 16 = .ok (.iconst 0, 1) := dk_3 (dk_at dksX8_foretell_0 16 rfl rfl)
theorem dX8_foretell_17 : decode cX8_foretell 17 = .ok (.istore_n 2, 1) := dk_61 (dk_at dksX8_foretell_0 17 rfl rfl)
theorem dX8_foretell_18 : decode cX8_foretell 18 = .ok (.iload_n 2, 1) := dk_28 (dk_at dksX8_foretell_0 18 rfl rfl)
theorem dX8_foretell_19 : decode cX8_foretell 19 = .ok (.bipush 60, 2) := dk_16 60 (dk_at dksX8_foretell_0 19 rfl rfl)
theorem dX8_foretell_21 : decode cX8_foretell 21 = .ok (.if_icmp .gt 31, 3) := dk_163 0 31 (dk_at dksX8_foretell_0 21 rfl rfl)
theorem dX8_foretell_24 : decode cX8_foretell 24 = .ok (.iload_n 1, 1) := dk_27 (dk_at dksX8_foretell_1 0 rfl rfl)
theorem dX8_foretell_25 : decode cX8_foretell 25 = .ok (.iconst (-1), 1) := dk_2 (dk_at dksX8_foretell_1 1 rfl rfl)
theorem dX8_foretell_26 : decode cX8_foretell 26 = .ok (.if_icmp .ne 26, 3) := dk_160 0 26 (dk_at dksX8_foretell_1 2 rfl rfl)
theorem dX8_foretell_29 : decode cX8_foretell 29 = .ok (.iload_n 2, 1) := dk_28 (dk_at dksX8_foretell_1 5 rfl rfl)
theorem dX8_foretell_30 : decode cX8_foretell 30 = .ok (.ifCond .le 7, 3) := dk_158 0 7 (dk_at dksX8_foretell_1 6 rfl rfl)
theorem dX8_foretell_33 : decode cX8_foretell 33 = .ok (.aload_n 0, 1) := dk_42 (dk_at dksX8_foretell_1 9 rfl rfl)
theorem dX8_foretell_34 : decode cX8_foretell 34 = .ok (.invokevirtual 339, 3) := dk_182 1 83 (dk_at dksX8_foretell_1 10 rfl rfl)
theorem dX8_foretell_37 : decode cX8_foretell 37 = .ok (.aload_n 0, 1) := dk_42 (dk_at dksX8_foretell_1 13 rfl rfl)
theorem dX8_foretell_38 : decode cX8_foretell 38 = .ok (.invokevirtual 334, 3) := dk_182 1 78 (dk_at dksX8_foretell_1 14 rfl rfl)
theorem dX8_foretell_41 : decode cX8_foretell 41 = .ok (.ifCond .eq 5, 3) := dk_153 0 5 (dk_at dksX8_foretell_1 17 rfl rfl)
theorem dX8_foretell_44 : decode cX8_foretell 44 = .ok (.iload_n 2, 1) := dk_28 (dk_at dksX8_foretell_1 20 rfl rfl)
theorem dX8_foretell_45 : decode cX8_foretell 45 = .ok (.istore_n 1, 1) := dk_60 (dk_at dksX8_foretell_1 21 rfl rfl)
theorem dX8_foretell_46 : decode cX8_foretell 46 = .ok (.iinc 2 1, 3) := dk_132 2 1 (dk_at dksX8_foretell_2 0 rfl rfl)
theorem dX8_foretell_49 : decode cX8_foretell 49 = .ok (.goto (-31), 3) := dk_167 255 225 (dk_at dksX8_foretell_2 3 rfl rfl)
theorem dX8_foretell_52 : decode cX8_foretell 52 = .ok (.aload_n 0, 1) := dk_42 (dk_at dksX8_foretell_2 6 rfl rfl)
theorem dX8_foretell_53 : decode cX8_foretell 53 = .ok (.invokevirtual 407, 3) := dk_182 1 151 (dk_at dksX8_foretell_2 7 rfl rfl)
theorem dX8_foretell_56 : decode cX8_foretell 56 = .ok (.iload_n 1, 1) := dk_27 (dk_at dksX8_foretell_2 10 rfl rfl)
theorem dX8_foretell_57 : decode cX8_foretell 57 = .ok (.ireturn, 1) := dk_172 (dk_at dksX8_foretell_2 11 rfl rfl)
abbrev cX8_saves : ByteArray := prog_16_method_17_code
def yX8_saves : MethodName := ⟨RX8, "saves", "()V"⟩
def dkwX8_saves_1 : List UInt8 := [167, 255, 234, 177]
abbrev dktX8_saves_1 : List UInt8 := dkwX8_saves_1 ++ []
def dkwX8_saves_0 : List UInt8 := [3, 60, 27, 17, 3, 42, 162, 0, 21, 42, 180, 0, 17, 27, 42, 180, 0, 13, 27, 46, 79, 132, 1, 1]
abbrev dktX8_saves_0 : List UInt8 := dkwX8_saves_0 ++ dktX8_saves_1
theorem dksX8_saves_0 : cX8_saves.data.toList.drop 0 = dktX8_saves_0 := by decide +kernel
theorem dksX8_saves_1 : cX8_saves.data.toList.drop 24 = dktX8_saves_1 := dk_seg dksX8_saves_0 24 rfl rfl
theorem dX8_saves_0 : decode cX8_saves 0 = .ok (.iconst 0, 1) := dk_3 (dk_at dksX8_saves_0 0 rfl rfl)
theorem dX8_saves_1 : decode cX8_saves 1 = .ok (.istore_n 1, 1) := dk_60 (dk_at dksX8_saves_0 1 rfl rfl)
theorem dX8_saves_2 : decode cX8_saves 2 = .ok (.iload_n 1, 1) := dk_27 (dk_at dksX8_saves_0 2 rfl rfl)
theorem dX8_saves_3 : decode cX8_saves 3 = .ok (.sipush 810, 3) := dk_17 3 42 (dk_at dksX8_saves_0 3 rfl rfl)
theorem dX8_saves_6 : decode cX8_saves 6 = .ok (.if_icmp .ge 21, 3) := dk_162 0 21 (dk_at dksX8_saves_0 6 rfl rfl)
theorem dX8_saves_9 : decode cX8_saves 9 = .ok (.aload_n 0, 1) := dk_42 (dk_at dksX8_saves_0 9 rfl rfl)
theorem dX8_saves_10 : decode cX8_saves 10 = .ok (.getfield 17, 3) := dk_180 0 17 (dk_at dksX8_saves_0 10 rfl rfl)
theorem dX8_saves_13 : decode cX8_saves 13 = .ok (.iload_n 1, 1) := dk_27 (dk_at dksX8_saves_0 13 rfl rfl)
theorem dX8_saves_14 : decode cX8_saves 14 = .ok (.aload_n 0, 1) := dk_42 (dk_at dksX8_saves_0 14 rfl rfl)
theorem dX8_saves_15 : decode cX8_saves 15 = .ok (.getfield 13, 3) := dk_180 0 13 (dk_at dksX8_saves_0 15 rfl rfl)
theorem dX8_saves_18 : decode cX8_saves 18 = .ok (.iload_n 1, 1) := dk_27 (dk_at dksX8_saves_0 18 rfl rfl)
theorem dX8_saves_19 : decode cX8_saves 19 = .ok (.iaload, 1) := dk_46 (dk_at dksX8_saves_0 19 rfl rfl)
theorem dX8_saves_20 : decode cX8_saves 20 = .ok (.iastore, 1) := dk_79 (dk_at dksX8_saves_0 20 rfl rfl)
theorem dX8_saves_21 : decode cX8_saves 21 = .ok (.iinc 1 1, 3) := dk_132 1 1 (dk_at dksX8_saves_0 21 rfl rfl)
theorem dX8_saves_24 : decode cX8_saves 24 = .ok (.goto (-22), 3) := dk_167 255 234 (dk_at dksX8_saves_1 0 rfl rfl)
theorem dX8_saves_27 : decode cX8_saves 27 = .ok (.return_, 1) := dk_177 (dk_at dksX8_saves_1 3 rfl rfl)
abbrev cX8_putsBack : ByteArray := prog_16_method_18_code
def yX8_putsBack : MethodName := ⟨RX8, "putsBack", "()V"⟩
def dkwX8_putsBack_1 : List UInt8 := [167, 255, 234, 177]
abbrev dktX8_putsBack_1 : List UInt8 := dkwX8_putsBack_1 ++ []
def dkwX8_putsBack_0 : List UInt8 := [3, 60, 27, 17, 3, 42, 162, 0, 21, 42, 180, 0, 13, 27, 42, 180, 0, 17, 27, 46, 79, 132, 1, 1]
abbrev dktX8_putsBack_0 : List UInt8 := dkwX8_putsBack_0 ++ dktX8_putsBack_1
theorem dksX8_putsBack_0 : cX8_putsBack.data.toList.drop 0 = dktX8_putsBack_0 := by decide +kernel
theorem dksX8_putsBack_1 : cX8_putsBack.data.toList.drop 24 = dktX8_putsBack_1 := dk_seg dksX8_putsBack_0 24 rfl rfl
theorem dX8_putsBack_0 : decode cX8_putsBack 0 = .ok (.iconst 0, 1) := dk_3 (dk_at dksX8_putsBack_0 0 rfl rfl)
theorem dX8_putsBack_1 : decode cX8_putsBack 1 = .ok (.istore_n 1, 1) := dk_60 (dk_at dksX8_putsBack_0 1 rfl rfl)
theorem dX8_putsBack_2 : decode cX8_putsBack 2 = .ok (.iload_n 1, 1) := dk_27 (dk_at dksX8_putsBack_0 2 rfl rfl)
theorem dX8_putsBack_3 : decode cX8_putsBack 3 = .ok (.sipush 810, 3) := dk_17 3 42 (dk_at dksX8_putsBack_0 3 rfl rfl)
theorem dX8_putsBack_6 : decode cX8_putsBack 6 = .ok (.if_icmp .ge 21, 3) := dk_162 0 21 (dk_at dksX8_putsBack_0 6 rfl rfl)
theorem dX8_putsBack_9 : decode cX8_putsBack 9 = .ok (.aload_n 0, 1) := dk_42 (dk_at dksX8_putsBack_0 9 rfl rfl)
theorem dX8_putsBack_10 : decode cX8_putsBack 10 = .ok (.getfield 13, 3) := dk_180 0 13 (dk_at dksX8_putsBack_0 10 rfl rfl)
theorem dX8_putsBack_13 : decode cX8_putsBack 13 = .ok (.iload_n 1, 1) := dk_27 (dk_at dksX8_putsBack_0 13 rfl rfl)
theorem dX8_putsBack_14 : decode cX8_putsBack 14 = .ok (.aload_n 0, 1) := dk_42 (dk_at dksX8_putsBack_0 14 rfl rfl)
theorem dX8_putsBack_15 : decode cX8_putsBack 15 = .ok (.getfield 17, 3) := dk_180 0 17 (dk_at dksX8_putsBack_0 15 rfl rfl)
theorem dX8_putsBack_18 : decode cX8_putsBack 18 = .ok (.iload_n 1, 1) := dk_27 (dk_at dksX8_putsBack_0 18 rfl rfl)
theorem dX8_putsBack_19 : decode cX8_putsBack 19 = .ok (.iaload, 1) := dk_46 (dk_at dksX8_putsBack_0 19 rfl rfl)
theorem dX8_putsBack_20 : decode cX8_putsBack 20 = .ok (.iastore, 1) := dk_79 (dk_at dksX8_putsBack_0 20 rfl rfl)
theorem dX8_putsBack_21 : decode cX8_putsBack 21 = .ok (.iinc 1 1, 3) := dk_132 1 1 (dk_at dksX8_putsBack_0 21 rfl rfl)
theorem dX8_putsBack_24 : decode cX8_putsBack 24 = .ok (.goto (-22), 3) := dk_167 255 234 (dk_at dksX8_putsBack_1 0 rfl rfl)
theorem dX8_putsBack_27 : decode cX8_putsBack 27 = .ok (.return_, 1) := dk_177 (dk_at dksX8_putsBack_1 3 rfl rfl)
abbrev cX8_off : ByteArray := prog_16_method_84_code
def yX8_off : MethodName := ⟨RX8, "off", "()I"⟩
def dkwX8_off_4 : List UInt8 := [182, 1, 151, 27, 172]
abbrev dktX8_off_4 : List UInt8 := dkwX8_off_4 ++ []
def dkwX8_off_3 : List UInt8 := [160, 0, 22, 42, 182, 1, 83, 42, 182, 1, 78, 154, 0, 5, 28, 60, 132, 2, 1, 167, 255, 229, 42]
abbrev dktX8_off_3 : List UInt8 := dkwX8_off_3 ++ dktX8_off_4
def dkwX8_off_2 : List UInt8 := [6, 96, 3, 79, 132, 1, 1, 167, 255, 227, 2, 60, 4, 61, 28, 16, 60, 163, 0, 27, 27, 2]
abbrev dktX8_off_2 : List UInt8 := dkwX8_off_2 ++ dktX8_off_3
def dkwX8_off_1 : List UInt8 := [3, 60, 27, 42, 180, 0, 13, 5, 46, 162, 0, 25, 42, 180, 0, 13, 17, 2, 112, 16, 6, 27, 104, 96]
abbrev dktX8_off_1 : List UInt8 := dkwX8_off_1 ++ dktX8_off_2
def dkwX8_off_0 : List UInt8 := [42, 182, 1, 109, 154, 0, 6, 16, 250, 172, 42, 182, 1, 78, 154, 0, 6, 16, 251, 172, 42, 182, 1, 148]
abbrev dktX8_off_0 : List UInt8 := dkwX8_off_0 ++ dktX8_off_1
theorem dksX8_off_0 : cX8_off.data.toList.drop 0 = dktX8_off_0 := by decide +kernel
theorem dksX8_off_1 : cX8_off.data.toList.drop 24 = dktX8_off_1 := dk_seg dksX8_off_0 24 rfl rfl
theorem dksX8_off_2 : cX8_off.data.toList.drop 48 = dktX8_off_2 := dk_seg dksX8_off_1 24 rfl rfl
theorem dksX8_off_3 : cX8_off.data.toList.drop 70 = dktX8_off_3 := dk_seg dksX8_off_2 22 rfl rfl
theorem dksX8_off_4 : cX8_off.data.toList.drop 93 = dktX8_off_4 := dk_seg dksX8_off_3 23 rfl rfl
theorem dX8_off_0 : decode cX8_off 0 = .ok (.aload_n 0, 1) := dk_42 (dk_at dksX8_off_0 0 rfl rfl)
theorem dX8_off_1 : decode cX8_off 1 = .ok (.invokevirtual 365, 3) := dk_182 1 109 (dk_at dksX8_off_0 1 rfl rfl)
theorem dX8_off_4 : decode cX8_off 4 = .ok (.ifCond .ne 6, 3) := dk_154 0 6 (dk_at dksX8_off_0 4 rfl rfl)
theorem dX8_off_7 : decode cX8_off 7 = .ok (.bipush (-6), 2) := dk_16 250 (dk_at dksX8_off_0 7 rfl rfl)
theorem dX8_off_9 : decode cX8_off 9 = .ok (.ireturn, 1) := dk_172 (dk_at dksX8_off_0 9 rfl rfl)
theorem dX8_off_10 : decode cX8_off 10 = .ok (.aload_n 0, 1) := dk_42 (dk_at dksX8_off_0 10 rfl rfl)
theorem dX8_off_11 : decode cX8_off 11 = .ok (.invokevirtual 334, 3) := dk_182 1 78 (dk_at dksX8_off_0 11 rfl rfl)
theorem dX8_off_14 : decode cX8_off 14 = .ok (.ifCond .ne 6, 3) := dk_154 0 6 (dk_at dksX8_off_0 14 rfl rfl)
theorem dX8_off_17 : decode cX8_off 17 = .ok (.bipush (-5), 2) := dk_16 251 (dk_at dksX8_off_0 17 rfl rfl)
theorem dX8_off_19 : decode cX8_off 19 = .ok (.ireturn, 1) := dk_172 (dk_at dksX8_off_0 19 rfl rfl)
theorem dX8_off_20 : decode cX8_off 20 = .ok (.aload_n 0, 1) := dk_42 (dk_at dksX8_off_0 20 rfl rfl)
theorem dX8_off_21 : decode cX8_off 21 = .ok (.invokevirtual 404, 3) := dk_182 1 148 (dk_at dksX8_off_0 21 rfl rfl)
theorem dX8_off_24 : decode cX8_off 24 = .ok (.iconst 0, 1) := dk_3 (dk_at dksX8_off_1 0 rfl rfl)
theorem dX8_off_25 : decode cX8_off 25 = .ok (.istore_n 1, 1) := dk_60 (dk_at dksX8_off_1 1 rfl rfl)
theorem dX8_off_26 : decode cX8_off 26 = .ok (.iload_n 1, 1) := dk_27 (dk_at dksX8_off_1 2 rfl rfl)
theorem dX8_off_27 : decode cX8_off 27 = .ok (.aload_n 0, 1) := dk_42 (dk_at dksX8_off_1 3 rfl rfl)
theorem dX8_off_28 : decode cX8_off 28 = .ok (.getfield 13, 3) := dk_180 0 13 (dk_at dksX8_off_1 4 rfl rfl)
theorem dX8_off_31 : decode cX8_off 31 = .ok (.iconst 2, 1) := dk_5 (dk_at dksX8_off_1 7 rfl rfl)
theorem dX8_off_32 : decode cX8_off 32 = .ok (.iaload, 1) := dk_46 (dk_at dksX8_off_1 8 rfl rfl)
theorem dX8_off_33 : decode cX8_off 33 = .ok (.if_icmp .ge 25, 3) := dk_162 0 25 (dk_at dksX8_off_1 9 rfl rfl)
theorem dX8_off_36 : decode cX8_off 36 = .ok (.aload_n 0, 1) := dk_42 (dk_at dksX8_off_1 12 rfl rfl)
theorem dX8_off_37 : decode cX8_off 37 = .ok (.getfield 13, 3) := dk_180 0 13 (dk_at dksX8_off_1 13 rfl rfl)
theorem dX8_off_40 : decode cX8_off 40 = .ok (.sipush 624, 3) := dk_17 2 112 (dk_at dksX8_off_1 16 rfl rfl)
theorem dX8_off_43 : decode cX8_off 43 = .ok (.bipush 6, 2) := dk_16 6 (dk_at dksX8_off_1 19 rfl rfl)
theorem dX8_off_45 : decode cX8_off 45 = .ok (.iload_n 1, 1) := dk_27 (dk_at dksX8_off_1 21 rfl rfl)
theorem dX8_off_46 : decode cX8_off 46 = .ok (.imul, 1) := dk_104 (dk_at dksX8_off_1 22 rfl rfl)
theorem dX8_off_47 : decode cX8_off 47 = .ok (.iadd, 1) := dk_96 (dk_at dksX8_off_1 23 rfl rfl)
theorem dX8_off_48 : decode cX8_off 48 = .ok (.iconst 3, 1) := dk_6 (dk_at dksX8_off_2 0 rfl rfl)
theorem dX8_off_49 : decode cX8_off 49 = .ok (.iadd, 1) := dk_96 (dk_at dksX8_off_2 1 rfl rfl)
theorem dX8_off_50 : decode cX8_off 50 = .ok (.iconst 0, 1) := dk_3 (dk_at dksX8_off_2 2 rfl rfl)
theorem dX8_off_51 : decode cX8_off 51 = .ok (.iastore, 1) := dk_79 (dk_at dksX8_off_2 3 rfl rfl)
theorem dX8_off_52 : decode cX8_off 52 = .ok (.iinc 1 1, 3) := dk_132 1 1 (dk_at dksX8_off_2 4 rfl rfl)
theorem dX8_off_55 : decode cX8_off 55 = .ok (.goto (-29), 3) := dk_167 255 227 (dk_at dksX8_off_2 7 rfl rfl)
theorem dX8_off_58 : decode cX8_off 58 = .ok (.iconst (-1), 1) := dk_2 (dk_at dksX8_off_2 10 rfl rfl)
theorem dX8_off_59 : decode cX8_off 59 = .ok (.istore_n 1, 1) := dk_60 (dk_at dksX8_off_2 11 rfl rfl)
theorem dX8_off_60 : decode cX8_off 60 = .ok (.iconst 1, 1) := dk_4 (dk_at dksX8_off_2 12 rfl rfl)
theorem dX8_off_61 : decode cX8_off 61 = .ok (.istore_n 2, 1) := dk_61 (dk_at dksX8_off_2 13 rfl rfl)
theorem dX8_off_62 : decode cX8_off 62 = .ok (.iload_n 2, 1) := dk_28 (dk_at dksX8_off_2 14 rfl rfl)
theorem dX8_off_63 : decode cX8_off 63 = .ok (.bipush 60, 2) := dk_16 60 (dk_at dksX8_off_2 15 rfl rfl)
theorem dX8_off_65 : decode cX8_off 65 = .ok (.if_icmp .gt 27, 3) := dk_163 0 27 (dk_at dksX8_off_2 17 rfl rfl)
theorem dX8_off_68 : decode cX8_off 68 = .ok (.iload_n 1, 1) := dk_27 (dk_at dksX8_off_2 20 rfl rfl)
theorem dX8_off_69 : decode cX8_off 69 = .ok (.iconst (-1), 1) := dk_2 (dk_at dksX8_off_2 21 rfl rfl)
theorem dX8_off_70 : decode cX8_off 70 = .ok (.if_icmp .ne 22, 3) := dk_160 0 22 (dk_at dksX8_off_3 0 rfl rfl)
theorem dX8_off_73 : decode cX8_off 73 = .ok (.aload_n 0, 1) := dk_42 (dk_at dksX8_off_3 3 rfl rfl)
theorem dX8_off_74 : decode cX8_off 74 = .ok (.invokevirtual 339, 3) := dk_182 1 83 (dk_at dksX8_off_3 4 rfl rfl)
theorem dX8_off_77 : decode cX8_off 77 = .ok (.aload_n 0, 1) := dk_42 (dk_at dksX8_off_3 7 rfl rfl)
theorem dX8_off_78 : decode cX8_off 78 = .ok (.invokevirtual 334, 3) := dk_182 1 78 (dk_at dksX8_off_3 8 rfl rfl)
theorem dX8_off_81 : decode cX8_off 81 = .ok (.ifCond .ne 5, 3) := dk_154 0 5 (dk_at dksX8_off_3 11 rfl rfl)
theorem dX8_off_84 : decode cX8_off 84 = .ok (.iload_n 2, 1) := dk_28 (dk_at dksX8_off_3 14 rfl rfl)
theorem dX8_off_85 : decode cX8_off 85 = .ok (.istore_n 1, 1) := dk_60 (dk_at dksX8_off_3 15 rfl rfl)
theorem dX8_off_86 : decode cX8_off 86 = .ok (.iinc 2 1, 3) := dk_132 2 1 (dk_at dksX8_off_3 16 rfl rfl)
theorem dX8_off_89 : decode cX8_off 89 = .ok (.goto (-27), 3) := dk_167 255 229 (dk_at dksX8_off_3 19 rfl rfl)
theorem dX8_off_92 : decode cX8_off 92 = .ok (.aload_n 0, 1) := dk_42 (dk_at dksX8_off_3 22 rfl rfl)
theorem dX8_off_93 : decode cX8_off 93 = .ok (.invokevirtual 407, 3) := dk_182 1 151 (dk_at dksX8_off_4 0 rfl rfl)
theorem dX8_off_96 : decode cX8_off 96 = .ok (.iload_n 1, 1) := dk_27 (dk_at dksX8_off_4 3 rfl rfl)
theorem dX8_off_97 : decode cX8_off 97 = .ok (.ireturn, 1) := dk_172 (dk_at dksX8_off_4 4 rfl rfl)
abbrev cX8_more : ByteArray := prog_16_method_89_code
def yX8_more : MethodName := ⟨RX8, "more", "(II)I"⟩
def dkwX8_more_7 : List UInt8 := [160, 0, 5, 2, 172, 42, 29, 181, 1, 174, 29, 184, 1, 164, 172]
abbrev dktX8_more_7 : List UInt8 := dkwX8_more_7 ++ []
def dkwX8_more_6 : List UInt8 := [42, 27, 21, 4, 28, 182, 1, 170, 153, 0, 6, 21, 4, 62, 132, 4, 1, 167, 255, 176, 29, 2]
abbrev dktX8_more_6 : List UInt8 := dkwX8_more_6 ++ dktX8_more_7
def dkwX8_more_5 : List UInt8 := [160, 0, 16, 21, 4, 29, 184, 1, 167, 153, 0, 7, 4, 167, 0, 4, 3, 54, 5, 21, 5, 153, 0, 17]
abbrev dktX8_more_5 : List UInt8 := dkwX8_more_5 ++ dktX8_more_6
def dkwX8_more_4 : List UInt8 := [159, 0, 36, 21, 4, 184, 1, 164, 29, 184, 1, 164, 161, 0, 24, 21, 4, 184, 1, 164, 29, 184, 1, 164]
abbrev dktX8_more_4 : List UInt8 := dkwX8_more_4 ++ dktX8_more_5
def dkwX8_more_3 : List UInt8 := [16, 249, 172, 2, 62, 3, 54, 4, 21, 4, 4, 42, 180, 0, 73, 27, 46, 120, 162, 0, 73, 29, 2]
abbrev dktX8_more_3 : List UInt8 := dkwX8_more_3 ++ dktX8_more_4
def dkwX8_more_2 : List UInt8 := [153, 0, 12, 42, 180, 0, 13, 5, 46, 154, 0, 6, 16, 250, 172, 42, 27, 182, 1, 161, 154, 0, 6]
abbrev dktX8_more_2 : List UInt8 := dkwX8_more_2 ++ dktX8_more_3
def dkwX8_more_1 : List UInt8 := [46, 16, 6, 164, 0, 6, 16, 254, 172, 42, 180, 0, 73, 27, 46, 2, 159, 0, 19, 42, 182, 1, 109]
abbrev dktX8_more_1 : List UInt8 := dkwX8_more_1 ++ dktX8_more_2
def dkwX8_more_0 : List UInt8 := [27, 184, 1, 156, 153, 0, 26, 28, 133, 10, 20, 1, 159, 184, 0, 110, 153, 0, 14, 42, 180, 0, 73, 27]
abbrev dktX8_more_0 : List UInt8 := dkwX8_more_0 ++ dktX8_more_1
theorem dksX8_more_0 : cX8_more.data.toList.drop 0 = dktX8_more_0 := by decide +kernel
theorem dksX8_more_1 : cX8_more.data.toList.drop 24 = dktX8_more_1 := dk_seg dksX8_more_0 24 rfl rfl
theorem dksX8_more_2 : cX8_more.data.toList.drop 47 = dktX8_more_2 := dk_seg dksX8_more_1 23 rfl rfl
theorem dksX8_more_3 : cX8_more.data.toList.drop 70 = dktX8_more_3 := dk_seg dksX8_more_2 23 rfl rfl
theorem dksX8_more_4 : cX8_more.data.toList.drop 93 = dktX8_more_4 := dk_seg dksX8_more_3 23 rfl rfl
theorem dksX8_more_5 : cX8_more.data.toList.drop 117 = dktX8_more_5 := dk_seg dksX8_more_4 24 rfl rfl
theorem dksX8_more_6 : cX8_more.data.toList.drop 141 = dktX8_more_6 := dk_seg dksX8_more_5 24 rfl rfl
theorem dksX8_more_7 : cX8_more.data.toList.drop 163 = dktX8_more_7 := dk_seg dksX8_more_6 22 rfl rfl
theorem dX8_more_0 : decode cX8_more 0 = .ok (.iload_n 1, 1) := dk_27 (dk_at dksX8_more_0 0 rfl rfl)
theorem dX8_more_1 : decode cX8_more 1 = .ok (.invokestatic 412, 3) := dk_184 1 156 (dk_at dksX8_more_0 1 rfl rfl)
theorem dX8_more_4 : decode cX8_more 4 = .ok (.ifCond .eq 26, 3) := dk_153 0 26 (dk_at dksX8_more_0 4 rfl rfl)
theorem dX8_more_7 : decode cX8_more 7 = .ok (.iload_n 2, 1) := dk_28 (dk_at dksX8_more_0 7 rfl rfl)
theorem dX8_more_8 : decode cX8_more 8 = .ok (.i2l, 1) := dk_133 (dk_at dksX8_more_0 8 rfl rfl)
theorem dX8_more_9 : decode cX8_more 9 = .ok (.lconst 1, 1) := dk_10 (dk_at dksX8_more_0 9 rfl rfl)
theorem dX8_more_10 : decode cX8_more 10 = .ok (.ldc2_w 415, 3) := dk_20 1 159 (dk_at dksX8_more_0 10 rfl rfl)
theorem dX8_more_13 : decode cX8_more 13 = .ok (.invokestatic 110, 3) := dk_184 0 110 (dk_at dksX8_more_0 13 rfl rfl)
theorem dX8_more_16 : decode cX8_more 16 = .ok (.ifCond .eq 14, 3) := dk_153 0 14 (dk_at dksX8_more_0 16 rfl rfl)
theorem dX8_more_19 : decode cX8_more 19 = .ok (.aload_n 0, 1) := dk_42 (dk_at dksX8_more_0 19 rfl rfl)
theorem dX8_more_20 : decode cX8_more 20 = .ok (.getfield 73, 3) := dk_180 0 73 (dk_at dksX8_more_0 20 rfl rfl)
theorem dX8_more_23 : decode cX8_more 23 = .ok (.iload_n 1, 1) := dk_27 (dk_at dksX8_more_0 23 rfl rfl)
theorem dX8_more_24 : decode cX8_more 24 = .ok (.iaload, 1) := dk_46 (dk_at dksX8_more_1 0 rfl rfl)
theorem dX8_more_25 : decode cX8_more 25 = .ok (.bipush 6, 2) := dk_16 6 (dk_at dksX8_more_1 1 rfl rfl)
theorem dX8_more_27 : decode cX8_more 27 = .ok (.if_icmp .le 6, 3) := dk_164 0 6 (dk_at dksX8_more_1 3 rfl rfl)
theorem dX8_more_30 : decode cX8_more 30 = .ok (.bipush (-2), 2) := dk_16 254 (dk_at dksX8_more_1 6 rfl rfl)
theorem dX8_more_32 : decode cX8_more 32 = .ok (.ireturn, 1) := dk_172 (dk_at dksX8_more_1 8 rfl rfl)
theorem dX8_more_33 : decode cX8_more 33 = .ok (.aload_n 0, 1) := dk_42 (dk_at dksX8_more_1 9 rfl rfl)
theorem dX8_more_34 : decode cX8_more 34 = .ok (.getfield 73, 3) := dk_180 0 73 (dk_at dksX8_more_1 10 rfl rfl)
theorem dX8_more_37 : decode cX8_more 37 = .ok (.iload_n 1, 1) := dk_27 (dk_at dksX8_more_1 13 rfl rfl)
theorem dX8_more_38 : decode cX8_more 38 = .ok (.iaload, 1) := dk_46 (dk_at dksX8_more_1 14 rfl rfl)
theorem dX8_more_39 : decode cX8_more 39 = .ok (.iconst (-1), 1) := dk_2 (dk_at dksX8_more_1 15 rfl rfl)
theorem dX8_more_40 : decode cX8_more 40 = .ok (.if_icmp .eq 19, 3) := dk_159 0 19 (dk_at dksX8_more_1 16 rfl rfl)
theorem dX8_more_43 : decode cX8_more 43 = .ok (.aload_n 0, 1) := dk_42 (dk_at dksX8_more_1 19 rfl rfl)
theorem dX8_more_44 : decode cX8_more 44 = .ok (.invokevirtual 365, 3) := dk_182 1 109 (dk_at dksX8_more_1 20 rfl rfl)
theorem dX8_more_47 : decode cX8_more 47 = .ok (.ifCond .eq 12, 3) := dk_153 0 12 (dk_at dksX8_more_2 0 rfl rfl)
theorem dX8_more_50 : decode cX8_more 50 = .ok (.aload_n 0, 1) := dk_42 (dk_at dksX8_more_2 3 rfl rfl)
theorem dX8_more_51 : decode cX8_more 51 = .ok (.getfield 13, 3) := dk_180 0 13 (dk_at dksX8_more_2 4 rfl rfl)
theorem dX8_more_54 : decode cX8_more 54 = .ok (.iconst 2, 1) := dk_5 (dk_at dksX8_more_2 7 rfl rfl)
theorem dX8_more_55 : decode cX8_more 55 = .ok (.iaload, 1) := dk_46 (dk_at dksX8_more_2 8 rfl rfl)
theorem dX8_more_56 : decode cX8_more 56 = .ok (.ifCond .ne 6, 3) := dk_154 0 6 (dk_at dksX8_more_2 9 rfl rfl)
theorem dX8_more_59 : decode cX8_more 59 = .ok (.bipush (-6), 2) := dk_16 250 (dk_at dksX8_more_2 12 rfl rfl)
theorem dX8_more_61 : decode cX8_more 61 = .ok (.ireturn, 1) := dk_172 (dk_at dksX8_more_2 14 rfl rfl)
theorem dX8_more_62 : decode cX8_more 62 = .ok (.aload_n 0, 1) := dk_42 (dk_at dksX8_more_2 15 rfl rfl)
theorem dX8_more_63 : decode cX8_more 63 = .ok (.iload_n 1, 1) := dk_27 (dk_at dksX8_more_2 16 rfl rfl)
theorem dX8_more_64 : decode cX8_more 64 = .ok (.invokevirtual 417, 3) := dk_182 1 161 (dk_at dksX8_more_2 17 rfl rfl)
theorem dX8_more_67 : decode cX8_more 67 = .ok (.ifCond .ne 6, 3) := dk_154 0 6 (dk_at dksX8_more_2 20 rfl rfl)
theorem dX8_more_70 : decode cX8_more 70 = .ok (.bipush (-7), 2) := dk_16 249 (dk_at dksX8_more_3 0 rfl rfl)
theorem dX8_more_72 : decode cX8_more 72 = .ok (.ireturn, 1) := dk_172 (dk_at dksX8_more_3 2 rfl rfl)
theorem dX8_more_73 : decode cX8_more 73 = .ok (.iconst (-1), 1) := dk_2 (dk_at dksX8_more_3 3 rfl rfl)
theorem dX8_more_74 : decode cX8_more 74 = .ok (.istore_n 3, 1) := dk_62 (dk_at dksX8_more_3 4 rfl rfl)
theorem dX8_more_75 : decode cX8_more 75 = .ok (.iconst 0, 1) := dk_3 (dk_at dksX8_more_3 5 rfl rfl)
theorem dX8_more_76 : decode cX8_more 76 = .ok (.istore 4, 2) := dk_54 4 (dk_at dksX8_more_3 6 rfl rfl)
theorem dX8_more_78 : decode cX8_more 78 = .ok (.iload 4, 2) := dk_21 4 (dk_at dksX8_more_3 8 rfl rfl)
theorem dX8_more_80 : decode cX8_more 80 = .ok (.iconst 1, 1) := dk_4 (dk_at dksX8_more_3 10 rfl rfl)
theorem dX8_more_81 : decode cX8_more 81 = .ok (.aload_n 0, 1) := dk_42 (dk_at dksX8_more_3 11 rfl rfl)
theorem dX8_more_82 : decode cX8_more 82 = .ok (.getfield 73, 3) := dk_180 0 73 (dk_at dksX8_more_3 12 rfl rfl)
theorem dX8_more_85 : decode cX8_more 85 = .ok (.iload_n 1, 1) := dk_27 (dk_at dksX8_more_3 15 rfl rfl)
theorem dX8_more_86 : decode cX8_more 86 = .ok (.iaload, 1) := dk_46 (dk_at dksX8_more_3 16 rfl rfl)
theorem dX8_more_87 : decode cX8_more 87 = .ok (.ishl, 1) := dk_120 (dk_at dksX8_more_3 17 rfl rfl)
theorem dX8_more_88 : decode cX8_more 88 = .ok (.if_icmp .ge 73, 3) := dk_162 0 73 (dk_at dksX8_more_3 18 rfl rfl)
theorem dX8_more_91 : decode cX8_more 91 = .ok (.iload_n 3, 1) := dk_29 (dk_at dksX8_more_3 21 rfl rfl)
theorem dX8_more_92 : decode cX8_more 92 = .ok (.iconst (-1), 1) := dk_2 (dk_at dksX8_more_3 22 rfl rfl)
theorem dX8_more_93 : decode cX8_more 93 = .ok (.if_icmp .eq 36, 3) := dk_159 0 36 (dk_at dksX8_more_4 0 rfl rfl)
theorem dX8_more_96 : decode cX8_more 96 = .ok (.iload 4, 2) := dk_21 4 (dk_at dksX8_more_4 3 rfl rfl)
theorem dX8_more_98 : decode cX8_more 98 = .ok (.invokestatic 420, 3) := dk_184 1 164 (dk_at dksX8_more_4 5 rfl rfl)
theorem dX8_more_101 : decode cX8_more 101 = .ok (.iload_n 3, 1) := dk_29 (dk_at dksX8_more_4 8 rfl rfl)
theorem dX8_more_102 : decode cX8_more 102 = .ok (.invokestatic 420, 3) := dk_184 1 164 (dk_at dksX8_more_4 9 rfl rfl)
theorem dX8_more_105 : decode cX8_more 105 = .ok (.if_icmp .lt 24, 3) := dk_161 0 24 (dk_at dksX8_more_4 12 rfl rfl)
theorem dX8_more_108 : decode cX8_more 108 = .ok (.iload 4, 2) := dk_21 4 (dk_at dksX8_more_4 15 rfl rfl)
theorem dX8_more_110 : decode cX8_more 110 = .ok (.invokestatic 420, 3) := dk_184 1 164 (dk_at dksX8_more_4 17 rfl rfl)
theorem dX8_more_113 : decode cX8_more 113 = .ok (.iload_n 3, 1) := dk_29 (dk_at dksX8_more_4 20 rfl rfl)
theorem dX8_more_114 : decode cX8_more 114 = .ok (.invokestatic 420, 3) := dk_184 1 164 (dk_at dksX8_more_4 21 rfl rfl)
theorem dX8_more_117 : decode cX8_more 117 = .ok (.if_icmp .ne 16, 3) := dk_160 0 16 (dk_at dksX8_more_5 0 rfl rfl)
theorem dX8_more_120 : decode cX8_more 120 = .ok (.iload 4, 2) := dk_21 4 (dk_at dksX8_more_5 3 rfl rfl)
theorem dX8_more_122 : decode cX8_more 122 = .ok (.iload_n 3, 1) := dk_29 (dk_at dksX8_more_5 5 rfl rfl)
theorem dX8_more_123 : decode cX8_more 123 = .ok (.invokestatic 423, 3) := dk_184 1 167 (dk_at dksX8_more_5 6 rfl rfl)
theorem dX8_more_126 : decode cX8_more 126 = .ok (.ifCond .eq 7, 3) := dk_153 0 7 (dk_at dksX8_more_5 9 rfl rfl)
theorem dX8_more_129 : decode cX8_more 129 = .ok (.iconst 1, 1) := dk_4 (dk_at dksX8_more_5 12 rfl rfl)
theorem dX8_more_130 : decode cX8_more 130 = .ok (.goto 4, 3) := dk_167 0 4 (dk_at dksX8_more_5 13 rfl rfl)
theorem dX8_more_133 : decode cX8_more 133 = .ok (.iconst 0, 1) := dk_3 (dk_at dksX8_more_5 16 rfl rfl)
theorem dX8_more_134 : decode cX8_more 134 = .ok (.istore 5, 2) := dk_54 5 (dk_at dksX8_more_5 17 rfl rfl)
theorem dX8_more_136 : decode cX8_more 136 = .ok (.iload 5, 2) := dk_21 5 (dk_at dksX8_more_5 19 rfl rfl)
theorem dX8_more_138 : decode cX8_more 138 = .ok (.ifCond .eq 17, 3) := dk_153 0 17 (dk_at dksX8_more_5 21 rfl rfl)
theorem dX8_more_141 : decode cX8_more 141 = .ok (.aload_n 0, 1) := dk_42 (dk_at dksX8_more_6 0 rfl rfl)
theorem dX8_more_142 : decode cX8_more 142 = .ok (.iload_n 1, 1) := dk_27 (dk_at dksX8_more_6 1 rfl rfl)
theorem dX8_more_143 : decode cX8_more 143 = .ok (.iload 4, 2) := dk_21 4 (dk_at dksX8_more_6 2 rfl rfl)
theorem dX8_more_145 : decode cX8_more 145 = .ok (.iload_n 2, 1) := dk_28 (dk_at dksX8_more_6 4 rfl rfl)
theorem dX8_more_146 : decode cX8_more 146 = .ok (.invokevirtual 426, 3) := dk_182 1 170 (dk_at dksX8_more_6 5 rfl rfl)
theorem dX8_more_149 : decode cX8_more 149 = .ok (.ifCond .eq 6, 3) := dk_153 0 6 (dk_at dksX8_more_6 8 rfl rfl)
theorem dX8_more_152 : decode cX8_more 152 = .ok (.iload 4, 2) := dk_21 4 (dk_at dksX8_more_6 11 rfl rfl)
theorem dX8_more_154 : decode cX8_more 154 = .ok (.istore_n 3, 1) := dk_62 (dk_at dksX8_more_6 13 rfl rfl)
theorem dX8_more_155 : decode cX8_more 155 = .ok (.iinc 4 1, 3) := dk_132 4 1 (dk_at dksX8_more_6 14 rfl rfl)
theorem dX8_more_158 : decode cX8_more 158 = .ok (.goto (-80), 3) := dk_167 255 176 (dk_at dksX8_more_6 17 rfl rfl)
theorem dX8_more_161 : decode cX8_more 161 = .ok (.iload_n 3, 1) := dk_29 (dk_at dksX8_more_6 20 rfl rfl)
theorem dX8_more_162 : decode cX8_more 162 = .ok (.iconst (-1), 1) := dk_2 (dk_at dksX8_more_6 21 rfl rfl)
theorem dX8_more_163 : decode cX8_more 163 = .ok (.if_icmp .ne 5, 3) := dk_160 0 5 (dk_at dksX8_more_7 0 rfl rfl)
theorem dX8_more_166 : decode cX8_more 166 = .ok (.iconst (-1), 1) := dk_2 (dk_at dksX8_more_7 3 rfl rfl)
theorem dX8_more_167 : decode cX8_more 167 = .ok (.ireturn, 1) := dk_172 (dk_at dksX8_more_7 4 rfl rfl)
theorem dX8_more_168 : decode cX8_more 168 = .ok (.aload_n 0, 1) := dk_42 (dk_at dksX8_more_7 5 rfl rfl)
theorem dX8_more_169 : decode cX8_more 169 = .ok (.iload_n 3, 1) := dk_29 (dk_at dksX8_more_7 6 rfl rfl)
theorem dX8_more_170 : decode cX8_more 170 = .ok (.putfield 430, 3) := dk_181 1 174 (dk_at dksX8_more_7 7 rfl rfl)
theorem dX8_more_173 : decode cX8_more 173 = .ok (.iload_n 3, 1) := dk_29 (dk_at dksX8_more_7 10 rfl rfl)
theorem dX8_more_174 : decode cX8_more 174 = .ok (.invokestatic 420, 3) := dk_184 1 164 (dk_at dksX8_more_7 11 rfl rfl)
theorem dX8_more_177 : decode cX8_more 177 = .ok (.ireturn, 1) := dk_172 (dk_at dksX8_more_7 14 rfl rfl)
abbrev cX8_isSlot : ByteArray := prog_16_method_96_code
def yX8_isSlot : MethodName := ⟨RX8, "isSlot", "(I)Z"⟩
def dkwX8_isSlot_0 : List UInt8 := [26, 133, 9, 20, 0, 198, 184, 0, 110, 172]
abbrev dktX8_isSlot_0 : List UInt8 := dkwX8_isSlot_0 ++ []
theorem dksX8_isSlot_0 : cX8_isSlot.data.toList.drop 0 = dktX8_isSlot_0 := by decide +kernel
theorem dX8_isSlot_0 : decode cX8_isSlot 0 = .ok (.iload_n 0, 1) := dk_26 (dk_at dksX8_isSlot_0 0 rfl rfl)
theorem dX8_isSlot_1 : decode cX8_isSlot 1 = .ok (.i2l, 1) := dk_133 (dk_at dksX8_isSlot_0 1 rfl rfl)
theorem dX8_isSlot_2 : decode cX8_isSlot 2 = .ok (.lconst 0, 1) := dk_9 (dk_at dksX8_isSlot_0 2 rfl rfl)
theorem dX8_isSlot_3 : decode cX8_isSlot 3 = .ok (.ldc2_w 198, 3) := dk_20 0 198 (dk_at dksX8_isSlot_0 3 rfl rfl)
theorem dX8_isSlot_6 : decode cX8_isSlot 6 = .ok (.invokestatic 110, 3) := dk_184 0 110 (dk_at dksX8_isSlot_0 6 rfl rfl)
theorem dX8_isSlot_9 : decode cX8_isSlot 9 = .ok (.ireturn, 1) := dk_172 (dk_at dksX8_isSlot_0 9 rfl rfl)
abbrev cX8_mayTell : ByteArray := prog_16_method_88_code
def yX8_mayTell : MethodName := ⟨RX8, "mayTell", "(I)Z"⟩
def dkwX8_mayTell_4 : List UInt8 := [4, 172]
abbrev dktX8_mayTell_4 : List UInt8 := dkwX8_mayTell_4 ++ []
def dkwX8_mayTell_3 : List UInt8 := [104, 21, 5, 96, 47, 33, 148, 154, 0, 5, 3, 172, 132, 5, 1, 167, 255, 228, 132, 2, 1, 167, 255, 165]
abbrev dktX8_mayTell_3 : List UInt8 := dkwX8_mayTell_3 ++ dktX8_mayTell_4
def dkwX8_mayTell_2 : List UInt8 := [182, 0, 102, 153, 0, 5, 3, 172, 3, 54, 5, 21, 5, 28, 162, 0, 28, 42, 180, 0, 79, 16, 60, 27]
abbrev dktX8_mayTell_2 : List UInt8 := dkwX8_mayTell_2 ++ dktX8_mayTell_3
def dkwX8_mayTell_1 : List UInt8 := [33, 9, 20, 1, 154, 184, 0, 110, 153, 0, 22, 42, 33, 136, 182, 1, 87, 2, 160, 0, 12, 42, 33, 136]
abbrev dktX8_mayTell_1 : List UInt8 := dkwX8_mayTell_1 ++ dktX8_mayTell_2
def dkwX8_mayTell_0 : List UInt8 := [3, 61, 28, 42, 180, 0, 73, 27, 46, 162, 0, 87, 42, 180, 0, 79, 16, 60, 27, 104, 28, 96, 47, 66]
abbrev dktX8_mayTell_0 : List UInt8 := dkwX8_mayTell_0 ++ dktX8_mayTell_1
theorem dksX8_mayTell_0 : cX8_mayTell.data.toList.drop 0 = dktX8_mayTell_0 := by decide +kernel
theorem dksX8_mayTell_1 : cX8_mayTell.data.toList.drop 24 = dktX8_mayTell_1 := dk_seg dksX8_mayTell_0 24 rfl rfl
theorem dksX8_mayTell_2 : cX8_mayTell.data.toList.drop 48 = dktX8_mayTell_2 := dk_seg dksX8_mayTell_1 24 rfl rfl
theorem dksX8_mayTell_3 : cX8_mayTell.data.toList.drop 72 = dktX8_mayTell_3 := dk_seg dksX8_mayTell_2 24 rfl rfl
theorem dksX8_mayTell_4 : cX8_mayTell.data.toList.drop 96 = dktX8_mayTell_4 := dk_seg dksX8_mayTell_3 24 rfl rfl
theorem dX8_mayTell_0 : decode cX8_mayTell 0 = .ok (.iconst 0, 1) := dk_3 (dk_at dksX8_mayTell_0 0 rfl rfl)
theorem dX8_mayTell_1 : decode cX8_mayTell 1 = .ok (.istore_n 2, 1) := dk_61 (dk_at dksX8_mayTell_0 1 rfl rfl)
theorem dX8_mayTell_2 : decode cX8_mayTell 2 = .ok (.iload_n 2, 1) := dk_28 (dk_at dksX8_mayTell_0 2 rfl rfl)
theorem dX8_mayTell_3 : decode cX8_mayTell 3 = .ok (.aload_n 0, 1) := dk_42 (dk_at dksX8_mayTell_0 3 rfl rfl)
theorem dX8_mayTell_4 : decode cX8_mayTell 4 = .ok (.getfield 73, 3) := dk_180 0 73 (dk_at dksX8_mayTell_0 4 rfl rfl)
theorem dX8_mayTell_7 : decode cX8_mayTell 7 = .ok (.iload_n 1, 1) := dk_27 (dk_at dksX8_mayTell_0 7 rfl rfl)
theorem dX8_mayTell_8 : decode cX8_mayTell 8 = .ok (.iaload, 1) := dk_46 (dk_at dksX8_mayTell_0 8 rfl rfl)
theorem dX8_mayTell_9 : decode cX8_mayTell 9 = .ok (.if_icmp .ge 87, 3) := dk_162 0 87 (dk_at dksX8_mayTell_0 9 rfl rfl)
theorem dX8_mayTell_12 : decode cX8_mayTell 12 = .ok (.aload_n 0, 1) := dk_42 (dk_at dksX8_mayTell_0 12 rfl rfl)
theorem dX8_mayTell_13 : decode cX8_mayTell 13 = .ok (.getfield 79, 3) := dk_180 0 79 (dk_at dksX8_mayTell_0 13 rfl rfl)
theorem dX8_mayTell_16 : decode cX8_mayTell 16 = .ok (.bipush 60, 2) := dk_16 60 (dk_at dksX8_mayTell_0 16 rfl rfl)
theorem dX8_mayTell_18 : decode cX8_mayTell 18 = .ok (.iload_n 1, 1) := dk_27 (dk_at dksX8_mayTell_0 18 rfl rfl)
theorem dX8_mayTell_19 : decode cX8_mayTell 19 = .ok (.imul, 1) := dk_104 (dk_at dksX8_mayTell_0 19 rfl rfl)
theorem dX8_mayTell_20 : decode cX8_mayTell 20 = .ok (.iload_n 2, 1) := dk_28 (dk_at dksX8_mayTell_0 20 rfl rfl)
theorem dX8_mayTell_21 : decode cX8_mayTell 21 = .ok (.iadd, 1) := dk_96 (dk_at dksX8_mayTell_0 21 rfl rfl)
theorem dX8_mayTell_22 : decode cX8_mayTell 22 = .ok (.laload, 1) := dk_47 (dk_at dksX8_mayTell_0 22 rfl rfl)
theorem dX8_mayTell_23 : decode cX8_mayTell 23 = .ok (.lstore_n 3, 1) := dk_66 (dk_at dksX8_mayTell_0 23 rfl rfl)
theorem dX8_mayTell_24 : decode cX8_mayTell 24 = .ok (.lload_n 3, 1) := dk_33 (dk_at dksX8_mayTell_1 0 rfl rfl)
theorem dX8_mayTell_25 : decode cX8_mayTell 25 = .ok (.lconst 0, 1) := dk_9 (dk_at dksX8_mayTell_1 1 rfl rfl)
theorem dX8_mayTell_26 : decode cX8_mayTell 26 = .ok (.ldc2_w 410, 3) := dk_20 1 154 (dk_at dksX8_mayTell_1 2 rfl rfl)
theorem dX8_mayTell_29 : decode cX8_mayTell 29 = .ok (.invokestatic 110, 3) := dk_184 0 110 (dk_at dksX8_mayTell_1 5 rfl rfl)
theorem dX8_mayTell_32 : decode cX8_mayTell 32 = .ok (.ifCond .eq 22, 3) := dk_153 0 22 (dk_at dksX8_mayTell_1 8 rfl rfl)
theorem dX8_mayTell_35 : decode cX8_mayTell 35 = .ok (.aload_n 0, 1) := dk_42 (dk_at dksX8_mayTell_1 11 rfl rfl)
theorem dX8_mayTell_36 : decode cX8_mayTell 36 = .ok (.lload_n 3, 1) := dk_33 (dk_at dksX8_mayTell_1 12 rfl rfl)
theorem dX8_mayTell_37 : decode cX8_mayTell 37 = .ok (.l2i, 1) := dk_136 (dk_at dksX8_mayTell_1 13 rfl rfl)
theorem dX8_mayTell_38 : decode cX8_mayTell 38 = .ok (.invokevirtual 343, 3) := dk_182 1 87 (dk_at dksX8_mayTell_1 14 rfl rfl)
theorem dX8_mayTell_41 : decode cX8_mayTell 41 = .ok (.iconst (-1), 1) := dk_2 (dk_at dksX8_mayTell_1 17 rfl rfl)
theorem dX8_mayTell_42 : decode cX8_mayTell 42 = .ok (.if_icmp .ne 12, 3) := dk_160 0 12 (dk_at dksX8_mayTell_1 18 rfl rfl)
theorem dX8_mayTell_45 : decode cX8_mayTell 45 = .ok (.aload_n 0, 1) := dk_42 (dk_at dksX8_mayTell_1 21 rfl rfl)
theorem dX8_mayTell_46 : decode cX8_mayTell 46 = .ok (.lload_n 3, 1) := dk_33 (dk_at dksX8_mayTell_1 22 rfl rfl)
theorem dX8_mayTell_47 : decode cX8_mayTell 47 = .ok (.l2i, 1) := dk_136 (dk_at dksX8_mayTell_1 23 rfl rfl)
theorem dX8_mayTell_48 : decode cX8_mayTell 48 = .ok (.invokevirtual 102, 3) := dk_182 0 102 (dk_at dksX8_mayTell_2 0 rfl rfl)
theorem dX8_mayTell_51 : decode cX8_mayTell 51 = .ok (.ifCond .eq 5, 3) := dk_153 0 5 (dk_at dksX8_mayTell_2 3 rfl rfl)
theorem dX8_mayTell_54 : decode cX8_mayTell 54 = .ok (.iconst 0, 1) := dk_3 (dk_at dksX8_mayTell_2 6 rfl rfl)
theorem dX8_mayTell_55 : decode cX8_mayTell 55 = .ok (.ireturn, 1) := dk_172 (dk_at dksX8_mayTell_2 7 rfl rfl)
theorem dX8_mayTell_56 : decode cX8_mayTell 56 = .ok (.iconst 0, 1) := dk_3 (dk_at dksX8_mayTell_2 8 rfl rfl)
theorem dX8_mayTell_57 : decode cX8_mayTell 57 = .ok (.istore 5, 2) := dk_54 5 (dk_at dksX8_mayTell_2 9 rfl rfl)
theorem dX8_mayTell_59 : decode cX8_mayTell 59 = .ok (.iload 5, 2) := dk_21 5 (dk_at dksX8_mayTell_2 11 rfl rfl)
theorem dX8_mayTell_61 : decode cX8_mayTell 61 = .ok (.iload_n 2, 1) := dk_28 (dk_at dksX8_mayTell_2 13 rfl rfl)
theorem dX8_mayTell_62 : decode cX8_mayTell 62 = .ok (.if_icmp .ge 28, 3) := dk_162 0 28 (dk_at dksX8_mayTell_2 14 rfl rfl)
theorem dX8_mayTell_65 : decode cX8_mayTell 65 = .ok (.aload_n 0, 1) := dk_42 (dk_at dksX8_mayTell_2 17 rfl rfl)
theorem dX8_mayTell_66 : decode cX8_mayTell 66 = .ok (.getfield 79, 3) := dk_180 0 79 (dk_at dksX8_mayTell_2 18 rfl rfl)
theorem dX8_mayTell_69 : decode cX8_mayTell 69 = .ok (.bipush 60, 2) := dk_16 60 (dk_at dksX8_mayTell_2 21 rfl rfl)
theorem dX8_mayTell_71 : decode cX8_mayTell 71 = .ok (.iload_n 1, 1) := dk_27 (dk_at dksX8_mayTell_2 23 rfl rfl)
theorem dX8_mayTell_72 : decode cX8_mayTell 72 = .ok (.imul, 1) := dk_104 (dk_at dksX8_mayTell_3 0 rfl rfl)
theorem dX8_mayTell_73 : decode cX8_mayTell 73 = .ok (.iload 5, 2) := dk_21 5 (dk_at dksX8_mayTell_3 1 rfl rfl)
theorem dX8_mayTell_75 : decode cX8_mayTell 75 = .ok (.iadd, 1) := dk_96 (dk_at dksX8_mayTell_3 3 rfl rfl)
theorem dX8_mayTell_76 : decode cX8_mayTell 76 = .ok (.laload, 1) := dk_47 (dk_at dksX8_mayTell_3 4 rfl rfl)
theorem dX8_mayTell_77 : decode cX8_mayTell 77 = .ok (.lload_n 3, 1) := dk_33 (dk_at dksX8_mayTell_3 5 rfl rfl)
theorem dX8_mayTell_78 : decode cX8_mayTell 78 = .ok (.lcmp, 1) := dk_148 (dk_at dksX8_mayTell_3 6 rfl rfl)
theorem dX8_mayTell_79 : decode cX8_mayTell 79 = .ok (.ifCond .ne 5, 3) := dk_154 0 5 (dk_at dksX8_mayTell_3 7 rfl rfl)
theorem dX8_mayTell_82 : decode cX8_mayTell 82 = .ok (.iconst 0, 1) := dk_3 (dk_at dksX8_mayTell_3 10 rfl rfl)
theorem dX8_mayTell_83 : decode cX8_mayTell 83 = .ok (.ireturn, 1) := dk_172 (dk_at dksX8_mayTell_3 11 rfl rfl)
theorem dX8_mayTell_84 : decode cX8_mayTell 84 = .ok (.iinc 5 1, 3) := dk_132 5 1 (dk_at dksX8_mayTell_3 12 rfl rfl)
theorem dX8_mayTell_87 : decode cX8_mayTell 87 = .ok (.goto (-28), 3) := dk_167 255 228 (dk_at dksX8_mayTell_3 15 rfl rfl)
theorem dX8_mayTell_90 : decode cX8_mayTell 90 = .ok (.iinc 2 1, 3) := dk_132 2 1 (dk_at dksX8_mayTell_3 18 rfl rfl)
theorem dX8_mayTell_93 : decode cX8_mayTell 93 = .ok (.goto (-91), 3) := dk_167 255 165 (dk_at dksX8_mayTell_3 21 rfl rfl)
theorem dX8_mayTell_96 : decode cX8_mayTell 96 = .ok (.iconst 1, 1) := dk_4 (dk_at dksX8_mayTell_4 0 rfl rfl)
theorem dX8_mayTell_97 : decode cX8_mayTell 97 = .ok (.ireturn, 1) := dk_172 (dk_at dksX8_mayTell_4 1 rfl rfl)
abbrev cX8_ones : ByteArray := prog_16_method_86_code
def yX8_ones : MethodName := ⟨RX8, "ones", "(I)I"⟩
def dkwX8_ones_1 : List UInt8 := [27, 172]
abbrev dktX8_ones_1 : List UInt8 := dkwX8_ones_1 ++ []
def dkwX8_ones_0 : List UInt8 := [3, 60, 3, 61, 28, 16, 6, 162, 0, 17, 27, 26, 28, 122, 4, 126, 96, 60, 132, 2, 1, 167, 255, 239]
abbrev dktX8_ones_0 : List UInt8 := dkwX8_ones_0 ++ dktX8_ones_1
theorem dksX8_ones_0 : cX8_ones.data.toList.drop 0 = dktX8_ones_0 := by decide +kernel
theorem dksX8_ones_1 : cX8_ones.data.toList.drop 24 = dktX8_ones_1 := dk_seg dksX8_ones_0 24 rfl rfl
theorem dX8_ones_0 : decode cX8_ones 0 = .ok (.iconst 0, 1) := dk_3 (dk_at dksX8_ones_0 0 rfl rfl)
theorem dX8_ones_1 : decode cX8_ones 1 = .ok (.istore_n 1, 1) := dk_60 (dk_at dksX8_ones_0 1 rfl rfl)
theorem dX8_ones_2 : decode cX8_ones 2 = .ok (.iconst 0, 1) := dk_3 (dk_at dksX8_ones_0 2 rfl rfl)
theorem dX8_ones_3 : decode cX8_ones 3 = .ok (.istore_n 2, 1) := dk_61 (dk_at dksX8_ones_0 3 rfl rfl)
theorem dX8_ones_4 : decode cX8_ones 4 = .ok (.iload_n 2, 1) := dk_28 (dk_at dksX8_ones_0 4 rfl rfl)
theorem dX8_ones_5 : decode cX8_ones 5 = .ok (.bipush 6, 2) := dk_16 6 (dk_at dksX8_ones_0 5 rfl rfl)
theorem dX8_ones_7 : decode cX8_ones 7 = .ok (.if_icmp .ge 17, 3) := dk_162 0 17 (dk_at dksX8_ones_0 7 rfl rfl)
theorem dX8_ones_10 : decode cX8_ones 10 = .ok (.iload_n 1, 1) := dk_27 (dk_at dksX8_ones_0 10 rfl rfl)
theorem dX8_ones_11 : decode cX8_ones 11 = .ok (.iload_n 0, 1) := dk_26 (dk_at dksX8_ones_0 11 rfl rfl)
theorem dX8_ones_12 : decode cX8_ones 12 = .ok (.iload_n 2, 1) := dk_28 (dk_at dksX8_ones_0 12 rfl rfl)
theorem dX8_ones_13 : decode cX8_ones 13 = .ok (.ishr, 1) := dk_122 (dk_at dksX8_ones_0 13 rfl rfl)
theorem dX8_ones_14 : decode cX8_ones 14 = .ok (.iconst 1, 1) := dk_4 (dk_at dksX8_ones_0 14 rfl rfl)
theorem dX8_ones_15 : decode cX8_ones 15 = .ok (.iand, 1) := dk_126 (dk_at dksX8_ones_0 15 rfl rfl)
theorem dX8_ones_16 : decode cX8_ones 16 = .ok (.iadd, 1) := dk_96 (dk_at dksX8_ones_0 16 rfl rfl)
theorem dX8_ones_17 : decode cX8_ones 17 = .ok (.istore_n 1, 1) := dk_60 (dk_at dksX8_ones_0 17 rfl rfl)
theorem dX8_ones_18 : decode cX8_ones 18 = .ok (.iinc 2 1, 3) := dk_132 2 1 (dk_at dksX8_ones_0 18 rfl rfl)
theorem dX8_ones_21 : decode cX8_ones 21 = .ok (.goto (-17), 3) := dk_167 255 239 (dk_at dksX8_ones_0 21 rfl rfl)
theorem dX8_ones_24 : decode cX8_ones 24 = .ok (.iload_n 1, 1) := dk_27 (dk_at dksX8_ones_1 0 rfl rfl)
theorem dX8_ones_25 : decode cX8_ones 25 = .ok (.ireturn, 1) := dk_172 (dk_at dksX8_ones_1 1 rfl rfl)
abbrev cX8_isAhead : ByteArray := prog_16_method_87_code
def yX8_isAhead : MethodName := ⟨RX8, "isAhead", "(II)Z"⟩
def dkwX8_isAhead_0 : List UInt8 := [26, 27, 130, 61, 26, 28, 126, 28, 116, 126, 153, 0, 7, 4, 167, 0, 4, 3, 172]
abbrev dktX8_isAhead_0 : List UInt8 := dkwX8_isAhead_0 ++ []
theorem dksX8_isAhead_0 : cX8_isAhead.data.toList.drop 0 = dktX8_isAhead_0 := by decide +kernel
theorem dX8_isAhead_0 : decode cX8_isAhead 0 = .ok (.iload_n 0, 1) := dk_26 (dk_at dksX8_isAhead_0 0 rfl rfl)
theorem dX8_isAhead_1 : decode cX8_isAhead 1 = .ok (.iload_n 1, 1) := dk_27 (dk_at dksX8_isAhead_0 1 rfl rfl)
theorem dX8_isAhead_2 : decode cX8_isAhead 2 = .ok (.ixor, 1) := dk_130 (dk_at dksX8_isAhead_0 2 rfl rfl)
theorem dX8_isAhead_3 : decode cX8_isAhead 3 = .ok (.istore_n 2, 1) := dk_61 (dk_at dksX8_isAhead_0 3 rfl rfl)
theorem dX8_isAhead_4 : decode cX8_isAhead 4 = .ok (.iload_n 0, 1) := dk_26 (dk_at dksX8_isAhead_0 4 rfl rfl)
theorem dX8_isAhead_5 : decode cX8_isAhead 5 = .ok (.iload_n 2, 1) := dk_28 (dk_at dksX8_isAhead_0 5 rfl rfl)
theorem dX8_isAhead_6 : decode cX8_isAhead 6 = .ok (.iand, 1) := dk_126 (dk_at dksX8_isAhead_0 6 rfl rfl)
theorem dX8_isAhead_7 : decode cX8_isAhead 7 = .ok (.iload_n 2, 1) := dk_28 (dk_at dksX8_isAhead_0 7 rfl rfl)
theorem dX8_isAhead_8 : decode cX8_isAhead 8 = .ok (.ineg, 1) := dk_116 (dk_at dksX8_isAhead_0 8 rfl rfl)
theorem dX8_isAhead_9 : decode cX8_isAhead 9 = .ok (.iand, 1) := dk_126 (dk_at dksX8_isAhead_0 9 rfl rfl)
theorem dX8_isAhead_10 : decode cX8_isAhead 10 = .ok (.ifCond .eq 7, 3) := dk_153 0 7 (dk_at dksX8_isAhead_0 10 rfl rfl)
theorem dX8_isAhead_13 : decode cX8_isAhead 13 = .ok (.iconst 1, 1) := dk_4 (dk_at dksX8_isAhead_0 13 rfl rfl)
theorem dX8_isAhead_14 : decode cX8_isAhead 14 = .ok (.goto 4, 3) := dk_167 0 4 (dk_at dksX8_isAhead_0 14 rfl rfl)
theorem dX8_isAhead_17 : decode cX8_isAhead 17 = .ok (.iconst 0, 1) := dk_3 (dk_at dksX8_isAhead_0 17 rfl rfl)
theorem dX8_isAhead_18 : decode cX8_isAhead 18 = .ok (.ireturn, 1) := dk_172 (dk_at dksX8_isAhead_0 18 rfl rfl)
abbrev cX8_shutsBy : ByteArray := prog_16_method_85_code
def yX8_shutsBy : MethodName := ⟨RX8, "shutsBy", "(III)Z"⟩
def dkwX8_shutsBy_7 : List UInt8 := [132, 4, 1, 167, 255, 243, 42, 182, 1, 78, 54, 4, 42, 182, 1, 151, 21, 4, 172]
abbrev dktX8_shutsBy_7 : List UInt8 := dkwX8_shutsBy_7 ++ []
def dkwX8_shutsBy_6 : List UInt8 := [46, 4, 96, 79, 132, 4, 1, 167, 255, 114, 3, 54, 4, 21, 4, 29, 162, 0, 13, 42, 182, 1, 83]
abbrev dktX8_shutsBy_6 : List UInt8 := dkwX8_shutsBy_6 ++ dktX8_shutsBy_7
def dkwX8_shutsBy_5 : List UInt8 := [180, 0, 13, 17, 2, 114, 46, 79, 42, 180, 0, 13, 21, 5, 6, 96, 4, 79, 42, 180, 0, 13, 5, 92]
abbrev dktX8_shutsBy_5 : List UInt8 := dkwX8_shutsBy_5 ++ dktX8_shutsBy_6
def dkwX8_shutsBy_4 : List UInt8 := [21, 5, 4, 96, 42, 180, 0, 13, 17, 2, 113, 46, 79, 42, 180, 0, 13, 21, 5, 5, 96, 42]
abbrev dktX8_shutsBy_4 : List UInt8 := dkwX8_shutsBy_4 ++ dktX8_shutsBy_5
def dkwX8_shutsBy_3 : List UInt8 := [42, 180, 0, 13, 21, 5, 42, 180, 0, 79, 16, 60, 27, 104, 21, 4, 96, 47, 136, 79, 42, 180, 0, 13]
abbrev dktX8_shutsBy_3 : List UInt8 := dkwX8_shutsBy_3 ++ dktX8_shutsBy_4
def dkwX8_shutsBy_2 : List UInt8 := [21, 6, 16, 6, 162, 0, 20, 42, 180, 0, 13, 21, 5, 21, 6, 96, 3, 79, 132, 6, 1, 167, 255, 235]
abbrev dktX8_shutsBy_2 : List UInt8 := dkwX8_shutsBy_2 ++ dktX8_shutsBy_3
def dkwX8_shutsBy_1 : List UInt8 := [154, 0, 6, 167, 0, 119, 17, 2, 112, 16, 6, 42, 180, 0, 13, 5, 46, 104, 96, 54, 5, 3, 54, 6]
abbrev dktX8_shutsBy_1 : List UInt8 := dkwX8_shutsBy_1 ++ dktX8_shutsBy_2
def dkwX8_shutsBy_0 : List UInt8 := [42, 182, 1, 148, 3, 54, 4, 21, 4, 42, 180, 0, 73, 27, 46, 162, 0, 137, 28, 21, 4, 122, 4, 126]
abbrev dktX8_shutsBy_0 : List UInt8 := dkwX8_shutsBy_0 ++ dktX8_shutsBy_1
theorem dksX8_shutsBy_0 : cX8_shutsBy.data.toList.drop 0 = dktX8_shutsBy_0 := by decide +kernel
theorem dksX8_shutsBy_1 : cX8_shutsBy.data.toList.drop 24 = dktX8_shutsBy_1 := dk_seg dksX8_shutsBy_0 24 rfl rfl
theorem dksX8_shutsBy_2 : cX8_shutsBy.data.toList.drop 48 = dktX8_shutsBy_2 := dk_seg dksX8_shutsBy_1 24 rfl rfl
theorem dksX8_shutsBy_3 : cX8_shutsBy.data.toList.drop 72 = dktX8_shutsBy_3 := dk_seg dksX8_shutsBy_2 24 rfl rfl
theorem dksX8_shutsBy_4 : cX8_shutsBy.data.toList.drop 96 = dktX8_shutsBy_4 := dk_seg dksX8_shutsBy_3 24 rfl rfl
theorem dksX8_shutsBy_5 : cX8_shutsBy.data.toList.drop 118 = dktX8_shutsBy_5 := dk_seg dksX8_shutsBy_4 22 rfl rfl
theorem dksX8_shutsBy_6 : cX8_shutsBy.data.toList.drop 142 = dktX8_shutsBy_6 := dk_seg dksX8_shutsBy_5 24 rfl rfl
theorem dksX8_shutsBy_7 : cX8_shutsBy.data.toList.drop 165 = dktX8_shutsBy_7 := dk_seg dksX8_shutsBy_6 23 rfl rfl
theorem dX8_shutsBy_0 : decode cX8_shutsBy 0 = .ok (.aload_n 0, 1) := dk_42 (dk_at dksX8_shutsBy_0 0 rfl rfl)
theorem dX8_shutsBy_1 : decode cX8_shutsBy 1 = .ok (.invokevirtual 404, 3) := dk_182 1 148 (dk_at dksX8_shutsBy_0 1 rfl rfl)
theorem dX8_shutsBy_4 : decode cX8_shutsBy 4 = .ok (.iconst 0, 1) := dk_3 (dk_at dksX8_shutsBy_0 4 rfl rfl)
theorem dX8_shutsBy_5 : decode cX8_shutsBy 5 = .ok (.istore 4, 2) := dk_54 4 (dk_at dksX8_shutsBy_0 5 rfl rfl)
theorem dX8_shutsBy_7 : decode cX8_shutsBy 7 = .ok (.iload 4, 2) := dk_21 4 (dk_at dksX8_shutsBy_0 7 rfl rfl)
theorem dX8_shutsBy_9 : decode cX8_shutsBy 9 = .ok (.aload_n 0, 1) := dk_42 (dk_at dksX8_shutsBy_0 9 rfl rfl)
theorem dX8_shutsBy_10 : decode cX8_shutsBy 10 = .ok (.getfield 73, 3) := dk_180 0 73 (dk_at dksX8_shutsBy_0 10 rfl rfl)
theorem dX8_shutsBy_13 : decode cX8_shutsBy 13 = .ok (.iload_n 1, 1) := dk_27 (dk_at dksX8_shutsBy_0 13 rfl rfl)
theorem dX8_shutsBy_14 : decode cX8_shutsBy 14 = .ok (.iaload, 1) := dk_46 (dk_at dksX8_shutsBy_0 14 rfl rfl)
theorem dX8_shutsBy_15 : decode cX8_shutsBy 15 = .ok (.if_icmp .ge 137, 3) := dk_162 0 137 (dk_at dksX8_shutsBy_0 15 rfl rfl)
theorem dX8_shutsBy_18 : decode cX8_shutsBy 18 = .ok (.iload_n 2, 1) := dk_28 (dk_at dksX8_shutsBy_0 18 rfl rfl)
theorem dX8_shutsBy_19 : decode cX8_shutsBy 19 = .ok (.iload 4, 2) := dk_21 4 (dk_at dksX8_shutsBy_0 19 rfl rfl)
theorem dX8_shutsBy_21 : decode cX8_shutsBy 21 = .ok (.ishr, 1) := dk_122 (dk_at dksX8_shutsBy_0 21 rfl rfl)
theorem dX8_shutsBy_22 : decode cX8_shutsBy 22 = .ok (.iconst 1, 1) := dk_4 (dk_at dksX8_shutsBy_0 22 rfl rfl)
theorem dX8_shutsBy_23 : decode cX8_shutsBy 23 = .ok (.iand, 1) := dk_126 (dk_at dksX8_shutsBy_0 23 rfl rfl)
theorem dX8_shutsBy_24 : decode cX8_shutsBy 24 = .ok (.ifCond .ne 6, 3) := dk_154 0 6 (dk_at dksX8_shutsBy_1 0 rfl rfl)
theorem dX8_shutsBy_27 : decode cX8_shutsBy 27 = .ok (.goto 119, 3) := dk_167 0 119 (dk_at dksX8_shutsBy_1 3 rfl rfl)
theorem dX8_shutsBy_30 : decode cX8_shutsBy 30 = .ok (.sipush 624, 3) := dk_17 2 112 (dk_at dksX8_shutsBy_1 6 rfl rfl)
theorem dX8_shutsBy_33 : decode cX8_shutsBy 33 = .ok (.bipush 6, 2) := dk_16 6 (dk_at dksX8_shutsBy_1 9 rfl rfl)
theorem dX8_shutsBy_35 : decode cX8_shutsBy 35 = .ok (.aload_n 0, 1) := dk_42 (dk_at dksX8_shutsBy_1 11 rfl rfl)
theorem dX8_shutsBy_36 : decode cX8_shutsBy 36 = .ok (.getfield 13, 3) := dk_180 0 13 (dk_at dksX8_shutsBy_1 12 rfl rfl)
theorem dX8_shutsBy_39 : decode cX8_shutsBy 39 = .ok (.iconst 2, 1) := dk_5 (dk_at dksX8_shutsBy_1 15 rfl rfl)
theorem dX8_shutsBy_40 : decode cX8_shutsBy 40 = .ok (.iaload, 1) := dk_46 (dk_at dksX8_shutsBy_1 16 rfl rfl)
theorem dX8_shutsBy_41 : decode cX8_shutsBy 41 = .ok (.imul, 1) := dk_104 (dk_at dksX8_shutsBy_1 17 rfl rfl)
theorem dX8_shutsBy_42 : decode cX8_shutsBy 42 = .ok (.iadd, 1) := dk_96 (dk_at dksX8_shutsBy_1 18 rfl rfl)
theorem dX8_shutsBy_43 : decode cX8_shutsBy 43 = .ok (.istore 5, 2) := dk_54 5 (dk_at dksX8_shutsBy_1 19 rfl rfl)
theorem dX8_shutsBy_45 : decode cX8_shutsBy 45 = .ok (.iconst 0, 1) := dk_3 (dk_at dksX8_shutsBy_1 21 rfl rfl)
theorem dX8_shutsBy_46 : decode cX8_shutsBy 46 = .ok (.istore 6, 2) := dk_54 6 (dk_at dksX8_shutsBy_1 22 rfl rfl)
theorem dX8_shutsBy_48 : decode cX8_shutsBy 48 = .ok (.iload 6, 2) := dk_21 6 (dk_at dksX8_shutsBy_2 0 rfl rfl)
theorem dX8_shutsBy_50 : decode cX8_shutsBy 50 = .ok (.bipush 6, 2) := dk_16 6 (dk_at dksX8_shutsBy_2 2 rfl rfl)
theorem dX8_shutsBy_52 : decode cX8_shutsBy 52 = .ok (.if_icmp .ge 20, 3) := dk_162 0 20 (dk_at dksX8_shutsBy_2 4 rfl rfl)
theorem dX8_shutsBy_55 : decode cX8_shutsBy 55 = .ok (.aload_n 0, 1) := dk_42 (dk_at dksX8_shutsBy_2 7 rfl rfl)
theorem dX8_shutsBy_56 : decode cX8_shutsBy 56 = .ok (.getfield 13, 3) := dk_180 0 13 (dk_at dksX8_shutsBy_2 8 rfl rfl)
theorem dX8_shutsBy_59 : decode cX8_shutsBy 59 = .ok (.iload 5, 2) := dk_21 5 (dk_at dksX8_shutsBy_2 11 rfl rfl)
theorem dX8_shutsBy_61 : decode cX8_shutsBy 61 = .ok (.iload 6, 2) := dk_21 6 (dk_at dksX8_shutsBy_2 13 rfl rfl)
theorem dX8_shutsBy_63 : decode cX8_shutsBy 63 = .ok (.iadd, 1) := dk_96 (dk_at dksX8_shutsBy_2 15 rfl rfl)
theorem dX8_shutsBy_64 : decode cX8_shutsBy 64 = .ok (.iconst 0, 1) := dk_3 (dk_at dksX8_shutsBy_2 16 rfl rfl)
theorem dX8_shutsBy_65 : decode cX8_shutsBy 65 = .ok (.iastore, 1) := dk_79 (dk_at dksX8_shutsBy_2 17 rfl rfl)
theorem dX8_shutsBy_66 : decode cX8_shutsBy 66 = .ok (.iinc 6 1, 3) := dk_132 6 1 (dk_at dksX8_shutsBy_2 18 rfl rfl)
theorem dX8_shutsBy_69 : decode cX8_shutsBy 69 = .ok (.goto (-21), 3) := dk_167 255 235 (dk_at dksX8_shutsBy_2 21 rfl rfl)
theorem dX8_shutsBy_72 : decode cX8_shutsBy 72 = .ok (.aload_n 0, 1) := dk_42 (dk_at dksX8_shutsBy_3 0 rfl rfl)
theorem dX8_shutsBy_73 : decode cX8_shutsBy 73 = .ok (.getfield 13, 3) := dk_180 0 13 (dk_at dksX8_shutsBy_3 1 rfl rfl)
theorem dX8_shutsBy_76 : decode cX8_shutsBy 76 = .ok (.iload 5, 2) := dk_21 5 (dk_at dksX8_shutsBy_3 4 rfl rfl)
theorem dX8_shutsBy_78 : decode cX8_shutsBy 78 = .ok (.aload_n 0, 1) := dk_42 (dk_at dksX8_shutsBy_3 6 rfl rfl)
theorem dX8_shutsBy_79 : decode cX8_shutsBy 79 = .ok (.getfield 79, 3) := dk_180 0 79 (dk_at dksX8_shutsBy_3 7 rfl rfl)
theorem dX8_shutsBy_82 : decode cX8_shutsBy 82 = .ok (.bipush 60, 2) := dk_16 60 (dk_at dksX8_shutsBy_3 10 rfl rfl)
theorem dX8_shutsBy_84 : decode cX8_shutsBy 84 = .ok (.iload_n 1, 1) := dk_27 (dk_at dksX8_shutsBy_3 12 rfl rfl)
theorem dX8_shutsBy_85 : decode cX8_shutsBy 85 = .ok (.imul, 1) := dk_104 (dk_at dksX8_shutsBy_3 13 rfl rfl)
theorem dX8_shutsBy_86 : decode cX8_shutsBy 86 = .ok (.iload 4, 2) := dk_21 4 (dk_at dksX8_shutsBy_3 14 rfl rfl)
theorem dX8_shutsBy_88 : decode cX8_shutsBy 88 = .ok (.iadd, 1) := dk_96 (dk_at dksX8_shutsBy_3 16 rfl rfl)
theorem dX8_shutsBy_89 : decode cX8_shutsBy 89 = .ok (.laload, 1) := dk_47 (dk_at dksX8_shutsBy_3 17 rfl rfl)
theorem dX8_shutsBy_90 : decode cX8_shutsBy 90 = .ok (.l2i, 1) := dk_136 (dk_at dksX8_shutsBy_3 18 rfl rfl)
theorem dX8_shutsBy_91 : decode cX8_shutsBy 91 = .ok (.iastore, 1) := dk_79 (dk_at dksX8_shutsBy_3 19 rfl rfl)
theorem dX8_shutsBy_92 : decode cX8_shutsBy 92 = .ok (.aload_n 0, 1) := dk_42 (dk_at dksX8_shutsBy_3 20 rfl rfl)
theorem dX8_shutsBy_93 : decode cX8_shutsBy 93 = .ok (.getfield 13, 3) := dk_180 0 13 (dk_at dksX8_shutsBy_3 21 rfl rfl)
theorem dX8_shutsBy_96 : decode cX8_shutsBy 96 = .ok (.iload 5, 2) := dk_21 5 (dk_at dksX8_shutsBy_4 0 rfl rfl)
theorem dX8_shutsBy_98 : decode cX8_shutsBy 98 = .ok (.iconst 1, 1) := dk_4 (dk_at dksX8_shutsBy_4 2 rfl rfl)
theorem dX8_shutsBy_99 : decode cX8_shutsBy 99 = .ok (.iadd, 1) := dk_96 (dk_at dksX8_shutsBy_4 3 rfl rfl)
theorem dX8_shutsBy_100 : decode cX8_shutsBy 100 = .ok (.aload_n 0, 1) := dk_42 (dk_at dksX8_shutsBy_4 4 rfl rfl)
theorem dX8_shutsBy_101 : decode cX8_shutsBy 101 = .ok (.getfield 13, 3) := dk_180 0 13 (dk_at dksX8_shutsBy_4 5 rfl rfl)
theorem dX8_shutsBy_104 : decode cX8_shutsBy 104 = .ok (.sipush 625, 3) := dk_17 2 113 (dk_at dksX8_shutsBy_4 8 rfl rfl)
theorem dX8_shutsBy_107 : decode cX8_shutsBy 107 = .ok (.iaload, 1) := dk_46 (dk_at dksX8_shutsBy_4 11 rfl rfl)
theorem dX8_shutsBy_108 : decode cX8_shutsBy 108 = .ok (.iastore, 1) := dk_79 (dk_at dksX8_shutsBy_4 12 rfl rfl)
theorem dX8_shutsBy_109 : decode cX8_shutsBy 109 = .ok (.aload_n 0, 1) := dk_42 (dk_at dksX8_shutsBy_4 13 rfl rfl)
theorem dX8_shutsBy_110 : decode cX8_shutsBy 110 = .ok (.getfield 13, 3) := dk_180 0 13 (dk_at dksX8_shutsBy_4 14 rfl rfl)
theorem dX8_shutsBy_113 : decode cX8_shutsBy 113 = .ok (.iload 5, 2) := dk_21 5 (dk_at dksX8_shutsBy_4 17 rfl rfl)
theorem dX8_shutsBy_115 : decode cX8_shutsBy 115 = .ok (.iconst 2, 1) := dk_5 (dk_at dksX8_shutsBy_4 19 rfl rfl)
theorem dX8_shutsBy_116 : decode cX8_shutsBy 116 = .ok (.iadd, 1) := dk_96 (dk_at dksX8_shutsBy_4 20 rfl rfl)
theorem dX8_shutsBy_117 : decode cX8_shutsBy 117 = .ok (.aload_n 0, 1) := dk_42 (dk_at dksX8_shutsBy_4 21 rfl rfl)
theorem dX8_shutsBy_118 : decode cX8_shutsBy 118 = .ok (.getfield 13, 3) := dk_180 0 13 (dk_at dksX8_shutsBy_5 0 rfl rfl)
theorem dX8_shutsBy_121 : decode cX8_shutsBy 121 = .ok (.sipush 626, 3) := dk_17 2 114 (dk_at dksX8_shutsBy_5 3 rfl rfl)
theorem dX8_shutsBy_124 : decode cX8_shutsBy 124 = .ok (.iaload, 1) := dk_46 (dk_at dksX8_shutsBy_5 6 rfl rfl)
theorem dX8_shutsBy_125 : decode cX8_shutsBy 125 = .ok (.iastore, 1) := dk_79 (dk_at dksX8_shutsBy_5 7 rfl rfl)
theorem dX8_shutsBy_126 : decode cX8_shutsBy 126 = .ok (.aload_n 0, 1) := dk_42 (dk_at dksX8_shutsBy_5 8 rfl rfl)
theorem dX8_shutsBy_127 : decode cX8_shutsBy 127 = .ok (.getfield 13, 3) := dk_180 0 13 (dk_at dksX8_shutsBy_5 9 rfl rfl)
theorem dX8_shutsBy_130 : decode cX8_shutsBy 130 = .ok (.iload 5, 2) := dk_21 5 (dk_at dksX8_shutsBy_5 12 rfl rfl)
theorem dX8_shutsBy_132 : decode cX8_shutsBy 132 = .ok (.iconst 3, 1) := dk_6 (dk_at dksX8_shutsBy_5 14 rfl rfl)
theorem dX8_shutsBy_133 : decode cX8_shutsBy 133 = .ok (.iadd, 1) := dk_96 (dk_at dksX8_shutsBy_5 15 rfl rfl)
theorem dX8_shutsBy_134 : decode cX8_shutsBy 134 = .ok (.iconst 1, 1) := dk_4 (dk_at dksX8_shutsBy_5 16 rfl rfl)
theorem dX8_shutsBy_135 : decode cX8_shutsBy 135 = .ok (.iastore, 1) := dk_79 (dk_at dksX8_shutsBy_5 17 rfl rfl)
theorem dX8_shutsBy_136 : decode cX8_shutsBy 136 = .ok (.aload_n 0, 1) := dk_42 (dk_at dksX8_shutsBy_5 18 rfl rfl)
theorem dX8_shutsBy_137 : decode cX8_shutsBy 137 = .ok (.getfield 13, 3) := dk_180 0 13 (dk_at dksX8_shutsBy_5 19 rfl rfl)
theorem dX8_shutsBy_140 : decode cX8_shutsBy 140 = .ok (.iconst 2, 1) := dk_5 (dk_at dksX8_shutsBy_5 22 rfl rfl)
theorem dX8_shutsBy_141 : decode cX8_shutsBy 141 = .ok (.dup2, 1) := dk_92 (dk_at dksX8_shutsBy_5 23 rfl rfl)
theorem dX8_shutsBy_142 : decode cX8_shutsBy 142 = .ok (.iaload, 1) := dk_46 (dk_at dksX8_shutsBy_6 0 rfl rfl)
theorem dX8_shutsBy_143 : decode cX8_shutsBy 143 = .ok (.iconst 1, 1) := dk_4 (dk_at dksX8_shutsBy_6 1 rfl rfl)
theorem dX8_shutsBy_144 : decode cX8_shutsBy 144 = .ok (.iadd, 1) := dk_96 (dk_at dksX8_shutsBy_6 2 rfl rfl)
theorem dX8_shutsBy_145 : decode cX8_shutsBy 145 = .ok (.iastore, 1) := dk_79 (dk_at dksX8_shutsBy_6 3 rfl rfl)
theorem dX8_shutsBy_146 : decode cX8_shutsBy 146 = .ok (.iinc 4 1, 3) := dk_132 4 1 (dk_at dksX8_shutsBy_6 4 rfl rfl)
theorem dX8_shutsBy_149 : decode cX8_shutsBy 149 = .ok (.goto (-142), 3) := dk_167 255 114 (dk_at dksX8_shutsBy_6 7 rfl rfl)
theorem dX8_shutsBy_152 : decode cX8_shutsBy 152 = .ok (.iconst 0, 1) := dk_3 (dk_at dksX8_shutsBy_6 10 rfl rfl)
theorem dX8_shutsBy_153 : decode cX8_shutsBy 153 = .ok (.istore 4, 2) := dk_54 4 (dk_at dksX8_shutsBy_6 11 rfl rfl)
theorem dX8_shutsBy_155 : decode cX8_shutsBy 155 = .ok (.iload 4, 2) := dk_21 4 (dk_at dksX8_shutsBy_6 13 rfl rfl)
theorem dX8_shutsBy_157 : decode cX8_shutsBy 157 = .ok (.iload_n 3, 1) := dk_29 (dk_at dksX8_shutsBy_6 15 rfl rfl)
theorem dX8_shutsBy_158 : decode cX8_shutsBy 158 = .ok (.if_icmp .ge 13, 3) := dk_162 0 13 (dk_at dksX8_shutsBy_6 16 rfl rfl)
theorem dX8_shutsBy_161 : decode cX8_shutsBy 161 = .ok (.aload_n 0, 1) := dk_42 (dk_at dksX8_shutsBy_6 19 rfl rfl)
theorem dX8_shutsBy_162 : decode cX8_shutsBy 162 = .ok (.invokevirtual 339, 3) := dk_182 1 83 (dk_at dksX8_shutsBy_6 20 rfl rfl)
theorem dX8_shutsBy_165 : decode cX8_shutsBy 165 = .ok (.iinc 4 1, 3) := dk_132 4 1 (dk_at dksX8_shutsBy_7 0 rfl rfl)
theorem dX8_shutsBy_168 : decode cX8_shutsBy 168 = .ok (.goto (-13), 3) := dk_167 255 243 (dk_at dksX8_shutsBy_7 3 rfl rfl)
theorem dX8_shutsBy_171 : decode cX8_shutsBy 171 = .ok (.aload_n 0, 1) := dk_42 (dk_at dksX8_shutsBy_7 6 rfl rfl)
theorem dX8_shutsBy_172 : decode cX8_shutsBy 172 = .ok (.invokevirtual 334, 3) := dk_182 1 78 (dk_at dksX8_shutsBy_7 7 rfl rfl)
theorem dX8_shutsBy_175 : decode cX8_shutsBy 175 = .ok (.istore 4, 2) := dk_54 4 (dk_at dksX8_shutsBy_7 10 rfl rfl)
theorem dX8_shutsBy_177 : decode cX8_shutsBy 177 = .ok (.aload_n 0, 1) := dk_42 (dk_at dksX8_shutsBy_7 12 rfl rfl)
theorem dX8_shutsBy_178 : decode cX8_shutsBy 178 = .ok (.invokevirtual 407, 3) := dk_182 1 151 (dk_at dksX8_shutsBy_7 13 rfl rfl)
theorem dX8_shutsBy_181 : decode cX8_shutsBy 181 = .ok (.iload 4, 2) := dk_21 4 (dk_at dksX8_shutsBy_7 16 rfl rfl)
theorem dX8_shutsBy_183 : decode cX8_shutsBy 183 = .ok (.ireturn, 1) := dk_172 (dk_at dksX8_shutsBy_7 18 rfl rfl)
abbrev cX8_chosen : ByteArray := prog_16_method_90_code
def yX8_chosen : MethodName := ⟨RX8, "chosen", "()I"⟩
theorem dX8_chosen_0 : decode cX8_chosen 0 = .ok (.aload_n 0, 1) := by decide +kernel
theorem dX8_chosen_1 : decode cX8_chosen 1 = .ok (.getfield 430, 3) := by decide +kernel
theorem dX8_chosen_4 : decode cX8_chosen 4 = .ok (.ireturn, 1) := by decide +kernel
abbrev cX8_gauge : ByteArray := prog_16_method_91_code
def yX8_gauge : MethodName := ⟨RX8, "gauge", "(IIII)I"⟩
def dkwX8_gauge_3 : List UInt8 := [79, 3, 172]
abbrev dktX8_gauge_3 : List UInt8 := dkwX8_gauge_3 ++ []
def dkwX8_gauge_2 : List UInt8 := [104, 96, 16, 12, 29, 104, 28, 96, 79, 42, 180, 0, 13, 17, 3, 22, 5, 27, 104, 96, 4, 96, 21, 4]
abbrev dktX8_gauge_2 : List UInt8 := dkwX8_gauge_2 ++ dktX8_gauge_3
def dkwX8_gauge_1 : List UInt8 := [20, 1, 179, 20, 1, 181, 184, 0, 110, 154, 0, 6, 16, 254, 172, 42, 180, 0, 13, 17, 3, 22, 5, 27]
abbrev dktX8_gauge_1 : List UInt8 := dkwX8_gauge_1 ++ dktX8_gauge_2
def dkwX8_gauge_0 : List UInt8 := [27, 133, 9, 20, 1, 177, 184, 0, 110, 153, 0, 26, 28, 29, 184, 0, 116, 153, 0, 18, 21, 4, 133]
abbrev dktX8_gauge_0 : List UInt8 := dkwX8_gauge_0 ++ dktX8_gauge_1
theorem dksX8_gauge_0 : cX8_gauge.data.toList.drop 0 = dktX8_gauge_0 := by decide +kernel
theorem dksX8_gauge_1 : cX8_gauge.data.toList.drop 23 = dktX8_gauge_1 := dk_seg dksX8_gauge_0 23 rfl rfl
theorem dksX8_gauge_2 : cX8_gauge.data.toList.drop 47 = dktX8_gauge_2 := dk_seg dksX8_gauge_1 24 rfl rfl
theorem dksX8_gauge_3 : cX8_gauge.data.toList.drop 71 = dktX8_gauge_3 := dk_seg dksX8_gauge_2 24 rfl rfl
theorem dX8_gauge_0 : decode cX8_gauge 0 = .ok (.iload_n 1, 1) := dk_27 (dk_at dksX8_gauge_0 0 rfl rfl)
theorem dX8_gauge_1 : decode cX8_gauge 1 = .ok (.i2l, 1) := dk_133 (dk_at dksX8_gauge_0 1 rfl rfl)
theorem dX8_gauge_2 : decode cX8_gauge 2 = .ok (.lconst 0, 1) := dk_9 (dk_at dksX8_gauge_0 2 rfl rfl)
theorem dX8_gauge_3 : decode cX8_gauge 3 = .ok (.ldc2_w 433, 3) := dk_20 1 177 (dk_at dksX8_gauge_0 3 rfl rfl)
theorem dX8_gauge_6 : decode cX8_gauge 6 = .ok (.invokestatic 110, 3) := dk_184 0 110 (dk_at dksX8_gauge_0 6 rfl rfl)
theorem dX8_gauge_9 : decode cX8_gauge 9 = .ok (.ifCond .eq 26, 3) := dk_153 0 26 (dk_at dksX8_gauge_0 9 rfl rfl)
theorem dX8_gauge_12 : decode cX8_gauge 12 = .ok (.iload_n 2, 1) := dk_28 (dk_at dksX8_gauge_0 12 rfl rfl)
theorem dX8_gauge_13 : decode cX8_gauge 13 = .ok (.iload_n 3, 1) := dk_29 (dk_at dksX8_gauge_0 13 rfl rfl)
theorem dX8_gauge_14 : decode cX8_gauge 14 = .ok (.invokestatic 116, 3) := dk_184 0 116 (dk_at dksX8_gauge_0 14 rfl rfl)
theorem dX8_gauge_17 : decode cX8_gauge 17 = .ok (.ifCond .eq 18, 3) := dk_153 0 18 (dk_at dksX8_gauge_0 17 rfl rfl)
theorem dX8_gauge_20 : decode cX8_gauge 20 = .ok (.iload 4, 2) := dk_21 4 (dk_at dksX8_gauge_0 20 rfl rfl)
theorem dX8_gauge_22 : decode cX8_gauge 22 = .ok (.i2l, 1) := dk_133 (dk_at dksX8_gauge_0 22 rfl rfl)
theorem dX8_gauge_23 : decode cX8_gauge 23 = .ok (.ldc2_w 435, 3) := dk_20 1 179 (dk_at dksX8_gauge_1 0 rfl rfl)
theorem dX8_gauge_26 : decode cX8_gauge 26 = .ok (.ldc2_w 437, 3) := dk_20 1 181 (dk_at dksX8_gauge_1 3 rfl rfl)
theorem dX8_gauge_29 : decode cX8_gauge 29 = .ok (.invokestatic 110, 3) := dk_184 0 110 (dk_at dksX8_gauge_1 6 rfl rfl)
theorem dX8_gauge_32 : decode cX8_gauge 32 = .ok (.ifCond .ne 6, 3) := dk_154 0 6 (dk_at dksX8_gauge_1 9 rfl rfl)
theorem dX8_gauge_35 : decode cX8_gauge 35 = .ok (.bipush (-2), 2) := dk_16 254 (dk_at dksX8_gauge_1 12 rfl rfl)
theorem dX8_gauge_37 : decode cX8_gauge 37 = .ok (.ireturn, 1) := dk_172 (dk_at dksX8_gauge_1 14 rfl rfl)
theorem dX8_gauge_38 : decode cX8_gauge 38 = .ok (.aload_n 0, 1) := dk_42 (dk_at dksX8_gauge_1 15 rfl rfl)
theorem dX8_gauge_39 : decode cX8_gauge 39 = .ok (.getfield 13, 3) := dk_180 0 13 (dk_at dksX8_gauge_1 16 rfl rfl)
theorem dX8_gauge_42 : decode cX8_gauge 42 = .ok (.sipush 790, 3) := dk_17 3 22 (dk_at dksX8_gauge_1 19 rfl rfl)
theorem dX8_gauge_45 : decode cX8_gauge 45 = .ok (.iconst 2, 1) := dk_5 (dk_at dksX8_gauge_1 22 rfl rfl)
theorem dX8_gauge_46 : decode cX8_gauge 46 = .ok (.iload_n 1, 1) := dk_27 (dk_at dksX8_gauge_1 23 rfl rfl)
theorem dX8_gauge_47 : decode cX8_gauge 47 = .ok (.imul, 1) := dk_104 (dk_at dksX8_gauge_2 0 rfl rfl)
theorem dX8_gauge_48 : decode cX8_gauge 48 = .ok (.iadd, 1) := dk_96 (dk_at dksX8_gauge_2 1 rfl rfl)
theorem dX8_gauge_49 : decode cX8_gauge 49 = .ok (.bipush 12, 2) := dk_16 12 (dk_at dksX8_gauge_2 2 rfl rfl)
theorem dX8_gauge_51 : decode cX8_gauge 51 = .ok (.iload_n 3, 1) := dk_29 (dk_at dksX8_gauge_2 4 rfl rfl)
theorem dX8_gauge_52 : decode cX8_gauge 52 = .ok (.imul, 1) := dk_104 (dk_at dksX8_gauge_2 5 rfl rfl)
theorem dX8_gauge_53 : decode cX8_gauge 53 = .ok (.iload_n 2, 1) := dk_28 (dk_at dksX8_gauge_2 6 rfl rfl)
theorem dX8_gauge_54 : decode cX8_gauge 54 = .ok (.iadd, 1) := dk_96 (dk_at dksX8_gauge_2 7 rfl rfl)
theorem dX8_gauge_55 : decode cX8_gauge 55 = .ok (.iastore, 1) := dk_79 (dk_at dksX8_gauge_2 8 rfl rfl)
theorem dX8_gauge_56 : decode cX8_gauge 56 = .ok (.aload_n 0, 1) := dk_42 (dk_at dksX8_gauge_2 9 rfl rfl)
theorem dX8_gauge_57 : decode cX8_gauge 57 = .ok (.getfield 13, 3) := dk_180 0 13 (dk_at dksX8_gauge_2 10 rfl rfl)
theorem dX8_gauge_60 : decode cX8_gauge 60 = .ok (.sipush 790, 3) := dk_17 3 22 (dk_at dksX8_gauge_2 13 rfl rfl)
theorem dX8_gauge_63 : decode cX8_gauge 63 = .ok (.iconst 2, 1) := dk_5 (dk_at dksX8_gauge_2 16 rfl rfl)
theorem dX8_gauge_64 : decode cX8_gauge 64 = .ok (.iload_n 1, 1) := dk_27 (dk_at dksX8_gauge_2 17 rfl rfl)
theorem dX8_gauge_65 : decode cX8_gauge 65 = .ok (.imul, 1) := dk_104 (dk_at dksX8_gauge_2 18 rfl rfl)
theorem dX8_gauge_66 : decode cX8_gauge 66 = .ok (.iadd, 1) := dk_96 (dk_at dksX8_gauge_2 19 rfl rfl)
theorem dX8_gauge_67 : decode cX8_gauge 67 = .ok (.iconst 1, 1) := dk_4 (dk_at dksX8_gauge_2 20 rfl rfl)
theorem dX8_gauge_68 : decode cX8_gauge 68 = .ok (.iadd, 1) := dk_96 (dk_at dksX8_gauge_2 21 rfl rfl)
theorem dX8_gauge_69 : decode cX8_gauge 69 = .ok (.iload 4, 2) := dk_21 4 (dk_at dksX8_gauge_2 22 rfl rfl)
theorem dX8_gauge_71 : decode cX8_gauge 71 = .ok (.iastore, 1) := dk_79 (dk_at dksX8_gauge_3 0 rfl rfl)
theorem dX8_gauge_72 : decode cX8_gauge 72 = .ok (.iconst 0, 1) := dk_3 (dk_at dksX8_gauge_3 1 rfl rfl)
theorem dX8_gauge_73 : decode cX8_gauge 73 = .ok (.ireturn, 1) := dk_172 (dk_at dksX8_gauge_3 2 rfl rfl)
abbrev cX8_lies : ByteArray := prog_16_method_92_code
def yX8_lies : MethodName := ⟨RX8, "lies", "(I)I"⟩
def dkwX8_lies_4 : List UInt8 := [132, 3, 1, 167, 255, 179, 28, 172]
abbrev dktX8_lies_4 : List UInt8 := dkwX8_lies_4 ++ []
def dkwX8_lies_3 : List UInt8 := [17, 3, 22, 5, 29, 104, 96, 4, 96, 46, 100, 184, 1, 72, 27, 164, 0, 9, 28, 4, 29, 120, 128, 61]
abbrev dktX8_lies_3 : List UInt8 := dkwX8_lies_3 ++ dktX8_lies_4
def dkwX8_lies_2 : List UInt8 := [21, 4, 182, 0, 102, 154, 0, 36, 42, 180, 0, 13, 17, 0, 192, 21, 4, 96, 46, 42, 180, 0, 13]
abbrev dktX8_lies_2 : List UInt8 := dkwX8_lies_2 ++ dktX8_lies_3
def dkwX8_lies_1 : List UInt8 := [162, 0, 77, 42, 180, 0, 13, 17, 3, 22, 5, 29, 104, 96, 46, 54, 4, 21, 4, 2, 159, 0, 51, 42]
abbrev dktX8_lies_1 : List UInt8 := dkwX8_lies_1 ++ dktX8_lies_2
def dkwX8_lies_0 : List UInt8 := [27, 133, 9, 20, 1, 183, 184, 0, 110, 154, 0, 6, 16, 254, 172, 3, 61, 3, 62, 29, 16, 10]
abbrev dktX8_lies_0 : List UInt8 := dkwX8_lies_0 ++ dktX8_lies_1
theorem dksX8_lies_0 : cX8_lies.data.toList.drop 0 = dktX8_lies_0 := by decide +kernel
theorem dksX8_lies_1 : cX8_lies.data.toList.drop 22 = dktX8_lies_1 := dk_seg dksX8_lies_0 22 rfl rfl
theorem dksX8_lies_2 : cX8_lies.data.toList.drop 46 = dktX8_lies_2 := dk_seg dksX8_lies_1 24 rfl rfl
theorem dksX8_lies_3 : cX8_lies.data.toList.drop 69 = dktX8_lies_3 := dk_seg dksX8_lies_2 23 rfl rfl
theorem dksX8_lies_4 : cX8_lies.data.toList.drop 93 = dktX8_lies_4 := dk_seg dksX8_lies_3 24 rfl rfl
theorem dX8_lies_0 : decode cX8_lies 0 = .ok (.iload_n 1, 1) := dk_27 (dk_at dksX8_lies_0 0 rfl rfl)
theorem dX8_lies_1 : decode cX8_lies 1 = .ok (.i2l, 1) := dk_133 (dk_at dksX8_lies_0 1 rfl rfl)
theorem dX8_lies_2 : decode cX8_lies 2 = .ok (.lconst 0, 1) := dk_9 (dk_at dksX8_lies_0 2 rfl rfl)
theorem dX8_lies_3 : decode cX8_lies 3 = .ok (.ldc2_w 439, 3) := dk_20 1 183 (dk_at dksX8_lies_0 3 rfl rfl)
theorem dX8_lies_6 : decode cX8_lies 6 = .ok (.invokestatic 110, 3) := dk_184 0 110 (dk_at dksX8_lies_0 6 rfl rfl)
theorem dX8_lies_9 : decode cX8_lies 9 = .ok (.ifCond .ne 6, 3) := dk_154 0 6 (dk_at dksX8_lies_0 9 rfl rfl)
theorem dX8_lies_12 : decode cX8_lies 12 = .ok (.bipush (-2), 2) := dk_16 254 (dk_at dksX8_lies_0 12 rfl rfl)
theorem dX8_lies_14 : decode cX8_lies 14 = .ok (.ireturn, 1) := dk_172 (dk_at dksX8_lies_0 14 rfl rfl)
theorem dX8_lies_15 : decode cX8_lies 15 = .ok (.iconst 0, 1) := dk_3 (dk_at dksX8_lies_0 15 rfl rfl)
theorem dX8_lies_16 : decode cX8_lies 16 = .ok (.istore_n 2, 1) := dk_61 (dk_at dksX8_lies_0 16 rfl rfl)
theorem dX8_lies_17 : decode cX8_lies 17 = .ok (.iconst 0, 1) := dk_3 (dk_at dksX8_lies_0 17 rfl rfl)
theorem dX8_lies_18 : decode cX8_lies 18 = .ok (.istore_n 3, 1) := dk_62 (dk_at dksX8_lies_0 18 rfl rfl)
theorem dX8_lies_19 : decode cX8_lies 19 = .ok (.iload_n 3, 1) := dk_29 (dk_at dksX8_lies_0 19 rfl rfl)
theorem dX8_lies_20 : decode cX8_lies 20 = .ok (.bipush 10, 2) := dk_16 10 (dk_at dksX8_lies_0 20 rfl rfl)
theorem dX8_lies_22 : decode cX8_lies 22 = .ok (.if_icmp .ge 77, 3) := dk_162 0 77 (dk_at dksX8_lies_1 0 rfl rfl)
theorem dX8_lies_25 : decode cX8_lies 25 = .ok (.aload_n 0, 1) := dk_42 (dk_at dksX8_lies_1 3 rfl rfl)
theorem dX8_lies_26 : decode cX8_lies 26 = .ok (.getfield 13, 3) := dk_180 0 13 (dk_at dksX8_lies_1 4 rfl rfl)
theorem dX8_lies_29 : decode cX8_lies 29 = .ok (.sipush 790, 3) := dk_17 3 22 (dk_at dksX8_lies_1 7 rfl rfl)
theorem dX8_lies_32 : decode cX8_lies 32 = .ok (.iconst 2, 1) := dk_5 (dk_at dksX8_lies_1 10 rfl rfl)
theorem dX8_lies_33 : decode cX8_lies 33 = .ok (.iload_n 3, 1) := dk_29 (dk_at dksX8_lies_1 11 rfl rfl)
theorem dX8_lies_34 : decode cX8_lies 34 = .ok (.imul, 1) := dk_104 (dk_at dksX8_lies_1 12 rfl rfl)
theorem dX8_lies_35 : decode cX8_lies 35 = .ok (.iadd, 1) := dk_96 (dk_at dksX8_lies_1 13 rfl rfl)
theorem dX8_lies_36 : decode cX8_lies 36 = .ok (.iaload, 1) := dk_46 (dk_at dksX8_lies_1 14 rfl rfl)
theorem dX8_lies_37 : decode cX8_lies 37 = .ok (.istore 4, 2) := dk_54 4 (dk_at dksX8_lies_1 15 rfl rfl)
theorem dX8_lies_39 : decode cX8_lies 39 = .ok (.iload 4, 2) := dk_21 4 (dk_at dksX8_lies_1 17 rfl rfl)
theorem dX8_lies_41 : decode cX8_lies 41 = .ok (.iconst (-1), 1) := dk_2 (dk_at dksX8_lies_1 19 rfl rfl)
theorem dX8_lies_42 : decode cX8_lies 42 = .ok (.if_icmp .eq 51, 3) := dk_159 0 51 (dk_at dksX8_lies_1 20 rfl rfl)
theorem dX8_lies_45 : decode cX8_lies 45 = .ok (.aload_n 0, 1) := dk_42 (dk_at dksX8_lies_1 23 rfl rfl)
theorem dX8_lies_46 : decode cX8_lies 46 = .ok (.iload 4, 2) := dk_21 4 (dk_at dksX8_lies_2 0 rfl rfl)
theorem dX8_lies_48 : decode cX8_lies 48 = .ok (.invokevirtual 102, 3) := dk_182 0 102 (dk_at dksX8_lies_2 2 rfl rfl)
theorem dX8_lies_51 : decode cX8_lies 51 = .ok (.ifCond .ne 36, 3) := dk_154 0 36 (dk_at dksX8_lies_2 5 rfl rfl)
theorem dX8_lies_54 : decode cX8_lies 54 = .ok (.aload_n 0, 1) := dk_42 (dk_at dksX8_lies_2 8 rfl rfl)
theorem dX8_lies_55 : decode cX8_lies 55 = .ok (.getfield 13, 3) := dk_180 0 13 (dk_at dksX8_lies_2 9 rfl rfl)
theorem dX8_lies_58 : decode cX8_lies 58 = .ok (.sipush 192, 3) := dk_17 0 192 (dk_at dksX8_lies_2 12 rfl rfl)
theorem dX8_lies_61 : decode cX8_lies 61 = .ok (.iload 4, 2) := dk_21 4 (dk_at dksX8_lies_2 15 rfl rfl)
theorem dX8_lies_63 : decode cX8_lies 63 = .ok (.iadd, 1) := dk_96 (dk_at dksX8_lies_2 17 rfl rfl)
theorem dX8_lies_64 : decode cX8_lies 64 = .ok (.iaload, 1) := dk_46 (dk_at dksX8_lies_2 18 rfl rfl)
theorem dX8_lies_65 : decode cX8_lies 65 = .ok (.aload_n 0, 1) := dk_42 (dk_at dksX8_lies_2 19 rfl rfl)
theorem dX8_lies_66 : decode cX8_lies 66 = .ok (.getfield 13, 3) := dk_180 0 13 (dk_at dksX8_lies_2 20 rfl rfl)
theorem dX8_lies_69 : decode cX8_lies 69 = .ok (.sipush 790, 3) := dk_17 3 22 (dk_at dksX8_lies_3 0 rfl rfl)
theorem dX8_lies_72 : decode cX8_lies 72 = .ok (.iconst 2, 1) := dk_5 (dk_at dksX8_lies_3 3 rfl rfl)
theorem dX8_lies_73 : decode cX8_lies 73 = .ok (.iload_n 3, 1) := dk_29 (dk_at dksX8_lies_3 4 rfl rfl)
theorem dX8_lies_74 : decode cX8_lies 74 = .ok (.imul, 1) := dk_104 (dk_at dksX8_lies_3 5 rfl rfl)
theorem dX8_lies_75 : decode cX8_lies 75 = .ok (.iadd, 1) := dk_96 (dk_at dksX8_lies_3 6 rfl rfl)
theorem dX8_lies_76 : decode cX8_lies 76 = .ok (.iconst 1, 1) := dk_4 (dk_at dksX8_lies_3 7 rfl rfl)
theorem dX8_lies_77 : decode cX8_lies 77 = .ok (.iadd, 1) := dk_96 (dk_at dksX8_lies_3 8 rfl rfl)
theorem dX8_lies_78 : decode cX8_lies 78 = .ok (.iaload, 1) := dk_46 (dk_at dksX8_lies_3 9 rfl rfl)
theorem dX8_lies_79 : decode cX8_lies 79 = .ok (.isub, 1) := dk_100 (dk_at dksX8_lies_3 10 rfl rfl)
theorem dX8_lies_80 : decode cX8_lies 80 = .ok (.invokestatic 328, 3) := dk_184 1 72 (dk_at dksX8_lies_3 11 rfl rfl)
theorem dX8_lies_83 : decode cX8_lies 83 = .ok (.iload_n 1, 1) := dk_27 (dk_at dksX8_lies_3 14 rfl rfl)
theorem dX8_lies_84 : decode cX8_lies 84 = .ok (.if_icmp .le 9, 3) := dk_164 0 9 (dk_at dksX8_lies_3 15 rfl rfl)
theorem dX8_lies_87 : decode cX8_lies 87 = .ok (.iload_n 2, 1) := dk_28 (dk_at dksX8_lies_3 18 rfl rfl)
theorem dX8_lies_88 : decode cX8_lies 88 = .ok (.iconst 1, 1) := dk_4 (dk_at dksX8_lies_3 19 rfl rfl)
theorem dX8_lies_89 : decode cX8_lies 89 = .ok (.iload_n 3, 1) := dk_29 (dk_at dksX8_lies_3 20 rfl rfl)
theorem dX8_lies_90 : decode cX8_lies 90 = .ok (.ishl, 1) := dk_120 (dk_at dksX8_lies_3 21 rfl rfl)
theorem dX8_lies_91 : decode cX8_lies 91 = .ok (.ior, 1) := dk_128 (dk_at dksX8_lies_3 22 rfl rfl)
theorem dX8_lies_92 : decode cX8_lies 92 = .ok (.istore_n 2, 1) := dk_61 (dk_at dksX8_lies_3 23 rfl rfl)
theorem dX8_lies_93 : decode cX8_lies 93 = .ok (.iinc 3 1, 3) := dk_132 3 1 (dk_at dksX8_lies_4 0 rfl rfl)
theorem dX8_lies_96 : decode cX8_lies 96 = .ok (.goto (-77), 3) := dk_167 255 179 (dk_at dksX8_lies_4 3 rfl rfl)
theorem dX8_lies_99 : decode cX8_lies 99 = .ok (.iload_n 2, 1) := dk_28 (dk_at dksX8_lies_4 6 rfl rfl)
theorem dX8_lies_100 : decode cX8_lies 100 = .ok (.ireturn, 1) := dk_172 (dk_at dksX8_lies_4 7 rfl rfl)
abbrev cX8_most : ByteArray := prog_16_method_93_code
def yX8_most : MethodName := ⟨RX8, "most", "(I)I"⟩
def dkwX8_most_4 : List UInt8 := [132, 3, 1, 167, 255, 175, 28, 172]
abbrev dktX8_most_4 : List UInt8 := dkwX8_most_4 ++ []
def dkwX8_most_3 : List UInt8 := [180, 0, 13, 17, 0, 192, 29, 96, 46, 42, 180, 0, 13, 17, 0, 192, 28, 96, 46, 164, 0, 5, 29, 61]
abbrev dktX8_most_3 : List UInt8 := dkwX8_most_3 ++ dktX8_most_4
def dkwX8_most_2 : List UInt8 := [17, 0, 192, 29, 96, 46, 42, 180, 0, 13, 17, 0, 192, 28, 96, 46, 162, 0, 31, 167, 0, 26, 42]
abbrev dktX8_most_2 : List UInt8 := dkwX8_most_2 ++ dktX8_most_3
def dkwX8_most_1 : List UInt8 := [29, 182, 0, 102, 153, 0, 6, 167, 0, 63, 28, 2, 159, 0, 56, 27, 154, 0, 29, 42, 180, 0, 13]
abbrev dktX8_most_1 : List UInt8 := dkwX8_most_1 ++ dktX8_most_2
def dkwX8_most_0 : List UInt8 := [27, 133, 9, 10, 184, 0, 110, 154, 0, 5, 2, 172, 2, 61, 3, 62, 29, 17, 0, 144, 162, 0, 80, 42]
abbrev dktX8_most_0 : List UInt8 := dkwX8_most_0 ++ dktX8_most_1
theorem dksX8_most_0 : cX8_most.data.toList.drop 0 = dktX8_most_0 := by decide +kernel
theorem dksX8_most_1 : cX8_most.data.toList.drop 24 = dktX8_most_1 := dk_seg dksX8_most_0 24 rfl rfl
theorem dksX8_most_2 : cX8_most.data.toList.drop 47 = dktX8_most_2 := dk_seg dksX8_most_1 23 rfl rfl
theorem dksX8_most_3 : cX8_most.data.toList.drop 70 = dktX8_most_3 := dk_seg dksX8_most_2 23 rfl rfl
theorem dksX8_most_4 : cX8_most.data.toList.drop 94 = dktX8_most_4 := dk_seg dksX8_most_3 24 rfl rfl
theorem dX8_most_0 : decode cX8_most 0 = .ok (.iload_n 1, 1) := dk_27 (dk_at dksX8_most_0 0 rfl rfl)
theorem dX8_most_1 : decode cX8_most 1 = .ok (.i2l, 1) := dk_133 (dk_at dksX8_most_0 1 rfl rfl)
theorem dX8_most_2 : decode cX8_most 2 = .ok (.lconst 0, 1) := dk_9 (dk_at dksX8_most_0 2 rfl rfl)
theorem dX8_most_3 : decode cX8_most 3 = .ok (.lconst 1, 1) := dk_10 (dk_at dksX8_most_0 3 rfl rfl)
theorem dX8_most_4 : decode cX8_most 4 = .ok (.invokestatic 110, 3) := dk_184 0 110 (dk_at dksX8_most_0 4 rfl rfl)
theorem dX8_most_7 : decode cX8_most 7 = .ok (.ifCond .ne 5, 3) := dk_154 0 5 (dk_at dksX8_most_0 7 rfl rfl)
theorem dX8_most_10 : decode cX8_most 10 = .ok (.iconst (-1), 1) := dk_2 (dk_at dksX8_most_0 10 rfl rfl)
theorem dX8_most_11 : decode cX8_most 11 = .ok (.ireturn, 1) := dk_172 (dk_at dksX8_most_0 11 rfl rfl)
theorem dX8_most_12 : decode cX8_most 12 = .ok (.iconst (-1), 1) := dk_2 (dk_at dksX8_most_0 12 rfl rfl)
theorem dX8_most_13 : decode cX8_most 13 = .ok (.istore_n 2, 1) := dk_61 (dk_at dksX8_most_0 13 rfl rfl)
theorem dX8_most_14 : decode cX8_most 14 = .ok (.iconst 0, 1) := dk_3 (dk_at dksX8_most_0 14 rfl rfl)
theorem dX8_most_15 : decode cX8_most 15 = .ok (.istore_n 3, 1) := dk_62 (dk_at dksX8_most_0 15 rfl rfl)
theorem dX8_most_16 : decode cX8_most 16 = .ok (.iload_n 3, 1) := dk_29 (dk_at dksX8_most_0 16 rfl rfl)
theorem dX8_most_17 : decode cX8_most 17 = .ok (.sipush 144, 3) := dk_17 0 144 (dk_at dksX8_most_0 17 rfl rfl)
theorem dX8_most_20 : decode cX8_most 20 = .ok (.if_icmp .ge 80, 3) := dk_162 0 80 (dk_at dksX8_most_0 20 rfl rfl)
theorem dX8_most_23 : decode cX8_most 23 = .ok (.aload_n 0, 1) := dk_42 (dk_at dksX8_most_0 23 rfl rfl)
theorem dX8_most_24 : decode cX8_most 24 = .ok (.iload_n 3, 1) := dk_29 (dk_at dksX8_most_1 0 rfl rfl)
theorem dX8_most_25 : decode cX8_most 25 = .ok (.invokevirtual 102, 3) := dk_182 0 102 (dk_at dksX8_most_1 1 rfl rfl)
theorem dX8_most_28 : decode cX8_most 28 = .ok (.ifCond .eq 6, 3) := dk_153 0 6 (dk_at dksX8_most_1 4 rfl rfl)
theorem dX8_most_31 : decode cX8_most 31 = .ok (.goto 63, 3) := dk_167 0 63 (dk_at dksX8_most_1 7 rfl rfl)
theorem dX8_most_34 : decode cX8_most 34 = .ok (.iload_n 2, 1) := dk_28 (dk_at dksX8_most_1 10 rfl rfl)
theorem dX8_most_35 : decode cX8_most 35 = .ok (.iconst (-1), 1) := dk_2 (dk_at dksX8_most_1 11 rfl rfl)
theorem dX8_most_36 : decode cX8_most 36 = .ok (.if_icmp .eq 56, 3) := dk_159 0 56 (dk_at dksX8_most_1 12 rfl rfl)
theorem dX8_most_39 : decode cX8_most 39 = .ok (.iload_n 1, 1) := dk_27 (dk_at dksX8_most_1 15 rfl rfl)
theorem dX8_most_40 : decode cX8_most 40 = .ok (.ifCond .ne 29, 3) := dk_154 0 29 (dk_at dksX8_most_1 16 rfl rfl)
theorem dX8_most_43 : decode cX8_most 43 = .ok (.aload_n 0, 1) := dk_42 (dk_at dksX8_most_1 19 rfl rfl)
theorem dX8_most_44 : decode cX8_most 44 = .ok (.getfield 13, 3) := dk_180 0 13 (dk_at dksX8_most_1 20 rfl rfl)
theorem dX8_most_47 : decode cX8_most 47 = .ok (.sipush 192, 3) := dk_17 0 192 (dk_at dksX8_most_2 0 rfl rfl)
theorem dX8_most_50 : decode cX8_most 50 = .ok (.iload_n 3, 1) := dk_29 (dk_at dksX8_most_2 3 rfl rfl)
theorem dX8_most_51 : decode cX8_most 51 = .ok (.iadd, 1) := dk_96 (dk_at dksX8_most_2 4 rfl rfl)
theorem dX8_most_52 : decode cX8_most 52 = .ok (.iaload, 1) := dk_46 (dk_at dksX8_most_2 5 rfl rfl)
theorem dX8_most_53 : decode cX8_most 53 = .ok (.aload_n 0, 1) := dk_42 (dk_at dksX8_most_2 6 rfl rfl)
theorem dX8_most_54 : decode cX8_most 54 = .ok (.getfield 13, 3) := dk_180 0 13 (dk_at dksX8_most_2 7 rfl rfl)
theorem dX8_most_57 : decode cX8_most 57 = .ok (.sipush 192, 3) := dk_17 0 192 (dk_at dksX8_most_2 10 rfl rfl)
theorem dX8_most_60 : decode cX8_most 60 = .ok (.iload_n 2, 1) := dk_28 (dk_at dksX8_most_2 13 rfl rfl)
theorem dX8_most_61 : decode cX8_most 61 = .ok (.iadd, 1) := dk_96 (dk_at dksX8_most_2 14 rfl rfl)
theorem dX8_most_62 : decode cX8_most 62 = .ok (.iaload, 1) := dk_46 (dk_at dksX8_most_2 15 rfl rfl)
theorem dX8_most_63 : decode cX8_most 63 = .ok (.if_icmp .ge 31, 3) := dk_162 0 31 (dk_at dksX8_most_2 16 rfl rfl)
theorem dX8_most_66 : decode cX8_most 66 = .ok (.goto 26, 3) := dk_167 0 26 (dk_at dksX8_most_2 19 rfl rfl)
theorem dX8_most_69 : decode cX8_most 69 = .ok (.aload_n 0, 1) := dk_42 (dk_at dksX8_most_2 22 rfl rfl)
theorem dX8_most_70 : decode cX8_most 70 = .ok (.getfield 13, 3) := dk_180 0 13 (dk_at dksX8_most_3 0 rfl rfl)
theorem dX8_most_73 : decode cX8_most 73 = .ok (.sipush 192, 3) := dk_17 0 192 (dk_at dksX8_most_3 3 rfl rfl)
theorem dX8_most_76 : decode cX8_most 76 = .ok (.iload_n 3, 1) := dk_29 (dk_at dksX8_most_3 6 rfl rfl)
theorem dX8_most_77 : decode cX8_most 77 = .ok (.iadd, 1) := dk_96 (dk_at dksX8_most_3 7 rfl rfl)
theorem dX8_most_78 : decode cX8_most 78 = .ok (.iaload, 1) := dk_46 (dk_at dksX8_most_3 8 rfl rfl)
theorem dX8_most_79 : decode cX8_most 79 = .ok (.aload_n 0, 1) := dk_42 (dk_at dksX8_most_3 9 rfl rfl)
theorem dX8_most_80 : decode cX8_most 80 = .ok (.getfield 13, 3) := dk_180 0 13 (dk_at dksX8_most_3 10 rfl rfl)
theorem dX8_most_83 : decode cX8_most 83 = .ok (.sipush 192, 3) := dk_17 0 192 (dk_at dksX8_most_3 13 rfl rfl)
theorem dX8_most_86 : decode cX8_most 86 = .ok (.iload_n 2, 1) := dk_28 (dk_at dksX8_most_3 16 rfl rfl)
theorem dX8_most_87 : decode cX8_most 87 = .ok (.iadd, 1) := dk_96 (dk_at dksX8_most_3 17 rfl rfl)
theorem dX8_most_88 : decode cX8_most 88 = .ok (.iaload, 1) := dk_46 (dk_at dksX8_most_3 18 rfl rfl)
theorem dX8_most_89 : decode cX8_most 89 = .ok (.if_icmp .le 5, 3) := dk_164 0 5 (dk_at dksX8_most_3 19 rfl rfl)
theorem dX8_most_92 : decode cX8_most 92 = .ok (.iload_n 3, 1) := dk_29 (dk_at dksX8_most_3 22 rfl rfl)
theorem dX8_most_93 : decode cX8_most 93 = .ok (.istore_n 2, 1) := dk_61 (dk_at dksX8_most_3 23 rfl rfl)
theorem dX8_most_94 : decode cX8_most 94 = .ok (.iinc 3 1, 3) := dk_132 3 1 (dk_at dksX8_most_4 0 rfl rfl)
theorem dX8_most_97 : decode cX8_most 97 = .ok (.goto (-81), 3) := dk_167 255 175 (dk_at dksX8_most_4 3 rfl rfl)
theorem dX8_most_100 : decode cX8_most 100 = .ok (.iload_n 2, 1) := dk_28 (dk_at dksX8_most_4 6 rfl rfl)
theorem dX8_most_101 : decode cX8_most 101 = .ok (.ireturn, 1) := dk_172 (dk_at dksX8_most_4 7 rfl rfl)
abbrev cX8_frost : ByteArray := prog_16_method_94_code
def yX8_frost : MethodName := ⟨RX8, "frost", "(I)I"⟩
def dkwX8_frost_2 : List UInt8 := [132, 3, 1, 167, 255, 224, 28, 172]
abbrev dktX8_frost_2 : List UInt8 := dkwX8_frost_2 ++ []
def dkwX8_frost_1 : List UInt8 := [28, 42, 16, 12, 27, 104, 29, 96, 182, 1, 45, 153, 0, 9, 4, 29, 120, 167, 0, 4, 3, 128, 61]
abbrev dktX8_frost_1 : List UInt8 := dkwX8_frost_1 ++ dktX8_frost_2
def dkwX8_frost_0 : List UInt8 := [27, 133, 9, 20, 0, 114, 184, 0, 110, 154, 0, 5, 2, 172, 3, 61, 3, 62, 29, 16, 12, 162, 0, 32]
abbrev dktX8_frost_0 : List UInt8 := dkwX8_frost_0 ++ dktX8_frost_1
theorem dksX8_frost_0 : cX8_frost.data.toList.drop 0 = dktX8_frost_0 := by decide +kernel
theorem dksX8_frost_1 : cX8_frost.data.toList.drop 24 = dktX8_frost_1 := dk_seg dksX8_frost_0 24 rfl rfl
theorem dksX8_frost_2 : cX8_frost.data.toList.drop 47 = dktX8_frost_2 := dk_seg dksX8_frost_1 23 rfl rfl
theorem dX8_frost_0 : decode cX8_frost 0 = .ok (.iload_n 1, 1) := dk_27 (dk_at dksX8_frost_0 0 rfl rfl)
theorem dX8_frost_1 : decode cX8_frost 1 = .ok (.i2l, 1) := dk_133 (dk_at dksX8_frost_0 1 rfl rfl)
theorem dX8_frost_2 : decode cX8_frost 2 = .ok (.lconst 0, 1) := dk_9 (dk_at dksX8_frost_0 2 rfl rfl)
theorem dX8_frost_3 : decode cX8_frost 3 = .ok (.ldc2_w 114, 3) := dk_20 0 114 (dk_at dksX8_frost_0 3 rfl rfl)
theorem dX8_frost_6 : decode cX8_frost 6 = .ok (.invokestatic 110, 3) := dk_184 0 110 (dk_at dksX8_frost_0 6 rfl rfl)
theorem dX8_frost_9 : decode cX8_frost 9 = .ok (.ifCond .ne 5, 3) := dk_154 0 5 (dk_at dksX8_frost_0 9 rfl rfl)
theorem dX8_frost_12 : decode cX8_frost 12 = .ok (.iconst (-1), 1) := dk_2 (dk_at dksX8_frost_0 12 rfl rfl)
theorem dX8_frost_13 : decode cX8_frost 13 = .ok (.ireturn, 1) := dk_172 (dk_at dksX8_frost_0 13 rfl rfl)
theorem dX8_frost_14 : decode cX8_frost 14 = .ok (.iconst 0, 1) := dk_3 (dk_at dksX8_frost_0 14 rfl rfl)
theorem dX8_frost_15 : decode cX8_frost 15 = .ok (.istore_n 2, 1) := dk_61 (dk_at dksX8_frost_0 15 rfl rfl)
theorem dX8_frost_16 : decode cX8_frost 16 = .ok (.iconst 0, 1) := dk_3 (dk_at dksX8_frost_0 16 rfl rfl)
theorem dX8_frost_17 : decode cX8_frost 17 = .ok (.istore_n 3, 1) := dk_62 (dk_at dksX8_frost_0 17 rfl rfl)
theorem dX8_frost_18 : decode cX8_frost 18 = .ok (.iload_n 3, 1) := dk_29 (dk_at dksX8_frost_0 18 rfl rfl)
theorem dX8_frost_19 : decode cX8_frost 19 = .ok (.bipush 12, 2) := dk_16 12 (dk_at dksX8_frost_0 19 rfl rfl)
theorem dX8_frost_21 : decode cX8_frost 21 = .ok (.if_icmp .ge 32, 3) := dk_162 0 32 (dk_at dksX8_frost_0 21 rfl rfl)
theorem dX8_frost_24 : decode cX8_frost 24 = .ok (.iload_n 2, 1) := dk_28 (dk_at dksX8_frost_1 0 rfl rfl)
theorem dX8_frost_25 : decode cX8_frost 25 = .ok (.aload_n 0, 1) := dk_42 (dk_at dksX8_frost_1 1 rfl rfl)
theorem dX8_frost_26 : decode cX8_frost 26 = .ok (.bipush 12, 2) := dk_16 12 (dk_at dksX8_frost_1 2 rfl rfl)
theorem dX8_frost_28 : decode cX8_frost 28 = .ok (.iload_n 1, 1) := dk_27 (dk_at dksX8_frost_1 4 rfl rfl)
theorem dX8_frost_29 : decode cX8_frost 29 = .ok (.imul, 1) := dk_104 (dk_at dksX8_frost_1 5 rfl rfl)
theorem dX8_frost_30 : decode cX8_frost 30 = .ok (.iload_n 3, 1) := dk_29 (dk_at dksX8_frost_1 6 rfl rfl)
theorem dX8_frost_31 : decode cX8_frost 31 = .ok (.iadd, 1) := dk_96 (dk_at dksX8_frost_1 7 rfl rfl)
theorem dX8_frost_32 : decode cX8_frost 32 = .ok (.invokevirtual 301, 3) := dk_182 1 45 (dk_at dksX8_frost_1 8 rfl rfl)
theorem dX8_frost_35 : decode cX8_frost 35 = .ok (.ifCond .eq 9, 3) := dk_153 0 9 (dk_at dksX8_frost_1 11 rfl rfl)
theorem dX8_frost_38 : decode cX8_frost 38 = .ok (.iconst 1, 1) := dk_4 (dk_at dksX8_frost_1 14 rfl rfl)
theorem dX8_frost_39 : decode cX8_frost 39 = .ok (.iload_n 3, 1) := dk_29 (dk_at dksX8_frost_1 15 rfl rfl)
theorem dX8_frost_40 : decode cX8_frost 40 = .ok (.ishl, 1) := dk_120 (dk_at dksX8_frost_1 16 rfl rfl)
theorem dX8_frost_41 : decode cX8_frost 41 = .ok (.goto 4, 3) := dk_167 0 4 (dk_at dksX8_frost_1 17 rfl rfl)
theorem dX8_frost_44 : decode cX8_frost 44 = .ok (.iconst 0, 1) := dk_3 (dk_at dksX8_frost_1 20 rfl rfl)
theorem dX8_frost_45 : decode cX8_frost 45 = .ok (.ior, 1) := dk_128 (dk_at dksX8_frost_1 21 rfl rfl)
theorem dX8_frost_46 : decode cX8_frost 46 = .ok (.istore_n 2, 1) := dk_61 (dk_at dksX8_frost_1 22 rfl rfl)
theorem dX8_frost_47 : decode cX8_frost 47 = .ok (.iinc 3 1, 3) := dk_132 3 1 (dk_at dksX8_frost_2 0 rfl rfl)
theorem dX8_frost_50 : decode cX8_frost 50 = .ok (.goto (-32), 3) := dk_167 255 224 (dk_at dksX8_frost_2 3 rfl rfl)
theorem dX8_frost_53 : decode cX8_frost 53 = .ok (.iload_n 2, 1) := dk_28 (dk_at dksX8_frost_2 6 rfl rfl)
theorem dX8_frost_54 : decode cX8_frost 54 = .ok (.ireturn, 1) := dk_172 (dk_at dksX8_frost_2 7 rfl rfl)
abbrev cX8_count : ByteArray := prog_16_method_95_code
def yX8_count : MethodName := ⟨RX8, "count", "(I)I"⟩
def dkwX8_count_8 : List UInt8 := [46, 172, 42, 180, 0, 13, 16, 13, 46, 172, 2, 172]
abbrev dktX8_count_8 : List UInt8 := dkwX8_count_8 ++ []
def dkwX8_count_7 : List UInt8 := [2, 160, 0, 7, 3, 167, 0, 4, 4, 96, 61, 132, 3, 1, 167, 255, 230, 28, 172, 42, 180, 0, 13, 8]
abbrev dktX8_count_7 : List UInt8 := dkwX8_count_7 ++ dktX8_count_8
def dkwX8_count_6 : List UInt8 := [46, 172, 42, 180, 0, 13, 16, 6, 46, 172, 3, 62, 29, 7, 162, 0, 27, 28, 42, 180, 0, 73, 29, 46]
abbrev dktX8_count_6 : List UInt8 := dkwX8_count_6 ++ dktX8_count_7
def dkwX8_count_5 : List UInt8 := [180, 0, 13, 7, 46, 172, 42, 180, 0, 122, 172, 42, 180, 0, 13, 6, 46, 172, 42, 180, 0, 13, 16, 12]
abbrev dktX8_count_5 : List UInt8 := dkwX8_count_5 ++ dktX8_count_6
def dkwX8_count_4 : List UInt8 := [29, 182, 0, 102, 153, 0, 7, 4, 167, 0, 4, 3, 96, 61, 132, 3, 1, 167, 255, 214, 28, 172, 42]
abbrev dktX8_count_4 : List UInt8 := dkwX8_count_4 ++ dktX8_count_5
def dkwX8_count_3 : List UInt8 := [17, 0, 144, 162, 0, 41, 28, 27, 6, 160, 0, 14, 42, 29, 182, 1, 45, 153, 0, 18, 167, 0, 11, 42]
abbrev dktX8_count_3 : List UInt8 := dkwX8_count_3 ++ dktX8_count_4
def dkwX8_count_2 : List UInt8 := [42, 180, 0, 13, 3, 46, 172, 42, 180, 0, 13, 4, 46, 172, 42, 180, 0, 13, 5, 46, 172, 3, 62, 29]
abbrev dktX8_count_2 : List UInt8 := dkwX8_count_2 ++ dktX8_count_3
def dkwX8_count_1 : List UInt8 := [170, 0, 0, 0, 218, 0, 0, 0, 0, 0, 0, 0, 12, 0, 0, 0, 65, 0, 0, 0, 72, 0, 0, 0, 79, 0, 0, 0, 86, 0, 0, 0, 86, 0, 0, 0, 135, 0, 0, 0, 142, 0, 0, 0, 147, 0, 0, 0, 154, 0, 0, 0, 162, 0, 0, 0, 170, 0, 0, 0, 203, 0, 0, 0, 210]
abbrev dktX8_count_1 : List UInt8 := dkwX8_count_1 ++ dktX8_count_2
def dkwX8_count_0 : List UInt8 := [3, 61, 27]
abbrev dktX8_count_0 : List UInt8 := dkwX8_count_0 ++ dktX8_count_1
theorem dksX8_count_0 : cX8_count.data.toList.drop 0 = dktX8_count_0 := by decide +kernel
theorem dksX8_count_1 : cX8_count.data.toList.drop 3 = dktX8_count_1 := dk_seg dksX8_count_0 3 rfl rfl
theorem dksX8_count_2 : cX8_count.data.toList.drop 68 = dktX8_count_2 := dk_seg dksX8_count_1 65 rfl rfl
theorem dksX8_count_3 : cX8_count.data.toList.drop 92 = dktX8_count_3 := dk_seg dksX8_count_2 24 rfl rfl
theorem dksX8_count_4 : cX8_count.data.toList.drop 116 = dktX8_count_4 := dk_seg dksX8_count_3 24 rfl rfl
theorem dksX8_count_5 : cX8_count.data.toList.drop 139 = dktX8_count_5 := dk_seg dksX8_count_4 23 rfl rfl
theorem dksX8_count_6 : cX8_count.data.toList.drop 163 = dktX8_count_6 := dk_seg dksX8_count_5 24 rfl rfl
theorem dksX8_count_7 : cX8_count.data.toList.drop 187 = dktX8_count_7 := dk_seg dksX8_count_6 24 rfl rfl
theorem dksX8_count_8 : cX8_count.data.toList.drop 211 = dktX8_count_8 := dk_seg dksX8_count_7 24 rfl rfl
theorem dX8_count_0 : decode cX8_count 0 = .ok (.iconst 0, 1) := dk_3 (dk_at dksX8_count_0 0 rfl rfl)
theorem dX8_count_1 : decode cX8_count 1 = .ok (.istore_n 2, 1) := dk_61 (dk_at dksX8_count_0 1 rfl rfl)
theorem dX8_count_2 : decode cX8_count 2 = .ok (.iload_n 1, 1) := dk_27 (dk_at dksX8_count_0 2 rfl rfl)
theorem dX8_count_3 : decode cX8_count 3 = .ok (.tableswitch 218 0 12 #[65, 72, 79, 86, 86, 135, 142, 147, 154, 162, 170, 203, 210], 65) := by decide +kernel
theorem dX8_count_68 : decode cX8_count 68 = .ok (.aload_n 0, 1) := dk_42 (dk_at dksX8_count_2 0 rfl rfl)
theorem dX8_count_69 : decode cX8_count 69 = .ok (.getfield 13, 3) := dk_180 0 13 (dk_at dksX8_count_2 1 rfl rfl)
theorem dX8_count_72 : decode cX8_count 72 = .ok (.iconst 0, 1) := dk_3 (dk_at dksX8_count_2 4 rfl rfl)
theorem dX8_count_73 : decode cX8_count 73 = .ok (.iaload, 1) := dk_46 (dk_at dksX8_count_2 5 rfl rfl)
theorem dX8_count_74 : decode cX8_count 74 = .ok (.ireturn, 1) := dk_172 (dk_at dksX8_count_2 6 rfl rfl)
theorem dX8_count_75 : decode cX8_count 75 = .ok (.aload_n 0, 1) := dk_42 (dk_at dksX8_count_2 7 rfl rfl)
theorem dX8_count_76 : decode cX8_count 76 = .ok (.getfield 13, 3) := dk_180 0 13 (dk_at dksX8_count_2 8 rfl rfl)
theorem dX8_count_79 : decode cX8_count 79 = .ok (.iconst 1, 1) := dk_4 (dk_at dksX8_count_2 11 rfl rfl)
theorem dX8_count_80 : decode cX8_count 80 = .ok (.iaload, 1) := dk_46 (dk_at dksX8_count_2 12 rfl rfl)
theorem dX8_count_81 : decode cX8_count 81 = .ok (.ireturn, 1) := dk_172 (dk_at dksX8_count_2 13 rfl rfl)
theorem dX8_count_82 : decode cX8_count 82 = .ok (.aload_n 0, 1) := dk_42 (dk_at dksX8_count_2 14 rfl rfl)
theorem dX8_count_83 : decode cX8_count 83 = .ok (.getfield 13, 3) := dk_180 0 13 (dk_at dksX8_count_2 15 rfl rfl)
theorem dX8_count_86 : decode cX8_count 86 = .ok (.iconst 2, 1) := dk_5 (dk_at dksX8_count_2 18 rfl rfl)
theorem dX8_count_87 : decode cX8_count 87 = .ok (.iaload, 1) := dk_46 (dk_at dksX8_count_2 19 rfl rfl)
theorem dX8_count_88 : decode cX8_count 88 = .ok (.ireturn, 1) := dk_172 (dk_at dksX8_count_2 20 rfl rfl)
theorem dX8_count_89 : decode cX8_count 89 = .ok (.iconst 0, 1) := dk_3 (dk_at dksX8_count_2 21 rfl rfl)
theorem dX8_count_90 : decode cX8_count 90 = .ok (.istore_n 3, 1) := dk_62 (dk_at dksX8_count_2 22 rfl rfl)
theorem dX8_count_91 : decode cX8_count 91 = .ok (.iload_n 3, 1) := dk_29 (dk_at dksX8_count_2 23 rfl rfl)
theorem dX8_count_92 : decode cX8_count 92 = .ok (.sipush 144, 3) := dk_17 0 144 (dk_at dksX8_count_3 0 rfl rfl)
theorem dX8_count_95 : decode cX8_count 95 = .ok (.if_icmp .ge 41, 3) := dk_162 0 41 (dk_at dksX8_count_3 3 rfl rfl)
theorem dX8_count_98 : decode cX8_count 98 = .ok (.iload_n 2, 1) := dk_28 (dk_at dksX8_count_3 6 rfl rfl)
theorem dX8_count_99 : decode cX8_count 99 = .ok (.iload_n 1, 1) := dk_27 (dk_at dksX8_count_3 7 rfl rfl)
theorem dX8_count_100 : decode cX8_count 100 = .ok (.iconst 3, 1) := dk_6 (dk_at dksX8_count_3 8 rfl rfl)
theorem dX8_count_101 : decode cX8_count 101 = .ok (.if_icmp .ne 14, 3) := dk_160 0 14 (dk_at dksX8_count_3 9 rfl rfl)
theorem dX8_count_104 : decode cX8_count 104 = .ok (.aload_n 0, 1) := dk_42 (dk_at dksX8_count_3 12 rfl rfl)
theorem dX8_count_105 : decode cX8_count 105 = .ok (.iload_n 3, 1) := dk_29 (dk_at dksX8_count_3 13 rfl rfl)
theorem dX8_count_106 : decode cX8_count 106 = .ok (.invokevirtual 301, 3) := dk_182 1 45 (dk_at dksX8_count_3 14 rfl rfl)
theorem dX8_count_109 : decode cX8_count 109 = .ok (.ifCond .eq 18, 3) := dk_153 0 18 (dk_at dksX8_count_3 17 rfl rfl)
theorem dX8_count_112 : decode cX8_count 112 = .ok (.goto 11, 3) := dk_167 0 11 (dk_at dksX8_count_3 20 rfl rfl)
theorem dX8_count_115 : decode cX8_count 115 = .ok (.aload_n 0, 1) := dk_42 (dk_at dksX8_count_3 23 rfl rfl)
theorem dX8_count_116 : decode cX8_count 116 = .ok (.iload_n 3, 1) := dk_29 (dk_at dksX8_count_4 0 rfl rfl)
theorem dX8_count_117 : decode cX8_count 117 = .ok (.invokevirtual 102, 3) := dk_182 0 102 (dk_at dksX8_count_4 1 rfl rfl)
theorem dX8_count_120 : decode cX8_count 120 = .ok (.ifCond .eq 7, 3) := dk_153 0 7 (dk_at dksX8_count_4 4 rfl rfl)
theorem dX8_count_123 : decode cX8_count 123 = .ok (.iconst 1, 1) := dk_4 (dk_at dksX8_count_4 7 rfl rfl)
theorem dX8_count_124 : decode cX8_count 124 = .ok (.goto 4, 3) := dk_167 0 4 (dk_at dksX8_count_4 8 rfl rfl)
theorem dX8_count_127 : decode cX8_count 127 = .ok (.iconst 0, 1) := dk_3 (dk_at dksX8_count_4 11 rfl rfl)
theorem dX8_count_128 : decode cX8_count 128 = .ok (.iadd, 1) := dk_96 (dk_at dksX8_count_4 12 rfl rfl)
theorem dX8_count_129 : decode cX8_count 129 = .ok (.istore_n 2, 1) := dk_61 (dk_at dksX8_count_4 13 rfl rfl)
theorem dX8_count_130 : decode cX8_count 130 = .ok (.iinc 3 1, 3) := dk_132 3 1 (dk_at dksX8_count_4 14 rfl rfl)
theorem dX8_count_133 : decode cX8_count 133 = .ok (.goto (-42), 3) := dk_167 255 214 (dk_at dksX8_count_4 17 rfl rfl)
theorem dX8_count_136 : decode cX8_count 136 = .ok (.iload_n 2, 1) := dk_28 (dk_at dksX8_count_4 20 rfl rfl)
theorem dX8_count_137 : decode cX8_count 137 = .ok (.ireturn, 1) := dk_172 (dk_at dksX8_count_4 21 rfl rfl)
theorem dX8_count_138 : decode cX8_count 138 = .ok (.aload_n 0, 1) := dk_42 (dk_at dksX8_count_4 22 rfl rfl)
theorem dX8_count_139 : decode cX8_count 139 = .ok (.getfield 13, 3) := dk_180 0 13 (dk_at dksX8_count_5 0 rfl rfl)
theorem dX8_count_142 : decode cX8_count 142 = .ok (.iconst 4, 1) := dk_7 (dk_at dksX8_count_5 3 rfl rfl)
theorem dX8_count_143 : decode cX8_count 143 = .ok (.iaload, 1) := dk_46 (dk_at dksX8_count_5 4 rfl rfl)
theorem dX8_count_144 : decode cX8_count 144 = .ok (.ireturn, 1) := dk_172 (dk_at dksX8_count_5 5 rfl rfl)
theorem dX8_count_145 : decode cX8_count 145 = .ok (.aload_n 0, 1) := dk_42 (dk_at dksX8_count_5 6 rfl rfl)
theorem dX8_count_146 : decode cX8_count 146 = .ok (.getfield 122, 3) := dk_180 0 122 (dk_at dksX8_count_5 7 rfl rfl)
theorem dX8_count_149 : decode cX8_count 149 = .ok (.ireturn, 1) := dk_172 (dk_at dksX8_count_5 10 rfl rfl)
theorem dX8_count_150 : decode cX8_count 150 = .ok (.aload_n 0, 1) := dk_42 (dk_at dksX8_count_5 11 rfl rfl)
theorem dX8_count_151 : decode cX8_count 151 = .ok (.getfield 13, 3) := dk_180 0 13 (dk_at dksX8_count_5 12 rfl rfl)
theorem dX8_count_154 : decode cX8_count 154 = .ok (.iconst 3, 1) := dk_6 (dk_at dksX8_count_5 15 rfl rfl)
theorem dX8_count_155 : decode cX8_count 155 = .ok (.iaload, 1) := dk_46 (dk_at dksX8_count_5 16 rfl rfl)
theorem dX8_count_156 : decode cX8_count 156 = .ok (.ireturn, 1) := dk_172 (dk_at dksX8_count_5 17 rfl rfl)
theorem dX8_count_157 : decode cX8_count 157 = .ok (.aload_n 0, 1) := dk_42 (dk_at dksX8_count_5 18 rfl rfl)
theorem dX8_count_158 : decode cX8_count 158 = .ok (.getfield 13, 3) := dk_180 0 13 (dk_at dksX8_count_5 19 rfl rfl)
theorem dX8_count_161 : decode cX8_count 161 = .ok (.bipush 12, 2) := dk_16 12 (dk_at dksX8_count_5 22 rfl rfl)
theorem dX8_count_163 : decode cX8_count 163 = .ok (.iaload, 1) := dk_46 (dk_at dksX8_count_6 0 rfl rfl)
theorem dX8_count_164 : decode cX8_count 164 = .ok (.ireturn, 1) := dk_172 (dk_at dksX8_count_6 1 rfl rfl)
theorem dX8_count_165 : decode cX8_count 165 = .ok (.aload_n 0, 1) := dk_42 (dk_at dksX8_count_6 2 rfl rfl)
theorem dX8_count_166 : decode cX8_count 166 = .ok (.getfield 13, 3) := dk_180 0 13 (dk_at dksX8_count_6 3 rfl rfl)
theorem dX8_count_169 : decode cX8_count 169 = .ok (.bipush 6, 2) := dk_16 6 (dk_at dksX8_count_6 6 rfl rfl)
theorem dX8_count_171 : decode cX8_count 171 = .ok (.iaload, 1) := dk_46 (dk_at dksX8_count_6 8 rfl rfl)
theorem dX8_count_172 : decode cX8_count 172 = .ok (.ireturn, 1) := dk_172 (dk_at dksX8_count_6 9 rfl rfl)
theorem dX8_count_173 : decode cX8_count 173 = .ok (.iconst 0, 1) := dk_3 (dk_at dksX8_count_6 10 rfl rfl)
theorem dX8_count_174 : decode cX8_count 174 = .ok (.istore_n 3, 1) := dk_62 (dk_at dksX8_count_6 11 rfl rfl)
theorem dX8_count_175 : decode cX8_count 175 = .ok (.iload_n 3, 1) := dk_29 (dk_at dksX8_count_6 12 rfl rfl)
theorem dX8_count_176 : decode cX8_count 176 = .ok (.iconst 4, 1) := dk_7 (dk_at dksX8_count_6 13 rfl rfl)
theorem dX8_count_177 : decode cX8_count 177 = .ok (.if_icmp .ge 27, 3) := dk_162 0 27 (dk_at dksX8_count_6 14 rfl rfl)
theorem dX8_count_180 : decode cX8_count 180 = .ok (.iload_n 2, 1) := dk_28 (dk_at dksX8_count_6 17 rfl rfl)
theorem dX8_count_181 : decode cX8_count 181 = .ok (.aload_n 0, 1) := dk_42 (dk_at dksX8_count_6 18 rfl rfl)
theorem dX8_count_182 : decode cX8_count 182 = .ok (.getfield 73, 3) := dk_180 0 73 (dk_at dksX8_count_6 19 rfl rfl)
theorem dX8_count_185 : decode cX8_count 185 = .ok (.iload_n 3, 1) := dk_29 (dk_at dksX8_count_6 22 rfl rfl)
theorem dX8_count_186 : decode cX8_count 186 = .ok (.iaload, 1) := dk_46 (dk_at dksX8_count_6 23 rfl rfl)
theorem dX8_count_187 : decode cX8_count 187 = .ok (.iconst (-1), 1) := dk_2 (dk_at dksX8_count_7 0 rfl rfl)
theorem dX8_count_188 : decode cX8_count 188 = .ok (.if_icmp .ne 7, 3) := dk_160 0 7 (dk_at dksX8_count_7 1 rfl rfl)
theorem dX8_count_191 : decode cX8_count 191 = .ok (.iconst 0, 1) := dk_3 (dk_at dksX8_count_7 4 rfl rfl)
theorem dX8_count_192 : decode cX8_count 192 = .ok (.goto 4, 3) := dk_167 0 4 (dk_at dksX8_count_7 5 rfl rfl)
theorem dX8_count_195 : decode cX8_count 195 = .ok (.iconst 1, 1) := dk_4 (dk_at dksX8_count_7 8 rfl rfl)
theorem dX8_count_196 : decode cX8_count 196 = .ok (.iadd, 1) := dk_96 (dk_at dksX8_count_7 9 rfl rfl)
theorem dX8_count_197 : decode cX8_count 197 = .ok (.istore_n 2, 1) := dk_61 (dk_at dksX8_count_7 10 rfl rfl)
theorem dX8_count_198 : decode cX8_count 198 = .ok (.iinc 3 1, 3) := dk_132 3 1 (dk_at dksX8_count_7 11 rfl rfl)
theorem dX8_count_201 : decode cX8_count 201 = .ok (.goto (-26), 3) := dk_167 255 230 (dk_at dksX8_count_7 14 rfl rfl)
theorem dX8_count_204 : decode cX8_count 204 = .ok (.iload_n 2, 1) := dk_28 (dk_at dksX8_count_7 17 rfl rfl)
theorem dX8_count_205 : decode cX8_count 205 = .ok (.ireturn, 1) := dk_172 (dk_at dksX8_count_7 18 rfl rfl)
theorem dX8_count_206 : decode cX8_count 206 = .ok (.aload_n 0, 1) := dk_42 (dk_at dksX8_count_7 19 rfl rfl)
theorem dX8_count_207 : decode cX8_count 207 = .ok (.getfield 13, 3) := dk_180 0 13 (dk_at dksX8_count_7 20 rfl rfl)
theorem dX8_count_210 : decode cX8_count 210 = .ok (.iconst 5, 1) := dk_8 (dk_at dksX8_count_7 23 rfl rfl)
theorem dX8_count_211 : decode cX8_count 211 = .ok (.iaload, 1) := dk_46 (dk_at dksX8_count_8 0 rfl rfl)
theorem dX8_count_212 : decode cX8_count 212 = .ok (.ireturn, 1) := dk_172 (dk_at dksX8_count_8 1 rfl rfl)
theorem dX8_count_213 : decode cX8_count 213 = .ok (.aload_n 0, 1) := dk_42 (dk_at dksX8_count_8 2 rfl rfl)
theorem dX8_count_214 : decode cX8_count 214 = .ok (.getfield 13, 3) := dk_180 0 13 (dk_at dksX8_count_8 3 rfl rfl)
theorem dX8_count_217 : decode cX8_count 217 = .ok (.bipush 13, 2) := dk_16 13 (dk_at dksX8_count_8 6 rfl rfl)
theorem dX8_count_219 : decode cX8_count 219 = .ok (.iaload, 1) := dk_46 (dk_at dksX8_count_8 8 rfl rfl)
theorem dX8_count_220 : decode cX8_count 220 = .ok (.ireturn, 1) := dk_172 (dk_at dksX8_count_8 9 rfl rfl)
theorem dX8_count_221 : decode cX8_count 221 = .ok (.iconst (-1), 1) := dk_2 (dk_at dksX8_count_8 10 rfl rfl)
theorem dX8_count_222 : decode cX8_count 222 = .ok (.ireturn, 1) := dk_172 (dk_at dksX8_count_8 11 rfl rfl)
abbrev cX8_row : ByteArray := prog_16_method_98_code
def yX8_row : MethodName := ⟨RX8, "row", "(III)I"⟩
def dkwX8_row_3 : List UInt8 := [9, 80, 132, 4, 1, 167, 255, 233, 3, 172]
abbrev dktX8_row_3 : List UInt8 := dkwX8_row_3 ++ []
def dkwX8_row_2 : List UInt8 := [27, 28, 79, 3, 54, 4, 21, 4, 16, 60, 162, 0, 22, 42, 180, 0, 79, 16, 60, 27, 104, 21, 4, 96]
abbrev dktX8_row_2 : List UInt8 := dkwX8_row_2 ++ dktX8_row_3
def dkwX8_row_1 : List UInt8 := [164, 0, 6, 16, 254, 172, 29, 156, 0, 6, 16, 253, 172, 42, 180, 0, 73, 27, 29, 79, 42, 180, 0, 76]
abbrev dktX8_row_1 : List UInt8 := dkwX8_row_1 ++ dktX8_row_2
def dkwX8_row_0 : List UInt8 := [27, 184, 1, 156, 153, 0, 21, 28, 133, 9, 20, 0, 198, 184, 0, 110, 153, 0, 9, 29, 16, 60]
abbrev dktX8_row_0 : List UInt8 := dkwX8_row_0 ++ dktX8_row_1
theorem dksX8_row_0 : cX8_row.data.toList.drop 0 = dktX8_row_0 := by decide +kernel
theorem dksX8_row_1 : cX8_row.data.toList.drop 22 = dktX8_row_1 := dk_seg dksX8_row_0 22 rfl rfl
theorem dksX8_row_2 : cX8_row.data.toList.drop 46 = dktX8_row_2 := dk_seg dksX8_row_1 24 rfl rfl
theorem dksX8_row_3 : cX8_row.data.toList.drop 70 = dktX8_row_3 := dk_seg dksX8_row_2 24 rfl rfl
theorem dX8_row_0 : decode cX8_row 0 = .ok (.iload_n 1, 1) := dk_27 (dk_at dksX8_row_0 0 rfl rfl)
theorem dX8_row_1 : decode cX8_row 1 = .ok (.invokestatic 412, 3) := dk_184 1 156 (dk_at dksX8_row_0 1 rfl rfl)
theorem dX8_row_4 : decode cX8_row 4 = .ok (.ifCond .eq 21, 3) := dk_153 0 21 (dk_at dksX8_row_0 4 rfl rfl)
theorem dX8_row_7 : decode cX8_row 7 = .ok (.iload_n 2, 1) := dk_28 (dk_at dksX8_row_0 7 rfl rfl)
theorem dX8_row_8 : decode cX8_row 8 = .ok (.i2l, 1) := dk_133 (dk_at dksX8_row_0 8 rfl rfl)
theorem dX8_row_9 : decode cX8_row 9 = .ok (.lconst 0, 1) := dk_9 (dk_at dksX8_row_0 9 rfl rfl)
theorem dX8_row_10 : decode cX8_row 10 = .ok (.ldc2_w 198, 3) := dk_20 0 198 (dk_at dksX8_row_0 10 rfl rfl)
theorem dX8_row_13 : decode cX8_row 13 = .ok (.invokestatic 110, 3) := dk_184 0 110 (dk_at dksX8_row_0 13 rfl rfl)
theorem dX8_row_16 : decode cX8_row 16 = .ok (.ifCond .eq 9, 3) := dk_153 0 9 (dk_at dksX8_row_0 16 rfl rfl)
theorem dX8_row_19 : decode cX8_row 19 = .ok (.iload_n 3, 1) := dk_29 (dk_at dksX8_row_0 19 rfl rfl)
theorem dX8_row_20 : decode cX8_row 20 = .ok (.bipush 60, 2) := dk_16 60 (dk_at dksX8_row_0 20 rfl rfl)
theorem dX8_row_22 : decode cX8_row 22 = .ok (.if_icmp .le 6, 3) := dk_164 0 6 (dk_at dksX8_row_1 0 rfl rfl)
theorem dX8_row_25 : decode cX8_row 25 = .ok (.bipush (-2), 2) := dk_16 254 (dk_at dksX8_row_1 3 rfl rfl)
theorem dX8_row_27 : decode cX8_row 27 = .ok (.ireturn, 1) := dk_172 (dk_at dksX8_row_1 5 rfl rfl)
theorem dX8_row_28 : decode cX8_row 28 = .ok (.iload_n 3, 1) := dk_29 (dk_at dksX8_row_1 6 rfl rfl)
theorem dX8_row_29 : decode cX8_row 29 = .ok (.ifCond .ge 6, 3) := dk_156 0 6 (dk_at dksX8_row_1 7 rfl rfl)
theorem dX8_row_32 : decode cX8_row 32 = .ok (.bipush (-3), 2) := dk_16 253 (dk_at dksX8_row_1 10 rfl rfl)
theorem dX8_row_34 : decode cX8_row 34 = .ok (.ireturn, 1) := dk_172 (dk_at dksX8_row_1 12 rfl rfl)
theorem dX8_row_35 : decode cX8_row 35 = .ok (.aload_n 0, 1) := dk_42 (dk_at dksX8_row_1 13 rfl rfl)
theorem dX8_row_36 : decode cX8_row 36 = .ok (.getfield 73, 3) := dk_180 0 73 (dk_at dksX8_row_1 14 rfl rfl)
theorem dX8_row_39 : decode cX8_row 39 = .ok (.iload_n 1, 1) := dk_27 (dk_at dksX8_row_1 17 rfl rfl)
theorem dX8_row_40 : decode cX8_row 40 = .ok (.iload_n 3, 1) := dk_29 (dk_at dksX8_row_1 18 rfl rfl)
theorem dX8_row_41 : decode cX8_row 41 = .ok (.iastore, 1) := dk_79 (dk_at dksX8_row_1 19 rfl rfl)
theorem dX8_row_42 : decode cX8_row 42 = .ok (.aload_n 0, 1) := dk_42 (dk_at dksX8_row_1 20 rfl rfl)
theorem dX8_row_43 : decode cX8_row 43 = .ok (.getfield 76, 3) := dk_180 0 76 (dk_at dksX8_row_1 21 rfl rfl)
theorem dX8_row_46 : decode cX8_row 46 = .ok (.iload_n 1, 1) := dk_27 (dk_at dksX8_row_2 0 rfl rfl)
theorem dX8_row_47 : decode cX8_row 47 = .ok (.iload_n 2, 1) := dk_28 (dk_at dksX8_row_2 1 rfl rfl)
theorem dX8_row_48 : decode cX8_row 48 = .ok (.iastore, 1) := dk_79 (dk_at dksX8_row_2 2 rfl rfl)
theorem dX8_row_49 : decode cX8_row 49 = .ok (.iconst 0, 1) := dk_3 (dk_at dksX8_row_2 3 rfl rfl)
theorem dX8_row_50 : decode cX8_row 50 = .ok (.istore 4, 2) := dk_54 4 (dk_at dksX8_row_2 4 rfl rfl)
theorem dX8_row_52 : decode cX8_row 52 = .ok (.iload 4, 2) := dk_21 4 (dk_at dksX8_row_2 6 rfl rfl)
theorem dX8_row_54 : decode cX8_row 54 = .ok (.bipush 60, 2) := dk_16 60 (dk_at dksX8_row_2 8 rfl rfl)
theorem dX8_row_56 : decode cX8_row 56 = .ok (.if_icmp .ge 22, 3) := dk_162 0 22 (dk_at dksX8_row_2 10 rfl rfl)
theorem dX8_row_59 : decode cX8_row 59 = .ok (.aload_n 0, 1) := dk_42 (dk_at dksX8_row_2 13 rfl rfl)
theorem dX8_row_60 : decode cX8_row 60 = .ok (.getfield 79, 3) := dk_180 0 79 (dk_at dksX8_row_2 14 rfl rfl)
theorem dX8_row_63 : decode cX8_row 63 = .ok (.bipush 60, 2) := dk_16 60 (dk_at dksX8_row_2 17 rfl rfl)
theorem dX8_row_65 : decode cX8_row 65 = .ok (.iload_n 1, 1) := dk_27 (dk_at dksX8_row_2 19 rfl rfl)
theorem dX8_row_66 : decode cX8_row 66 = .ok (.imul, 1) := dk_104 (dk_at dksX8_row_2 20 rfl rfl)
theorem dX8_row_67 : decode cX8_row 67 = .ok (.iload 4, 2) := dk_21 4 (dk_at dksX8_row_2 21 rfl rfl)
theorem dX8_row_69 : decode cX8_row 69 = .ok (.iadd, 1) := dk_96 (dk_at dksX8_row_2 23 rfl rfl)
theorem dX8_row_70 : decode cX8_row 70 = .ok (.lconst 0, 1) := dk_9 (dk_at dksX8_row_3 0 rfl rfl)
theorem dX8_row_71 : decode cX8_row 71 = .ok (.lastore, 1) := dk_80 (dk_at dksX8_row_3 1 rfl rfl)
theorem dX8_row_72 : decode cX8_row 72 = .ok (.iinc 4 1, 3) := dk_132 4 1 (dk_at dksX8_row_3 2 rfl rfl)
theorem dX8_row_75 : decode cX8_row 75 = .ok (.goto (-23), 3) := dk_167 255 233 (dk_at dksX8_row_3 5 rfl rfl)
theorem dX8_row_78 : decode cX8_row 78 = .ok (.iconst 0, 1) := dk_3 (dk_at dksX8_row_3 8 rfl rfl)
theorem dX8_row_79 : decode cX8_row 79 = .ok (.ireturn, 1) := dk_172 (dk_at dksX8_row_3 9 rfl rfl)
abbrev cX8_write : ByteArray := prog_16_method_99_code
def yX8_write : MethodName := ⟨RX8, "write", "(IIJ)I"⟩
def dkwX8_write_2 : List UInt8 := [16, 60, 27, 104, 28, 96, 33, 42, 180, 0, 76, 27, 46, 184, 1, 185, 80, 3, 172]
abbrev dktX8_write_2 : List UInt8 := dkwX8_write_2 ++ []
def dkwX8_write_1 : List UInt8 := [133, 9, 42, 180, 0, 73, 27, 46, 4, 100, 133, 184, 0, 110, 154, 0, 6, 16, 249, 172, 42, 180, 0, 79]
abbrev dktX8_write_1 : List UInt8 := dkwX8_write_1 ++ dktX8_write_2
def dkwX8_write_0 : List UInt8 := [27, 184, 1, 156, 154, 0, 6, 16, 254, 172, 42, 180, 0, 73, 27, 46, 2, 160, 0, 6, 16, 250, 172, 28]
abbrev dktX8_write_0 : List UInt8 := dkwX8_write_0 ++ dktX8_write_1
theorem dksX8_write_0 : cX8_write.data.toList.drop 0 = dktX8_write_0 := by decide +kernel
theorem dksX8_write_1 : cX8_write.data.toList.drop 24 = dktX8_write_1 := dk_seg dksX8_write_0 24 rfl rfl
theorem dksX8_write_2 : cX8_write.data.toList.drop 48 = dktX8_write_2 := dk_seg dksX8_write_1 24 rfl rfl
theorem dX8_write_0 : decode cX8_write 0 = .ok (.iload_n 1, 1) := dk_27 (dk_at dksX8_write_0 0 rfl rfl)
theorem dX8_write_1 : decode cX8_write 1 = .ok (.invokestatic 412, 3) := dk_184 1 156 (dk_at dksX8_write_0 1 rfl rfl)
theorem dX8_write_4 : decode cX8_write 4 = .ok (.ifCond .ne 6, 3) := dk_154 0 6 (dk_at dksX8_write_0 4 rfl rfl)
theorem dX8_write_7 : decode cX8_write 7 = .ok (.bipush (-2), 2) := dk_16 254 (dk_at dksX8_write_0 7 rfl rfl)
theorem dX8_write_9 : decode cX8_write 9 = .ok (.ireturn, 1) := dk_172 (dk_at dksX8_write_0 9 rfl rfl)
theorem dX8_write_10 : decode cX8_write 10 = .ok (.aload_n 0, 1) := dk_42 (dk_at dksX8_write_0 10 rfl rfl)
theorem dX8_write_11 : decode cX8_write 11 = .ok (.getfield 73, 3) := dk_180 0 73 (dk_at dksX8_write_0 11 rfl rfl)
theorem dX8_write_14 : decode cX8_write 14 = .ok (.iload_n 1, 1) := dk_27 (dk_at dksX8_write_0 14 rfl rfl)
theorem dX8_write_15 : decode cX8_write 15 = .ok (.iaload, 1) := dk_46 (dk_at dksX8_write_0 15 rfl rfl)
theorem dX8_write_16 : decode cX8_write 16 = .ok (.iconst (-1), 1) := dk_2 (dk_at dksX8_write_0 16 rfl rfl)
theorem dX8_write_17 : decode cX8_write 17 = .ok (.if_icmp .ne 6, 3) := dk_160 0 6 (dk_at dksX8_write_0 17 rfl rfl)
theorem dX8_write_20 : decode cX8_write 20 = .ok (.bipush (-6), 2) := dk_16 250 (dk_at dksX8_write_0 20 rfl rfl)
theorem dX8_write_22 : decode cX8_write 22 = .ok (.ireturn, 1) := dk_172 (dk_at dksX8_write_0 22 rfl rfl)
theorem dX8_write_23 : decode cX8_write 23 = .ok (.iload_n 2, 1) := dk_28 (dk_at dksX8_write_0 23 rfl rfl)
theorem dX8_write_24 : decode cX8_write 24 = .ok (.i2l, 1) := dk_133 (dk_at dksX8_write_1 0 rfl rfl)
theorem dX8_write_25 : decode cX8_write 25 = .ok (.lconst 0, 1) := dk_9 (dk_at dksX8_write_1 1 rfl rfl)
theorem dX8_write_26 : decode cX8_write 26 = .ok (.aload_n 0, 1) := dk_42 (dk_at dksX8_write_1 2 rfl rfl)
theorem dX8_write_27 : decode cX8_write 27 = .ok (.getfield 73, 3) := dk_180 0 73 (dk_at dksX8_write_1 3 rfl rfl)
theorem dX8_write_30 : decode cX8_write 30 = .ok (.iload_n 1, 1) := dk_27 (dk_at dksX8_write_1 6 rfl rfl)
theorem dX8_write_31 : decode cX8_write 31 = .ok (.iaload, 1) := dk_46 (dk_at dksX8_write_1 7 rfl rfl)
theorem dX8_write_32 : decode cX8_write 32 = .ok (.iconst 1, 1) := dk_4 (dk_at dksX8_write_1 8 rfl rfl)
theorem dX8_write_33 : decode cX8_write 33 = .ok (.isub, 1) := dk_100 (dk_at dksX8_write_1 9 rfl rfl)
theorem dX8_write_34 : decode cX8_write 34 = .ok (.i2l, 1) := dk_133 (dk_at dksX8_write_1 10 rfl rfl)
theorem dX8_write_35 : decode cX8_write 35 = .ok (.invokestatic 110, 3) := dk_184 0 110 (dk_at dksX8_write_1 11 rfl rfl)
theorem dX8_write_38 : decode cX8_write 38 = .ok (.ifCond .ne 6, 3) := dk_154 0 6 (dk_at dksX8_write_1 14 rfl rfl)
theorem dX8_write_41 : decode cX8_write 41 = .ok (.bipush (-7), 2) := dk_16 249 (dk_at dksX8_write_1 17 rfl rfl)
theorem dX8_write_43 : decode cX8_write 43 = .ok (.ireturn, 1) := dk_172 (dk_at dksX8_write_1 19 rfl rfl)
theorem dX8_write_44 : decode cX8_write 44 = .ok (.aload_n 0, 1) := dk_42 (dk_at dksX8_write_1 20 rfl rfl)
theorem dX8_write_45 : decode cX8_write 45 = .ok (.getfield 79, 3) := dk_180 0 79 (dk_at dksX8_write_1 21 rfl rfl)
theorem dX8_write_48 : decode cX8_write 48 = .ok (.bipush 60, 2) := dk_16 60 (dk_at dksX8_write_2 0 rfl rfl)
theorem dX8_write_50 : decode cX8_write 50 = .ok (.iload_n 1, 1) := dk_27 (dk_at dksX8_write_2 2 rfl rfl)
theorem dX8_write_51 : decode cX8_write 51 = .ok (.imul, 1) := dk_104 (dk_at dksX8_write_2 3 rfl rfl)
theorem dX8_write_52 : decode cX8_write 52 = .ok (.iload_n 2, 1) := dk_28 (dk_at dksX8_write_2 4 rfl rfl)
theorem dX8_write_53 : decode cX8_write 53 = .ok (.iadd, 1) := dk_96 (dk_at dksX8_write_2 5 rfl rfl)
theorem dX8_write_54 : decode cX8_write 54 = .ok (.lload_n 3, 1) := dk_33 (dk_at dksX8_write_2 6 rfl rfl)
theorem dX8_write_55 : decode cX8_write 55 = .ok (.aload_n 0, 1) := dk_42 (dk_at dksX8_write_2 7 rfl rfl)
theorem dX8_write_56 : decode cX8_write 56 = .ok (.getfield 76, 3) := dk_180 0 76 (dk_at dksX8_write_2 8 rfl rfl)
theorem dX8_write_59 : decode cX8_write 59 = .ok (.iload_n 1, 1) := dk_27 (dk_at dksX8_write_2 11 rfl rfl)
theorem dX8_write_60 : decode cX8_write 60 = .ok (.iaload, 1) := dk_46 (dk_at dksX8_write_2 12 rfl rfl)
theorem dX8_write_61 : decode cX8_write 61 = .ok (.invokestatic 441, 3) := dk_184 1 185 (dk_at dksX8_write_2 13 rfl rfl)
theorem dX8_write_64 : decode cX8_write 64 = .ok (.lastore, 1) := dk_80 (dk_at dksX8_write_2 16 rfl rfl)
theorem dX8_write_65 : decode cX8_write 65 = .ok (.iconst 0, 1) := dk_3 (dk_at dksX8_write_2 17 rfl rfl)
theorem dX8_write_66 : decode cX8_write 66 = .ok (.ireturn, 1) := dk_172 (dk_at dksX8_write_2 18 rfl rfl)
abbrev cX8_cut : ByteArray := prog_16_method_97_code
def yX8_cut : MethodName := ⟨RX8, "cut", "(JI)J"⟩
def dkwX8_cut_0 : List UInt8 := [16, 64, 16, 8, 28, 120, 100, 62, 30, 29, 121, 29, 123, 173]
abbrev dktX8_cut_0 : List UInt8 := dkwX8_cut_0 ++ []
theorem dksX8_cut_0 : cX8_cut.data.toList.drop 0 = dktX8_cut_0 := by decide +kernel
theorem dX8_cut_0 : decode cX8_cut 0 = .ok (.bipush 64, 2) := dk_16 64 (dk_at dksX8_cut_0 0 rfl rfl)
theorem dX8_cut_2 : decode cX8_cut 2 = .ok (.bipush 8, 2) := dk_16 8 (dk_at dksX8_cut_0 2 rfl rfl)
theorem dX8_cut_4 : decode cX8_cut 4 = .ok (.iload_n 2, 1) := dk_28 (dk_at dksX8_cut_0 4 rfl rfl)
theorem dX8_cut_5 : decode cX8_cut 5 = .ok (.ishl, 1) := dk_120 (dk_at dksX8_cut_0 5 rfl rfl)
theorem dX8_cut_6 : decode cX8_cut 6 = .ok (.isub, 1) := dk_100 (dk_at dksX8_cut_0 6 rfl rfl)
theorem dX8_cut_7 : decode cX8_cut 7 = .ok (.istore_n 3, 1) := dk_62 (dk_at dksX8_cut_0 7 rfl rfl)
theorem dX8_cut_8 : decode cX8_cut 8 = .ok (.lload_n 0, 1) := dk_30 (dk_at dksX8_cut_0 8 rfl rfl)
theorem dX8_cut_9 : decode cX8_cut 9 = .ok (.iload_n 3, 1) := dk_29 (dk_at dksX8_cut_0 9 rfl rfl)
theorem dX8_cut_10 : decode cX8_cut 10 = .ok (.lshl, 1) := dk_121 (dk_at dksX8_cut_0 10 rfl rfl)
theorem dX8_cut_11 : decode cX8_cut 11 = .ok (.iload_n 3, 1) := dk_29 (dk_at dksX8_cut_0 11 rfl rfl)
theorem dX8_cut_12 : decode cX8_cut 12 = .ok (.lshr, 1) := dk_123 (dk_at dksX8_cut_0 12 rfl rfl)
theorem dX8_cut_13 : decode cX8_cut 13 = .ok (.lreturn, 1) := dk_173 (dk_at dksX8_cut_0 13 rfl rfl)
abbrev cX8_paste : ByteArray := prog_16_method_100_code
def yX8_paste : MethodName := ⟨RX8, "paste", "(IIIII)I"⟩
def dkwX8_paste_7 : List UInt8 := [29, 104, 21, 4, 96, 21, 6, 96, 42, 180, 0, 83, 21, 6, 47, 80, 132, 6, 1, 167, 255, 224, 3, 172]
abbrev dktX8_paste_7 : List UInt8 := dkwX8_paste_7 ++ []
def dkwX8_paste_6 : List UInt8 := [47, 80, 132, 6, 1, 167, 255, 225, 3, 54, 6, 21, 6, 21, 5, 162, 0, 31, 42, 180, 0, 79, 16, 60]
abbrev dktX8_paste_6 : List UInt8 := dkwX8_paste_6 ++ dktX8_paste_7
def dkwX8_paste_5 : List UInt8 := [21, 5, 162, 0, 30, 42, 180, 0, 83, 21, 6, 42, 180, 0, 79, 16, 60, 27, 104, 28, 96, 21, 6, 96]
abbrev dktX8_paste_5 : List UInt8 := dkwX8_paste_5 ++ dktX8_paste_6
def dkwX8_paste_4 : List UInt8 := [21, 5, 133, 97, 42, 180, 0, 73, 29, 46, 133, 148, 158, 0, 6, 16, 249, 172, 3, 54, 6, 21, 6]
abbrev dktX8_paste_4 : List UInt8 := dkwX8_paste_4 ++ dktX8_paste_5
def dkwX8_paste_3 : List UInt8 := [155, 0, 38, 28, 133, 21, 5, 133, 97, 42, 180, 0, 73, 27, 46, 133, 148, 157, 0, 21, 21, 4, 133]
abbrev dktX8_paste_3 : List UInt8 := dkwX8_paste_3 ++ dktX8_paste_4
def dkwX8_paste_2 : List UInt8 := [180, 0, 76, 29, 46, 159, 0, 6, 16, 248, 172, 28, 155, 0, 48, 21, 4, 155, 0, 43, 21, 5]
abbrev dktX8_paste_2 : List UInt8 := dkwX8_paste_2 ++ dktX8_paste_3
def dkwX8_paste_1 : List UInt8 := [159, 0, 13, 42, 180, 0, 73, 29, 46, 2, 160, 0, 6, 16, 250, 172, 42, 180, 0, 76, 27, 46, 42]
abbrev dktX8_paste_1 : List UInt8 := dkwX8_paste_1 ++ dktX8_paste_2
def dkwX8_paste_0 : List UInt8 := [27, 184, 1, 156, 153, 0, 10, 29, 184, 1, 156, 154, 0, 6, 16, 254, 172, 42, 180, 0, 73, 27, 46, 2]
abbrev dktX8_paste_0 : List UInt8 := dkwX8_paste_0 ++ dktX8_paste_1
theorem dksX8_paste_0 : cX8_paste.data.toList.drop 0 = dktX8_paste_0 := by decide +kernel
theorem dksX8_paste_1 : cX8_paste.data.toList.drop 24 = dktX8_paste_1 := dk_seg dksX8_paste_0 24 rfl rfl
theorem dksX8_paste_2 : cX8_paste.data.toList.drop 47 = dktX8_paste_2 := dk_seg dksX8_paste_1 23 rfl rfl
theorem dksX8_paste_3 : cX8_paste.data.toList.drop 69 = dktX8_paste_3 := dk_seg dksX8_paste_2 22 rfl rfl
theorem dksX8_paste_4 : cX8_paste.data.toList.drop 92 = dktX8_paste_4 := dk_seg dksX8_paste_3 23 rfl rfl
theorem dksX8_paste_5 : cX8_paste.data.toList.drop 115 = dktX8_paste_5 := dk_seg dksX8_paste_4 23 rfl rfl
theorem dksX8_paste_6 : cX8_paste.data.toList.drop 139 = dktX8_paste_6 := dk_seg dksX8_paste_5 24 rfl rfl
theorem dksX8_paste_7 : cX8_paste.data.toList.drop 163 = dktX8_paste_7 := dk_seg dksX8_paste_6 24 rfl rfl
theorem dX8_paste_0 : decode cX8_paste 0 = .ok (.iload_n 1, 1) := dk_27 (dk_at dksX8_paste_0 0 rfl rfl)
theorem dX8_paste_1 : decode cX8_paste 1 = .ok (.invokestatic 412, 3) := dk_184 1 156 (dk_at dksX8_paste_0 1 rfl rfl)
theorem dX8_paste_4 : decode cX8_paste 4 = .ok (.ifCond .eq 10, 3) := dk_153 0 10 (dk_at dksX8_paste_0 4 rfl rfl)
theorem dX8_paste_7 : decode cX8_paste 7 = .ok (.iload_n 3, 1) := dk_29 (dk_at dksX8_paste_0 7 rfl rfl)
theorem dX8_paste_8 : decode cX8_paste 8 = .ok (.invokestatic 412, 3) := dk_184 1 156 (dk_at dksX8_paste_0 8 rfl rfl)
theorem dX8_paste_11 : decode cX8_paste 11 = .ok (.ifCond .ne 6, 3) := dk_154 0 6 (dk_at dksX8_paste_0 11 rfl rfl)
theorem dX8_paste_14 : decode cX8_paste 14 = .ok (.bipush (-2), 2) := dk_16 254 (dk_at dksX8_paste_0 14 rfl rfl)
theorem dX8_paste_16 : decode cX8_paste 16 = .ok (.ireturn, 1) := dk_172 (dk_at dksX8_paste_0 16 rfl rfl)
theorem dX8_paste_17 : decode cX8_paste 17 = .ok (.aload_n 0, 1) := dk_42 (dk_at dksX8_paste_0 17 rfl rfl)
theorem dX8_paste_18 : decode cX8_paste 18 = .ok (.getfield 73, 3) := dk_180 0 73 (dk_at dksX8_paste_0 18 rfl rfl)
theorem dX8_paste_21 : decode cX8_paste 21 = .ok (.iload_n 1, 1) := dk_27 (dk_at dksX8_paste_0 21 rfl rfl)
theorem dX8_paste_22 : decode cX8_paste 22 = .ok (.iaload, 1) := dk_46 (dk_at dksX8_paste_0 22 rfl rfl)
theorem dX8_paste_23 : decode cX8_paste 23 = .ok (.iconst (-1), 1) := dk_2 (dk_at dksX8_paste_0 23 rfl rfl)
theorem dX8_paste_24 : decode cX8_paste 24 = .ok (.if_icmp .eq 13, 3) := dk_159 0 13 (dk_at dksX8_paste_1 0 rfl rfl)
theorem dX8_paste_27 : decode cX8_paste 27 = .ok (.aload_n 0, 1) := dk_42 (dk_at dksX8_paste_1 3 rfl rfl)
theorem dX8_paste_28 : decode cX8_paste 28 = .ok (.getfield 73, 3) := dk_180 0 73 (dk_at dksX8_paste_1 4 rfl rfl)
theorem dX8_paste_31 : decode cX8_paste 31 = .ok (.iload_n 3, 1) := dk_29 (dk_at dksX8_paste_1 7 rfl rfl)
theorem dX8_paste_32 : decode cX8_paste 32 = .ok (.iaload, 1) := dk_46 (dk_at dksX8_paste_1 8 rfl rfl)
theorem dX8_paste_33 : decode cX8_paste 33 = .ok (.iconst (-1), 1) := dk_2 (dk_at dksX8_paste_1 9 rfl rfl)
theorem dX8_paste_34 : decode cX8_paste 34 = .ok (.if_icmp .ne 6, 3) := dk_160 0 6 (dk_at dksX8_paste_1 10 rfl rfl)
theorem dX8_paste_37 : decode cX8_paste 37 = .ok (.bipush (-6), 2) := dk_16 250 (dk_at dksX8_paste_1 13 rfl rfl)
theorem dX8_paste_39 : decode cX8_paste 39 = .ok (.ireturn, 1) := dk_172 (dk_at dksX8_paste_1 15 rfl rfl)
theorem dX8_paste_40 : decode cX8_paste 40 = .ok (.aload_n 0, 1) := dk_42 (dk_at dksX8_paste_1 16 rfl rfl)
theorem dX8_paste_41 : decode cX8_paste 41 = .ok (.getfield 76, 3) := dk_180 0 76 (dk_at dksX8_paste_1 17 rfl rfl)
theorem dX8_paste_44 : decode cX8_paste 44 = .ok (.iload_n 1, 1) := dk_27 (dk_at dksX8_paste_1 20 rfl rfl)
theorem dX8_paste_45 : decode cX8_paste 45 = .ok (.iaload, 1) := dk_46 (dk_at dksX8_paste_1 21 rfl rfl)
theorem dX8_paste_46 : decode cX8_paste 46 = .ok (.aload_n 0, 1) := dk_42 (dk_at dksX8_paste_1 22 rfl rfl)
theorem dX8_paste_47 : decode cX8_paste 47 = .ok (.getfield 76, 3) := dk_180 0 76 (dk_at dksX8_paste_2 0 rfl rfl)
theorem dX8_paste_50 : decode cX8_paste 50 = .ok (.iload_n 3, 1) := dk_29 (dk_at dksX8_paste_2 3 rfl rfl)
theorem dX8_paste_51 : decode cX8_paste 51 = .ok (.iaload, 1) := dk_46 (dk_at dksX8_paste_2 4 rfl rfl)
theorem dX8_paste_52 : decode cX8_paste 52 = .ok (.if_icmp .eq 6, 3) := dk_159 0 6 (dk_at dksX8_paste_2 5 rfl rfl)
theorem dX8_paste_55 : decode cX8_paste 55 = .ok (.bipush (-8), 2) := dk_16 248 (dk_at dksX8_paste_2 8 rfl rfl)
theorem dX8_paste_57 : decode cX8_paste 57 = .ok (.ireturn, 1) := dk_172 (dk_at dksX8_paste_2 10 rfl rfl)
theorem dX8_paste_58 : decode cX8_paste 58 = .ok (.iload_n 2, 1) := dk_28 (dk_at dksX8_paste_2 11 rfl rfl)
theorem dX8_paste_59 : decode cX8_paste 59 = .ok (.ifCond .lt 48, 3) := dk_155 0 48 (dk_at dksX8_paste_2 12 rfl rfl)
theorem dX8_paste_62 : decode cX8_paste 62 = .ok (.iload 4, 2) := dk_21 4 (dk_at dksX8_paste_2 15 rfl rfl)
theorem dX8_paste_64 : decode cX8_paste 64 = .ok (.ifCond .lt 43, 3) := dk_155 0 43 (dk_at dksX8_paste_2 17 rfl rfl)
theorem dX8_paste_67 : decode cX8_paste 67 = .ok (.iload 5, 2) := dk_21 5 (dk_at dksX8_paste_2 20 rfl rfl)
theorem dX8_paste_69 : decode cX8_paste 69 = .ok (.ifCond .lt 38, 3) := dk_155 0 38 (dk_at dksX8_paste_3 0 rfl rfl)
theorem dX8_paste_72 : decode cX8_paste 72 = .ok (.iload_n 2, 1) := dk_28 (dk_at dksX8_paste_3 3 rfl rfl)
theorem dX8_paste_73 : decode cX8_paste 73 = .ok (.i2l, 1) := dk_133 (dk_at dksX8_paste_3 4 rfl rfl)
theorem dX8_paste_74 : decode cX8_paste 74 = .ok (.iload 5, 2) := dk_21 5 (dk_at dksX8_paste_3 5 rfl rfl)
theorem dX8_paste_76 : decode cX8_paste 76 = .ok (.i2l, 1) := dk_133 (dk_at dksX8_paste_3 7 rfl rfl)
theorem dX8_paste_77 : decode cX8_paste 77 = .ok (.ladd, 1) := dk_97 (dk_at dksX8_paste_3 8 rfl rfl)
theorem dX8_paste_78 : decode cX8_paste 78 = .ok (.aload_n 0, 1) := dk_42 (dk_at dksX8_paste_3 9 rfl rfl)
theorem dX8_paste_79 : decode cX8_paste 79 = .ok (.getfield 73, 3) := dk_180 0 73 (dk_at dksX8_paste_3 10 rfl rfl)
theorem dX8_paste_82 : decode cX8_paste 82 = .ok (.iload_n 1, 1) := dk_27 (dk_at dksX8_paste_3 13 rfl rfl)
theorem dX8_paste_83 : decode cX8_paste 83 = .ok (.iaload, 1) := dk_46 (dk_at dksX8_paste_3 14 rfl rfl)
theorem dX8_paste_84 : decode cX8_paste 84 = .ok (.i2l, 1) := dk_133 (dk_at dksX8_paste_3 15 rfl rfl)
theorem dX8_paste_85 : decode cX8_paste 85 = .ok (.lcmp, 1) := dk_148 (dk_at dksX8_paste_3 16 rfl rfl)
theorem dX8_paste_86 : decode cX8_paste 86 = .ok (.ifCond .gt 21, 3) := dk_157 0 21 (dk_at dksX8_paste_3 17 rfl rfl)
theorem dX8_paste_89 : decode cX8_paste 89 = .ok (.iload 4, 2) := dk_21 4 (dk_at dksX8_paste_3 20 rfl rfl)
theorem dX8_paste_91 : decode cX8_paste 91 = .ok (.i2l, 1) := dk_133 (dk_at dksX8_paste_3 22 rfl rfl)
theorem dX8_paste_92 : decode cX8_paste 92 = .ok (.iload 5, 2) := dk_21 5 (dk_at dksX8_paste_4 0 rfl rfl)
theorem dX8_paste_94 : decode cX8_paste 94 = .ok (.i2l, 1) := dk_133 (dk_at dksX8_paste_4 2 rfl rfl)
theorem dX8_paste_95 : decode cX8_paste 95 = .ok (.ladd, 1) := dk_97 (dk_at dksX8_paste_4 3 rfl rfl)
theorem dX8_paste_96 : decode cX8_paste 96 = .ok (.aload_n 0, 1) := dk_42 (dk_at dksX8_paste_4 4 rfl rfl)
theorem dX8_paste_97 : decode cX8_paste 97 = .ok (.getfield 73, 3) := dk_180 0 73 (dk_at dksX8_paste_4 5 rfl rfl)
theorem dX8_paste_100 : decode cX8_paste 100 = .ok (.iload_n 3, 1) := dk_29 (dk_at dksX8_paste_4 8 rfl rfl)
theorem dX8_paste_101 : decode cX8_paste 101 = .ok (.iaload, 1) := dk_46 (dk_at dksX8_paste_4 9 rfl rfl)
theorem dX8_paste_102 : decode cX8_paste 102 = .ok (.i2l, 1) := dk_133 (dk_at dksX8_paste_4 10 rfl rfl)
theorem dX8_paste_103 : decode cX8_paste 103 = .ok (.lcmp, 1) := dk_148 (dk_at dksX8_paste_4 11 rfl rfl)
theorem dX8_paste_104 : decode cX8_paste 104 = .ok (.ifCond .le 6, 3) := dk_158 0 6 (dk_at dksX8_paste_4 12 rfl rfl)
theorem dX8_paste_107 : decode cX8_paste 107 = .ok (.bipush (-7), 2) := dk_16 249 (dk_at dksX8_paste_4 15 rfl rfl)
theorem dX8_paste_109 : decode cX8_paste 109 = .ok (.ireturn, 1) := dk_172 (dk_at dksX8_paste_4 17 rfl rfl)
theorem dX8_paste_110 : decode cX8_paste 110 = .ok (.iconst 0, 1) := dk_3 (dk_at dksX8_paste_4 18 rfl rfl)
theorem dX8_paste_111 : decode cX8_paste 111 = .ok (.istore 6, 2) := dk_54 6 (dk_at dksX8_paste_4 19 rfl rfl)
theorem dX8_paste_113 : decode cX8_paste 113 = .ok (.iload 6, 2) := dk_21 6 (dk_at dksX8_paste_4 21 rfl rfl)
theorem dX8_paste_115 : decode cX8_paste 115 = .ok (.iload 5, 2) := dk_21 5 (dk_at dksX8_paste_5 0 rfl rfl)
theorem dX8_paste_117 : decode cX8_paste 117 = .ok (.if_icmp .ge 30, 3) := dk_162 0 30 (dk_at dksX8_paste_5 2 rfl rfl)
theorem dX8_paste_120 : decode cX8_paste 120 = .ok (.aload_n 0, 1) := dk_42 (dk_at dksX8_paste_5 5 rfl rfl)
theorem dX8_paste_121 : decode cX8_paste 121 = .ok (.getfield 83, 3) := dk_180 0 83 (dk_at dksX8_paste_5 6 rfl rfl)
theorem dX8_paste_124 : decode cX8_paste 124 = .ok (.iload 6, 2) := dk_21 6 (dk_at dksX8_paste_5 9 rfl rfl)
theorem dX8_paste_126 : decode cX8_paste 126 = .ok (.aload_n 0, 1) := dk_42 (dk_at dksX8_paste_5 11 rfl rfl)
theorem dX8_paste_127 : decode cX8_paste 127 = .ok (.getfield 79, 3) := dk_180 0 79 (dk_at dksX8_paste_5 12 rfl rfl)
theorem dX8_paste_130 : decode cX8_paste 130 = .ok (.bipush 60, 2) := dk_16 60 (dk_at dksX8_paste_5 15 rfl rfl)
theorem dX8_paste_132 : decode cX8_paste 132 = .ok (.iload_n 1, 1) := dk_27 (dk_at dksX8_paste_5 17 rfl rfl)
theorem dX8_paste_133 : decode cX8_paste 133 = .ok (.imul, 1) := dk_104 (dk_at dksX8_paste_5 18 rfl rfl)
theorem dX8_paste_134 : decode cX8_paste 134 = .ok (.iload_n 2, 1) := dk_28 (dk_at dksX8_paste_5 19 rfl rfl)
theorem dX8_paste_135 : decode cX8_paste 135 = .ok (.iadd, 1) := dk_96 (dk_at dksX8_paste_5 20 rfl rfl)
theorem dX8_paste_136 : decode cX8_paste 136 = .ok (.iload 6, 2) := dk_21 6 (dk_at dksX8_paste_5 21 rfl rfl)
theorem dX8_paste_138 : decode cX8_paste 138 = .ok (.iadd, 1) := dk_96 (dk_at dksX8_paste_5 23 rfl rfl)
theorem dX8_paste_139 : decode cX8_paste 139 = .ok (.laload, 1) := dk_47 (dk_at dksX8_paste_6 0 rfl rfl)
theorem dX8_paste_140 : decode cX8_paste 140 = .ok (.lastore, 1) := dk_80 (dk_at dksX8_paste_6 1 rfl rfl)
theorem dX8_paste_141 : decode cX8_paste 141 = .ok (.iinc 6 1, 3) := dk_132 6 1 (dk_at dksX8_paste_6 2 rfl rfl)
theorem dX8_paste_144 : decode cX8_paste 144 = .ok (.goto (-31), 3) := dk_167 255 225 (dk_at dksX8_paste_6 5 rfl rfl)
theorem dX8_paste_147 : decode cX8_paste 147 = .ok (.iconst 0, 1) := dk_3 (dk_at dksX8_paste_6 8 rfl rfl)
theorem dX8_paste_148 : decode cX8_paste 148 = .ok (.istore 6, 2) := dk_54 6 (dk_at dksX8_paste_6 9 rfl rfl)
theorem dX8_paste_150 : decode cX8_paste 150 = .ok (.iload 6, 2) := dk_21 6 (dk_at dksX8_paste_6 11 rfl rfl)
theorem dX8_paste_152 : decode cX8_paste 152 = .ok (.iload 5, 2) := dk_21 5 (dk_at dksX8_paste_6 13 rfl rfl)
theorem dX8_paste_154 : decode cX8_paste 154 = .ok (.if_icmp .ge 31, 3) := dk_162 0 31 (dk_at dksX8_paste_6 15 rfl rfl)
theorem dX8_paste_157 : decode cX8_paste 157 = .ok (.aload_n 0, 1) := dk_42 (dk_at dksX8_paste_6 18 rfl rfl)
theorem dX8_paste_158 : decode cX8_paste 158 = .ok (.getfield 79, 3) := dk_180 0 79 (dk_at dksX8_paste_6 19 rfl rfl)
theorem dX8_paste_161 : decode cX8_paste 161 = .ok (.bipush 60, 2) := dk_16 60 (dk_at dksX8_paste_6 22 rfl rfl)
theorem dX8_paste_163 : decode cX8_paste 163 = .ok (.iload_n 3, 1) := dk_29 (dk_at dksX8_paste_7 0 rfl rfl)
theorem dX8_paste_164 : decode cX8_paste 164 = .ok (.imul, 1) := dk_104 (dk_at dksX8_paste_7 1 rfl rfl)
theorem dX8_paste_165 : decode cX8_paste 165 = .ok (.iload 4, 2) := dk_21 4 (dk_at dksX8_paste_7 2 rfl rfl)
theorem dX8_paste_167 : decode cX8_paste 167 = .ok (.iadd, 1) := dk_96 (dk_at dksX8_paste_7 4 rfl rfl)
theorem dX8_paste_168 : decode cX8_paste 168 = .ok (.iload 6, 2) := dk_21 6 (dk_at dksX8_paste_7 5 rfl rfl)
theorem dX8_paste_170 : decode cX8_paste 170 = .ok (.iadd, 1) := dk_96 (dk_at dksX8_paste_7 7 rfl rfl)
theorem dX8_paste_171 : decode cX8_paste 171 = .ok (.aload_n 0, 1) := dk_42 (dk_at dksX8_paste_7 8 rfl rfl)
theorem dX8_paste_172 : decode cX8_paste 172 = .ok (.getfield 83, 3) := dk_180 0 83 (dk_at dksX8_paste_7 9 rfl rfl)
theorem dX8_paste_175 : decode cX8_paste 175 = .ok (.iload 6, 2) := dk_21 6 (dk_at dksX8_paste_7 12 rfl rfl)
theorem dX8_paste_177 : decode cX8_paste 177 = .ok (.laload, 1) := dk_47 (dk_at dksX8_paste_7 14 rfl rfl)
theorem dX8_paste_178 : decode cX8_paste 178 = .ok (.lastore, 1) := dk_80 (dk_at dksX8_paste_7 15 rfl rfl)
theorem dX8_paste_179 : decode cX8_paste 179 = .ok (.iinc 6 1, 3) := dk_132 6 1 (dk_at dksX8_paste_7 16 rfl rfl)
theorem dX8_paste_182 : decode cX8_paste 182 = .ok (.goto (-32), 3) := dk_167 255 224 (dk_at dksX8_paste_7 19 rfl rfl)
theorem dX8_paste_185 : decode cX8_paste 185 = .ok (.iconst 0, 1) := dk_3 (dk_at dksX8_paste_7 22 rfl rfl)
theorem dX8_paste_186 : decode cX8_paste 186 = .ok (.ireturn, 1) := dk_172 (dk_at dksX8_paste_7 23 rfl rfl)
theorem q122 : (Jvm.Cond.initialized "FrostRingModel") ∈ lw_all := lw_g (lw_at lw_m1 18 rfl) rfl
theorem q620 : (Jvm.Cond.selects "FrostRingModel" ({ cls := "java/lang/Object", name := "getClass", desc := "()Ljava/lang/Class;" } : Jvm.MethodName) ({ cls := "java/lang/Object", name := "getClass", desc := "()Ljava/lang/Class;" } : Jvm.MethodName)) ∈ lw_all := lw_g (lw_at lw_m3 36 rfl) rfl
theorem q1480 : (Jvm.Cond.instantiable "FrostRingModel" (40 : Nat)) ∈ lw_all := lw_g (lw_at lw_m6 176 rfl) rfl
theorem q1482 : (Jvm.Cond.instanceMethod ({ cls := "FrostRingModel", name := "<init>", desc := "()V" } : Jvm.MethodName)) ∈ lw_all := lw_g (lw_at lw_m6 178 rfl) rfl
theorem q1483 : (Jvm.Cond.code ({ cls := "FrostRingModel", name := "<init>", desc := "()V" } : Jvm.MethodName) prog_16_method_3_code (1 : Nat) (Option.none : Option Jvm.ClassFile.FieldType)) ∈ lw_all := lw_g (lw_at lw_m6 179 rfl) rfl
theorem q1484 : (Jvm.Cond.methodLink "FrostRingModel" (7 : Nat) ({ cls := "java/lang/Object", name := "<init>", desc := "()V" } : Jvm.MethodName)) ∈ lw_all := lw_g (lw_at lw_m6 180 rfl) rfl
theorem q1485 : (Jvm.Cond.methodLink "FrostRingModel" (86 : Nat) ({ cls := "FrostRingModel", name := "plain", desc := "([I)V" } : Jvm.MethodName)) ∈ lw_all := lw_g (lw_at lw_m6 181 rfl) rfl
theorem q1486 : (Jvm.Cond.static ({ cls := "FrostRingModel", name := "plain", desc := "([I)V" } : Jvm.MethodName)) ∈ lw_all := lw_g (lw_at lw_m6 182 rfl) rfl
theorem q1487 : (Jvm.Cond.code ({ cls := "FrostRingModel", name := "plain", desc := "([I)V" } : Jvm.MethodName) prog_16_method_4_code (2 : Nat) (Option.none : Option Jvm.ClassFile.FieldType)) ∈ lw_all := lw_g (lw_at lw_m6 183 rfl) rfl
theorem q1488 : (Jvm.Cond.constant "FrostRingModel" (93 : Nat) (99999 : Int32)) ∈ lw_all := lw_g (lw_at lw_m6 184 rfl) rfl
theorem q1489 : (Jvm.Cond.methodLink "FrostRingModel" (94 : Nat) ({ cls := "FrostRingModel", name := "groundAtFirst", desc := "([II)V" } : Jvm.MethodName)) ∈ lw_all := lw_g (lw_at lw_m6 185 rfl) rfl
theorem q1490 : (Jvm.Cond.static ({ cls := "FrostRingModel", name := "groundAtFirst", desc := "([II)V" } : Jvm.MethodName)) ∈ lw_all := lw_g (lw_at lw_m6 186 rfl) rfl
theorem q1491 : (Jvm.Cond.code ({ cls := "FrostRingModel", name := "groundAtFirst", desc := "([II)V" } : Jvm.MethodName) prog_16_method_5_code (2 : Nat) (Option.none : Option Jvm.ClassFile.FieldType)) ∈ lw_all := lw_g (lw_at lw_m6 187 rfl) rfl
theorem q1492 : (Jvm.Cond.methodLink "FrostRingModel" (90 : Nat) ({ cls := "FrostRingModel", name := "begins", desc := "()V" } : Jvm.MethodName)) ∈ lw_all := lw_g (lw_at lw_m6 188 rfl) rfl
theorem q1493 : (Jvm.Cond.privateMethod ({ cls := "FrostRingModel", name := "begins", desc := "()V" } : Jvm.MethodName)) ∈ lw_tbl := lw_at lw_m6 189 rfl
theorem q1494 : (Jvm.Cond.instanceMethod ({ cls := "FrostRingModel", name := "begins", desc := "()V" } : Jvm.MethodName)) ∈ lw_all := lw_g (lw_at lw_m6 190 rfl) rfl
theorem q1495 : (Jvm.Cond.code ({ cls := "FrostRingModel", name := "begins", desc := "()V" } : Jvm.MethodName) prog_16_method_6_code (2 : Nat) (Option.none : Option Jvm.ClassFile.FieldType)) ∈ lw_all := lw_g (lw_at lw_m6 191 rfl) rfl
theorem q1496 : (Jvm.Cond.methodLink "FrostRingModel" (98 : Nat) ({ cls := "FrostRingModel", name := "heatNow", desc := "()I" } : Jvm.MethodName)) ∈ lw_all := lw_g (lw_at lw_m6 192 rfl) rfl
theorem q1497 : (Jvm.Cond.privateMethod ({ cls := "FrostRingModel", name := "heatNow", desc := "()I" } : Jvm.MethodName)) ∈ lw_tbl := lw_at lw_m6 193 rfl
theorem q1498 : (Jvm.Cond.instanceMethod ({ cls := "FrostRingModel", name := "heatNow", desc := "()I" } : Jvm.MethodName)) ∈ lw_all := lw_g (lw_at lw_m6 194 rfl) rfl
theorem q1499 : (Jvm.Cond.code ({ cls := "FrostRingModel", name := "heatNow", desc := "()I" } : Jvm.MethodName) prog_16_method_7_code (3 : Nat) (Option.some Jvm.ClassFile.FieldType.int)) ∈ lw_all := lw_g (lw_at lw_m6 195 rfl) rfl
theorem q1500 : (Jvm.Cond.fieldLink "FrostRingModel" (13 : Nat) "FrostRingModel" "world" "[I") ∈ lw_all := lw_g (lw_at lw_m6 196 rfl) rfl
theorem q1501 : (Jvm.Cond.fieldLink "FrostRingModel" (17 : Nat) "FrostRingModel" "saved" "[I") ∈ lw_all := lw_g (lw_at lw_m6 197 rfl) rfl
theorem q1502 : (Jvm.Cond.fieldLink "FrostRingModel" (20 : Nat) "FrostRingModel" "images" "[I") ∈ lw_all := lw_g (lw_at lw_m6 198 rfl) rfl
theorem q1503 : (Jvm.Cond.fieldLink "FrostRingModel" (23 : Nat) "FrostRingModel" "hasImage" "[Z") ∈ lw_all := lw_g (lw_at lw_m6 199 rfl) rfl
theorem q1504 : (Jvm.Cond.fieldLink "FrostRingModel" (27 : Nat) "FrostRingModel" "tape" "[B") ∈ lw_all := lw_g (lw_at lw_m6 200 rfl) rfl
theorem q1505 : (Jvm.Cond.fieldLink "FrostRingModel" (122 : Nat) "FrostRingModel" "taped" "I") ∈ lw_all := lw_g (lw_at lw_m6 201 rfl) rfl
theorem q1506 : (Jvm.Cond.fieldLink "FrostRingModel" (31 : Nat) "FrostRingModel" "five" "[I") ∈ lw_all := lw_g (lw_at lw_m6 202 rfl) rfl
theorem q1507 : (Jvm.Cond.fieldLink "FrostRingModel" (125 : Nat) "FrostRingModel" "size" "I") ∈ lw_all := lw_g (lw_at lw_m6 203 rfl) rfl
theorem q1508 : (Jvm.Cond.fieldLink "FrostRingModel" (128 : Nat) "FrostRingModel" "at" "I") ∈ lw_all := lw_g (lw_at lw_m6 204 rfl) rfl
theorem q1509 : (Jvm.Cond.fieldLink "FrostRingModel" (135 : Nat) "FrostRingModel" "from" "I") ∈ lw_all := lw_g (lw_at lw_m6 205 rfl) rfl
theorem q1510 : (Jvm.Cond.fieldLink "FrostRingModel" (138 : Nat) "FrostRingModel" "token" "I") ∈ lw_all := lw_g (lw_at lw_m6 206 rfl) rfl
theorem q1511 : (Jvm.Cond.fieldLink "FrostRingModel" (149 : Nat) "FrostRingModel" "value" "I") ∈ lw_all := lw_g (lw_at lw_m6 207 rfl) rfl
theorem q1512 : (Jvm.Cond.fieldLink "FrostRingModel" (158 : Nat) "FrostRingModel" "faultKind" "I") ∈ lw_all := lw_g (lw_at lw_m6 208 rfl) rfl
theorem q1513 : (Jvm.Cond.fieldLink "FrostRingModel" (34 : Nat) "FrostRingModel" "faultPlace" "I") ∈ lw_all := lw_g (lw_at lw_m6 209 rfl) rfl
theorem q1514 : (Jvm.Cond.fieldLink "FrostRingModel" (37 : Nat) "FrostRingModel" "fresh" "[I") ∈ lw_all := lw_g (lw_at lw_m6 210 rfl) rfl
theorem q1515 : (Jvm.Cond.fieldLink "FrostRingModel" (40 : Nat) "FrostRingModel" "isGround" "[Z") ∈ lw_all := lw_g (lw_at lw_m6 211 rfl) rfl
theorem q1516 : (Jvm.Cond.fieldLink "FrostRingModel" (43 : Nat) "FrostRingModel" "isStream" "[Z") ∈ lw_all := lw_g (lw_at lw_m6 212 rfl) rfl
theorem q1517 : (Jvm.Cond.fieldLink "FrostRingModel" (274 : Nat) "FrostRingModel" "isFar" "Z") ∈ lw_all := lw_g (lw_at lw_m6 213 rfl) rfl
theorem q1518 : (Jvm.Cond.fieldLink "FrostRingModel" (278 : Nat) "FrostRingModel" "isCold" "Z") ∈ lw_all := lw_g (lw_at lw_m6 214 rfl) rfl
theorem q1519 : (Jvm.Cond.fieldLink "FrostRingModel" (216 : Nat) "FrostRingModel" "left" "I") ∈ lw_all := lw_g (lw_at lw_m6 215 rfl) rfl
theorem q1520 : (Jvm.Cond.fieldLink "FrostRingModel" (219 : Nat) "FrostRingModel" "top" "I") ∈ lw_all := lw_g (lw_at lw_m6 216 rfl) rfl
theorem q1521 : (Jvm.Cond.fieldLink "FrostRingModel" (224 : Nat) "FrostRingModel" "right" "I") ∈ lw_all := lw_g (lw_at lw_m6 217 rfl) rfl
theorem q1522 : (Jvm.Cond.fieldLink "FrostRingModel" (227 : Nat) "FrostRingModel" "bottom" "I") ∈ lw_all := lw_g (lw_at lw_m6 218 rfl) rfl
theorem q1523 : (Jvm.Cond.fieldLink "FrostRingModel" (46 : Nat) "FrostRingModel" "heat" "[I") ∈ lw_all := lw_g (lw_at lw_m6 219 rfl) rfl
theorem q1524 : (Jvm.Cond.fieldLink "FrostRingModel" (49 : Nat) "FrostRingModel" "would" "[I") ∈ lw_all := lw_g (lw_at lw_m6 220 rfl) rfl
theorem q1525 : (Jvm.Cond.fieldLink "FrostRingModel" (52 : Nat) "FrostRingModel" "far" "[I") ∈ lw_all := lw_g (lw_at lw_m6 221 rfl) rfl
theorem q1526 : (Jvm.Cond.fieldLink "FrostRingModel" (55 : Nat) "FrostRingModel" "through" "[Z") ∈ lw_all := lw_g (lw_at lw_m6 222 rfl) rfl
theorem q1527 : (Jvm.Cond.fieldLink "FrostRingModel" (58 : Nat) "FrostRingModel" "onto" "[Z") ∈ lw_all := lw_g (lw_at lw_m6 223 rfl) rfl
theorem q1528 : (Jvm.Cond.fieldLink "FrostRingModel" (61 : Nat) "FrostRingModel" "ahead" "[I") ∈ lw_all := lw_g (lw_at lw_m6 224 rfl) rfl
theorem q1529 : (Jvm.Cond.fieldLink "FrostRingModel" (64 : Nat) "FrostRingModel" "queue" "[I") ∈ lw_all := lw_g (lw_at lw_m6 225 rfl) rfl
theorem q1530 : (Jvm.Cond.fieldLink "FrostRingModel" (368 : Nat) "FrostRingModel" "queued" "I") ∈ lw_all := lw_g (lw_at lw_m6 226 rfl) rfl
theorem q1531 : (Jvm.Cond.fieldLink "FrostRingModel" (67 : Nat) "FrostRingModel" "isGap" "[Z") ∈ lw_all := lw_g (lw_at lw_m6 227 rfl) rfl
theorem q1532 : (Jvm.Cond.fieldLink "FrostRingModel" (70 : Nat) "FrostRingModel" "toldGap" "[I") ∈ lw_all := lw_g (lw_at lw_m6 228 rfl) rfl
theorem q1533 : (Jvm.Cond.fieldLink "FrostRingModel" (389 : Nat) "FrostRingModel" "toldGaps" "I") ∈ lw_all := lw_g (lw_at lw_m6 229 rfl) rfl
theorem q1534 : (Jvm.Cond.fieldLink "FrostRingModel" (430 : Nat) "FrostRingModel" "chosen" "I") ∈ lw_all := lw_g (lw_at lw_m6 230 rfl) rfl
theorem q1535 : (Jvm.Cond.fieldLink "FrostRingModel" (73 : Nat) "FrostRingModel" "many" "[I") ∈ lw_all := lw_g (lw_at lw_m6 231 rfl) rfl
theorem q1536 : (Jvm.Cond.fieldLink "FrostRingModel" (76 : Nat) "FrostRingModel" "width" "[I") ∈ lw_all := lw_g (lw_at lw_m6 232 rfl) rfl
theorem q1537 : (Jvm.Cond.fieldLink "FrostRingModel" (79 : Nat) "FrostRingModel" "numbers" "[J") ∈ lw_all := lw_g (lw_at lw_m6 233 rfl) rfl
theorem q1538 : (Jvm.Cond.fieldLink "FrostRingModel" (83 : Nat) "FrostRingModel" "moved" "[J") ∈ lw_all := lw_g (lw_at lw_m6 234 rfl) rfl
theorem q1539 : (Jvm.Cond.lays "FrostRingModel" "FrostRingModel" "thrown" "I") ∈ lw_all := lw_g (lw_at lw_m6 235 rfl) rfl
theorem q1540 : (Jvm.Cond.soleField "FrostRingModel" "thrown") ∈ lw_all := lw_g (lw_at lw_m6 236 rfl) rfl
theorem q1541 : (Jvm.Cond.laysFinal "FrostRingModel" "FrostRingModel" "world" "[I") ∈ lw_all := lw_g (lw_at lw_m6 237 rfl) rfl
theorem q1542 : (Jvm.Cond.soleField "FrostRingModel" "world") ∈ lw_all := lw_g (lw_at lw_m6 238 rfl) rfl
theorem q1543 : (Jvm.Cond.laysFinal "FrostRingModel" "FrostRingModel" "saved" "[I") ∈ lw_all := lw_g (lw_at lw_m6 239 rfl) rfl
theorem q1544 : (Jvm.Cond.soleField "FrostRingModel" "saved") ∈ lw_all := lw_g (lw_at lw_m7 0 rfl) rfl
theorem q1545 : (Jvm.Cond.laysFinal "FrostRingModel" "FrostRingModel" "images" "[I") ∈ lw_all := lw_g (lw_at lw_m7 1 rfl) rfl
theorem q1546 : (Jvm.Cond.soleField "FrostRingModel" "images") ∈ lw_all := lw_g (lw_at lw_m7 2 rfl) rfl
theorem q1547 : (Jvm.Cond.laysFinal "FrostRingModel" "FrostRingModel" "hasImage" "[Z") ∈ lw_all := lw_g (lw_at lw_m7 3 rfl) rfl
theorem q1548 : (Jvm.Cond.soleField "FrostRingModel" "hasImage") ∈ lw_all := lw_g (lw_at lw_m7 4 rfl) rfl
theorem q1549 : (Jvm.Cond.laysFinal "FrostRingModel" "FrostRingModel" "tape" "[B") ∈ lw_all := lw_g (lw_at lw_m7 5 rfl) rfl
theorem q1550 : (Jvm.Cond.soleField "FrostRingModel" "tape") ∈ lw_all := lw_g (lw_at lw_m7 6 rfl) rfl
theorem q1551 : (Jvm.Cond.lays "FrostRingModel" "FrostRingModel" "taped" "I") ∈ lw_all := lw_g (lw_at lw_m7 7 rfl) rfl
theorem q1552 : (Jvm.Cond.soleField "FrostRingModel" "taped") ∈ lw_all := lw_g (lw_at lw_m7 8 rfl) rfl
theorem q1553 : (Jvm.Cond.laysFinal "FrostRingModel" "FrostRingModel" "five" "[I") ∈ lw_all := lw_g (lw_at lw_m7 9 rfl) rfl
theorem q1554 : (Jvm.Cond.soleField "FrostRingModel" "five") ∈ lw_all := lw_g (lw_at lw_m7 10 rfl) rfl
theorem q1555 : (Jvm.Cond.lays "FrostRingModel" "FrostRingModel" "size" "I") ∈ lw_all := lw_g (lw_at lw_m7 11 rfl) rfl
theorem q1556 : (Jvm.Cond.soleField "FrostRingModel" "size") ∈ lw_all := lw_g (lw_at lw_m7 12 rfl) rfl
theorem q1557 : (Jvm.Cond.lays "FrostRingModel" "FrostRingModel" "at" "I") ∈ lw_all := lw_g (lw_at lw_m7 13 rfl) rfl
theorem q1558 : (Jvm.Cond.soleField "FrostRingModel" "at") ∈ lw_all := lw_g (lw_at lw_m7 14 rfl) rfl
theorem q1559 : (Jvm.Cond.lays "FrostRingModel" "FrostRingModel" "from" "I") ∈ lw_all := lw_g (lw_at lw_m7 15 rfl) rfl
theorem q1560 : (Jvm.Cond.soleField "FrostRingModel" "from") ∈ lw_all := lw_g (lw_at lw_m7 16 rfl) rfl
theorem q1561 : (Jvm.Cond.lays "FrostRingModel" "FrostRingModel" "token" "I") ∈ lw_all := lw_g (lw_at lw_m7 17 rfl) rfl
theorem q1562 : (Jvm.Cond.soleField "FrostRingModel" "token") ∈ lw_all := lw_g (lw_at lw_m7 18 rfl) rfl
theorem q1563 : (Jvm.Cond.lays "FrostRingModel" "FrostRingModel" "value" "I") ∈ lw_all := lw_g (lw_at lw_m7 19 rfl) rfl
theorem q1564 : (Jvm.Cond.soleField "FrostRingModel" "value") ∈ lw_all := lw_g (lw_at lw_m7 20 rfl) rfl
theorem q1565 : (Jvm.Cond.lays "FrostRingModel" "FrostRingModel" "faultKind" "I") ∈ lw_all := lw_g (lw_at lw_m7 21 rfl) rfl
theorem q1566 : (Jvm.Cond.soleField "FrostRingModel" "faultKind") ∈ lw_all := lw_g (lw_at lw_m7 22 rfl) rfl
theorem q1567 : (Jvm.Cond.lays "FrostRingModel" "FrostRingModel" "faultPlace" "I") ∈ lw_all := lw_g (lw_at lw_m7 23 rfl) rfl
theorem q1568 : (Jvm.Cond.soleField "FrostRingModel" "faultPlace") ∈ lw_all := lw_g (lw_at lw_m7 24 rfl) rfl
theorem q1569 : (Jvm.Cond.laysFinal "FrostRingModel" "FrostRingModel" "fresh" "[I") ∈ lw_all := lw_g (lw_at lw_m7 25 rfl) rfl
theorem q1570 : (Jvm.Cond.soleField "FrostRingModel" "fresh") ∈ lw_all := lw_g (lw_at lw_m7 26 rfl) rfl
theorem q1571 : (Jvm.Cond.laysFinal "FrostRingModel" "FrostRingModel" "isGround" "[Z") ∈ lw_all := lw_g (lw_at lw_m7 27 rfl) rfl
theorem q1572 : (Jvm.Cond.soleField "FrostRingModel" "isGround") ∈ lw_all := lw_g (lw_at lw_m7 28 rfl) rfl
theorem q1573 : (Jvm.Cond.laysFinal "FrostRingModel" "FrostRingModel" "isStream" "[Z") ∈ lw_all := lw_g (lw_at lw_m7 29 rfl) rfl
theorem q1574 : (Jvm.Cond.soleField "FrostRingModel" "isStream") ∈ lw_all := lw_g (lw_at lw_m7 30 rfl) rfl
theorem q1575 : (Jvm.Cond.lays "FrostRingModel" "FrostRingModel" "isFar" "Z") ∈ lw_all := lw_g (lw_at lw_m7 31 rfl) rfl
theorem q1576 : (Jvm.Cond.soleField "FrostRingModel" "isFar") ∈ lw_all := lw_g (lw_at lw_m7 32 rfl) rfl
theorem q1577 : (Jvm.Cond.lays "FrostRingModel" "FrostRingModel" "isCold" "Z") ∈ lw_all := lw_g (lw_at lw_m7 33 rfl) rfl
theorem q1578 : (Jvm.Cond.soleField "FrostRingModel" "isCold") ∈ lw_all := lw_g (lw_at lw_m7 34 rfl) rfl
theorem q1579 : (Jvm.Cond.lays "FrostRingModel" "FrostRingModel" "left" "I") ∈ lw_all := lw_g (lw_at lw_m7 35 rfl) rfl
theorem q1580 : (Jvm.Cond.soleField "FrostRingModel" "left") ∈ lw_all := lw_g (lw_at lw_m7 36 rfl) rfl
theorem q1581 : (Jvm.Cond.lays "FrostRingModel" "FrostRingModel" "top" "I") ∈ lw_all := lw_g (lw_at lw_m7 37 rfl) rfl
theorem q1582 : (Jvm.Cond.soleField "FrostRingModel" "top") ∈ lw_all := lw_g (lw_at lw_m7 38 rfl) rfl
theorem q1583 : (Jvm.Cond.lays "FrostRingModel" "FrostRingModel" "right" "I") ∈ lw_all := lw_g (lw_at lw_m7 39 rfl) rfl
theorem q1584 : (Jvm.Cond.soleField "FrostRingModel" "right") ∈ lw_all := lw_g (lw_at lw_m7 40 rfl) rfl
theorem q1585 : (Jvm.Cond.lays "FrostRingModel" "FrostRingModel" "bottom" "I") ∈ lw_all := lw_g (lw_at lw_m7 41 rfl) rfl
theorem q1586 : (Jvm.Cond.soleField "FrostRingModel" "bottom") ∈ lw_all := lw_g (lw_at lw_m7 42 rfl) rfl
theorem q1587 : (Jvm.Cond.laysFinal "FrostRingModel" "FrostRingModel" "heat" "[I") ∈ lw_all := lw_g (lw_at lw_m7 43 rfl) rfl
theorem q1588 : (Jvm.Cond.soleField "FrostRingModel" "heat") ∈ lw_all := lw_g (lw_at lw_m7 44 rfl) rfl
theorem q1589 : (Jvm.Cond.laysFinal "FrostRingModel" "FrostRingModel" "would" "[I") ∈ lw_all := lw_g (lw_at lw_m7 45 rfl) rfl
theorem q1590 : (Jvm.Cond.soleField "FrostRingModel" "would") ∈ lw_all := lw_g (lw_at lw_m7 46 rfl) rfl
theorem q1591 : (Jvm.Cond.laysFinal "FrostRingModel" "FrostRingModel" "far" "[I") ∈ lw_all := lw_g (lw_at lw_m7 47 rfl) rfl
theorem q1592 : (Jvm.Cond.soleField "FrostRingModel" "far") ∈ lw_all := lw_g (lw_at lw_m7 48 rfl) rfl
theorem q1593 : (Jvm.Cond.laysFinal "FrostRingModel" "FrostRingModel" "through" "[Z") ∈ lw_all := lw_g (lw_at lw_m7 49 rfl) rfl
theorem q1594 : (Jvm.Cond.soleField "FrostRingModel" "through") ∈ lw_all := lw_g (lw_at lw_m7 50 rfl) rfl
theorem q1595 : (Jvm.Cond.laysFinal "FrostRingModel" "FrostRingModel" "onto" "[Z") ∈ lw_all := lw_g (lw_at lw_m7 51 rfl) rfl
theorem q1596 : (Jvm.Cond.soleField "FrostRingModel" "onto") ∈ lw_all := lw_g (lw_at lw_m7 52 rfl) rfl
theorem q1597 : (Jvm.Cond.laysFinal "FrostRingModel" "FrostRingModel" "ahead" "[I") ∈ lw_all := lw_g (lw_at lw_m7 53 rfl) rfl
theorem q1598 : (Jvm.Cond.soleField "FrostRingModel" "ahead") ∈ lw_all := lw_g (lw_at lw_m7 54 rfl) rfl
theorem q1599 : (Jvm.Cond.laysFinal "FrostRingModel" "FrostRingModel" "queue" "[I") ∈ lw_all := lw_g (lw_at lw_m7 55 rfl) rfl
theorem q1600 : (Jvm.Cond.soleField "FrostRingModel" "queue") ∈ lw_all := lw_g (lw_at lw_m7 56 rfl) rfl
theorem q1601 : (Jvm.Cond.lays "FrostRingModel" "FrostRingModel" "queued" "I") ∈ lw_all := lw_g (lw_at lw_m7 57 rfl) rfl
theorem q1602 : (Jvm.Cond.soleField "FrostRingModel" "queued") ∈ lw_all := lw_g (lw_at lw_m7 58 rfl) rfl
theorem q1603 : (Jvm.Cond.laysFinal "FrostRingModel" "FrostRingModel" "isGap" "[Z") ∈ lw_all := lw_g (lw_at lw_m7 59 rfl) rfl
theorem q1604 : (Jvm.Cond.soleField "FrostRingModel" "isGap") ∈ lw_all := lw_g (lw_at lw_m7 60 rfl) rfl
theorem q1605 : (Jvm.Cond.laysFinal "FrostRingModel" "FrostRingModel" "toldGap" "[I") ∈ lw_all := lw_g (lw_at lw_m7 61 rfl) rfl
theorem q1606 : (Jvm.Cond.soleField "FrostRingModel" "toldGap") ∈ lw_all := lw_g (lw_at lw_m7 62 rfl) rfl
theorem q1607 : (Jvm.Cond.lays "FrostRingModel" "FrostRingModel" "toldGaps" "I") ∈ lw_all := lw_g (lw_at lw_m7 63 rfl) rfl
theorem q1608 : (Jvm.Cond.soleField "FrostRingModel" "toldGaps") ∈ lw_all := lw_g (lw_at lw_m7 64 rfl) rfl
theorem q1609 : (Jvm.Cond.lays "FrostRingModel" "FrostRingModel" "chosen" "I") ∈ lw_all := lw_g (lw_at lw_m7 65 rfl) rfl
theorem q1610 : (Jvm.Cond.soleField "FrostRingModel" "chosen") ∈ lw_all := lw_g (lw_at lw_m7 66 rfl) rfl
theorem q1611 : (Jvm.Cond.laysFinal "FrostRingModel" "FrostRingModel" "many" "[I") ∈ lw_all := lw_g (lw_at lw_m7 67 rfl) rfl
theorem q1612 : (Jvm.Cond.soleField "FrostRingModel" "many") ∈ lw_all := lw_g (lw_at lw_m7 68 rfl) rfl
theorem q1613 : (Jvm.Cond.laysFinal "FrostRingModel" "FrostRingModel" "width" "[I") ∈ lw_all := lw_g (lw_at lw_m7 69 rfl) rfl
theorem q1614 : (Jvm.Cond.soleField "FrostRingModel" "width") ∈ lw_all := lw_g (lw_at lw_m7 70 rfl) rfl
theorem q1615 : (Jvm.Cond.laysFinal "FrostRingModel" "FrostRingModel" "numbers" "[J") ∈ lw_all := lw_g (lw_at lw_m7 71 rfl) rfl
theorem q1616 : (Jvm.Cond.soleField "FrostRingModel" "numbers") ∈ lw_all := lw_g (lw_at lw_m7 72 rfl) rfl
theorem q1617 : (Jvm.Cond.laysFinal "FrostRingModel" "FrostRingModel" "moved" "[J") ∈ lw_all := lw_g (lw_at lw_m7 73 rfl) rfl
theorem q1618 : (Jvm.Cond.soleField "FrostRingModel" "moved") ∈ lw_all := lw_g (lw_at lw_m7 74 rfl) rfl
theorem q1619 : (Jvm.Cond.superclass "FrostRingModel" "java/lang/Object") ∈ lw_all := lw_g (lw_at lw_m7 75 rfl) rfl
theorem q1621 : (Jvm.Cond.instanceMethod ({ cls := "FrostRingModel", name := "keep", desc := "(I)I" } : Jvm.MethodName)) ∈ lw_all := lw_g (lw_at lw_m7 77 rfl) rfl
theorem q1622 : (Jvm.Cond.selects "FrostRingModel" ({ cls := "FrostRingModel", name := "keep", desc := "(I)I" } : Jvm.MethodName) ({ cls := "FrostRingModel", name := "keep", desc := "(I)I" } : Jvm.MethodName)) ∈ lw_all := lw_g (lw_at lw_m7 78 rfl) rfl
theorem q1623 : (Jvm.Cond.code ({ cls := "FrostRingModel", name := "keep", desc := "(I)I" } : Jvm.MethodName) prog_16_method_15_code (3 : Nat) (Option.some Jvm.ClassFile.FieldType.int)) ∈ lw_all := lw_g (lw_at lw_m7 79 rfl) rfl
theorem q1624 : (Jvm.Cond.constantLong "FrostRingModel" (120 : Nat) (2 : Int64)) ∈ lw_all := lw_g (lw_at lw_m7 80 rfl) rfl
theorem q1625 : (Jvm.Cond.methodLink "FrostRingModel" (110 : Nat) ({ cls := "FrostRingModel", name := "in", desc := "(JJJ)Z" } : Jvm.MethodName)) ∈ lw_all := lw_g (lw_at lw_m7 81 rfl) rfl
theorem q1626 : (Jvm.Cond.static ({ cls := "FrostRingModel", name := "in", desc := "(JJJ)Z" } : Jvm.MethodName)) ∈ lw_all := lw_g (lw_at lw_m7 82 rfl) rfl
theorem q1627 : (Jvm.Cond.code ({ cls := "FrostRingModel", name := "in", desc := "(JJJ)Z" } : Jvm.MethodName) prog_16_method_2_code (6 : Nat) (Option.some Jvm.ClassFile.FieldType.boolean)) ∈ lw_all := lw_g (lw_at lw_m7 83 rfl) rfl
theorem q1629 : (Jvm.Cond.instanceMethod ({ cls := "FrostRingModel", name := "back", desc := "(I)I" } : Jvm.MethodName)) ∈ lw_all := lw_g (lw_at lw_m7 85 rfl) rfl
theorem q1630 : (Jvm.Cond.selects "FrostRingModel" ({ cls := "FrostRingModel", name := "back", desc := "(I)I" } : Jvm.MethodName) ({ cls := "FrostRingModel", name := "back", desc := "(I)I" } : Jvm.MethodName)) ∈ lw_all := lw_g (lw_at lw_m7 86 rfl) rfl
theorem q1631 : (Jvm.Cond.code ({ cls := "FrostRingModel", name := "back", desc := "(I)I" } : Jvm.MethodName) prog_16_method_16_code (3 : Nat) (Option.some Jvm.ClassFile.FieldType.int)) ∈ lw_all := lw_g (lw_at lw_m7 87 rfl) rfl
theorem q1633 : (Jvm.Cond.instanceMethod ({ cls := "FrostRingModel", name := "feed", desc := "(IIIII)I" } : Jvm.MethodName)) ∈ lw_all := lw_g (lw_at lw_m7 89 rfl) rfl
theorem q1634 : (Jvm.Cond.selects "FrostRingModel" ({ cls := "FrostRingModel", name := "feed", desc := "(IIIII)I" } : Jvm.MethodName) ({ cls := "FrostRingModel", name := "feed", desc := "(IIIII)I" } : Jvm.MethodName)) ∈ lw_all := lw_g (lw_at lw_m7 90 rfl) rfl
theorem q1635 : (Jvm.Cond.code ({ cls := "FrostRingModel", name := "feed", desc := "(IIIII)I" } : Jvm.MethodName) prog_16_method_19_code (7 : Nat) (Option.some Jvm.ClassFile.FieldType.int)) ∈ lw_all := lw_g (lw_at lw_m7 91 rfl) rfl
theorem q1637 : (Jvm.Cond.instanceMethod ({ cls := "FrostRingModel", name := "end", desc := "(I)I" } : Jvm.MethodName)) ∈ lw_all := lw_g (lw_at lw_m7 93 rfl) rfl
theorem q1638 : (Jvm.Cond.selects "FrostRingModel" ({ cls := "FrostRingModel", name := "end", desc := "(I)I" } : Jvm.MethodName) ({ cls := "FrostRingModel", name := "end", desc := "(I)I" } : Jvm.MethodName)) ∈ lw_all := lw_g (lw_at lw_m7 94 rfl) rfl
theorem q1639 : (Jvm.Cond.code ({ cls := "FrostRingModel", name := "end", desc := "(I)I" } : Jvm.MethodName) prog_16_method_20_code (2 : Nat) (Option.some Jvm.ClassFile.FieldType.int)) ∈ lw_all := lw_g (lw_at lw_m7 95 rfl) rfl
theorem q1641 : (Jvm.Cond.instanceMethod ({ cls := "FrostRingModel", name := "text", desc := "()I" } : Jvm.MethodName)) ∈ lw_all := lw_g (lw_at lw_m7 97 rfl) rfl
theorem q1642 : (Jvm.Cond.selects "FrostRingModel" ({ cls := "FrostRingModel", name := "text", desc := "()I" } : Jvm.MethodName) ({ cls := "FrostRingModel", name := "text", desc := "()I" } : Jvm.MethodName)) ∈ lw_all := lw_g (lw_at lw_m7 98 rfl) rfl
theorem q1643 : (Jvm.Cond.code ({ cls := "FrostRingModel", name := "text", desc := "()I" } : Jvm.MethodName) prog_16_method_41_code (2 : Nat) (Option.some Jvm.ClassFile.FieldType.int)) ∈ lw_all := lw_g (lw_at lw_m7 99 rfl) rfl
theorem q1644 : (Jvm.Cond.methodLink "FrostRingModel" (178 : Nat) ({ cls := "FrostRingModel", name := "step", desc := "()V" } : Jvm.MethodName)) ∈ lw_all := lw_g (lw_at lw_m7 100 rfl) rfl
theorem q1645 : (Jvm.Cond.privateMethod ({ cls := "FrostRingModel", name := "step", desc := "()V" } : Jvm.MethodName)) ∈ lw_tbl := lw_at lw_m7 101 rfl
theorem q1646 : (Jvm.Cond.instanceMethod ({ cls := "FrostRingModel", name := "step", desc := "()V" } : Jvm.MethodName)) ∈ lw_all := lw_g (lw_at lw_m7 102 rfl) rfl
theorem q1647 : (Jvm.Cond.code ({ cls := "FrostRingModel", name := "step", desc := "()V" } : Jvm.MethodName) prog_16_method_22_code (2 : Nat) (Option.none : Option Jvm.ClassFile.FieldType)) ∈ lw_all := lw_g (lw_at lw_m7 103 rfl) rfl
theorem q1648 : (Jvm.Cond.methodLink "FrostRingModel" (131 : Nat) ({ cls := "FrostRingModel", name := "see", desc := "(I)I" } : Jvm.MethodName)) ∈ lw_all := lw_g (lw_at lw_m7 104 rfl) rfl
theorem q1649 : (Jvm.Cond.privateMethod ({ cls := "FrostRingModel", name := "see", desc := "(I)I" } : Jvm.MethodName)) ∈ lw_tbl := lw_at lw_m7 105 rfl
theorem q1650 : (Jvm.Cond.instanceMethod ({ cls := "FrostRingModel", name := "see", desc := "(I)I" } : Jvm.MethodName)) ∈ lw_all := lw_g (lw_at lw_m7 106 rfl) rfl
theorem q1651 : (Jvm.Cond.code ({ cls := "FrostRingModel", name := "see", desc := "(I)I" } : Jvm.MethodName) prog_16_method_21_code (2 : Nat) (Option.some Jvm.ClassFile.FieldType.int)) ∈ lw_all := lw_g (lw_at lw_m7 107 rfl) rfl
theorem q1652 : (Jvm.Cond.constantLong "FrostRingModel" (141 : Nat) (97 : Int64)) ∈ lw_all := lw_g (lw_at lw_m7 108 rfl) rfl
theorem q1653 : (Jvm.Cond.constantLong "FrostRingModel" (143 : Nat) (122 : Int64)) ∈ lw_all := lw_g (lw_at lw_m7 109 rfl) rfl
theorem q1654 : (Jvm.Cond.constantLong "FrostRingModel" (145 : Nat) (48 : Int64)) ∈ lw_all := lw_g (lw_at lw_m7 110 rfl) rfl
theorem q1655 : (Jvm.Cond.constantLong "FrostRingModel" (147 : Nat) (57 : Int64)) ∈ lw_all := lw_g (lw_at lw_m7 111 rfl) rfl
theorem q1656 : (Jvm.Cond.constant "FrostRingModel" (152 : Nat) (999999 : Int32)) ∈ lw_all := lw_g (lw_at lw_m7 112 rfl) rfl
theorem q1657 : (Jvm.Cond.methodLink "FrostRingModel" (153 : Nat) ({ cls := "java/lang/Math", name := "min", desc := "(II)I" } : Jvm.MethodName)) ∈ lw_all := lw_g (lw_at lw_m7 113 rfl) rfl
theorem q1658 : (Jvm.Cond.methodLink "FrostRingModel" (161 : Nat) ({ cls := "FrostRingModel", name := "good", desc := "()Z" } : Jvm.MethodName)) ∈ lw_all := lw_g (lw_at lw_m7 114 rfl) rfl
theorem q1659 : (Jvm.Cond.privateMethod ({ cls := "FrostRingModel", name := "good", desc := "()Z" } : Jvm.MethodName)) ∈ lw_tbl := lw_at lw_m7 115 rfl
theorem q1660 : (Jvm.Cond.instanceMethod ({ cls := "FrostRingModel", name := "good", desc := "()Z" } : Jvm.MethodName)) ∈ lw_all := lw_g (lw_at lw_m7 116 rfl) rfl
theorem q1661 : (Jvm.Cond.code ({ cls := "FrostRingModel", name := "good", desc := "()Z" } : Jvm.MethodName) prog_16_method_23_code (1 : Nat) (Option.some Jvm.ClassFile.FieldType.boolean)) ∈ lw_all := lw_g (lw_at lw_m7 117 rfl) rfl
theorem q1662 : (Jvm.Cond.methodLink "FrostRingModel" (298 : Nat) ({ cls := "FrostRingModel", name := "readLine", desc := "()V" } : Jvm.MethodName)) ∈ lw_all := lw_g (lw_at lw_m7 118 rfl) rfl
theorem q1663 : (Jvm.Cond.privateMethod ({ cls := "FrostRingModel", name := "readLine", desc := "()V" } : Jvm.MethodName)) ∈ lw_tbl := lw_at lw_m7 119 rfl
theorem q1664 : (Jvm.Cond.instanceMethod ({ cls := "FrostRingModel", name := "readLine", desc := "()V" } : Jvm.MethodName)) ∈ lw_all := lw_g (lw_at lw_m7 120 rfl) rfl
theorem q1665 : (Jvm.Cond.code ({ cls := "FrostRingModel", name := "readLine", desc := "()V" } : Jvm.MethodName) prog_16_method_40_code (4 : Nat) (Option.none : Option Jvm.ClassFile.FieldType)) ∈ lw_all := lw_g (lw_at lw_m7 121 rfl) rfl
theorem q1666 : (Jvm.Cond.stringRef "FrostRingModel" (234 : Nat) "ground") ∈ lw_tbl := lw_at lw_m7 122 rfl
theorem q1667 : (Jvm.Cond.methodLink "FrostRingModel" (174 : Nat) ({ cls := "FrostRingModel", name := "is", desc := "(Ljava/lang/String;)Z" } : Jvm.MethodName)) ∈ lw_all := lw_g (lw_at lw_m7 123 rfl) rfl
theorem q1668 : (Jvm.Cond.privateMethod ({ cls := "FrostRingModel", name := "is", desc := "(Ljava/lang/String;)Z" } : Jvm.MethodName)) ∈ lw_tbl := lw_at lw_m7 124 rfl
theorem q1669 : (Jvm.Cond.instanceMethod ({ cls := "FrostRingModel", name := "is", desc := "(Ljava/lang/String;)Z" } : Jvm.MethodName)) ∈ lw_all := lw_g (lw_at lw_m7 125 rfl) rfl
theorem q1670 : (Jvm.Cond.code ({ cls := "FrostRingModel", name := "is", desc := "(Ljava/lang/String;)Z" } : Jvm.MethodName) prog_16_method_25_code (4 : Nat) (Option.some Jvm.ClassFile.FieldType.boolean)) ∈ lw_all := lw_g (lw_at lw_m7 126 rfl) rfl
theorem q1671 : (Jvm.Cond.methodLink "FrostRingModel" (165 : Nat) ({ cls := "java/lang/String", name := "length", desc := "()I" } : Jvm.MethodName)) ∈ lw_all := lw_g (lw_at lw_m7 127 rfl) rfl
theorem q1672 : (Jvm.Cond.methodLink "FrostRingModel" (170 : Nat) ({ cls := "java/lang/String", name := "charAt", desc := "(I)C" } : Jvm.MethodName)) ∈ lw_all := lw_g (lw_at lw_m7 128 rfl) rfl
theorem q1673 : (Jvm.Cond.stringRef "FrostRingModel" (259 : Nat) "lay") ∈ lw_tbl := lw_at lw_m7 129 rfl
theorem q1674 : (Jvm.Cond.stringRef "FrostRingModel" (261 : Nat) "stream") ∈ lw_tbl := lw_at lw_m7 130 rfl
theorem q1675 : (Jvm.Cond.stringRef "FrostRingModel" (263 : Nat) "far") ∈ lw_tbl := lw_at lw_m7 131 rfl
theorem q1676 : (Jvm.Cond.stringRef "FrostRingModel" (264 : Nat) "shaft") ∈ lw_tbl := lw_at lw_m7 132 rfl
theorem q1677 : (Jvm.Cond.stringRef "FrostRingModel" (266 : Nat) "pipe") ∈ lw_tbl := lw_at lw_m7 133 rfl
theorem q1678 : (Jvm.Cond.stringRef "FrostRingModel" (268 : Nat) "cold") ∈ lw_tbl := lw_at lw_m7 134 rfl
theorem q1679 : (Jvm.Cond.stringRef "FrostRingModel" (270 : Nat) "house") ∈ lw_tbl := lw_at lw_m7 135 rfl
theorem q1680 : (Jvm.Cond.stringRef "FrostRingModel" (272 : Nat) "dig") ∈ lw_tbl := lw_at lw_m7 136 rfl
theorem q1681 : (Jvm.Cond.methodLink "FrostRingModel" (184 : Nat) ({ cls := "FrostRingModel", name := "wrong", desc := "(I)V" } : Jvm.MethodName)) ∈ lw_all := lw_g (lw_at lw_m7 137 rfl) rfl
theorem q1682 : (Jvm.Cond.privateMethod ({ cls := "FrostRingModel", name := "wrong", desc := "(I)V" } : Jvm.MethodName)) ∈ lw_tbl := lw_at lw_m7 138 rfl
theorem q1683 : (Jvm.Cond.instanceMethod ({ cls := "FrostRingModel", name := "wrong", desc := "(I)V" } : Jvm.MethodName)) ∈ lw_all := lw_g (lw_at lw_m7 139 rfl) rfl
theorem q1684 : (Jvm.Cond.code ({ cls := "FrostRingModel", name := "wrong", desc := "(I)V" } : Jvm.MethodName) prog_16_method_24_code (2 : Nat) (Option.none : Option Jvm.ClassFile.FieldType)) ∈ lw_all := lw_g (lw_at lw_m7 140 rfl) rfl
theorem q1685 : (Jvm.Cond.methodLink "FrostRingModel" (181 : Nat) ({ cls := "FrostRingModel", name := "takes", desc := "(Ljava/lang/String;)Z" } : Jvm.MethodName)) ∈ lw_all := lw_g (lw_at lw_m7 141 rfl) rfl
theorem q1686 : (Jvm.Cond.privateMethod ({ cls := "FrostRingModel", name := "takes", desc := "(Ljava/lang/String;)Z" } : Jvm.MethodName)) ∈ lw_tbl := lw_at lw_m7 142 rfl
theorem q1687 : (Jvm.Cond.instanceMethod ({ cls := "FrostRingModel", name := "takes", desc := "(Ljava/lang/String;)Z" } : Jvm.MethodName)) ∈ lw_all := lw_g (lw_at lw_m7 143 rfl) rfl
theorem q1688 : (Jvm.Cond.code ({ cls := "FrostRingModel", name := "takes", desc := "(Ljava/lang/String;)Z" } : Jvm.MethodName) prog_16_method_26_code (3 : Nat) (Option.some Jvm.ClassFile.FieldType.boolean)) ∈ lw_all := lw_g (lw_at lw_m7 144 rfl) rfl
theorem q1689 : (Jvm.Cond.methodLink "FrostRingModel" (281 : Nat) ({ cls := "FrostRingModel", name := "readGround", desc := "()V" } : Jvm.MethodName)) ∈ lw_all := lw_g (lw_at lw_m7 145 rfl) rfl
theorem q1690 : (Jvm.Cond.privateMethod ({ cls := "FrostRingModel", name := "readGround", desc := "()V" } : Jvm.MethodName)) ∈ lw_tbl := lw_at lw_m7 146 rfl
theorem q1691 : (Jvm.Cond.instanceMethod ({ cls := "FrostRingModel", name := "readGround", desc := "()V" } : Jvm.MethodName)) ∈ lw_all := lw_g (lw_at lw_m7 147 rfl) rfl
theorem q1692 : (Jvm.Cond.code ({ cls := "FrostRingModel", name := "readGround", desc := "()V" } : Jvm.MethodName) prog_16_method_32_code (2 : Nat) (Option.none : Option Jvm.ClassFile.FieldType)) ∈ lw_all := lw_g (lw_at lw_m7 148 rfl) rfl
theorem q1693 : (Jvm.Cond.constantLong "FrostRingModel" (198 : Nat) (3 : Int64)) ∈ lw_all := lw_g (lw_at lw_m7 149 rfl) rfl
theorem q1694 : (Jvm.Cond.methodLink "FrostRingModel" (192 : Nat) ({ cls := "FrostRingModel", name := "number", desc := "(II)I" } : Jvm.MethodName)) ∈ lw_all := lw_g (lw_at lw_m7 150 rfl) rfl
theorem q1695 : (Jvm.Cond.privateMethod ({ cls := "FrostRingModel", name := "number", desc := "(II)I" } : Jvm.MethodName)) ∈ lw_tbl := lw_at lw_m7 151 rfl
theorem q1696 : (Jvm.Cond.instanceMethod ({ cls := "FrostRingModel", name := "number", desc := "(II)I" } : Jvm.MethodName)) ∈ lw_all := lw_g (lw_at lw_m7 152 rfl) rfl
theorem q1697 : (Jvm.Cond.code ({ cls := "FrostRingModel", name := "number", desc := "(II)I" } : Jvm.MethodName) prog_16_method_29_code (4 : Nat) (Option.some Jvm.ClassFile.FieldType.int)) ∈ lw_all := lw_g (lw_at lw_m7 153 rfl) rfl
theorem q1698 : (Jvm.Cond.stringRef "FrostRingModel" (200 : Nat) "lead") ∈ lw_tbl := lw_at lw_m7 154 rfl
theorem q1699 : (Jvm.Cond.methodLink "FrostRingModel" (202 : Nat) ({ cls := "FrostRingModel", name := "told", desc := "(Ljava/lang/String;II)I" } : Jvm.MethodName)) ∈ lw_all := lw_g (lw_at lw_m7 155 rfl) rfl
theorem q1700 : (Jvm.Cond.privateMethod ({ cls := "FrostRingModel", name := "told", desc := "(Ljava/lang/String;II)I" } : Jvm.MethodName)) ∈ lw_tbl := lw_at lw_m7 156 rfl
theorem q1701 : (Jvm.Cond.instanceMethod ({ cls := "FrostRingModel", name := "told", desc := "(Ljava/lang/String;II)I" } : Jvm.MethodName)) ∈ lw_all := lw_g (lw_at lw_m7 157 rfl) rfl
theorem q1702 : (Jvm.Cond.code ({ cls := "FrostRingModel", name := "told", desc := "(Ljava/lang/String;II)I" } : Jvm.MethodName) prog_16_method_30_code (4 : Nat) (Option.some Jvm.ClassFile.FieldType.int)) ∈ lw_all := lw_g (lw_at lw_m7 158 rfl) rfl
theorem q1703 : (Jvm.Cond.methodLink "FrostRingModel" (188 : Nat) ({ cls := "FrostRingModel", name := "needs", desc := "(Ljava/lang/String;)V" } : Jvm.MethodName)) ∈ lw_all := lw_g (lw_at lw_m7 159 rfl) rfl
theorem q1704 : (Jvm.Cond.privateMethod ({ cls := "FrostRingModel", name := "needs", desc := "(Ljava/lang/String;)V" } : Jvm.MethodName)) ∈ lw_tbl := lw_at lw_m7 160 rfl
theorem q1705 : (Jvm.Cond.instanceMethod ({ cls := "FrostRingModel", name := "needs", desc := "(Ljava/lang/String;)V" } : Jvm.MethodName)) ∈ lw_all := lw_g (lw_at lw_m7 161 rfl) rfl
theorem q1706 : (Jvm.Cond.code ({ cls := "FrostRingModel", name := "needs", desc := "(Ljava/lang/String;)V" } : Jvm.MethodName) prog_16_method_27_code (2 : Nat) (Option.none : Option Jvm.ClassFile.FieldType)) ∈ lw_all := lw_g (lw_at lw_m7 162 rfl) rfl
theorem q1707 : (Jvm.Cond.stringRef "FrostRingModel" (206 : Nat) "ice") ∈ lw_tbl := lw_at lw_m7 163 rfl
theorem q1708 : (Jvm.Cond.stringRef "FrostRingModel" (208 : Nat) "latent") ∈ lw_tbl := lw_at lw_m7 164 rfl
theorem q1709 : (Jvm.Cond.stringRef "FrostRingModel" (210 : Nat) "mark") ∈ lw_tbl := lw_at lw_m7 165 rfl
theorem q1710 : (Jvm.Cond.methodLink "FrostRingModel" (212 : Nat) ({ cls := "FrostRingModel", name := "below", desc := "(Ljava/lang/String;I)I" } : Jvm.MethodName)) ∈ lw_all := lw_g (lw_at lw_m7 166 rfl) rfl
theorem q1711 : (Jvm.Cond.privateMethod ({ cls := "FrostRingModel", name := "below", desc := "(Ljava/lang/String;I)I" } : Jvm.MethodName)) ∈ lw_tbl := lw_at lw_m7 167 rfl
theorem q1712 : (Jvm.Cond.instanceMethod ({ cls := "FrostRingModel", name := "below", desc := "(Ljava/lang/String;I)I" } : Jvm.MethodName)) ∈ lw_all := lw_g (lw_at lw_m7 168 rfl) rfl
theorem q1713 : (Jvm.Cond.code ({ cls := "FrostRingModel", name := "below", desc := "(Ljava/lang/String;I)I" } : Jvm.MethodName) prog_16_method_31_code (4 : Nat) (Option.some Jvm.ClassFile.FieldType.int)) ∈ lw_all := lw_g (lw_at lw_m7 169 rfl) rfl
theorem q1714 : (Jvm.Cond.methodLink "FrostRingModel" (195 : Nat) ({ cls := "FrostRingModel", name := "isSign", desc := "(I)Z" } : Jvm.MethodName)) ∈ lw_all := lw_g (lw_at lw_m7 170 rfl) rfl
theorem q1715 : (Jvm.Cond.privateMethod ({ cls := "FrostRingModel", name := "isSign", desc := "(I)Z" } : Jvm.MethodName)) ∈ lw_tbl := lw_at lw_m7 171 rfl
theorem q1716 : (Jvm.Cond.instanceMethod ({ cls := "FrostRingModel", name := "isSign", desc := "(I)Z" } : Jvm.MethodName)) ∈ lw_all := lw_g (lw_at lw_m7 172 rfl) rfl
theorem q1717 : (Jvm.Cond.code ({ cls := "FrostRingModel", name := "isSign", desc := "(I)Z" } : Jvm.MethodName) prog_16_method_28_code (2 : Nat) (Option.some Jvm.ClassFile.FieldType.boolean)) ∈ lw_all := lw_g (lw_at lw_m7 173 rfl) rfl
theorem q1718 : (Jvm.Cond.methodLink "FrostRingModel" (284 : Nat) ({ cls := "FrostRingModel", name := "readLay", desc := "()V" } : Jvm.MethodName)) ∈ lw_all := lw_g (lw_at lw_m7 174 rfl) rfl
theorem q1719 : (Jvm.Cond.privateMethod ({ cls := "FrostRingModel", name := "readLay", desc := "()V" } : Jvm.MethodName)) ∈ lw_tbl := lw_at lw_m7 175 rfl
theorem q1720 : (Jvm.Cond.instanceMethod ({ cls := "FrostRingModel", name := "readLay", desc := "()V" } : Jvm.MethodName)) ∈ lw_all := lw_g (lw_at lw_m7 176 rfl) rfl
theorem q1721 : (Jvm.Cond.code ({ cls := "FrostRingModel", name := "readLay", desc := "()V" } : Jvm.MethodName) prog_16_method_34_code (4 : Nat) (Option.none : Option Jvm.ClassFile.FieldType)) ∈ lw_all := lw_g (lw_at lw_m7 177 rfl) rfl
theorem q1722 : (Jvm.Cond.methodLink "FrostRingModel" (230 : Nat) ({ cls := "FrostRingModel", name := "readBox", desc := "(II)V" } : Jvm.MethodName)) ∈ lw_all := lw_g (lw_at lw_m7 178 rfl) rfl
theorem q1723 : (Jvm.Cond.privateMethod ({ cls := "FrostRingModel", name := "readBox", desc := "(II)V" } : Jvm.MethodName)) ∈ lw_tbl := lw_at lw_m7 179 rfl
theorem q1724 : (Jvm.Cond.instanceMethod ({ cls := "FrostRingModel", name := "readBox", desc := "(II)V" } : Jvm.MethodName)) ∈ lw_all := lw_g (lw_at lw_m7 180 rfl) rfl
theorem q1725 : (Jvm.Cond.code ({ cls := "FrostRingModel", name := "readBox", desc := "(II)V" } : Jvm.MethodName) prog_16_method_33_code (3 : Nat) (Option.none : Option Jvm.ClassFile.FieldType)) ∈ lw_all := lw_g (lw_at lw_m7 181 rfl) rfl
theorem q1726 : (Jvm.Cond.stringRef "FrostRingModel" (222 : Nat) "to") ∈ lw_tbl := lw_at lw_m7 182 rfl
theorem q1727 : (Jvm.Cond.methodLink "FrostRingModel" (287 : Nat) ({ cls := "FrostRingModel", name := "readStream", desc := "()V" } : Jvm.MethodName)) ∈ lw_all := lw_g (lw_at lw_m7 183 rfl) rfl
theorem q1728 : (Jvm.Cond.privateMethod ({ cls := "FrostRingModel", name := "readStream", desc := "()V" } : Jvm.MethodName)) ∈ lw_tbl := lw_at lw_m7 184 rfl
theorem q1729 : (Jvm.Cond.instanceMethod ({ cls := "FrostRingModel", name := "readStream", desc := "()V" } : Jvm.MethodName)) ∈ lw_all := lw_g (lw_at lw_m7 185 rfl) rfl
theorem q1730 : (Jvm.Cond.code ({ cls := "FrostRingModel", name := "readStream", desc := "()V" } : Jvm.MethodName) prog_16_method_35_code (3 : Nat) (Option.none : Option Jvm.ClassFile.FieldType)) ∈ lw_all := lw_g (lw_at lw_m7 186 rfl) rfl
theorem q1731 : (Jvm.Cond.constantLong "FrostRingModel" (114 : Nat) (11 : Int64)) ∈ lw_all := lw_g (lw_at lw_m7 187 rfl) rfl
theorem q1732 : (Jvm.Cond.stringRef "FrostRingModel" (236 : Nat) "speed") ∈ lw_tbl := lw_at lw_m7 188 rfl
theorem q1733 : (Jvm.Cond.methodLink "FrostRingModel" (290 : Nat) ({ cls := "FrostRingModel", name := "readPipe", desc := "()V" } : Jvm.MethodName)) ∈ lw_all := lw_g (lw_at lw_m7 189 rfl) rfl
theorem q1734 : (Jvm.Cond.privateMethod ({ cls := "FrostRingModel", name := "readPipe", desc := "()V" } : Jvm.MethodName)) ∈ lw_tbl := lw_at lw_m7 190 rfl
theorem q1735 : (Jvm.Cond.instanceMethod ({ cls := "FrostRingModel", name := "readPipe", desc := "()V" } : Jvm.MethodName)) ∈ lw_all := lw_g (lw_at lw_m7 191 rfl) rfl
theorem q1736 : (Jvm.Cond.code ({ cls := "FrostRingModel", name := "readPipe", desc := "()V" } : Jvm.MethodName) prog_16_method_36_code (6 : Nat) (Option.none : Option Jvm.ClassFile.FieldType)) ∈ lw_all := lw_g (lw_at lw_m7 192 rfl) rfl
theorem q1737 : (Jvm.Cond.stringRef "FrostRingModel" (238 : Nat) "at") ∈ lw_tbl := lw_at lw_m7 193 rfl
theorem q1738 : (Jvm.Cond.methodLink "FrostRingModel" (293 : Nat) ({ cls := "FrostRingModel", name := "readRule", desc := "()V" } : Jvm.MethodName)) ∈ lw_all := lw_g (lw_at lw_m7 194 rfl) rfl
theorem q1739 : (Jvm.Cond.privateMethod ({ cls := "FrostRingModel", name := "readRule", desc := "()V" } : Jvm.MethodName)) ∈ lw_tbl := lw_at lw_m7 195 rfl
theorem q1740 : (Jvm.Cond.instanceMethod ({ cls := "FrostRingModel", name := "readRule", desc := "()V" } : Jvm.MethodName)) ∈ lw_all := lw_g (lw_at lw_m7 196 rfl) rfl
theorem q1741 : (Jvm.Cond.code ({ cls := "FrostRingModel", name := "readRule", desc := "()V" } : Jvm.MethodName) prog_16_method_39_code (3 : Nat) (Option.none : Option Jvm.ClassFile.FieldType)) ∈ lw_all := lw_g (lw_at lw_m7 197 rfl) rfl
theorem q1742 : (Jvm.Cond.stringRef "FrostRingModel" (252 : Nat) "if") ∈ lw_tbl := lw_at lw_m7 198 rfl
theorem q1743 : (Jvm.Cond.methodLink "FrostRingModel" (254 : Nat) ({ cls := "FrostRingModel", name := "readCond", desc := "(I)V" } : Jvm.MethodName)) ∈ lw_all := lw_g (lw_at lw_m7 199 rfl) rfl
theorem q1744 : (Jvm.Cond.privateMethod ({ cls := "FrostRingModel", name := "readCond", desc := "(I)V" } : Jvm.MethodName)) ∈ lw_tbl := lw_at lw_m7 200 rfl
theorem q1745 : (Jvm.Cond.instanceMethod ({ cls := "FrostRingModel", name := "readCond", desc := "(I)V" } : Jvm.MethodName)) ∈ lw_all := lw_g (lw_at lw_m7 201 rfl) rfl
theorem q1746 : (Jvm.Cond.code ({ cls := "FrostRingModel", name := "readCond", desc := "(I)V" } : Jvm.MethodName) prog_16_method_38_code (4 : Nat) (Option.none : Option Jvm.ClassFile.FieldType)) ∈ lw_all := lw_g (lw_at lw_m7 202 rfl) rfl
theorem q1747 : (Jvm.Cond.methodLink "FrostRingModel" (249 : Nat) ({ cls := "FrostRingModel", name := "wordHere", desc := "()I" } : Jvm.MethodName)) ∈ lw_all := lw_g (lw_at lw_m7 203 rfl) rfl
theorem q1748 : (Jvm.Cond.privateMethod ({ cls := "FrostRingModel", name := "wordHere", desc := "()I" } : Jvm.MethodName)) ∈ lw_tbl := lw_at lw_m7 204 rfl
theorem q1749 : (Jvm.Cond.instanceMethod ({ cls := "FrostRingModel", name := "wordHere", desc := "()I" } : Jvm.MethodName)) ∈ lw_all := lw_g (lw_at lw_m7 205 rfl) rfl
theorem q1750 : (Jvm.Cond.code ({ cls := "FrostRingModel", name := "wordHere", desc := "()I" } : Jvm.MethodName) prog_16_method_37_code (1 : Nat) (Option.some Jvm.ClassFile.FieldType.int)) ∈ lw_all := lw_g (lw_at lw_m7 206 rfl) rfl
theorem q1751 : (Jvm.Cond.stringRef "FrostRingModel" (239 : Nat) "shut") ∈ lw_tbl := lw_at lw_m7 207 rfl
theorem q1752 : (Jvm.Cond.stringRef "FrostRingModel" (241 : Nat) "thick") ∈ lw_tbl := lw_at lw_m7 208 rfl
theorem q1753 : (Jvm.Cond.stringRef "FrostRingModel" (243 : Nat) "gaps") ∈ lw_tbl := lw_at lw_m7 209 rfl
theorem q1754 : (Jvm.Cond.stringRef "FrostRingModel" (245 : Nat) "tick") ∈ lw_tbl := lw_at lw_m7 210 rfl
theorem q1755 : (Jvm.Cond.stringRef "FrostRingModel" (247 : Nat) "lift") ∈ lw_tbl := lw_at lw_m7 211 rfl
theorem q1756 : (Jvm.Cond.stringRef "FrostRingModel" (257 : Nat) "and") ∈ lw_tbl := lw_at lw_m7 212 rfl
theorem q1757 : (Jvm.Cond.stringRef "FrostRingModel" (296 : Nat) "limit") ∈ lw_tbl := lw_at lw_m7 213 rfl
theorem q1759 : (Jvm.Cond.instanceMethod ({ cls := "FrostRingModel", name := "fault", desc := "(I)I" } : Jvm.MethodName)) ∈ lw_all := lw_g (lw_at lw_m7 215 rfl) rfl
theorem q1760 : (Jvm.Cond.selects "FrostRingModel" ({ cls := "FrostRingModel", name := "fault", desc := "(I)I" } : Jvm.MethodName) ({ cls := "FrostRingModel", name := "fault", desc := "(I)I" } : Jvm.MethodName)) ∈ lw_all := lw_g (lw_at lw_m7 216 rfl) rfl
theorem q1761 : (Jvm.Cond.code ({ cls := "FrostRingModel", name := "fault", desc := "(I)I" } : Jvm.MethodName) prog_16_method_42_code (2 : Nat) (Option.some Jvm.ClassFile.FieldType.int)) ∈ lw_all := lw_g (lw_at lw_m7 217 rfl) rfl
theorem q1763 : (Jvm.Cond.instanceMethod ({ cls := "FrostRingModel", name := "tick", desc := "(I)I" } : Jvm.MethodName)) ∈ lw_all := lw_g (lw_at lw_m7 219 rfl) rfl
theorem q1764 : (Jvm.Cond.selects "FrostRingModel" ({ cls := "FrostRingModel", name := "tick", desc := "(I)I" } : Jvm.MethodName) ({ cls := "FrostRingModel", name := "tick", desc := "(I)I" } : Jvm.MethodName)) ∈ lw_all := lw_g (lw_at lw_m7 220 rfl) rfl
theorem q1765 : (Jvm.Cond.code ({ cls := "FrostRingModel", name := "tick", desc := "(I)I" } : Jvm.MethodName) prog_16_method_50_code (3 : Nat) (Option.some Jvm.ClassFile.FieldType.int)) ∈ lw_all := lw_g (lw_at lw_m7 221 rfl) rfl
theorem q1766 : (Jvm.Cond.constantLong "FrostRingModel" (337 : Nat) (40 : Int64)) ∈ lw_all := lw_g (lw_at lw_m7 222 rfl) rfl
theorem q1767 : (Jvm.Cond.methodLink "FrostRingModel" (339 : Nat) ({ cls := "FrostRingModel", name := "ticks", desc := "()V" } : Jvm.MethodName)) ∈ lw_all := lw_g (lw_at lw_m7 223 rfl) rfl
theorem q1768 : (Jvm.Cond.privateMethod ({ cls := "FrostRingModel", name := "ticks", desc := "()V" } : Jvm.MethodName)) ∈ lw_tbl := lw_at lw_m7 224 rfl
theorem q1769 : (Jvm.Cond.instanceMethod ({ cls := "FrostRingModel", name := "ticks", desc := "()V" } : Jvm.MethodName)) ∈ lw_all := lw_g (lw_at lw_m7 225 rfl) rfl
theorem q1770 : (Jvm.Cond.code ({ cls := "FrostRingModel", name := "ticks", desc := "()V" } : Jvm.MethodName) prog_16_method_48_code (3 : Nat) (Option.none : Option Jvm.ClassFile.FieldType)) ∈ lw_all := lw_g (lw_at lw_m7 226 rfl) rfl
theorem q1771 : (Jvm.Cond.methodLink "FrostRingModel" (102 : Nat) ({ cls := "FrostRingModel", name := "isDug", desc := "(I)Z" } : Jvm.MethodName)) ∈ lw_all := lw_g (lw_at lw_m7 227 rfl) rfl
theorem q1772 : (Jvm.Cond.privateMethod ({ cls := "FrostRingModel", name := "isDug", desc := "(I)Z" } : Jvm.MethodName)) ∈ lw_tbl := lw_at lw_m7 228 rfl
theorem q1773 : (Jvm.Cond.instanceMethod ({ cls := "FrostRingModel", name := "isDug", desc := "(I)Z" } : Jvm.MethodName)) ∈ lw_all := lw_g (lw_at lw_m7 229 rfl) rfl
theorem q1774 : (Jvm.Cond.code ({ cls := "FrostRingModel", name := "isDug", desc := "(I)Z" } : Jvm.MethodName) prog_16_method_9_code (2 : Nat) (Option.some Jvm.ClassFile.FieldType.boolean)) ∈ lw_all := lw_g (lw_at lw_m7 230 rfl) rfl
theorem q1775 : (Jvm.Cond.methodLink "FrostRingModel" (313 : Nat) ({ cls := "FrostRingModel", name := "comesBeside", desc := "(I)V" } : Jvm.MethodName)) ∈ lw_all := lw_g (lw_at lw_m7 231 rfl) rfl
theorem q1776 : (Jvm.Cond.privateMethod ({ cls := "FrostRingModel", name := "comesBeside", desc := "(I)V" } : Jvm.MethodName)) ∈ lw_tbl := lw_at lw_m7 232 rfl
theorem q1777 : (Jvm.Cond.instanceMethod ({ cls := "FrostRingModel", name := "comesBeside", desc := "(I)V" } : Jvm.MethodName)) ∈ lw_all := lw_g (lw_at lw_m7 233 rfl) rfl
theorem q1778 : (Jvm.Cond.code ({ cls := "FrostRingModel", name := "comesBeside", desc := "(I)V" } : Jvm.MethodName) prog_16_method_44_code (5 : Nat) (Option.none : Option Jvm.ClassFile.FieldType)) ∈ lw_all := lw_g (lw_at lw_m7 234 rfl) rfl
theorem q1779 : (Jvm.Cond.methodLink "FrostRingModel" (304 : Nat) ({ cls := "FrostRingModel", name := "beside", desc := "(II)I" } : Jvm.MethodName)) ∈ lw_all := lw_g (lw_at lw_m7 235 rfl) rfl
theorem q1780 : (Jvm.Cond.static ({ cls := "FrostRingModel", name := "beside", desc := "(II)I" } : Jvm.MethodName)) ∈ lw_all := lw_g (lw_at lw_m7 236 rfl) rfl
theorem q1781 : (Jvm.Cond.code ({ cls := "FrostRingModel", name := "beside", desc := "(II)I" } : Jvm.MethodName) prog_16_method_13_code (4 : Nat) (Option.some Jvm.ClassFile.FieldType.int)) ∈ lw_all := lw_g (lw_at lw_m7 237 rfl) rfl
theorem q1782 : (Jvm.Cond.methodLink "FrostRingModel" (116 : Nat) ({ cls := "FrostRingModel", name := "isPlace", desc := "(II)Z" } : Jvm.MethodName)) ∈ lw_all := lw_g (lw_at lw_m7 238 rfl) rfl
theorem q1783 : (Jvm.Cond.static ({ cls := "FrostRingModel", name := "isPlace", desc := "(II)Z" } : Jvm.MethodName)) ∈ lw_all := lw_g (lw_at lw_m7 239 rfl) rfl
theorem q1784 : (Jvm.Cond.code ({ cls := "FrostRingModel", name := "isPlace", desc := "(II)Z" } : Jvm.MethodName) prog_16_method_12_code (2 : Nat) (Option.some Jvm.ClassFile.FieldType.boolean)) ∈ lw_all := lw_g (lw_at lw_m8 0 rfl) rfl
theorem q1785 : (Jvm.Cond.methodLink "FrostRingModel" (307 : Nat) ({ cls := "FrostRingModel", name := "leadOf", desc := "(I)I" } : Jvm.MethodName)) ∈ lw_all := lw_g (lw_at lw_m8 1 rfl) rfl
theorem q1786 : (Jvm.Cond.privateMethod ({ cls := "FrostRingModel", name := "leadOf", desc := "(I)I" } : Jvm.MethodName)) ∈ lw_tbl := lw_at lw_m8 2 rfl
theorem q1787 : (Jvm.Cond.instanceMethod ({ cls := "FrostRingModel", name := "leadOf", desc := "(I)I" } : Jvm.MethodName)) ∈ lw_all := lw_g (lw_at lw_m8 3 rfl) rfl
theorem q1788 : (Jvm.Cond.code ({ cls := "FrostRingModel", name := "leadOf", desc := "(I)I" } : Jvm.MethodName) prog_16_method_43_code (2 : Nat) (Option.some Jvm.ClassFile.FieldType.int)) ∈ lw_all := lw_g (lw_at lw_m8 4 rfl) rfl
theorem q1789 : (Jvm.Cond.methodLink "FrostRingModel" (301 : Nat) ({ cls := "FrostRingModel", name := "isFrozen", desc := "(I)Z" } : Jvm.MethodName)) ∈ lw_all := lw_g (lw_at lw_m8 5 rfl) rfl
theorem q1790 : (Jvm.Cond.privateMethod ({ cls := "FrostRingModel", name := "isFrozen", desc := "(I)Z" } : Jvm.MethodName)) ∈ lw_tbl := lw_at lw_m8 6 rfl
theorem q1791 : (Jvm.Cond.instanceMethod ({ cls := "FrostRingModel", name := "isFrozen", desc := "(I)Z" } : Jvm.MethodName)) ∈ lw_all := lw_g (lw_at lw_m8 7 rfl) rfl
theorem q1792 : (Jvm.Cond.code ({ cls := "FrostRingModel", name := "isFrozen", desc := "(I)Z" } : Jvm.MethodName) prog_16_method_10_code (2 : Nat) (Option.some Jvm.ClassFile.FieldType.boolean)) ∈ lw_all := lw_g (lw_at lw_m8 8 rfl) rfl
theorem q1793 : (Jvm.Cond.methodLink "FrostRingModel" (106 : Nat) ({ cls := "FrostRingModel", name := "groundOf", desc := "(II)I" } : Jvm.MethodName)) ∈ lw_all := lw_g (lw_at lw_m8 9 rfl) rfl
theorem q1794 : (Jvm.Cond.privateMethod ({ cls := "FrostRingModel", name := "groundOf", desc := "(II)I" } : Jvm.MethodName)) ∈ lw_tbl := lw_at lw_m8 10 rfl
theorem q1795 : (Jvm.Cond.instanceMethod ({ cls := "FrostRingModel", name := "groundOf", desc := "(II)I" } : Jvm.MethodName)) ∈ lw_all := lw_g (lw_at lw_m8 11 rfl) rfl
theorem q1796 : (Jvm.Cond.code ({ cls := "FrostRingModel", name := "groundOf", desc := "(II)I" } : Jvm.MethodName) prog_16_method_8_code (3 : Nat) (Option.some Jvm.ClassFile.FieldType.int)) ∈ lw_all := lw_g (lw_at lw_m8 12 rfl) rfl
theorem q1797 : (Jvm.Cond.methodLink "FrostRingModel" (316 : Nat) ({ cls := "FrostRingModel", name := "streams", desc := "(I)V" } : Jvm.MethodName)) ∈ lw_all := lw_g (lw_at lw_m8 13 rfl) rfl
theorem q1798 : (Jvm.Cond.privateMethod ({ cls := "FrostRingModel", name := "streams", desc := "(I)V" } : Jvm.MethodName)) ∈ lw_tbl := lw_at lw_m8 14 rfl
theorem q1799 : (Jvm.Cond.instanceMethod ({ cls := "FrostRingModel", name := "streams", desc := "(I)V" } : Jvm.MethodName)) ∈ lw_all := lw_g (lw_at lw_m8 15 rfl) rfl
theorem q1800 : (Jvm.Cond.code ({ cls := "FrostRingModel", name := "streams", desc := "(I)V" } : Jvm.MethodName) prog_16_method_45_code (5 : Nat) (Option.none : Option Jvm.ClassFile.FieldType)) ∈ lw_all := lw_g (lw_at lw_m8 16 rfl) rfl
theorem q1801 : (Jvm.Cond.methodLink "FrostRingModel" (319 : Nat) ({ cls := "FrostRingModel", name := "pipes", desc := "()V" } : Jvm.MethodName)) ∈ lw_all := lw_g (lw_at lw_m8 17 rfl) rfl
theorem q1802 : (Jvm.Cond.privateMethod ({ cls := "FrostRingModel", name := "pipes", desc := "()V" } : Jvm.MethodName)) ∈ lw_tbl := lw_at lw_m8 18 rfl
theorem q1803 : (Jvm.Cond.instanceMethod ({ cls := "FrostRingModel", name := "pipes", desc := "()V" } : Jvm.MethodName)) ∈ lw_all := lw_g (lw_at lw_m8 19 rfl) rfl
theorem q1804 : (Jvm.Cond.code ({ cls := "FrostRingModel", name := "pipes", desc := "()V" } : Jvm.MethodName) prog_16_method_46_code (7 : Nat) (Option.none : Option Jvm.ClassFile.FieldType)) ∈ lw_all := lw_g (lw_at lw_m8 20 rfl) rfl
theorem q1805 : (Jvm.Cond.methodLink "FrostRingModel" (322 : Nat) ({ cls := "FrostRingModel", name := "does", desc := "(I)V" } : Jvm.MethodName)) ∈ lw_all := lw_g (lw_at lw_m8 21 rfl) rfl
theorem q1806 : (Jvm.Cond.privateMethod ({ cls := "FrostRingModel", name := "does", desc := "(I)V" } : Jvm.MethodName)) ∈ lw_tbl := lw_at lw_m8 22 rfl
theorem q1807 : (Jvm.Cond.instanceMethod ({ cls := "FrostRingModel", name := "does", desc := "(I)V" } : Jvm.MethodName)) ∈ lw_all := lw_g (lw_at lw_m8 23 rfl) rfl
theorem q1808 : (Jvm.Cond.code ({ cls := "FrostRingModel", name := "does", desc := "(I)V" } : Jvm.MethodName) prog_16_method_47_code (6 : Nat) (Option.none : Option Jvm.ClassFile.FieldType)) ∈ lw_all := lw_g (lw_at lw_m8 24 rfl) rfl
theorem q1809 : (Jvm.Cond.methodLink "FrostRingModel" (310 : Nat) ({ cls := "java/lang/Math", name := "max", desc := "(II)I" } : Jvm.MethodName)) ∈ lw_all := lw_g (lw_at lw_m8 25 rfl) rfl
theorem q1810 : (Jvm.Cond.methodLink "FrostRingModel" (325 : Nat) ({ cls := "FrostRingModel", name := "liftOf", desc := "(I)I" } : Jvm.MethodName)) ∈ lw_all := lw_g (lw_at lw_m8 26 rfl) rfl
theorem q1811 : (Jvm.Cond.privateMethod ({ cls := "FrostRingModel", name := "liftOf", desc := "(I)I" } : Jvm.MethodName)) ∈ lw_tbl := lw_at lw_m8 27 rfl
theorem q1812 : (Jvm.Cond.instanceMethod ({ cls := "FrostRingModel", name := "liftOf", desc := "(I)I" } : Jvm.MethodName)) ∈ lw_all := lw_g (lw_at lw_m8 28 rfl) rfl
theorem q1813 : (Jvm.Cond.code ({ cls := "FrostRingModel", name := "liftOf", desc := "(I)I" } : Jvm.MethodName) prog_16_method_73_code (4 : Nat) (Option.some Jvm.ClassFile.FieldType.int)) ∈ lw_all := lw_g (lw_at lw_m8 29 rfl) rfl
theorem q1814 : (Jvm.Cond.methodLink "FrostRingModel" (328 : Nat) ({ cls := "java/lang/Math", name := "abs", desc := "(I)I" } : Jvm.MethodName)) ∈ lw_all := lw_g (lw_at lw_m8 30 rfl) rfl
theorem q1815 : (Jvm.Cond.methodLink "FrostRingModel" (331 : Nat) ({ cls := "FrostRingModel", name := "anyDug", desc := "()Z" } : Jvm.MethodName)) ∈ lw_all := lw_g (lw_at lw_m8 31 rfl) rfl
theorem q1816 : (Jvm.Cond.privateMethod ({ cls := "FrostRingModel", name := "anyDug", desc := "()Z" } : Jvm.MethodName)) ∈ lw_tbl := lw_at lw_m8 32 rfl
theorem q1817 : (Jvm.Cond.instanceMethod ({ cls := "FrostRingModel", name := "anyDug", desc := "()Z" } : Jvm.MethodName)) ∈ lw_all := lw_g (lw_at lw_m8 33 rfl) rfl
theorem q1818 : (Jvm.Cond.code ({ cls := "FrostRingModel", name := "anyDug", desc := "()Z" } : Jvm.MethodName) prog_16_method_49_code (3 : Nat) (Option.some Jvm.ClassFile.FieldType.boolean)) ∈ lw_all := lw_g (lw_at lw_m8 34 rfl) rfl
theorem q1819 : (Jvm.Cond.methodLink "FrostRingModel" (334 : Nat) ({ cls := "FrostRingModel", name := "isShut", desc := "()Z" } : Jvm.MethodName)) ∈ lw_all := lw_g (lw_at lw_m8 35 rfl) rfl
theorem q1820 : (Jvm.Cond.privateMethod ({ cls := "FrostRingModel", name := "isShut", desc := "()Z" } : Jvm.MethodName)) ∈ lw_tbl := lw_at lw_m8 36 rfl
theorem q1821 : (Jvm.Cond.instanceMethod ({ cls := "FrostRingModel", name := "isShut", desc := "()Z" } : Jvm.MethodName)) ∈ lw_all := lw_g (lw_at lw_m8 37 rfl) rfl
theorem q1822 : (Jvm.Cond.code ({ cls := "FrostRingModel", name := "isShut", desc := "()Z" } : Jvm.MethodName) prog_16_method_62_code (1 : Nat) (Option.some Jvm.ClassFile.FieldType.boolean)) ∈ lw_all := lw_g (lw_at lw_m8 38 rfl) rfl
theorem q1823 : (Jvm.Cond.methodLink "FrostRingModel" (362 : Nat) ({ cls := "FrostRingModel", name := "leastOut", desc := "(II)I" } : Jvm.MethodName)) ∈ lw_all := lw_g (lw_at lw_m8 39 rfl) rfl
theorem q1824 : (Jvm.Cond.privateMethod ({ cls := "FrostRingModel", name := "leastOut", desc := "(II)I" } : Jvm.MethodName)) ∈ lw_tbl := lw_at lw_m8 40 rfl
theorem q1825 : (Jvm.Cond.instanceMethod ({ cls := "FrostRingModel", name := "leastOut", desc := "(II)I" } : Jvm.MethodName)) ∈ lw_all := lw_g (lw_at lw_m8 41 rfl) rfl
theorem q1826 : (Jvm.Cond.code ({ cls := "FrostRingModel", name := "leastOut", desc := "(II)I" } : Jvm.MethodName) prog_16_method_60_code (9 : Nat) (Option.some Jvm.ClassFile.FieldType.int)) ∈ lw_all := lw_g (lw_at lw_m8 42 rfl) rfl
theorem q1827 : (Jvm.Cond.methodLink "FrostRingModel" (346 : Nat) ({ cls := "FrostRingModel", name := "isShaft", desc := "(I)Z" } : Jvm.MethodName)) ∈ lw_all := lw_g (lw_at lw_m8 43 rfl) rfl
theorem q1828 : (Jvm.Cond.privateMethod ({ cls := "FrostRingModel", name := "isShaft", desc := "(I)Z" } : Jvm.MethodName)) ∈ lw_tbl := lw_at lw_m8 44 rfl
theorem q1829 : (Jvm.Cond.instanceMethod ({ cls := "FrostRingModel", name := "isShaft", desc := "(I)Z" } : Jvm.MethodName)) ∈ lw_all := lw_g (lw_at lw_m8 45 rfl) rfl
theorem q1830 : (Jvm.Cond.code ({ cls := "FrostRingModel", name := "isShaft", desc := "(I)Z" } : Jvm.MethodName) prog_16_method_11_code (2 : Nat) (Option.some Jvm.ClassFile.FieldType.boolean)) ∈ lw_all := lw_g (lw_at lw_m8 46 rfl) rfl
theorem q1831 : (Jvm.Cond.methodLink "FrostRingModel" (356 : Nat) ({ cls := "FrostRingModel", name := "isBesideShaft", desc := "(I)Z" } : Jvm.MethodName)) ∈ lw_all := lw_g (lw_at lw_m8 47 rfl) rfl
theorem q1832 : (Jvm.Cond.privateMethod ({ cls := "FrostRingModel", name := "isBesideShaft", desc := "(I)Z" } : Jvm.MethodName)) ∈ lw_tbl := lw_at lw_m8 48 rfl
theorem q1833 : (Jvm.Cond.instanceMethod ({ cls := "FrostRingModel", name := "isBesideShaft", desc := "(I)Z" } : Jvm.MethodName)) ∈ lw_all := lw_g (lw_at lw_m8 49 rfl) rfl
theorem q1834 : (Jvm.Cond.code ({ cls := "FrostRingModel", name := "isBesideShaft", desc := "(I)Z" } : Jvm.MethodName) prog_16_method_58_code (4 : Nat) (Option.some Jvm.ClassFile.FieldType.boolean)) ∈ lw_all := lw_g (lw_at lw_m8 50 rfl) rfl
theorem q1835 : (Jvm.Cond.methodLink "FrostRingModel" (359 : Nat) ({ cls := "FrostRingModel", name := "isRim", desc := "(I)Z" } : Jvm.MethodName)) ∈ lw_all := lw_g (lw_at lw_m8 51 rfl) rfl
theorem q1836 : (Jvm.Cond.static ({ cls := "FrostRingModel", name := "isRim", desc := "(I)Z" } : Jvm.MethodName)) ∈ lw_all := lw_g (lw_at lw_m8 52 rfl) rfl
theorem q1837 : (Jvm.Cond.code ({ cls := "FrostRingModel", name := "isRim", desc := "(I)Z" } : Jvm.MethodName) prog_16_method_59_code (1 : Nat) (Option.some Jvm.ClassFile.FieldType.boolean)) ∈ lw_all := lw_g (lw_at lw_m8 53 rfl) rfl
theorem q1839 : (Jvm.Cond.instanceMethod ({ cls := "FrostRingModel", name := "cell", desc := "(III)I" } : Jvm.MethodName)) ∈ lw_all := lw_g (lw_at lw_m8 55 rfl) rfl
theorem q1840 : (Jvm.Cond.selects "FrostRingModel" ({ cls := "FrostRingModel", name := "cell", desc := "(III)I" } : Jvm.MethodName) ({ cls := "FrostRingModel", name := "cell", desc := "(III)I" } : Jvm.MethodName)) ∈ lw_all := lw_g (lw_at lw_m8 56 rfl) rfl
theorem q1841 : (Jvm.Cond.code ({ cls := "FrostRingModel", name := "cell", desc := "(III)I" } : Jvm.MethodName) prog_16_method_51_code (5 : Nat) (Option.some Jvm.ClassFile.FieldType.int)) ∈ lw_all := lw_g (lw_at lw_m8 57 rfl) rfl
theorem q1842 : (Jvm.Cond.constant "FrostRingModel" (342 : Nat) (-2000000000 : Int32)) ∈ lw_all := lw_g (lw_at lw_m8 58 rfl) rfl
theorem q1843 : (Jvm.Cond.methodLink "FrostRingModel" (343 : Nat) ({ cls := "FrostRingModel", name := "pipeAt", desc := "(I)I" } : Jvm.MethodName)) ∈ lw_all := lw_g (lw_at lw_m8 59 rfl) rfl
theorem q1844 : (Jvm.Cond.privateMethod ({ cls := "FrostRingModel", name := "pipeAt", desc := "(I)I" } : Jvm.MethodName)) ∈ lw_tbl := lw_at lw_m8 60 rfl
theorem q1845 : (Jvm.Cond.instanceMethod ({ cls := "FrostRingModel", name := "pipeAt", desc := "(I)I" } : Jvm.MethodName)) ∈ lw_all := lw_g (lw_at lw_m8 61 rfl) rfl
theorem q1846 : (Jvm.Cond.code ({ cls := "FrostRingModel", name := "pipeAt", desc := "(I)I" } : Jvm.MethodName) prog_16_method_14_code (3 : Nat) (Option.some Jvm.ClassFile.FieldType.int)) ∈ lw_all := lw_g (lw_at lw_m8 62 rfl) rfl
theorem q1848 : (Jvm.Cond.instanceMethod ({ cls := "FrostRingModel", name := "heat", desc := "(I)I" } : Jvm.MethodName)) ∈ lw_all := lw_g (lw_at lw_m8 64 rfl) rfl
theorem q1849 : (Jvm.Cond.selects "FrostRingModel" ({ cls := "FrostRingModel", name := "heat", desc := "(I)I" } : Jvm.MethodName) ({ cls := "FrostRingModel", name := "heat", desc := "(I)I" } : Jvm.MethodName)) ∈ lw_all := lw_g (lw_at lw_m8 65 rfl) rfl
theorem q1850 : (Jvm.Cond.code ({ cls := "FrostRingModel", name := "heat", desc := "(I)I" } : Jvm.MethodName) prog_16_method_52_code (2 : Nat) (Option.some Jvm.ClassFile.FieldType.int)) ∈ lw_all := lw_g (lw_at lw_m8 66 rfl) rfl
theorem q1851 : (Jvm.Cond.constantLong "FrostRingModel" (349 : Nat) (5 : Int64)) ∈ lw_all := lw_g (lw_at lw_m8 67 rfl) rfl
theorem q1853 : (Jvm.Cond.instanceMethod ({ cls := "FrostRingModel", name := "run", desc := "(IZ)Z" } : Jvm.MethodName)) ∈ lw_all := lw_g (lw_at lw_m8 69 rfl) rfl
theorem q1854 : (Jvm.Cond.selects "FrostRingModel" ({ cls := "FrostRingModel", name := "run", desc := "(IZ)Z" } : Jvm.MethodName) ({ cls := "FrostRingModel", name := "run", desc := "(IZ)Z" } : Jvm.MethodName)) ∈ lw_all := lw_g (lw_at lw_m8 70 rfl) rfl
theorem q1855 : (Jvm.Cond.code ({ cls := "FrostRingModel", name := "run", desc := "(IZ)Z" } : Jvm.MethodName) prog_16_method_54_code (5 : Nat) (Option.some Jvm.ClassFile.FieldType.boolean)) ∈ lw_all := lw_g (lw_at lw_m8 71 rfl) rfl
theorem q1856 : (Jvm.Cond.methodLink "FrostRingModel" (351 : Nat) ({ cls := "FrostRingModel", name := "isPipe", desc := "(I)Z" } : Jvm.MethodName)) ∈ lw_all := lw_g (lw_at lw_m8 72 rfl) rfl
theorem q1857 : (Jvm.Cond.privateMethod ({ cls := "FrostRingModel", name := "isPipe", desc := "(I)Z" } : Jvm.MethodName)) ∈ lw_tbl := lw_at lw_m8 73 rfl
theorem q1858 : (Jvm.Cond.instanceMethod ({ cls := "FrostRingModel", name := "isPipe", desc := "(I)Z" } : Jvm.MethodName)) ∈ lw_all := lw_g (lw_at lw_m8 74 rfl) rfl
theorem q1859 : (Jvm.Cond.code ({ cls := "FrostRingModel", name := "isPipe", desc := "(I)Z" } : Jvm.MethodName) prog_16_method_53_code (2 : Nat) (Option.some Jvm.ClassFile.FieldType.boolean)) ∈ lw_all := lw_g (lw_at lw_m8 75 rfl) rfl
theorem q1861 : (Jvm.Cond.instanceMethod ({ cls := "FrostRingModel", name := "pipe", desc := "(II)I" } : Jvm.MethodName)) ∈ lw_all := lw_g (lw_at lw_m8 77 rfl) rfl
theorem q1862 : (Jvm.Cond.selects "FrostRingModel" ({ cls := "FrostRingModel", name := "pipe", desc := "(II)I" } : Jvm.MethodName) ({ cls := "FrostRingModel", name := "pipe", desc := "(II)I" } : Jvm.MethodName)) ∈ lw_all := lw_g (lw_at lw_m8 78 rfl) rfl
theorem q1863 : (Jvm.Cond.code ({ cls := "FrostRingModel", name := "pipe", desc := "(II)I" } : Jvm.MethodName) prog_16_method_55_code (3 : Nat) (Option.some Jvm.ClassFile.FieldType.int)) ∈ lw_all := lw_g (lw_at lw_m8 79 rfl) rfl
theorem q1865 : (Jvm.Cond.instanceMethod ({ cls := "FrostRingModel", name := "cold", desc := "(I)I" } : Jvm.MethodName)) ∈ lw_all := lw_g (lw_at lw_m8 81 rfl) rfl
theorem q1866 : (Jvm.Cond.selects "FrostRingModel" ({ cls := "FrostRingModel", name := "cold", desc := "(I)I" } : Jvm.MethodName) ({ cls := "FrostRingModel", name := "cold", desc := "(I)I" } : Jvm.MethodName)) ∈ lw_all := lw_g (lw_at lw_m8 82 rfl) rfl
theorem q1867 : (Jvm.Cond.code ({ cls := "FrostRingModel", name := "cold", desc := "(I)I" } : Jvm.MethodName) prog_16_method_56_code (3 : Nat) (Option.some Jvm.ClassFile.FieldType.int)) ∈ lw_all := lw_g (lw_at lw_m8 83 rfl) rfl
theorem q1868 : (Jvm.Cond.constantLong "FrostRingModel" (354 : Nat) (99999 : Int64)) ∈ lw_all := lw_g (lw_at lw_m8 84 rfl) rfl
theorem q1870 : (Jvm.Cond.instanceMethod ({ cls := "FrostRingModel", name := "shut", desc := "()I" } : Jvm.MethodName)) ∈ lw_all := lw_g (lw_at lw_m8 86 rfl) rfl
theorem q1871 : (Jvm.Cond.selects "FrostRingModel" ({ cls := "FrostRingModel", name := "shut", desc := "()I" } : Jvm.MethodName) ({ cls := "FrostRingModel", name := "shut", desc := "()I" } : Jvm.MethodName)) ∈ lw_all := lw_g (lw_at lw_m8 87 rfl) rfl
theorem q1872 : (Jvm.Cond.code ({ cls := "FrostRingModel", name := "shut", desc := "()I" } : Jvm.MethodName) prog_16_method_63_code (1 : Nat) (Option.some Jvm.ClassFile.FieldType.int)) ∈ lw_all := lw_g (lw_at lw_m8 88 rfl) rfl
theorem q1873 : (Jvm.Cond.methodLink "FrostRingModel" (365 : Nat) ({ cls := "FrostRingModel", name := "hasShaft", desc := "()Z" } : Jvm.MethodName)) ∈ lw_all := lw_g (lw_at lw_m8 89 rfl) rfl
theorem q1874 : (Jvm.Cond.privateMethod ({ cls := "FrostRingModel", name := "hasShaft", desc := "()Z" } : Jvm.MethodName)) ∈ lw_tbl := lw_at lw_m8 90 rfl
theorem q1875 : (Jvm.Cond.instanceMethod ({ cls := "FrostRingModel", name := "hasShaft", desc := "()Z" } : Jvm.MethodName)) ∈ lw_all := lw_g (lw_at lw_m8 91 rfl) rfl
theorem q1876 : (Jvm.Cond.code ({ cls := "FrostRingModel", name := "hasShaft", desc := "()Z" } : Jvm.MethodName) prog_16_method_61_code (1 : Nat) (Option.some Jvm.ClassFile.FieldType.boolean)) ∈ lw_all := lw_g (lw_at lw_m8 92 rfl) rfl
theorem q1878 : (Jvm.Cond.instanceMethod ({ cls := "FrostRingModel", name := "way", desc := "()I" } : Jvm.MethodName)) ∈ lw_all := lw_g (lw_at lw_m8 94 rfl) rfl
theorem q1879 : (Jvm.Cond.selects "FrostRingModel" ({ cls := "FrostRingModel", name := "way", desc := "()I" } : Jvm.MethodName) ({ cls := "FrostRingModel", name := "way", desc := "()I" } : Jvm.MethodName)) ∈ lw_all := lw_g (lw_at lw_m8 95 rfl) rfl
theorem q1880 : (Jvm.Cond.code ({ cls := "FrostRingModel", name := "way", desc := "()I" } : Jvm.MethodName) prog_16_method_64_code (1 : Nat) (Option.some Jvm.ClassFile.FieldType.int)) ∈ lw_all := lw_g (lw_at lw_m8 96 rfl) rfl
theorem q1882 : (Jvm.Cond.instanceMethod ({ cls := "FrostRingModel", name := "thick", desc := "()I" } : Jvm.MethodName)) ∈ lw_all := lw_g (lw_at lw_m8 98 rfl) rfl
theorem q1883 : (Jvm.Cond.selects "FrostRingModel" ({ cls := "FrostRingModel", name := "thick", desc := "()I" } : Jvm.MethodName) ({ cls := "FrostRingModel", name := "thick", desc := "()I" } : Jvm.MethodName)) ∈ lw_all := lw_g (lw_at lw_m8 99 rfl) rfl
theorem q1884 : (Jvm.Cond.code ({ cls := "FrostRingModel", name := "thick", desc := "()I" } : Jvm.MethodName) prog_16_method_65_code (1 : Nat) (Option.some Jvm.ClassFile.FieldType.int)) ∈ lw_all := lw_g (lw_at lw_m8 100 rfl) rfl
theorem q1886 : (Jvm.Cond.instanceMethod ({ cls := "FrostRingModel", name := "gaps", desc := "()I" } : Jvm.MethodName)) ∈ lw_all := lw_g (lw_at lw_m8 102 rfl) rfl
theorem q1887 : (Jvm.Cond.selects "FrostRingModel" ({ cls := "FrostRingModel", name := "gaps", desc := "()I" } : Jvm.MethodName) ({ cls := "FrostRingModel", name := "gaps", desc := "()I" } : Jvm.MethodName)) ∈ lw_all := lw_g (lw_at lw_m8 103 rfl) rfl
theorem q1888 : (Jvm.Cond.code ({ cls := "FrostRingModel", name := "gaps", desc := "()I" } : Jvm.MethodName) prog_16_method_71_code (3 : Nat) (Option.some Jvm.ClassFile.FieldType.int)) ∈ lw_all := lw_g (lw_at lw_m8 104 rfl) rfl
theorem q1889 : (Jvm.Cond.methodLink "FrostRingModel" (386 : Nat) ({ cls := "FrostRingModel", name := "findGaps", desc := "()I" } : Jvm.MethodName)) ∈ lw_all := lw_g (lw_at lw_m8 105 rfl) rfl
theorem q1890 : (Jvm.Cond.privateMethod ({ cls := "FrostRingModel", name := "findGaps", desc := "()I" } : Jvm.MethodName)) ∈ lw_tbl := lw_at lw_m8 106 rfl
theorem q1891 : (Jvm.Cond.instanceMethod ({ cls := "FrostRingModel", name := "findGaps", desc := "()I" } : Jvm.MethodName)) ∈ lw_all := lw_g (lw_at lw_m8 107 rfl) rfl
theorem q1892 : (Jvm.Cond.code ({ cls := "FrostRingModel", name := "findGaps", desc := "()I" } : Jvm.MethodName) prog_16_method_70_code (4 : Nat) (Option.some Jvm.ClassFile.FieldType.int)) ∈ lw_all := lw_g (lw_at lw_m8 108 rfl) rfl
theorem q1893 : (Jvm.Cond.methodLink "FrostRingModel" (380 : Nat) ({ cls := "FrostRingModel", name := "search", desc := "()I" } : Jvm.MethodName)) ∈ lw_all := lw_g (lw_at lw_m8 109 rfl) rfl
theorem q1894 : (Jvm.Cond.privateMethod ({ cls := "FrostRingModel", name := "search", desc := "()I" } : Jvm.MethodName)) ∈ lw_tbl := lw_at lw_m8 110 rfl
theorem q1895 : (Jvm.Cond.instanceMethod ({ cls := "FrostRingModel", name := "search", desc := "()I" } : Jvm.MethodName)) ∈ lw_all := lw_g (lw_at lw_m8 111 rfl) rfl
theorem q1896 : (Jvm.Cond.code ({ cls := "FrostRingModel", name := "search", desc := "()I" } : Jvm.MethodName) prog_16_method_67_code (6 : Nat) (Option.some Jvm.ClassFile.FieldType.int)) ∈ lw_all := lw_g (lw_at lw_m8 112 rfl) rfl
theorem q1897 : (Jvm.Cond.methodLink "FrostRingModel" (371 : Nat) ({ cls := "FrostRingModel", name := "isOpen", desc := "(I)Z" } : Jvm.MethodName)) ∈ lw_all := lw_g (lw_at lw_m8 113 rfl) rfl
theorem q1898 : (Jvm.Cond.privateMethod ({ cls := "FrostRingModel", name := "isOpen", desc := "(I)Z" } : Jvm.MethodName)) ∈ lw_tbl := lw_at lw_m8 114 rfl
theorem q1899 : (Jvm.Cond.instanceMethod ({ cls := "FrostRingModel", name := "isOpen", desc := "(I)Z" } : Jvm.MethodName)) ∈ lw_all := lw_g (lw_at lw_m8 115 rfl) rfl
theorem q1900 : (Jvm.Cond.code ({ cls := "FrostRingModel", name := "isOpen", desc := "(I)Z" } : Jvm.MethodName) prog_16_method_57_code (2 : Nat) (Option.some Jvm.ClassFile.FieldType.boolean)) ∈ lw_all := lw_g (lw_at lw_m8 116 rfl) rfl
theorem q1901 : (Jvm.Cond.methodLink "FrostRingModel" (374 : Nat) ({ cls := "FrostRingModel", name := "reach", desc := "(II)V" } : Jvm.MethodName)) ∈ lw_all := lw_g (lw_at lw_m8 117 rfl) rfl
theorem q1902 : (Jvm.Cond.privateMethod ({ cls := "FrostRingModel", name := "reach", desc := "(II)V" } : Jvm.MethodName)) ∈ lw_tbl := lw_at lw_m8 118 rfl
theorem q1903 : (Jvm.Cond.instanceMethod ({ cls := "FrostRingModel", name := "reach", desc := "(II)V" } : Jvm.MethodName)) ∈ lw_all := lw_g (lw_at lw_m8 119 rfl) rfl
theorem q1904 : (Jvm.Cond.code ({ cls := "FrostRingModel", name := "reach", desc := "(II)V" } : Jvm.MethodName) prog_16_method_66_code (3 : Nat) (Option.none : Option Jvm.ClassFile.FieldType)) ∈ lw_all := lw_g (lw_at lw_m8 120 rfl) rfl
theorem q1905 : (Jvm.Cond.methodLink "FrostRingModel" (383 : Nat) ({ cls := "FrostRingModel", name := "goes", desc := "(I)V" } : Jvm.MethodName)) ∈ lw_all := lw_g (lw_at lw_m8 121 rfl) rfl
theorem q1906 : (Jvm.Cond.privateMethod ({ cls := "FrostRingModel", name := "goes", desc := "(I)V" } : Jvm.MethodName)) ∈ lw_tbl := lw_at lw_m8 122 rfl
theorem q1907 : (Jvm.Cond.instanceMethod ({ cls := "FrostRingModel", name := "goes", desc := "(I)V" } : Jvm.MethodName)) ∈ lw_all := lw_g (lw_at lw_m8 123 rfl) rfl
theorem q1908 : (Jvm.Cond.code ({ cls := "FrostRingModel", name := "goes", desc := "(I)V" } : Jvm.MethodName) prog_16_method_69_code (6 : Nat) (Option.none : Option Jvm.ClassFile.FieldType)) ∈ lw_all := lw_g (lw_at lw_m8 124 rfl) rfl
theorem q1909 : (Jvm.Cond.methodLink "FrostRingModel" (377 : Nat) ({ cls := "FrostRingModel", name := "wayTo", desc := "(II)I" } : Jvm.MethodName)) ∈ lw_all := lw_g (lw_at lw_m8 125 rfl) rfl
theorem q1910 : (Jvm.Cond.static ({ cls := "FrostRingModel", name := "wayTo", desc := "(II)I" } : Jvm.MethodName)) ∈ lw_all := lw_g (lw_at lw_m8 126 rfl) rfl
theorem q1911 : (Jvm.Cond.code ({ cls := "FrostRingModel", name := "wayTo", desc := "(II)I" } : Jvm.MethodName) prog_16_method_68_code (3 : Nat) (Option.some Jvm.ClassFile.FieldType.int)) ∈ lw_all := lw_g (lw_at lw_m8 127 rfl) rfl
theorem q1913 : (Jvm.Cond.instanceMethod ({ cls := "FrostRingModel", name := "gap", desc := "(I)I" } : Jvm.MethodName)) ∈ lw_all := lw_g (lw_at lw_m8 129 rfl) rfl
theorem q1914 : (Jvm.Cond.selects "FrostRingModel" ({ cls := "FrostRingModel", name := "gap", desc := "(I)I" } : Jvm.MethodName) ({ cls := "FrostRingModel", name := "gap", desc := "(I)I" } : Jvm.MethodName)) ∈ lw_all := lw_g (lw_at lw_m8 130 rfl) rfl
theorem q1915 : (Jvm.Cond.code ({ cls := "FrostRingModel", name := "gap", desc := "(I)I" } : Jvm.MethodName) prog_16_method_72_code (2 : Nat) (Option.some Jvm.ClassFile.FieldType.int)) ∈ lw_all := lw_g (lw_at lw_m8 131 rfl) rfl
theorem q1917 : (Jvm.Cond.instanceMethod ({ cls := "FrostRingModel", name := "lacks", desc := "(I)I" } : Jvm.MethodName)) ∈ lw_all := lw_g (lw_at lw_m8 133 rfl) rfl
theorem q1918 : (Jvm.Cond.selects "FrostRingModel" ({ cls := "FrostRingModel", name := "lacks", desc := "(I)I" } : Jvm.MethodName) ({ cls := "FrostRingModel", name := "lacks", desc := "(I)I" } : Jvm.MethodName)) ∈ lw_all := lw_g (lw_at lw_m8 134 rfl) rfl
theorem q1919 : (Jvm.Cond.code ({ cls := "FrostRingModel", name := "lacks", desc := "(I)I" } : Jvm.MethodName) prog_16_method_76_code (5 : Nat) (Option.some Jvm.ClassFile.FieldType.int)) ∈ lw_all := lw_g (lw_at lw_m8 135 rfl) rfl
theorem q1920 : (Jvm.Cond.methodLink "FrostRingModel" (395 : Nat) ({ cls := "FrostRingModel", name := "condHolds", desc := "(I)Z" } : Jvm.MethodName)) ∈ lw_all := lw_g (lw_at lw_m8 136 rfl) rfl
theorem q1921 : (Jvm.Cond.privateMethod ({ cls := "FrostRingModel", name := "condHolds", desc := "(I)Z" } : Jvm.MethodName)) ∈ lw_tbl := lw_at lw_m8 137 rfl
theorem q1922 : (Jvm.Cond.instanceMethod ({ cls := "FrostRingModel", name := "condHolds", desc := "(I)Z" } : Jvm.MethodName)) ∈ lw_all := lw_g (lw_at lw_m8 138 rfl) rfl
theorem q1923 : (Jvm.Cond.code ({ cls := "FrostRingModel", name := "condHolds", desc := "(I)Z" } : Jvm.MethodName) prog_16_method_75_code (3 : Nat) (Option.some Jvm.ClassFile.FieldType.boolean)) ∈ lw_all := lw_g (lw_at lw_m8 139 rfl) rfl
theorem q1924 : (Jvm.Cond.methodLink "FrostRingModel" (392 : Nat) ({ cls := "FrostRingModel", name := "wordOf", desc := "(I)I" } : Jvm.MethodName)) ∈ lw_all := lw_g (lw_at lw_m8 140 rfl) rfl
theorem q1925 : (Jvm.Cond.privateMethod ({ cls := "FrostRingModel", name := "wordOf", desc := "(I)I" } : Jvm.MethodName)) ∈ lw_tbl := lw_at lw_m8 141 rfl
theorem q1926 : (Jvm.Cond.instanceMethod ({ cls := "FrostRingModel", name := "wordOf", desc := "(I)I" } : Jvm.MethodName)) ∈ lw_all := lw_g (lw_at lw_m8 142 rfl) rfl
theorem q1927 : (Jvm.Cond.code ({ cls := "FrostRingModel", name := "wordOf", desc := "(I)I" } : Jvm.MethodName) prog_16_method_74_code (4 : Nat) (Option.some Jvm.ClassFile.FieldType.int)) ∈ lw_all := lw_g (lw_at lw_m8 143 rfl) rfl
theorem q1929 : (Jvm.Cond.instanceMethod ({ cls := "FrostRingModel", name := "dig", desc := "(II)I" } : Jvm.MethodName)) ∈ lw_all := lw_g (lw_at lw_m8 145 rfl) rfl
theorem q1930 : (Jvm.Cond.selects "FrostRingModel" ({ cls := "FrostRingModel", name := "dig", desc := "(II)I" } : Jvm.MethodName) ({ cls := "FrostRingModel", name := "dig", desc := "(II)I" } : Jvm.MethodName)) ∈ lw_all := lw_g (lw_at lw_m8 146 rfl) rfl
theorem q1931 : (Jvm.Cond.code ({ cls := "FrostRingModel", name := "dig", desc := "(II)I" } : Jvm.MethodName) prog_16_method_78_code (6 : Nat) (Option.some Jvm.ClassFile.FieldType.int)) ∈ lw_all := lw_g (lw_at lw_m8 147 rfl) rfl
theorem q1932 : (Jvm.Cond.methodLink "FrostRingModel" (401 : Nat) ({ cls := "FrostRingModel", name := "mayDig", desc := "()Z" } : Jvm.MethodName)) ∈ lw_all := lw_g (lw_at lw_m8 148 rfl) rfl
theorem q1933 : (Jvm.Cond.privateMethod ({ cls := "FrostRingModel", name := "mayDig", desc := "()Z" } : Jvm.MethodName)) ∈ lw_tbl := lw_at lw_m8 149 rfl
theorem q1934 : (Jvm.Cond.instanceMethod ({ cls := "FrostRingModel", name := "mayDig", desc := "()Z" } : Jvm.MethodName)) ∈ lw_all := lw_g (lw_at lw_m8 150 rfl) rfl
theorem q1935 : (Jvm.Cond.code ({ cls := "FrostRingModel", name := "mayDig", desc := "()Z" } : Jvm.MethodName) prog_16_method_77_code (3 : Nat) (Option.some Jvm.ClassFile.FieldType.boolean)) ∈ lw_all := lw_g (lw_at lw_m8 151 rfl) rfl
theorem q1936 : (Jvm.Cond.methodLink "FrostRingModel" (398 : Nat) ({ cls := "FrostRingModel", name := "lacks", desc := "(I)I" } : Jvm.MethodName)) ∈ lw_all := lw_g (lw_at lw_m8 152 rfl) rfl
theorem q1938 : (Jvm.Cond.instanceMethod ({ cls := "FrostRingModel", name := "pump", desc := "()I" } : Jvm.MethodName)) ∈ lw_all := lw_g (lw_at lw_m8 154 rfl) rfl
theorem q1939 : (Jvm.Cond.selects "FrostRingModel" ({ cls := "FrostRingModel", name := "pump", desc := "()I" } : Jvm.MethodName) ({ cls := "FrostRingModel", name := "pump", desc := "()I" } : Jvm.MethodName)) ∈ lw_all := lw_g (lw_at lw_m8 155 rfl) rfl
theorem q1940 : (Jvm.Cond.code ({ cls := "FrostRingModel", name := "pump", desc := "()I" } : Jvm.MethodName) prog_16_method_79_code (1 : Nat) (Option.some Jvm.ClassFile.FieldType.int)) ∈ lw_all := lw_g (lw_at lw_m8 156 rfl) rfl
theorem q1942 : (Jvm.Cond.instanceMethod ({ cls := "FrostRingModel", name := "lift", desc := "(I)I" } : Jvm.MethodName)) ∈ lw_all := lw_g (lw_at lw_m8 158 rfl) rfl
theorem q1943 : (Jvm.Cond.selects "FrostRingModel" ({ cls := "FrostRingModel", name := "lift", desc := "(I)I" } : Jvm.MethodName) ({ cls := "FrostRingModel", name := "lift", desc := "(I)I" } : Jvm.MethodName)) ∈ lw_all := lw_g (lw_at lw_m8 159 rfl) rfl
theorem q1944 : (Jvm.Cond.code ({ cls := "FrostRingModel", name := "lift", desc := "(I)I" } : Jvm.MethodName) prog_16_method_80_code (2 : Nat) (Option.some Jvm.ClassFile.FieldType.int)) ∈ lw_all := lw_g (lw_at lw_m8 160 rfl) rfl
theorem q1946 : (Jvm.Cond.instanceMethod ({ cls := "FrostRingModel", name := "cracks", desc := "()I" } : Jvm.MethodName)) ∈ lw_all := lw_g (lw_at lw_m8 162 rfl) rfl
theorem q1947 : (Jvm.Cond.selects "FrostRingModel" ({ cls := "FrostRingModel", name := "cracks", desc := "()I" } : Jvm.MethodName) ({ cls := "FrostRingModel", name := "cracks", desc := "()I" } : Jvm.MethodName)) ∈ lw_all := lw_g (lw_at lw_m8 163 rfl) rfl
theorem q1948 : (Jvm.Cond.code ({ cls := "FrostRingModel", name := "cracks", desc := "()I" } : Jvm.MethodName) prog_16_method_81_code (3 : Nat) (Option.some Jvm.ClassFile.FieldType.int)) ∈ lw_all := lw_g (lw_at lw_m8 164 rfl) rfl
theorem q1950 : (Jvm.Cond.instanceMethod ({ cls := "FrostRingModel", name := "house", desc := "(II)I" } : Jvm.MethodName)) ∈ lw_all := lw_g (lw_at lw_m8 166 rfl) rfl
theorem q1951 : (Jvm.Cond.selects "FrostRingModel" ({ cls := "FrostRingModel", name := "house", desc := "(II)I" } : Jvm.MethodName) ({ cls := "FrostRingModel", name := "house", desc := "(II)I" } : Jvm.MethodName)) ∈ lw_all := lw_g (lw_at lw_m8 167 rfl) rfl
theorem q1952 : (Jvm.Cond.code ({ cls := "FrostRingModel", name := "house", desc := "(II)I" } : Jvm.MethodName) prog_16_method_82_code (3 : Nat) (Option.some Jvm.ClassFile.FieldType.int)) ∈ lw_all := lw_g (lw_at lw_m8 168 rfl) rfl
theorem q1954 : (Jvm.Cond.instanceMethod ({ cls := "FrostRingModel", name := "foretell", desc := "()I" } : Jvm.MethodName)) ∈ lw_all := lw_g (lw_at lw_m8 170 rfl) rfl
theorem q1955 : (Jvm.Cond.selects "FrostRingModel" ({ cls := "FrostRingModel", name := "foretell", desc := "()I" } : Jvm.MethodName) ({ cls := "FrostRingModel", name := "foretell", desc := "()I" } : Jvm.MethodName)) ∈ lw_all := lw_g (lw_at lw_m8 171 rfl) rfl
theorem q1956 : (Jvm.Cond.code ({ cls := "FrostRingModel", name := "foretell", desc := "()I" } : Jvm.MethodName) prog_16_method_83_code (3 : Nat) (Option.some Jvm.ClassFile.FieldType.int)) ∈ lw_all := lw_g (lw_at lw_m8 172 rfl) rfl
theorem q1957 : (Jvm.Cond.methodLink "FrostRingModel" (404 : Nat) ({ cls := "FrostRingModel", name := "saves", desc := "()V" } : Jvm.MethodName)) ∈ lw_all := lw_g (lw_at lw_m8 173 rfl) rfl
theorem q1958 : (Jvm.Cond.privateMethod ({ cls := "FrostRingModel", name := "saves", desc := "()V" } : Jvm.MethodName)) ∈ lw_tbl := lw_at lw_m8 174 rfl
theorem q1959 : (Jvm.Cond.instanceMethod ({ cls := "FrostRingModel", name := "saves", desc := "()V" } : Jvm.MethodName)) ∈ lw_all := lw_g (lw_at lw_m8 175 rfl) rfl
theorem q1960 : (Jvm.Cond.code ({ cls := "FrostRingModel", name := "saves", desc := "()V" } : Jvm.MethodName) prog_16_method_17_code (2 : Nat) (Option.none : Option Jvm.ClassFile.FieldType)) ∈ lw_all := lw_g (lw_at lw_m8 176 rfl) rfl
theorem q1961 : (Jvm.Cond.methodLink "FrostRingModel" (407 : Nat) ({ cls := "FrostRingModel", name := "putsBack", desc := "()V" } : Jvm.MethodName)) ∈ lw_all := lw_g (lw_at lw_m8 177 rfl) rfl
theorem q1962 : (Jvm.Cond.privateMethod ({ cls := "FrostRingModel", name := "putsBack", desc := "()V" } : Jvm.MethodName)) ∈ lw_tbl := lw_at lw_m8 178 rfl
theorem q1963 : (Jvm.Cond.instanceMethod ({ cls := "FrostRingModel", name := "putsBack", desc := "()V" } : Jvm.MethodName)) ∈ lw_all := lw_g (lw_at lw_m8 179 rfl) rfl
theorem q1964 : (Jvm.Cond.code ({ cls := "FrostRingModel", name := "putsBack", desc := "()V" } : Jvm.MethodName) prog_16_method_18_code (2 : Nat) (Option.none : Option Jvm.ClassFile.FieldType)) ∈ lw_all := lw_g (lw_at lw_m8 180 rfl) rfl
theorem q1966 : (Jvm.Cond.instanceMethod ({ cls := "FrostRingModel", name := "off", desc := "()I" } : Jvm.MethodName)) ∈ lw_all := lw_g (lw_at lw_m8 182 rfl) rfl
theorem q1967 : (Jvm.Cond.selects "FrostRingModel" ({ cls := "FrostRingModel", name := "off", desc := "()I" } : Jvm.MethodName) ({ cls := "FrostRingModel", name := "off", desc := "()I" } : Jvm.MethodName)) ∈ lw_all := lw_g (lw_at lw_m8 183 rfl) rfl
theorem q1968 : (Jvm.Cond.code ({ cls := "FrostRingModel", name := "off", desc := "()I" } : Jvm.MethodName) prog_16_method_84_code (3 : Nat) (Option.some Jvm.ClassFile.FieldType.int)) ∈ lw_all := lw_g (lw_at lw_m8 184 rfl) rfl
theorem q1970 : (Jvm.Cond.instanceMethod ({ cls := "FrostRingModel", name := "more", desc := "(II)I" } : Jvm.MethodName)) ∈ lw_all := lw_g (lw_at lw_m8 186 rfl) rfl
theorem q1971 : (Jvm.Cond.selects "FrostRingModel" ({ cls := "FrostRingModel", name := "more", desc := "(II)I" } : Jvm.MethodName) ({ cls := "FrostRingModel", name := "more", desc := "(II)I" } : Jvm.MethodName)) ∈ lw_all := lw_g (lw_at lw_m8 187 rfl) rfl
theorem q1972 : (Jvm.Cond.code ({ cls := "FrostRingModel", name := "more", desc := "(II)I" } : Jvm.MethodName) prog_16_method_89_code (6 : Nat) (Option.some Jvm.ClassFile.FieldType.int)) ∈ lw_all := lw_g (lw_at lw_m8 188 rfl) rfl
theorem q1973 : (Jvm.Cond.methodLink "FrostRingModel" (412 : Nat) ({ cls := "FrostRingModel", name := "isSlot", desc := "(I)Z" } : Jvm.MethodName)) ∈ lw_all := lw_g (lw_at lw_m8 189 rfl) rfl
theorem q1974 : (Jvm.Cond.static ({ cls := "FrostRingModel", name := "isSlot", desc := "(I)Z" } : Jvm.MethodName)) ∈ lw_all := lw_g (lw_at lw_m8 190 rfl) rfl
theorem q1975 : (Jvm.Cond.code ({ cls := "FrostRingModel", name := "isSlot", desc := "(I)Z" } : Jvm.MethodName) prog_16_method_96_code (1 : Nat) (Option.some Jvm.ClassFile.FieldType.boolean)) ∈ lw_all := lw_g (lw_at lw_m8 191 rfl) rfl
theorem q1976 : (Jvm.Cond.constantLong "FrostRingModel" (415 : Nat) (30 : Int64)) ∈ lw_all := lw_g (lw_at lw_m8 192 rfl) rfl
theorem q1977 : (Jvm.Cond.methodLink "FrostRingModel" (417 : Nat) ({ cls := "FrostRingModel", name := "mayTell", desc := "(I)Z" } : Jvm.MethodName)) ∈ lw_all := lw_g (lw_at lw_m8 193 rfl) rfl
theorem q1978 : (Jvm.Cond.privateMethod ({ cls := "FrostRingModel", name := "mayTell", desc := "(I)Z" } : Jvm.MethodName)) ∈ lw_tbl := lw_at lw_m8 194 rfl
theorem q1979 : (Jvm.Cond.instanceMethod ({ cls := "FrostRingModel", name := "mayTell", desc := "(I)Z" } : Jvm.MethodName)) ∈ lw_all := lw_g (lw_at lw_m8 195 rfl) rfl
theorem q1980 : (Jvm.Cond.code ({ cls := "FrostRingModel", name := "mayTell", desc := "(I)Z" } : Jvm.MethodName) prog_16_method_88_code (6 : Nat) (Option.some Jvm.ClassFile.FieldType.boolean)) ∈ lw_all := lw_g (lw_at lw_m8 196 rfl) rfl
theorem q1981 : (Jvm.Cond.constantLong "FrostRingModel" (410 : Nat) (143 : Int64)) ∈ lw_all := lw_g (lw_at lw_m8 197 rfl) rfl
theorem q1982 : (Jvm.Cond.methodLink "FrostRingModel" (420 : Nat) ({ cls := "FrostRingModel", name := "ones", desc := "(I)I" } : Jvm.MethodName)) ∈ lw_all := lw_g (lw_at lw_m8 198 rfl) rfl
theorem q1983 : (Jvm.Cond.static ({ cls := "FrostRingModel", name := "ones", desc := "(I)I" } : Jvm.MethodName)) ∈ lw_all := lw_g (lw_at lw_m8 199 rfl) rfl
theorem q1984 : (Jvm.Cond.code ({ cls := "FrostRingModel", name := "ones", desc := "(I)I" } : Jvm.MethodName) prog_16_method_86_code (3 : Nat) (Option.some Jvm.ClassFile.FieldType.int)) ∈ lw_all := lw_g (lw_at lw_m8 200 rfl) rfl
theorem q1985 : (Jvm.Cond.methodLink "FrostRingModel" (423 : Nat) ({ cls := "FrostRingModel", name := "isAhead", desc := "(II)Z" } : Jvm.MethodName)) ∈ lw_all := lw_g (lw_at lw_m8 201 rfl) rfl
theorem q1986 : (Jvm.Cond.static ({ cls := "FrostRingModel", name := "isAhead", desc := "(II)Z" } : Jvm.MethodName)) ∈ lw_all := lw_g (lw_at lw_m8 202 rfl) rfl
theorem q1987 : (Jvm.Cond.code ({ cls := "FrostRingModel", name := "isAhead", desc := "(II)Z" } : Jvm.MethodName) prog_16_method_87_code (3 : Nat) (Option.some Jvm.ClassFile.FieldType.boolean)) ∈ lw_all := lw_g (lw_at lw_m8 203 rfl) rfl
theorem q1988 : (Jvm.Cond.methodLink "FrostRingModel" (426 : Nat) ({ cls := "FrostRingModel", name := "shutsBy", desc := "(III)Z" } : Jvm.MethodName)) ∈ lw_all := lw_g (lw_at lw_m8 204 rfl) rfl
theorem q1989 : (Jvm.Cond.privateMethod ({ cls := "FrostRingModel", name := "shutsBy", desc := "(III)Z" } : Jvm.MethodName)) ∈ lw_tbl := lw_at lw_m8 205 rfl
theorem q1990 : (Jvm.Cond.instanceMethod ({ cls := "FrostRingModel", name := "shutsBy", desc := "(III)Z" } : Jvm.MethodName)) ∈ lw_all := lw_g (lw_at lw_m8 206 rfl) rfl
theorem q1991 : (Jvm.Cond.code ({ cls := "FrostRingModel", name := "shutsBy", desc := "(III)Z" } : Jvm.MethodName) prog_16_method_85_code (7 : Nat) (Option.some Jvm.ClassFile.FieldType.boolean)) ∈ lw_all := lw_g (lw_at lw_m8 207 rfl) rfl
theorem q1993 : (Jvm.Cond.instanceMethod ({ cls := "FrostRingModel", name := "chosen", desc := "()I" } : Jvm.MethodName)) ∈ lw_all := lw_g (lw_at lw_m8 209 rfl) rfl
theorem q1994 : (Jvm.Cond.selects "FrostRingModel" ({ cls := "FrostRingModel", name := "chosen", desc := "()I" } : Jvm.MethodName) ({ cls := "FrostRingModel", name := "chosen", desc := "()I" } : Jvm.MethodName)) ∈ lw_all := lw_g (lw_at lw_m8 210 rfl) rfl
theorem q1995 : (Jvm.Cond.code ({ cls := "FrostRingModel", name := "chosen", desc := "()I" } : Jvm.MethodName) prog_16_method_90_code (1 : Nat) (Option.some Jvm.ClassFile.FieldType.int)) ∈ lw_all := lw_g (lw_at lw_m8 211 rfl) rfl
theorem q1997 : (Jvm.Cond.instanceMethod ({ cls := "FrostRingModel", name := "gauge", desc := "(IIII)I" } : Jvm.MethodName)) ∈ lw_all := lw_g (lw_at lw_m8 213 rfl) rfl
theorem q1998 : (Jvm.Cond.selects "FrostRingModel" ({ cls := "FrostRingModel", name := "gauge", desc := "(IIII)I" } : Jvm.MethodName) ({ cls := "FrostRingModel", name := "gauge", desc := "(IIII)I" } : Jvm.MethodName)) ∈ lw_all := lw_g (lw_at lw_m8 214 rfl) rfl
theorem q1999 : (Jvm.Cond.code ({ cls := "FrostRingModel", name := "gauge", desc := "(IIII)I" } : Jvm.MethodName) prog_16_method_91_code (5 : Nat) (Option.some Jvm.ClassFile.FieldType.int)) ∈ lw_all := lw_g (lw_at lw_m8 215 rfl) rfl
theorem q2000 : (Jvm.Cond.constantLong "FrostRingModel" (433 : Nat) (9 : Int64)) ∈ lw_all := lw_g (lw_at lw_m8 216 rfl) rfl
theorem q2001 : (Jvm.Cond.constantLong "FrostRingModel" (435 : Nat) (-500 : Int64)) ∈ lw_all := lw_g (lw_at lw_m8 217 rfl) rfl
theorem q2002 : (Jvm.Cond.constantLong "FrostRingModel" (437 : Nat) (500 : Int64)) ∈ lw_all := lw_g (lw_at lw_m8 218 rfl) rfl
theorem q2004 : (Jvm.Cond.instanceMethod ({ cls := "FrostRingModel", name := "lies", desc := "(I)I" } : Jvm.MethodName)) ∈ lw_all := lw_g (lw_at lw_m8 220 rfl) rfl
theorem q2005 : (Jvm.Cond.selects "FrostRingModel" ({ cls := "FrostRingModel", name := "lies", desc := "(I)I" } : Jvm.MethodName) ({ cls := "FrostRingModel", name := "lies", desc := "(I)I" } : Jvm.MethodName)) ∈ lw_all := lw_g (lw_at lw_m8 221 rfl) rfl
theorem q2006 : (Jvm.Cond.code ({ cls := "FrostRingModel", name := "lies", desc := "(I)I" } : Jvm.MethodName) prog_16_method_92_code (5 : Nat) (Option.some Jvm.ClassFile.FieldType.int)) ∈ lw_all := lw_g (lw_at lw_m8 222 rfl) rfl
theorem q2007 : (Jvm.Cond.constantLong "FrostRingModel" (439 : Nat) (99 : Int64)) ∈ lw_all := lw_g (lw_at lw_m8 223 rfl) rfl
theorem q2009 : (Jvm.Cond.instanceMethod ({ cls := "FrostRingModel", name := "most", desc := "(I)I" } : Jvm.MethodName)) ∈ lw_all := lw_g (lw_at lw_m8 225 rfl) rfl
theorem q2010 : (Jvm.Cond.selects "FrostRingModel" ({ cls := "FrostRingModel", name := "most", desc := "(I)I" } : Jvm.MethodName) ({ cls := "FrostRingModel", name := "most", desc := "(I)I" } : Jvm.MethodName)) ∈ lw_all := lw_g (lw_at lw_m8 226 rfl) rfl
theorem q2011 : (Jvm.Cond.code ({ cls := "FrostRingModel", name := "most", desc := "(I)I" } : Jvm.MethodName) prog_16_method_93_code (4 : Nat) (Option.some Jvm.ClassFile.FieldType.int)) ∈ lw_all := lw_g (lw_at lw_m8 227 rfl) rfl
theorem q2013 : (Jvm.Cond.instanceMethod ({ cls := "FrostRingModel", name := "frost", desc := "(I)I" } : Jvm.MethodName)) ∈ lw_all := lw_g (lw_at lw_m8 229 rfl) rfl
theorem q2014 : (Jvm.Cond.selects "FrostRingModel" ({ cls := "FrostRingModel", name := "frost", desc := "(I)I" } : Jvm.MethodName) ({ cls := "FrostRingModel", name := "frost", desc := "(I)I" } : Jvm.MethodName)) ∈ lw_all := lw_g (lw_at lw_m8 230 rfl) rfl
theorem q2015 : (Jvm.Cond.code ({ cls := "FrostRingModel", name := "frost", desc := "(I)I" } : Jvm.MethodName) prog_16_method_94_code (4 : Nat) (Option.some Jvm.ClassFile.FieldType.int)) ∈ lw_all := lw_g (lw_at lw_m8 231 rfl) rfl
theorem q2017 : (Jvm.Cond.instanceMethod ({ cls := "FrostRingModel", name := "count", desc := "(I)I" } : Jvm.MethodName)) ∈ lw_all := lw_g (lw_at lw_m8 233 rfl) rfl
theorem q2018 : (Jvm.Cond.selects "FrostRingModel" ({ cls := "FrostRingModel", name := "count", desc := "(I)I" } : Jvm.MethodName) ({ cls := "FrostRingModel", name := "count", desc := "(I)I" } : Jvm.MethodName)) ∈ lw_all := lw_g (lw_at lw_m8 234 rfl) rfl
theorem q2019 : (Jvm.Cond.code ({ cls := "FrostRingModel", name := "count", desc := "(I)I" } : Jvm.MethodName) prog_16_method_95_code (4 : Nat) (Option.some Jvm.ClassFile.FieldType.int)) ∈ lw_all := lw_g (lw_at lw_m8 235 rfl) rfl
theorem q2021 : (Jvm.Cond.instanceMethod ({ cls := "FrostRingModel", name := "row", desc := "(III)I" } : Jvm.MethodName)) ∈ lw_all := lw_g (lw_at lw_m8 237 rfl) rfl
theorem q2022 : (Jvm.Cond.selects "FrostRingModel" ({ cls := "FrostRingModel", name := "row", desc := "(III)I" } : Jvm.MethodName) ({ cls := "FrostRingModel", name := "row", desc := "(III)I" } : Jvm.MethodName)) ∈ lw_all := lw_g (lw_at lw_m8 238 rfl) rfl
theorem q2023 : (Jvm.Cond.code ({ cls := "FrostRingModel", name := "row", desc := "(III)I" } : Jvm.MethodName) prog_16_method_98_code (5 : Nat) (Option.some Jvm.ClassFile.FieldType.int)) ∈ lw_all := lw_g (lw_at lw_m8 239 rfl) rfl
theorem q2025 : (Jvm.Cond.instanceMethod ({ cls := "FrostRingModel", name := "write", desc := "(IIJ)I" } : Jvm.MethodName)) ∈ lw_all := lw_g (lw_at lw_m9 1 rfl) rfl
theorem q2026 : (Jvm.Cond.selects "FrostRingModel" ({ cls := "FrostRingModel", name := "write", desc := "(IIJ)I" } : Jvm.MethodName) ({ cls := "FrostRingModel", name := "write", desc := "(IIJ)I" } : Jvm.MethodName)) ∈ lw_all := lw_g (lw_at lw_m9 2 rfl) rfl
theorem q2027 : (Jvm.Cond.code ({ cls := "FrostRingModel", name := "write", desc := "(IIJ)I" } : Jvm.MethodName) prog_16_method_99_code (5 : Nat) (Option.some Jvm.ClassFile.FieldType.int)) ∈ lw_all := lw_g (lw_at lw_m9 3 rfl) rfl
theorem q2028 : (Jvm.Cond.methodLink "FrostRingModel" (441 : Nat) ({ cls := "FrostRingModel", name := "cut", desc := "(JI)J" } : Jvm.MethodName)) ∈ lw_all := lw_g (lw_at lw_m9 4 rfl) rfl
theorem q2029 : (Jvm.Cond.static ({ cls := "FrostRingModel", name := "cut", desc := "(JI)J" } : Jvm.MethodName)) ∈ lw_all := lw_g (lw_at lw_m9 5 rfl) rfl
theorem q2030 : (Jvm.Cond.code ({ cls := "FrostRingModel", name := "cut", desc := "(JI)J" } : Jvm.MethodName) prog_16_method_97_code (4 : Nat) (Option.some Jvm.ClassFile.FieldType.long)) ∈ lw_all := lw_g (lw_at lw_m9 6 rfl) rfl
theorem q2032 : (Jvm.Cond.instanceMethod ({ cls := "FrostRingModel", name := "paste", desc := "(IIIII)I" } : Jvm.MethodName)) ∈ lw_all := lw_g (lw_at lw_m9 8 rfl) rfl
theorem q2033 : (Jvm.Cond.selects "FrostRingModel" ({ cls := "FrostRingModel", name := "paste", desc := "(IIIII)I" } : Jvm.MethodName) ({ cls := "FrostRingModel", name := "paste", desc := "(IIIII)I" } : Jvm.MethodName)) ∈ lw_all := lw_g (lw_at lw_m9 9 rfl) rfl
theorem q2034 : (Jvm.Cond.code ({ cls := "FrostRingModel", name := "paste", desc := "(IIIII)I" } : Jvm.MethodName) prog_16_method_100_code (7 : Nat) (Option.some Jvm.ClassFile.FieldType.int)) ∈ lw_all := lw_g (lw_at lw_m9 10 rfl) rfl
theorem q2048 : (Jvm.Cond.castable "FrostRingModel" "java/lang/Object") ∈ lw_tbl := lw_at lw_m9 24 rfl
theorem in_X8 : ∀ w ∈ wsX80, w ∈ lw_all := lw_in wsX80 [1539, 1541, 1543, 1545, 1547, 1549, 1551, 1553, 1555, 1557, 1559, 1561, 1563, 1565, 1567, 1569, 1571, 1573, 1575, 1577, 1579, 1581, 1583, 1585, 1587, 1589, 1591, 1593, 1595, 1597, 1599, 1601, 1603, 1605, 1607, 1609, 1611, 1613, 1615, 1617] (by decide +kernel) (by decide +kernel)
