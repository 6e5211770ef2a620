/-! FrostRing$Ground -/
set_option maxRecDepth 100000
def RX4 : String := "FrostRing$Ground"
def TX4 : u_T := fun k => match k with
  | 0 => ("FrostRing$Ground", "lead", "I", true)
  | 1 => ("FrostRing$Ground", "ice", "I", true)
  | 2 => ("FrostRing$Ground", "latent", "I", true)
  | _ => ("FrostRing$Ground", "mark", "I", true)
def tyX4 : Nat → FieldType := fun k => match k with
  | 0 => .int
  | 1 => .int
  | 2 => .int
  | _ => .int
abbrev wsX40 : List Cond := u_ws RX4 TX4 4
theorem nmX4 : ∀ a, a < 4 → ∀ b, b < 4 → a ≠ b → (TX4 a).2.1 ≠ (TX4 b).2.1 := by decide +kernel
theorem tyX4_ok : ∀ k, k < 4 → parseFieldDescriptor (TX4 k).2.2.1 = some (tyX4 k) := by decide +kernel
abbrev cX4_init : ByteArray := prog_5_method_1_code
def yX4_init : MethodName := ⟨RX4, "<init>", "(IIII)V"⟩
def dkwX4_init_1 : List UInt8 := [181, 0, 19, 177]
abbrev dktX4_init_1 : List UInt8 := dkwX4_init_1 ++ []
def dkwX4_init_0 : List UInt8 := [42, 183, 0, 1, 42, 27, 181, 0, 7, 42, 28, 181, 0, 13, 42, 29, 181, 0, 16, 42, 21, 4]
abbrev dktX4_init_0 : List UInt8 := dkwX4_init_0 ++ dktX4_init_1
theorem dksX4_init_0 : cX4_init.data.toList.drop 0 = dktX4_init_0 := by decide +kernel
theorem dksX4_init_1 : cX4_init.data.toList.drop 22 = dktX4_init_1 := dk_seg dksX4_init_0 22 rfl rfl
theorem dX4_init_0 : decode cX4_init 0 = .ok (.aload_n 0, 1) := dk_42 (dk_at dksX4_init_0 0 rfl rfl)
theorem dX4_init_1 : decode cX4_init 1 = .ok (.invokespecial 1, 3) := dk_183 0 1 (dk_at dksX4_init_0 1 rfl rfl)
theorem dX4_init_4 : decode cX4_init 4 = .ok (.aload_n 0, 1) := dk_42 (dk_at dksX4_init_0 4 rfl rfl)
theorem dX4_init_5 : decode cX4_init 5 = .ok (.iload_n 1, 1) := dk_27 (dk_at dksX4_init_0 5 rfl rfl)
theorem dX4_init_6 : decode cX4_init 6 = .ok (.putfield 7, 3) := dk_181 0 7 (dk_at dksX4_init_0 6 rfl rfl)
theorem dX4_init_9 : decode cX4_init 9 = .ok (.aload_n 0, 1) := dk_42 (dk_at dksX4_init_0 9 rfl rfl)
theorem dX4_init_10 : decode cX4_init 10 = .ok (.iload_n 2, 1) := dk_28 (dk_at dksX4_init_0 10 rfl rfl)
theorem dX4_init_11 : decode cX4_init 11 = .ok (.putfield 13, 3) := dk_181 0 13 (dk_at dksX4_init_0 11 rfl rfl)
theorem dX4_init_14 : decode cX4_init 14 = .ok (.aload_n 0, 1) := dk_42 (dk_at dksX4_init_0 14 rfl rfl)
theorem dX4_init_15 : decode cX4_init 15 = .ok (.iload_n 3, 1) := dk_29 (dk_at dksX4_init_0 15 rfl rfl)
theorem dX4_init_16 : decode cX4_init 16 = .ok (.putfield 16, 3) := dk_181 0 16 (dk_at dksX4_init_0 16 rfl rfl)
theorem dX4_init_19 : decode cX4_init 19 = .ok (.aload_n 0, 1) := dk_42 (dk_at dksX4_init_0 19 rfl rfl)
theorem dX4_init_20 : decode cX4_init 20 = .ok (.iload 4, 2) := dk_21 4 (dk_at dksX4_init_0 20 rfl rfl)
theorem dX4_init_22 : decode cX4_init 22 = .ok (.putfield 19, 3) := dk_181 0 19 (dk_at dksX4_init_1 0 rfl rfl)
theorem dX4_init_25 : decode cX4_init 25 = .ok (.return_, 1) := dk_177 (dk_at dksX4_init_1 3 rfl rfl)
theorem q112 : (Jvm.Cond.initialized "FrostRing$Ground") ∈ lw_all := lw_g (lw_at lw_m1 8 rfl) rfl
theorem q454 : (Jvm.Cond.instantiable "FrostRing$Ground" (4 : Nat)) ∈ lw_all := lw_g (lw_at lw_m2 110 rfl) rfl
theorem q456 : (Jvm.Cond.instanceMethod ({ cls := "FrostRing$Ground", name := "<init>", desc := "(IIII)V" } : Jvm.MethodName)) ∈ lw_all := lw_g (lw_at lw_m2 112 rfl) rfl
theorem q457 : (Jvm.Cond.code ({ cls := "FrostRing$Ground", name := "<init>", desc := "(IIII)V" } : Jvm.MethodName) prog_5_method_1_code (5 : Nat) (Option.none : Option Jvm.ClassFile.FieldType)) ∈ lw_all := lw_g (lw_at lw_m2 113 rfl) rfl
theorem q458 : (Jvm.Cond.methodLink "FrostRing$Ground" (1 : Nat) ({ cls := "java/lang/Object", name := "<init>", desc := "()V" } : Jvm.MethodName)) ∈ lw_all := lw_g (lw_at lw_m2 114 rfl) rfl
theorem q459 : (Jvm.Cond.fieldLink "FrostRing$Ground" (7 : Nat) "FrostRing$Ground" "lead" "I") ∈ lw_all := lw_g (lw_at lw_m2 115 rfl) rfl
theorem q461 : (Jvm.Cond.fieldLink "FrostRing$Ground" (13 : Nat) "FrostRing$Ground" "ice" "I") ∈ lw_all := lw_g (lw_at lw_m2 117 rfl) rfl
theorem q463 : (Jvm.Cond.fieldLink "FrostRing$Ground" (16 : Nat) "FrostRing$Ground" "latent" "I") ∈ lw_all := lw_g (lw_at lw_m2 119 rfl) rfl
theorem q465 : (Jvm.Cond.fieldLink "FrostRing$Ground" (19 : Nat) "FrostRing$Ground" "mark" "I") ∈ lw_all := lw_g (lw_at lw_m2 121 rfl) rfl
theorem q467 : (Jvm.Cond.laysFinal "FrostRing$Ground" "FrostRing$Ground" "lead" "I") ∈ lw_all := lw_g (lw_at lw_m2 123 rfl) rfl
theorem q468 : (Jvm.Cond.soleField "FrostRing$Ground" "lead") ∈ lw_all := lw_g (lw_at lw_m2 124 rfl) rfl
theorem q469 : (Jvm.Cond.laysFinal "FrostRing$Ground" "FrostRing$Ground" "ice" "I") ∈ lw_all := lw_g (lw_at lw_m2 125 rfl) rfl
theorem q470 : (Jvm.Cond.soleField "FrostRing$Ground" "ice") ∈ lw_all := lw_g (lw_at lw_m2 126 rfl) rfl
theorem q471 : (Jvm.Cond.laysFinal "FrostRing$Ground" "FrostRing$Ground" "latent" "I") ∈ lw_all := lw_g (lw_at lw_m2 127 rfl) rfl
theorem q472 : (Jvm.Cond.soleField "FrostRing$Ground" "latent") ∈ lw_all := lw_g (lw_at lw_m2 128 rfl) rfl
theorem q473 : (Jvm.Cond.laysFinal "FrostRing$Ground" "FrostRing$Ground" "mark" "I") ∈ lw_all := lw_g (lw_at lw_m2 129 rfl) rfl
theorem q474 : (Jvm.Cond.soleField "FrostRing$Ground" "mark") ∈ lw_all := lw_g (lw_at lw_m2 130 rfl) rfl
theorem q475 : (Jvm.Cond.superclass "FrostRing$Ground" "java/lang/Object") ∈ lw_all := lw_g (lw_at lw_m2 131 rfl) rfl
theorem q610 : (Jvm.Cond.selects "FrostRing$Ground" ({ cls := "java/lang/Object", name := "getClass", desc := "()Ljava/lang/Class;" } : Jvm.MethodName) ({ cls := "java/lang/Object", name := "getClass", desc := "()Ljava/lang/Class;" } : Jvm.MethodName)) ∈ lw_all := lw_g (lw_at lw_m3 26 rfl) rfl
theorem q2039 : (Jvm.Cond.castable "FrostRing$Ground" "java/lang/Object") ∈ lw_tbl := lw_at lw_m9 15 rfl
theorem in_X4 : ∀ w ∈ wsX40, w ∈ lw_all := lw_in wsX40 [467, 469, 471, 473] (by decide +kernel) (by decide +kernel)
/-! FrostRing$Pipe -/
set_option maxRecDepth 100000
def RX5 : String := "FrostRing$Pipe"
def TX5 : u_T := fun k => match k with
  | 0 => ("FrostRing$Pipe", "cell", "I", true)
  | 1 => ("FrostRing$Pipe", "through", "I", true)
  | 2 => ("FrostRing$Pipe", "lead", "I", true)
  | 3 => ("FrostRing$Pipe", "runs", "Z", false)
  | 4 => ("FrostRing$Pipe", "took", "I", false)
  | _ => ("FrostRing$Pipe", "all", "I", false)
def tyX5 : Nat → FieldType := fun k => match k with
  | 0 => .int
  | 1 => .int
  | 2 => .int
  | 3 => .boolean
  | 4 => .int
  | _ => .int
abbrev wsX50 : List Cond := u_ws RX5 TX5 6
theorem nmX5 : ∀ a, a < 6 → ∀ b, b < 6 → a ≠ b → (TX5 a).2.1 ≠ (TX5 b).2.1 := by decide +kernel
theorem tyX5_ok : ∀ k, k < 6 → parseFieldDescriptor (TX5 k).2.2.1 = some (tyX5 k) := by decide +kernel
abbrev cX5_copy : ByteArray := prog_8_method_2_code
def yX5_copy : MethodName := ⟨RX5, "copy", "()LFrostRing$Pipe;"⟩
def dkwX5_copy_1 : List UInt8 := [180, 0, 7, 181, 0, 7, 43, 42, 180, 0, 26, 181, 0, 26, 43, 42, 180, 0, 29, 181, 0, 29, 43, 176]
abbrev dktX5_copy_1 : List UInt8 := dkwX5_copy_1 ++ []
def dkwX5_copy_0 : List UInt8 := [187, 0, 8, 89, 42, 180, 0, 13, 42, 180, 0, 17, 42, 180, 0, 20, 183, 0, 23, 76, 43, 42]
abbrev dktX5_copy_0 : List UInt8 := dkwX5_copy_0 ++ dktX5_copy_1
theorem dksX5_copy_0 : cX5_copy.data.toList.drop 0 = dktX5_copy_0 := by decide +kernel
theorem dksX5_copy_1 : cX5_copy.data.toList.drop 22 = dktX5_copy_1 := dk_seg dksX5_copy_0 22 rfl rfl
theorem dX5_copy_0 : decode cX5_copy 0 = .ok (.new 8, 3) := dk_187 0 8 (dk_at dksX5_copy_0 0 rfl rfl)
theorem dX5_copy_3 : decode cX5_copy 3 = .ok (.dup, 1) := dk_89 (dk_at dksX5_copy_0 3 rfl rfl)
theorem dX5_copy_4 : decode cX5_copy 4 = .ok (.aload_n 0, 1) := dk_42 (dk_at dksX5_copy_0 4 rfl rfl)
theorem dX5_copy_5 : decode cX5_copy 5 = .ok (.getfield 13, 3) := dk_180 0 13 (dk_at dksX5_copy_0 5 rfl rfl)
theorem dX5_copy_8 : decode cX5_copy 8 = .ok (.aload_n 0, 1) := dk_42 (dk_at dksX5_copy_0 8 rfl rfl)
theorem dX5_copy_9 : decode cX5_copy 9 = .ok (.getfield 17, 3) := dk_180 0 17 (dk_at dksX5_copy_0 9 rfl rfl)
theorem dX5_copy_12 : decode cX5_copy 12 = .ok (.aload_n 0, 1) := dk_42 (dk_at dksX5_copy_0 12 rfl rfl)
theorem dX5_copy_13 : decode cX5_copy 13 = .ok (.getfield 20, 3) := dk_180 0 20 (dk_at dksX5_copy_0 13 rfl rfl)
theorem dX5_copy_16 : decode cX5_copy 16 = .ok (.invokespecial 23, 3) := dk_183 0 23 (dk_at dksX5_copy_0 16 rfl rfl)
theorem dX5_copy_19 : decode cX5_copy 19 = .ok (.astore_n 1, 1) := dk_76 (dk_at dksX5_copy_0 19 rfl rfl)
theorem dX5_copy_20 : decode cX5_copy 20 = .ok (.aload_n 1, 1) := dk_43 (dk_at dksX5_copy_0 20 rfl rfl)
theorem dX5_copy_21 : decode cX5_copy 21 = .ok (.aload_n 0, 1) := dk_42 (dk_at dksX5_copy_0 21 rfl rfl)
theorem dX5_copy_22 : decode cX5_copy 22 = .ok (.getfield 7, 3) := dk_180 0 7 (dk_at dksX5_copy_1 0 rfl rfl)
theorem dX5_copy_25 : decode cX5_copy 25 = .ok (.putfield 7, 3) := dk_181 0 7 (dk_at dksX5_copy_1 3 rfl rfl)
theorem dX5_copy_28 : decode cX5_copy 28 = .ok (.aload_n 1, 1) := dk_43 (dk_at dksX5_copy_1 6 rfl rfl)
theorem dX5_copy_29 : decode cX5_copy 29 = .ok (.aload_n 0, 1) := dk_42 (dk_at dksX5_copy_1 7 rfl rfl)
theorem dX5_copy_30 : decode cX5_copy 30 = .ok (.getfield 26, 3) := dk_180 0 26 (dk_at dksX5_copy_1 8 rfl rfl)
theorem dX5_copy_33 : decode cX5_copy 33 = .ok (.putfield 26, 3) := dk_181 0 26 (dk_at dksX5_copy_1 11 rfl rfl)
theorem dX5_copy_36 : decode cX5_copy 36 = .ok (.aload_n 1, 1) := dk_43 (dk_at dksX5_copy_1 14 rfl rfl)
theorem dX5_copy_37 : decode cX5_copy 37 = .ok (.aload_n 0, 1) := dk_42 (dk_at dksX5_copy_1 15 rfl rfl)
theorem dX5_copy_38 : decode cX5_copy 38 = .ok (.getfield 29, 3) := dk_180 0 29 (dk_at dksX5_copy_1 16 rfl rfl)
theorem dX5_copy_41 : decode cX5_copy 41 = .ok (.putfield 29, 3) := dk_181 0 29 (dk_at dksX5_copy_1 19 rfl rfl)
theorem dX5_copy_44 : decode cX5_copy 44 = .ok (.aload_n 1, 1) := dk_43 (dk_at dksX5_copy_1 22 rfl rfl)
theorem dX5_copy_45 : decode cX5_copy 45 = .ok (.areturn, 1) := dk_176 (dk_at dksX5_copy_1 23 rfl rfl)
abbrev cX5_init : ByteArray := prog_8_method_1_code
def yX5_init : MethodName := ⟨RX5, "<init>", "(III)V"⟩
def dkwX5_init_1 : List UInt8 := [177]
abbrev dktX5_init_1 : List UInt8 := dkwX5_init_1 ++ []
def dkwX5_init_0 : List UInt8 := [42, 183, 0, 1, 42, 4, 181, 0, 7, 42, 27, 181, 0, 13, 42, 28, 181, 0, 17, 42, 29, 181, 0, 20]
abbrev dktX5_init_0 : List UInt8 := dkwX5_init_0 ++ dktX5_init_1
theorem dksX5_init_0 : cX5_init.data.toList.drop 0 = dktX5_init_0 := by decide +kernel
theorem dksX5_init_1 : cX5_init.data.toList.drop 24 = dktX5_init_1 := dk_seg dksX5_init_0 24 rfl rfl
theorem dX5_init_0 : decode cX5_init 0 = .ok (.aload_n 0, 1) := dk_42 (dk_at dksX5_init_0 0 rfl rfl)
theorem dX5_init_1 : decode cX5_init 1 = .ok (.invokespecial 1, 3) := dk_183 0 1 (dk_at dksX5_init_0 1 rfl rfl)
theorem dX5_init_4 : decode cX5_init 4 = .ok (.aload_n 0, 1) := dk_42 (dk_at dksX5_init_0 4 rfl rfl)
theorem dX5_init_5 : decode cX5_init 5 = .ok (.iconst 1, 1) := dk_4 (dk_at dksX5_init_0 5 rfl rfl)
theorem dX5_init_6 : decode cX5_init 6 = .ok (.putfield 7, 3) := dk_181 0 7 (dk_at dksX5_init_0 6 rfl rfl)
theorem dX5_init_9 : decode cX5_init 9 = .ok (.aload_n 0, 1) := dk_42 (dk_at dksX5_init_0 9 rfl rfl)
theorem dX5_init_10 : decode cX5_init 10 = .ok (.iload_n 1, 1) := dk_27 (dk_at dksX5_init_0 10 rfl rfl)
theorem dX5_init_11 : decode cX5_init 11 = .ok (.putfield 13, 3) := dk_181 0 13 (dk_at dksX5_init_0 11 rfl rfl)
theorem dX5_init_14 : decode cX5_init 14 = .ok (.aload_n 0, 1) := dk_42 (dk_at dksX5_init_0 14 rfl rfl)
theorem dX5_init_15 : decode cX5_init 15 = .ok (.iload_n 2, 1) := dk_28 (dk_at dksX5_init_0 15 rfl rfl)
theorem dX5_init_16 : decode cX5_init 16 = .ok (.putfield 17, 3) := dk_181 0 17 (dk_at dksX5_init_0 16 rfl rfl)
theorem dX5_init_19 : decode cX5_init 19 = .ok (.aload_n 0, 1) := dk_42 (dk_at dksX5_init_0 19 rfl rfl)
theorem dX5_init_20 : decode cX5_init 20 = .ok (.iload_n 3, 1) := dk_29 (dk_at dksX5_init_0 20 rfl rfl)
theorem dX5_init_21 : decode cX5_init 21 = .ok (.putfield 20, 3) := dk_181 0 20 (dk_at dksX5_init_0 21 rfl rfl)
theorem dX5_init_24 : decode cX5_init 24 = .ok (.return_, 1) := dk_177 (dk_at dksX5_init_1 0 rfl rfl)
theorem q115 : (Jvm.Cond.initialized "FrostRing$Pipe") ∈ lw_all := lw_g (lw_at lw_m1 11 rfl) rfl
theorem q526 : (Jvm.Cond.instanceMethod ({ cls := "FrostRing$Pipe", name := "copy", desc := "()LFrostRing$Pipe;" } : Jvm.MethodName)) ∈ lw_all := lw_g (lw_at lw_m2 182 rfl) rfl
theorem q527 : (Jvm.Cond.selects "FrostRing$Pipe" ({ cls := "FrostRing$Pipe", name := "copy", desc := "()LFrostRing$Pipe;" } : Jvm.MethodName) ({ cls := "FrostRing$Pipe", name := "copy", desc := "()LFrostRing$Pipe;" } : Jvm.MethodName)) ∈ lw_all := lw_g (lw_at lw_m2 183 rfl) rfl
theorem q528 : (Jvm.Cond.code ({ cls := "FrostRing$Pipe", name := "copy", desc := "()LFrostRing$Pipe;" } : Jvm.MethodName) prog_8_method_2_code (2 : Nat) (Option.some (Jvm.ClassFile.FieldType.object "FrostRing$Pipe"))) ∈ lw_all := lw_g (lw_at lw_m2 184 rfl) rfl
theorem q529 : (Jvm.Cond.classLink "FrostRing$Pipe" (8 : Nat) "FrostRing$Pipe") ∈ lw_all := lw_g (lw_at lw_m2 185 rfl) rfl
theorem q530 : (Jvm.Cond.instantiable "FrostRing$Pipe" (6 : Nat)) ∈ lw_all := lw_g (lw_at lw_m2 186 rfl) rfl
theorem q531 : (Jvm.Cond.methodLink "FrostRing$Pipe" (23 : Nat) ({ cls := "FrostRing$Pipe", name := "<init>", desc := "(III)V" } : Jvm.MethodName)) ∈ lw_all := lw_g (lw_at lw_m2 187 rfl) rfl
theorem q532 : (Jvm.Cond.instanceMethod ({ cls := "FrostRing$Pipe", name := "<init>", desc := "(III)V" } : Jvm.MethodName)) ∈ lw_all := lw_g (lw_at lw_m2 188 rfl) rfl
theorem q533 : (Jvm.Cond.code ({ cls := "FrostRing$Pipe", name := "<init>", desc := "(III)V" } : Jvm.MethodName) prog_8_method_1_code (4 : Nat) (Option.none : Option Jvm.ClassFile.FieldType)) ∈ lw_all := lw_g (lw_at lw_m2 189 rfl) rfl
theorem q534 : (Jvm.Cond.methodLink "FrostRing$Pipe" (1 : Nat) ({ cls := "java/lang/Object", name := "<init>", desc := "()V" } : Jvm.MethodName)) ∈ lw_all := lw_g (lw_at lw_m2 190 rfl) rfl
theorem q535 : (Jvm.Cond.fieldLink "FrostRing$Pipe" (13 : Nat) "FrostRing$Pipe" "cell" "I") ∈ lw_all := lw_g (lw_at lw_m2 191 rfl) rfl
theorem q539 : (Jvm.Cond.fieldLink "FrostRing$Pipe" (17 : Nat) "FrostRing$Pipe" "through" "I") ∈ lw_all := lw_g (lw_at lw_m2 195 rfl) rfl
theorem q542 : (Jvm.Cond.fieldLink "FrostRing$Pipe" (20 : Nat) "FrostRing$Pipe" "lead" "I") ∈ lw_all := lw_g (lw_at lw_m2 198 rfl) rfl
theorem q545 : (Jvm.Cond.fieldLink "FrostRing$Pipe" (7 : Nat) "FrostRing$Pipe" "runs" "Z") ∈ lw_all := lw_g (lw_at lw_m2 201 rfl) rfl
theorem q548 : (Jvm.Cond.fieldLink "FrostRing$Pipe" (26 : Nat) "FrostRing$Pipe" "took" "I") ∈ lw_all := lw_g (lw_at lw_m2 204 rfl) rfl
theorem q551 : (Jvm.Cond.fieldLink "FrostRing$Pipe" (29 : Nat) "FrostRing$Pipe" "all" "I") ∈ lw_all := lw_g (lw_at lw_m2 207 rfl) rfl
theorem q554 : (Jvm.Cond.laysFinal "FrostRing$Pipe" "FrostRing$Pipe" "cell" "I") ∈ lw_all := lw_g (lw_at lw_m2 210 rfl) rfl
theorem q555 : (Jvm.Cond.soleField "FrostRing$Pipe" "cell") ∈ lw_all := lw_g (lw_at lw_m2 211 rfl) rfl
theorem q556 : (Jvm.Cond.laysFinal "FrostRing$Pipe" "FrostRing$Pipe" "through" "I") ∈ lw_all := lw_g (lw_at lw_m2 212 rfl) rfl
theorem q557 : (Jvm.Cond.soleField "FrostRing$Pipe" "through") ∈ lw_all := lw_g (lw_at lw_m2 213 rfl) rfl
theorem q558 : (Jvm.Cond.laysFinal "FrostRing$Pipe" "FrostRing$Pipe" "lead" "I") ∈ lw_all := lw_g (lw_at lw_m2 214 rfl) rfl
theorem q559 : (Jvm.Cond.soleField "FrostRing$Pipe" "lead") ∈ lw_all := lw_g (lw_at lw_m2 215 rfl) rfl
theorem q560 : (Jvm.Cond.lays "FrostRing$Pipe" "FrostRing$Pipe" "runs" "Z") ∈ lw_all := lw_g (lw_at lw_m2 216 rfl) rfl
theorem q561 : (Jvm.Cond.soleField "FrostRing$Pipe" "runs") ∈ lw_all := lw_g (lw_at lw_m2 217 rfl) rfl
theorem q562 : (Jvm.Cond.lays "FrostRing$Pipe" "FrostRing$Pipe" "took" "I") ∈ lw_all := lw_g (lw_at lw_m2 218 rfl) rfl
theorem q563 : (Jvm.Cond.soleField "FrostRing$Pipe" "took") ∈ lw_all := lw_g (lw_at lw_m2 219 rfl) rfl
theorem q564 : (Jvm.Cond.lays "FrostRing$Pipe" "FrostRing$Pipe" "all" "I") ∈ lw_all := lw_g (lw_at lw_m2 220 rfl) rfl
theorem q565 : (Jvm.Cond.soleField "FrostRing$Pipe" "all") ∈ lw_all := lw_g (lw_at lw_m2 221 rfl) rfl
theorem q566 : (Jvm.Cond.superclass "FrostRing$Pipe" "java/lang/Object") ∈ lw_all := lw_g (lw_at lw_m2 222 rfl) rfl
theorem q613 : (Jvm.Cond.selects "FrostRing$Pipe" ({ cls := "java/lang/Object", name := "getClass", desc := "()Ljava/lang/Class;" } : Jvm.MethodName) ({ cls := "java/lang/Object", name := "getClass", desc := "()Ljava/lang/Class;" } : Jvm.MethodName)) ∈ lw_all := lw_g (lw_at lw_m3 29 rfl) rfl
theorem q2046 : (Jvm.Cond.castable "FrostRing$Pipe" "java/lang/Object") ∈ lw_tbl := lw_at lw_m9 22 rfl
theorem in_X5 : ∀ w ∈ wsX50, w ∈ lw_all := lw_in wsX50 [554, 556, 558, 560, 562, 564] (by decide +kernel) (by decide +kernel)
/-! FrostRing$House -/
set_option maxRecDepth 100000
def RX6 : String := "FrostRing$House"
def TX6 : u_T := fun k => match k with
  | 0 => ("FrostRing$House", "column", "I", true)
  | 1 => ("FrostRing$House", "limit", "I", true)
  | _ => ("FrostRing$House", "cracked", "I", false)
def tyX6 : Nat → FieldType := fun k => match k with
  | 0 => .int
  | 1 => .int
  | _ => .int
abbrev wsX60 : List Cond := u_ws RX6 TX6 3
theorem nmX6 : ∀ a, a < 3 → ∀ b, b < 3 → a ≠ b → (TX6 a).2.1 ≠ (TX6 b).2.1 := by decide +kernel
theorem tyX6_ok : ∀ k, k < 3 → parseFieldDescriptor (TX6 k).2.2.1 = some (tyX6 k) := by decide +kernel
abbrev cX6_copy : ByteArray := prog_6_method_2_code
def yX6_copy : MethodName := ⟨RX6, "copy", "()LFrostRing$House;"⟩
def dkwX6_copy_1 : List UInt8 := [43, 176]
abbrev dktX6_copy_1 : List UInt8 := dkwX6_copy_1 ++ []
def dkwX6_copy_0 : List UInt8 := [187, 0, 10, 89, 42, 180, 0, 15, 42, 180, 0, 18, 183, 0, 21, 76, 43, 42, 180, 0, 9, 181, 0, 9]
abbrev dktX6_copy_0 : List UInt8 := dkwX6_copy_0 ++ dktX6_copy_1
theorem dksX6_copy_0 : cX6_copy.data.toList.drop 0 = dktX6_copy_0 := by decide +kernel
theorem dksX6_copy_1 : cX6_copy.data.toList.drop 24 = dktX6_copy_1 := dk_seg dksX6_copy_0 24 rfl rfl
theorem dX6_copy_0 : decode cX6_copy 0 = .ok (.new 10, 3) := dk_187 0 10 (dk_at dksX6_copy_0 0 rfl rfl)
theorem dX6_copy_3 : decode cX6_copy 3 = .ok (.dup, 1) := dk_89 (dk_at dksX6_copy_0 3 rfl rfl)
theorem dX6_copy_4 : decode cX6_copy 4 = .ok (.aload_n 0, 1) := dk_42 (dk_at dksX6_copy_0 4 rfl rfl)
theorem dX6_copy_5 : decode cX6_copy 5 = .ok (.getfield 15, 3) := dk_180 0 15 (dk_at dksX6_copy_0 5 rfl rfl)
theorem dX6_copy_8 : decode cX6_copy 8 = .ok (.aload_n 0, 1) := dk_42 (dk_at dksX6_copy_0 8 rfl rfl)
theorem dX6_copy_9 : decode cX6_copy 9 = .ok (.getfield 18, 3) := dk_180 0 18 (dk_at dksX6_copy_0 9 rfl rfl)
theorem dX6_copy_12 : decode cX6_copy 12 = .ok (.invokespecial 21, 3) := dk_183 0 21 (dk_at dksX6_copy_0 12 rfl rfl)
theorem dX6_copy_15 : decode cX6_copy 15 = .ok (.astore_n 1, 1) := dk_76 (dk_at dksX6_copy_0 15 rfl rfl)
theorem dX6_copy_16 : decode cX6_copy 16 = .ok (.aload_n 1, 1) := dk_43 (dk_at dksX6_copy_0 16 rfl rfl)
theorem dX6_copy_17 : decode cX6_copy 17 = .ok (.aload_n 0, 1) := dk_42 (dk_at dksX6_copy_0 17 rfl rfl)
theorem dX6_copy_18 : decode cX6_copy 18 = .ok (.getfield 9, 3) := dk_180 0 9 (dk_at dksX6_copy_0 18 rfl rfl)
theorem dX6_copy_21 : decode cX6_copy 21 = .ok (.putfield 9, 3) := dk_181 0 9 (dk_at dksX6_copy_0 21 rfl rfl)
theorem dX6_copy_24 : decode cX6_copy 24 = .ok (.aload_n 1, 1) := dk_43 (dk_at dksX6_copy_1 0 rfl rfl)
theorem dX6_copy_25 : decode cX6_copy 25 = .ok (.areturn, 1) := dk_176 (dk_at dksX6_copy_1 1 rfl rfl)
abbrev cX6_init : ByteArray := prog_6_method_1_code
def yX6_init : MethodName := ⟨RX6, "<init>", "(II)V"⟩
def dkwX6_init_0 : List UInt8 := [42, 183, 0, 3, 42, 2, 181, 0, 9, 42, 27, 181, 0, 15, 42, 28, 181, 0, 18, 177]
abbrev dktX6_init_0 : List UInt8 := dkwX6_init_0 ++ []
theorem dksX6_init_0 : cX6_init.data.toList.drop 0 = dktX6_init_0 := by decide +kernel
theorem dX6_init_0 : decode cX6_init 0 = .ok (.aload_n 0, 1) := dk_42 (dk_at dksX6_init_0 0 rfl rfl)
theorem dX6_init_1 : decode cX6_init 1 = .ok (.invokespecial 3, 3) := dk_183 0 3 (dk_at dksX6_init_0 1 rfl rfl)
theorem dX6_init_4 : decode cX6_init 4 = .ok (.aload_n 0, 1) := dk_42 (dk_at dksX6_init_0 4 rfl rfl)
theorem dX6_init_5 : decode cX6_init 5 = .ok (.iconst (-1), 1) := dk_2 (dk_at dksX6_init_0 5 rfl rfl)
theorem dX6_init_6 : decode cX6_init 6 = .ok (.putfield 9, 3) := dk_181 0 9 (dk_at dksX6_init_0 6 rfl rfl)
theorem dX6_init_9 : decode cX6_init 9 = .ok (.aload_n 0, 1) := dk_42 (dk_at dksX6_init_0 9 rfl rfl)
theorem dX6_init_10 : decode cX6_init 10 = .ok (.iload_n 1, 1) := dk_27 (dk_at dksX6_init_0 10 rfl rfl)
theorem dX6_init_11 : decode cX6_init 11 = .ok (.putfield 15, 3) := dk_181 0 15 (dk_at dksX6_init_0 11 rfl rfl)
theorem dX6_init_14 : decode cX6_init 14 = .ok (.aload_n 0, 1) := dk_42 (dk_at dksX6_init_0 14 rfl rfl)
theorem dX6_init_15 : decode cX6_init 15 = .ok (.iload_n 2, 1) := dk_28 (dk_at dksX6_init_0 15 rfl rfl)
theorem dX6_init_16 : decode cX6_init 16 = .ok (.putfield 18, 3) := dk_181 0 18 (dk_at dksX6_init_0 16 rfl rfl)
theorem dX6_init_19 : decode cX6_init 19 = .ok (.return_, 1) := dk_177 (dk_at dksX6_init_0 19 rfl rfl)
theorem q120 : (Jvm.Cond.initialized "FrostRing$House") ∈ lw_all := lw_g (lw_at lw_m1 16 rfl) rfl
theorem q611 : (Jvm.Cond.selects "FrostRing$House" ({ cls := "java/lang/Object", name := "getClass", desc := "()Ljava/lang/Class;" } : Jvm.MethodName) ({ cls := "java/lang/Object", name := "getClass", desc := "()Ljava/lang/Class;" } : Jvm.MethodName)) ∈ lw_all := lw_g (lw_at lw_m3 27 rfl) rfl
theorem q639 : (Jvm.Cond.instanceMethod ({ cls := "FrostRing$House", name := "copy", desc := "()LFrostRing$House;" } : Jvm.MethodName)) ∈ lw_all := lw_g (lw_at lw_m3 55 rfl) rfl
theorem q640 : (Jvm.Cond.selects "FrostRing$House" ({ cls := "FrostRing$House", name := "copy", desc := "()LFrostRing$House;" } : Jvm.MethodName) ({ cls := "FrostRing$House", name := "copy", desc := "()LFrostRing$House;" } : Jvm.MethodName)) ∈ lw_all := lw_g (lw_at lw_m3 56 rfl) rfl
theorem q641 : (Jvm.Cond.code ({ cls := "FrostRing$House", name := "copy", desc := "()LFrostRing$House;" } : Jvm.MethodName) prog_6_method_2_code (2 : Nat) (Option.some (Jvm.ClassFile.FieldType.object "FrostRing$House"))) ∈ lw_all := lw_g (lw_at lw_m3 57 rfl) rfl
theorem q642 : (Jvm.Cond.classLink "FrostRing$House" (10 : Nat) "FrostRing$House") ∈ lw_all := lw_g (lw_at lw_m3 58 rfl) rfl
theorem q643 : (Jvm.Cond.instantiable "FrostRing$House" (3 : Nat)) ∈ lw_all := lw_g (lw_at lw_m3 59 rfl) rfl
theorem q644 : (Jvm.Cond.methodLink "FrostRing$House" (21 : Nat) ({ cls := "FrostRing$House", name := "<init>", desc := "(II)V" } : Jvm.MethodName)) ∈ lw_all := lw_g (lw_at lw_m3 60 rfl) rfl
theorem q645 : (Jvm.Cond.instanceMethod ({ cls := "FrostRing$House", name := "<init>", desc := "(II)V" } : Jvm.MethodName)) ∈ lw_all := lw_g (lw_at lw_m3 61 rfl) rfl
theorem q646 : (Jvm.Cond.code ({ cls := "FrostRing$House", name := "<init>", desc := "(II)V" } : Jvm.MethodName) prog_6_method_1_code (3 : Nat) (Option.none : Option Jvm.ClassFile.FieldType)) ∈ lw_all := lw_g (lw_at lw_m3 62 rfl) rfl
theorem q647 : (Jvm.Cond.methodLink "FrostRing$House" (3 : Nat) ({ cls := "java/lang/Object", name := "<init>", desc := "()V" } : Jvm.MethodName)) ∈ lw_all := lw_g (lw_at lw_m3 63 rfl) rfl
theorem q648 : (Jvm.Cond.fieldLink "FrostRing$House" (15 : Nat) "FrostRing$House" "column" "I") ∈ lw_all := lw_g (lw_at lw_m3 64 rfl) rfl
theorem q651 : (Jvm.Cond.fieldLink "FrostRing$House" (18 : Nat) "FrostRing$House" "limit" "I") ∈ lw_all := lw_g (lw_at lw_m3 67 rfl) rfl
theorem q654 : (Jvm.Cond.fieldLink "FrostRing$House" (9 : Nat) "FrostRing$House" "cracked" "I") ∈ lw_all := lw_g (lw_at lw_m3 70 rfl) rfl
theorem q657 : (Jvm.Cond.laysFinal "FrostRing$House" "FrostRing$House" "column" "I") ∈ lw_all := lw_g (lw_at lw_m3 73 rfl) rfl
theorem q658 : (Jvm.Cond.soleField "FrostRing$House" "column") ∈ lw_all := lw_g (lw_at lw_m3 74 rfl) rfl
theorem q659 : (Jvm.Cond.laysFinal "FrostRing$House" "FrostRing$House" "limit" "I") ∈ lw_all := lw_g (lw_at lw_m3 75 rfl) rfl
theorem q660 : (Jvm.Cond.soleField "FrostRing$House" "limit") ∈ lw_all := lw_g (lw_at lw_m3 76 rfl) rfl
theorem q661 : (Jvm.Cond.lays "FrostRing$House" "FrostRing$House" "cracked" "I") ∈ lw_all := lw_g (lw_at lw_m3 77 rfl) rfl
theorem q662 : (Jvm.Cond.soleField "FrostRing$House" "cracked") ∈ lw_all := lw_g (lw_at lw_m3 78 rfl) rfl
theorem q663 : (Jvm.Cond.superclass "FrostRing$House" "java/lang/Object") ∈ lw_all := lw_g (lw_at lw_m3 79 rfl) rfl
theorem q2047 : (Jvm.Cond.castable "FrostRing$House" "java/lang/Object") ∈ lw_tbl := lw_at lw_m9 23 rfl
theorem in_X6 : ∀ w ∈ wsX60, w ∈ lw_all := lw_in wsX60 [657, 659, 661] (by decide +kernel) (by decide +kernel)
/-! FrostRing$Slot -/
set_option maxRecDepth 100000
def RX7 : String := "FrostRing$Slot"
def TX7 : u_T := fun k => match k with
  | _ => ("FrostRing$Slot", "held", "Ljava/lang/Object;", false)
def tyX7 : Nat → FieldType := fun k => match k with
  | _ => .object "java/lang/Object"
abbrev wsX70 : List Cond := u_ws RX7 TX7 1
theorem nmX7 : ∀ a, a < 1 → ∀ b, b < 1 → a ≠ b → (TX7 a).2.1 ≠ (TX7 b).2.1 := by decide +kernel
theorem tyX7_ok : ∀ k, k < 1 → parseFieldDescriptor (TX7 k).2.2.1 = some (tyX7 k) := by decide +kernel
abbrev cX7_begins : ByteArray := prog_12_method_2_code
def yX7_begins : MethodName := ⟨RX7, "begins", "(II)Z"⟩
def dkwX7_begins_3 : List UInt8 := [181, 0, 9, 167, 0, 10, 42, 28, 188, 11, 181, 0, 9, 167, 0, 6, 78, 3, 172, 4, 172]
abbrev dktX7_begins_3 : List UInt8 := dkwX7_begins_3 ++ []
def dkwX7_begins_2 : List UInt8 := [42, 28, 188, 8, 181, 0, 9, 167, 0, 30, 42, 28, 188, 9, 181, 0, 9, 167, 0, 20, 42, 28, 188, 10]
abbrev dktX7_begins_2 : List UInt8 := dkwX7_begins_2 ++ dktX7_begins_3
def dkwX7_begins_1 : List UInt8 := [170, 0, 0, 0, 0, 0, 57, 0, 0, 0, 0, 0, 0, 0, 2, 0, 0, 0, 27, 0, 0, 0, 37, 0, 0, 0, 47]
abbrev dktX7_begins_1 : List UInt8 := dkwX7_begins_1 ++ dktX7_begins_2
def dkwX7_begins_0 : List UInt8 := [27]
abbrev dktX7_begins_0 : List UInt8 := dkwX7_begins_0 ++ dktX7_begins_1
theorem dksX7_begins_0 : cX7_begins.data.toList.drop 0 = dktX7_begins_0 := by decide +kernel
theorem dksX7_begins_1 : cX7_begins.data.toList.drop 1 = dktX7_begins_1 := dk_seg dksX7_begins_0 1 rfl rfl
theorem dksX7_begins_2 : cX7_begins.data.toList.drop 28 = dktX7_begins_2 := dk_seg dksX7_begins_1 27 rfl rfl
theorem dksX7_begins_3 : cX7_begins.data.toList.drop 52 = dktX7_begins_3 := dk_seg dksX7_begins_2 24 rfl rfl
theorem dX7_begins_0 : decode cX7_begins 0 = .ok (.iload_n 1, 1) := dk_27 (dk_at dksX7_begins_0 0 rfl rfl)
theorem dX7_begins_1 : decode cX7_begins 1 = .ok (.tableswitch 57 0 2 #[27, 37, 47], 27) := by decide +kernel
theorem dX7_begins_28 : decode cX7_begins 28 = .ok (.aload_n 0, 1) := dk_42 (dk_at dksX7_begins_2 0 rfl rfl)
theorem dX7_begins_29 : decode cX7_begins 29 = .ok (.iload_n 2, 1) := dk_28 (dk_at dksX7_begins_2 1 rfl rfl)
theorem dX7_begins_30 : decode cX7_begins 30 = .ok (.newarray .byte, 2) := dk_188_8 (dk_at dksX7_begins_2 2 rfl rfl)
theorem dX7_begins_32 : decode cX7_begins 32 = .ok (.putfield 9, 3) := dk_181 0 9 (dk_at dksX7_begins_2 4 rfl rfl)
theorem dX7_begins_35 : decode cX7_begins 35 = .ok (.goto 30, 3) := dk_167 0 30 (dk_at dksX7_begins_2 7 rfl rfl)
theorem dX7_begins_38 : decode cX7_begins 38 = .ok (.aload_n 0, 1) := dk_42 (dk_at dksX7_begins_2 10 rfl rfl)
theorem dX7_begins_39 : decode cX7_begins 39 = .ok (.iload_n 2, 1) := dk_28 (dk_at dksX7_begins_2 11 rfl rfl)
theorem dX7_begins_40 : decode cX7_begins 40 = .ok (.newarray .short, 2) := dk_188_9 (dk_at dksX7_begins_2 12 rfl rfl)
theorem dX7_begins_42 : decode cX7_begins 42 = .ok (.putfield 9, 3) := dk_181 0 9 (dk_at dksX7_begins_2 14 rfl rfl)
theorem dX7_begins_45 : decode cX7_begins 45 = .ok (.goto 20, 3) := dk_167 0 20 (dk_at dksX7_begins_2 17 rfl rfl)
theorem dX7_begins_48 : decode cX7_begins 48 = .ok (.aload_n 0, 1) := dk_42 (dk_at dksX7_begins_2 20 rfl rfl)
theorem dX7_begins_49 : decode cX7_begins 49 = .ok (.iload_n 2, 1) := dk_28 (dk_at dksX7_begins_2 21 rfl rfl)
theorem dX7_begins_50 : decode cX7_begins 50 = .ok (.newarray .int, 2) := dk_188_10 (dk_at dksX7_begins_2 22 rfl rfl)
theorem dX7_begins_52 : decode cX7_begins 52 = .ok (.putfield 9, 3) := dk_181 0 9 (dk_at dksX7_begins_3 0 rfl rfl)
theorem dX7_begins_55 : decode cX7_begins 55 = .ok (.goto 10, 3) := dk_167 0 10 (dk_at dksX7_begins_3 3 rfl rfl)
theorem dX7_begins_58 : decode cX7_begins 58 = .ok (.aload_n 0, 1) := dk_42 (dk_at dksX7_begins_3 6 rfl rfl)
theorem dX7_begins_59 : decode cX7_begins 59 = .ok (.iload_n 2, 1) := dk_28 (dk_at dksX7_begins_3 7 rfl rfl)
theorem dX7_begins_60 : decode cX7_begins 60 = .ok (.newarray .long, 2) := dk_188_11 (dk_at dksX7_begins_3 8 rfl rfl)
theorem dX7_begins_62 : decode cX7_begins 62 = .ok (.putfield 9, 3) := dk_181 0 9 (dk_at dksX7_begins_3 10 rfl rfl)
theorem dX7_begins_65 : decode cX7_begins 65 = .ok (.goto 6, 3) := dk_167 0 6 (dk_at dksX7_begins_3 13 rfl rfl)
theorem dX7_begins_68 : decode cX7_begins 68 = .ok (.astore_n 3, 1) := dk_78 (dk_at dksX7_begins_3 16 rfl rfl)
theorem dX7_begins_69 : decode cX7_begins 69 = .ok (.iconst 0, 1) := dk_3 (dk_at dksX7_begins_3 17 rfl rfl)
theorem dX7_begins_70 : decode cX7_begins 70 = .ok (.ireturn, 1) := dk_172 (dk_at dksX7_begins_3 18 rfl rfl)
theorem dX7_begins_71 : decode cX7_begins 71 = .ok (.iconst 1, 1) := dk_4 (dk_at dksX7_begins_3 19 rfl rfl)
theorem dX7_begins_72 : decode cX7_begins 72 = .ok (.ireturn, 1) := dk_172 (dk_at dksX7_begins_3 20 rfl rfl)
abbrev cX7_puts : ByteArray := prog_12_method_5_code
def yX7_puts : MethodName := ⟨RX7, "puts", "(IJ)I"⟩
def dkwX7_puts_0 : List UInt8 := [42, 27, 32, 182, 0, 25, 167, 0, 13, 58, 4, 16, 250, 172, 58, 4, 16, 249, 172, 3, 172]
abbrev dktX7_puts_0 : List UInt8 := dkwX7_puts_0 ++ []
theorem dksX7_puts_0 : cX7_puts.data.toList.drop 0 = dktX7_puts_0 := by decide +kernel
theorem dX7_puts_0 : decode cX7_puts 0 = .ok (.aload_n 0, 1) := dk_42 (dk_at dksX7_puts_0 0 rfl rfl)
theorem dX7_puts_1 : decode cX7_puts 1 = .ok (.iload_n 1, 1) := dk_27 (dk_at dksX7_puts_0 1 rfl rfl)
theorem dX7_puts_2 : decode cX7_puts 2 = .ok (.lload_n 2, 1) := dk_32 (dk_at dksX7_puts_0 2 rfl rfl)
theorem dX7_puts_3 : decode cX7_puts 3 = .ok (.invokevirtual 25, 3) := dk_182 0 25 (dk_at dksX7_puts_0 3 rfl rfl)
theorem dX7_puts_6 : decode cX7_puts 6 = .ok (.goto 13, 3) := dk_167 0 13 (dk_at dksX7_puts_0 6 rfl rfl)
theorem dX7_puts_9 : decode cX7_puts 9 = .ok (.astore 4, 2) := dk_58 4 (dk_at dksX7_puts_0 9 rfl rfl)
theorem dX7_puts_11 : decode cX7_puts 11 = .ok (.bipush (-6), 2) := dk_16 250 (dk_at dksX7_puts_0 11 rfl rfl)
theorem dX7_puts_13 : decode cX7_puts 13 = .ok (.ireturn, 1) := dk_172 (dk_at dksX7_puts_0 13 rfl rfl)
theorem dX7_puts_14 : decode cX7_puts 14 = .ok (.astore 4, 2) := dk_58 4 (dk_at dksX7_puts_0 14 rfl rfl)
theorem dX7_puts_16 : decode cX7_puts 16 = .ok (.bipush (-7), 2) := dk_16 249 (dk_at dksX7_puts_0 16 rfl rfl)
theorem dX7_puts_18 : decode cX7_puts 18 = .ok (.ireturn, 1) := dk_172 (dk_at dksX7_puts_0 18 rfl rfl)
theorem dX7_puts_19 : decode cX7_puts 19 = .ok (.iconst 0, 1) := dk_3 (dk_at dksX7_puts_0 19 rfl rfl)
theorem dX7_puts_20 : decode cX7_puts 20 = .ok (.ireturn, 1) := dk_172 (dk_at dksX7_puts_0 20 rfl rfl)
abbrev cX7_put : ByteArray := prog_12_method_6_code
def yX7_put : MethodName := ⟨RX7, "put", "(IJ)V"⟩
def dkwX7_put_2 : List UInt8 := [25, 4, 27, 32, 136, 147, 86, 167, 0, 9, 42, 27, 32, 182, 0, 33, 177]
abbrev dktX7_put_2 : List UInt8 := dkwX7_put_2 ++ []
def dkwX7_put_1 : List UInt8 := [145, 84, 167, 0, 38, 42, 180, 0, 9, 193, 0, 19, 153, 0, 22, 42, 180, 0, 9, 192, 0, 19, 58, 4]
abbrev dktX7_put_1 : List UInt8 := dkwX7_put_1 ++ dktX7_put_2
def dkwX7_put_0 : List UInt8 := [42, 180, 0, 9, 193, 0, 17, 153, 0, 22, 42, 180, 0, 9, 192, 0, 17, 58, 4, 25, 4, 27, 32, 136]
abbrev dktX7_put_0 : List UInt8 := dkwX7_put_0 ++ dktX7_put_1
theorem dksX7_put_0 : cX7_put.data.toList.drop 0 = dktX7_put_0 := by decide +kernel
theorem dksX7_put_1 : cX7_put.data.toList.drop 24 = dktX7_put_1 := dk_seg dksX7_put_0 24 rfl rfl
theorem dksX7_put_2 : cX7_put.data.toList.drop 48 = dktX7_put_2 := dk_seg dksX7_put_1 24 rfl rfl
theorem dX7_put_0 : decode cX7_put 0 = .ok (.aload_n 0, 1) := dk_42 (dk_at dksX7_put_0 0 rfl rfl)
theorem dX7_put_1 : decode cX7_put 1 = .ok (.getfield 9, 3) := dk_180 0 9 (dk_at dksX7_put_0 1 rfl rfl)
theorem dX7_put_4 : decode cX7_put 4 = .ok (.instanceof 17, 3) := dk_193 0 17 (dk_at dksX7_put_0 4 rfl rfl)
theorem dX7_put_7 : decode cX7_put 7 = .ok (.ifCond .eq 22, 3) := dk_153 0 22 (dk_at dksX7_put_0 7 rfl rfl)
theorem dX7_put_10 : decode cX7_put 10 = .ok (.aload_n 0, 1) := dk_42 (dk_at dksX7_put_0 10 rfl rfl)
theorem dX7_put_11 : decode cX7_put 11 = .ok (.getfield 9, 3) := dk_180 0 9 (dk_at dksX7_put_0 11 rfl rfl)
theorem dX7_put_14 : decode cX7_put 14 = .ok (.checkcast 17, 3) := dk_192 0 17 (dk_at dksX7_put_0 14 rfl rfl)
theorem dX7_put_17 : decode cX7_put 17 = .ok (.astore 4, 2) := dk_58 4 (dk_at dksX7_put_0 17 rfl rfl)
theorem dX7_put_19 : decode cX7_put 19 = .ok (.aload 4, 2) := dk_25 4 (dk_at dksX7_put_0 19 rfl rfl)
theorem dX7_put_21 : decode cX7_put 21 = .ok (.iload_n 1, 1) := dk_27 (dk_at dksX7_put_0 21 rfl rfl)
theorem dX7_put_22 : decode cX7_put 22 = .ok (.lload_n 2, 1) := dk_32 (dk_at dksX7_put_0 22 rfl rfl)
theorem dX7_put_23 : decode cX7_put 23 = .ok (.l2i, 1) := dk_136 (dk_at dksX7_put_0 23 rfl rfl)
theorem dX7_put_24 : decode cX7_put 24 = .ok (.i2b, 1) := dk_145 (dk_at dksX7_put_1 0 rfl rfl)
theorem dX7_put_25 : decode cX7_put 25 = .ok (.bastore, 1) := dk_84 (dk_at dksX7_put_1 1 rfl rfl)
theorem dX7_put_26 : decode cX7_put 26 = .ok (.goto 38, 3) := dk_167 0 38 (dk_at dksX7_put_1 2 rfl rfl)
theorem dX7_put_29 : decode cX7_put 29 = .ok (.aload_n 0, 1) := dk_42 (dk_at dksX7_put_1 5 rfl rfl)
theorem dX7_put_30 : decode cX7_put 30 = .ok (.getfield 9, 3) := dk_180 0 9 (dk_at dksX7_put_1 6 rfl rfl)
theorem dX7_put_33 : decode cX7_put 33 = .ok (.instanceof 19, 3) := dk_193 0 19 (dk_at dksX7_put_1 9 rfl rfl)
theorem dX7_put_36 : decode cX7_put 36 = .ok (.ifCond .eq 22, 3) := dk_153 0 22 (dk_at dksX7_put_1 12 rfl rfl)
theorem dX7_put_39 : decode cX7_put 39 = .ok (.aload_n 0, 1) := dk_42 (dk_at dksX7_put_1 15 rfl rfl)
theorem dX7_put_40 : decode cX7_put 40 = .ok (.getfield 9, 3) := dk_180 0 9 (dk_at dksX7_put_1 16 rfl rfl)
theorem dX7_put_43 : decode cX7_put 43 = .ok (.checkcast 19, 3) := dk_192 0 19 (dk_at dksX7_put_1 19 rfl rfl)
theorem dX7_put_46 : decode cX7_put 46 = .ok (.astore 4, 2) := dk_58 4 (dk_at dksX7_put_1 22 rfl rfl)
theorem dX7_put_48 : decode cX7_put 48 = .ok (.aload 4, 2) := dk_25 4 (dk_at dksX7_put_2 0 rfl rfl)
theorem dX7_put_50 : decode cX7_put 50 = .ok (.iload_n 1, 1) := dk_27 (dk_at dksX7_put_2 2 rfl rfl)
theorem dX7_put_51 : decode cX7_put 51 = .ok (.lload_n 2, 1) := dk_32 (dk_at dksX7_put_2 3 rfl rfl)
theorem dX7_put_52 : decode cX7_put 52 = .ok (.l2i, 1) := dk_136 (dk_at dksX7_put_2 4 rfl rfl)
theorem dX7_put_53 : decode cX7_put 53 = .ok (.i2s, 1) := dk_147 (dk_at dksX7_put_2 5 rfl rfl)
theorem dX7_put_54 : decode cX7_put 54 = .ok (.sastore, 1) := dk_86 (dk_at dksX7_put_2 6 rfl rfl)
theorem dX7_put_55 : decode cX7_put 55 = .ok (.goto 9, 3) := dk_167 0 9 (dk_at dksX7_put_2 7 rfl rfl)
theorem dX7_put_58 : decode cX7_put 58 = .ok (.aload_n 0, 1) := dk_42 (dk_at dksX7_put_2 10 rfl rfl)
theorem dX7_put_59 : decode cX7_put 59 = .ok (.iload_n 1, 1) := dk_27 (dk_at dksX7_put_2 11 rfl rfl)
theorem dX7_put_60 : decode cX7_put 60 = .ok (.lload_n 2, 1) := dk_32 (dk_at dksX7_put_2 12 rfl rfl)
theorem dX7_put_61 : decode cX7_put 61 = .ok (.invokevirtual 33, 3) := dk_182 0 33 (dk_at dksX7_put_2 13 rfl rfl)
theorem dX7_put_64 : decode cX7_put 64 = .ok (.return_, 1) := dk_177 (dk_at dksX7_put_2 16 rfl rfl)
abbrev cX7_putWider : ByteArray := prog_12_method_7_code
def yX7_putWider : MethodName := ⟨RX7, "putWider", "(IJ)V"⟩
def dkwX7_putWider_1 : List UInt8 := [192, 0, 23, 58, 5, 25, 5, 27, 32, 80, 177]
abbrev dktX7_putWider_1 : List UInt8 := dkwX7_putWider_1 ++ []
def dkwX7_putWider_0 : List UInt8 := [42, 180, 0, 9, 192, 0, 21, 58, 4, 25, 4, 27, 32, 136, 79, 167, 0, 19, 58, 4, 42, 180, 0, 9]
abbrev dktX7_putWider_0 : List UInt8 := dkwX7_putWider_0 ++ dktX7_putWider_1
theorem dksX7_putWider_0 : cX7_putWider.data.toList.drop 0 = dktX7_putWider_0 := by decide +kernel
theorem dksX7_putWider_1 : cX7_putWider.data.toList.drop 24 = dktX7_putWider_1 := dk_seg dksX7_putWider_0 24 rfl rfl
theorem dX7_putWider_0 : decode cX7_putWider 0 = .ok (.aload_n 0, 1) := dk_42 (dk_at dksX7_putWider_0 0 rfl rfl)
theorem dX7_putWider_1 : decode cX7_putWider 1 = .ok (.getfield 9, 3) := dk_180 0 9 (dk_at dksX7_putWider_0 1 rfl rfl)
theorem dX7_putWider_4 : decode cX7_putWider 4 = .ok (.checkcast 21, 3) := dk_192 0 21 (dk_at dksX7_putWider_0 4 rfl rfl)
theorem dX7_putWider_7 : decode cX7_putWider 7 = .ok (.astore 4, 2) := dk_58 4 (dk_at dksX7_putWider_0 7 rfl rfl)
theorem dX7_putWider_9 : decode cX7_putWider 9 = .ok (.aload 4, 2) := dk_25 4 (dk_at dksX7_putWider_0 9 rfl rfl)
theorem dX7_putWider_11 : decode cX7_putWider 11 = .ok (.iload_n 1, 1) := dk_27 (dk_at dksX7_putWider_0 11 rfl rfl)
theorem dX7_putWider_12 : decode cX7_putWider 12 = .ok (.lload_n 2, 1) := dk_32 (dk_at dksX7_putWider_0 12 rfl rfl)
theorem dX7_putWider_13 : decode cX7_putWider 13 = .ok (.l2i, 1) := dk_136 (dk_at dksX7_putWider_0 13 rfl rfl)
theorem dX7_putWider_14 : decode cX7_putWider 14 = .ok (.iastore, 1) := dk_79 (dk_at dksX7_putWider_0 14 rfl rfl)
theorem dX7_putWider_15 : decode cX7_putWider 15 = .ok (.goto 19, 3) := dk_167 0 19 (dk_at dksX7_putWider_0 15 rfl rfl)
theorem dX7_putWider_18 : decode cX7_putWider 18 = .ok (.astore 4, 2) := dk_58 4 (dk_at dksX7_putWider_0 18 rfl rfl)
theorem dX7_putWider_20 : decode cX7_putWider 20 = .ok (.aload_n 0, 1) := dk_42 (dk_at dksX7_putWider_0 20 rfl rfl)
theorem dX7_putWider_21 : decode cX7_putWider 21 = .ok (.getfield 9, 3) := dk_180 0 9 (dk_at dksX7_putWider_0 21 rfl rfl)
theorem dX7_putWider_24 : decode cX7_putWider 24 = .ok (.checkcast 23, 3) := dk_192 0 23 (dk_at dksX7_putWider_1 0 rfl rfl)
theorem dX7_putWider_27 : decode cX7_putWider 27 = .ok (.astore 5, 2) := dk_58 5 (dk_at dksX7_putWider_1 3 rfl rfl)
theorem dX7_putWider_29 : decode cX7_putWider 29 = .ok (.aload 5, 2) := dk_25 5 (dk_at dksX7_putWider_1 5 rfl rfl)
theorem dX7_putWider_31 : decode cX7_putWider 31 = .ok (.iload_n 1, 1) := dk_27 (dk_at dksX7_putWider_1 7 rfl rfl)
theorem dX7_putWider_32 : decode cX7_putWider 32 = .ok (.lload_n 2, 1) := dk_32 (dk_at dksX7_putWider_1 8 rfl rfl)
theorem dX7_putWider_33 : decode cX7_putWider 33 = .ok (.lastore, 1) := dk_80 (dk_at dksX7_putWider_1 9 rfl rfl)
theorem dX7_putWider_34 : decode cX7_putWider 34 = .ok (.return_, 1) := dk_177 (dk_at dksX7_putWider_1 10 rfl rfl)
abbrev cX7_pastes : ByteArray := prog_12_method_9_code
def yX7_pastes : MethodName := ⟨RX7, "pastes", "(ILFrostRing$Slot;II)I"⟩
def dkwX7_pastes_2 : List UInt8 := [167, 0, 8, 58, 5, 16, 249, 172, 3, 172]
abbrev dktX7_pastes_2 : List UInt8 := dkwX7_pastes_2 ++ []
def dkwX7_pastes_1 : List UInt8 := [182, 0, 38, 159, 0, 6, 16, 248, 172, 42, 180, 0, 9, 27, 44, 180, 0, 9, 29, 21, 4, 184, 0, 42]
abbrev dktX7_pastes_1 : List UInt8 := dkwX7_pastes_1 ++ dktX7_pastes_2
def dkwX7_pastes_0 : List UInt8 := [42, 180, 0, 9, 198, 0, 10, 44, 180, 0, 9, 199, 0, 6, 16, 250, 172, 42, 182, 0, 38, 44]
abbrev dktX7_pastes_0 : List UInt8 := dkwX7_pastes_0 ++ dktX7_pastes_1
theorem dksX7_pastes_0 : cX7_pastes.data.toList.drop 0 = dktX7_pastes_0 := by decide +kernel
theorem dksX7_pastes_1 : cX7_pastes.data.toList.drop 22 = dktX7_pastes_1 := dk_seg dksX7_pastes_0 22 rfl rfl
theorem dksX7_pastes_2 : cX7_pastes.data.toList.drop 46 = dktX7_pastes_2 := dk_seg dksX7_pastes_1 24 rfl rfl
theorem dX7_pastes_0 : decode cX7_pastes 0 = .ok (.aload_n 0, 1) := dk_42 (dk_at dksX7_pastes_0 0 rfl rfl)
theorem dX7_pastes_1 : decode cX7_pastes 1 = .ok (.getfield 9, 3) := dk_180 0 9 (dk_at dksX7_pastes_0 1 rfl rfl)
theorem dX7_pastes_4 : decode cX7_pastes 4 = .ok (.ifnull 10, 3) := dk_198 0 10 (dk_at dksX7_pastes_0 4 rfl rfl)
theorem dX7_pastes_7 : decode cX7_pastes 7 = .ok (.aload_n 2, 1) := dk_44 (dk_at dksX7_pastes_0 7 rfl rfl)
theorem dX7_pastes_8 : decode cX7_pastes 8 = .ok (.getfield 9, 3) := dk_180 0 9 (dk_at dksX7_pastes_0 8 rfl rfl)
theorem dX7_pastes_11 : decode cX7_pastes 11 = .ok (.ifnonnull 6, 3) := dk_199 0 6 (dk_at dksX7_pastes_0 11 rfl rfl)
theorem dX7_pastes_14 : decode cX7_pastes 14 = .ok (.bipush (-6), 2) := dk_16 250 (dk_at dksX7_pastes_0 14 rfl rfl)
theorem dX7_pastes_16 : decode cX7_pastes 16 = .ok (.ireturn, 1) := dk_172 (dk_at dksX7_pastes_0 16 rfl rfl)
theorem dX7_pastes_17 : decode cX7_pastes 17 = .ok (.aload_n 0, 1) := dk_42 (dk_at dksX7_pastes_0 17 rfl rfl)
theorem dX7_pastes_18 : decode cX7_pastes 18 = .ok (.invokevirtual 38, 3) := dk_182 0 38 (dk_at dksX7_pastes_0 18 rfl rfl)
theorem dX7_pastes_21 : decode cX7_pastes 21 = .ok (.aload_n 2, 1) := dk_44 (dk_at dksX7_pastes_0 21 rfl rfl)
theorem dX7_pastes_22 : decode cX7_pastes 22 = .ok (.invokevirtual 38, 3) := dk_182 0 38 (dk_at dksX7_pastes_1 0 rfl rfl)
theorem dX7_pastes_25 : decode cX7_pastes 25 = .ok (.if_icmp .eq 6, 3) := dk_159 0 6 (dk_at dksX7_pastes_1 3 rfl rfl)
theorem dX7_pastes_28 : decode cX7_pastes 28 = .ok (.bipush (-8), 2) := dk_16 248 (dk_at dksX7_pastes_1 6 rfl rfl)
theorem dX7_pastes_30 : decode cX7_pastes 30 = .ok (.ireturn, 1) := dk_172 (dk_at dksX7_pastes_1 8 rfl rfl)
theorem dX7_pastes_31 : decode cX7_pastes 31 = .ok (.aload_n 0, 1) := dk_42 (dk_at dksX7_pastes_1 9 rfl rfl)
theorem dX7_pastes_32 : decode cX7_pastes 32 = .ok (.getfield 9, 3) := dk_180 0 9 (dk_at dksX7_pastes_1 10 rfl rfl)
theorem dX7_pastes_35 : decode cX7_pastes 35 = .ok (.iload_n 1, 1) := dk_27 (dk_at dksX7_pastes_1 13 rfl rfl)
theorem dX7_pastes_36 : decode cX7_pastes 36 = .ok (.aload_n 2, 1) := dk_44 (dk_at dksX7_pastes_1 14 rfl rfl)
theorem dX7_pastes_37 : decode cX7_pastes 37 = .ok (.getfield 9, 3) := dk_180 0 9 (dk_at dksX7_pastes_1 15 rfl rfl)
theorem dX7_pastes_40 : decode cX7_pastes 40 = .ok (.iload_n 3, 1) := dk_29 (dk_at dksX7_pastes_1 18 rfl rfl)
theorem dX7_pastes_41 : decode cX7_pastes 41 = .ok (.iload 4, 2) := dk_21 4 (dk_at dksX7_pastes_1 19 rfl rfl)
theorem dX7_pastes_43 : decode cX7_pastes 43 = .ok (.invokestatic 42, 3) := dk_184 0 42 (dk_at dksX7_pastes_1 21 rfl rfl)
theorem dX7_pastes_46 : decode cX7_pastes 46 = .ok (.goto 8, 3) := dk_167 0 8 (dk_at dksX7_pastes_2 0 rfl rfl)
theorem dX7_pastes_49 : decode cX7_pastes 49 = .ok (.astore 5, 2) := dk_58 5 (dk_at dksX7_pastes_2 3 rfl rfl)
theorem dX7_pastes_51 : decode cX7_pastes 51 = .ok (.bipush (-7), 2) := dk_16 249 (dk_at dksX7_pastes_2 5 rfl rfl)
theorem dX7_pastes_53 : decode cX7_pastes 53 = .ok (.ireturn, 1) := dk_172 (dk_at dksX7_pastes_2 7 rfl rfl)
theorem dX7_pastes_54 : decode cX7_pastes 54 = .ok (.iconst 0, 1) := dk_3 (dk_at dksX7_pastes_2 8 rfl rfl)
theorem dX7_pastes_55 : decode cX7_pastes 55 = .ok (.ireturn, 1) := dk_172 (dk_at dksX7_pastes_2 9 rfl rfl)
abbrev cX7_width : ByteArray := prog_12_method_8_code
def yX7_width : MethodName := ⟨RX7, "width", "()I"⟩
def dkwX7_width_1 : List UInt8 := [4, 167, 0, 18, 42, 180, 0, 9, 193, 0, 21, 153, 0, 7, 5, 167, 0, 4, 6, 172]
abbrev dktX7_width_1 : List UInt8 := dkwX7_width_1 ++ []
def dkwX7_width_0 : List UInt8 := [42, 180, 0, 9, 193, 0, 17, 153, 0, 7, 3, 167, 0, 32, 42, 180, 0, 9, 193, 0, 19, 153, 0, 7]
abbrev dktX7_width_0 : List UInt8 := dkwX7_width_0 ++ dktX7_width_1
theorem dksX7_width_0 : cX7_width.data.toList.drop 0 = dktX7_width_0 := by decide +kernel
theorem dksX7_width_1 : cX7_width.data.toList.drop 24 = dktX7_width_1 := dk_seg dksX7_width_0 24 rfl rfl
theorem dX7_width_0 : decode cX7_width 0 = .ok (.aload_n 0, 1) := dk_42 (dk_at dksX7_width_0 0 rfl rfl)
theorem dX7_width_1 : decode cX7_width 1 = .ok (.getfield 9, 3) := dk_180 0 9 (dk_at dksX7_width_0 1 rfl rfl)
theorem dX7_width_4 : decode cX7_width 4 = .ok (.instanceof 17, 3) := dk_193 0 17 (dk_at dksX7_width_0 4 rfl rfl)
theorem dX7_width_7 : decode cX7_width 7 = .ok (.ifCond .eq 7, 3) := dk_153 0 7 (dk_at dksX7_width_0 7 rfl rfl)
theorem dX7_width_10 : decode cX7_width 10 = .ok (.iconst 0, 1) := dk_3 (dk_at dksX7_width_0 10 rfl rfl)
theorem dX7_width_11 : decode cX7_width 11 = .ok (.goto 32, 3) := dk_167 0 32 (dk_at dksX7_width_0 11 rfl rfl)
theorem dX7_width_14 : decode cX7_width 14 = .ok (.aload_n 0, 1) := dk_42 (dk_at dksX7_width_0 14 rfl rfl)
theorem dX7_width_15 : decode cX7_width 15 = .ok (.getfield 9, 3) := dk_180 0 9 (dk_at dksX7_width_0 15 rfl rfl)
theorem dX7_width_18 : decode cX7_width 18 = .ok (.instanceof 19, 3) := dk_193 0 19 (dk_at dksX7_width_0 18 rfl rfl)
theorem dX7_width_21 : decode cX7_width 21 = .ok (.ifCond .eq 7, 3) := dk_153 0 7 (dk_at dksX7_width_0 21 rfl rfl)
theorem dX7_width_24 : decode cX7_width 24 = .ok (.iconst 1, 1) := dk_4 (dk_at dksX7_width_1 0 rfl rfl)
theorem dX7_width_25 : decode cX7_width 25 = .ok (.goto 18, 3) := dk_167 0 18 (dk_at dksX7_width_1 1 rfl rfl)
theorem dX7_width_28 : decode cX7_width 28 = .ok (.aload_n 0, 1) := dk_42 (dk_at dksX7_width_1 4 rfl rfl)
theorem dX7_width_29 : decode cX7_width 29 = .ok (.getfield 9, 3) := dk_180 0 9 (dk_at dksX7_width_1 5 rfl rfl)
theorem dX7_width_32 : decode cX7_width 32 = .ok (.instanceof 21, 3) := dk_193 0 21 (dk_at dksX7_width_1 8 rfl rfl)
theorem dX7_width_35 : decode cX7_width 35 = .ok (.ifCond .eq 7, 3) := dk_153 0 7 (dk_at dksX7_width_1 11 rfl rfl)
theorem dX7_width_38 : decode cX7_width 38 = .ok (.iconst 2, 1) := dk_5 (dk_at dksX7_width_1 14 rfl rfl)
theorem dX7_width_39 : decode cX7_width 39 = .ok (.goto 4, 3) := dk_167 0 4 (dk_at dksX7_width_1 15 rfl rfl)
theorem dX7_width_42 : decode cX7_width 42 = .ok (.iconst 3, 1) := dk_6 (dk_at dksX7_width_1 18 rfl rfl)
theorem dX7_width_43 : decode cX7_width 43 = .ok (.ireturn, 1) := dk_172 (dk_at dksX7_width_1 19 rfl rfl)
abbrev cX7_init : ByteArray := prog_12_method_1_code
def yX7_init : MethodName := ⟨RX7, "<init>", "()V"⟩
theorem dX7_init_0 : decode cX7_init 0 = .ok (.aload_n 0, 1) := by decide +kernel
theorem dX7_init_1 : decode cX7_init 1 = .ok (.invokespecial 3, 3) := by decide +kernel
theorem dX7_init_4 : decode cX7_init 4 = .ok (.return_, 1) := by decide +kernel
abbrev cX7_many : ByteArray := prog_12_method_3_code
def yX7_many : MethodName := ⟨RX7, "many", "()I"⟩
def dkwX7_many_2 : List UInt8 := [153, 0, 14, 42, 180, 0, 9, 192, 0, 21, 190, 167, 0, 11, 42, 180, 0, 9, 192, 0, 23, 190, 172]
abbrev dktX7_many_2 : List UInt8 := dkwX7_many_2 ++ []
def dkwX7_many_1 : List UInt8 := [193, 0, 19, 153, 0, 12, 42, 180, 0, 9, 192, 0, 19, 190, 172, 42, 180, 0, 9, 193, 0, 21]
abbrev dktX7_many_1 : List UInt8 := dkwX7_many_1 ++ dktX7_many_2
def dkwX7_many_0 : List UInt8 := [42, 180, 0, 9, 193, 0, 17, 153, 0, 12, 42, 180, 0, 9, 192, 0, 17, 190, 172, 42, 180, 0, 9]
abbrev dktX7_many_0 : List UInt8 := dkwX7_many_0 ++ dktX7_many_1
theorem dksX7_many_0 : cX7_many.data.toList.drop 0 = dktX7_many_0 := by decide +kernel
theorem dksX7_many_1 : cX7_many.data.toList.drop 23 = dktX7_many_1 := dk_seg dksX7_many_0 23 rfl rfl
theorem dksX7_many_2 : cX7_many.data.toList.drop 45 = dktX7_many_2 := dk_seg dksX7_many_1 22 rfl rfl
theorem dX7_many_0 : decode cX7_many 0 = .ok (.aload_n 0, 1) := dk_42 (dk_at dksX7_many_0 0 rfl rfl)
theorem dX7_many_1 : decode cX7_many 1 = .ok (.getfield 9, 3) := dk_180 0 9 (dk_at dksX7_many_0 1 rfl rfl)
theorem dX7_many_4 : decode cX7_many 4 = .ok (.instanceof 17, 3) := dk_193 0 17 (dk_at dksX7_many_0 4 rfl rfl)
theorem dX7_many_7 : decode cX7_many 7 = .ok (.ifCond .eq 12, 3) := dk_153 0 12 (dk_at dksX7_many_0 7 rfl rfl)
theorem dX7_many_10 : decode cX7_many 10 = .ok (.aload_n 0, 1) := dk_42 (dk_at dksX7_many_0 10 rfl rfl)
theorem dX7_many_11 : decode cX7_many 11 = .ok (.getfield 9, 3) := dk_180 0 9 (dk_at dksX7_many_0 11 rfl rfl)
theorem dX7_many_14 : decode cX7_many 14 = .ok (.checkcast 17, 3) := dk_192 0 17 (dk_at dksX7_many_0 14 rfl rfl)
theorem dX7_many_17 : decode cX7_many 17 = .ok (.arraylength, 1) := dk_190 (dk_at dksX7_many_0 17 rfl rfl)
theorem dX7_many_18 : decode cX7_many 18 = .ok (.ireturn, 1) := dk_172 (dk_at dksX7_many_0 18 rfl rfl)
theorem dX7_many_19 : decode cX7_many 19 = .ok (.aload_n 0, 1) := dk_42 (dk_at dksX7_many_0 19 rfl rfl)
theorem dX7_many_20 : decode cX7_many 20 = .ok (.getfield 9, 3) := dk_180 0 9 (dk_at dksX7_many_0 20 rfl rfl)
theorem dX7_many_23 : decode cX7_many 23 = .ok (.instanceof 19, 3) := dk_193 0 19 (dk_at dksX7_many_1 0 rfl rfl)
theorem dX7_many_26 : decode cX7_many 26 = .ok (.ifCond .eq 12, 3) := dk_153 0 12 (dk_at dksX7_many_1 3 rfl rfl)
theorem dX7_many_29 : decode cX7_many 29 = .ok (.aload_n 0, 1) := dk_42 (dk_at dksX7_many_1 6 rfl rfl)
theorem dX7_many_30 : decode cX7_many 30 = .ok (.getfield 9, 3) := dk_180 0 9 (dk_at dksX7_many_1 7 rfl rfl)
theorem dX7_many_33 : decode cX7_many 33 = .ok (.checkcast 19, 3) := dk_192 0 19 (dk_at dksX7_many_1 10 rfl rfl)
theorem dX7_many_36 : decode cX7_many 36 = .ok (.arraylength, 1) := dk_190 (dk_at dksX7_many_1 13 rfl rfl)
theorem dX7_many_37 : decode cX7_many 37 = .ok (.ireturn, 1) := dk_172 (dk_at dksX7_many_1 14 rfl rfl)
theorem dX7_many_38 : decode cX7_many 38 = .ok (.aload_n 0, 1) := dk_42 (dk_at dksX7_many_1 15 rfl rfl)
theorem dX7_many_39 : decode cX7_many 39 = .ok (.getfield 9, 3) := dk_180 0 9 (dk_at dksX7_many_1 16 rfl rfl)
theorem dX7_many_42 : decode cX7_many 42 = .ok (.instanceof 21, 3) := dk_193 0 21 (dk_at dksX7_many_1 19 rfl rfl)
theorem dX7_many_45 : decode cX7_many 45 = .ok (.ifCond .eq 14, 3) := dk_153 0 14 (dk_at dksX7_many_2 0 rfl rfl)
theorem dX7_many_48 : decode cX7_many 48 = .ok (.aload_n 0, 1) := dk_42 (dk_at dksX7_many_2 3 rfl rfl)
theorem dX7_many_49 : decode cX7_many 49 = .ok (.getfield 9, 3) := dk_180 0 9 (dk_at dksX7_many_2 4 rfl rfl)
theorem dX7_many_52 : decode cX7_many 52 = .ok (.checkcast 21, 3) := dk_192 0 21 (dk_at dksX7_many_2 7 rfl rfl)
theorem dX7_many_55 : decode cX7_many 55 = .ok (.arraylength, 1) := dk_190 (dk_at dksX7_many_2 10 rfl rfl)
theorem dX7_many_56 : decode cX7_many 56 = .ok (.goto 11, 3) := dk_167 0 11 (dk_at dksX7_many_2 11 rfl rfl)
theorem dX7_many_59 : decode cX7_many 59 = .ok (.aload_n 0, 1) := dk_42 (dk_at dksX7_many_2 14 rfl rfl)
theorem dX7_many_60 : decode cX7_many 60 = .ok (.getfield 9, 3) := dk_180 0 9 (dk_at dksX7_many_2 15 rfl rfl)
theorem dX7_many_63 : decode cX7_many 63 = .ok (.checkcast 23, 3) := dk_192 0 23 (dk_at dksX7_many_2 18 rfl rfl)
theorem dX7_many_66 : decode cX7_many 66 = .ok (.arraylength, 1) := dk_190 (dk_at dksX7_many_2 21 rfl rfl)
theorem dX7_many_67 : decode cX7_many 67 = .ok (.ireturn, 1) := dk_172 (dk_at dksX7_many_2 22 rfl rfl)
abbrev cX7_number : ByteArray := prog_12_method_4_code
def yX7_number : MethodName := ⟨RX7, "number", "(I)J"⟩
def dkwX7_number_3 : List UInt8 := [192, 0, 23, 27, 47, 173]
abbrev dktX7_number_3 : List UInt8 := dkwX7_number_3 ++ []
def dkwX7_number_2 : List UInt8 := [193, 0, 21, 153, 0, 16, 42, 180, 0, 9, 192, 0, 21, 27, 46, 133, 167, 0, 12, 42, 180, 0, 9]
abbrev dktX7_number_2 : List UInt8 := dkwX7_number_2 ++ dktX7_number_3
def dkwX7_number_1 : List UInt8 := [180, 0, 9, 193, 0, 19, 153, 0, 14, 42, 180, 0, 9, 192, 0, 19, 27, 53, 133, 173, 42, 180, 0, 9]
abbrev dktX7_number_1 : List UInt8 := dkwX7_number_1 ++ dktX7_number_2
def dkwX7_number_0 : List UInt8 := [42, 180, 0, 9, 193, 0, 17, 153, 0, 14, 42, 180, 0, 9, 192, 0, 17, 27, 51, 133, 173, 42]
abbrev dktX7_number_0 : List UInt8 := dkwX7_number_0 ++ dktX7_number_1
theorem dksX7_number_0 : cX7_number.data.toList.drop 0 = dktX7_number_0 := by decide +kernel
theorem dksX7_number_1 : cX7_number.data.toList.drop 22 = dktX7_number_1 := dk_seg dksX7_number_0 22 rfl rfl
theorem dksX7_number_2 : cX7_number.data.toList.drop 46 = dktX7_number_2 := dk_seg dksX7_number_1 24 rfl rfl
theorem dksX7_number_3 : cX7_number.data.toList.drop 69 = dktX7_number_3 := dk_seg dksX7_number_2 23 rfl rfl
theorem dX7_number_0 : decode cX7_number 0 = .ok (.aload_n 0, 1) := dk_42 (dk_at dksX7_number_0 0 rfl rfl)
theorem dX7_number_1 : decode cX7_number 1 = .ok (.getfield 9, 3) := dk_180 0 9 (dk_at dksX7_number_0 1 rfl rfl)
theorem dX7_number_4 : decode cX7_number 4 = .ok (.instanceof 17, 3) := dk_193 0 17 (dk_at dksX7_number_0 4 rfl rfl)
theorem dX7_number_7 : decode cX7_number 7 = .ok (.ifCond .eq 14, 3) := dk_153 0 14 (dk_at dksX7_number_0 7 rfl rfl)
theorem dX7_number_10 : decode cX7_number 10 = .ok (.aload_n 0, 1) := dk_42 (dk_at dksX7_number_0 10 rfl rfl)
theorem dX7_number_11 : decode cX7_number 11 = .ok (.getfield 9, 3) := dk_180 0 9 (dk_at dksX7_number_0 11 rfl rfl)
theorem dX7_number_14 : decode cX7_number 14 = .ok (.checkcast 17, 3) := dk_192 0 17 (dk_at dksX7_number_0 14 rfl rfl)
theorem dX7_number_17 : decode cX7_number 17 = .ok (.iload_n 1, 1) := dk_27 (dk_at dksX7_number_0 17 rfl rfl)
theorem dX7_number_18 : decode cX7_number 18 = .ok (.baload, 1) := dk_51 (dk_at dksX7_number_0 18 rfl rfl)
theorem dX7_number_19 : decode cX7_number 19 = .ok (.i2l, 1) := dk_133 (dk_at dksX7_number_0 19 rfl rfl)
theorem dX7_number_20 : decode cX7_number 20 = .ok (.lreturn, 1) := dk_173 (dk_at dksX7_number_0 20 rfl rfl)
theorem dX7_number_21 : decode cX7_number 21 = .ok (.aload_n 0, 1) := dk_42 (dk_at dksX7_number_0 21 rfl rfl)
theorem dX7_number_22 : decode cX7_number 22 = .ok (.getfield 9, 3) := dk_180 0 9 (dk_at dksX7_number_1 0 rfl rfl)
theorem dX7_number_25 : decode cX7_number 25 = .ok (.instanceof 19, 3) := dk_193 0 19 (dk_at dksX7_number_1 3 rfl rfl)
theorem dX7_number_28 : decode cX7_number 28 = .ok (.ifCond .eq 14, 3) := dk_153 0 14 (dk_at dksX7_number_1 6 rfl rfl)
theorem dX7_number_31 : decode cX7_number 31 = .ok (.aload_n 0, 1) := dk_42 (dk_at dksX7_number_1 9 rfl rfl)
theorem dX7_number_32 : decode cX7_number 32 = .ok (.getfield 9, 3) := dk_180 0 9 (dk_at dksX7_number_1 10 rfl rfl)
theorem dX7_number_35 : decode cX7_number 35 = .ok (.checkcast 19, 3) := dk_192 0 19 (dk_at dksX7_number_1 13 rfl rfl)
theorem dX7_number_38 : decode cX7_number 38 = .ok (.iload_n 1, 1) := dk_27 (dk_at dksX7_number_1 16 rfl rfl)
theorem dX7_number_39 : decode cX7_number 39 = .ok (.saload, 1) := dk_53 (dk_at dksX7_number_1 17 rfl rfl)
theorem dX7_number_40 : decode cX7_number 40 = .ok (.i2l, 1) := dk_133 (dk_at dksX7_number_1 18 rfl rfl)
theorem dX7_number_41 : decode cX7_number 41 = .ok (.lreturn, 1) := dk_173 (dk_at dksX7_number_1 19 rfl rfl)
theorem dX7_number_42 : decode cX7_number 42 = .ok (.aload_n 0, 1) := dk_42 (dk_at dksX7_number_1 20 rfl rfl)
theorem dX7_number_43 : decode cX7_number 43 = .ok (.getfield 9, 3) := dk_180 0 9 (dk_at dksX7_number_1 21 rfl rfl)
theorem dX7_number_46 : decode cX7_number 46 = .ok (.instanceof 21, 3) := dk_193 0 21 (dk_at dksX7_number_2 0 rfl rfl)
theorem dX7_number_49 : decode cX7_number 49 = .ok (.ifCond .eq 16, 3) := dk_153 0 16 (dk_at dksX7_number_2 3 rfl rfl)
theorem dX7_number_52 : decode cX7_number 52 = .ok (.aload_n 0, 1) := dk_42 (dk_at dksX7_number_2 6 rfl rfl)
theorem dX7_number_53 : decode cX7_number 53 = .ok (.getfield 9, 3) := dk_180 0 9 (dk_at dksX7_number_2 7 rfl rfl)
theorem dX7_number_56 : decode cX7_number 56 = .ok (.checkcast 21, 3) := dk_192 0 21 (dk_at dksX7_number_2 10 rfl rfl)
theorem dX7_number_59 : decode cX7_number 59 = .ok (.iload_n 1, 1) := dk_27 (dk_at dksX7_number_2 13 rfl rfl)
theorem dX7_number_60 : decode cX7_number 60 = .ok (.iaload, 1) := dk_46 (dk_at dksX7_number_2 14 rfl rfl)
theorem dX7_number_61 : decode cX7_number 61 = .ok (.i2l, 1) := dk_133 (dk_at dksX7_number_2 15 rfl rfl)
theorem dX7_number_62 : decode cX7_number 62 = .ok (.goto 12, 3) := dk_167 0 12 (dk_at dksX7_number_2 16 rfl rfl)
theorem dX7_number_65 : decode cX7_number 65 = .ok (.aload_n 0, 1) := dk_42 (dk_at dksX7_number_2 19 rfl rfl)
theorem dX7_number_66 : decode cX7_number 66 = .ok (.getfield 9, 3) := dk_180 0 9 (dk_at dksX7_number_2 20 rfl rfl)
theorem dX7_number_69 : decode cX7_number 69 = .ok (.checkcast 23, 3) := dk_192 0 23 (dk_at dksX7_number_3 0 rfl rfl)
theorem dX7_number_72 : decode cX7_number 72 = .ok (.iload_n 1, 1) := dk_27 (dk_at dksX7_number_3 3 rfl rfl)
theorem dX7_number_73 : decode cX7_number 73 = .ok (.laload, 1) := dk_47 (dk_at dksX7_number_3 4 rfl rfl)
theorem dX7_number_74 : decode cX7_number 74 = .ok (.lreturn, 1) := dk_173 (dk_at dksX7_number_3 5 rfl rfl)
theorem q121 : (Jvm.Cond.initialized "FrostRing$Slot") ∈ lw_all := lw_g (lw_at lw_m1 17 rfl) rfl
theorem q153 : (Jvm.Cond.instanceMethod ({ cls := "FrostRing$Slot", name := "begins", desc := "(II)Z" } : Jvm.MethodName)) ∈ lw_all := lw_g (lw_at lw_m1 49 rfl) rfl
theorem q154 : (Jvm.Cond.selects "FrostRing$Slot" ({ cls := "FrostRing$Slot", name := "begins", desc := "(II)Z" } : Jvm.MethodName) ({ cls := "FrostRing$Slot", name := "begins", desc := "(II)Z" } : Jvm.MethodName)) ∈ lw_all := lw_g (lw_at lw_m1 50 rfl) rfl
theorem q155 : (Jvm.Cond.codeWith ({ cls := "FrostRing$Slot", name := "begins", desc := "(II)Z" } : Jvm.MethodName) prog_12_method_2_code (4 : Nat) (Option.some Jvm.ClassFile.FieldType.boolean) [((0 : Nat), (65 : Nat), (68 : Nat), (15 : Nat))]) ∈ lw_all := lw_g (lw_at lw_m1 51 rfl) rfl
theorem q156 : (Jvm.Cond.classLink "FrostRing$Slot" (15 : Nat) "java/lang/NegativeArraySizeException") ∈ lw_all := lw_g (lw_at lw_m1 52 rfl) rfl
theorem q252 : (Jvm.Cond.instanceMethod ({ cls := "FrostRing$Slot", name := "puts", desc := "(IJ)I" } : Jvm.MethodName)) ∈ lw_all := lw_g (lw_at lw_m1 148 rfl) rfl
theorem q253 : (Jvm.Cond.selects "FrostRing$Slot" ({ cls := "FrostRing$Slot", name := "puts", desc := "(IJ)I" } : Jvm.MethodName) ({ cls := "FrostRing$Slot", name := "puts", desc := "(IJ)I" } : Jvm.MethodName)) ∈ lw_all := lw_g (lw_at lw_m1 149 rfl) rfl
theorem q254 : (Jvm.Cond.codeWith ({ cls := "FrostRing$Slot", name := "puts", desc := "(IJ)I" } : Jvm.MethodName) prog_12_method_5_code (5 : Nat) (Option.some Jvm.ClassFile.FieldType.int) [((0 : Nat), (6 : Nat), (9 : Nat), (29 : Nat)), ((0 : Nat), (6 : Nat), (14 : Nat), (31 : Nat))]) ∈ lw_all := lw_g (lw_at lw_m1 150 rfl) rfl
theorem q255 : (Jvm.Cond.classLink "FrostRing$Slot" (29 : Nat) "java/lang/NullPointerException") ∈ lw_all := lw_g (lw_at lw_m1 151 rfl) rfl
theorem q280 : (Jvm.Cond.classLink "FrostRing$Slot" (31 : Nat) "java/lang/ArrayIndexOutOfBoundsException") ∈ lw_all := lw_g (lw_at lw_m1 176 rfl) rfl
theorem q299 : (Jvm.Cond.methodLink "FrostRing$Slot" (25 : Nat) ({ cls := "FrostRing$Slot", name := "put", desc := "(IJ)V" } : Jvm.MethodName)) ∈ lw_all := lw_g (lw_at lw_m1 195 rfl) rfl
theorem q300 : (Jvm.Cond.privateMethod ({ cls := "FrostRing$Slot", name := "put", desc := "(IJ)V" } : Jvm.MethodName)) ∈ lw_tbl := lw_at lw_m1 196 rfl
theorem q301 : (Jvm.Cond.instanceMethod ({ cls := "FrostRing$Slot", name := "put", desc := "(IJ)V" } : Jvm.MethodName)) ∈ lw_all := lw_g (lw_at lw_m1 197 rfl) rfl
theorem q302 : (Jvm.Cond.instantiable "FrostRing$Slot" (1 : Nat)) ∈ lw_all := lw_g (lw_at lw_m1 198 rfl) rfl
theorem q303 : (Jvm.Cond.code ({ cls := "FrostRing$Slot", name := "put", desc := "(IJ)V" } : Jvm.MethodName) prog_12_method_6_code (5 : Nat) (Option.none : Option Jvm.ClassFile.FieldType)) ∈ lw_all := lw_g (lw_at lw_m1 199 rfl) rfl
theorem q304 : (Jvm.Cond.classLink "FrostRing$Slot" (17 : Nat) "[B") ∈ lw_all := lw_g (lw_at lw_m1 200 rfl) rfl
theorem q305 : (Jvm.Cond.classLink "FrostRing$Slot" (19 : Nat) "[S") ∈ lw_all := lw_g (lw_at lw_m1 201 rfl) rfl
theorem q306 : (Jvm.Cond.methodLink "FrostRing$Slot" (33 : Nat) ({ cls := "FrostRing$Slot", name := "putWider", desc := "(IJ)V" } : Jvm.MethodName)) ∈ lw_all := lw_g (lw_at lw_m1 202 rfl) rfl
theorem q307 : (Jvm.Cond.privateMethod ({ cls := "FrostRing$Slot", name := "putWider", desc := "(IJ)V" } : Jvm.MethodName)) ∈ lw_tbl := lw_at lw_m1 203 rfl
theorem q308 : (Jvm.Cond.instanceMethod ({ cls := "FrostRing$Slot", name := "putWider", desc := "(IJ)V" } : Jvm.MethodName)) ∈ lw_all := lw_g (lw_at lw_m1 204 rfl) rfl
theorem q309 : (Jvm.Cond.codeWith ({ cls := "FrostRing$Slot", name := "putWider", desc := "(IJ)V" } : Jvm.MethodName) prog_12_method_7_code (6 : Nat) (Option.none : Option Jvm.ClassFile.FieldType) [((0 : Nat), (15 : Nat), (18 : Nat), (36 : Nat))]) ∈ lw_all := lw_g (lw_at lw_m1 205 rfl) rfl
theorem q310 : (Jvm.Cond.classLink "FrostRing$Slot" (36 : Nat) "java/lang/ClassCastException") ∈ lw_all := lw_g (lw_at lw_m1 206 rfl) rfl
theorem q324 : (Jvm.Cond.classLink "FrostRing$Slot" (21 : Nat) "[I") ∈ lw_all := lw_g (lw_at lw_m1 220 rfl) rfl
theorem q325 : (Jvm.Cond.classLink "FrostRing$Slot" (23 : Nat) "[J") ∈ lw_all := lw_g (lw_at lw_m1 221 rfl) rfl
theorem q331 : (Jvm.Cond.instanceMethod ({ cls := "FrostRing$Slot", name := "pastes", desc := "(ILFrostRing$Slot;II)I" } : Jvm.MethodName)) ∈ lw_all := lw_g (lw_at lw_m1 227 rfl) rfl
theorem q332 : (Jvm.Cond.selects "FrostRing$Slot" ({ cls := "FrostRing$Slot", name := "pastes", desc := "(ILFrostRing$Slot;II)I" } : Jvm.MethodName) ({ cls := "FrostRing$Slot", name := "pastes", desc := "(ILFrostRing$Slot;II)I" } : Jvm.MethodName)) ∈ lw_all := lw_g (lw_at lw_m1 228 rfl) rfl
theorem q333 : (Jvm.Cond.codeWith ({ cls := "FrostRing$Slot", name := "pastes", desc := "(ILFrostRing$Slot;II)I" } : Jvm.MethodName) prog_12_method_9_code (6 : Nat) (Option.some Jvm.ClassFile.FieldType.int) [((31 : Nat), (46 : Nat), (49 : Nat), (48 : Nat))]) ∈ lw_all := lw_g (lw_at lw_m1 229 rfl) rfl
theorem q334 : (Jvm.Cond.classLink "FrostRing$Slot" (48 : Nat) "java/lang/IndexOutOfBoundsException") ∈ lw_all := lw_g (lw_at lw_m1 230 rfl) rfl
theorem q335 : (Jvm.Cond.methodLink "FrostRing$Slot" (38 : Nat) ({ cls := "FrostRing$Slot", name := "width", desc := "()I" } : Jvm.MethodName)) ∈ lw_all := lw_g (lw_at lw_m1 231 rfl) rfl
theorem q336 : (Jvm.Cond.privateMethod ({ cls := "FrostRing$Slot", name := "width", desc := "()I" } : Jvm.MethodName)) ∈ lw_tbl := lw_at lw_m1 232 rfl
theorem q337 : (Jvm.Cond.instanceMethod ({ cls := "FrostRing$Slot", name := "width", desc := "()I" } : Jvm.MethodName)) ∈ lw_all := lw_g (lw_at lw_m1 233 rfl) rfl
theorem q338 : (Jvm.Cond.code ({ cls := "FrostRing$Slot", name := "width", desc := "()I" } : Jvm.MethodName) prog_12_method_8_code (1 : Nat) (Option.some Jvm.ClassFile.FieldType.int)) ∈ lw_all := lw_g (lw_at lw_m1 234 rfl) rfl
theorem q339 : (Jvm.Cond.methodLink "FrostRing$Slot" (42 : Nat) ({ cls := "java/lang/System", name := "arraycopy", desc := "(Ljava/lang/Object;ILjava/lang/Object;II)V" } : Jvm.MethodName)) ∈ lw_all := lw_g (lw_at lw_m1 235 rfl) rfl
theorem q617 : (Jvm.Cond.selects "FrostRing$Slot" ({ cls := "java/lang/Object", name := "getClass", desc := "()Ljava/lang/Class;" } : Jvm.MethodName) ({ cls := "java/lang/Object", name := "getClass", desc := "()Ljava/lang/Class;" } : Jvm.MethodName)) ∈ lw_all := lw_g (lw_at lw_m3 33 rfl) rfl
theorem q746 : (Jvm.Cond.instanceMethod ({ cls := "FrostRing$Slot", name := "<init>", desc := "()V" } : Jvm.MethodName)) ∈ lw_all := lw_g (lw_at lw_m3 162 rfl) rfl
theorem q747 : (Jvm.Cond.code ({ cls := "FrostRing$Slot", name := "<init>", desc := "()V" } : Jvm.MethodName) prog_12_method_1_code (1 : Nat) (Option.none : Option Jvm.ClassFile.FieldType)) ∈ lw_all := lw_g (lw_at lw_m3 163 rfl) rfl
theorem q748 : (Jvm.Cond.methodLink "FrostRing$Slot" (3 : Nat) ({ cls := "java/lang/Object", name := "<init>", desc := "()V" } : Jvm.MethodName)) ∈ lw_all := lw_g (lw_at lw_m3 164 rfl) rfl
theorem q749 : (Jvm.Cond.fieldLink "FrostRing$Slot" (9 : Nat) "FrostRing$Slot" "held" "Ljava/lang/Object;") ∈ lw_all := lw_g (lw_at lw_m3 165 rfl) rfl
theorem q751 : (Jvm.Cond.lays "FrostRing$Slot" "FrostRing$Slot" "held" "Ljava/lang/Object;") ∈ lw_all := lw_g (lw_at lw_m3 167 rfl) rfl
theorem q752 : (Jvm.Cond.soleField "FrostRing$Slot" "held") ∈ lw_all := lw_g (lw_at lw_m3 168 rfl) rfl
theorem q753 : (Jvm.Cond.superclass "FrostRing$Slot" "java/lang/Object") ∈ lw_all := lw_g (lw_at lw_m3 169 rfl) rfl
theorem q1413 : (Jvm.Cond.instanceMethod ({ cls := "FrostRing$Slot", name := "many", desc := "()I" } : Jvm.MethodName)) ∈ lw_all := lw_g (lw_at lw_m6 109 rfl) rfl
theorem q1414 : (Jvm.Cond.selects "FrostRing$Slot" ({ cls := "FrostRing$Slot", name := "many", desc := "()I" } : Jvm.MethodName) ({ cls := "FrostRing$Slot", name := "many", desc := "()I" } : Jvm.MethodName)) ∈ lw_all := lw_g (lw_at lw_m6 110 rfl) rfl
theorem q1415 : (Jvm.Cond.code ({ cls := "FrostRing$Slot", name := "many", desc := "()I" } : Jvm.MethodName) prog_12_method_3_code (1 : Nat) (Option.some Jvm.ClassFile.FieldType.int)) ∈ lw_all := lw_g (lw_at lw_m6 111 rfl) rfl
theorem q1421 : (Jvm.Cond.instanceMethod ({ cls := "FrostRing$Slot", name := "number", desc := "(I)J" } : Jvm.MethodName)) ∈ lw_all := lw_g (lw_at lw_m6 117 rfl) rfl
theorem q1422 : (Jvm.Cond.selects "FrostRing$Slot" ({ cls := "FrostRing$Slot", name := "number", desc := "(I)J" } : Jvm.MethodName) ({ cls := "FrostRing$Slot", name := "number", desc := "(I)J" } : Jvm.MethodName)) ∈ lw_all := lw_g (lw_at lw_m6 118 rfl) rfl
theorem q1423 : (Jvm.Cond.code ({ cls := "FrostRing$Slot", name := "number", desc := "(I)J" } : Jvm.MethodName) prog_12_method_4_code (2 : Nat) (Option.some Jvm.ClassFile.FieldType.long)) ∈ lw_all := lw_g (lw_at lw_m6 119 rfl) rfl
theorem q2038 : (Jvm.Cond.castable "FrostRing$Slot" "java/lang/Object") ∈ lw_tbl := lw_at lw_m9 14 rfl
theorem in_X7 : ∀ w ∈ wsX70, w ∈ lw_all := lw_in wsX70 [751] (by decide +kernel) (by decide +kernel)
/-! FrostRing$Wrong -/
set_option maxRecDepth 100000
def RX9 : String := "FrostRing$Wrong"
def TX9 : u_T := fun k => match k with
  | 0 => ("java/lang/Throwable", "cause", "Ljava/lang/Throwable;", false)
  | 1 => ("java/lang/Throwable", "stackTrace", "[Ljava/lang/StackTraceElement;", false)
  | 2 => ("java/lang/Throwable", "suppressedExceptions", "Ljava/util/List;", false)
  | 3 => ("java/lang/Throwable", "detailMessage", "Ljava/lang/String;", false)
  | 4 => ("java/lang/Throwable", "backtrace", "Ljava/lang/Object;", false)
  | 5 => ("java/lang/Throwable", "depth", "I", false)
  | 6 => ("FrostRing$Wrong", "kind", "I", true)
  | _ => ("FrostRing$Wrong", "place", "I", true)
def tyX9 : Nat → FieldType := fun k => match k with
  | 0 => .object "java/lang/Throwable"
  | 1 => .array (.object "java/lang/StackTraceElement")
  | 2 => .object "java/util/List"
  | 3 => .object "java/lang/String"
  | 4 => .object "java/lang/Object"
  | 5 => .int
  | 6 => .int
  | _ => .int
abbrev wsX90 : List Cond := u_ws RX9 TX9 8
theorem nmX9 : ∀ a, a < 8 → ∀ b, b < 8 → a ≠ b → (TX9 a).2.1 ≠ (TX9 b).2.1 := by decide +kernel
theorem tyX9_ok : ∀ k, k < 8 → parseFieldDescriptor (TX9 k).2.2.1 = some (tyX9 k) := by decide +kernel
abbrev cX9_init : ByteArray := prog_14_method_1_code
def yX9_init : MethodName := ⟨RX9, "<init>", "(II)V"⟩
def dkwX9_init_0 : List UInt8 := [42, 1, 1, 3, 3, 183, 0, 1, 42, 27, 181, 0, 7, 42, 28, 181, 0, 13, 177]
abbrev dktX9_init_0 : List UInt8 := dkwX9_init_0 ++ []
theorem dksX9_init_0 : cX9_init.data.toList.drop 0 = dktX9_init_0 := by decide +kernel
theorem dX9_init_0 : decode cX9_init 0 = .ok (.aload_n 0, 1) := dk_42 (dk_at dksX9_init_0 0 rfl rfl)
theorem dX9_init_1 : decode cX9_init 1 = .ok (.aconst_null, 1) := dk_1 (dk_at dksX9_init_0 1 rfl rfl)
theorem dX9_init_2 : decode cX9_init 2 = .ok (.aconst_null, 1) := dk_1 (dk_at dksX9_init_0 2 rfl rfl)
theorem dX9_init_3 : decode cX9_init 3 = .ok (.iconst 0, 1) := dk_3 (dk_at dksX9_init_0 3 rfl rfl)
theorem dX9_init_4 : decode cX9_init 4 = .ok (.iconst 0, 1) := dk_3 (dk_at dksX9_init_0 4 rfl rfl)
theorem dX9_init_5 : decode cX9_init 5 = .ok (.invokespecial 1, 3) := dk_183 0 1 (dk_at dksX9_init_0 5 rfl rfl)
theorem dX9_init_8 : decode cX9_init 8 = .ok (.aload_n 0, 1) := dk_42 (dk_at dksX9_init_0 8 rfl rfl)
theorem dX9_init_9 : decode cX9_init 9 = .ok (.iload_n 1, 1) := dk_27 (dk_at dksX9_init_0 9 rfl rfl)
theorem dX9_init_10 : decode cX9_init 10 = .ok (.putfield 7, 3) := dk_181 0 7 (dk_at dksX9_init_0 10 rfl rfl)
theorem dX9_init_13 : decode cX9_init 13 = .ok (.aload_n 0, 1) := dk_42 (dk_at dksX9_init_0 13 rfl rfl)
theorem dX9_init_14 : decode cX9_init 14 = .ok (.iload_n 2, 1) := dk_28 (dk_at dksX9_init_0 14 rfl rfl)
theorem dX9_init_15 : decode cX9_init 15 = .ok (.putfield 13, 3) := dk_181 0 13 (dk_at dksX9_init_0 15 rfl rfl)
theorem dX9_init_18 : decode cX9_init 18 = .ok (.return_, 1) := dk_177 (dk_at dksX9_init_0 18 rfl rfl)
theorem q128 : (Jvm.Cond.initialized "FrostRing$Wrong") ∈ lw_all := lw_g (lw_at lw_m1 24 rfl) rfl
theorem q179 : (Jvm.Cond.selects "FrostRing$Wrong" ({ cls := "java/lang/Throwable", name := "fillInStackTrace", desc := "()Ljava/lang/Throwable;" } : Jvm.MethodName) ({ cls := "java/lang/Throwable", name := "fillInStackTrace", desc := "()Ljava/lang/Throwable;" } : Jvm.MethodName)) ∈ lw_all := lw_g (lw_at lw_m1 75 rfl) rfl
theorem q619 : (Jvm.Cond.selects "FrostRing$Wrong" ({ cls := "java/lang/Object", name := "getClass", desc := "()Ljava/lang/Class;" } : Jvm.MethodName) ({ cls := "java/lang/Object", name := "getClass", desc := "()Ljava/lang/Class;" } : Jvm.MethodName)) ∈ lw_all := lw_g (lw_at lw_m3 35 rfl) rfl
theorem q936 : (Jvm.Cond.instantiable "FrostRing$Wrong" (8 : Nat)) ∈ lw_all := lw_g (lw_at lw_m4 112 rfl) rfl
theorem q937 : (Jvm.Cond.castable "FrostRing$Wrong" "FrostRing$Wrong") ∈ lw_tbl := lw_at lw_m4 113 rfl
theorem q938 : (Jvm.Cond.selects "FrostRing$Wrong" ({ cls := "java/lang/Throwable", name := "fillInStackTrace", desc := "(I)Ljava/lang/Throwable;" } : Jvm.MethodName) ({ cls := "java/lang/Throwable", name := "fillInStackTrace", desc := "(I)Ljava/lang/Throwable;" } : Jvm.MethodName)) ∈ lw_all := lw_g (lw_at lw_m4 114 rfl) rfl
theorem q939 : (Jvm.Cond.lays "FrostRing$Wrong" "java/lang/Throwable" "cause" "Ljava/lang/Throwable;") ∈ lw_all := lw_g (lw_at lw_m4 115 rfl) rfl
theorem q940 : (Jvm.Cond.lays "FrostRing$Wrong" "java/lang/Throwable" "stackTrace" "[Ljava/lang/StackTraceElement;") ∈ lw_all := lw_g (lw_at lw_m4 116 rfl) rfl
theorem q941 : (Jvm.Cond.lays "FrostRing$Wrong" "java/lang/Throwable" "suppressedExceptions" "Ljava/util/List;") ∈ lw_all := lw_g (lw_at lw_m4 117 rfl) rfl
theorem q942 : (Jvm.Cond.lays "FrostRing$Wrong" "java/lang/Throwable" "detailMessage" "Ljava/lang/String;") ∈ lw_all := lw_g (lw_at lw_m4 118 rfl) rfl
theorem q943 : (Jvm.Cond.lays "FrostRing$Wrong" "java/lang/Throwable" "backtrace" "Ljava/lang/Object;") ∈ lw_all := lw_g (lw_at lw_m4 119 rfl) rfl
theorem q945 : (Jvm.Cond.instanceMethod ({ cls := "FrostRing$Wrong", name := "<init>", desc := "(II)V" } : Jvm.MethodName)) ∈ lw_all := lw_g (lw_at lw_m4 121 rfl) rfl
theorem q946 : (Jvm.Cond.code ({ cls := "FrostRing$Wrong", name := "<init>", desc := "(II)V" } : Jvm.MethodName) prog_14_method_1_code (3 : Nat) (Option.none : Option Jvm.ClassFile.FieldType)) ∈ lw_all := lw_g (lw_at lw_m4 122 rfl) rfl
theorem q947 : (Jvm.Cond.methodLink "FrostRing$Wrong" (1 : Nat) ({ cls := "java/lang/Exception", name := "<init>", desc := "(Ljava/lang/String;Ljava/lang/Throwable;ZZ)V" } : Jvm.MethodName)) ∈ lw_all := lw_g (lw_at lw_m4 123 rfl) rfl
theorem q953 : (Jvm.Cond.fieldLink "FrostRing$Wrong" (7 : Nat) "FrostRing$Wrong" "kind" "I") ∈ lw_all := lw_g (lw_at lw_m4 129 rfl) rfl
theorem q955 : (Jvm.Cond.fieldLink "FrostRing$Wrong" (13 : Nat) "FrostRing$Wrong" "place" "I") ∈ lw_all := lw_g (lw_at lw_m4 131 rfl) rfl
theorem q957 : (Jvm.Cond.laysFinal "FrostRing$Wrong" "FrostRing$Wrong" "kind" "I") ∈ lw_all := lw_g (lw_at lw_m4 133 rfl) rfl
theorem q958 : (Jvm.Cond.soleField "FrostRing$Wrong" "kind") ∈ lw_all := lw_g (lw_at lw_m4 134 rfl) rfl
theorem q959 : (Jvm.Cond.laysFinal "FrostRing$Wrong" "FrostRing$Wrong" "place" "I") ∈ lw_all := lw_g (lw_at lw_m4 135 rfl) rfl
theorem q960 : (Jvm.Cond.soleField "FrostRing$Wrong" "place") ∈ lw_all := lw_g (lw_at lw_m4 136 rfl) rfl
theorem q961 : (Jvm.Cond.lays "FrostRing$Wrong" "java/lang/Throwable" "depth" "I") ∈ lw_all := lw_g (lw_at lw_m4 137 rfl) rfl
theorem q962 : (Jvm.Cond.superclass "FrostRing$Wrong" "java/lang/Exception") ∈ lw_all := lw_g (lw_at lw_m4 138 rfl) rfl
theorem q2050 : (Jvm.Cond.castable "FrostRing$Wrong" "java/lang/Object") ∈ lw_tbl := lw_at lw_m9 26 rfl
theorem in_X9 : ∀ w ∈ wsX90, w ∈ lw_all := lw_in wsX90 [939, 940, 941, 942, 943, 961, 957, 959] (by decide +kernel) (by decide +kernel)
/-! FrostRing$Rule -/
set_option maxRecDepth 100000
def RX10 : String := "FrostRing$Rule"
def TX10 : u_T := fun k => match k with
  | 0 => ("FrostRing$Rule", "conds", "[LFrostRing$Cond;", true)
  | _ => ("FrostRing$Rule", "many", "I", false)
def tyX10 : Nat → FieldType := fun k => match k with
  | 0 => .array (.object "FrostRing$Cond")
  | _ => .int
abbrev wsX100 : List Cond := u_ws RX10 TX10 2
theorem nmX10 : ∀ a, a < 2 → ∀ b, b < 2 → a ≠ b → (TX10 a).2.1 ≠ (TX10 b).2.1 := by decide +kernel
theorem tyX10_ok : ∀ k, k < 2 → parseFieldDescriptor (TX10 k).2.2.1 = some (tyX10 k) := by decide +kernel
abbrev cX10_init : ByteArray := prog_10_method_1_code
def yX10_init : MethodName := ⟨RX10, "<init>", "()V"⟩
def dkwX10_init_0 : List UInt8 := [42, 183, 0, 3, 42, 6, 189, 0, 9, 181, 0, 11, 177]
abbrev dktX10_init_0 : List UInt8 := dkwX10_init_0 ++ []
theorem dksX10_init_0 : cX10_init.data.toList.drop 0 = dktX10_init_0 := by decide +kernel
theorem dX10_init_0 : decode cX10_init 0 = .ok (.aload_n 0, 1) := dk_42 (dk_at dksX10_init_0 0 rfl rfl)
theorem dX10_init_1 : decode cX10_init 1 = .ok (.invokespecial 3, 3) := dk_183 0 3 (dk_at dksX10_init_0 1 rfl rfl)
theorem dX10_init_4 : decode cX10_init 4 = .ok (.aload_n 0, 1) := dk_42 (dk_at dksX10_init_0 4 rfl rfl)
theorem dX10_init_5 : decode cX10_init 5 = .ok (.iconst 3, 1) := dk_6 (dk_at dksX10_init_0 5 rfl rfl)
theorem dX10_init_6 : decode cX10_init 6 = .ok (.anewarray 9, 3) := dk_189 0 9 (dk_at dksX10_init_0 6 rfl rfl)
theorem dX10_init_9 : decode cX10_init 9 = .ok (.putfield 11, 3) := dk_181 0 11 (dk_at dksX10_init_0 9 rfl rfl)
theorem dX10_init_12 : decode cX10_init 12 = .ok (.return_, 1) := dk_177 (dk_at dksX10_init_0 12 rfl rfl)
abbrev cX10_lacks : ByteArray := prog_10_method_2_code
def yX10_lacks : MethodName := ⟨RX10, "lacks", "(LFrostRing;)I"⟩
def dkwX10_lacks_1 : List UInt8 := [153, 0, 7, 3, 167, 0, 6, 4, 29, 120, 128, 61, 132, 3, 1, 167, 255, 222, 28, 172]
abbrev dktX10_lacks_1 : List UInt8 := dkwX10_lacks_1 ++ []
def dkwX10_lacks_0 : List UInt8 := [3, 61, 3, 62, 29, 42, 180, 0, 17, 162, 0, 32, 28, 42, 180, 0, 11, 29, 50, 43, 182, 0, 21]
abbrev dktX10_lacks_0 : List UInt8 := dkwX10_lacks_0 ++ dktX10_lacks_1
theorem dksX10_lacks_0 : cX10_lacks.data.toList.drop 0 = dktX10_lacks_0 := by decide +kernel
theorem dksX10_lacks_1 : cX10_lacks.data.toList.drop 23 = dktX10_lacks_1 := dk_seg dksX10_lacks_0 23 rfl rfl
theorem dX10_lacks_0 : decode cX10_lacks 0 = .ok (.iconst 0, 1) := dk_3 (dk_at dksX10_lacks_0 0 rfl rfl)
theorem dX10_lacks_1 : decode cX10_lacks 1 = .ok (.istore_n 2, 1) := dk_61 (dk_at dksX10_lacks_0 1 rfl rfl)
theorem dX10_lacks_2 : decode cX10_lacks 2 = .ok (.iconst 0, 1) := dk_3 (dk_at dksX10_lacks_0 2 rfl rfl)
theorem dX10_lacks_3 : decode cX10_lacks 3 = .ok (.istore_n 3, 1) := dk_62 (dk_at dksX10_lacks_0 3 rfl rfl)
theorem dX10_lacks_4 : decode cX10_lacks 4 = .ok (.iload_n 3, 1) := dk_29 (dk_at dksX10_lacks_0 4 rfl rfl)
theorem dX10_lacks_5 : decode cX10_lacks 5 = .ok (.aload_n 0, 1) := dk_42 (dk_at dksX10_lacks_0 5 rfl rfl)
theorem dX10_lacks_6 : decode cX10_lacks 6 = .ok (.getfield 17, 3) := dk_180 0 17 (dk_at dksX10_lacks_0 6 rfl rfl)
theorem dX10_lacks_9 : decode cX10_lacks 9 = .ok (.if_icmp .ge 32, 3) := dk_162 0 32 (dk_at dksX10_lacks_0 9 rfl rfl)
theorem dX10_lacks_12 : decode cX10_lacks 12 = .ok (.iload_n 2, 1) := dk_28 (dk_at dksX10_lacks_0 12 rfl rfl)
theorem dX10_lacks_13 : decode cX10_lacks 13 = .ok (.aload_n 0, 1) := dk_42 (dk_at dksX10_lacks_0 13 rfl rfl)
theorem dX10_lacks_14 : decode cX10_lacks 14 = .ok (.getfield 11, 3) := dk_180 0 11 (dk_at dksX10_lacks_0 14 rfl rfl)
theorem dX10_lacks_17 : decode cX10_lacks 17 = .ok (.iload_n 3, 1) := dk_29 (dk_at dksX10_lacks_0 17 rfl rfl)
theorem dX10_lacks_18 : decode cX10_lacks 18 = .ok (.aaload, 1) := dk_50 (dk_at dksX10_lacks_0 18 rfl rfl)
theorem dX10_lacks_19 : decode cX10_lacks 19 = .ok (.aload_n 1, 1) := dk_43 (dk_at dksX10_lacks_0 19 rfl rfl)
theorem dX10_lacks_20 : decode cX10_lacks 20 = .ok (.invokevirtual 21, 3) := dk_182 0 21 (dk_at dksX10_lacks_0 20 rfl rfl)
theorem dX10_lacks_23 : decode cX10_lacks 23 = .ok (.ifCond .eq 7, 3) := dk_153 0 7 (dk_at dksX10_lacks_1 0 rfl rfl)
theorem dX10_lacks_26 : decode cX10_lacks 26 = .ok (.iconst 0, 1) := dk_3 (dk_at dksX10_lacks_1 3 rfl rfl)
theorem dX10_lacks_27 : decode cX10_lacks 27 = .ok (.goto 6, 3) := dk_167 0 6 (dk_at dksX10_lacks_1 4 rfl rfl)
theorem dX10_lacks_30 : decode cX10_lacks 30 = .ok (.iconst 1, 1) := dk_4 (dk_at dksX10_lacks_1 7 rfl rfl)
theorem dX10_lacks_31 : decode cX10_lacks 31 = .ok (.iload_n 3, 1) := dk_29 (dk_at dksX10_lacks_1 8 rfl rfl)
theorem dX10_lacks_32 : decode cX10_lacks 32 = .ok (.ishl, 1) := dk_120 (dk_at dksX10_lacks_1 9 rfl rfl)
theorem dX10_lacks_33 : decode cX10_lacks 33 = .ok (.ior, 1) := dk_128 (dk_at dksX10_lacks_1 10 rfl rfl)
theorem dX10_lacks_34 : decode cX10_lacks 34 = .ok (.istore_n 2, 1) := dk_61 (dk_at dksX10_lacks_1 11 rfl rfl)
theorem dX10_lacks_35 : decode cX10_lacks 35 = .ok (.iinc 3 1, 3) := dk_132 3 1 (dk_at dksX10_lacks_1 12 rfl rfl)
theorem dX10_lacks_38 : decode cX10_lacks 38 = .ok (.goto (-34), 3) := dk_167 255 222 (dk_at dksX10_lacks_1 15 rfl rfl)
theorem dX10_lacks_41 : decode cX10_lacks 41 = .ok (.iload_n 2, 1) := dk_28 (dk_at dksX10_lacks_1 18 rfl rfl)
theorem dX10_lacks_42 : decode cX10_lacks 42 = .ok (.ireturn, 1) := dk_172 (dk_at dksX10_lacks_1 19 rfl rfl)
theorem q129 : (Jvm.Cond.initialized "FrostRing$Rule") ∈ lw_all := lw_g (lw_at lw_m1 25 rfl) rfl
theorem q615 : (Jvm.Cond.selects "FrostRing$Rule" ({ cls := "java/lang/Object", name := "getClass", desc := "()Ljava/lang/Class;" } : Jvm.MethodName) ({ cls := "java/lang/Object", name := "getClass", desc := "()Ljava/lang/Class;" } : Jvm.MethodName)) ∈ lw_all := lw_g (lw_at lw_m3 31 rfl) rfl
theorem q1045 : (Jvm.Cond.instantiable "FrostRing$Rule" (2 : Nat)) ∈ lw_all := lw_g (lw_at lw_m4 221 rfl) rfl
theorem q1047 : (Jvm.Cond.instanceMethod ({ cls := "FrostRing$Rule", name := "<init>", desc := "()V" } : Jvm.MethodName)) ∈ lw_all := lw_g (lw_at lw_m4 223 rfl) rfl
theorem q1048 : (Jvm.Cond.code ({ cls := "FrostRing$Rule", name := "<init>", desc := "()V" } : Jvm.MethodName) prog_10_method_1_code (1 : Nat) (Option.none : Option Jvm.ClassFile.FieldType)) ∈ lw_all := lw_g (lw_at lw_m4 224 rfl) rfl
theorem q1049 : (Jvm.Cond.methodLink "FrostRing$Rule" (3 : Nat) ({ cls := "java/lang/Object", name := "<init>", desc := "()V" } : Jvm.MethodName)) ∈ lw_all := lw_g (lw_at lw_m4 225 rfl) rfl
theorem q1050 : (Jvm.Cond.classLink "FrostRing$Rule" (9 : Nat) "FrostRing$Cond") ∈ lw_all := lw_g (lw_at lw_m4 226 rfl) rfl
theorem q1052 : (Jvm.Cond.fieldLink "FrostRing$Rule" (11 : Nat) "FrostRing$Rule" "conds" "[LFrostRing$Cond;") ∈ lw_all := lw_g (lw_at lw_m4 228 rfl) rfl
theorem q1054 : (Jvm.Cond.fieldLink "FrostRing$Rule" (17 : Nat) "FrostRing$Rule" "many" "I") ∈ lw_all := lw_g (lw_at lw_m4 230 rfl) rfl
theorem q1056 : (Jvm.Cond.laysFinal "FrostRing$Rule" "FrostRing$Rule" "conds" "[LFrostRing$Cond;") ∈ lw_all := lw_g (lw_at lw_m4 232 rfl) rfl
theorem q1057 : (Jvm.Cond.soleField "FrostRing$Rule" "conds") ∈ lw_all := lw_g (lw_at lw_m4 233 rfl) rfl
theorem q1058 : (Jvm.Cond.lays "FrostRing$Rule" "FrostRing$Rule" "many" "I") ∈ lw_all := lw_g (lw_at lw_m4 234 rfl) rfl
theorem q1059 : (Jvm.Cond.soleField "FrostRing$Rule" "many") ∈ lw_all := lw_g (lw_at lw_m4 235 rfl) rfl
theorem q1060 : (Jvm.Cond.superclass "FrostRing$Rule" "java/lang/Object") ∈ lw_all := lw_g (lw_at lw_m4 236 rfl) rfl
theorem q1349 : (Jvm.Cond.instanceMethod ({ cls := "FrostRing$Rule", name := "lacks", desc := "(LFrostRing;)I" } : Jvm.MethodName)) ∈ lw_all := lw_g (lw_at lw_m6 45 rfl) rfl
theorem q1350 : (Jvm.Cond.selects "FrostRing$Rule" ({ cls := "FrostRing$Rule", name := "lacks", desc := "(LFrostRing;)I" } : Jvm.MethodName) ({ cls := "FrostRing$Rule", name := "lacks", desc := "(LFrostRing;)I" } : Jvm.MethodName)) ∈ lw_all := lw_g (lw_at lw_m6 46 rfl) rfl
theorem q1351 : (Jvm.Cond.code ({ cls := "FrostRing$Rule", name := "lacks", desc := "(LFrostRing;)I" } : Jvm.MethodName) prog_10_method_2_code (4 : Nat) (Option.some Jvm.ClassFile.FieldType.int)) ∈ lw_all := lw_g (lw_at lw_m6 47 rfl) rfl
theorem q1352 : (Jvm.Cond.methodLink "FrostRing$Rule" (21 : Nat) ({ cls := "FrostRing$Cond", name := "holds", desc := "(LFrostRing;)Z" } : Jvm.MethodName)) ∈ lw_all := lw_g (lw_at lw_m6 48 rfl) rfl
theorem q2051 : (Jvm.Cond.castable "FrostRing$Rule" "java/lang/Object") ∈ lw_tbl := lw_at lw_m9 27 rfl
theorem in_X10 : ∀ w ∈ wsX100, w ∈ lw_all := lw_in wsX100 [1056, 1058] (by decide +kernel) (by decide +kernel)
/-! FrostRing$Cond -/
set_option maxRecDepth 100000
def RX11 : String := "FrostRing$Cond"
abbrev cX11_init : ByteArray := prog_2_method_1_code
def yX11_init : MethodName := ⟨RX11, "<init>", "()V"⟩
theorem dX11_init_0 : decode cX11_init 0 = .ok (.aload_n 0, 1) := by decide +kernel
theorem dX11_init_1 : decode cX11_init 1 = .ok (.invokespecial 1, 3) := by decide +kernel
theorem dX11_init_4 : decode cX11_init 4 = .ok (.return_, 1) := by decide +kernel
theorem q130 : (Jvm.Cond.initialized "FrostRing$Cond") ∈ lw_all := lw_g (lw_at lw_m1 26 rfl) rfl
theorem q1068 : (Jvm.Cond.instanceMethod ({ cls := "FrostRing$Cond", name := "<init>", desc := "()V" } : Jvm.MethodName)) ∈ lw_all := lw_g (lw_at lw_m5 4 rfl) rfl
theorem q1069 : (Jvm.Cond.code ({ cls := "FrostRing$Cond", name := "<init>", desc := "()V" } : Jvm.MethodName) prog_2_method_1_code (1 : Nat) (Option.none : Option Jvm.ClassFile.FieldType)) ∈ lw_all := lw_g (lw_at lw_m5 5 rfl) rfl
theorem q1070 : (Jvm.Cond.methodLink "FrostRing$Cond" (1 : Nat) ({ cls := "java/lang/Object", name := "<init>", desc := "()V" } : Jvm.MethodName)) ∈ lw_all := lw_g (lw_at lw_m5 6 rfl) rfl
theorem q1353 : (Jvm.Cond.declares ({ cls := "FrostRing$Cond", name := "holds", desc := "(LFrostRing;)Z" } : Jvm.MethodName)) ∈ lw_tbl := lw_at lw_m6 49 rfl
theorem q1354 : (Jvm.Cond.sameMethod "FrostRing$Cond" "FrostRing$Cond" "holds" "(LFrostRing;)Z") ∈ lw_all := lw_g (lw_at lw_m6 50 rfl) rfl
theorem q2042 : (Jvm.Cond.castable "FrostRing$Cond" "java/lang/Object") ∈ lw_tbl := lw_at lw_m9 18 rfl
/-! FrostRing$Shut -/
set_option maxRecDepth 100000
def RX12 : String := "FrostRing$Shut"
abbrev cX12_init : ByteArray := prog_11_method_1_code
def yX12_init : MethodName := ⟨RX12, "<init>", "()V"⟩
theorem dX12_init_0 : decode cX12_init 0 = .ok (.aload_n 0, 1) := by decide +kernel
theorem dX12_init_1 : decode cX12_init 1 = .ok (.invokespecial 1, 3) := by decide +kernel
theorem dX12_init_4 : decode cX12_init 4 = .ok (.return_, 1) := by decide +kernel
abbrev cX12_holds : ByteArray := prog_11_method_2_code
def yX12_holds : MethodName := ⟨RX12, "holds", "(LFrostRing;)Z"⟩
def dkwX12_holds_1 : List UInt8 := [167, 0, 4, 3, 172]
abbrev dktX12_holds_1 : List UInt8 := dkwX12_holds_1 ++ []
def dkwX12_holds_0 : List UInt8 := [43, 180, 0, 7, 180, 0, 13, 182, 0, 19, 153, 0, 17, 43, 180, 0, 7, 182, 0, 25, 153, 0, 7, 4]
abbrev dktX12_holds_0 : List UInt8 := dkwX12_holds_0 ++ dktX12_holds_1
theorem dksX12_holds_0 : cX12_holds.data.toList.drop 0 = dktX12_holds_0 := by decide +kernel
theorem dksX12_holds_1 : cX12_holds.data.toList.drop 24 = dktX12_holds_1 := dk_seg dksX12_holds_0 24 rfl rfl
theorem dX12_holds_0 : decode cX12_holds 0 = .ok (.aload_n 1, 1) := dk_43 (dk_at dksX12_holds_0 0 rfl rfl)
theorem dX12_holds_1 : decode cX12_holds 1 = .ok (.getfield 7, 3) := dk_180 0 7 (dk_at dksX12_holds_0 1 rfl rfl)
theorem dX12_holds_4 : decode cX12_holds 4 = .ok (.getfield 13, 3) := dk_180 0 13 (dk_at dksX12_holds_0 4 rfl rfl)
theorem dX12_holds_7 : decode cX12_holds 7 = .ok (.invokevirtual 19, 3) := dk_182 0 19 (dk_at dksX12_holds_0 7 rfl rfl)
theorem dX12_holds_10 : decode cX12_holds 10 = .ok (.ifCond .eq 17, 3) := dk_153 0 17 (dk_at dksX12_holds_0 10 rfl rfl)
theorem dX12_holds_13 : decode cX12_holds 13 = .ok (.aload_n 1, 1) := dk_43 (dk_at dksX12_holds_0 13 rfl rfl)
theorem dX12_holds_14 : decode cX12_holds 14 = .ok (.getfield 7, 3) := dk_180 0 7 (dk_at dksX12_holds_0 14 rfl rfl)
theorem dX12_holds_17 : decode cX12_holds 17 = .ok (.invokevirtual 25, 3) := dk_182 0 25 (dk_at dksX12_holds_0 17 rfl rfl)
theorem dX12_holds_20 : decode cX12_holds 20 = .ok (.ifCond .eq 7, 3) := dk_153 0 7 (dk_at dksX12_holds_0 20 rfl rfl)
theorem dX12_holds_23 : decode cX12_holds 23 = .ok (.iconst 1, 1) := dk_4 (dk_at dksX12_holds_0 23 rfl rfl)
theorem dX12_holds_24 : decode cX12_holds 24 = .ok (.goto 4, 3) := dk_167 0 4 (dk_at dksX12_holds_1 0 rfl rfl)
theorem dX12_holds_27 : decode cX12_holds 27 = .ok (.iconst 0, 1) := dk_3 (dk_at dksX12_holds_1 3 rfl rfl)
theorem dX12_holds_28 : decode cX12_holds 28 = .ok (.ireturn, 1) := dk_172 (dk_at dksX12_holds_1 4 rfl rfl)
theorem q131 : (Jvm.Cond.initialized "FrostRing$Shut") ∈ lw_all := lw_g (lw_at lw_m1 27 rfl) rfl
theorem q616 : (Jvm.Cond.selects "FrostRing$Shut" ({ cls := "java/lang/Object", name := "getClass", desc := "()Ljava/lang/Class;" } : Jvm.MethodName) ({ cls := "java/lang/Object", name := "getClass", desc := "()Ljava/lang/Class;" } : Jvm.MethodName)) ∈ lw_all := lw_g (lw_at lw_m3 32 rfl) rfl
theorem q666 : (Jvm.Cond.fieldLinkNest "FrostRing$Shut" (13 : Nat) "FrostRing$Field" "told" "LFrostRing$Told;" "FrostRing") ∈ lw_tbl := lw_at lw_m3 82 rfl
theorem q755 : (Jvm.Cond.fieldLinkNest "FrostRing$Shut" (7 : Nat) "FrostRing" "now" "LFrostRing$Field;" "FrostRing") ∈ lw_tbl := lw_at lw_m3 171 rfl
theorem q1063 : (Jvm.Cond.instantiable "FrostRing$Shut" (0 : Nat)) ∈ lw_all := lw_g (lw_at lw_m4 239 rfl) rfl
theorem q1065 : (Jvm.Cond.instanceMethod ({ cls := "FrostRing$Shut", name := "<init>", desc := "()V" } : Jvm.MethodName)) ∈ lw_all := lw_g (lw_at lw_m5 1 rfl) rfl
theorem q1066 : (Jvm.Cond.code ({ cls := "FrostRing$Shut", name := "<init>", desc := "()V" } : Jvm.MethodName) prog_11_method_1_code (1 : Nat) (Option.none : Option Jvm.ClassFile.FieldType)) ∈ lw_all := lw_g (lw_at lw_m5 2 rfl) rfl
theorem q1067 : (Jvm.Cond.methodLinkNest "FrostRing$Shut" (1 : Nat) ({ cls := "FrostRing$Cond", name := "<init>", desc := "()V" } : Jvm.MethodName) "FrostRing") ∈ lw_tbl := lw_at lw_m5 3 rfl
theorem q1071 : (Jvm.Cond.superclass "FrostRing$Shut" "FrostRing$Cond") ∈ lw_all := lw_g (lw_at lw_m5 7 rfl) rfl
theorem q1368 : (Jvm.Cond.selects "FrostRing$Shut" ({ cls := "FrostRing$Cond", name := "holds", desc := "(LFrostRing;)Z" } : Jvm.MethodName) ({ cls := "FrostRing$Shut", name := "holds", desc := "(LFrostRing;)Z" } : Jvm.MethodName)) ∈ lw_all := lw_g (lw_at lw_m6 64 rfl) rfl
theorem q1369 : (Jvm.Cond.instanceMethod ({ cls := "FrostRing$Shut", name := "holds", desc := "(LFrostRing;)Z" } : Jvm.MethodName)) ∈ lw_all := lw_g (lw_at lw_m6 65 rfl) rfl
theorem q1370 : (Jvm.Cond.code ({ cls := "FrostRing$Shut", name := "holds", desc := "(LFrostRing;)Z" } : Jvm.MethodName) prog_11_method_2_code (2 : Nat) (Option.some Jvm.ClassFile.FieldType.boolean)) ∈ lw_all := lw_g (lw_at lw_m6 66 rfl) rfl
theorem q1371 : (Jvm.Cond.methodLink "FrostRing$Shut" (19 : Nat) ({ cls := "FrostRing$Told", name := "hasShaft", desc := "()Z" } : Jvm.MethodName)) ∈ lw_all := lw_g (lw_at lw_m6 67 rfl) rfl
theorem q1372 : (Jvm.Cond.methodLink "FrostRing$Shut" (25 : Nat) ({ cls := "FrostRing$Field", name := "isShut", desc := "()Z" } : Jvm.MethodName)) ∈ lw_all := lw_g (lw_at lw_m6 68 rfl) rfl
theorem q2052 : (Jvm.Cond.castable "FrostRing$Shut" "java/lang/Object") ∈ lw_tbl := lw_at lw_m9 28 rfl
theorem q2060 : (Jvm.Cond.castable "FrostRing$Shut" "FrostRing$Cond") ∈ lw_tbl := lw_at lw_m9 36 rfl
/-! FrostRing$Measure -/
set_option maxRecDepth 100000
def RX13 : String := "FrostRing$Measure"
def TX13 : u_T := fun k => match k with
  | 0 => ("FrostRing$Measure", "what", "I", true)
  | 1 => ("FrostRing$Measure", "n", "I", true)
  | _ => ("FrostRing$Measure", "isLess", "Z", true)
def tyX13 : Nat → FieldType := fun k => match k with
  | 0 => .int
  | 1 => .int
  | _ => .boolean
abbrev wsX130 : List Cond := u_ws RX13 TX13 3
theorem nmX13 : ∀ a, a < 3 → ∀ b, b < 3 → a ≠ b → (TX13 a).2.1 ≠ (TX13 b).2.1 := by decide +kernel
theorem tyX13_ok : ∀ k, k < 3 → parseFieldDescriptor (TX13 k).2.2.1 = some (tyX13 k) := by decide +kernel
abbrev cX13_init : ByteArray := prog_7_method_1_code
def yX13_init : MethodName := ⟨RX13, "<init>", "(IZI)V"⟩
def dkwX13_init_0 : List UInt8 := [42, 183, 0, 1, 42, 27, 181, 0, 7, 42, 28, 181, 0, 13, 42, 29, 181, 0, 17, 177]
abbrev dktX13_init_0 : List UInt8 := dkwX13_init_0 ++ []
theorem dksX13_init_0 : cX13_init.data.toList.drop 0 = dktX13_init_0 := by decide +kernel
theorem dX13_init_0 : decode cX13_init 0 = .ok (.aload_n 0, 1) := dk_42 (dk_at dksX13_init_0 0 rfl rfl)
theorem dX13_init_1 : decode cX13_init 1 = .ok (.invokespecial 1, 3) := dk_183 0 1 (dk_at dksX13_init_0 1 rfl rfl)
theorem dX13_init_4 : decode cX13_init 4 = .ok (.aload_n 0, 1) := dk_42 (dk_at dksX13_init_0 4 rfl rfl)
theorem dX13_init_5 : decode cX13_init 5 = .ok (.iload_n 1, 1) := dk_27 (dk_at dksX13_init_0 5 rfl rfl)
theorem dX13_init_6 : decode cX13_init 6 = .ok (.putfield 7, 3) := dk_181 0 7 (dk_at dksX13_init_0 6 rfl rfl)
theorem dX13_init_9 : decode cX13_init 9 = .ok (.aload_n 0, 1) := dk_42 (dk_at dksX13_init_0 9 rfl rfl)
theorem dX13_init_10 : decode cX13_init 10 = .ok (.iload_n 2, 1) := dk_28 (dk_at dksX13_init_0 10 rfl rfl)
theorem dX13_init_11 : decode cX13_init 11 = .ok (.putfield 13, 3) := dk_181 0 13 (dk_at dksX13_init_0 11 rfl rfl)
theorem dX13_init_14 : decode cX13_init 14 = .ok (.aload_n 0, 1) := dk_42 (dk_at dksX13_init_0 14 rfl rfl)
theorem dX13_init_15 : decode cX13_init 15 = .ok (.iload_n 3, 1) := dk_29 (dk_at dksX13_init_0 15 rfl rfl)
theorem dX13_init_16 : decode cX13_init 16 = .ok (.putfield 17, 3) := dk_181 0 17 (dk_at dksX13_init_0 16 rfl rfl)
theorem dX13_init_19 : decode cX13_init 19 = .ok (.return_, 1) := dk_177 (dk_at dksX13_init_0 19 rfl rfl)
abbrev cX13_holds : ByteArray := prog_7_method_2_code
def yX13_holds : MethodName := ⟨RX13, "holds", "(LFrostRing;)Z"⟩
def dkwX13_holds_1 : List UInt8 := [4, 167, 0, 20, 3, 167, 0, 16, 28, 42, 180, 0, 17, 164, 0, 7, 4, 167, 0, 4, 3, 172]
abbrev dktX13_holds_1 : List UInt8 := dkwX13_holds_1 ++ []
def dkwX13_holds_0 : List UInt8 := [43, 42, 180, 0, 7, 182, 0, 20, 61, 42, 180, 0, 13, 153, 0, 19, 28, 42, 180, 0, 17, 162, 0, 7]
abbrev dktX13_holds_0 : List UInt8 := dkwX13_holds_0 ++ dktX13_holds_1
theorem dksX13_holds_0 : cX13_holds.data.toList.drop 0 = dktX13_holds_0 := by decide +kernel
theorem dksX13_holds_1 : cX13_holds.data.toList.drop 24 = dktX13_holds_1 := dk_seg dksX13_holds_0 24 rfl rfl
theorem dX13_holds_0 : decode cX13_holds 0 = .ok (.aload_n 1, 1) := dk_43 (dk_at dksX13_holds_0 0 rfl rfl)
theorem dX13_holds_1 : decode cX13_holds 1 = .ok (.aload_n 0, 1) := dk_42 (dk_at dksX13_holds_0 1 rfl rfl)
theorem dX13_holds_2 : decode cX13_holds 2 = .ok (.getfield 7, 3) := dk_180 0 7 (dk_at dksX13_holds_0 2 rfl rfl)
theorem dX13_holds_5 : decode cX13_holds 5 = .ok (.invokevirtual 20, 3) := dk_182 0 20 (dk_at dksX13_holds_0 5 rfl rfl)
theorem dX13_holds_8 : decode cX13_holds 8 = .ok (.istore_n 2, 1) := dk_61 (dk_at dksX13_holds_0 8 rfl rfl)
theorem dX13_holds_9 : decode cX13_holds 9 = .ok (.aload_n 0, 1) := dk_42 (dk_at dksX13_holds_0 9 rfl rfl)
theorem dX13_holds_10 : decode cX13_holds 10 = .ok (.getfield 13, 3) := dk_180 0 13 (dk_at dksX13_holds_0 10 rfl rfl)
theorem dX13_holds_13 : decode cX13_holds 13 = .ok (.ifCond .eq 19, 3) := dk_153 0 19 (dk_at dksX13_holds_0 13 rfl rfl)
theorem dX13_holds_16 : decode cX13_holds 16 = .ok (.iload_n 2, 1) := dk_28 (dk_at dksX13_holds_0 16 rfl rfl)
theorem dX13_holds_17 : decode cX13_holds 17 = .ok (.aload_n 0, 1) := dk_42 (dk_at dksX13_holds_0 17 rfl rfl)
theorem dX13_holds_18 : decode cX13_holds 18 = .ok (.getfield 17, 3) := dk_180 0 17 (dk_at dksX13_holds_0 18 rfl rfl)
theorem dX13_holds_21 : decode cX13_holds 21 = .ok (.if_icmp .ge 7, 3) := dk_162 0 7 (dk_at dksX13_holds_0 21 rfl rfl)
theorem dX13_holds_24 : decode cX13_holds 24 = .ok (.iconst 1, 1) := dk_4 (dk_at dksX13_holds_1 0 rfl rfl)
theorem dX13_holds_25 : decode cX13_holds 25 = .ok (.goto 20, 3) := dk_167 0 20 (dk_at dksX13_holds_1 1 rfl rfl)
theorem dX13_holds_28 : decode cX13_holds 28 = .ok (.iconst 0, 1) := dk_3 (dk_at dksX13_holds_1 4 rfl rfl)
theorem dX13_holds_29 : decode cX13_holds 29 = .ok (.goto 16, 3) := dk_167 0 16 (dk_at dksX13_holds_1 5 rfl rfl)
theorem dX13_holds_32 : decode cX13_holds 32 = .ok (.iload_n 2, 1) := dk_28 (dk_at dksX13_holds_1 8 rfl rfl)
theorem dX13_holds_33 : decode cX13_holds 33 = .ok (.aload_n 0, 1) := dk_42 (dk_at dksX13_holds_1 9 rfl rfl)
theorem dX13_holds_34 : decode cX13_holds 34 = .ok (.getfield 17, 3) := dk_180 0 17 (dk_at dksX13_holds_1 10 rfl rfl)
theorem dX13_holds_37 : decode cX13_holds 37 = .ok (.if_icmp .le 7, 3) := dk_164 0 7 (dk_at dksX13_holds_1 13 rfl rfl)
theorem dX13_holds_40 : decode cX13_holds 40 = .ok (.iconst 1, 1) := dk_4 (dk_at dksX13_holds_1 16 rfl rfl)
theorem dX13_holds_41 : decode cX13_holds 41 = .ok (.goto 4, 3) := dk_167 0 4 (dk_at dksX13_holds_1 17 rfl rfl)
theorem dX13_holds_44 : decode cX13_holds 44 = .ok (.iconst 0, 1) := dk_3 (dk_at dksX13_holds_1 20 rfl rfl)
theorem dX13_holds_45 : decode cX13_holds 45 = .ok (.ireturn, 1) := dk_172 (dk_at dksX13_holds_1 21 rfl rfl)
theorem q132 : (Jvm.Cond.initialized "FrostRing$Measure") ∈ lw_all := lw_g (lw_at lw_m1 28 rfl) rfl
theorem q612 : (Jvm.Cond.selects "FrostRing$Measure" ({ cls := "java/lang/Object", name := "getClass", desc := "()Ljava/lang/Class;" } : Jvm.MethodName) ({ cls := "java/lang/Object", name := "getClass", desc := "()Ljava/lang/Class;" } : Jvm.MethodName)) ∈ lw_all := lw_g (lw_at lw_m3 28 rfl) rfl
theorem q1077 : (Jvm.Cond.instantiable "FrostRing$Measure" (3 : Nat)) ∈ lw_all := lw_g (lw_at lw_m5 13 rfl) rfl
theorem q1079 : (Jvm.Cond.instanceMethod ({ cls := "FrostRing$Measure", name := "<init>", desc := "(IZI)V" } : Jvm.MethodName)) ∈ lw_all := lw_g (lw_at lw_m5 15 rfl) rfl
theorem q1080 : (Jvm.Cond.code ({ cls := "FrostRing$Measure", name := "<init>", desc := "(IZI)V" } : Jvm.MethodName) prog_7_method_1_code (4 : Nat) (Option.none : Option Jvm.ClassFile.FieldType)) ∈ lw_all := lw_g (lw_at lw_m5 16 rfl) rfl
theorem q1081 : (Jvm.Cond.methodLinkNest "FrostRing$Measure" (1 : Nat) ({ cls := "FrostRing$Cond", name := "<init>", desc := "()V" } : Jvm.MethodName) "FrostRing") ∈ lw_tbl := lw_at lw_m5 17 rfl
theorem q1082 : (Jvm.Cond.fieldLink "FrostRing$Measure" (7 : Nat) "FrostRing$Measure" "what" "I") ∈ lw_all := lw_g (lw_at lw_m5 18 rfl) rfl
theorem q1083 : (Jvm.Cond.fieldLink "FrostRing$Measure" (17 : Nat) "FrostRing$Measure" "n" "I") ∈ lw_all := lw_g (lw_at lw_m5 19 rfl) rfl
theorem q1084 : (Jvm.Cond.fieldLink "FrostRing$Measure" (13 : Nat) "FrostRing$Measure" "isLess" "Z") ∈ lw_all := lw_g (lw_at lw_m5 20 rfl) rfl
theorem q1085 : (Jvm.Cond.laysFinal "FrostRing$Measure" "FrostRing$Measure" "what" "I") ∈ lw_all := lw_g (lw_at lw_m5 21 rfl) rfl
theorem q1086 : (Jvm.Cond.soleField "FrostRing$Measure" "what") ∈ lw_all := lw_g (lw_at lw_m5 22 rfl) rfl
theorem q1087 : (Jvm.Cond.laysFinal "FrostRing$Measure" "FrostRing$Measure" "n" "I") ∈ lw_all := lw_g (lw_at lw_m5 23 rfl) rfl
theorem q1088 : (Jvm.Cond.soleField "FrostRing$Measure" "n") ∈ lw_all := lw_g (lw_at lw_m5 24 rfl) rfl
theorem q1089 : (Jvm.Cond.laysFinal "FrostRing$Measure" "FrostRing$Measure" "isLess" "Z") ∈ lw_all := lw_g (lw_at lw_m5 25 rfl) rfl
theorem q1090 : (Jvm.Cond.soleField "FrostRing$Measure" "isLess") ∈ lw_all := lw_g (lw_at lw_m5 26 rfl) rfl
theorem q1091 : (Jvm.Cond.superclass "FrostRing$Measure" "FrostRing$Cond") ∈ lw_all := lw_g (lw_at lw_m5 27 rfl) rfl
theorem q1355 : (Jvm.Cond.selects "FrostRing$Measure" ({ cls := "FrostRing$Cond", name := "holds", desc := "(LFrostRing;)Z" } : Jvm.MethodName) ({ cls := "FrostRing$Measure", name := "holds", desc := "(LFrostRing;)Z" } : Jvm.MethodName)) ∈ lw_all := lw_g (lw_at lw_m6 51 rfl) rfl
theorem q1356 : (Jvm.Cond.instanceMethod ({ cls := "FrostRing$Measure", name := "holds", desc := "(LFrostRing;)Z" } : Jvm.MethodName)) ∈ lw_all := lw_g (lw_at lw_m6 52 rfl) rfl
theorem q1357 : (Jvm.Cond.code ({ cls := "FrostRing$Measure", name := "holds", desc := "(LFrostRing;)Z" } : Jvm.MethodName) prog_7_method_2_code (3 : Nat) (Option.some Jvm.ClassFile.FieldType.boolean)) ∈ lw_all := lw_g (lw_at lw_m6 53 rfl) rfl
theorem q1358 : (Jvm.Cond.methodLinkNest "FrostRing$Measure" (20 : Nat) ({ cls := "FrostRing", name := "measured", desc := "(I)I" } : Jvm.MethodName) "FrostRing") ∈ lw_tbl := lw_at lw_m6 54 rfl
theorem q2053 : (Jvm.Cond.castable "FrostRing$Measure" "java/lang/Object") ∈ lw_tbl := lw_at lw_m9 29 rfl
theorem q2061 : (Jvm.Cond.castable "FrostRing$Measure" "FrostRing$Cond") ∈ lw_tbl := lw_at lw_m9 37 rfl
theorem in_X13 : ∀ w ∈ wsX130, w ∈ lw_all := lw_in wsX130 [1085, 1087, 1089] (by decide +kernel) (by decide +kernel)
/-! FrostRing$Cut -/
set_option maxRecDepth 100000
def RX14 : String := "FrostRing$Cut"
def TX14 : u_T := fun k => match k with
  | 0 => ("FrostRing$Cut", "f", "LFrostRing$Field;", true)
  | 1 => ("FrostRing$Cut", "used", "[Z", true)
  | 2 => ("FrostRing$Cut", "passable", "[Z", true)
  | 3 => ("FrostRing$Cut", "begins", "[Z", true)
  | 4 => ("FrostRing$Cut", "goes", "[[Z", true)
  | 5 => ("FrostRing$Cut", "by", "[I", true)
  | 6 => ("FrostRing$Cut", "queue", "[I", true)
  | 7 => ("FrostRing$Cut", "to", "I", false)
  | _ => ("FrostRing$Cut", "ways", "I", false)
def tyX14 : Nat → FieldType := fun k => match k with
  | 0 => .object "FrostRing$Field"
  | 1 => .array .boolean
  | 2 => .array .boolean
  | 3 => .array .boolean
  | 4 => .array (.array .boolean)
  | 5 => .array .int
  | 6 => .array .int
  | 7 => .int
  | _ => .int
abbrev wsX140 : List Cond := u_ws RX14 TX14 9
theorem nmX14 : ∀ a, a < 9 → ∀ b, b < 9 → a ≠ b → (TX14 a).2.1 ≠ (TX14 b).2.1 := by decide +kernel
theorem tyX14_ok : ∀ k, k < 9 → parseFieldDescriptor (TX14 k).2.2.1 = some (tyX14 k) := by decide +kernel
abbrev cX14_init : ByteArray := prog_3_method_1_code
def yX14_init : MethodName := ⟨RX14, "<init>", "(LFrostRing$Field;)V"⟩
def dkwX14_init_6 : List UInt8 := [182, 0, 55, 153, 0, 10, 42, 182, 0, 59, 167, 255, 245, 177]
abbrev dktX14_init_6 : List UInt8 := dkwX14_init_6 ++ []
def dkwX14_init_5 : List UInt8 := [153, 0, 15, 43, 28, 182, 0, 52, 153, 0, 7, 4, 167, 0, 4, 3, 84, 132, 2, 1, 167, 255, 188, 42]
abbrev dktX14_init_5 : List UInt8 := dkwX14_init_5 ++ dktX14_init_6
def dkwX14_init_4 : List UInt8 := [182, 0, 49, 154, 0, 7, 4, 167, 0, 4, 3, 84, 42, 180, 0, 18, 28, 42, 180, 0, 15, 28, 51]
abbrev dktX14_init_4 : List UInt8 := dkwX14_init_4 ++ dktX14_init_5
def dkwX14_init_3 : List UInt8 := [17, 0, 144, 162, 0, 67, 42, 180, 0, 15, 28, 43, 180, 0, 37, 28, 182, 0, 43, 154, 0, 15, 43, 28]
abbrev dktX14_init_3 : List UInt8 := dkwX14_init_3 ++ dktX14_init_4
def dkwX14_init_2 : List UInt8 := [188, 10, 181, 0, 26, 42, 17, 1, 34, 188, 10, 181, 0, 30, 42, 43, 181, 0, 33, 3, 61, 28]
abbrev dktX14_init_2 : List UInt8 := dkwX14_init_2 ++ dktX14_init_3
def dkwX14_init_1 : List UInt8 := [17, 0, 144, 188, 4, 181, 0, 18, 42, 17, 0, 144, 7, 197, 0, 21, 2, 181, 0, 23, 42, 17, 1, 34]
abbrev dktX14_init_1 : List UInt8 := dkwX14_init_1 ++ dktX14_init_2
def dkwX14_init_0 : List UInt8 := [42, 183, 0, 5, 42, 17, 0, 144, 188, 4, 181, 0, 11, 42, 17, 0, 144, 188, 4, 181, 0, 15, 42]
abbrev dktX14_init_0 : List UInt8 := dkwX14_init_0 ++ dktX14_init_1
theorem dksX14_init_0 : cX14_init.data.toList.drop 0 = dktX14_init_0 := by decide +kernel
theorem dksX14_init_1 : cX14_init.data.toList.drop 23 = dktX14_init_1 := dk_seg dksX14_init_0 23 rfl rfl
theorem dksX14_init_2 : cX14_init.data.toList.drop 47 = dktX14_init_2 := dk_seg dksX14_init_1 24 rfl rfl
theorem dksX14_init_3 : cX14_init.data.toList.drop 69 = dktX14_init_3 := dk_seg dksX14_init_2 22 rfl rfl
theorem dksX14_init_4 : cX14_init.data.toList.drop 93 = dktX14_init_4 := dk_seg dksX14_init_3 24 rfl rfl
theorem dksX14_init_5 : cX14_init.data.toList.drop 116 = dktX14_init_5 := dk_seg dksX14_init_4 23 rfl rfl
theorem dksX14_init_6 : cX14_init.data.toList.drop 140 = dktX14_init_6 := dk_seg dksX14_init_5 24 rfl rfl
theorem dX14_init_0 : decode cX14_init 0 = .ok (.aload_n 0, 1) := dk_42 (dk_at dksX14_init_0 0 rfl rfl)
theorem dX14_init_1 : decode cX14_init 1 = .ok (.invokespecial 5, 3) := dk_183 0 5 (dk_at dksX14_init_0 1 rfl rfl)
theorem dX14_init_4 : decode cX14_init 4 = .ok (.aload_n 0, 1) := dk_42 (dk_at dksX14_init_0 4 rfl rfl)
theorem dX14_init_5 : decode cX14_init 5 = .ok (.sipush 144, 3) := dk_17 0 144 (dk_at dksX14_init_0 5 rfl rfl)
theorem dX14_init_8 : decode cX14_init 8 = .ok (.newarray .boolean, 2) := dk_188_4 (dk_at dksX14_init_0 8 rfl rfl)
theorem dX14_init_10 : decode cX14_init 10 = .ok (.putfield 11, 3) := dk_181 0 11 (dk_at dksX14_init_0 10 rfl rfl)
theorem dX14_init_13 : decode cX14_init 13 = .ok (.aload_n 0, 1) := dk_42 (dk_at dksX14_init_0 13 rfl rfl)
theorem dX14_init_14 : decode cX14_init 14 = .ok (.sipush 144, 3) := dk_17 0 144 (dk_at dksX14_init_0 14 rfl rfl)
theorem dX14_init_17 : decode cX14_init 17 = .ok (.newarray .boolean, 2) := dk_188_4 (dk_at dksX14_init_0 17 rfl rfl)
theorem dX14_init_19 : decode cX14_init 19 = .ok (.putfield 15, 3) := dk_181 0 15 (dk_at dksX14_init_0 19 rfl rfl)
theorem dX14_init_22 : decode cX14_init 22 = .ok (.aload_n 0, 1) := dk_42 (dk_at dksX14_init_0 22 rfl rfl)
theorem dX14_init_23 : decode cX14_init 23 = .ok (.sipush 144, 3) := dk_17 0 144 (dk_at dksX14_init_1 0 rfl rfl)
theorem dX14_init_26 : decode cX14_init 26 = .ok (.newarray .boolean, 2) := dk_188_4 (dk_at dksX14_init_1 3 rfl rfl)
theorem dX14_init_28 : decode cX14_init 28 = .ok (.putfield 18, 3) := dk_181 0 18 (dk_at dksX14_init_1 5 rfl rfl)
theorem dX14_init_31 : decode cX14_init 31 = .ok (.aload_n 0, 1) := dk_42 (dk_at dksX14_init_1 8 rfl rfl)
theorem dX14_init_32 : decode cX14_init 32 = .ok (.sipush 144, 3) := dk_17 0 144 (dk_at dksX14_init_1 9 rfl rfl)
theorem dX14_init_35 : decode cX14_init 35 = .ok (.iconst 4, 1) := dk_7 (dk_at dksX14_init_1 12 rfl rfl)
theorem dX14_init_36 : decode cX14_init 36 = .ok (.multianewarray 21 2, 4) := by decide +kernel
theorem dX14_init_40 : decode cX14_init 40 = .ok (.putfield 23, 3) := dk_181 0 23 (dk_at dksX14_init_1 17 rfl rfl)
theorem dX14_init_43 : decode cX14_init 43 = .ok (.aload_n 0, 1) := dk_42 (dk_at dksX14_init_1 20 rfl rfl)
theorem dX14_init_44 : decode cX14_init 44 = .ok (.sipush 290, 3) := dk_17 1 34 (dk_at dksX14_init_1 21 rfl rfl)
theorem dX14_init_47 : decode cX14_init 47 = .ok (.newarray .int, 2) := dk_188_10 (dk_at dksX14_init_2 0 rfl rfl)
theorem dX14_init_49 : decode cX14_init 49 = .ok (.putfield 26, 3) := dk_181 0 26 (dk_at dksX14_init_2 2 rfl rfl)
theorem dX14_init_52 : decode cX14_init 52 = .ok (.aload_n 0, 1) := dk_42 (dk_at dksX14_init_2 5 rfl rfl)
theorem dX14_init_53 : decode cX14_init 53 = .ok (.sipush 290, 3) := dk_17 1 34 (dk_at dksX14_init_2 6 rfl rfl)
theorem dX14_init_56 : decode cX14_init 56 = .ok (.newarray .int, 2) := dk_188_10 (dk_at dksX14_init_2 9 rfl rfl)
theorem dX14_init_58 : decode cX14_init 58 = .ok (.putfield 30, 3) := dk_181 0 30 (dk_at dksX14_init_2 11 rfl rfl)
theorem dX14_init_61 : decode cX14_init 61 = .ok (.aload_n 0, 1) := dk_42 (dk_at dksX14_init_2 14 rfl rfl)
theorem dX14_init_62 : decode cX14_init 62 = .ok (.aload_n 1, 1) := dk_43 (dk_at dksX14_init_2 15 rfl rfl)
theorem dX14_init_63 : decode cX14_init 63 = .ok (.putfield 33, 3) := dk_181 0 33 (dk_at dksX14_init_2 16 rfl rfl)
theorem dX14_init_66 : decode cX14_init 66 = .ok (.iconst 0, 1) := dk_3 (dk_at dksX14_init_2 19 rfl rfl)
theorem dX14_init_67 : decode cX14_init 67 = .ok (.istore_n 2, 1) := dk_61 (dk_at dksX14_init_2 20 rfl rfl)
theorem dX14_init_68 : decode cX14_init 68 = .ok (.iload_n 2, 1) := dk_28 (dk_at dksX14_init_2 21 rfl rfl)
theorem dX14_init_69 : decode cX14_init 69 = .ok (.sipush 144, 3) := dk_17 0 144 (dk_at dksX14_init_3 0 rfl rfl)
theorem dX14_init_72 : decode cX14_init 72 = .ok (.if_icmp .ge 67, 3) := dk_162 0 67 (dk_at dksX14_init_3 3 rfl rfl)
theorem dX14_init_75 : decode cX14_init 75 = .ok (.aload_n 0, 1) := dk_42 (dk_at dksX14_init_3 6 rfl rfl)
theorem dX14_init_76 : decode cX14_init 76 = .ok (.getfield 15, 3) := dk_180 0 15 (dk_at dksX14_init_3 7 rfl rfl)
theorem dX14_init_79 : decode cX14_init 79 = .ok (.iload_n 2, 1) := dk_28 (dk_at dksX14_init_3 10 rfl rfl)
theorem dX14_init_80 : decode cX14_init 80 = .ok (.aload_n 1, 1) := dk_43 (dk_at dksX14_init_3 11 rfl rfl)
theorem dX14_init_81 : decode cX14_init 81 = .ok (.getfield 37, 3) := dk_180 0 37 (dk_at dksX14_init_3 12 rfl rfl)
theorem dX14_init_84 : decode cX14_init 84 = .ok (.iload_n 2, 1) := dk_28 (dk_at dksX14_init_3 15 rfl rfl)
theorem dX14_init_85 : decode cX14_init 85 = .ok (.invokevirtual 43, 3) := dk_182 0 43 (dk_at dksX14_init_3 16 rfl rfl)
theorem dX14_init_88 : decode cX14_init 88 = .ok (.ifCond .ne 15, 3) := dk_154 0 15 (dk_at dksX14_init_3 19 rfl rfl)
theorem dX14_init_91 : decode cX14_init 91 = .ok (.aload_n 1, 1) := dk_43 (dk_at dksX14_init_3 22 rfl rfl)
theorem dX14_init_92 : decode cX14_init 92 = .ok (.iload_n 2, 1) := dk_28 (dk_at dksX14_init_3 23 rfl rfl)
theorem dX14_init_93 : decode cX14_init 93 = .ok (.invokevirtual 49, 3) := dk_182 0 49 (dk_at dksX14_init_4 0 rfl rfl)
theorem dX14_init_96 : decode cX14_init 96 = .ok (.ifCond .ne 7, 3) := dk_154 0 7 (dk_at dksX14_init_4 3 rfl rfl)
theorem dX14_init_99 : decode cX14_init 99 = .ok (.iconst 1, 1) := dk_4 (dk_at dksX14_init_4 6 rfl rfl)
theorem dX14_init_100 : decode cX14_init 100 = .ok (.goto 4, 3) := dk_167 0 4 (dk_at dksX14_init_4 7 rfl rfl)
theorem dX14_init_103 : decode cX14_init 103 = .ok (.iconst 0, 1) := dk_3 (dk_at dksX14_init_4 10 rfl rfl)
theorem dX14_init_104 : decode cX14_init 104 = .ok (.bastore, 1) := dk_84 (dk_at dksX14_init_4 11 rfl rfl)
theorem dX14_init_105 : decode cX14_init 105 = .ok (.aload_n 0, 1) := dk_42 (dk_at dksX14_init_4 12 rfl rfl)
theorem dX14_init_106 : decode cX14_init 106 = .ok (.getfield 18, 3) := dk_180 0 18 (dk_at dksX14_init_4 13 rfl rfl)
theorem dX14_init_109 : decode cX14_init 109 = .ok (.iload_n 2, 1) := dk_28 (dk_at dksX14_init_4 16 rfl rfl)
theorem dX14_init_110 : decode cX14_init 110 = .ok (.aload_n 0, 1) := dk_42 (dk_at dksX14_init_4 17 rfl rfl)
theorem dX14_init_111 : decode cX14_init 111 = .ok (.getfield 15, 3) := dk_180 0 15 (dk_at dksX14_init_4 18 rfl rfl)
theorem dX14_init_114 : decode cX14_init 114 = .ok (.iload_n 2, 1) := dk_28 (dk_at dksX14_init_4 21 rfl rfl)
theorem dX14_init_115 : decode cX14_init 115 = .ok (.baload, 1) := dk_51 (dk_at dksX14_init_4 22 rfl rfl)
theorem dX14_init_116 : decode cX14_init 116 = .ok (.ifCond .eq 15, 3) := dk_153 0 15 (dk_at dksX14_init_5 0 rfl rfl)
theorem dX14_init_119 : decode cX14_init 119 = .ok (.aload_n 1, 1) := dk_43 (dk_at dksX14_init_5 3 rfl rfl)
theorem dX14_init_120 : decode cX14_init 120 = .ok (.iload_n 2, 1) := dk_28 (dk_at dksX14_init_5 4 rfl rfl)
theorem dX14_init_121 : decode cX14_init 121 = .ok (.invokevirtual 52, 3) := dk_182 0 52 (dk_at dksX14_init_5 5 rfl rfl)
theorem dX14_init_124 : decode cX14_init 124 = .ok (.ifCond .eq 7, 3) := dk_153 0 7 (dk_at dksX14_init_5 8 rfl rfl)
theorem dX14_init_127 : decode cX14_init 127 = .ok (.iconst 1, 1) := dk_4 (dk_at dksX14_init_5 11 rfl rfl)
theorem dX14_init_128 : decode cX14_init 128 = .ok (.goto 4, 3) := dk_167 0 4 (dk_at dksX14_init_5 12 rfl rfl)
theorem dX14_init_131 : decode cX14_init 131 = .ok (.iconst 0, 1) := dk_3 (dk_at dksX14_init_5 15 rfl rfl)
theorem dX14_init_132 : decode cX14_init 132 = .ok (.bastore, 1) := dk_84 (dk_at dksX14_init_5 16 rfl rfl)
theorem dX14_init_133 : decode cX14_init 133 = .ok (.iinc 2 1, 3) := dk_132 2 1 (dk_at dksX14_init_5 17 rfl rfl)
theorem dX14_init_136 : decode cX14_init 136 = .ok (.goto (-68), 3) := dk_167 255 188 (dk_at dksX14_init_5 20 rfl rfl)
theorem dX14_init_139 : decode cX14_init 139 = .ok (.aload_n 0, 1) := dk_42 (dk_at dksX14_init_5 23 rfl rfl)
theorem dX14_init_140 : decode cX14_init 140 = .ok (.invokevirtual 55, 3) := dk_182 0 55 (dk_at dksX14_init_6 0 rfl rfl)
theorem dX14_init_143 : decode cX14_init 143 = .ok (.ifCond .eq 10, 3) := dk_153 0 10 (dk_at dksX14_init_6 3 rfl rfl)
theorem dX14_init_146 : decode cX14_init 146 = .ok (.aload_n 0, 1) := dk_42 (dk_at dksX14_init_6 6 rfl rfl)
theorem dX14_init_147 : decode cX14_init 147 = .ok (.invokevirtual 59, 3) := dk_182 0 59 (dk_at dksX14_init_6 7 rfl rfl)
theorem dX14_init_150 : decode cX14_init 150 = .ok (.goto (-11), 3) := dk_167 255 245 (dk_at dksX14_init_6 10 rfl rfl)
theorem dX14_init_153 : decode cX14_init 153 = .ok (.return_, 1) := dk_177 (dk_at dksX14_init_6 13 rfl rfl)
abbrev cX14_finds : ByteArray := prog_3_method_4_code
def yX14_finds : MethodName := ⟨RX14, "finds", "()Z"⟩
def dkwX14_finds_6 : List UInt8 := [46, 2, 159, 0, 7, 4, 167, 0, 4, 3, 172]
abbrev dktX14_finds_6 : List UInt8 := dkwX14_finds_6 ++ []
def dkwX14_finds_5 : List UInt8 := [182, 0, 70, 167, 0, 8, 42, 28, 182, 0, 74, 132, 1, 1, 167, 255, 185, 42, 180, 0, 26, 17, 1, 33]
abbrev dktX14_finds_5 : List UInt8 := dkwX14_finds_5 ++ dktX14_finds_6
def dkwX14_finds_4 : List UInt8 := [27, 46, 17, 1, 33, 160, 0, 6, 167, 0, 27, 42, 180, 0, 30, 27, 46, 5, 112, 154, 0, 11, 42, 28]
abbrev dktX14_finds_4 : List UInt8 := dkwX14_finds_4 ++ dktX14_finds_5
def dkwX14_finds_3 : List UInt8 := [180, 0, 26, 17, 1, 33, 46, 2, 160, 0, 57, 42, 180, 0, 30, 27, 46, 5, 108, 61, 42, 180, 0, 30]
abbrev dktX14_finds_3 : List UInt8 := dkwX14_finds_3 ++ dktX14_finds_4
def dkwX14_finds_2 : List UInt8 := [104, 17, 1, 32, 182, 0, 66, 132, 1, 1, 167, 255, 227, 3, 60, 27, 42, 180, 0, 62, 162, 0, 69, 42]
abbrev dktX14_finds_2 : List UInt8 := dkwX14_finds_2 ++ dktX14_finds_3
def dkwX14_finds_1 : List UInt8 := [181, 0, 62, 3, 60, 27, 17, 0, 144, 162, 0, 28, 42, 180, 0, 18, 27, 51, 153, 0, 13, 42, 5, 27]
abbrev dktX14_finds_1 : List UInt8 := dkwX14_finds_1 ++ dktX14_finds_2
def dkwX14_finds_0 : List UInt8 := [3, 60, 27, 17, 1, 34, 162, 0, 16, 42, 180, 0, 26, 27, 2, 79, 132, 1, 1, 167, 255, 239, 42, 3]
abbrev dktX14_finds_0 : List UInt8 := dkwX14_finds_0 ++ dktX14_finds_1
theorem dksX14_finds_0 : cX14_finds.data.toList.drop 0 = dktX14_finds_0 := by decide +kernel
theorem dksX14_finds_1 : cX14_finds.data.toList.drop 24 = dktX14_finds_1 := dk_seg dksX14_finds_0 24 rfl rfl
theorem dksX14_finds_2 : cX14_finds.data.toList.drop 48 = dktX14_finds_2 := dk_seg dksX14_finds_1 24 rfl rfl
theorem dksX14_finds_3 : cX14_finds.data.toList.drop 72 = dktX14_finds_3 := dk_seg dksX14_finds_2 24 rfl rfl
theorem dksX14_finds_4 : cX14_finds.data.toList.drop 96 = dktX14_finds_4 := dk_seg dksX14_finds_3 24 rfl rfl
theorem dksX14_finds_5 : cX14_finds.data.toList.drop 120 = dktX14_finds_5 := dk_seg dksX14_finds_4 24 rfl rfl
theorem dksX14_finds_6 : cX14_finds.data.toList.drop 144 = dktX14_finds_6 := dk_seg dksX14_finds_5 24 rfl rfl
theorem dX14_finds_0 : decode cX14_finds 0 = .ok (.iconst 0, 1) := dk_3 (dk_at dksX14_finds_0 0 rfl rfl)
theorem dX14_finds_1 : decode cX14_finds 1 = .ok (.istore_n 1, 1) := dk_60 (dk_at dksX14_finds_0 1 rfl rfl)
theorem dX14_finds_2 : decode cX14_finds 2 = .ok (.iload_n 1, 1) := dk_27 (dk_at dksX14_finds_0 2 rfl rfl)
theorem dX14_finds_3 : decode cX14_finds 3 = .ok (.sipush 290, 3) := dk_17 1 34 (dk_at dksX14_finds_0 3 rfl rfl)
theorem dX14_finds_6 : decode cX14_finds 6 = .ok (.if_icmp .ge 16, 3) := dk_162 0 16 (dk_at dksX14_finds_0 6 rfl rfl)
theorem dX14_finds_9 : decode cX14_finds 9 = .ok (.aload_n 0, 1) := dk_42 (dk_at dksX14_finds_0 9 rfl rfl)
theorem dX14_finds_10 : decode cX14_finds 10 = .ok (.getfield 26, 3) := dk_180 0 26 (dk_at dksX14_finds_0 10 rfl rfl)
theorem dX14_finds_13 : decode cX14_finds 13 = .ok (.iload_n 1, 1) := dk_27 (dk_at dksX14_finds_0 13 rfl rfl)
theorem dX14_finds_14 : decode cX14_finds 14 = .ok (.iconst (-1), 1) := dk_2 (dk_at dksX14_finds_0 14 rfl rfl)
theorem dX14_finds_15 : decode cX14_finds 15 = .ok (.iastore, 1) := dk_79 (dk_at dksX14_finds_0 15 rfl rfl)
theorem dX14_finds_16 : decode cX14_finds 16 = .ok (.iinc 1 1, 3) := dk_132 1 1 (dk_at dksX14_finds_0 16 rfl rfl)
theorem dX14_finds_19 : decode cX14_finds 19 = .ok (.goto (-17), 3) := dk_167 255 239 (dk_at dksX14_finds_0 19 rfl rfl)
theorem dX14_finds_22 : decode cX14_finds 22 = .ok (.aload_n 0, 1) := dk_42 (dk_at dksX14_finds_0 22 rfl rfl)
theorem dX14_finds_23 : decode cX14_finds 23 = .ok (.iconst 0, 1) := dk_3 (dk_at dksX14_finds_0 23 rfl rfl)
theorem dX14_finds_24 : decode cX14_finds 24 = .ok (.putfield 62, 3) := dk_181 0 62 (dk_at dksX14_finds_1 0 rfl rfl)
theorem dX14_finds_27 : decode cX14_finds 27 = .ok (.iconst 0, 1) := dk_3 (dk_at dksX14_finds_1 3 rfl rfl)
theorem dX14_finds_28 : decode cX14_finds 28 = .ok (.istore_n 1, 1) := dk_60 (dk_at dksX14_finds_1 4 rfl rfl)
theorem dX14_finds_29 : decode cX14_finds 29 = .ok (.iload_n 1, 1) := dk_27 (dk_at dksX14_finds_1 5 rfl rfl)
theorem dX14_finds_30 : decode cX14_finds 30 = .ok (.sipush 144, 3) := dk_17 0 144 (dk_at dksX14_finds_1 6 rfl rfl)
theorem dX14_finds_33 : decode cX14_finds 33 = .ok (.if_icmp .ge 28, 3) := dk_162 0 28 (dk_at dksX14_finds_1 9 rfl rfl)
theorem dX14_finds_36 : decode cX14_finds 36 = .ok (.aload_n 0, 1) := dk_42 (dk_at dksX14_finds_1 12 rfl rfl)
theorem dX14_finds_37 : decode cX14_finds 37 = .ok (.getfield 18, 3) := dk_180 0 18 (dk_at dksX14_finds_1 13 rfl rfl)
theorem dX14_finds_40 : decode cX14_finds 40 = .ok (.iload_n 1, 1) := dk_27 (dk_at dksX14_finds_1 16 rfl rfl)
theorem dX14_finds_41 : decode cX14_finds 41 = .ok (.baload, 1) := dk_51 (dk_at dksX14_finds_1 17 rfl rfl)
theorem dX14_finds_42 : decode cX14_finds 42 = .ok (.ifCond .eq 13, 3) := dk_153 0 13 (dk_at dksX14_finds_1 18 rfl rfl)
theorem dX14_finds_45 : decode cX14_finds 45 = .ok (.aload_n 0, 1) := dk_42 (dk_at dksX14_finds_1 21 rfl rfl)
theorem dX14_finds_46 : decode cX14_finds 46 = .ok (.iconst 2, 1) := dk_5 (dk_at dksX14_finds_1 22 rfl rfl)
theorem dX14_finds_47 : decode cX14_finds 47 = .ok (.iload_n 1, 1) := dk_27 (dk_at dksX14_finds_1 23 rfl rfl)
theorem dX14_finds_48 : decode cX14_finds 48 = .ok (.imul, 1) := dk_104 (dk_at dksX14_finds_2 0 rfl rfl)
theorem dX14_finds_49 : decode cX14_finds 49 = .ok (.sipush 288, 3) := dk_17 1 32 (dk_at dksX14_finds_2 1 rfl rfl)
theorem dX14_finds_52 : decode cX14_finds 52 = .ok (.invokevirtual 66, 3) := dk_182 0 66 (dk_at dksX14_finds_2 4 rfl rfl)
theorem dX14_finds_55 : decode cX14_finds 55 = .ok (.iinc 1 1, 3) := dk_132 1 1 (dk_at dksX14_finds_2 7 rfl rfl)
theorem dX14_finds_58 : decode cX14_finds 58 = .ok (.goto (-29), 3) := dk_167 255 227 (dk_at dksX14_finds_2 10 rfl rfl)
theorem dX14_finds_61 : decode cX14_finds 61 = .ok (.iconst 0, 1) := dk_3 (dk_at dksX14_finds_2 13 rfl rfl)
theorem dX14_finds_62 : decode cX14_finds 62 = .ok (.istore_n 1, 1) := dk_60 (dk_at dksX14_finds_2 14 rfl rfl)
theorem dX14_finds_63 : decode cX14_finds 63 = .ok (.iload_n 1, 1) := dk_27 (dk_at dksX14_finds_2 15 rfl rfl)
theorem dX14_finds_64 : decode cX14_finds 64 = .ok (.aload_n 0, 1) := dk_42 (dk_at dksX14_finds_2 16 rfl rfl)
theorem dX14_finds_65 : decode cX14_finds 65 = .ok (.getfield 62, 3) := dk_180 0 62 (dk_at dksX14_finds_2 17 rfl rfl)
theorem dX14_finds_68 : decode cX14_finds 68 = .ok (.if_icmp .ge 69, 3) := dk_162 0 69 (dk_at dksX14_finds_2 20 rfl rfl)
theorem dX14_finds_71 : decode cX14_finds 71 = .ok (.aload_n 0, 1) := dk_42 (dk_at dksX14_finds_2 23 rfl rfl)
theorem dX14_finds_72 : decode cX14_finds 72 = .ok (.getfield 26, 3) := dk_180 0 26 (dk_at dksX14_finds_3 0 rfl rfl)
theorem dX14_finds_75 : decode cX14_finds 75 = .ok (.sipush 289, 3) := dk_17 1 33 (dk_at dksX14_finds_3 3 rfl rfl)
theorem dX14_finds_78 : decode cX14_finds 78 = .ok (.iaload, 1) := dk_46 (dk_at dksX14_finds_3 6 rfl rfl)
theorem dX14_finds_79 : decode cX14_finds 79 = .ok (.iconst (-1), 1) := dk_2 (dk_at dksX14_finds_3 7 rfl rfl)
theorem dX14_finds_80 : decode cX14_finds 80 = .ok (.if_icmp .ne 57, 3) := dk_160 0 57 (dk_at dksX14_finds_3 8 rfl rfl)
theorem dX14_finds_83 : decode cX14_finds 83 = .ok (.aload_n 0, 1) := dk_42 (dk_at dksX14_finds_3 11 rfl rfl)
theorem dX14_finds_84 : decode cX14_finds 84 = .ok (.getfield 30, 3) := dk_180 0 30 (dk_at dksX14_finds_3 12 rfl rfl)
theorem dX14_finds_87 : decode cX14_finds 87 = .ok (.iload_n 1, 1) := dk_27 (dk_at dksX14_finds_3 15 rfl rfl)
theorem dX14_finds_88 : decode cX14_finds 88 = .ok (.iaload, 1) := dk_46 (dk_at dksX14_finds_3 16 rfl rfl)
theorem dX14_finds_89 : decode cX14_finds 89 = .ok (.iconst 2, 1) := dk_5 (dk_at dksX14_finds_3 17 rfl rfl)
theorem dX14_finds_90 : decode cX14_finds 90 = .ok (.idiv, 1) := dk_108 (dk_at dksX14_finds_3 18 rfl rfl)
theorem dX14_finds_91 : decode cX14_finds 91 = .ok (.istore_n 2, 1) := dk_61 (dk_at dksX14_finds_3 19 rfl rfl)
theorem dX14_finds_92 : decode cX14_finds 92 = .ok (.aload_n 0, 1) := dk_42 (dk_at dksX14_finds_3 20 rfl rfl)
theorem dX14_finds_93 : decode cX14_finds 93 = .ok (.getfield 30, 3) := dk_180 0 30 (dk_at dksX14_finds_3 21 rfl rfl)
theorem dX14_finds_96 : decode cX14_finds 96 = .ok (.iload_n 1, 1) := dk_27 (dk_at dksX14_finds_4 0 rfl rfl)
theorem dX14_finds_97 : decode cX14_finds 97 = .ok (.iaload, 1) := dk_46 (dk_at dksX14_finds_4 1 rfl rfl)
theorem dX14_finds_98 : decode cX14_finds 98 = .ok (.sipush 289, 3) := dk_17 1 33 (dk_at dksX14_finds_4 2 rfl rfl)
theorem dX14_finds_101 : decode cX14_finds 101 = .ok (.if_icmp .ne 6, 3) := dk_160 0 6 (dk_at dksX14_finds_4 5 rfl rfl)
theorem dX14_finds_104 : decode cX14_finds 104 = .ok (.goto 27, 3) := dk_167 0 27 (dk_at dksX14_finds_4 8 rfl rfl)
theorem dX14_finds_107 : decode cX14_finds 107 = .ok (.aload_n 0, 1) := dk_42 (dk_at dksX14_finds_4 11 rfl rfl)
theorem dX14_finds_108 : decode cX14_finds 108 = .ok (.getfield 30, 3) := dk_180 0 30 (dk_at dksX14_finds_4 12 rfl rfl)
theorem dX14_finds_111 : decode cX14_finds 111 = .ok (.iload_n 1, 1) := dk_27 (dk_at dksX14_finds_4 15 rfl rfl)
theorem dX14_finds_112 : decode cX14_finds 112 = .ok (.iaload, 1) := dk_46 (dk_at dksX14_finds_4 16 rfl rfl)
theorem dX14_finds_113 : decode cX14_finds 113 = .ok (.iconst 2, 1) := dk_5 (dk_at dksX14_finds_4 17 rfl rfl)
theorem dX14_finds_114 : decode cX14_finds 114 = .ok (.irem, 1) := dk_112 (dk_at dksX14_finds_4 18 rfl rfl)
theorem dX14_finds_115 : decode cX14_finds 115 = .ok (.ifCond .ne 11, 3) := dk_154 0 11 (dk_at dksX14_finds_4 19 rfl rfl)
theorem dX14_finds_118 : decode cX14_finds 118 = .ok (.aload_n 0, 1) := dk_42 (dk_at dksX14_finds_4 22 rfl rfl)
theorem dX14_finds_119 : decode cX14_finds 119 = .ok (.iload_n 2, 1) := dk_28 (dk_at dksX14_finds_4 23 rfl rfl)
theorem dX14_finds_120 : decode cX14_finds 120 = .ok (.invokevirtual 70, 3) := dk_182 0 70 (dk_at dksX14_finds_5 0 rfl rfl)
theorem dX14_finds_123 : decode cX14_finds 123 = .ok (.goto 8, 3) := dk_167 0 8 (dk_at dksX14_finds_5 3 rfl rfl)
theorem dX14_finds_126 : decode cX14_finds 126 = .ok (.aload_n 0, 1) := dk_42 (dk_at dksX14_finds_5 6 rfl rfl)
theorem dX14_finds_127 : decode cX14_finds 127 = .ok (.iload_n 2, 1) := dk_28 (dk_at dksX14_finds_5 7 rfl rfl)
theorem dX14_finds_128 : decode cX14_finds 128 = .ok (.invokevirtual 74, 3) := dk_182 0 74 (dk_at dksX14_finds_5 8 rfl rfl)
theorem dX14_finds_131 : decode cX14_finds 131 = .ok (.iinc 1 1, 3) := dk_132 1 1 (dk_at dksX14_finds_5 11 rfl rfl)
theorem dX14_finds_134 : decode cX14_finds 134 = .ok (.goto (-71), 3) := dk_167 255 185 (dk_at dksX14_finds_5 14 rfl rfl)
theorem dX14_finds_137 : decode cX14_finds 137 = .ok (.aload_n 0, 1) := dk_42 (dk_at dksX14_finds_5 17 rfl rfl)
theorem dX14_finds_138 : decode cX14_finds 138 = .ok (.getfield 26, 3) := dk_180 0 26 (dk_at dksX14_finds_5 18 rfl rfl)
theorem dX14_finds_141 : decode cX14_finds 141 = .ok (.sipush 289, 3) := dk_17 1 33 (dk_at dksX14_finds_5 21 rfl rfl)
theorem dX14_finds_144 : decode cX14_finds 144 = .ok (.iaload, 1) := dk_46 (dk_at dksX14_finds_6 0 rfl rfl)
theorem dX14_finds_145 : decode cX14_finds 145 = .ok (.iconst (-1), 1) := dk_2 (dk_at dksX14_finds_6 1 rfl rfl)
theorem dX14_finds_146 : decode cX14_finds 146 = .ok (.if_icmp .eq 7, 3) := dk_159 0 7 (dk_at dksX14_finds_6 2 rfl rfl)
theorem dX14_finds_149 : decode cX14_finds 149 = .ok (.iconst 1, 1) := dk_4 (dk_at dksX14_finds_6 5 rfl rfl)
theorem dX14_finds_150 : decode cX14_finds 150 = .ok (.goto 4, 3) := dk_167 0 4 (dk_at dksX14_finds_6 6 rfl rfl)
theorem dX14_finds_153 : decode cX14_finds 153 = .ok (.iconst 0, 1) := dk_3 (dk_at dksX14_finds_6 9 rfl rfl)
theorem dX14_finds_154 : decode cX14_finds 154 = .ok (.ireturn, 1) := dk_172 (dk_at dksX14_finds_6 10 rfl rfl)
abbrev cX14_come : ByteArray := prog_3_method_2_code
def yX14_come : MethodName := ⟨RX14, "come", "(II)V"⟩
def dkwX14_come_1 : List UInt8 := [180, 0, 62, 27, 79, 42, 89, 180, 0, 62, 4, 96, 181, 0, 62, 177]
abbrev dktX14_come_1 : List UInt8 := dkwX14_come_1 ++ []
def dkwX14_come_0 : List UInt8 := [42, 180, 0, 26, 27, 46, 2, 159, 0, 4, 177, 42, 180, 0, 26, 27, 28, 79, 42, 180, 0, 30, 42]
abbrev dktX14_come_0 : List UInt8 := dkwX14_come_0 ++ dktX14_come_1
theorem dksX14_come_0 : cX14_come.data.toList.drop 0 = dktX14_come_0 := by decide +kernel
theorem dksX14_come_1 : cX14_come.data.toList.drop 23 = dktX14_come_1 := dk_seg dksX14_come_0 23 rfl rfl
theorem dX14_come_0 : decode cX14_come 0 = .ok (.aload_n 0, 1) := dk_42 (dk_at dksX14_come_0 0 rfl rfl)
theorem dX14_come_1 : decode cX14_come 1 = .ok (.getfield 26, 3) := dk_180 0 26 (dk_at dksX14_come_0 1 rfl rfl)
theorem dX14_come_4 : decode cX14_come 4 = .ok (.iload_n 1, 1) := dk_27 (dk_at dksX14_come_0 4 rfl rfl)
theorem dX14_come_5 : decode cX14_come 5 = .ok (.iaload, 1) := dk_46 (dk_at dksX14_come_0 5 rfl rfl)
theorem dX14_come_6 : decode cX14_come 6 = .ok (.iconst (-1), 1) := dk_2 (dk_at dksX14_come_0 6 rfl rfl)
theorem dX14_come_7 : decode cX14_come 7 = .ok (.if_icmp .eq 4, 3) := dk_159 0 4 (dk_at dksX14_come_0 7 rfl rfl)
theorem dX14_come_10 : decode cX14_come 10 = .ok (.return_, 1) := dk_177 (dk_at dksX14_come_0 10 rfl rfl)
theorem dX14_come_11 : decode cX14_come 11 = .ok (.aload_n 0, 1) := dk_42 (dk_at dksX14_come_0 11 rfl rfl)
theorem dX14_come_12 : decode cX14_come 12 = .ok (.getfield 26, 3) := dk_180 0 26 (dk_at dksX14_come_0 12 rfl rfl)
theorem dX14_come_15 : decode cX14_come 15 = .ok (.iload_n 1, 1) := dk_27 (dk_at dksX14_come_0 15 rfl rfl)
theorem dX14_come_16 : decode cX14_come 16 = .ok (.iload_n 2, 1) := dk_28 (dk_at dksX14_come_0 16 rfl rfl)
theorem dX14_come_17 : decode cX14_come 17 = .ok (.iastore, 1) := dk_79 (dk_at dksX14_come_0 17 rfl rfl)
theorem dX14_come_18 : decode cX14_come 18 = .ok (.aload_n 0, 1) := dk_42 (dk_at dksX14_come_0 18 rfl rfl)
theorem dX14_come_19 : decode cX14_come 19 = .ok (.getfield 30, 3) := dk_180 0 30 (dk_at dksX14_come_0 19 rfl rfl)
theorem dX14_come_22 : decode cX14_come 22 = .ok (.aload_n 0, 1) := dk_42 (dk_at dksX14_come_0 22 rfl rfl)
theorem dX14_come_23 : decode cX14_come 23 = .ok (.getfield 62, 3) := dk_180 0 62 (dk_at dksX14_come_1 0 rfl rfl)
theorem dX14_come_26 : decode cX14_come 26 = .ok (.iload_n 1, 1) := dk_27 (dk_at dksX14_come_1 3 rfl rfl)
theorem dX14_come_27 : decode cX14_come 27 = .ok (.iastore, 1) := dk_79 (dk_at dksX14_come_1 4 rfl rfl)
theorem dX14_come_28 : decode cX14_come 28 = .ok (.aload_n 0, 1) := dk_42 (dk_at dksX14_come_1 5 rfl rfl)
theorem dX14_come_29 : decode cX14_come 29 = .ok (.dup, 1) := dk_89 (dk_at dksX14_come_1 6 rfl rfl)
theorem dX14_come_30 : decode cX14_come 30 = .ok (.getfield 62, 3) := dk_180 0 62 (dk_at dksX14_come_1 7 rfl rfl)
theorem dX14_come_33 : decode cX14_come 33 = .ok (.iconst 1, 1) := dk_4 (dk_at dksX14_come_1 10 rfl rfl)
theorem dX14_come_34 : decode cX14_come 34 = .ok (.iadd, 1) := dk_96 (dk_at dksX14_come_1 11 rfl rfl)
theorem dX14_come_35 : decode cX14_come 35 = .ok (.putfield 62, 3) := dk_181 0 62 (dk_at dksX14_come_1 12 rfl rfl)
theorem dX14_come_38 : decode cX14_come 38 = .ok (.return_, 1) := dk_177 (dk_at dksX14_come_1 15 rfl rfl)
abbrev cX14_goesIn : ByteArray := prog_3_method_5_code
def yX14_goesIn : MethodName := ⟨RX14, "goesIn", "(I)V"⟩
def dkwX14_goesIn_3 : List UInt8 := [167, 255, 211, 177]
abbrev dktX14_goesIn_3 : List UInt8 := dkwX14_goesIn_3 ++ []
def dkwX14_goesIn_2 : List UInt8 := [184, 0, 81, 51, 153, 0, 15, 42, 5, 29, 104, 4, 96, 5, 27, 104, 182, 0, 66, 132, 2, 1]
abbrev dktX14_goesIn_2 : List UInt8 := dkwX14_goesIn_2 ++ dktX14_goesIn_3
def dkwX14_goesIn_1 : List UInt8 := [7, 162, 0, 46, 27, 28, 184, 0, 77, 62, 29, 2, 159, 0, 29, 42, 180, 0, 23, 29, 50, 28]
abbrev dktX14_goesIn_1 : List UInt8 := dkwX14_goesIn_1 ++ dktX14_goesIn_2
def dkwX14_goesIn_0 : List UInt8 := [42, 180, 0, 11, 27, 51, 154, 0, 15, 42, 5, 27, 104, 4, 96, 5, 27, 104, 182, 0, 66, 3, 61, 28]
abbrev dktX14_goesIn_0 : List UInt8 := dkwX14_goesIn_0 ++ dktX14_goesIn_1
theorem dksX14_goesIn_0 : cX14_goesIn.data.toList.drop 0 = dktX14_goesIn_0 := by decide +kernel
theorem dksX14_goesIn_1 : cX14_goesIn.data.toList.drop 24 = dktX14_goesIn_1 := dk_seg dksX14_goesIn_0 24 rfl rfl
theorem dksX14_goesIn_2 : cX14_goesIn.data.toList.drop 46 = dktX14_goesIn_2 := dk_seg dksX14_goesIn_1 22 rfl rfl
theorem dksX14_goesIn_3 : cX14_goesIn.data.toList.drop 68 = dktX14_goesIn_3 := dk_seg dksX14_goesIn_2 22 rfl rfl
theorem dX14_goesIn_0 : decode cX14_goesIn 0 = .ok (.aload_n 0, 1) := dk_42 (dk_at dksX14_goesIn_0 0 rfl rfl)
theorem dX14_goesIn_1 : decode cX14_goesIn 1 = .ok (.getfield 11, 3) := dk_180 0 11 (dk_at dksX14_goesIn_0 1 rfl rfl)
theorem dX14_goesIn_4 : decode cX14_goesIn 4 = .ok (.iload_n 1, 1) := dk_27 (dk_at dksX14_goesIn_0 4 rfl rfl)
theorem dX14_goesIn_5 : decode cX14_goesIn 5 = .ok (.baload, 1) := dk_51 (dk_at dksX14_goesIn_0 5 rfl rfl)
theorem dX14_goesIn_6 : decode cX14_goesIn 6 = .ok (.ifCond .ne 15, 3) := dk_154 0 15 (dk_at dksX14_goesIn_0 6 rfl rfl)
theorem dX14_goesIn_9 : decode cX14_goesIn 9 = .ok (.aload_n 0, 1) := dk_42 (dk_at dksX14_goesIn_0 9 rfl rfl)
theorem dX14_goesIn_10 : decode cX14_goesIn 10 = .ok (.iconst 2, 1) := dk_5 (dk_at dksX14_goesIn_0 10 rfl rfl)
theorem dX14_goesIn_11 : decode cX14_goesIn 11 = .ok (.iload_n 1, 1) := dk_27 (dk_at dksX14_goesIn_0 11 rfl rfl)
theorem dX14_goesIn_12 : decode cX14_goesIn 12 = .ok (.imul, 1) := dk_104 (dk_at dksX14_goesIn_0 12 rfl rfl)
theorem dX14_goesIn_13 : decode cX14_goesIn 13 = .ok (.iconst 1, 1) := dk_4 (dk_at dksX14_goesIn_0 13 rfl rfl)
theorem dX14_goesIn_14 : decode cX14_goesIn 14 = .ok (.iadd, 1) := dk_96 (dk_at dksX14_goesIn_0 14 rfl rfl)
theorem dX14_goesIn_15 : decode cX14_goesIn 15 = .ok (.iconst 2, 1) := dk_5 (dk_at dksX14_goesIn_0 15 rfl rfl)
theorem dX14_goesIn_16 : decode cX14_goesIn 16 = .ok (.iload_n 1, 1) := dk_27 (dk_at dksX14_goesIn_0 16 rfl rfl)
theorem dX14_goesIn_17 : decode cX14_goesIn 17 = .ok (.imul, 1) := dk_104 (dk_at dksX14_goesIn_0 17 rfl rfl)
theorem dX14_goesIn_18 : decode cX14_goesIn 18 = .ok (.invokevirtual 66, 3) := dk_182 0 66 (dk_at dksX14_goesIn_0 18 rfl rfl)
theorem dX14_goesIn_21 : decode cX14_goesIn 21 = .ok (.iconst 0, 1) := dk_3 (dk_at dksX14_goesIn_0 21 rfl rfl)
theorem dX14_goesIn_22 : decode cX14_goesIn 22 = .ok (.istore_n 2, 1) := dk_61 (dk_at dksX14_goesIn_0 22 rfl rfl)
theorem dX14_goesIn_23 : decode cX14_goesIn 23 = .ok (.iload_n 2, 1) := dk_28 (dk_at dksX14_goesIn_0 23 rfl rfl)
theorem dX14_goesIn_24 : decode cX14_goesIn 24 = .ok (.iconst 4, 1) := dk_7 (dk_at dksX14_goesIn_1 0 rfl rfl)
theorem dX14_goesIn_25 : decode cX14_goesIn 25 = .ok (.if_icmp .ge 46, 3) := dk_162 0 46 (dk_at dksX14_goesIn_1 1 rfl rfl)
theorem dX14_goesIn_28 : decode cX14_goesIn 28 = .ok (.iload_n 1, 1) := dk_27 (dk_at dksX14_goesIn_1 4 rfl rfl)
theorem dX14_goesIn_29 : decode cX14_goesIn 29 = .ok (.iload_n 2, 1) := dk_28 (dk_at dksX14_goesIn_1 5 rfl rfl)
theorem dX14_goesIn_30 : decode cX14_goesIn 30 = .ok (.invokestatic 77, 3) := dk_184 0 77 (dk_at dksX14_goesIn_1 6 rfl rfl)
theorem dX14_goesIn_33 : decode cX14_goesIn 33 = .ok (.istore_n 3, 1) := dk_62 (dk_at dksX14_goesIn_1 9 rfl rfl)
theorem dX14_goesIn_34 : decode cX14_goesIn 34 = .ok (.iload_n 3, 1) := dk_29 (dk_at dksX14_goesIn_1 10 rfl rfl)
theorem dX14_goesIn_35 : decode cX14_goesIn 35 = .ok (.iconst (-1), 1) := dk_2 (dk_at dksX14_goesIn_1 11 rfl rfl)
theorem dX14_goesIn_36 : decode cX14_goesIn 36 = .ok (.if_icmp .eq 29, 3) := dk_159 0 29 (dk_at dksX14_goesIn_1 12 rfl rfl)
theorem dX14_goesIn_39 : decode cX14_goesIn 39 = .ok (.aload_n 0, 1) := dk_42 (dk_at dksX14_goesIn_1 15 rfl rfl)
theorem dX14_goesIn_40 : decode cX14_goesIn 40 = .ok (.getfield 23, 3) := dk_180 0 23 (dk_at dksX14_goesIn_1 16 rfl rfl)
theorem dX14_goesIn_43 : decode cX14_goesIn 43 = .ok (.iload_n 3, 1) := dk_29 (dk_at dksX14_goesIn_1 19 rfl rfl)
theorem dX14_goesIn_44 : decode cX14_goesIn 44 = .ok (.aaload, 1) := dk_50 (dk_at dksX14_goesIn_1 20 rfl rfl)
theorem dX14_goesIn_45 : decode cX14_goesIn 45 = .ok (.iload_n 2, 1) := dk_28 (dk_at dksX14_goesIn_1 21 rfl rfl)
theorem dX14_goesIn_46 : decode cX14_goesIn 46 = .ok (.invokestatic 81, 3) := dk_184 0 81 (dk_at dksX14_goesIn_2 0 rfl rfl)
theorem dX14_goesIn_49 : decode cX14_goesIn 49 = .ok (.baload, 1) := dk_51 (dk_at dksX14_goesIn_2 3 rfl rfl)
theorem dX14_goesIn_50 : decode cX14_goesIn 50 = .ok (.ifCond .eq 15, 3) := dk_153 0 15 (dk_at dksX14_goesIn_2 4 rfl rfl)
theorem dX14_goesIn_53 : decode cX14_goesIn 53 = .ok (.aload_n 0, 1) := dk_42 (dk_at dksX14_goesIn_2 7 rfl rfl)
theorem dX14_goesIn_54 : decode cX14_goesIn 54 = .ok (.iconst 2, 1) := dk_5 (dk_at dksX14_goesIn_2 8 rfl rfl)
theorem dX14_goesIn_55 : decode cX14_goesIn 55 = .ok (.iload_n 3, 1) := dk_29 (dk_at dksX14_goesIn_2 9 rfl rfl)
theorem dX14_goesIn_56 : decode cX14_goesIn 56 = .ok (.imul, 1) := dk_104 (dk_at dksX14_goesIn_2 10 rfl rfl)
theorem dX14_goesIn_57 : decode cX14_goesIn 57 = .ok (.iconst 1, 1) := dk_4 (dk_at dksX14_goesIn_2 11 rfl rfl)
theorem dX14_goesIn_58 : decode cX14_goesIn 58 = .ok (.iadd, 1) := dk_96 (dk_at dksX14_goesIn_2 12 rfl rfl)
theorem dX14_goesIn_59 : decode cX14_goesIn 59 = .ok (.iconst 2, 1) := dk_5 (dk_at dksX14_goesIn_2 13 rfl rfl)
theorem dX14_goesIn_60 : decode cX14_goesIn 60 = .ok (.iload_n 1, 1) := dk_27 (dk_at dksX14_goesIn_2 14 rfl rfl)
theorem dX14_goesIn_61 : decode cX14_goesIn 61 = .ok (.imul, 1) := dk_104 (dk_at dksX14_goesIn_2 15 rfl rfl)
theorem dX14_goesIn_62 : decode cX14_goesIn 62 = .ok (.invokevirtual 66, 3) := dk_182 0 66 (dk_at dksX14_goesIn_2 16 rfl rfl)
theorem dX14_goesIn_65 : decode cX14_goesIn 65 = .ok (.iinc 2 1, 3) := dk_132 2 1 (dk_at dksX14_goesIn_2 19 rfl rfl)
theorem dX14_goesIn_68 : decode cX14_goesIn 68 = .ok (.goto (-45), 3) := dk_167 255 211 (dk_at dksX14_goesIn_3 0 rfl rfl)
theorem dX14_goesIn_71 : decode cX14_goesIn 71 = .ok (.return_, 1) := dk_177 (dk_at dksX14_goesIn_3 3 rfl rfl)
abbrev cX14_back : ByteArray := prog_3_method_3_code
def yX14_back : MethodName := ⟨RX14, "back", "(I)I"⟩
def dkwX14_back_0 : List UInt8 := [26, 4, 130, 172]
abbrev dktX14_back_0 : List UInt8 := dkwX14_back_0 ++ []
theorem dksX14_back_0 : cX14_back.data.toList.drop 0 = dktX14_back_0 := by decide +kernel
theorem dX14_back_0 : decode cX14_back 0 = .ok (.iload_n 0, 1) := dk_26 (dk_at dksX14_back_0 0 rfl rfl)
theorem dX14_back_1 : decode cX14_back 1 = .ok (.iconst 1, 1) := dk_4 (dk_at dksX14_back_0 1 rfl rfl)
theorem dX14_back_2 : decode cX14_back 2 = .ok (.ixor, 1) := dk_130 (dk_at dksX14_back_0 2 rfl rfl)
theorem dX14_back_3 : decode cX14_back 3 = .ok (.ireturn, 1) := dk_172 (dk_at dksX14_back_0 3 rfl rfl)
abbrev cX14_goesOut : ByteArray := prog_3_method_6_code
def yX14_goesOut : MethodName := ⟨RX14, "goesOut", "(I)V"⟩
def dkwX14_goesOut_3 : List UInt8 := [5, 29, 104, 5, 27, 104, 4, 96, 182, 0, 66, 132, 2, 1, 167, 255, 216, 177]
abbrev dktX14_goesOut_3 : List UInt8 := dkwX14_goesOut_3 ++ []
def dkwX14_goesOut_2 : List UInt8 := [162, 0, 41, 27, 28, 184, 0, 77, 62, 29, 2, 159, 0, 24, 42, 180, 0, 15, 29, 51, 153, 0, 15, 42]
abbrev dktX14_goesOut_2 : List UInt8 := dkwX14_goesOut_2 ++ dktX14_goesOut_3
def dkwX14_goesOut_1 : List UInt8 := [184, 0, 85, 153, 0, 15, 42, 17, 1, 33, 5, 27, 104, 4, 96, 182, 0, 66, 3, 61, 28, 7]
abbrev dktX14_goesOut_1 : List UInt8 := dkwX14_goesOut_1 ++ dktX14_goesOut_2
def dkwX14_goesOut_0 : List UInt8 := [42, 180, 0, 11, 27, 51, 153, 0, 15, 42, 5, 27, 104, 5, 27, 104, 4, 96, 182, 0, 66, 27]
abbrev dktX14_goesOut_0 : List UInt8 := dkwX14_goesOut_0 ++ dktX14_goesOut_1
theorem dksX14_goesOut_0 : cX14_goesOut.data.toList.drop 0 = dktX14_goesOut_0 := by decide +kernel
theorem dksX14_goesOut_1 : cX14_goesOut.data.toList.drop 22 = dktX14_goesOut_1 := dk_seg dksX14_goesOut_0 22 rfl rfl
theorem dksX14_goesOut_2 : cX14_goesOut.data.toList.drop 44 = dktX14_goesOut_2 := dk_seg dksX14_goesOut_1 22 rfl rfl
theorem dksX14_goesOut_3 : cX14_goesOut.data.toList.drop 68 = dktX14_goesOut_3 := dk_seg dksX14_goesOut_2 24 rfl rfl
theorem dX14_goesOut_0 : decode cX14_goesOut 0 = .ok (.aload_n 0, 1) := dk_42 (dk_at dksX14_goesOut_0 0 rfl rfl)
theorem dX14_goesOut_1 : decode cX14_goesOut 1 = .ok (.getfield 11, 3) := dk_180 0 11 (dk_at dksX14_goesOut_0 1 rfl rfl)
theorem dX14_goesOut_4 : decode cX14_goesOut 4 = .ok (.iload_n 1, 1) := dk_27 (dk_at dksX14_goesOut_0 4 rfl rfl)
theorem dX14_goesOut_5 : decode cX14_goesOut 5 = .ok (.baload, 1) := dk_51 (dk_at dksX14_goesOut_0 5 rfl rfl)
theorem dX14_goesOut_6 : decode cX14_goesOut 6 = .ok (.ifCond .eq 15, 3) := dk_153 0 15 (dk_at dksX14_goesOut_0 6 rfl rfl)
theorem dX14_goesOut_9 : decode cX14_goesOut 9 = .ok (.aload_n 0, 1) := dk_42 (dk_at dksX14_goesOut_0 9 rfl rfl)
theorem dX14_goesOut_10 : decode cX14_goesOut 10 = .ok (.iconst 2, 1) := dk_5 (dk_at dksX14_goesOut_0 10 rfl rfl)
theorem dX14_goesOut_11 : decode cX14_goesOut 11 = .ok (.iload_n 1, 1) := dk_27 (dk_at dksX14_goesOut_0 11 rfl rfl)
theorem dX14_goesOut_12 : decode cX14_goesOut 12 = .ok (.imul, 1) := dk_104 (dk_at dksX14_goesOut_0 12 rfl rfl)
theorem dX14_goesOut_13 : decode cX14_goesOut 13 = .ok (.iconst 2, 1) := dk_5 (dk_at dksX14_goesOut_0 13 rfl rfl)
theorem dX14_goesOut_14 : decode cX14_goesOut 14 = .ok (.iload_n 1, 1) := dk_27 (dk_at dksX14_goesOut_0 14 rfl rfl)
theorem dX14_goesOut_15 : decode cX14_goesOut 15 = .ok (.imul, 1) := dk_104 (dk_at dksX14_goesOut_0 15 rfl rfl)
theorem dX14_goesOut_16 : decode cX14_goesOut 16 = .ok (.iconst 1, 1) := dk_4 (dk_at dksX14_goesOut_0 16 rfl rfl)
theorem dX14_goesOut_17 : decode cX14_goesOut 17 = .ok (.iadd, 1) := dk_96 (dk_at dksX14_goesOut_0 17 rfl rfl)
theorem dX14_goesOut_18 : decode cX14_goesOut 18 = .ok (.invokevirtual 66, 3) := dk_182 0 66 (dk_at dksX14_goesOut_0 18 rfl rfl)
theorem dX14_goesOut_21 : decode cX14_goesOut 21 = .ok (.iload_n 1, 1) := dk_27 (dk_at dksX14_goesOut_0 21 rfl rfl)
theorem dX14_goesOut_22 : decode cX14_goesOut 22 = .ok (.invokestatic 85, 3) := dk_184 0 85 (dk_at dksX14_goesOut_1 0 rfl rfl)
theorem dX14_goesOut_25 : decode cX14_goesOut 25 = .ok (.ifCond .eq 15, 3) := dk_153 0 15 (dk_at dksX14_goesOut_1 3 rfl rfl)
theorem dX14_goesOut_28 : decode cX14_goesOut 28 = .ok (.aload_n 0, 1) := dk_42 (dk_at dksX14_goesOut_1 6 rfl rfl)
theorem dX14_goesOut_29 : decode cX14_goesOut 29 = .ok (.sipush 289, 3) := dk_17 1 33 (dk_at dksX14_goesOut_1 7 rfl rfl)
theorem dX14_goesOut_32 : decode cX14_goesOut 32 = .ok (.iconst 2, 1) := dk_5 (dk_at dksX14_goesOut_1 10 rfl rfl)
theorem dX14_goesOut_33 : decode cX14_goesOut 33 = .ok (.iload_n 1, 1) := dk_27 (dk_at dksX14_goesOut_1 11 rfl rfl)
theorem dX14_goesOut_34 : decode cX14_goesOut 34 = .ok (.imul, 1) := dk_104 (dk_at dksX14_goesOut_1 12 rfl rfl)
theorem dX14_goesOut_35 : decode cX14_goesOut 35 = .ok (.iconst 1, 1) := dk_4 (dk_at dksX14_goesOut_1 13 rfl rfl)
theorem dX14_goesOut_36 : decode cX14_goesOut 36 = .ok (.iadd, 1) := dk_96 (dk_at dksX14_goesOut_1 14 rfl rfl)
theorem dX14_goesOut_37 : decode cX14_goesOut 37 = .ok (.invokevirtual 66, 3) := dk_182 0 66 (dk_at dksX14_goesOut_1 15 rfl rfl)
theorem dX14_goesOut_40 : decode cX14_goesOut 40 = .ok (.iconst 0, 1) := dk_3 (dk_at dksX14_goesOut_1 18 rfl rfl)
theorem dX14_goesOut_41 : decode cX14_goesOut 41 = .ok (.istore_n 2, 1) := dk_61 (dk_at dksX14_goesOut_1 19 rfl rfl)
theorem dX14_goesOut_42 : decode cX14_goesOut 42 = .ok (.iload_n 2, 1) := dk_28 (dk_at dksX14_goesOut_1 20 rfl rfl)
theorem dX14_goesOut_43 : decode cX14_goesOut 43 = .ok (.iconst 4, 1) := dk_7 (dk_at dksX14_goesOut_1 21 rfl rfl)
theorem dX14_goesOut_44 : decode cX14_goesOut 44 = .ok (.if_icmp .ge 41, 3) := dk_162 0 41 (dk_at dksX14_goesOut_2 0 rfl rfl)
theorem dX14_goesOut_47 : decode cX14_goesOut 47 = .ok (.iload_n 1, 1) := dk_27 (dk_at dksX14_goesOut_2 3 rfl rfl)
theorem dX14_goesOut_48 : decode cX14_goesOut 48 = .ok (.iload_n 2, 1) := dk_28 (dk_at dksX14_goesOut_2 4 rfl rfl)
theorem dX14_goesOut_49 : decode cX14_goesOut 49 = .ok (.invokestatic 77, 3) := dk_184 0 77 (dk_at dksX14_goesOut_2 5 rfl rfl)
theorem dX14_goesOut_52 : decode cX14_goesOut 52 = .ok (.istore_n 3, 1) := dk_62 (dk_at dksX14_goesOut_2 8 rfl rfl)
theorem dX14_goesOut_53 : decode cX14_goesOut 53 = .ok (.iload_n 3, 1) := dk_29 (dk_at dksX14_goesOut_2 9 rfl rfl)
theorem dX14_goesOut_54 : decode cX14_goesOut 54 = .ok (.iconst (-1), 1) := dk_2 (dk_at dksX14_goesOut_2 10 rfl rfl)
theorem dX14_goesOut_55 : decode cX14_goesOut 55 = .ok (.if_icmp .eq 24, 3) := dk_159 0 24 (dk_at dksX14_goesOut_2 11 rfl rfl)
theorem dX14_goesOut_58 : decode cX14_goesOut 58 = .ok (.aload_n 0, 1) := dk_42 (dk_at dksX14_goesOut_2 14 rfl rfl)
theorem dX14_goesOut_59 : decode cX14_goesOut 59 = .ok (.getfield 15, 3) := dk_180 0 15 (dk_at dksX14_goesOut_2 15 rfl rfl)
theorem dX14_goesOut_62 : decode cX14_goesOut 62 = .ok (.iload_n 3, 1) := dk_29 (dk_at dksX14_goesOut_2 18 rfl rfl)
theorem dX14_goesOut_63 : decode cX14_goesOut 63 = .ok (.baload, 1) := dk_51 (dk_at dksX14_goesOut_2 19 rfl rfl)
theorem dX14_goesOut_64 : decode cX14_goesOut 64 = .ok (.ifCond .eq 15, 3) := dk_153 0 15 (dk_at dksX14_goesOut_2 20 rfl rfl)
theorem dX14_goesOut_67 : decode cX14_goesOut 67 = .ok (.aload_n 0, 1) := dk_42 (dk_at dksX14_goesOut_2 23 rfl rfl)
theorem dX14_goesOut_68 : decode cX14_goesOut 68 = .ok (.iconst 2, 1) := dk_5 (dk_at dksX14_goesOut_3 0 rfl rfl)
theorem dX14_goesOut_69 : decode cX14_goesOut 69 = .ok (.iload_n 3, 1) := dk_29 (dk_at dksX14_goesOut_3 1 rfl rfl)
theorem dX14_goesOut_70 : decode cX14_goesOut 70 = .ok (.imul, 1) := dk_104 (dk_at dksX14_goesOut_3 2 rfl rfl)
theorem dX14_goesOut_71 : decode cX14_goesOut 71 = .ok (.iconst 2, 1) := dk_5 (dk_at dksX14_goesOut_3 3 rfl rfl)
theorem dX14_goesOut_72 : decode cX14_goesOut 72 = .ok (.iload_n 1, 1) := dk_27 (dk_at dksX14_goesOut_3 4 rfl rfl)
theorem dX14_goesOut_73 : decode cX14_goesOut 73 = .ok (.imul, 1) := dk_104 (dk_at dksX14_goesOut_3 5 rfl rfl)
theorem dX14_goesOut_74 : decode cX14_goesOut 74 = .ok (.iconst 1, 1) := dk_4 (dk_at dksX14_goesOut_3 6 rfl rfl)
theorem dX14_goesOut_75 : decode cX14_goesOut 75 = .ok (.iadd, 1) := dk_96 (dk_at dksX14_goesOut_3 7 rfl rfl)
theorem dX14_goesOut_76 : decode cX14_goesOut 76 = .ok (.invokevirtual 66, 3) := dk_182 0 66 (dk_at dksX14_goesOut_3 8 rfl rfl)
theorem dX14_goesOut_79 : decode cX14_goesOut 79 = .ok (.iinc 2 1, 3) := dk_132 2 1 (dk_at dksX14_goesOut_3 11 rfl rfl)
theorem dX14_goesOut_82 : decode cX14_goesOut 82 = .ok (.goto (-40), 3) := dk_167 255 216 (dk_at dksX14_goesOut_3 14 rfl rfl)
theorem dX14_goesOut_85 : decode cX14_goesOut 85 = .ok (.return_, 1) := dk_177 (dk_at dksX14_goesOut_3 17 rfl rfl)
abbrev cX14_sends : ByteArray := prog_3_method_7_code
def yX14_sends : MethodName := ⟨RX14, "sends", "()V"⟩
def dkwX14_sends_2 : List UInt8 := [29, 60, 132, 2, 1, 167, 255, 219, 177]
abbrev dktX14_sends_2 : List UInt8 := dkwX14_sends_2 ++ []
def dkwX14_sends_1 : List UInt8 := [180, 0, 26, 27, 46, 17, 1, 32, 159, 0, 24, 42, 180, 0, 26, 27, 46, 62, 42, 29, 27, 182, 0, 91]
abbrev dktX14_sends_1 : List UInt8 := dkwX14_sends_1 ++ dktX14_sends_2
def dkwX14_sends_0 : List UInt8 := [42, 89, 180, 0, 88, 4, 96, 181, 0, 88, 17, 1, 33, 60, 3, 61, 28, 17, 1, 34, 162, 0, 36, 42]
abbrev dktX14_sends_0 : List UInt8 := dkwX14_sends_0 ++ dktX14_sends_1
theorem dksX14_sends_0 : cX14_sends.data.toList.drop 0 = dktX14_sends_0 := by decide +kernel
theorem dksX14_sends_1 : cX14_sends.data.toList.drop 24 = dktX14_sends_1 := dk_seg dksX14_sends_0 24 rfl rfl
theorem dksX14_sends_2 : cX14_sends.data.toList.drop 48 = dktX14_sends_2 := dk_seg dksX14_sends_1 24 rfl rfl
theorem dX14_sends_0 : decode cX14_sends 0 = .ok (.aload_n 0, 1) := dk_42 (dk_at dksX14_sends_0 0 rfl rfl)
theorem dX14_sends_1 : decode cX14_sends 1 = .ok (.dup, 1) := dk_89 (dk_at dksX14_sends_0 1 rfl rfl)
theorem dX14_sends_2 : decode cX14_sends 2 = .ok (.getfield 88, 3) := dk_180 0 88 (dk_at dksX14_sends_0 2 rfl rfl)
theorem dX14_sends_5 : decode cX14_sends 5 = .ok (.iconst 1, 1) := dk_4 (dk_at dksX14_sends_0 5 rfl rfl)
theorem dX14_sends_6 : decode cX14_sends 6 = .ok (.iadd, 1) := dk_96 (dk_at dksX14_sends_0 6 rfl rfl)
theorem dX14_sends_7 : decode cX14_sends 7 = .ok (.putfield 88, 3) := dk_181 0 88 (dk_at dksX14_sends_0 7 rfl rfl)
theorem dX14_sends_10 : decode cX14_sends 10 = .ok (.sipush 289, 3) := dk_17 1 33 (dk_at dksX14_sends_0 10 rfl rfl)
theorem dX14_sends_13 : decode cX14_sends 13 = .ok (.istore_n 1, 1) := dk_60 (dk_at dksX14_sends_0 13 rfl rfl)
theorem dX14_sends_14 : decode cX14_sends 14 = .ok (.iconst 0, 1) := dk_3 (dk_at dksX14_sends_0 14 rfl rfl)
theorem dX14_sends_15 : decode cX14_sends 15 = .ok (.istore_n 2, 1) := dk_61 (dk_at dksX14_sends_0 15 rfl rfl)
theorem dX14_sends_16 : decode cX14_sends 16 = .ok (.iload_n 2, 1) := dk_28 (dk_at dksX14_sends_0 16 rfl rfl)
theorem dX14_sends_17 : decode cX14_sends 17 = .ok (.sipush 290, 3) := dk_17 1 34 (dk_at dksX14_sends_0 17 rfl rfl)
theorem dX14_sends_20 : decode cX14_sends 20 = .ok (.if_icmp .ge 36, 3) := dk_162 0 36 (dk_at dksX14_sends_0 20 rfl rfl)
theorem dX14_sends_23 : decode cX14_sends 23 = .ok (.aload_n 0, 1) := dk_42 (dk_at dksX14_sends_0 23 rfl rfl)
theorem dX14_sends_24 : decode cX14_sends 24 = .ok (.getfield 26, 3) := dk_180 0 26 (dk_at dksX14_sends_1 0 rfl rfl)
theorem dX14_sends_27 : decode cX14_sends 27 = .ok (.iload_n 1, 1) := dk_27 (dk_at dksX14_sends_1 3 rfl rfl)
theorem dX14_sends_28 : decode cX14_sends 28 = .ok (.iaload, 1) := dk_46 (dk_at dksX14_sends_1 4 rfl rfl)
theorem dX14_sends_29 : decode cX14_sends 29 = .ok (.sipush 288, 3) := dk_17 1 32 (dk_at dksX14_sends_1 5 rfl rfl)
theorem dX14_sends_32 : decode cX14_sends 32 = .ok (.if_icmp .eq 24, 3) := dk_159 0 24 (dk_at dksX14_sends_1 8 rfl rfl)
theorem dX14_sends_35 : decode cX14_sends 35 = .ok (.aload_n 0, 1) := dk_42 (dk_at dksX14_sends_1 11 rfl rfl)
theorem dX14_sends_36 : decode cX14_sends 36 = .ok (.getfield 26, 3) := dk_180 0 26 (dk_at dksX14_sends_1 12 rfl rfl)
theorem dX14_sends_39 : decode cX14_sends 39 = .ok (.iload_n 1, 1) := dk_27 (dk_at dksX14_sends_1 15 rfl rfl)
theorem dX14_sends_40 : decode cX14_sends 40 = .ok (.iaload, 1) := dk_46 (dk_at dksX14_sends_1 16 rfl rfl)
theorem dX14_sends_41 : decode cX14_sends 41 = .ok (.istore_n 3, 1) := dk_62 (dk_at dksX14_sends_1 17 rfl rfl)
theorem dX14_sends_42 : decode cX14_sends 42 = .ok (.aload_n 0, 1) := dk_42 (dk_at dksX14_sends_1 18 rfl rfl)
theorem dX14_sends_43 : decode cX14_sends 43 = .ok (.iload_n 3, 1) := dk_29 (dk_at dksX14_sends_1 19 rfl rfl)
theorem dX14_sends_44 : decode cX14_sends 44 = .ok (.iload_n 1, 1) := dk_27 (dk_at dksX14_sends_1 20 rfl rfl)
theorem dX14_sends_45 : decode cX14_sends 45 = .ok (.invokevirtual 91, 3) := dk_182 0 91 (dk_at dksX14_sends_1 21 rfl rfl)
theorem dX14_sends_48 : decode cX14_sends 48 = .ok (.iload_n 3, 1) := dk_29 (dk_at dksX14_sends_2 0 rfl rfl)
theorem dX14_sends_49 : decode cX14_sends 49 = .ok (.istore_n 1, 1) := dk_60 (dk_at dksX14_sends_2 1 rfl rfl)
theorem dX14_sends_50 : decode cX14_sends 50 = .ok (.iinc 2 1, 3) := dk_132 2 1 (dk_at dksX14_sends_2 2 rfl rfl)
theorem dX14_sends_53 : decode cX14_sends 53 = .ok (.goto (-37), 3) := dk_167 255 219 (dk_at dksX14_sends_2 5 rfl rfl)
theorem dX14_sends_56 : decode cX14_sends 56 = .ok (.return_, 1) := dk_177 (dk_at dksX14_sends_2 8 rfl rfl)
abbrev cX14_turns : ByteArray := prog_3_method_8_code
def yX14_turns : MethodName := ⟨RX14, "turns", "(II)V"⟩
def dkwX14_turns_4 : List UInt8 := [159, 0, 9, 132, 3, 1, 167, 255, 242, 42, 180, 0, 23, 21, 5, 50, 29, 21, 4, 84, 177]
abbrev dktX14_turns_4 : List UInt8 := dkwX14_turns_4 ++ []
def dkwX14_turns_3 : List UInt8 := [153, 0, 9, 28, 5, 108, 167, 0, 6, 27, 5, 108, 54, 6, 21, 5, 29, 184, 0, 77, 21, 6]
abbrev dktX14_turns_3 : List UInt8 := dkwX14_turns_3 ++ dktX14_turns_4
def dkwX14_turns_2 : List UInt8 := [167, 0, 4, 3, 54, 4, 21, 4, 153, 0, 9, 27, 5, 108, 167, 0, 6, 28, 5, 108, 54, 5, 21, 4]
abbrev dktX14_turns_2 : List UInt8 := dkwX14_turns_2 ++ dktX14_turns_3
def dkwX14_turns_1 : List UInt8 := [27, 5, 112, 154, 0, 7, 4, 167, 0, 4, 3, 84, 177, 3, 62, 27, 5, 112, 4, 160, 0, 7, 4]
abbrev dktX14_turns_1 : List UInt8 := dkwX14_turns_1 ++ dktX14_turns_2
def dkwX14_turns_0 : List UInt8 := [28, 17, 1, 33, 160, 0, 4, 177, 27, 5, 108, 28, 5, 108, 160, 0, 23, 42, 180, 0, 11, 28, 5, 108]
abbrev dktX14_turns_0 : List UInt8 := dkwX14_turns_0 ++ dktX14_turns_1
theorem dksX14_turns_0 : cX14_turns.data.toList.drop 0 = dktX14_turns_0 := by decide +kernel
theorem dksX14_turns_1 : cX14_turns.data.toList.drop 24 = dktX14_turns_1 := dk_seg dksX14_turns_0 24 rfl rfl
theorem dksX14_turns_2 : cX14_turns.data.toList.drop 47 = dktX14_turns_2 := dk_seg dksX14_turns_1 23 rfl rfl
theorem dksX14_turns_3 : cX14_turns.data.toList.drop 71 = dktX14_turns_3 := dk_seg dksX14_turns_2 24 rfl rfl
theorem dksX14_turns_4 : cX14_turns.data.toList.drop 93 = dktX14_turns_4 := dk_seg dksX14_turns_3 22 rfl rfl
theorem dX14_turns_0 : decode cX14_turns 0 = .ok (.iload_n 2, 1) := dk_28 (dk_at dksX14_turns_0 0 rfl rfl)
theorem dX14_turns_1 : decode cX14_turns 1 = .ok (.sipush 289, 3) := dk_17 1 33 (dk_at dksX14_turns_0 1 rfl rfl)
theorem dX14_turns_4 : decode cX14_turns 4 = .ok (.if_icmp .ne 4, 3) := dk_160 0 4 (dk_at dksX14_turns_0 4 rfl rfl)
theorem dX14_turns_7 : decode cX14_turns 7 = .ok (.return_, 1) := dk_177 (dk_at dksX14_turns_0 7 rfl rfl)
theorem dX14_turns_8 : decode cX14_turns 8 = .ok (.iload_n 1, 1) := dk_27 (dk_at dksX14_turns_0 8 rfl rfl)
theorem dX14_turns_9 : decode cX14_turns 9 = .ok (.iconst 2, 1) := dk_5 (dk_at dksX14_turns_0 9 rfl rfl)
theorem dX14_turns_10 : decode cX14_turns 10 = .ok (.idiv, 1) := dk_108 (dk_at dksX14_turns_0 10 rfl rfl)
theorem dX14_turns_11 : decode cX14_turns 11 = .ok (.iload_n 2, 1) := dk_28 (dk_at dksX14_turns_0 11 rfl rfl)
theorem dX14_turns_12 : decode cX14_turns 12 = .ok (.iconst 2, 1) := dk_5 (dk_at dksX14_turns_0 12 rfl rfl)
theorem dX14_turns_13 : decode cX14_turns 13 = .ok (.idiv, 1) := dk_108 (dk_at dksX14_turns_0 13 rfl rfl)
theorem dX14_turns_14 : decode cX14_turns 14 = .ok (.if_icmp .ne 23, 3) := dk_160 0 23 (dk_at dksX14_turns_0 14 rfl rfl)
theorem dX14_turns_17 : decode cX14_turns 17 = .ok (.aload_n 0, 1) := dk_42 (dk_at dksX14_turns_0 17 rfl rfl)
theorem dX14_turns_18 : decode cX14_turns 18 = .ok (.getfield 11, 3) := dk_180 0 11 (dk_at dksX14_turns_0 18 rfl rfl)
theorem dX14_turns_21 : decode cX14_turns 21 = .ok (.iload_n 2, 1) := dk_28 (dk_at dksX14_turns_0 21 rfl rfl)
theorem dX14_turns_22 : decode cX14_turns 22 = .ok (.iconst 2, 1) := dk_5 (dk_at dksX14_turns_0 22 rfl rfl)
theorem dX14_turns_23 : decode cX14_turns 23 = .ok (.idiv, 1) := dk_108 (dk_at dksX14_turns_0 23 rfl rfl)
theorem dX14_turns_24 : decode cX14_turns 24 = .ok (.iload_n 1, 1) := dk_27 (dk_at dksX14_turns_1 0 rfl rfl)
theorem dX14_turns_25 : decode cX14_turns 25 = .ok (.iconst 2, 1) := dk_5 (dk_at dksX14_turns_1 1 rfl rfl)
theorem dX14_turns_26 : decode cX14_turns 26 = .ok (.irem, 1) := dk_112 (dk_at dksX14_turns_1 2 rfl rfl)
theorem dX14_turns_27 : decode cX14_turns 27 = .ok (.ifCond .ne 7, 3) := dk_154 0 7 (dk_at dksX14_turns_1 3 rfl rfl)
theorem dX14_turns_30 : decode cX14_turns 30 = .ok (.iconst 1, 1) := dk_4 (dk_at dksX14_turns_1 6 rfl rfl)
theorem dX14_turns_31 : decode cX14_turns 31 = .ok (.goto 4, 3) := dk_167 0 4 (dk_at dksX14_turns_1 7 rfl rfl)
theorem dX14_turns_34 : decode cX14_turns 34 = .ok (.iconst 0, 1) := dk_3 (dk_at dksX14_turns_1 10 rfl rfl)
theorem dX14_turns_35 : decode cX14_turns 35 = .ok (.bastore, 1) := dk_84 (dk_at dksX14_turns_1 11 rfl rfl)
theorem dX14_turns_36 : decode cX14_turns 36 = .ok (.return_, 1) := dk_177 (dk_at dksX14_turns_1 12 rfl rfl)
theorem dX14_turns_37 : decode cX14_turns 37 = .ok (.iconst 0, 1) := dk_3 (dk_at dksX14_turns_1 13 rfl rfl)
theorem dX14_turns_38 : decode cX14_turns 38 = .ok (.istore_n 3, 1) := dk_62 (dk_at dksX14_turns_1 14 rfl rfl)
theorem dX14_turns_39 : decode cX14_turns 39 = .ok (.iload_n 1, 1) := dk_27 (dk_at dksX14_turns_1 15 rfl rfl)
theorem dX14_turns_40 : decode cX14_turns 40 = .ok (.iconst 2, 1) := dk_5 (dk_at dksX14_turns_1 16 rfl rfl)
theorem dX14_turns_41 : decode cX14_turns 41 = .ok (.irem, 1) := dk_112 (dk_at dksX14_turns_1 17 rfl rfl)
theorem dX14_turns_42 : decode cX14_turns 42 = .ok (.iconst 1, 1) := dk_4 (dk_at dksX14_turns_1 18 rfl rfl)
theorem dX14_turns_43 : decode cX14_turns 43 = .ok (.if_icmp .ne 7, 3) := dk_160 0 7 (dk_at dksX14_turns_1 19 rfl rfl)
theorem dX14_turns_46 : decode cX14_turns 46 = .ok (.iconst 1, 1) := dk_4 (dk_at dksX14_turns_1 22 rfl rfl)
theorem dX14_turns_47 : decode cX14_turns 47 = .ok (.goto 4, 3) := dk_167 0 4 (dk_at dksX14_turns_2 0 rfl rfl)
theorem dX14_turns_50 : decode cX14_turns 50 = .ok (.iconst 0, 1) := dk_3 (dk_at dksX14_turns_2 3 rfl rfl)
theorem dX14_turns_51 : decode cX14_turns 51 = .ok (.istore 4, 2) := dk_54 4 (dk_at dksX14_turns_2 4 rfl rfl)
theorem dX14_turns_53 : decode cX14_turns 53 = .ok (.iload 4, 2) := dk_21 4 (dk_at dksX14_turns_2 6 rfl rfl)
theorem dX14_turns_55 : decode cX14_turns 55 = .ok (.ifCond .eq 9, 3) := dk_153 0 9 (dk_at dksX14_turns_2 8 rfl rfl)
theorem dX14_turns_58 : decode cX14_turns 58 = .ok (.iload_n 1, 1) := dk_27 (dk_at dksX14_turns_2 11 rfl rfl)
theorem dX14_turns_59 : decode cX14_turns 59 = .ok (.iconst 2, 1) := dk_5 (dk_at dksX14_turns_2 12 rfl rfl)
theorem dX14_turns_60 : decode cX14_turns 60 = .ok (.idiv, 1) := dk_108 (dk_at dksX14_turns_2 13 rfl rfl)
theorem dX14_turns_61 : decode cX14_turns 61 = .ok (.goto 6, 3) := dk_167 0 6 (dk_at dksX14_turns_2 14 rfl rfl)
theorem dX14_turns_64 : decode cX14_turns 64 = .ok (.iload_n 2, 1) := dk_28 (dk_at dksX14_turns_2 17 rfl rfl)
theorem dX14_turns_65 : decode cX14_turns 65 = .ok (.iconst 2, 1) := dk_5 (dk_at dksX14_turns_2 18 rfl rfl)
theorem dX14_turns_66 : decode cX14_turns 66 = .ok (.idiv, 1) := dk_108 (dk_at dksX14_turns_2 19 rfl rfl)
theorem dX14_turns_67 : decode cX14_turns 67 = .ok (.istore 5, 2) := dk_54 5 (dk_at dksX14_turns_2 20 rfl rfl)
theorem dX14_turns_69 : decode cX14_turns 69 = .ok (.iload 4, 2) := dk_21 4 (dk_at dksX14_turns_2 22 rfl rfl)
theorem dX14_turns_71 : decode cX14_turns 71 = .ok (.ifCond .eq 9, 3) := dk_153 0 9 (dk_at dksX14_turns_3 0 rfl rfl)
theorem dX14_turns_74 : decode cX14_turns 74 = .ok (.iload_n 2, 1) := dk_28 (dk_at dksX14_turns_3 3 rfl rfl)
theorem dX14_turns_75 : decode cX14_turns 75 = .ok (.iconst 2, 1) := dk_5 (dk_at dksX14_turns_3 4 rfl rfl)
theorem dX14_turns_76 : decode cX14_turns 76 = .ok (.idiv, 1) := dk_108 (dk_at dksX14_turns_3 5 rfl rfl)
theorem dX14_turns_77 : decode cX14_turns 77 = .ok (.goto 6, 3) := dk_167 0 6 (dk_at dksX14_turns_3 6 rfl rfl)
theorem dX14_turns_80 : decode cX14_turns 80 = .ok (.iload_n 1, 1) := dk_27 (dk_at dksX14_turns_3 9 rfl rfl)
theorem dX14_turns_81 : decode cX14_turns 81 = .ok (.iconst 2, 1) := dk_5 (dk_at dksX14_turns_3 10 rfl rfl)
theorem dX14_turns_82 : decode cX14_turns 82 = .ok (.idiv, 1) := dk_108 (dk_at dksX14_turns_3 11 rfl rfl)
theorem dX14_turns_83 : decode cX14_turns 83 = .ok (.istore 6, 2) := dk_54 6 (dk_at dksX14_turns_3 12 rfl rfl)
theorem dX14_turns_85 : decode cX14_turns 85 = .ok (.iload 5, 2) := dk_21 5 (dk_at dksX14_turns_3 14 rfl rfl)
theorem dX14_turns_87 : decode cX14_turns 87 = .ok (.iload_n 3, 1) := dk_29 (dk_at dksX14_turns_3 16 rfl rfl)
theorem dX14_turns_88 : decode cX14_turns 88 = .ok (.invokestatic 77, 3) := dk_184 0 77 (dk_at dksX14_turns_3 17 rfl rfl)
theorem dX14_turns_91 : decode cX14_turns 91 = .ok (.iload 6, 2) := dk_21 6 (dk_at dksX14_turns_3 20 rfl rfl)
theorem dX14_turns_93 : decode cX14_turns 93 = .ok (.if_icmp .eq 9, 3) := dk_159 0 9 (dk_at dksX14_turns_4 0 rfl rfl)
theorem dX14_turns_96 : decode cX14_turns 96 = .ok (.iinc 3 1, 3) := dk_132 3 1 (dk_at dksX14_turns_4 3 rfl rfl)
theorem dX14_turns_99 : decode cX14_turns 99 = .ok (.goto (-14), 3) := dk_167 255 242 (dk_at dksX14_turns_4 6 rfl rfl)
theorem dX14_turns_102 : decode cX14_turns 102 = .ok (.aload_n 0, 1) := dk_42 (dk_at dksX14_turns_4 9 rfl rfl)
theorem dX14_turns_103 : decode cX14_turns 103 = .ok (.getfield 23, 3) := dk_180 0 23 (dk_at dksX14_turns_4 10 rfl rfl)
theorem dX14_turns_106 : decode cX14_turns 106 = .ok (.iload 5, 2) := dk_21 5 (dk_at dksX14_turns_4 13 rfl rfl)
theorem dX14_turns_108 : decode cX14_turns 108 = .ok (.aaload, 1) := dk_50 (dk_at dksX14_turns_4 15 rfl rfl)
theorem dX14_turns_109 : decode cX14_turns 109 = .ok (.iload_n 3, 1) := dk_29 (dk_at dksX14_turns_4 16 rfl rfl)
theorem dX14_turns_110 : decode cX14_turns 110 = .ok (.iload 4, 2) := dk_21 4 (dk_at dksX14_turns_4 17 rfl rfl)
theorem dX14_turns_112 : decode cX14_turns 112 = .ok (.bastore, 1) := dk_84 (dk_at dksX14_turns_4 19 rfl rfl)
theorem dX14_turns_113 : decode cX14_turns 113 = .ok (.return_, 1) := dk_177 (dk_at dksX14_turns_4 20 rfl rfl)
abbrev cX14_isGap : ByteArray := prog_3_method_9_code
def yX14_isGap : MethodName := ⟨RX14, "isGap", "(I)Z"⟩
def dkwX14_isGap_1 : List UInt8 := [160, 0, 7, 4, 167, 0, 4, 3, 172]
abbrev dktX14_isGap_1 : List UInt8 := dkwX14_isGap_1 ++ []
def dkwX14_isGap_0 : List UInt8 := [42, 180, 0, 26, 5, 27, 104, 46, 2, 159, 0, 21, 42, 180, 0, 26, 5, 27, 104, 4, 96, 46, 2]
abbrev dktX14_isGap_0 : List UInt8 := dkwX14_isGap_0 ++ dktX14_isGap_1
theorem dksX14_isGap_0 : cX14_isGap.data.toList.drop 0 = dktX14_isGap_0 := by decide +kernel
theorem dksX14_isGap_1 : cX14_isGap.data.toList.drop 23 = dktX14_isGap_1 := dk_seg dksX14_isGap_0 23 rfl rfl
theorem dX14_isGap_0 : decode cX14_isGap 0 = .ok (.aload_n 0, 1) := dk_42 (dk_at dksX14_isGap_0 0 rfl rfl)
theorem dX14_isGap_1 : decode cX14_isGap 1 = .ok (.getfield 26, 3) := dk_180 0 26 (dk_at dksX14_isGap_0 1 rfl rfl)
theorem dX14_isGap_4 : decode cX14_isGap 4 = .ok (.iconst 2, 1) := dk_5 (dk_at dksX14_isGap_0 4 rfl rfl)
theorem dX14_isGap_5 : decode cX14_isGap 5 = .ok (.iload_n 1, 1) := dk_27 (dk_at dksX14_isGap_0 5 rfl rfl)
theorem dX14_isGap_6 : decode cX14_isGap 6 = .ok (.imul, 1) := dk_104 (dk_at dksX14_isGap_0 6 rfl rfl)
theorem dX14_isGap_7 : decode cX14_isGap 7 = .ok (.iaload, 1) := dk_46 (dk_at dksX14_isGap_0 7 rfl rfl)
theorem dX14_isGap_8 : decode cX14_isGap 8 = .ok (.iconst (-1), 1) := dk_2 (dk_at dksX14_isGap_0 8 rfl rfl)
theorem dX14_isGap_9 : decode cX14_isGap 9 = .ok (.if_icmp .eq 21, 3) := dk_159 0 21 (dk_at dksX14_isGap_0 9 rfl rfl)
theorem dX14_isGap_12 : decode cX14_isGap 12 = .ok (.aload_n 0, 1) := dk_42 (dk_at dksX14_isGap_0 12 rfl rfl)
theorem dX14_isGap_13 : decode cX14_isGap 13 = .ok (.getfield 26, 3) := dk_180 0 26 (dk_at dksX14_isGap_0 13 rfl rfl)
theorem dX14_isGap_16 : decode cX14_isGap 16 = .ok (.iconst 2, 1) := dk_5 (dk_at dksX14_isGap_0 16 rfl rfl)
theorem dX14_isGap_17 : decode cX14_isGap 17 = .ok (.iload_n 1, 1) := dk_27 (dk_at dksX14_isGap_0 17 rfl rfl)
theorem dX14_isGap_18 : decode cX14_isGap 18 = .ok (.imul, 1) := dk_104 (dk_at dksX14_isGap_0 18 rfl rfl)
theorem dX14_isGap_19 : decode cX14_isGap 19 = .ok (.iconst 1, 1) := dk_4 (dk_at dksX14_isGap_0 19 rfl rfl)
theorem dX14_isGap_20 : decode cX14_isGap 20 = .ok (.iadd, 1) := dk_96 (dk_at dksX14_isGap_0 20 rfl rfl)
theorem dX14_isGap_21 : decode cX14_isGap 21 = .ok (.iaload, 1) := dk_46 (dk_at dksX14_isGap_0 21 rfl rfl)
theorem dX14_isGap_22 : decode cX14_isGap 22 = .ok (.iconst (-1), 1) := dk_2 (dk_at dksX14_isGap_0 22 rfl rfl)
theorem dX14_isGap_23 : decode cX14_isGap 23 = .ok (.if_icmp .ne 7, 3) := dk_160 0 7 (dk_at dksX14_isGap_1 0 rfl rfl)
theorem dX14_isGap_26 : decode cX14_isGap 26 = .ok (.iconst 1, 1) := dk_4 (dk_at dksX14_isGap_1 3 rfl rfl)
theorem dX14_isGap_27 : decode cX14_isGap 27 = .ok (.goto 4, 3) := dk_167 0 4 (dk_at dksX14_isGap_1 4 rfl rfl)
theorem dX14_isGap_30 : decode cX14_isGap 30 = .ok (.iconst 0, 1) := dk_3 (dk_at dksX14_isGap_1 7 rfl rfl)
theorem dX14_isGap_31 : decode cX14_isGap 31 = .ok (.ireturn, 1) := dk_172 (dk_at dksX14_isGap_1 8 rfl rfl)
theorem q133 : (Jvm.Cond.initialized "FrostRing$Cut") ∈ lw_all := lw_g (lw_at lw_m1 29 rfl) rfl
theorem q608 : (Jvm.Cond.selects "FrostRing$Cut" ({ cls := "java/lang/Object", name := "getClass", desc := "()Ljava/lang/Class;" } : Jvm.MethodName) ({ cls := "java/lang/Object", name := "getClass", desc := "()Ljava/lang/Class;" } : Jvm.MethodName)) ∈ lw_all := lw_g (lw_at lw_m3 24 rfl) rfl
theorem q664 : (Jvm.Cond.fieldLinkNest "FrostRing$Cut" (37 : Nat) "FrostRing$Field" "told" "LFrostRing$Told;" "FrostRing") ∈ lw_tbl := lw_at lw_m3 80 rfl
theorem q1242 : (Jvm.Cond.instantiable "FrostRing$Cut" (9 : Nat)) ∈ lw_all := lw_g (lw_at lw_m5 178 rfl) rfl
theorem q1244 : (Jvm.Cond.instanceMethod ({ cls := "FrostRing$Cut", name := "<init>", desc := "(LFrostRing$Field;)V" } : Jvm.MethodName)) ∈ lw_all := lw_g (lw_at lw_m5 180 rfl) rfl
theorem q1245 : (Jvm.Cond.code ({ cls := "FrostRing$Cut", name := "<init>", desc := "(LFrostRing$Field;)V" } : Jvm.MethodName) prog_3_method_1_code (3 : Nat) (Option.none : Option Jvm.ClassFile.FieldType)) ∈ lw_all := lw_g (lw_at lw_m5 181 rfl) rfl
theorem q1246 : (Jvm.Cond.methodLink "FrostRing$Cut" (5 : Nat) ({ cls := "java/lang/Object", name := "<init>", desc := "()V" } : Jvm.MethodName)) ∈ lw_all := lw_g (lw_at lw_m5 182 rfl) rfl
theorem q1247 : (Jvm.Cond.classLink "FrostRing$Cut" (21 : Nat) "[[Z") ∈ lw_all := lw_g (lw_at lw_m5 183 rfl) rfl
theorem q1249 : (Jvm.Cond.methodLink "FrostRing$Cut" (43 : Nat) ({ cls := "FrostRing$Told", name := "isShaft", desc := "(I)Z" } : Jvm.MethodName)) ∈ lw_all := lw_g (lw_at lw_m5 185 rfl) rfl
theorem q1250 : (Jvm.Cond.methodLink "FrostRing$Cut" (49 : Nat) ({ cls := "FrostRing$Field", name := "isFrozen", desc := "(I)Z" } : Jvm.MethodName)) ∈ lw_all := lw_g (lw_at lw_m5 186 rfl) rfl
theorem q1251 : (Jvm.Cond.methodLinkNest "FrostRing$Cut" (52 : Nat) ({ cls := "FrostRing$Field", name := "isBesideShaft", desc := "(I)Z" } : Jvm.MethodName) "FrostRing") ∈ lw_tbl := lw_at lw_m5 187 rfl
theorem q1252 : (Jvm.Cond.methodLink "FrostRing$Cut" (55 : Nat) ({ cls := "FrostRing$Cut", name := "finds", desc := "()Z" } : Jvm.MethodName)) ∈ lw_all := lw_g (lw_at lw_m5 188 rfl) rfl
theorem q1253 : (Jvm.Cond.privateMethod ({ cls := "FrostRing$Cut", name := "finds", desc := "()Z" } : Jvm.MethodName)) ∈ lw_tbl := lw_at lw_m5 189 rfl
theorem q1254 : (Jvm.Cond.instanceMethod ({ cls := "FrostRing$Cut", name := "finds", desc := "()Z" } : Jvm.MethodName)) ∈ lw_all := lw_g (lw_at lw_m5 190 rfl) rfl
theorem q1255 : (Jvm.Cond.code ({ cls := "FrostRing$Cut", name := "finds", desc := "()Z" } : Jvm.MethodName) prog_3_method_4_code (3 : Nat) (Option.some Jvm.ClassFile.FieldType.boolean)) ∈ lw_all := lw_g (lw_at lw_m5 191 rfl) rfl
theorem q1256 : (Jvm.Cond.methodLink "FrostRing$Cut" (66 : Nat) ({ cls := "FrostRing$Cut", name := "come", desc := "(II)V" } : Jvm.MethodName)) ∈ lw_all := lw_g (lw_at lw_m5 192 rfl) rfl
theorem q1257 : (Jvm.Cond.privateMethod ({ cls := "FrostRing$Cut", name := "come", desc := "(II)V" } : Jvm.MethodName)) ∈ lw_tbl := lw_at lw_m5 193 rfl
theorem q1258 : (Jvm.Cond.instanceMethod ({ cls := "FrostRing$Cut", name := "come", desc := "(II)V" } : Jvm.MethodName)) ∈ lw_all := lw_g (lw_at lw_m5 194 rfl) rfl
theorem q1259 : (Jvm.Cond.code ({ cls := "FrostRing$Cut", name := "come", desc := "(II)V" } : Jvm.MethodName) prog_3_method_2_code (3 : Nat) (Option.none : Option Jvm.ClassFile.FieldType)) ∈ lw_all := lw_g (lw_at lw_m5 195 rfl) rfl
theorem q1260 : (Jvm.Cond.methodLink "FrostRing$Cut" (70 : Nat) ({ cls := "FrostRing$Cut", name := "goesIn", desc := "(I)V" } : Jvm.MethodName)) ∈ lw_all := lw_g (lw_at lw_m5 196 rfl) rfl
theorem q1261 : (Jvm.Cond.privateMethod ({ cls := "FrostRing$Cut", name := "goesIn", desc := "(I)V" } : Jvm.MethodName)) ∈ lw_tbl := lw_at lw_m5 197 rfl
theorem q1262 : (Jvm.Cond.instanceMethod ({ cls := "FrostRing$Cut", name := "goesIn", desc := "(I)V" } : Jvm.MethodName)) ∈ lw_all := lw_g (lw_at lw_m5 198 rfl) rfl
theorem q1263 : (Jvm.Cond.code ({ cls := "FrostRing$Cut", name := "goesIn", desc := "(I)V" } : Jvm.MethodName) prog_3_method_5_code (4 : Nat) (Option.none : Option Jvm.ClassFile.FieldType)) ∈ lw_all := lw_g (lw_at lw_m5 199 rfl) rfl
theorem q1264 : (Jvm.Cond.methodLinkNest "FrostRing$Cut" (77 : Nat) ({ cls := "FrostRing", name := "beside", desc := "(II)I" } : Jvm.MethodName) "FrostRing") ∈ lw_tbl := lw_at lw_m5 200 rfl
theorem q1265 : (Jvm.Cond.methodLink "FrostRing$Cut" (81 : Nat) ({ cls := "FrostRing$Cut", name := "back", desc := "(I)I" } : Jvm.MethodName)) ∈ lw_all := lw_g (lw_at lw_m5 201 rfl) rfl
theorem q1266 : (Jvm.Cond.static ({ cls := "FrostRing$Cut", name := "back", desc := "(I)I" } : Jvm.MethodName)) ∈ lw_all := lw_g (lw_at lw_m5 202 rfl) rfl
theorem q1267 : (Jvm.Cond.code ({ cls := "FrostRing$Cut", name := "back", desc := "(I)I" } : Jvm.MethodName) prog_3_method_3_code (1 : Nat) (Option.some Jvm.ClassFile.FieldType.int)) ∈ lw_all := lw_g (lw_at lw_m5 203 rfl) rfl
theorem q1268 : (Jvm.Cond.methodLink "FrostRing$Cut" (74 : Nat) ({ cls := "FrostRing$Cut", name := "goesOut", desc := "(I)V" } : Jvm.MethodName)) ∈ lw_all := lw_g (lw_at lw_m5 204 rfl) rfl
theorem q1269 : (Jvm.Cond.privateMethod ({ cls := "FrostRing$Cut", name := "goesOut", desc := "(I)V" } : Jvm.MethodName)) ∈ lw_tbl := lw_at lw_m5 205 rfl
theorem q1270 : (Jvm.Cond.instanceMethod ({ cls := "FrostRing$Cut", name := "goesOut", desc := "(I)V" } : Jvm.MethodName)) ∈ lw_all := lw_g (lw_at lw_m5 206 rfl) rfl
theorem q1271 : (Jvm.Cond.code ({ cls := "FrostRing$Cut", name := "goesOut", desc := "(I)V" } : Jvm.MethodName) prog_3_method_6_code (4 : Nat) (Option.none : Option Jvm.ClassFile.FieldType)) ∈ lw_all := lw_g (lw_at lw_m5 207 rfl) rfl
theorem q1272 : (Jvm.Cond.methodLinkNest "FrostRing$Cut" (85 : Nat) ({ cls := "FrostRing", name := "isRim", desc := "(I)Z" } : Jvm.MethodName) "FrostRing") ∈ lw_tbl := lw_at lw_m5 208 rfl
theorem q1273 : (Jvm.Cond.methodLink "FrostRing$Cut" (59 : Nat) ({ cls := "FrostRing$Cut", name := "sends", desc := "()V" } : Jvm.MethodName)) ∈ lw_all := lw_g (lw_at lw_m5 209 rfl) rfl
theorem q1274 : (Jvm.Cond.privateMethod ({ cls := "FrostRing$Cut", name := "sends", desc := "()V" } : Jvm.MethodName)) ∈ lw_tbl := lw_at lw_m5 210 rfl
theorem q1275 : (Jvm.Cond.instanceMethod ({ cls := "FrostRing$Cut", name := "sends", desc := "()V" } : Jvm.MethodName)) ∈ lw_all := lw_g (lw_at lw_m5 211 rfl) rfl
theorem q1276 : (Jvm.Cond.code ({ cls := "FrostRing$Cut", name := "sends", desc := "()V" } : Jvm.MethodName) prog_3_method_7_code (4 : Nat) (Option.none : Option Jvm.ClassFile.FieldType)) ∈ lw_all := lw_g (lw_at lw_m5 212 rfl) rfl
theorem q1277 : (Jvm.Cond.methodLink "FrostRing$Cut" (91 : Nat) ({ cls := "FrostRing$Cut", name := "turns", desc := "(II)V" } : Jvm.MethodName)) ∈ lw_all := lw_g (lw_at lw_m5 213 rfl) rfl
theorem q1278 : (Jvm.Cond.privateMethod ({ cls := "FrostRing$Cut", name := "turns", desc := "(II)V" } : Jvm.MethodName)) ∈ lw_tbl := lw_at lw_m5 214 rfl
theorem q1279 : (Jvm.Cond.instanceMethod ({ cls := "FrostRing$Cut", name := "turns", desc := "(II)V" } : Jvm.MethodName)) ∈ lw_all := lw_g (lw_at lw_m5 215 rfl) rfl
theorem q1280 : (Jvm.Cond.code ({ cls := "FrostRing$Cut", name := "turns", desc := "(II)V" } : Jvm.MethodName) prog_3_method_8_code (7 : Nat) (Option.none : Option Jvm.ClassFile.FieldType)) ∈ lw_all := lw_g (lw_at lw_m5 216 rfl) rfl
theorem q1281 : (Jvm.Cond.fieldLink "FrostRing$Cut" (33 : Nat) "FrostRing$Cut" "f" "LFrostRing$Field;") ∈ lw_all := lw_g (lw_at lw_m5 217 rfl) rfl
theorem q1282 : (Jvm.Cond.fieldLink "FrostRing$Cut" (11 : Nat) "FrostRing$Cut" "used" "[Z") ∈ lw_all := lw_g (lw_at lw_m5 218 rfl) rfl
theorem q1283 : (Jvm.Cond.fieldLink "FrostRing$Cut" (15 : Nat) "FrostRing$Cut" "passable" "[Z") ∈ lw_all := lw_g (lw_at lw_m5 219 rfl) rfl
theorem q1284 : (Jvm.Cond.fieldLink "FrostRing$Cut" (18 : Nat) "FrostRing$Cut" "begins" "[Z") ∈ lw_all := lw_g (lw_at lw_m5 220 rfl) rfl
theorem q1285 : (Jvm.Cond.fieldLink "FrostRing$Cut" (23 : Nat) "FrostRing$Cut" "goes" "[[Z") ∈ lw_all := lw_g (lw_at lw_m5 221 rfl) rfl
theorem q1286 : (Jvm.Cond.fieldLink "FrostRing$Cut" (26 : Nat) "FrostRing$Cut" "by" "[I") ∈ lw_all := lw_g (lw_at lw_m5 222 rfl) rfl
theorem q1287 : (Jvm.Cond.fieldLink "FrostRing$Cut" (30 : Nat) "FrostRing$Cut" "queue" "[I") ∈ lw_all := lw_g (lw_at lw_m5 223 rfl) rfl
theorem q1288 : (Jvm.Cond.fieldLink "FrostRing$Cut" (62 : Nat) "FrostRing$Cut" "to" "I") ∈ lw_all := lw_g (lw_at lw_m5 224 rfl) rfl
theorem q1289 : (Jvm.Cond.fieldLink "FrostRing$Cut" (88 : Nat) "FrostRing$Cut" "ways" "I") ∈ lw_all := lw_g (lw_at lw_m5 225 rfl) rfl
theorem q1291 : (Jvm.Cond.laysFinal "FrostRing$Cut" "FrostRing$Cut" "f" "LFrostRing$Field;") ∈ lw_all := lw_g (lw_at lw_m5 227 rfl) rfl
theorem q1292 : (Jvm.Cond.soleField "FrostRing$Cut" "f") ∈ lw_all := lw_g (lw_at lw_m5 228 rfl) rfl
theorem q1293 : (Jvm.Cond.laysFinal "FrostRing$Cut" "FrostRing$Cut" "used" "[Z") ∈ lw_all := lw_g (lw_at lw_m5 229 rfl) rfl
theorem q1294 : (Jvm.Cond.soleField "FrostRing$Cut" "used") ∈ lw_all := lw_g (lw_at lw_m5 230 rfl) rfl
theorem q1295 : (Jvm.Cond.laysFinal "FrostRing$Cut" "FrostRing$Cut" "passable" "[Z") ∈ lw_all := lw_g (lw_at lw_m5 231 rfl) rfl
theorem q1296 : (Jvm.Cond.soleField "FrostRing$Cut" "passable") ∈ lw_all := lw_g (lw_at lw_m5 232 rfl) rfl
theorem q1297 : (Jvm.Cond.laysFinal "FrostRing$Cut" "FrostRing$Cut" "begins" "[Z") ∈ lw_all := lw_g (lw_at lw_m5 233 rfl) rfl
theorem q1298 : (Jvm.Cond.soleField "FrostRing$Cut" "begins") ∈ lw_all := lw_g (lw_at lw_m5 234 rfl) rfl
theorem q1299 : (Jvm.Cond.laysFinal "FrostRing$Cut" "FrostRing$Cut" "goes" "[[Z") ∈ lw_all := lw_g (lw_at lw_m5 235 rfl) rfl
theorem q1300 : (Jvm.Cond.soleField "FrostRing$Cut" "goes") ∈ lw_all := lw_g (lw_at lw_m5 236 rfl) rfl
theorem q1301 : (Jvm.Cond.laysFinal "FrostRing$Cut" "FrostRing$Cut" "by" "[I") ∈ lw_all := lw_g (lw_at lw_m5 237 rfl) rfl
theorem q1302 : (Jvm.Cond.soleField "FrostRing$Cut" "by") ∈ lw_all := lw_g (lw_at lw_m5 238 rfl) rfl
theorem q1303 : (Jvm.Cond.laysFinal "FrostRing$Cut" "FrostRing$Cut" "queue" "[I") ∈ lw_all := lw_g (lw_at lw_m5 239 rfl) rfl
theorem q1304 : (Jvm.Cond.soleField "FrostRing$Cut" "queue") ∈ lw_all := lw_g (lw_at lw_m6 0 rfl) rfl
theorem q1305 : (Jvm.Cond.lays "FrostRing$Cut" "FrostRing$Cut" "to" "I") ∈ lw_all := lw_g (lw_at lw_m6 1 rfl) rfl
theorem q1306 : (Jvm.Cond.soleField "FrostRing$Cut" "to") ∈ lw_all := lw_g (lw_at lw_m6 2 rfl) rfl
theorem q1307 : (Jvm.Cond.lays "FrostRing$Cut" "FrostRing$Cut" "ways" "I") ∈ lw_all := lw_g (lw_at lw_m6 3 rfl) rfl
theorem q1308 : (Jvm.Cond.soleField "FrostRing$Cut" "ways") ∈ lw_all := lw_g (lw_at lw_m6 4 rfl) rfl
theorem q1309 : (Jvm.Cond.superclass "FrostRing$Cut" "java/lang/Object") ∈ lw_all := lw_g (lw_at lw_m6 5 rfl) rfl
theorem q1311 : (Jvm.Cond.instanceMethod ({ cls := "FrostRing$Cut", name := "isGap", desc := "(I)Z" } : Jvm.MethodName)) ∈ lw_all := lw_g (lw_at lw_m6 7 rfl) rfl
theorem q1312 : (Jvm.Cond.selects "FrostRing$Cut" ({ cls := "FrostRing$Cut", name := "isGap", desc := "(I)Z" } : Jvm.MethodName) ({ cls := "FrostRing$Cut", name := "isGap", desc := "(I)Z" } : Jvm.MethodName)) ∈ lw_all := lw_g (lw_at lw_m6 8 rfl) rfl
theorem q1313 : (Jvm.Cond.code ({ cls := "FrostRing$Cut", name := "isGap", desc := "(I)Z" } : Jvm.MethodName) prog_3_method_9_code (2 : Nat) (Option.some Jvm.ClassFile.FieldType.boolean)) ∈ lw_all := lw_g (lw_at lw_m6 9 rfl) rfl
theorem q2054 : (Jvm.Cond.castable "FrostRing$Cut" "java/lang/Object") ∈ lw_tbl := lw_at lw_m9 30 rfl
theorem in_X14 : ∀ w ∈ wsX140, w ∈ lw_all := lw_in wsX140 [1291, 1293, 1295, 1297, 1299, 1301, 1303, 1305, 1307] (by decide +kernel) (by decide +kernel)
