/-! CrumblingWall$Climber -/
set_option maxRecDepth 100000
def RX3 : String := "CrumblingWall$Climber"
def TX3 : u_T := fun k => match k with
  | 0 => ("CrumblingWall$Climber", "number", "I", true)
  | 1 => ("CrumblingWall$Climber", "at", "I", false)
  | 2 => ("CrumblingWall$Climber", "state", "I", false)
  | _ => ("CrumblingWall$Climber", "grip", "I", false)
def tyX3 : Nat → FieldType := fun k => match k with
  | 0 => .int
  | 1 => .int
  | 2 => .int
  | _ => .int
abbrev wsX30 : List Cond := u_ws RX3 TX3 4
theorem nmX3 : ∀ a, a < 4 → ∀ b, b < 4 → a ≠ b → (TX3 a).2.1 ≠ (TX3 b).2.1 := by decide +kernel
theorem tyX3_ok : ∀ k, k < 4 → parseFieldDescriptor (TX3 k).2.2.1 = some (tyX3 k) := by decide +kernel
abbrev cX3_init : ByteArray := prog_4_method_1_code
def yX3_init : MethodName := ⟨RX3, "<init>", "(I)V"⟩
def dkwX3_init_0 : List UInt8 := [42, 183, 0, 3, 42, 2, 181, 0, 9, 42, 16, 20, 181, 0, 15, 42, 27, 181, 0, 18, 177]
abbrev dktX3_init_0 : List UInt8 := dkwX3_init_0 ++ []
theorem dksX3_init_0 : cX3_init.data.toList.drop 0 = dktX3_init_0 := by decide +kernel
theorem dX3_init_0 : decode cX3_init 0 = .ok (.aload_n 0, 1) := dk_42 (dk_at dksX3_init_0 0 rfl rfl)
theorem dX3_init_1 : decode cX3_init 1 = .ok (.invokespecial 3, 3) := dk_183 0 3 (dk_at dksX3_init_0 1 rfl rfl)
theorem dX3_init_4 : decode cX3_init 4 = .ok (.aload_n 0, 1) := dk_42 (dk_at dksX3_init_0 4 rfl rfl)
theorem dX3_init_5 : decode cX3_init 5 = .ok (.iconst (-1), 1) := dk_2 (dk_at dksX3_init_0 5 rfl rfl)
theorem dX3_init_6 : decode cX3_init 6 = .ok (.putfield 9, 3) := dk_181 0 9 (dk_at dksX3_init_0 6 rfl rfl)
theorem dX3_init_9 : decode cX3_init 9 = .ok (.aload_n 0, 1) := dk_42 (dk_at dksX3_init_0 9 rfl rfl)
theorem dX3_init_10 : decode cX3_init 10 = .ok (.bipush 20, 2) := dk_16 20 (dk_at dksX3_init_0 10 rfl rfl)
theorem dX3_init_12 : decode cX3_init 12 = .ok (.putfield 15, 3) := dk_181 0 15 (dk_at dksX3_init_0 12 rfl rfl)
theorem dX3_init_15 : decode cX3_init 15 = .ok (.aload_n 0, 1) := dk_42 (dk_at dksX3_init_0 15 rfl rfl)
theorem dX3_init_16 : decode cX3_init 16 = .ok (.iload_n 1, 1) := dk_27 (dk_at dksX3_init_0 16 rfl rfl)
theorem dX3_init_17 : decode cX3_init 17 = .ok (.putfield 18, 3) := dk_181 0 18 (dk_at dksX3_init_0 17 rfl rfl)
theorem dX3_init_20 : decode cX3_init 20 = .ok (.return_, 1) := dk_177 (dk_at dksX3_init_0 20 rfl rfl)
abbrev cX3_copy : ByteArray := prog_4_method_2_code
def yX3_copy : MethodName := ⟨RX3, "copy", "()LCrumblingWall$Climber;"⟩
def dkwX3_copy_1 : List UInt8 := [180, 0, 24, 181, 0, 24, 43, 42, 180, 0, 15, 181, 0, 15, 43, 176]
abbrev dktX3_copy_1 : List UInt8 := dkwX3_copy_1 ++ []
def dkwX3_copy_0 : List UInt8 := [187, 0, 10, 89, 42, 180, 0, 18, 183, 0, 21, 76, 43, 42, 180, 0, 9, 181, 0, 9, 43, 42]
abbrev dktX3_copy_0 : List UInt8 := dkwX3_copy_0 ++ dktX3_copy_1
theorem dksX3_copy_0 : cX3_copy.data.toList.drop 0 = dktX3_copy_0 := by decide +kernel
theorem dksX3_copy_1 : cX3_copy.data.toList.drop 22 = dktX3_copy_1 := dk_seg dksX3_copy_0 22 rfl rfl
theorem dX3_copy_0 : decode cX3_copy 0 = .ok (.new 10, 3) := dk_187 0 10 (dk_at dksX3_copy_0 0 rfl rfl)
theorem dX3_copy_3 : decode cX3_copy 3 = .ok (.dup, 1) := dk_89 (dk_at dksX3_copy_0 3 rfl rfl)
theorem dX3_copy_4 : decode cX3_copy 4 = .ok (.aload_n 0, 1) := dk_42 (dk_at dksX3_copy_0 4 rfl rfl)
theorem dX3_copy_5 : decode cX3_copy 5 = .ok (.getfield 18, 3) := dk_180 0 18 (dk_at dksX3_copy_0 5 rfl rfl)
theorem dX3_copy_8 : decode cX3_copy 8 = .ok (.invokespecial 21, 3) := dk_183 0 21 (dk_at dksX3_copy_0 8 rfl rfl)
theorem dX3_copy_11 : decode cX3_copy 11 = .ok (.astore_n 1, 1) := dk_76 (dk_at dksX3_copy_0 11 rfl rfl)
theorem dX3_copy_12 : decode cX3_copy 12 = .ok (.aload_n 1, 1) := dk_43 (dk_at dksX3_copy_0 12 rfl rfl)
theorem dX3_copy_13 : decode cX3_copy 13 = .ok (.aload_n 0, 1) := dk_42 (dk_at dksX3_copy_0 13 rfl rfl)
theorem dX3_copy_14 : decode cX3_copy 14 = .ok (.getfield 9, 3) := dk_180 0 9 (dk_at dksX3_copy_0 14 rfl rfl)
theorem dX3_copy_17 : decode cX3_copy 17 = .ok (.putfield 9, 3) := dk_181 0 9 (dk_at dksX3_copy_0 17 rfl rfl)
theorem dX3_copy_20 : decode cX3_copy 20 = .ok (.aload_n 1, 1) := dk_43 (dk_at dksX3_copy_0 20 rfl rfl)
theorem dX3_copy_21 : decode cX3_copy 21 = .ok (.aload_n 0, 1) := dk_42 (dk_at dksX3_copy_0 21 rfl rfl)
theorem dX3_copy_22 : decode cX3_copy 22 = .ok (.getfield 24, 3) := dk_180 0 24 (dk_at dksX3_copy_1 0 rfl rfl)
theorem dX3_copy_25 : decode cX3_copy 25 = .ok (.putfield 24, 3) := dk_181 0 24 (dk_at dksX3_copy_1 3 rfl rfl)
theorem dX3_copy_28 : decode cX3_copy 28 = .ok (.aload_n 1, 1) := dk_43 (dk_at dksX3_copy_1 6 rfl rfl)
theorem dX3_copy_29 : decode cX3_copy 29 = .ok (.aload_n 0, 1) := dk_42 (dk_at dksX3_copy_1 7 rfl rfl)
theorem dX3_copy_30 : decode cX3_copy 30 = .ok (.getfield 15, 3) := dk_180 0 15 (dk_at dksX3_copy_1 8 rfl rfl)
theorem dX3_copy_33 : decode cX3_copy 33 = .ok (.putfield 15, 3) := dk_181 0 15 (dk_at dksX3_copy_1 11 rfl rfl)
theorem dX3_copy_36 : decode cX3_copy 36 = .ok (.aload_n 1, 1) := dk_43 (dk_at dksX3_copy_1 14 rfl rfl)
theorem dX3_copy_37 : decode cX3_copy 37 = .ok (.areturn, 1) := dk_176 (dk_at dksX3_copy_1 15 rfl rfl)
abbrev cX3_isHurt : ByteArray := prog_4_method_3_code
def yX3_isHurt : MethodName := ⟨RX3, "isHurt", "()Z"⟩
def dkwX3_isHurt_0 : List UInt8 := [42, 180, 0, 24, 5, 160, 0, 7, 4, 167, 0, 4, 3, 172]
abbrev dktX3_isHurt_0 : List UInt8 := dkwX3_isHurt_0 ++ []
theorem dksX3_isHurt_0 : cX3_isHurt.data.toList.drop 0 = dktX3_isHurt_0 := by decide +kernel
theorem dX3_isHurt_0 : decode cX3_isHurt 0 = .ok (.aload_n 0, 1) := dk_42 (dk_at dksX3_isHurt_0 0 rfl rfl)
theorem dX3_isHurt_1 : decode cX3_isHurt 1 = .ok (.getfield 24, 3) := dk_180 0 24 (dk_at dksX3_isHurt_0 1 rfl rfl)
theorem dX3_isHurt_4 : decode cX3_isHurt 4 = .ok (.iconst 2, 1) := dk_5 (dk_at dksX3_isHurt_0 4 rfl rfl)
theorem dX3_isHurt_5 : decode cX3_isHurt 5 = .ok (.if_icmp .ne 7, 3) := dk_160 0 7 (dk_at dksX3_isHurt_0 5 rfl rfl)
theorem dX3_isHurt_8 : decode cX3_isHurt 8 = .ok (.iconst 1, 1) := dk_4 (dk_at dksX3_isHurt_0 8 rfl rfl)
theorem dX3_isHurt_9 : decode cX3_isHurt 9 = .ok (.goto 4, 3) := dk_167 0 4 (dk_at dksX3_isHurt_0 9 rfl rfl)
theorem dX3_isHurt_12 : decode cX3_isHurt 12 = .ok (.iconst 0, 1) := dk_3 (dk_at dksX3_isHurt_0 12 rfl rfl)
theorem dX3_isHurt_13 : decode cX3_isHurt 13 = .ok (.ireturn, 1) := dk_172 (dk_at dksX3_isHurt_0 13 rfl rfl)
abbrev cX3_comes : ByteArray := prog_4_method_5_code
def yX3_comes : MethodName := ⟨RX3, "comes", "(II)V"⟩
def dkwX3_comes_0 : List UInt8 := [42, 27, 181, 0, 9, 42, 28, 181, 0, 24, 177]
abbrev dktX3_comes_0 : List UInt8 := dkwX3_comes_0 ++ []
theorem dksX3_comes_0 : cX3_comes.data.toList.drop 0 = dktX3_comes_0 := by decide +kernel
theorem dX3_comes_0 : decode cX3_comes 0 = .ok (.aload_n 0, 1) := dk_42 (dk_at dksX3_comes_0 0 rfl rfl)
theorem dX3_comes_1 : decode cX3_comes 1 = .ok (.iload_n 1, 1) := dk_27 (dk_at dksX3_comes_0 1 rfl rfl)
theorem dX3_comes_2 : decode cX3_comes 2 = .ok (.putfield 9, 3) := dk_181 0 9 (dk_at dksX3_comes_0 2 rfl rfl)
theorem dX3_comes_5 : decode cX3_comes 5 = .ok (.aload_n 0, 1) := dk_42 (dk_at dksX3_comes_0 5 rfl rfl)
theorem dX3_comes_6 : decode cX3_comes 6 = .ok (.iload_n 2, 1) := dk_28 (dk_at dksX3_comes_0 6 rfl rfl)
theorem dX3_comes_7 : decode cX3_comes 7 = .ok (.putfield 24, 3) := dk_181 0 24 (dk_at dksX3_comes_0 7 rfl rfl)
theorem dX3_comes_10 : decode cX3_comes 10 = .ok (.return_, 1) := dk_177 (dk_at dksX3_comes_0 10 rfl rfl)
abbrev cX3_isHanging : ByteArray := prog_4_method_4_code
def yX3_isHanging : MethodName := ⟨RX3, "isHanging", "()Z"⟩
def dkwX3_isHanging_0 : List UInt8 := [42, 180, 0, 24, 4, 160, 0, 7, 4, 167, 0, 4, 3, 172]
abbrev dktX3_isHanging_0 : List UInt8 := dkwX3_isHanging_0 ++ []
theorem dksX3_isHanging_0 : cX3_isHanging.data.toList.drop 0 = dktX3_isHanging_0 := by decide +kernel
theorem dX3_isHanging_0 : decode cX3_isHanging 0 = .ok (.aload_n 0, 1) := dk_42 (dk_at dksX3_isHanging_0 0 rfl rfl)
theorem dX3_isHanging_1 : decode cX3_isHanging 1 = .ok (.getfield 24, 3) := dk_180 0 24 (dk_at dksX3_isHanging_0 1 rfl rfl)
theorem dX3_isHanging_4 : decode cX3_isHanging 4 = .ok (.iconst 1, 1) := dk_4 (dk_at dksX3_isHanging_0 4 rfl rfl)
theorem dX3_isHanging_5 : decode cX3_isHanging 5 = .ok (.if_icmp .ne 7, 3) := dk_160 0 7 (dk_at dksX3_isHanging_0 5 rfl rfl)
theorem dX3_isHanging_8 : decode cX3_isHanging 8 = .ok (.iconst 1, 1) := dk_4 (dk_at dksX3_isHanging_0 8 rfl rfl)
theorem dX3_isHanging_9 : decode cX3_isHanging 9 = .ok (.goto 4, 3) := dk_167 0 4 (dk_at dksX3_isHanging_0 9 rfl rfl)
theorem dX3_isHanging_12 : decode cX3_isHanging 12 = .ok (.iconst 0, 1) := dk_3 (dk_at dksX3_isHanging_0 12 rfl rfl)
theorem dX3_isHanging_13 : decode cX3_isHanging 13 = .ok (.ireturn, 1) := dk_172 (dk_at dksX3_isHanging_0 13 rfl rfl)
abbrev cX3_gains : ByteArray := prog_4_method_6_code
def yX3_gains : MethodName := ⟨RX3, "gains", "(I)V"⟩
def dkwX3_gains_0 : List UInt8 := [42, 16, 20, 42, 180, 0, 15, 27, 96, 184, 0, 27, 181, 0, 15, 177]
abbrev dktX3_gains_0 : List UInt8 := dkwX3_gains_0 ++ []
theorem dksX3_gains_0 : cX3_gains.data.toList.drop 0 = dktX3_gains_0 := by decide +kernel
theorem dX3_gains_0 : decode cX3_gains 0 = .ok (.aload_n 0, 1) := dk_42 (dk_at dksX3_gains_0 0 rfl rfl)
theorem dX3_gains_1 : decode cX3_gains 1 = .ok (.bipush 20, 2) := dk_16 20 (dk_at dksX3_gains_0 1 rfl rfl)
theorem dX3_gains_3 : decode cX3_gains 3 = .ok (.aload_n 0, 1) := dk_42 (dk_at dksX3_gains_0 3 rfl rfl)
theorem dX3_gains_4 : decode cX3_gains 4 = .ok (.getfield 15, 3) := dk_180 0 15 (dk_at dksX3_gains_0 4 rfl rfl)
theorem dX3_gains_7 : decode cX3_gains 7 = .ok (.iload_n 1, 1) := dk_27 (dk_at dksX3_gains_0 7 rfl rfl)
theorem dX3_gains_8 : decode cX3_gains 8 = .ok (.iadd, 1) := dk_96 (dk_at dksX3_gains_0 8 rfl rfl)
theorem dX3_gains_9 : decode cX3_gains 9 = .ok (.invokestatic 27, 3) := dk_184 0 27 (dk_at dksX3_gains_0 9 rfl rfl)
theorem dX3_gains_12 : decode cX3_gains 12 = .ok (.putfield 15, 3) := dk_181 0 15 (dk_at dksX3_gains_0 12 rfl rfl)
theorem dX3_gains_15 : decode cX3_gains 15 = .ok (.return_, 1) := dk_177 (dk_at dksX3_gains_0 15 rfl rfl)
theorem q122 : (Jvm.Cond.initialized "CrumblingWall$Climber") ∈ lw_all := lw_g (lw_at lw_m1 3 rfl) rfl
theorem q205 : (Jvm.Cond.instantiable "CrumblingWall$Climber" (4 : Nat)) ∈ lw_all := lw_g (lw_at lw_m1 86 rfl) rfl
theorem q207 : (Jvm.Cond.instanceMethod ({ cls := "CrumblingWall$Climber", name := "<init>", desc := "(I)V" } : Jvm.MethodName)) ∈ lw_all := lw_g (lw_at lw_m1 88 rfl) rfl
theorem q208 : (Jvm.Cond.code ({ cls := "CrumblingWall$Climber", name := "<init>", desc := "(I)V" } : Jvm.MethodName) prog_4_method_1_code (2 : Nat) (Option.none : Option Jvm.ClassFile.FieldType)) ∈ lw_all := lw_g (lw_at lw_m1 89 rfl) rfl
theorem q209 : (Jvm.Cond.methodLink "CrumblingWall$Climber" (3 : Nat) ({ cls := "java/lang/Object", name := "<init>", desc := "()V" } : Jvm.MethodName)) ∈ lw_all := lw_g (lw_at lw_m1 90 rfl) rfl
theorem q210 : (Jvm.Cond.fieldLink "CrumblingWall$Climber" (18 : Nat) "CrumblingWall$Climber" "number" "I") ∈ lw_all := lw_g (lw_at lw_m1 91 rfl) rfl
theorem q211 : (Jvm.Cond.fieldLink "CrumblingWall$Climber" (9 : Nat) "CrumblingWall$Climber" "at" "I") ∈ lw_all := lw_g (lw_at lw_m1 92 rfl) rfl
theorem q214 : (Jvm.Cond.fieldLink "CrumblingWall$Climber" (24 : Nat) "CrumblingWall$Climber" "state" "I") ∈ lw_all := lw_g (lw_at lw_m1 95 rfl) rfl
theorem q217 : (Jvm.Cond.fieldLink "CrumblingWall$Climber" (15 : Nat) "CrumblingWall$Climber" "grip" "I") ∈ lw_all := lw_g (lw_at lw_m1 98 rfl) rfl
theorem q220 : (Jvm.Cond.laysFinal "CrumblingWall$Climber" "CrumblingWall$Climber" "number" "I") ∈ lw_all := lw_g (lw_at lw_m1 101 rfl) rfl
theorem q221 : (Jvm.Cond.soleField "CrumblingWall$Climber" "number") ∈ lw_all := lw_g (lw_at lw_m1 102 rfl) rfl
theorem q222 : (Jvm.Cond.lays "CrumblingWall$Climber" "CrumblingWall$Climber" "at" "I") ∈ lw_all := lw_g (lw_at lw_m1 103 rfl) rfl
theorem q223 : (Jvm.Cond.soleField "CrumblingWall$Climber" "at") ∈ lw_all := lw_g (lw_at lw_m1 104 rfl) rfl
theorem q224 : (Jvm.Cond.lays "CrumblingWall$Climber" "CrumblingWall$Climber" "state" "I") ∈ lw_all := lw_g (lw_at lw_m1 105 rfl) rfl
theorem q225 : (Jvm.Cond.soleField "CrumblingWall$Climber" "state") ∈ lw_all := lw_g (lw_at lw_m1 106 rfl) rfl
theorem q226 : (Jvm.Cond.lays "CrumblingWall$Climber" "CrumblingWall$Climber" "grip" "I") ∈ lw_all := lw_g (lw_at lw_m1 107 rfl) rfl
theorem q227 : (Jvm.Cond.soleField "CrumblingWall$Climber" "grip") ∈ lw_all := lw_g (lw_at lw_m1 108 rfl) rfl
theorem q228 : (Jvm.Cond.superclass "CrumblingWall$Climber" "java/lang/Object") ∈ lw_all := lw_g (lw_at lw_m1 109 rfl) rfl
theorem q1080 : (Jvm.Cond.selects "CrumblingWall$Climber" ({ cls := "java/lang/Object", name := "getClass", desc := "()Ljava/lang/Class;" } : Jvm.MethodName) ({ cls := "java/lang/Object", name := "getClass", desc := "()Ljava/lang/Class;" } : Jvm.MethodName)) ∈ lw_all := lw_g (lw_at lw_m5 1 rfl) rfl
theorem q1384 : (Jvm.Cond.instanceMethod ({ cls := "CrumblingWall$Climber", name := "copy", desc := "()LCrumblingWall$Climber;" } : Jvm.MethodName)) ∈ lw_all := lw_g (lw_at lw_m6 65 rfl) rfl
theorem q1385 : (Jvm.Cond.selects "CrumblingWall$Climber" ({ cls := "CrumblingWall$Climber", name := "copy", desc := "()LCrumblingWall$Climber;" } : Jvm.MethodName) ({ cls := "CrumblingWall$Climber", name := "copy", desc := "()LCrumblingWall$Climber;" } : Jvm.MethodName)) ∈ lw_all := lw_g (lw_at lw_m6 66 rfl) rfl
theorem q1386 : (Jvm.Cond.code ({ cls := "CrumblingWall$Climber", name := "copy", desc := "()LCrumblingWall$Climber;" } : Jvm.MethodName) prog_4_method_2_code (2 : Nat) (Option.some (Jvm.ClassFile.FieldType.object "CrumblingWall$Climber"))) ∈ lw_all := lw_g (lw_at lw_m6 67 rfl) rfl
theorem q1387 : (Jvm.Cond.classLink "CrumblingWall$Climber" (10 : Nat) "CrumblingWall$Climber") ∈ lw_all := lw_g (lw_at lw_m6 68 rfl) rfl
theorem q1388 : (Jvm.Cond.methodLink "CrumblingWall$Climber" (21 : Nat) ({ cls := "CrumblingWall$Climber", name := "<init>", desc := "(I)V" } : Jvm.MethodName)) ∈ lw_all := lw_g (lw_at lw_m6 69 rfl) rfl
theorem q1937 : (Jvm.Cond.instanceMethod ({ cls := "CrumblingWall$Climber", name := "isHurt", desc := "()Z" } : Jvm.MethodName)) ∈ lw_all := lw_g (lw_at lw_m8 138 rfl) rfl
theorem q1938 : (Jvm.Cond.selects "CrumblingWall$Climber" ({ cls := "CrumblingWall$Climber", name := "isHurt", desc := "()Z" } : Jvm.MethodName) ({ cls := "CrumblingWall$Climber", name := "isHurt", desc := "()Z" } : Jvm.MethodName)) ∈ lw_all := lw_g (lw_at lw_m8 139 rfl) rfl
theorem q1939 : (Jvm.Cond.code ({ cls := "CrumblingWall$Climber", name := "isHurt", desc := "()Z" } : Jvm.MethodName) prog_4_method_3_code (1 : Nat) (Option.some Jvm.ClassFile.FieldType.boolean)) ∈ lw_all := lw_g (lw_at lw_m8 140 rfl) rfl
theorem q1960 : (Jvm.Cond.instanceMethod ({ cls := "CrumblingWall$Climber", name := "comes", desc := "(II)V" } : Jvm.MethodName)) ∈ lw_all := lw_g (lw_at lw_m8 161 rfl) rfl
theorem q1961 : (Jvm.Cond.selects "CrumblingWall$Climber" ({ cls := "CrumblingWall$Climber", name := "comes", desc := "(II)V" } : Jvm.MethodName) ({ cls := "CrumblingWall$Climber", name := "comes", desc := "(II)V" } : Jvm.MethodName)) ∈ lw_all := lw_g (lw_at lw_m8 162 rfl) rfl
theorem q1962 : (Jvm.Cond.code ({ cls := "CrumblingWall$Climber", name := "comes", desc := "(II)V" } : Jvm.MethodName) prog_4_method_5_code (3 : Nat) (Option.none : Option Jvm.ClassFile.FieldType)) ∈ lw_all := lw_g (lw_at lw_m8 163 rfl) rfl
theorem q2161 : (Jvm.Cond.instanceMethod ({ cls := "CrumblingWall$Climber", name := "isHanging", desc := "()Z" } : Jvm.MethodName)) ∈ lw_all := lw_g (lw_at lw_m9 122 rfl) rfl
theorem q2162 : (Jvm.Cond.selects "CrumblingWall$Climber" ({ cls := "CrumblingWall$Climber", name := "isHanging", desc := "()Z" } : Jvm.MethodName) ({ cls := "CrumblingWall$Climber", name := "isHanging", desc := "()Z" } : Jvm.MethodName)) ∈ lw_all := lw_g (lw_at lw_m9 123 rfl) rfl
theorem q2163 : (Jvm.Cond.code ({ cls := "CrumblingWall$Climber", name := "isHanging", desc := "()Z" } : Jvm.MethodName) prog_4_method_4_code (1 : Nat) (Option.some Jvm.ClassFile.FieldType.boolean)) ∈ lw_all := lw_g (lw_at lw_m9 124 rfl) rfl
theorem q2184 : (Jvm.Cond.instanceMethod ({ cls := "CrumblingWall$Climber", name := "gains", desc := "(I)V" } : Jvm.MethodName)) ∈ lw_all := lw_g (lw_at lw_m9 145 rfl) rfl
theorem q2185 : (Jvm.Cond.selects "CrumblingWall$Climber" ({ cls := "CrumblingWall$Climber", name := "gains", desc := "(I)V" } : Jvm.MethodName) ({ cls := "CrumblingWall$Climber", name := "gains", desc := "(I)V" } : Jvm.MethodName)) ∈ lw_all := lw_g (lw_at lw_m9 146 rfl) rfl
theorem q2186 : (Jvm.Cond.code ({ cls := "CrumblingWall$Climber", name := "gains", desc := "(I)V" } : Jvm.MethodName) prog_4_method_6_code (2 : Nat) (Option.none : Option Jvm.ClassFile.FieldType)) ∈ lw_all := lw_g (lw_at lw_m9 147 rfl) rfl
theorem q2187 : (Jvm.Cond.methodLink "CrumblingWall$Climber" (27 : Nat) ({ cls := "java/lang/Math", name := "min", desc := "(II)I" } : Jvm.MethodName)) ∈ lw_all := lw_g (lw_at lw_m9 148 rfl) rfl
theorem q3566 : (Jvm.Cond.castable "CrumblingWall$Climber" "java/lang/Object") ∈ lw_tbl := lw_at lw_m15 87 rfl
theorem in_X3 : ∀ w ∈ wsX30, w ∈ lw_all := lw_in wsX30 [220, 222, 224, 226] (by decide +kernel) (by decide +kernel)
/-! CrumblingWall$Ground -/
set_option maxRecDepth 100000
def RX4 : String := "CrumblingWall$Ground"
abbrev cX4_init : ByteArray := prog_9_method_1_code
def yX4_init : MethodName := ⟨RX4, "<init>", "()V"⟩
theorem dX4_init_0 : decode cX4_init 0 = .ok (.aload_n 0, 1) := by decide +kernel
theorem dX4_init_1 : decode cX4_init 1 = .ok (.invokespecial 3, 3) := by decide +kernel
theorem dX4_init_4 : decode cX4_init 4 = .ok (.return_, 1) := by decide +kernel
abbrev cX4_number : ByteArray := prog_9_method_2_code
def yX4_number : MethodName := ⟨RX4, "number", "()I"⟩
theorem dX4_number_0 : decode cX4_number 0 = .ok (.iconst (-1), 1) := by decide +kernel
theorem dX4_number_1 : decode cX4_number 1 = .ok (.ireturn, 1) := by decide +kernel
abbrev cX4_row : ByteArray := prog_9_method_3_code
def yX4_row : MethodName := ⟨RX4, "row", "()I"⟩
theorem dX4_row_0 : decode cX4_row 0 = .ok (.iconst 0, 1) := by decide +kernel
theorem dX4_row_1 : decode cX4_row 1 = .ok (.ireturn, 1) := by decide +kernel
abbrev cX4_distance : ByteArray := prog_9_method_4_code
def yX4_distance : MethodName := ⟨RX4, "distance", "(LCrumblingWall$Place;)I"⟩
theorem dX4_distance_0 : decode cX4_distance 0 = .ok (.aload_n 1, 1) := by decide +kernel
theorem dX4_distance_1 : decode cX4_distance 1 = .ok (.invokeinterface 9 1, 5) := by decide +kernel
theorem dX4_distance_6 : decode cX4_distance 6 = .ok (.ireturn, 1) := by decide +kernel
abbrev cX4_aside : ByteArray := prog_9_method_5_code
def yX4_aside : MethodName := ⟨RX4, "aside", "(LCrumblingWall$Place;)I"⟩
theorem dX4_aside_0 : decode cX4_aside 0 = .ok (.iconst 0, 1) := by decide +kernel
theorem dX4_aside_1 : decode cX4_aside 1 = .ok (.ireturn, 1) := by decide +kernel
theorem q149 : (Jvm.Cond.initialized "CrumblingWall$Ground") ∈ lw_all := lw_g (lw_at lw_m1 30 rfl) rfl
theorem q637 : (Jvm.Cond.instantiable "CrumblingWall$Ground" (0 : Nat)) ∈ lw_all := lw_g (lw_at lw_m3 38 rfl) rfl
theorem q639 : (Jvm.Cond.instanceMethod ({ cls := "CrumblingWall$Ground", name := "<init>", desc := "()V" } : Jvm.MethodName)) ∈ lw_all := lw_g (lw_at lw_m3 40 rfl) rfl
theorem q640 : (Jvm.Cond.code ({ cls := "CrumblingWall$Ground", name := "<init>", desc := "()V" } : Jvm.MethodName) prog_9_method_1_code (1 : Nat) (Option.none : Option Jvm.ClassFile.FieldType)) ∈ lw_all := lw_g (lw_at lw_m3 41 rfl) rfl
theorem q641 : (Jvm.Cond.methodLink "CrumblingWall$Ground" (3 : Nat) ({ cls := "java/lang/Object", name := "<init>", desc := "()V" } : Jvm.MethodName)) ∈ lw_all := lw_g (lw_at lw_m3 42 rfl) rfl
theorem q642 : (Jvm.Cond.superclass "CrumblingWall$Ground" "java/lang/Object") ∈ lw_all := lw_g (lw_at lw_m3 43 rfl) rfl
theorem q1084 : (Jvm.Cond.selects "CrumblingWall$Ground" ({ cls := "java/lang/Object", name := "getClass", desc := "()Ljava/lang/Class;" } : Jvm.MethodName) ({ cls := "java/lang/Object", name := "getClass", desc := "()Ljava/lang/Class;" } : Jvm.MethodName)) ∈ lw_all := lw_g (lw_at lw_m5 5 rfl) rfl
theorem q1230 : (Jvm.Cond.castable "CrumblingWall$Ground" "CrumblingWall$Place") ∈ lw_tbl := lw_at lw_m5 151 rfl
theorem q1231 : (Jvm.Cond.selects "CrumblingWall$Ground" ({ cls := "CrumblingWall$Place", name := "number", desc := "()I" } : Jvm.MethodName) ({ cls := "CrumblingWall$Ground", name := "number", desc := "()I" } : Jvm.MethodName)) ∈ lw_all := lw_g (lw_at lw_m5 152 rfl) rfl
theorem q1232 : (Jvm.Cond.unhidden "CrumblingWall$Ground" "number" "()I") ∈ lw_tbl := lw_at lw_m5 153 rfl
theorem q1233 : (Jvm.Cond.instanceMethod ({ cls := "CrumblingWall$Ground", name := "number", desc := "()I" } : Jvm.MethodName)) ∈ lw_all := lw_g (lw_at lw_m5 154 rfl) rfl
theorem q1234 : (Jvm.Cond.publicMethod ({ cls := "CrumblingWall$Ground", name := "number", desc := "()I" } : Jvm.MethodName)) ∈ lw_tbl := lw_at lw_m5 155 rfl
theorem q1235 : (Jvm.Cond.code ({ cls := "CrumblingWall$Ground", name := "number", desc := "()I" } : Jvm.MethodName) prog_9_method_2_code (1 : Nat) (Option.some Jvm.ClassFile.FieldType.int)) ∈ lw_all := lw_g (lw_at lw_m5 156 rfl) rfl
theorem q1273 : (Jvm.Cond.selects "CrumblingWall$Ground" ({ cls := "CrumblingWall$Place", name := "row", desc := "()I" } : Jvm.MethodName) ({ cls := "CrumblingWall$Ground", name := "row", desc := "()I" } : Jvm.MethodName)) ∈ lw_all := lw_g (lw_at lw_m5 194 rfl) rfl
theorem q1274 : (Jvm.Cond.unhidden "CrumblingWall$Ground" "row" "()I") ∈ lw_tbl := lw_at lw_m5 195 rfl
theorem q1275 : (Jvm.Cond.instanceMethod ({ cls := "CrumblingWall$Ground", name := "row", desc := "()I" } : Jvm.MethodName)) ∈ lw_all := lw_g (lw_at lw_m5 196 rfl) rfl
theorem q1276 : (Jvm.Cond.publicMethod ({ cls := "CrumblingWall$Ground", name := "row", desc := "()I" } : Jvm.MethodName)) ∈ lw_tbl := lw_at lw_m5 197 rfl
theorem q1277 : (Jvm.Cond.code ({ cls := "CrumblingWall$Ground", name := "row", desc := "()I" } : Jvm.MethodName) prog_9_method_3_code (1 : Nat) (Option.some Jvm.ClassFile.FieldType.int)) ∈ lw_all := lw_g (lw_at lw_m5 198 rfl) rfl
theorem q1285 : (Jvm.Cond.selects "CrumblingWall$Ground" ({ cls := "CrumblingWall$Place", name := "distance", desc := "(LCrumblingWall$Place;)I" } : Jvm.MethodName) ({ cls := "CrumblingWall$Ground", name := "distance", desc := "(LCrumblingWall$Place;)I" } : Jvm.MethodName)) ∈ lw_all := lw_g (lw_at lw_m5 206 rfl) rfl
theorem q1286 : (Jvm.Cond.unhidden "CrumblingWall$Ground" "distance" "(LCrumblingWall$Place;)I") ∈ lw_tbl := lw_at lw_m5 207 rfl
theorem q1287 : (Jvm.Cond.instanceMethod ({ cls := "CrumblingWall$Ground", name := "distance", desc := "(LCrumblingWall$Place;)I" } : Jvm.MethodName)) ∈ lw_all := lw_g (lw_at lw_m5 208 rfl) rfl
theorem q1288 : (Jvm.Cond.publicMethod ({ cls := "CrumblingWall$Ground", name := "distance", desc := "(LCrumblingWall$Place;)I" } : Jvm.MethodName)) ∈ lw_tbl := lw_at lw_m5 209 rfl
theorem q1289 : (Jvm.Cond.code ({ cls := "CrumblingWall$Ground", name := "distance", desc := "(LCrumblingWall$Place;)I" } : Jvm.MethodName) prog_9_method_4_code (2 : Nat) (Option.some Jvm.ClassFile.FieldType.int)) ∈ lw_all := lw_g (lw_at lw_m5 210 rfl) rfl
theorem q1290 : (Jvm.Cond.interfaceEntry "CrumblingWall$Ground" (9 : Nat)) ∈ lw_tbl := lw_at lw_m5 211 rfl
theorem q1291 : (Jvm.Cond.methodLink "CrumblingWall$Ground" (9 : Nat) ({ cls := "CrumblingWall$Place", name := "row", desc := "()I" } : Jvm.MethodName)) ∈ lw_all := lw_g (lw_at lw_m5 212 rfl) rfl
theorem q1333 : (Jvm.Cond.selects "CrumblingWall$Ground" ({ cls := "CrumblingWall$Place", name := "aside", desc := "(LCrumblingWall$Place;)I" } : Jvm.MethodName) ({ cls := "CrumblingWall$Ground", name := "aside", desc := "(LCrumblingWall$Place;)I" } : Jvm.MethodName)) ∈ lw_all := lw_g (lw_at lw_m6 14 rfl) rfl
theorem q1334 : (Jvm.Cond.unhidden "CrumblingWall$Ground" "aside" "(LCrumblingWall$Place;)I") ∈ lw_tbl := lw_at lw_m6 15 rfl
theorem q1335 : (Jvm.Cond.instanceMethod ({ cls := "CrumblingWall$Ground", name := "aside", desc := "(LCrumblingWall$Place;)I" } : Jvm.MethodName)) ∈ lw_all := lw_g (lw_at lw_m6 16 rfl) rfl
theorem q1336 : (Jvm.Cond.publicMethod ({ cls := "CrumblingWall$Ground", name := "aside", desc := "(LCrumblingWall$Place;)I" } : Jvm.MethodName)) ∈ lw_tbl := lw_at lw_m6 17 rfl
theorem q1337 : (Jvm.Cond.code ({ cls := "CrumblingWall$Ground", name := "aside", desc := "(LCrumblingWall$Place;)I" } : Jvm.MethodName) prog_9_method_5_code (2 : Nat) (Option.some Jvm.ClassFile.FieldType.int)) ∈ lw_all := lw_g (lw_at lw_m6 18 rfl) rfl
theorem q1343 : (Jvm.Cond.unhidden "CrumblingWall$Ground" "upOrDown" "(LCrumblingWall$Place;)I") ∈ lw_tbl := lw_at lw_m6 24 rfl
theorem q3573 : (Jvm.Cond.castable "CrumblingWall$Ground" "java/lang/Object") ∈ lw_tbl := lw_at lw_m15 94 rfl
/-! CrumblingWall$Refused -/
set_option maxRecDepth 100000
def RX6 : String := "CrumblingWall$Refused"
def TX6 : u_T := fun k => match k with
  | 0 => ("java/lang/Throwable", "cause", "Ljava/lang/Throwable;", false)
  | 1 => ("java/lang/Throwable", "stackTrace", "[Ljava/lang/StackTraceElement;", false)
  | 2 => ("java/lang/Throwable", "suppressedExceptions", "Ljava/util/List;", false)
  | 3 => ("java/lang/Throwable", "detailMessage", "Ljava/lang/String;", false)
  | 4 => ("java/lang/Throwable", "backtrace", "Ljava/lang/Object;", false)
  | 5 => ("java/lang/Throwable", "depth", "I", false)
  | 6 => ("CrumblingWall$Refused", "reason", "I", true)
  | _ => ("CrumblingWall$Refused", "detail", "I", true)
def tyX6 : Nat → FieldType := fun k => match k with
  | 0 => .object "java/lang/Throwable"
  | 1 => .array (.object "java/lang/StackTraceElement")
  | 2 => .object "java/util/List"
  | 3 => .object "java/lang/String"
  | 4 => .object "java/lang/Object"
  | 5 => .int
  | 6 => .int
  | _ => .int
abbrev wsX60 : List Cond := u_ws RX6 TX6 8
theorem nmX6 : ∀ a, a < 8 → ∀ b, b < 8 → a ≠ b → (TX6 a).2.1 ≠ (TX6 b).2.1 := by decide +kernel
theorem tyX6_ok : ∀ k, k < 8 → parseFieldDescriptor (TX6 k).2.2.1 = some (tyX6 k) := by decide +kernel
abbrev cX6_init : ByteArray := prog_17_method_1_code
def yX6_init : MethodName := ⟨RX6, "<init>", "(II)V"⟩
def dkwX6_init_0 : List UInt8 := [42, 1, 1, 3, 3, 183, 0, 1, 42, 27, 181, 0, 7, 42, 28, 181, 0, 13, 177]
abbrev dktX6_init_0 : List UInt8 := dkwX6_init_0 ++ []
theorem dksX6_init_0 : cX6_init.data.toList.drop 0 = dktX6_init_0 := by decide +kernel
theorem dX6_init_0 : decode cX6_init 0 = .ok (.aload_n 0, 1) := dk_42 (dk_at dksX6_init_0 0 rfl rfl)
theorem dX6_init_1 : decode cX6_init 1 = .ok (.aconst_null, 1) := dk_1 (dk_at dksX6_init_0 1 rfl rfl)
theorem dX6_init_2 : decode cX6_init 2 = .ok (.aconst_null, 1) := dk_1 (dk_at dksX6_init_0 2 rfl rfl)
theorem dX6_init_3 : decode cX6_init 3 = .ok (.iconst 0, 1) := dk_3 (dk_at dksX6_init_0 3 rfl rfl)
theorem dX6_init_4 : decode cX6_init 4 = .ok (.iconst 0, 1) := dk_3 (dk_at dksX6_init_0 4 rfl rfl)
theorem dX6_init_5 : decode cX6_init 5 = .ok (.invokespecial 1, 3) := dk_183 0 1 (dk_at dksX6_init_0 5 rfl rfl)
theorem dX6_init_8 : decode cX6_init 8 = .ok (.aload_n 0, 1) := dk_42 (dk_at dksX6_init_0 8 rfl rfl)
theorem dX6_init_9 : decode cX6_init 9 = .ok (.iload_n 1, 1) := dk_27 (dk_at dksX6_init_0 9 rfl rfl)
theorem dX6_init_10 : decode cX6_init 10 = .ok (.putfield 7, 3) := dk_181 0 7 (dk_at dksX6_init_0 10 rfl rfl)
theorem dX6_init_13 : decode cX6_init 13 = .ok (.aload_n 0, 1) := dk_42 (dk_at dksX6_init_0 13 rfl rfl)
theorem dX6_init_14 : decode cX6_init 14 = .ok (.iload_n 2, 1) := dk_28 (dk_at dksX6_init_0 14 rfl rfl)
theorem dX6_init_15 : decode cX6_init 15 = .ok (.putfield 13, 3) := dk_181 0 13 (dk_at dksX6_init_0 15 rfl rfl)
theorem dX6_init_18 : decode cX6_init 18 = .ok (.return_, 1) := dk_177 (dk_at dksX6_init_0 18 rfl rfl)
theorem q153 : (Jvm.Cond.initialized "CrumblingWall$Refused") ∈ lw_all := lw_g (lw_at lw_m1 34 rfl) rfl
theorem q307 : (Jvm.Cond.selects "CrumblingWall$Refused" ({ cls := "java/lang/Throwable", name := "fillInStackTrace", desc := "()Ljava/lang/Throwable;" } : Jvm.MethodName) ({ cls := "java/lang/Throwable", name := "fillInStackTrace", desc := "()Ljava/lang/Throwable;" } : Jvm.MethodName)) ∈ lw_all := lw_g (lw_at lw_m1 188 rfl) rfl
theorem q1062 : (Jvm.Cond.selects "CrumblingWall$Refused" ({ cls := "java/lang/Throwable", name := "toString", desc := "()Ljava/lang/String;" } : Jvm.MethodName) ({ cls := "java/lang/Throwable", name := "toString", desc := "()Ljava/lang/String;" } : Jvm.MethodName)) ∈ lw_all := lw_g (lw_at lw_m4 223 rfl) rfl
theorem q1090 : (Jvm.Cond.selects "CrumblingWall$Refused" ({ cls := "java/lang/Object", name := "getClass", desc := "()Ljava/lang/Class;" } : Jvm.MethodName) ({ cls := "java/lang/Object", name := "getClass", desc := "()Ljava/lang/Class;" } : Jvm.MethodName)) ∈ lw_all := lw_g (lw_at lw_m5 11 rfl) rfl
theorem q1123 : (Jvm.Cond.selects "CrumblingWall$Refused" ({ cls := "java/lang/Throwable", name := "getLocalizedMessage", desc := "()Ljava/lang/String;" } : Jvm.MethodName) ({ cls := "java/lang/Throwable", name := "getLocalizedMessage", desc := "()Ljava/lang/String;" } : Jvm.MethodName)) ∈ lw_all := lw_g (lw_at lw_m5 44 rfl) rfl
theorem q1138 : (Jvm.Cond.selects "CrumblingWall$Refused" ({ cls := "java/lang/Throwable", name := "getMessage", desc := "()Ljava/lang/String;" } : Jvm.MethodName) ({ cls := "java/lang/Throwable", name := "getMessage", desc := "()Ljava/lang/String;" } : Jvm.MethodName)) ∈ lw_all := lw_g (lw_at lw_m5 59 rfl) rfl
theorem q1671 : (Jvm.Cond.instantiable "CrumblingWall$Refused" (8 : Nat)) ∈ lw_all := lw_g (lw_at lw_m7 112 rfl) rfl
theorem q1672 : (Jvm.Cond.castable "CrumblingWall$Refused" "CrumblingWall$Refused") ∈ lw_tbl := lw_at lw_m7 113 rfl
theorem q1673 : (Jvm.Cond.selects "CrumblingWall$Refused" ({ cls := "java/lang/Throwable", name := "fillInStackTrace", desc := "(I)Ljava/lang/Throwable;" } : Jvm.MethodName) ({ cls := "java/lang/Throwable", name := "fillInStackTrace", desc := "(I)Ljava/lang/Throwable;" } : Jvm.MethodName)) ∈ lw_all := lw_g (lw_at lw_m7 114 rfl) rfl
theorem q1674 : (Jvm.Cond.lays "CrumblingWall$Refused" "java/lang/Throwable" "cause" "Ljava/lang/Throwable;") ∈ lw_all := lw_g (lw_at lw_m7 115 rfl) rfl
theorem q1675 : (Jvm.Cond.lays "CrumblingWall$Refused" "java/lang/Throwable" "stackTrace" "[Ljava/lang/StackTraceElement;") ∈ lw_all := lw_g (lw_at lw_m7 116 rfl) rfl
theorem q1676 : (Jvm.Cond.lays "CrumblingWall$Refused" "java/lang/Throwable" "suppressedExceptions" "Ljava/util/List;") ∈ lw_all := lw_g (lw_at lw_m7 117 rfl) rfl
theorem q1677 : (Jvm.Cond.lays "CrumblingWall$Refused" "java/lang/Throwable" "detailMessage" "Ljava/lang/String;") ∈ lw_all := lw_g (lw_at lw_m7 118 rfl) rfl
theorem q1678 : (Jvm.Cond.lays "CrumblingWall$Refused" "java/lang/Throwable" "backtrace" "Ljava/lang/Object;") ∈ lw_all := lw_g (lw_at lw_m7 119 rfl) rfl
theorem q1680 : (Jvm.Cond.instanceMethod ({ cls := "CrumblingWall$Refused", name := "<init>", desc := "(II)V" } : Jvm.MethodName)) ∈ lw_all := lw_g (lw_at lw_m7 121 rfl) rfl
theorem q1681 : (Jvm.Cond.code ({ cls := "CrumblingWall$Refused", name := "<init>", desc := "(II)V" } : Jvm.MethodName) prog_17_method_1_code (3 : Nat) (Option.none : Option Jvm.ClassFile.FieldType)) ∈ lw_all := lw_g (lw_at lw_m7 122 rfl) rfl
theorem q1682 : (Jvm.Cond.methodLink "CrumblingWall$Refused" (1 : Nat) ({ cls := "java/lang/Exception", name := "<init>", desc := "(Ljava/lang/String;Ljava/lang/Throwable;ZZ)V" } : Jvm.MethodName)) ∈ lw_all := lw_g (lw_at lw_m7 123 rfl) rfl
theorem q1688 : (Jvm.Cond.fieldLink "CrumblingWall$Refused" (7 : Nat) "CrumblingWall$Refused" "reason" "I") ∈ lw_all := lw_g (lw_at lw_m7 129 rfl) rfl
theorem q1690 : (Jvm.Cond.fieldLink "CrumblingWall$Refused" (13 : Nat) "CrumblingWall$Refused" "detail" "I") ∈ lw_all := lw_g (lw_at lw_m7 131 rfl) rfl
theorem q1692 : (Jvm.Cond.laysFinal "CrumblingWall$Refused" "CrumblingWall$Refused" "reason" "I") ∈ lw_all := lw_g (lw_at lw_m7 133 rfl) rfl
theorem q1693 : (Jvm.Cond.soleField "CrumblingWall$Refused" "reason") ∈ lw_all := lw_g (lw_at lw_m7 134 rfl) rfl
theorem q1694 : (Jvm.Cond.laysFinal "CrumblingWall$Refused" "CrumblingWall$Refused" "detail" "I") ∈ lw_all := lw_g (lw_at lw_m7 135 rfl) rfl
theorem q1695 : (Jvm.Cond.soleField "CrumblingWall$Refused" "detail") ∈ lw_all := lw_g (lw_at lw_m7 136 rfl) rfl
theorem q1696 : (Jvm.Cond.lays "CrumblingWall$Refused" "java/lang/Throwable" "depth" "I") ∈ lw_all := lw_g (lw_at lw_m7 137 rfl) rfl
theorem q1697 : (Jvm.Cond.superclass "CrumblingWall$Refused" "java/lang/Exception") ∈ lw_all := lw_g (lw_at lw_m7 138 rfl) rfl
theorem q3577 : (Jvm.Cond.castable "CrumblingWall$Refused" "java/lang/Object") ∈ lw_tbl := lw_at lw_m15 98 rfl
theorem in_X6 : ∀ w ∈ wsX60, w ∈ lw_all := lw_in wsX60 [1674, 1675, 1676, 1677, 1678, 1696, 1692, 1694] (by decide +kernel) (by decide +kernel)
/-! CrumblingWall$Hold -/
set_option maxRecDepth 100000
def RX7 : String := "CrumblingWall$Hold"
abbrev cX7_distance : ByteArray := prog_10_method_16_code
def yX7_distance : MethodName := ⟨RX7, "distance", "(LCrumblingWall$Place;)I"⟩
def dkwX7_distance_1 : List UInt8 := [182, 0, 47, 96, 172]
abbrev dktX7_distance_1 : List UInt8 := dkwX7_distance_1 ++ []
def dkwX7_distance_0 : List UInt8 := [43, 185, 0, 38, 1, 0, 2, 160, 0, 10, 42, 180, 0, 18, 167, 0, 14, 42, 43, 182, 0, 43, 42, 43]
abbrev dktX7_distance_0 : List UInt8 := dkwX7_distance_0 ++ dktX7_distance_1
theorem dksX7_distance_0 : cX7_distance.data.toList.drop 0 = dktX7_distance_0 := by decide +kernel
theorem dksX7_distance_1 : cX7_distance.data.toList.drop 24 = dktX7_distance_1 := dk_seg dksX7_distance_0 24 rfl rfl
theorem dX7_distance_0 : decode cX7_distance 0 = .ok (.aload_n 1, 1) := dk_43 (dk_at dksX7_distance_0 0 rfl rfl)
theorem dX7_distance_1 : decode cX7_distance 1 = .ok (.invokeinterface 38 1, 5) := by decide +kernel
theorem dX7_distance_6 : decode cX7_distance 6 = .ok (.iconst (-1), 1) := dk_2 (dk_at dksX7_distance_0 6 rfl rfl)
theorem dX7_distance_7 : decode cX7_distance 7 = .ok (.if_icmp .ne 10, 3) := dk_160 0 10 (dk_at dksX7_distance_0 7 rfl rfl)
theorem dX7_distance_10 : decode cX7_distance 10 = .ok (.aload_n 0, 1) := dk_42 (dk_at dksX7_distance_0 10 rfl rfl)
theorem dX7_distance_11 : decode cX7_distance 11 = .ok (.getfield 18, 3) := dk_180 0 18 (dk_at dksX7_distance_0 11 rfl rfl)
theorem dX7_distance_14 : decode cX7_distance 14 = .ok (.goto 14, 3) := dk_167 0 14 (dk_at dksX7_distance_0 14 rfl rfl)
theorem dX7_distance_17 : decode cX7_distance 17 = .ok (.aload_n 0, 1) := dk_42 (dk_at dksX7_distance_0 17 rfl rfl)
theorem dX7_distance_18 : decode cX7_distance 18 = .ok (.aload_n 1, 1) := dk_43 (dk_at dksX7_distance_0 18 rfl rfl)
theorem dX7_distance_19 : decode cX7_distance 19 = .ok (.invokevirtual 43, 3) := dk_182 0 43 (dk_at dksX7_distance_0 19 rfl rfl)
theorem dX7_distance_22 : decode cX7_distance 22 = .ok (.aload_n 0, 1) := dk_42 (dk_at dksX7_distance_0 22 rfl rfl)
theorem dX7_distance_23 : decode cX7_distance 23 = .ok (.aload_n 1, 1) := dk_43 (dk_at dksX7_distance_0 23 rfl rfl)
theorem dX7_distance_24 : decode cX7_distance 24 = .ok (.invokevirtual 47, 3) := dk_182 0 47 (dk_at dksX7_distance_1 0 rfl rfl)
theorem dX7_distance_27 : decode cX7_distance 27 = .ok (.iadd, 1) := dk_96 (dk_at dksX7_distance_1 3 rfl rfl)
theorem dX7_distance_28 : decode cX7_distance 28 = .ok (.ireturn, 1) := dk_172 (dk_at dksX7_distance_1 4 rfl rfl)
abbrev cX7_number : ByteArray := prog_10_method_7_code
def yX7_number : MethodName := ⟨RX7, "number", "()I"⟩
theorem dX7_number_0 : decode cX7_number 0 = .ok (.aload_n 0, 1) := by decide +kernel
theorem dX7_number_1 : decode cX7_number 1 = .ok (.getfield 9, 3) := by decide +kernel
theorem dX7_number_4 : decode cX7_number 4 = .ok (.ireturn, 1) := by decide +kernel
abbrev cX7_aside : ByteArray := prog_10_method_17_code
def yX7_aside : MethodName := ⟨RX7, "aside", "(LCrumblingWall$Place;)I"⟩
def dkwX7_aside_1 : List UInt8 := [167, 0, 4, 3, 172]
abbrev dktX7_aside_1 : List UInt8 := dkwX7_aside_1 ++ []
def dkwX7_aside_0 : List UInt8 := [43, 193, 0, 10, 153, 0, 23, 43, 192, 0, 10, 77, 42, 180, 0, 15, 44, 180, 0, 15, 100, 184, 0, 50]
abbrev dktX7_aside_0 : List UInt8 := dkwX7_aside_0 ++ dktX7_aside_1
theorem dksX7_aside_0 : cX7_aside.data.toList.drop 0 = dktX7_aside_0 := by decide +kernel
theorem dksX7_aside_1 : cX7_aside.data.toList.drop 24 = dktX7_aside_1 := dk_seg dksX7_aside_0 24 rfl rfl
theorem dX7_aside_0 : decode cX7_aside 0 = .ok (.aload_n 1, 1) := dk_43 (dk_at dksX7_aside_0 0 rfl rfl)
theorem dX7_aside_1 : decode cX7_aside 1 = .ok (.instanceof 10, 3) := dk_193 0 10 (dk_at dksX7_aside_0 1 rfl rfl)
theorem dX7_aside_4 : decode cX7_aside 4 = .ok (.ifCond .eq 23, 3) := dk_153 0 23 (dk_at dksX7_aside_0 4 rfl rfl)
theorem dX7_aside_7 : decode cX7_aside 7 = .ok (.aload_n 1, 1) := dk_43 (dk_at dksX7_aside_0 7 rfl rfl)
theorem dX7_aside_8 : decode cX7_aside 8 = .ok (.checkcast 10, 3) := dk_192 0 10 (dk_at dksX7_aside_0 8 rfl rfl)
theorem dX7_aside_11 : decode cX7_aside 11 = .ok (.astore_n 2, 1) := dk_77 (dk_at dksX7_aside_0 11 rfl rfl)
theorem dX7_aside_12 : decode cX7_aside 12 = .ok (.aload_n 0, 1) := dk_42 (dk_at dksX7_aside_0 12 rfl rfl)
theorem dX7_aside_13 : decode cX7_aside 13 = .ok (.getfield 15, 3) := dk_180 0 15 (dk_at dksX7_aside_0 13 rfl rfl)
theorem dX7_aside_16 : decode cX7_aside 16 = .ok (.aload_n 2, 1) := dk_44 (dk_at dksX7_aside_0 16 rfl rfl)
theorem dX7_aside_17 : decode cX7_aside 17 = .ok (.getfield 15, 3) := dk_180 0 15 (dk_at dksX7_aside_0 17 rfl rfl)
theorem dX7_aside_20 : decode cX7_aside 20 = .ok (.isub, 1) := dk_100 (dk_at dksX7_aside_0 20 rfl rfl)
theorem dX7_aside_21 : decode cX7_aside 21 = .ok (.invokestatic 50, 3) := dk_184 0 50 (dk_at dksX7_aside_0 21 rfl rfl)
theorem dX7_aside_24 : decode cX7_aside 24 = .ok (.goto 4, 3) := dk_167 0 4 (dk_at dksX7_aside_1 0 rfl rfl)
theorem dX7_aside_27 : decode cX7_aside 27 = .ok (.iconst 0, 1) := dk_3 (dk_at dksX7_aside_1 3 rfl rfl)
theorem dX7_aside_28 : decode cX7_aside 28 = .ok (.ireturn, 1) := dk_172 (dk_at dksX7_aside_1 4 rfl rfl)
abbrev cX7_row : ByteArray := prog_10_method_9_code
def yX7_row : MethodName := ⟨RX7, "row", "()I"⟩
theorem dX7_row_0 : decode cX7_row 0 = .ok (.aload_n 0, 1) := by decide +kernel
theorem dX7_row_1 : decode cX7_row 1 = .ok (.getfield 18, 3) := by decide +kernel
theorem dX7_row_4 : decode cX7_row 4 = .ok (.ireturn, 1) := by decide +kernel
abbrev cX7_left : ByteArray := prog_10_method_15_code
def yX7_left : MethodName := ⟨RX7, "left", "()I"⟩
def dkwX7_left_0 : List UInt8 := [42, 182, 0, 35, 153, 0, 7, 3, 167, 0, 12, 42, 180, 0, 21, 42, 180, 0, 28, 100, 172]
abbrev dktX7_left_0 : List UInt8 := dkwX7_left_0 ++ []
theorem dksX7_left_0 : cX7_left.data.toList.drop 0 = dktX7_left_0 := by decide +kernel
theorem dX7_left_0 : decode cX7_left 0 = .ok (.aload_n 0, 1) := dk_42 (dk_at dksX7_left_0 0 rfl rfl)
theorem dX7_left_1 : decode cX7_left 1 = .ok (.invokevirtual 35, 3) := dk_182 0 35 (dk_at dksX7_left_0 1 rfl rfl)
theorem dX7_left_4 : decode cX7_left 4 = .ok (.ifCond .eq 7, 3) := dk_153 0 7 (dk_at dksX7_left_0 4 rfl rfl)
theorem dX7_left_7 : decode cX7_left 7 = .ok (.iconst 0, 1) := dk_3 (dk_at dksX7_left_0 7 rfl rfl)
theorem dX7_left_8 : decode cX7_left 8 = .ok (.goto 12, 3) := dk_167 0 12 (dk_at dksX7_left_0 8 rfl rfl)
theorem dX7_left_11 : decode cX7_left 11 = .ok (.aload_n 0, 1) := dk_42 (dk_at dksX7_left_0 11 rfl rfl)
theorem dX7_left_12 : decode cX7_left 12 = .ok (.getfield 21, 3) := dk_180 0 21 (dk_at dksX7_left_0 12 rfl rfl)
theorem dX7_left_15 : decode cX7_left 15 = .ok (.aload_n 0, 1) := dk_42 (dk_at dksX7_left_0 15 rfl rfl)
theorem dX7_left_16 : decode cX7_left 16 = .ok (.getfield 28, 3) := dk_180 0 28 (dk_at dksX7_left_0 16 rfl rfl)
theorem dX7_left_19 : decode cX7_left 19 = .ok (.isub, 1) := dk_100 (dk_at dksX7_left_0 19 rfl rfl)
theorem dX7_left_20 : decode cX7_left 20 = .ok (.ireturn, 1) := dk_172 (dk_at dksX7_left_0 20 rfl rfl)
abbrev cX7_hasCrumbled : ByteArray := prog_10_method_14_code
def yX7_hasCrumbled : MethodName := ⟨RX7, "hasCrumbled", "()Z"⟩
def dkwX7_hasCrumbled_0 : List UInt8 := [42, 180, 0, 28, 42, 180, 0, 21, 161, 0, 7, 4, 167, 0, 4, 3, 172]
abbrev dktX7_hasCrumbled_0 : List UInt8 := dkwX7_hasCrumbled_0 ++ []
theorem dksX7_hasCrumbled_0 : cX7_hasCrumbled.data.toList.drop 0 = dktX7_hasCrumbled_0 := by decide +kernel
theorem dX7_hasCrumbled_0 : decode cX7_hasCrumbled 0 = .ok (.aload_n 0, 1) := dk_42 (dk_at dksX7_hasCrumbled_0 0 rfl rfl)
theorem dX7_hasCrumbled_1 : decode cX7_hasCrumbled 1 = .ok (.getfield 28, 3) := dk_180 0 28 (dk_at dksX7_hasCrumbled_0 1 rfl rfl)
theorem dX7_hasCrumbled_4 : decode cX7_hasCrumbled 4 = .ok (.aload_n 0, 1) := dk_42 (dk_at dksX7_hasCrumbled_0 4 rfl rfl)
theorem dX7_hasCrumbled_5 : decode cX7_hasCrumbled 5 = .ok (.getfield 21, 3) := dk_180 0 21 (dk_at dksX7_hasCrumbled_0 5 rfl rfl)
theorem dX7_hasCrumbled_8 : decode cX7_hasCrumbled 8 = .ok (.if_icmp .lt 7, 3) := dk_161 0 7 (dk_at dksX7_hasCrumbled_0 8 rfl rfl)
theorem dX7_hasCrumbled_11 : decode cX7_hasCrumbled 11 = .ok (.iconst 1, 1) := dk_4 (dk_at dksX7_hasCrumbled_0 11 rfl rfl)
theorem dX7_hasCrumbled_12 : decode cX7_hasCrumbled 12 = .ok (.goto 4, 3) := dk_167 0 4 (dk_at dksX7_hasCrumbled_0 12 rfl rfl)
theorem dX7_hasCrumbled_15 : decode cX7_hasCrumbled 15 = .ok (.iconst 0, 1) := dk_3 (dk_at dksX7_hasCrumbled_0 15 rfl rfl)
theorem dX7_hasCrumbled_16 : decode cX7_hasCrumbled 16 = .ok (.ireturn, 1) := dk_172 (dk_at dksX7_hasCrumbled_0 16 rfl rfl)
abbrev cX7_copy : ByteArray := prog_10_method_11_code
def yX7_copy : MethodName := ⟨RX7, "copy", "()LCrumblingWall$Hold;"⟩
def dkwX7_copy_0 : List UInt8 := [42, 182, 0, 24, 76, 43, 42, 180, 0, 28, 181, 0, 28, 43, 176]
abbrev dktX7_copy_0 : List UInt8 := dkwX7_copy_0 ++ []
theorem dksX7_copy_0 : cX7_copy.data.toList.drop 0 = dktX7_copy_0 := by decide +kernel
theorem dX7_copy_0 : decode cX7_copy 0 = .ok (.aload_n 0, 1) := dk_42 (dk_at dksX7_copy_0 0 rfl rfl)
theorem dX7_copy_1 : decode cX7_copy 1 = .ok (.invokevirtual 24, 3) := dk_182 0 24 (dk_at dksX7_copy_0 1 rfl rfl)
theorem dX7_copy_4 : decode cX7_copy 4 = .ok (.astore_n 1, 1) := dk_76 (dk_at dksX7_copy_0 4 rfl rfl)
theorem dX7_copy_5 : decode cX7_copy 5 = .ok (.aload_n 1, 1) := dk_43 (dk_at dksX7_copy_0 5 rfl rfl)
theorem dX7_copy_6 : decode cX7_copy 6 = .ok (.aload_n 0, 1) := dk_42 (dk_at dksX7_copy_0 6 rfl rfl)
theorem dX7_copy_7 : decode cX7_copy 7 = .ok (.getfield 28, 3) := dk_180 0 28 (dk_at dksX7_copy_0 7 rfl rfl)
theorem dX7_copy_10 : decode cX7_copy 10 = .ok (.putfield 28, 3) := dk_181 0 28 (dk_at dksX7_copy_0 10 rfl rfl)
theorem dX7_copy_13 : decode cX7_copy 13 = .ok (.aload_n 1, 1) := dk_43 (dk_at dksX7_copy_0 13 rfl rfl)
theorem dX7_copy_14 : decode cX7_copy 14 = .ok (.areturn, 1) := dk_176 (dk_at dksX7_copy_0 14 rfl rfl)
abbrev cX7_column : ByteArray := prog_10_method_8_code
def yX7_column : MethodName := ⟨RX7, "column", "()I"⟩
theorem dX7_column_0 : decode cX7_column 0 = .ok (.aload_n 0, 1) := by decide +kernel
theorem dX7_column_1 : decode cX7_column 1 = .ok (.getfield 15, 3) := by decide +kernel
theorem dX7_column_4 : decode cX7_column 4 = .ok (.ireturn, 1) := by decide +kernel
abbrev cX7_strength : ByteArray := prog_10_method_10_code
def yX7_strength : MethodName := ⟨RX7, "strength", "()I"⟩
theorem dX7_strength_0 : decode cX7_strength 0 = .ok (.aload_n 0, 1) := by decide +kernel
theorem dX7_strength_1 : decode cX7_strength 1 = .ok (.getfield 21, 3) := by decide +kernel
theorem dX7_strength_4 : decode cX7_strength 4 = .ok (.ireturn, 1) := by decide +kernel
abbrev cX7_init : ByteArray := prog_10_method_1_code
def yX7_init : MethodName := ⟨RX7, "<init>", "(IIII)V"⟩
def dkwX7_init_1 : List UInt8 := [181, 0, 21, 177]
abbrev dktX7_init_1 : List UInt8 := dkwX7_init_1 ++ []
def dkwX7_init_0 : List UInt8 := [42, 183, 0, 3, 42, 27, 181, 0, 9, 42, 28, 181, 0, 15, 42, 29, 181, 0, 18, 42, 21, 4]
abbrev dktX7_init_0 : List UInt8 := dkwX7_init_0 ++ dktX7_init_1
theorem dksX7_init_0 : cX7_init.data.toList.drop 0 = dktX7_init_0 := by decide +kernel
theorem dksX7_init_1 : cX7_init.data.toList.drop 22 = dktX7_init_1 := dk_seg dksX7_init_0 22 rfl rfl
theorem dX7_init_0 : decode cX7_init 0 = .ok (.aload_n 0, 1) := dk_42 (dk_at dksX7_init_0 0 rfl rfl)
theorem dX7_init_1 : decode cX7_init 1 = .ok (.invokespecial 3, 3) := dk_183 0 3 (dk_at dksX7_init_0 1 rfl rfl)
theorem dX7_init_4 : decode cX7_init 4 = .ok (.aload_n 0, 1) := dk_42 (dk_at dksX7_init_0 4 rfl rfl)
theorem dX7_init_5 : decode cX7_init 5 = .ok (.iload_n 1, 1) := dk_27 (dk_at dksX7_init_0 5 rfl rfl)
theorem dX7_init_6 : decode cX7_init 6 = .ok (.putfield 9, 3) := dk_181 0 9 (dk_at dksX7_init_0 6 rfl rfl)
theorem dX7_init_9 : decode cX7_init 9 = .ok (.aload_n 0, 1) := dk_42 (dk_at dksX7_init_0 9 rfl rfl)
theorem dX7_init_10 : decode cX7_init 10 = .ok (.iload_n 2, 1) := dk_28 (dk_at dksX7_init_0 10 rfl rfl)
theorem dX7_init_11 : decode cX7_init 11 = .ok (.putfield 15, 3) := dk_181 0 15 (dk_at dksX7_init_0 11 rfl rfl)
theorem dX7_init_14 : decode cX7_init 14 = .ok (.aload_n 0, 1) := dk_42 (dk_at dksX7_init_0 14 rfl rfl)
theorem dX7_init_15 : decode cX7_init 15 = .ok (.iload_n 3, 1) := dk_29 (dk_at dksX7_init_0 15 rfl rfl)
theorem dX7_init_16 : decode cX7_init 16 = .ok (.putfield 18, 3) := dk_181 0 18 (dk_at dksX7_init_0 16 rfl rfl)
theorem dX7_init_19 : decode cX7_init 19 = .ok (.aload_n 0, 1) := dk_42 (dk_at dksX7_init_0 19 rfl rfl)
theorem dX7_init_20 : decode cX7_init 20 = .ok (.iload 4, 2) := dk_21 4 (dk_at dksX7_init_0 20 rfl rfl)
theorem dX7_init_22 : decode cX7_init 22 = .ok (.putfield 21, 3) := dk_181 0 21 (dk_at dksX7_init_1 0 rfl rfl)
theorem dX7_init_25 : decode cX7_init 25 = .ok (.return_, 1) := dk_177 (dk_at dksX7_init_1 3 rfl rfl)
abbrev cX7_wear : ByteArray := prog_10_method_13_code
def yX7_wear : MethodName := ⟨RX7, "wear", "()I"⟩
theorem dX7_wear_0 : decode cX7_wear 0 = .ok (.aload_n 0, 1) := by decide +kernel
theorem dX7_wear_1 : decode cX7_wear 1 = .ok (.getfield 28, 3) := by decide +kernel
theorem dX7_wear_4 : decode cX7_wear 4 = .ok (.ireturn, 1) := by decide +kernel
abbrev cX7_wears : ByteArray := prog_10_method_12_code
def yX7_wears : MethodName := ⟨RX7, "wears", "(I)V"⟩
def dkwX7_wears_0 : List UInt8 := [42, 89, 180, 0, 28, 42, 182, 0, 31, 153, 0, 7, 27, 167, 0, 4, 3, 96, 181, 0, 28, 177]
abbrev dktX7_wears_0 : List UInt8 := dkwX7_wears_0 ++ []
theorem dksX7_wears_0 : cX7_wears.data.toList.drop 0 = dktX7_wears_0 := by decide +kernel
theorem dX7_wears_0 : decode cX7_wears 0 = .ok (.aload_n 0, 1) := dk_42 (dk_at dksX7_wears_0 0 rfl rfl)
theorem dX7_wears_1 : decode cX7_wears 1 = .ok (.dup, 1) := dk_89 (dk_at dksX7_wears_0 1 rfl rfl)
theorem dX7_wears_2 : decode cX7_wears 2 = .ok (.getfield 28, 3) := dk_180 0 28 (dk_at dksX7_wears_0 2 rfl rfl)
theorem dX7_wears_5 : decode cX7_wears 5 = .ok (.aload_n 0, 1) := dk_42 (dk_at dksX7_wears_0 5 rfl rfl)
theorem dX7_wears_6 : decode cX7_wears 6 = .ok (.invokevirtual 31, 3) := dk_182 0 31 (dk_at dksX7_wears_0 6 rfl rfl)
theorem dX7_wears_9 : decode cX7_wears 9 = .ok (.ifCond .eq 7, 3) := dk_153 0 7 (dk_at dksX7_wears_0 9 rfl rfl)
theorem dX7_wears_12 : decode cX7_wears 12 = .ok (.iload_n 1, 1) := dk_27 (dk_at dksX7_wears_0 12 rfl rfl)
theorem dX7_wears_13 : decode cX7_wears 13 = .ok (.goto 4, 3) := dk_167 0 4 (dk_at dksX7_wears_0 13 rfl rfl)
theorem dX7_wears_16 : decode cX7_wears 16 = .ok (.iconst 0, 1) := dk_3 (dk_at dksX7_wears_0 16 rfl rfl)
theorem dX7_wears_17 : decode cX7_wears 17 = .ok (.iadd, 1) := dk_96 (dk_at dksX7_wears_0 17 rfl rfl)
theorem dX7_wears_18 : decode cX7_wears 18 = .ok (.putfield 28, 3) := dk_181 0 28 (dk_at dksX7_wears_0 18 rfl rfl)
theorem dX7_wears_21 : decode cX7_wears 21 = .ok (.return_, 1) := dk_177 (dk_at dksX7_wears_0 21 rfl rfl)
abbrev cX7_isWorn : ByteArray := prog_10_method_6_code
def yX7_isWorn : MethodName := ⟨RX7, "isWorn", "()Z"⟩
theorem dX7_isWorn_0 : decode cX7_isWorn 0 = .ok (.iconst 1, 1) := by decide +kernel
theorem dX7_isWorn_1 : decode cX7_isWorn 1 = .ok (.ireturn, 1) := by decide +kernel
theorem q157 : (Jvm.Cond.initialized "CrumblingWall$Hold") ∈ lw_all := lw_g (lw_at lw_m1 38 rfl) rfl
theorem q1212 : (Jvm.Cond.instanceMethod ({ cls := "CrumblingWall$Hold", name := "distance", desc := "(LCrumblingWall$Place;)I" } : Jvm.MethodName)) ∈ lw_all := lw_g (lw_at lw_m5 133 rfl) rfl
theorem q1213 : (Jvm.Cond.publicMethod ({ cls := "CrumblingWall$Hold", name := "distance", desc := "(LCrumblingWall$Place;)I" } : Jvm.MethodName)) ∈ lw_tbl := lw_at lw_m5 134 rfl
theorem q1214 : (Jvm.Cond.code ({ cls := "CrumblingWall$Hold", name := "distance", desc := "(LCrumblingWall$Place;)I" } : Jvm.MethodName) prog_10_method_16_code (2 : Nat) (Option.some Jvm.ClassFile.FieldType.int)) ∈ lw_all := lw_g (lw_at lw_m5 135 rfl) rfl
theorem q1215 : (Jvm.Cond.interfaceEntry "CrumblingWall$Hold" (38 : Nat)) ∈ lw_tbl := lw_at lw_m5 136 rfl
theorem q1216 : (Jvm.Cond.methodLink "CrumblingWall$Hold" (38 : Nat) ({ cls := "CrumblingWall$Place", name := "number", desc := "()I" } : Jvm.MethodName)) ∈ lw_all := lw_g (lw_at lw_m5 137 rfl) rfl
theorem q1221 : (Jvm.Cond.instanceMethod ({ cls := "CrumblingWall$Hold", name := "number", desc := "()I" } : Jvm.MethodName)) ∈ lw_all := lw_g (lw_at lw_m5 142 rfl) rfl
theorem q1222 : (Jvm.Cond.publicMethod ({ cls := "CrumblingWall$Hold", name := "number", desc := "()I" } : Jvm.MethodName)) ∈ lw_tbl := lw_at lw_m5 143 rfl
theorem q1223 : (Jvm.Cond.code ({ cls := "CrumblingWall$Hold", name := "number", desc := "()I" } : Jvm.MethodName) prog_10_method_7_code (1 : Nat) (Option.some Jvm.ClassFile.FieldType.int)) ∈ lw_all := lw_g (lw_at lw_m5 144 rfl) rfl
theorem q1239 : (Jvm.Cond.methodLink "CrumblingWall$Hold" (43 : Nat) ({ cls := "CrumblingWall$Hold", name := "aside", desc := "(LCrumblingWall$Place;)I" } : Jvm.MethodName)) ∈ lw_all := lw_g (lw_at lw_m5 160 rfl) rfl
theorem q1240 : (Jvm.Cond.instanceMethod ({ cls := "CrumblingWall$Hold", name := "aside", desc := "(LCrumblingWall$Place;)I" } : Jvm.MethodName)) ∈ lw_all := lw_g (lw_at lw_m5 161 rfl) rfl
theorem q1241 : (Jvm.Cond.sameMethod "CrumblingWall$Hold" "CrumblingWall$Hold" "aside" "(LCrumblingWall$Place;)I") ∈ lw_all := lw_g (lw_at lw_m5 162 rfl) rfl
theorem q1246 : (Jvm.Cond.code ({ cls := "CrumblingWall$Hold", name := "aside", desc := "(LCrumblingWall$Place;)I" } : Jvm.MethodName) prog_10_method_17_code (3 : Nat) (Option.some Jvm.ClassFile.FieldType.int)) ∈ lw_all := lw_g (lw_at lw_m5 167 rfl) rfl
theorem q1247 : (Jvm.Cond.classLink "CrumblingWall$Hold" (10 : Nat) "CrumblingWall$Hold") ∈ lw_all := lw_g (lw_at lw_m5 168 rfl) rfl
theorem q1248 : (Jvm.Cond.methodLink "CrumblingWall$Hold" (50 : Nat) ({ cls := "CrumblingWall$Place", name := "amount", desc := "(I)I" } : Jvm.MethodName)) ∈ lw_all := lw_g (lw_at lw_m5 169 rfl) rfl
theorem q1251 : (Jvm.Cond.superclass "CrumblingWall$Hold" "java/lang/Object") ∈ lw_all := lw_g (lw_at lw_m5 172 rfl) rfl
theorem q1266 : (Jvm.Cond.instanceMethod ({ cls := "CrumblingWall$Hold", name := "row", desc := "()I" } : Jvm.MethodName)) ∈ lw_all := lw_g (lw_at lw_m5 187 rfl) rfl
theorem q1267 : (Jvm.Cond.publicMethod ({ cls := "CrumblingWall$Hold", name := "row", desc := "()I" } : Jvm.MethodName)) ∈ lw_tbl := lw_at lw_m5 188 rfl
theorem q1268 : (Jvm.Cond.code ({ cls := "CrumblingWall$Hold", name := "row", desc := "()I" } : Jvm.MethodName) prog_10_method_9_code (1 : Nat) (Option.some Jvm.ClassFile.FieldType.int)) ∈ lw_all := lw_g (lw_at lw_m5 189 rfl) rfl
theorem q1328 : (Jvm.Cond.publicMethod ({ cls := "CrumblingWall$Hold", name := "aside", desc := "(LCrumblingWall$Place;)I" } : Jvm.MethodName)) ∈ lw_tbl := lw_at lw_m6 9 rfl
theorem q1359 : (Jvm.Cond.instanceMethod ({ cls := "CrumblingWall$Hold", name := "left", desc := "()I" } : Jvm.MethodName)) ∈ lw_all := lw_g (lw_at lw_m6 40 rfl) rfl
theorem q1360 : (Jvm.Cond.sameMethod "CrumblingWall$Hold" "CrumblingWall$Hold" "left" "()I") ∈ lw_all := lw_g (lw_at lw_m6 41 rfl) rfl
theorem q1365 : (Jvm.Cond.code ({ cls := "CrumblingWall$Hold", name := "left", desc := "()I" } : Jvm.MethodName) prog_10_method_15_code (1 : Nat) (Option.some Jvm.ClassFile.FieldType.int)) ∈ lw_all := lw_g (lw_at lw_m6 46 rfl) rfl
theorem q1366 : (Jvm.Cond.methodLink "CrumblingWall$Hold" (35 : Nat) ({ cls := "CrumblingWall$Hold", name := "hasCrumbled", desc := "()Z" } : Jvm.MethodName)) ∈ lw_all := lw_g (lw_at lw_m6 47 rfl) rfl
theorem q1367 : (Jvm.Cond.instanceMethod ({ cls := "CrumblingWall$Hold", name := "hasCrumbled", desc := "()Z" } : Jvm.MethodName)) ∈ lw_all := lw_g (lw_at lw_m6 48 rfl) rfl
theorem q1368 : (Jvm.Cond.sameMethod "CrumblingWall$Hold" "CrumblingWall$Hold" "hasCrumbled" "()Z") ∈ lw_all := lw_g (lw_at lw_m6 49 rfl) rfl
theorem q1373 : (Jvm.Cond.code ({ cls := "CrumblingWall$Hold", name := "hasCrumbled", desc := "()Z" } : Jvm.MethodName) prog_10_method_14_code (1 : Nat) (Option.some Jvm.ClassFile.FieldType.boolean)) ∈ lw_all := lw_g (lw_at lw_m6 54 rfl) rfl
theorem q1391 : (Jvm.Cond.instanceMethod ({ cls := "CrumblingWall$Hold", name := "copy", desc := "()LCrumblingWall$Hold;" } : Jvm.MethodName)) ∈ lw_all := lw_g (lw_at lw_m6 72 rfl) rfl
theorem q1392 : (Jvm.Cond.sameMethod "CrumblingWall$Hold" "CrumblingWall$Hold" "copy" "()LCrumblingWall$Hold;") ∈ lw_all := lw_g (lw_at lw_m6 73 rfl) rfl
theorem q1397 : (Jvm.Cond.code ({ cls := "CrumblingWall$Hold", name := "copy", desc := "()LCrumblingWall$Hold;" } : Jvm.MethodName) prog_10_method_11_code (2 : Nat) (Option.some (Jvm.ClassFile.FieldType.object "CrumblingWall$Hold"))) ∈ lw_all := lw_g (lw_at lw_m6 78 rfl) rfl
theorem q1398 : (Jvm.Cond.methodLink "CrumblingWall$Hold" (24 : Nat) ({ cls := "CrumblingWall$Hold", name := "anew", desc := "()LCrumblingWall$Hold;" } : Jvm.MethodName)) ∈ lw_all := lw_g (lw_at lw_m6 79 rfl) rfl
theorem q1399 : (Jvm.Cond.declares ({ cls := "CrumblingWall$Hold", name := "anew", desc := "()LCrumblingWall$Hold;" } : Jvm.MethodName)) ∈ lw_tbl := lw_at lw_m6 80 rfl
theorem q1400 : (Jvm.Cond.sameMethod "CrumblingWall$Hold" "CrumblingWall$Hold" "anew" "()LCrumblingWall$Hold;") ∈ lw_all := lw_g (lw_at lw_m6 81 rfl) rfl
theorem q1408 : (Jvm.Cond.declares ({ cls := "CrumblingWall$Hold", name := "number", desc := "()I" } : Jvm.MethodName)) ∈ lw_tbl := lw_at lw_m6 89 rfl
theorem q1412 : (Jvm.Cond.declares ({ cls := "CrumblingWall$Hold", name := "column", desc := "()I" } : Jvm.MethodName)) ∈ lw_tbl := lw_at lw_m6 93 rfl
theorem q1414 : (Jvm.Cond.instanceMethod ({ cls := "CrumblingWall$Hold", name := "column", desc := "()I" } : Jvm.MethodName)) ∈ lw_all := lw_g (lw_at lw_m6 95 rfl) rfl
theorem q1415 : (Jvm.Cond.code ({ cls := "CrumblingWall$Hold", name := "column", desc := "()I" } : Jvm.MethodName) prog_10_method_8_code (1 : Nat) (Option.some Jvm.ClassFile.FieldType.int)) ∈ lw_all := lw_g (lw_at lw_m6 96 rfl) rfl
theorem q1418 : (Jvm.Cond.declares ({ cls := "CrumblingWall$Hold", name := "row", desc := "()I" } : Jvm.MethodName)) ∈ lw_tbl := lw_at lw_m6 99 rfl
theorem q1422 : (Jvm.Cond.declares ({ cls := "CrumblingWall$Hold", name := "strength", desc := "()I" } : Jvm.MethodName)) ∈ lw_tbl := lw_at lw_m6 103 rfl
theorem q1424 : (Jvm.Cond.instanceMethod ({ cls := "CrumblingWall$Hold", name := "strength", desc := "()I" } : Jvm.MethodName)) ∈ lw_all := lw_g (lw_at lw_m6 105 rfl) rfl
theorem q1425 : (Jvm.Cond.code ({ cls := "CrumblingWall$Hold", name := "strength", desc := "()I" } : Jvm.MethodName) prog_10_method_10_code (1 : Nat) (Option.some Jvm.ClassFile.FieldType.int)) ∈ lw_all := lw_g (lw_at lw_m6 106 rfl) rfl
theorem q1430 : (Jvm.Cond.instanceMethod ({ cls := "CrumblingWall$Hold", name := "<init>", desc := "(IIII)V" } : Jvm.MethodName)) ∈ lw_all := lw_g (lw_at lw_m6 111 rfl) rfl
theorem q1431 : (Jvm.Cond.code ({ cls := "CrumblingWall$Hold", name := "<init>", desc := "(IIII)V" } : Jvm.MethodName) prog_10_method_1_code (5 : Nat) (Option.none : Option Jvm.ClassFile.FieldType)) ∈ lw_all := lw_g (lw_at lw_m6 112 rfl) rfl
theorem q1432 : (Jvm.Cond.methodLink "CrumblingWall$Hold" (3 : Nat) ({ cls := "java/lang/Object", name := "<init>", desc := "()V" } : Jvm.MethodName)) ∈ lw_all := lw_g (lw_at lw_m6 113 rfl) rfl
theorem q1433 : (Jvm.Cond.fieldLink "CrumblingWall$Hold" (9 : Nat) "CrumblingWall$Hold" "number" "I") ∈ lw_all := lw_g (lw_at lw_m6 114 rfl) rfl
theorem q1434 : (Jvm.Cond.fieldLink "CrumblingWall$Hold" (15 : Nat) "CrumblingWall$Hold" "column" "I") ∈ lw_all := lw_g (lw_at lw_m6 115 rfl) rfl
theorem q1435 : (Jvm.Cond.fieldLink "CrumblingWall$Hold" (18 : Nat) "CrumblingWall$Hold" "row" "I") ∈ lw_all := lw_g (lw_at lw_m6 116 rfl) rfl
theorem q1436 : (Jvm.Cond.fieldLink "CrumblingWall$Hold" (21 : Nat) "CrumblingWall$Hold" "strength" "I") ∈ lw_all := lw_g (lw_at lw_m6 117 rfl) rfl
theorem q1437 : (Jvm.Cond.fieldLink "CrumblingWall$Hold" (28 : Nat) "CrumblingWall$Hold" "wear" "I") ∈ lw_all := lw_g (lw_at lw_m6 118 rfl) rfl
theorem q1439 : (Jvm.Cond.soleField "CrumblingWall$Hold" "number") ∈ lw_all := lw_g (lw_at lw_m6 120 rfl) rfl
theorem q1441 : (Jvm.Cond.soleField "CrumblingWall$Hold" "column") ∈ lw_all := lw_g (lw_at lw_m6 122 rfl) rfl
theorem q1443 : (Jvm.Cond.soleField "CrumblingWall$Hold" "row") ∈ lw_all := lw_g (lw_at lw_m6 124 rfl) rfl
theorem q1445 : (Jvm.Cond.soleField "CrumblingWall$Hold" "strength") ∈ lw_all := lw_g (lw_at lw_m6 126 rfl) rfl
theorem q1447 : (Jvm.Cond.soleField "CrumblingWall$Hold" "wear") ∈ lw_all := lw_g (lw_at lw_m6 128 rfl) rfl
theorem q1826 : (Jvm.Cond.declares ({ cls := "CrumblingWall$Hold", name := "kind", desc := "()I" } : Jvm.MethodName)) ∈ lw_tbl := lw_at lw_m8 27 rfl
theorem q1827 : (Jvm.Cond.sameMethod "CrumblingWall$Hold" "CrumblingWall$Hold" "kind" "()I") ∈ lw_all := lw_g (lw_at lw_m8 28 rfl) rfl
theorem q1842 : (Jvm.Cond.instanceMethod ({ cls := "CrumblingWall$Hold", name := "wear", desc := "()I" } : Jvm.MethodName)) ∈ lw_all := lw_g (lw_at lw_m8 43 rfl) rfl
theorem q1843 : (Jvm.Cond.sameMethod "CrumblingWall$Hold" "CrumblingWall$Hold" "wear" "()I") ∈ lw_all := lw_g (lw_at lw_m8 44 rfl) rfl
theorem q1848 : (Jvm.Cond.code ({ cls := "CrumblingWall$Hold", name := "wear", desc := "()I" } : Jvm.MethodName) prog_10_method_13_code (1 : Nat) (Option.some Jvm.ClassFile.FieldType.int)) ∈ lw_all := lw_g (lw_at lw_m8 49 rfl) rfl
theorem q1964 : (Jvm.Cond.declares ({ cls := "CrumblingWall$Hold", name := "worn", desc := "()I" } : Jvm.MethodName)) ∈ lw_tbl := lw_at lw_m8 165 rfl
theorem q1965 : (Jvm.Cond.sameMethod "CrumblingWall$Hold" "CrumblingWall$Hold" "worn" "()I") ∈ lw_all := lw_g (lw_at lw_m8 166 rfl) rfl
theorem q1979 : (Jvm.Cond.instanceMethod ({ cls := "CrumblingWall$Hold", name := "wears", desc := "(I)V" } : Jvm.MethodName)) ∈ lw_all := lw_g (lw_at lw_m8 180 rfl) rfl
theorem q1980 : (Jvm.Cond.sameMethod "CrumblingWall$Hold" "CrumblingWall$Hold" "wears" "(I)V") ∈ lw_all := lw_g (lw_at lw_m8 181 rfl) rfl
theorem q1985 : (Jvm.Cond.code ({ cls := "CrumblingWall$Hold", name := "wears", desc := "(I)V" } : Jvm.MethodName) prog_10_method_12_code (2 : Nat) (Option.none : Option Jvm.ClassFile.FieldType)) ∈ lw_all := lw_g (lw_at lw_m8 186 rfl) rfl
theorem q1986 : (Jvm.Cond.methodLink "CrumblingWall$Hold" (31 : Nat) ({ cls := "CrumblingWall$Hold", name := "isWorn", desc := "()Z" } : Jvm.MethodName)) ∈ lw_all := lw_g (lw_at lw_m8 187 rfl) rfl
theorem q1987 : (Jvm.Cond.instanceMethod ({ cls := "CrumblingWall$Hold", name := "isWorn", desc := "()Z" } : Jvm.MethodName)) ∈ lw_all := lw_g (lw_at lw_m8 188 rfl) rfl
theorem q1988 : (Jvm.Cond.sameMethod "CrumblingWall$Hold" "CrumblingWall$Hold" "isWorn" "()Z") ∈ lw_all := lw_g (lw_at lw_m8 189 rfl) rfl
theorem q1995 : (Jvm.Cond.code ({ cls := "CrumblingWall$Hold", name := "isWorn", desc := "()Z" } : Jvm.MethodName) prog_10_method_6_code (1 : Nat) (Option.some Jvm.ClassFile.FieldType.boolean)) ∈ lw_all := lw_g (lw_at lw_m8 196 rfl) rfl
theorem q2169 : (Jvm.Cond.declares ({ cls := "CrumblingWall$Hold", name := "rest", desc := "()I" } : Jvm.MethodName)) ∈ lw_tbl := lw_at lw_m9 130 rfl
theorem q2170 : (Jvm.Cond.sameMethod "CrumblingWall$Hold" "CrumblingWall$Hold" "rest" "()I") ∈ lw_all := lw_g (lw_at lw_m9 131 rfl) rfl
theorem q3511 : (Jvm.Cond.sameMethod "CrumblingWall$Hold" "CrumblingWall$Hold" "number" "()I") ∈ lw_all := lw_g (lw_at lw_m15 32 rfl) rfl
theorem q3517 : (Jvm.Cond.sameMethod "CrumblingWall$Hold" "CrumblingWall$Hold" "column" "()I") ∈ lw_all := lw_g (lw_at lw_m15 38 rfl) rfl
theorem q3522 : (Jvm.Cond.sameMethod "CrumblingWall$Hold" "CrumblingWall$Hold" "row" "()I") ∈ lw_all := lw_g (lw_at lw_m15 43 rfl) rfl
theorem q3527 : (Jvm.Cond.sameMethod "CrumblingWall$Hold" "CrumblingWall$Hold" "strength" "()I") ∈ lw_all := lw_g (lw_at lw_m15 48 rfl) rfl
theorem q3532 : (Jvm.Cond.sameMethod "CrumblingWall$Hold" "CrumblingWall$Hold" "distance" "(LCrumblingWall$Place;)I") ∈ lw_all := lw_g (lw_at lw_m15 53 rfl) rfl
theorem q3559 : (Jvm.Cond.castable "CrumblingWall$Hold" "java/lang/Object") ∈ lw_tbl := lw_at lw_m15 80 rfl
/-! CrumblingWall$Bolt -/
set_option maxRecDepth 100000
def RX8 : String := "CrumblingWall$Bolt"
def TX8 : u_T := fun k => match k with
  | 0 => ("CrumblingWall$Hold", "number", "I", true)
  | 1 => ("CrumblingWall$Hold", "column", "I", true)
  | 2 => ("CrumblingWall$Hold", "row", "I", true)
  | 3 => ("CrumblingWall$Hold", "strength", "I", true)
  | _ => ("CrumblingWall$Hold", "wear", "I", false)
def tyX8 : Nat → FieldType := fun k => match k with
  | 0 => .int
  | 1 => .int
  | 2 => .int
  | 3 => .int
  | _ => .int
abbrev wsX80 : List Cond := u_ws RX8 TX8 5
theorem nmX8 : ∀ a, a < 5 → ∀ b, b < 5 → a ≠ b → (TX8 a).2.1 ≠ (TX8 b).2.1 := by decide +kernel
theorem tyX8_ok : ∀ k, k < 5 → parseFieldDescriptor (TX8 k).2.2.1 = some (tyX8 k) := by decide +kernel
abbrev cX8_anew : ByteArray := prog_2_method_6_code
def yX8_anew : MethodName := ⟨RX8, "anew", "()LCrumblingWall$Hold;"⟩
def dkwX8_anew_0 : List UInt8 := [187, 0, 7, 89, 42, 182, 0, 9, 42, 182, 0, 13, 42, 182, 0, 16, 42, 182, 0, 19, 183, 0, 22, 176]
abbrev dktX8_anew_0 : List UInt8 := dkwX8_anew_0 ++ []
theorem dksX8_anew_0 : cX8_anew.data.toList.drop 0 = dktX8_anew_0 := by decide +kernel
theorem dX8_anew_0 : decode cX8_anew 0 = .ok (.new 7, 3) := dk_187 0 7 (dk_at dksX8_anew_0 0 rfl rfl)
theorem dX8_anew_3 : decode cX8_anew 3 = .ok (.dup, 1) := dk_89 (dk_at dksX8_anew_0 3 rfl rfl)
theorem dX8_anew_4 : decode cX8_anew 4 = .ok (.aload_n 0, 1) := dk_42 (dk_at dksX8_anew_0 4 rfl rfl)
theorem dX8_anew_5 : decode cX8_anew 5 = .ok (.invokevirtual 9, 3) := dk_182 0 9 (dk_at dksX8_anew_0 5 rfl rfl)
theorem dX8_anew_8 : decode cX8_anew 8 = .ok (.aload_n 0, 1) := dk_42 (dk_at dksX8_anew_0 8 rfl rfl)
theorem dX8_anew_9 : decode cX8_anew 9 = .ok (.invokevirtual 13, 3) := dk_182 0 13 (dk_at dksX8_anew_0 9 rfl rfl)
theorem dX8_anew_12 : decode cX8_anew 12 = .ok (.aload_n 0, 1) := dk_42 (dk_at dksX8_anew_0 12 rfl rfl)
theorem dX8_anew_13 : decode cX8_anew 13 = .ok (.invokevirtual 16, 3) := dk_182 0 16 (dk_at dksX8_anew_0 13 rfl rfl)
theorem dX8_anew_16 : decode cX8_anew 16 = .ok (.aload_n 0, 1) := dk_42 (dk_at dksX8_anew_0 16 rfl rfl)
theorem dX8_anew_17 : decode cX8_anew 17 = .ok (.invokevirtual 19, 3) := dk_182 0 19 (dk_at dksX8_anew_0 17 rfl rfl)
theorem dX8_anew_20 : decode cX8_anew 20 = .ok (.invokespecial 22, 3) := dk_183 0 22 (dk_at dksX8_anew_0 20 rfl rfl)
theorem dX8_anew_23 : decode cX8_anew 23 = .ok (.areturn, 1) := dk_176 (dk_at dksX8_anew_0 23 rfl rfl)
abbrev cX8_init : ByteArray := prog_2_method_1_code
def yX8_init : MethodName := ⟨RX8, "<init>", "(IIII)V"⟩
def dkwX8_init_0 : List UInt8 := [42, 27, 28, 29, 21, 4, 183, 0, 1, 177]
abbrev dktX8_init_0 : List UInt8 := dkwX8_init_0 ++ []
theorem dksX8_init_0 : cX8_init.data.toList.drop 0 = dktX8_init_0 := by decide +kernel
theorem dX8_init_0 : decode cX8_init 0 = .ok (.aload_n 0, 1) := dk_42 (dk_at dksX8_init_0 0 rfl rfl)
theorem dX8_init_1 : decode cX8_init 1 = .ok (.iload_n 1, 1) := dk_27 (dk_at dksX8_init_0 1 rfl rfl)
theorem dX8_init_2 : decode cX8_init 2 = .ok (.iload_n 2, 1) := dk_28 (dk_at dksX8_init_0 2 rfl rfl)
theorem dX8_init_3 : decode cX8_init 3 = .ok (.iload_n 3, 1) := dk_29 (dk_at dksX8_init_0 3 rfl rfl)
theorem dX8_init_4 : decode cX8_init 4 = .ok (.iload 4, 2) := dk_21 4 (dk_at dksX8_init_0 4 rfl rfl)
theorem dX8_init_6 : decode cX8_init 6 = .ok (.invokespecial 1, 3) := dk_183 0 1 (dk_at dksX8_init_0 6 rfl rfl)
theorem dX8_init_9 : decode cX8_init 9 = .ok (.return_, 1) := dk_177 (dk_at dksX8_init_0 9 rfl rfl)
abbrev cX8_kind : ByteArray := prog_2_method_2_code
def yX8_kind : MethodName := ⟨RX8, "kind", "()I"⟩
theorem dX8_kind_0 : decode cX8_kind 0 = .ok (.iconst 3, 1) := by decide +kernel
theorem dX8_kind_1 : decode cX8_kind 1 = .ok (.ireturn, 1) := by decide +kernel
abbrev cX8_worn : ByteArray := prog_2_method_3_code
def yX8_worn : MethodName := ⟨RX8, "worn", "()I"⟩
theorem dX8_worn_0 : decode cX8_worn 0 = .ok (.iconst 0, 1) := by decide +kernel
theorem dX8_worn_1 : decode cX8_worn 1 = .ok (.ireturn, 1) := by decide +kernel
abbrev cX8_isWorn : ByteArray := prog_2_method_5_code
def yX8_isWorn : MethodName := ⟨RX8, "isWorn", "()Z"⟩
theorem dX8_isWorn_0 : decode cX8_isWorn 0 = .ok (.iconst 0, 1) := by decide +kernel
theorem dX8_isWorn_1 : decode cX8_isWorn 1 = .ok (.ireturn, 1) := by decide +kernel
abbrev cX8_rest : ByteArray := prog_2_method_4_code
def yX8_rest : MethodName := ⟨RX8, "rest", "()I"⟩
theorem dX8_rest_0 : decode cX8_rest 0 = .ok (.iconst 3, 1) := by decide +kernel
theorem dX8_rest_1 : decode cX8_rest 1 = .ok (.ireturn, 1) := by decide +kernel
theorem q158 : (Jvm.Cond.initialized "CrumblingWall$Bolt") ∈ lw_all := lw_g (lw_at lw_m1 39 rfl) rfl
theorem q1078 : (Jvm.Cond.selects "CrumblingWall$Bolt" ({ cls := "java/lang/Object", name := "getClass", desc := "()Ljava/lang/Class;" } : Jvm.MethodName) ({ cls := "java/lang/Object", name := "getClass", desc := "()Ljava/lang/Class;" } : Jvm.MethodName)) ∈ lw_all := lw_g (lw_at lw_m4 239 rfl) rfl
theorem q1209 : (Jvm.Cond.castable "CrumblingWall$Bolt" "CrumblingWall$Place") ∈ lw_tbl := lw_at lw_m5 130 rfl
theorem q1210 : (Jvm.Cond.selects "CrumblingWall$Bolt" ({ cls := "CrumblingWall$Place", name := "distance", desc := "(LCrumblingWall$Place;)I" } : Jvm.MethodName) ({ cls := "CrumblingWall$Hold", name := "distance", desc := "(LCrumblingWall$Place;)I" } : Jvm.MethodName)) ∈ lw_all := lw_g (lw_at lw_m5 131 rfl) rfl
theorem q1211 : (Jvm.Cond.unhidden "CrumblingWall$Bolt" "distance" "(LCrumblingWall$Place;)I") ∈ lw_tbl := lw_at lw_m5 132 rfl
theorem q1219 : (Jvm.Cond.selects "CrumblingWall$Bolt" ({ cls := "CrumblingWall$Place", name := "number", desc := "()I" } : Jvm.MethodName) ({ cls := "CrumblingWall$Hold", name := "number", desc := "()I" } : Jvm.MethodName)) ∈ lw_all := lw_g (lw_at lw_m5 140 rfl) rfl
theorem q1220 : (Jvm.Cond.unhidden "CrumblingWall$Bolt" "number" "()I") ∈ lw_tbl := lw_at lw_m5 141 rfl
theorem q1242 : (Jvm.Cond.selects "CrumblingWall$Bolt" ({ cls := "CrumblingWall$Hold", name := "aside", desc := "(LCrumblingWall$Place;)I" } : Jvm.MethodName) ({ cls := "CrumblingWall$Hold", name := "aside", desc := "(LCrumblingWall$Place;)I" } : Jvm.MethodName)) ∈ lw_all := lw_g (lw_at lw_m5 163 rfl) rfl
theorem q1253 : (Jvm.Cond.unhidden "CrumblingWall$Bolt" "upOrDown" "(LCrumblingWall$Place;)I") ∈ lw_tbl := lw_at lw_m5 174 rfl
theorem q1264 : (Jvm.Cond.selects "CrumblingWall$Bolt" ({ cls := "CrumblingWall$Place", name := "row", desc := "()I" } : Jvm.MethodName) ({ cls := "CrumblingWall$Hold", name := "row", desc := "()I" } : Jvm.MethodName)) ∈ lw_all := lw_g (lw_at lw_m5 185 rfl) rfl
theorem q1265 : (Jvm.Cond.unhidden "CrumblingWall$Bolt" "row" "()I") ∈ lw_tbl := lw_at lw_m5 186 rfl
theorem q1326 : (Jvm.Cond.selects "CrumblingWall$Bolt" ({ cls := "CrumblingWall$Place", name := "aside", desc := "(LCrumblingWall$Place;)I" } : Jvm.MethodName) ({ cls := "CrumblingWall$Hold", name := "aside", desc := "(LCrumblingWall$Place;)I" } : Jvm.MethodName)) ∈ lw_all := lw_g (lw_at lw_m6 7 rfl) rfl
theorem q1327 : (Jvm.Cond.unhidden "CrumblingWall$Bolt" "aside" "(LCrumblingWall$Place;)I") ∈ lw_tbl := lw_at lw_m6 8 rfl
theorem q1361 : (Jvm.Cond.selects "CrumblingWall$Bolt" ({ cls := "CrumblingWall$Hold", name := "left", desc := "()I" } : Jvm.MethodName) ({ cls := "CrumblingWall$Hold", name := "left", desc := "()I" } : Jvm.MethodName)) ∈ lw_all := lw_g (lw_at lw_m6 42 rfl) rfl
theorem q1369 : (Jvm.Cond.selects "CrumblingWall$Bolt" ({ cls := "CrumblingWall$Hold", name := "hasCrumbled", desc := "()Z" } : Jvm.MethodName) ({ cls := "CrumblingWall$Hold", name := "hasCrumbled", desc := "()Z" } : Jvm.MethodName)) ∈ lw_all := lw_g (lw_at lw_m6 50 rfl) rfl
theorem q1393 : (Jvm.Cond.selects "CrumblingWall$Bolt" ({ cls := "CrumblingWall$Hold", name := "copy", desc := "()LCrumblingWall$Hold;" } : Jvm.MethodName) ({ cls := "CrumblingWall$Hold", name := "copy", desc := "()LCrumblingWall$Hold;" } : Jvm.MethodName)) ∈ lw_all := lw_g (lw_at lw_m6 74 rfl) rfl
theorem q1401 : (Jvm.Cond.selects "CrumblingWall$Bolt" ({ cls := "CrumblingWall$Hold", name := "anew", desc := "()LCrumblingWall$Hold;" } : Jvm.MethodName) ({ cls := "CrumblingWall$Bolt", name := "anew", desc := "()LCrumblingWall$Hold;" } : Jvm.MethodName)) ∈ lw_all := lw_g (lw_at lw_m6 82 rfl) rfl
theorem q1402 : (Jvm.Cond.instanceMethod ({ cls := "CrumblingWall$Bolt", name := "anew", desc := "()LCrumblingWall$Hold;" } : Jvm.MethodName)) ∈ lw_all := lw_g (lw_at lw_m6 83 rfl) rfl
theorem q1403 : (Jvm.Cond.code ({ cls := "CrumblingWall$Bolt", name := "anew", desc := "()LCrumblingWall$Hold;" } : Jvm.MethodName) prog_2_method_6_code (1 : Nat) (Option.some (Jvm.ClassFile.FieldType.object "CrumblingWall$Hold"))) ∈ lw_all := lw_g (lw_at lw_m6 84 rfl) rfl
theorem q1404 : (Jvm.Cond.classLink "CrumblingWall$Bolt" (7 : Nat) "CrumblingWall$Bolt") ∈ lw_all := lw_g (lw_at lw_m6 85 rfl) rfl
theorem q1405 : (Jvm.Cond.instantiable "CrumblingWall$Bolt" (5 : Nat)) ∈ lw_all := lw_g (lw_at lw_m6 86 rfl) rfl
theorem q1406 : (Jvm.Cond.methodLink "CrumblingWall$Bolt" (9 : Nat) ({ cls := "CrumblingWall$Bolt", name := "number", desc := "()I" } : Jvm.MethodName)) ∈ lw_all := lw_g (lw_at lw_m6 87 rfl) rfl
theorem q1407 : (Jvm.Cond.sameMethod "CrumblingWall$Bolt" "CrumblingWall$Hold" "number" "()I") ∈ lw_all := lw_g (lw_at lw_m6 88 rfl) rfl
theorem q1409 : (Jvm.Cond.selects "CrumblingWall$Bolt" ({ cls := "CrumblingWall$Bolt", name := "number", desc := "()I" } : Jvm.MethodName) ({ cls := "CrumblingWall$Hold", name := "number", desc := "()I" } : Jvm.MethodName)) ∈ lw_all := lw_g (lw_at lw_m6 90 rfl) rfl
theorem q1410 : (Jvm.Cond.methodLink "CrumblingWall$Bolt" (13 : Nat) ({ cls := "CrumblingWall$Bolt", name := "column", desc := "()I" } : Jvm.MethodName)) ∈ lw_all := lw_g (lw_at lw_m6 91 rfl) rfl
theorem q1411 : (Jvm.Cond.sameMethod "CrumblingWall$Bolt" "CrumblingWall$Hold" "column" "()I") ∈ lw_all := lw_g (lw_at lw_m6 92 rfl) rfl
theorem q1413 : (Jvm.Cond.selects "CrumblingWall$Bolt" ({ cls := "CrumblingWall$Bolt", name := "column", desc := "()I" } : Jvm.MethodName) ({ cls := "CrumblingWall$Hold", name := "column", desc := "()I" } : Jvm.MethodName)) ∈ lw_all := lw_g (lw_at lw_m6 94 rfl) rfl
theorem q1416 : (Jvm.Cond.methodLink "CrumblingWall$Bolt" (16 : Nat) ({ cls := "CrumblingWall$Bolt", name := "row", desc := "()I" } : Jvm.MethodName)) ∈ lw_all := lw_g (lw_at lw_m6 97 rfl) rfl
theorem q1417 : (Jvm.Cond.sameMethod "CrumblingWall$Bolt" "CrumblingWall$Hold" "row" "()I") ∈ lw_all := lw_g (lw_at lw_m6 98 rfl) rfl
theorem q1419 : (Jvm.Cond.selects "CrumblingWall$Bolt" ({ cls := "CrumblingWall$Bolt", name := "row", desc := "()I" } : Jvm.MethodName) ({ cls := "CrumblingWall$Hold", name := "row", desc := "()I" } : Jvm.MethodName)) ∈ lw_all := lw_g (lw_at lw_m6 100 rfl) rfl
theorem q1420 : (Jvm.Cond.methodLink "CrumblingWall$Bolt" (19 : Nat) ({ cls := "CrumblingWall$Bolt", name := "strength", desc := "()I" } : Jvm.MethodName)) ∈ lw_all := lw_g (lw_at lw_m6 101 rfl) rfl
theorem q1421 : (Jvm.Cond.sameMethod "CrumblingWall$Bolt" "CrumblingWall$Hold" "strength" "()I") ∈ lw_all := lw_g (lw_at lw_m6 102 rfl) rfl
theorem q1423 : (Jvm.Cond.selects "CrumblingWall$Bolt" ({ cls := "CrumblingWall$Bolt", name := "strength", desc := "()I" } : Jvm.MethodName) ({ cls := "CrumblingWall$Hold", name := "strength", desc := "()I" } : Jvm.MethodName)) ∈ lw_all := lw_g (lw_at lw_m6 104 rfl) rfl
theorem q1426 : (Jvm.Cond.methodLink "CrumblingWall$Bolt" (22 : Nat) ({ cls := "CrumblingWall$Bolt", name := "<init>", desc := "(IIII)V" } : Jvm.MethodName)) ∈ lw_all := lw_g (lw_at lw_m6 107 rfl) rfl
theorem q1427 : (Jvm.Cond.instanceMethod ({ cls := "CrumblingWall$Bolt", name := "<init>", desc := "(IIII)V" } : Jvm.MethodName)) ∈ lw_all := lw_g (lw_at lw_m6 108 rfl) rfl
theorem q1428 : (Jvm.Cond.code ({ cls := "CrumblingWall$Bolt", name := "<init>", desc := "(IIII)V" } : Jvm.MethodName) prog_2_method_1_code (5 : Nat) (Option.none : Option Jvm.ClassFile.FieldType)) ∈ lw_all := lw_g (lw_at lw_m6 109 rfl) rfl
theorem q1429 : (Jvm.Cond.methodLink "CrumblingWall$Bolt" (1 : Nat) ({ cls := "CrumblingWall$Hold", name := "<init>", desc := "(IIII)V" } : Jvm.MethodName)) ∈ lw_all := lw_g (lw_at lw_m6 110 rfl) rfl
theorem q1438 : (Jvm.Cond.laysFinal "CrumblingWall$Bolt" "CrumblingWall$Hold" "number" "I") ∈ lw_all := lw_g (lw_at lw_m6 119 rfl) rfl
theorem q1440 : (Jvm.Cond.laysFinal "CrumblingWall$Bolt" "CrumblingWall$Hold" "column" "I") ∈ lw_all := lw_g (lw_at lw_m6 121 rfl) rfl
theorem q1442 : (Jvm.Cond.laysFinal "CrumblingWall$Bolt" "CrumblingWall$Hold" "row" "I") ∈ lw_all := lw_g (lw_at lw_m6 123 rfl) rfl
theorem q1444 : (Jvm.Cond.laysFinal "CrumblingWall$Bolt" "CrumblingWall$Hold" "strength" "I") ∈ lw_all := lw_g (lw_at lw_m6 125 rfl) rfl
theorem q1446 : (Jvm.Cond.lays "CrumblingWall$Bolt" "CrumblingWall$Hold" "wear" "I") ∈ lw_all := lw_g (lw_at lw_m6 127 rfl) rfl
theorem q1448 : (Jvm.Cond.superclass "CrumblingWall$Bolt" "CrumblingWall$Hold") ∈ lw_all := lw_g (lw_at lw_m6 129 rfl) rfl
theorem q1828 : (Jvm.Cond.selects "CrumblingWall$Bolt" ({ cls := "CrumblingWall$Hold", name := "kind", desc := "()I" } : Jvm.MethodName) ({ cls := "CrumblingWall$Bolt", name := "kind", desc := "()I" } : Jvm.MethodName)) ∈ lw_all := lw_g (lw_at lw_m8 29 rfl) rfl
theorem q1829 : (Jvm.Cond.instanceMethod ({ cls := "CrumblingWall$Bolt", name := "kind", desc := "()I" } : Jvm.MethodName)) ∈ lw_all := lw_g (lw_at lw_m8 30 rfl) rfl
theorem q1830 : (Jvm.Cond.code ({ cls := "CrumblingWall$Bolt", name := "kind", desc := "()I" } : Jvm.MethodName) prog_2_method_2_code (1 : Nat) (Option.some Jvm.ClassFile.FieldType.int)) ∈ lw_all := lw_g (lw_at lw_m8 31 rfl) rfl
theorem q1844 : (Jvm.Cond.selects "CrumblingWall$Bolt" ({ cls := "CrumblingWall$Hold", name := "wear", desc := "()I" } : Jvm.MethodName) ({ cls := "CrumblingWall$Hold", name := "wear", desc := "()I" } : Jvm.MethodName)) ∈ lw_all := lw_g (lw_at lw_m8 45 rfl) rfl
theorem q1966 : (Jvm.Cond.selects "CrumblingWall$Bolt" ({ cls := "CrumblingWall$Hold", name := "worn", desc := "()I" } : Jvm.MethodName) ({ cls := "CrumblingWall$Bolt", name := "worn", desc := "()I" } : Jvm.MethodName)) ∈ lw_all := lw_g (lw_at lw_m8 167 rfl) rfl
theorem q1967 : (Jvm.Cond.instanceMethod ({ cls := "CrumblingWall$Bolt", name := "worn", desc := "()I" } : Jvm.MethodName)) ∈ lw_all := lw_g (lw_at lw_m8 168 rfl) rfl
theorem q1968 : (Jvm.Cond.code ({ cls := "CrumblingWall$Bolt", name := "worn", desc := "()I" } : Jvm.MethodName) prog_2_method_3_code (1 : Nat) (Option.some Jvm.ClassFile.FieldType.int)) ∈ lw_all := lw_g (lw_at lw_m8 169 rfl) rfl
theorem q1981 : (Jvm.Cond.selects "CrumblingWall$Bolt" ({ cls := "CrumblingWall$Hold", name := "wears", desc := "(I)V" } : Jvm.MethodName) ({ cls := "CrumblingWall$Hold", name := "wears", desc := "(I)V" } : Jvm.MethodName)) ∈ lw_all := lw_g (lw_at lw_m8 182 rfl) rfl
theorem q1989 : (Jvm.Cond.selects "CrumblingWall$Bolt" ({ cls := "CrumblingWall$Hold", name := "isWorn", desc := "()Z" } : Jvm.MethodName) ({ cls := "CrumblingWall$Bolt", name := "isWorn", desc := "()Z" } : Jvm.MethodName)) ∈ lw_all := lw_g (lw_at lw_m8 190 rfl) rfl
theorem q1990 : (Jvm.Cond.instanceMethod ({ cls := "CrumblingWall$Bolt", name := "isWorn", desc := "()Z" } : Jvm.MethodName)) ∈ lw_all := lw_g (lw_at lw_m8 191 rfl) rfl
theorem q1991 : (Jvm.Cond.code ({ cls := "CrumblingWall$Bolt", name := "isWorn", desc := "()Z" } : Jvm.MethodName) prog_2_method_5_code (1 : Nat) (Option.some Jvm.ClassFile.FieldType.boolean)) ∈ lw_all := lw_g (lw_at lw_m8 192 rfl) rfl
theorem q2171 : (Jvm.Cond.selects "CrumblingWall$Bolt" ({ cls := "CrumblingWall$Hold", name := "rest", desc := "()I" } : Jvm.MethodName) ({ cls := "CrumblingWall$Bolt", name := "rest", desc := "()I" } : Jvm.MethodName)) ∈ lw_all := lw_g (lw_at lw_m9 132 rfl) rfl
theorem q2172 : (Jvm.Cond.instanceMethod ({ cls := "CrumblingWall$Bolt", name := "rest", desc := "()I" } : Jvm.MethodName)) ∈ lw_all := lw_g (lw_at lw_m9 133 rfl) rfl
theorem q2173 : (Jvm.Cond.code ({ cls := "CrumblingWall$Bolt", name := "rest", desc := "()I" } : Jvm.MethodName) prog_2_method_4_code (1 : Nat) (Option.some Jvm.ClassFile.FieldType.int)) ∈ lw_all := lw_g (lw_at lw_m9 134 rfl) rfl
theorem q3512 : (Jvm.Cond.selects "CrumblingWall$Bolt" ({ cls := "CrumblingWall$Hold", name := "number", desc := "()I" } : Jvm.MethodName) ({ cls := "CrumblingWall$Hold", name := "number", desc := "()I" } : Jvm.MethodName)) ∈ lw_all := lw_g (lw_at lw_m15 33 rfl) rfl
theorem q3518 : (Jvm.Cond.selects "CrumblingWall$Bolt" ({ cls := "CrumblingWall$Hold", name := "column", desc := "()I" } : Jvm.MethodName) ({ cls := "CrumblingWall$Hold", name := "column", desc := "()I" } : Jvm.MethodName)) ∈ lw_all := lw_g (lw_at lw_m15 39 rfl) rfl
theorem q3523 : (Jvm.Cond.selects "CrumblingWall$Bolt" ({ cls := "CrumblingWall$Hold", name := "row", desc := "()I" } : Jvm.MethodName) ({ cls := "CrumblingWall$Hold", name := "row", desc := "()I" } : Jvm.MethodName)) ∈ lw_all := lw_g (lw_at lw_m15 44 rfl) rfl
theorem q3528 : (Jvm.Cond.selects "CrumblingWall$Bolt" ({ cls := "CrumblingWall$Hold", name := "strength", desc := "()I" } : Jvm.MethodName) ({ cls := "CrumblingWall$Hold", name := "strength", desc := "()I" } : Jvm.MethodName)) ∈ lw_all := lw_g (lw_at lw_m15 49 rfl) rfl
theorem q3533 : (Jvm.Cond.selects "CrumblingWall$Bolt" ({ cls := "CrumblingWall$Hold", name := "distance", desc := "(LCrumblingWall$Place;)I" } : Jvm.MethodName) ({ cls := "CrumblingWall$Hold", name := "distance", desc := "(LCrumblingWall$Place;)I" } : Jvm.MethodName)) ∈ lw_all := lw_g (lw_at lw_m15 54 rfl) rfl
theorem q3551 : (Jvm.Cond.castable "CrumblingWall$Bolt" "CrumblingWall$Hold") ∈ lw_tbl := lw_at lw_m15 72 rfl
theorem q3563 : (Jvm.Cond.castable "CrumblingWall$Bolt" "java/lang/Object") ∈ lw_tbl := lw_at lw_m15 84 rfl
theorem in_X8 : ∀ w ∈ wsX80, w ∈ lw_all := lw_in wsX80 [1438, 1440, 1442, 1444, 1446] (by decide +kernel) (by decide +kernel)
/-! CrumblingWall$Edge -/
set_option maxRecDepth 100000
def RX9 : String := "CrumblingWall$Edge"
def TX9 : u_T := fun k => match k with
  | 0 => ("CrumblingWall$Hold", "number", "I", true)
  | 1 => ("CrumblingWall$Hold", "column", "I", true)
  | 2 => ("CrumblingWall$Hold", "row", "I", true)
  | 3 => ("CrumblingWall$Hold", "strength", "I", true)
  | _ => ("CrumblingWall$Hold", "wear", "I", false)
def tyX9 : Nat → FieldType := fun k => match k with
  | 0 => .int
  | 1 => .int
  | 2 => .int
  | 3 => .int
  | _ => .int
abbrev wsX90 : List Cond := u_ws RX9 TX9 5
theorem nmX9 : ∀ a, a < 5 → ∀ b, b < 5 → a ≠ b → (TX9 a).2.1 ≠ (TX9 b).2.1 := by decide +kernel
theorem tyX9_ok : ∀ k, k < 5 → parseFieldDescriptor (TX9 k).2.2.1 = some (tyX9 k) := by decide +kernel
abbrev cX9_anew : ByteArray := prog_7_method_5_code
def yX9_anew : MethodName := ⟨RX9, "anew", "()LCrumblingWall$Hold;"⟩
def dkwX9_anew_0 : List UInt8 := [187, 0, 7, 89, 42, 182, 0, 9, 42, 182, 0, 13, 42, 182, 0, 16, 42, 182, 0, 19, 183, 0, 22, 176]
abbrev dktX9_anew_0 : List UInt8 := dkwX9_anew_0 ++ []
theorem dksX9_anew_0 : cX9_anew.data.toList.drop 0 = dktX9_anew_0 := by decide +kernel
theorem dX9_anew_0 : decode cX9_anew 0 = .ok (.new 7, 3) := dk_187 0 7 (dk_at dksX9_anew_0 0 rfl rfl)
theorem dX9_anew_3 : decode cX9_anew 3 = .ok (.dup, 1) := dk_89 (dk_at dksX9_anew_0 3 rfl rfl)
theorem dX9_anew_4 : decode cX9_anew 4 = .ok (.aload_n 0, 1) := dk_42 (dk_at dksX9_anew_0 4 rfl rfl)
theorem dX9_anew_5 : decode cX9_anew 5 = .ok (.invokevirtual 9, 3) := dk_182 0 9 (dk_at dksX9_anew_0 5 rfl rfl)
theorem dX9_anew_8 : decode cX9_anew 8 = .ok (.aload_n 0, 1) := dk_42 (dk_at dksX9_anew_0 8 rfl rfl)
theorem dX9_anew_9 : decode cX9_anew 9 = .ok (.invokevirtual 13, 3) := dk_182 0 13 (dk_at dksX9_anew_0 9 rfl rfl)
theorem dX9_anew_12 : decode cX9_anew 12 = .ok (.aload_n 0, 1) := dk_42 (dk_at dksX9_anew_0 12 rfl rfl)
theorem dX9_anew_13 : decode cX9_anew 13 = .ok (.invokevirtual 16, 3) := dk_182 0 16 (dk_at dksX9_anew_0 13 rfl rfl)
theorem dX9_anew_16 : decode cX9_anew 16 = .ok (.aload_n 0, 1) := dk_42 (dk_at dksX9_anew_0 16 rfl rfl)
theorem dX9_anew_17 : decode cX9_anew 17 = .ok (.invokevirtual 19, 3) := dk_182 0 19 (dk_at dksX9_anew_0 17 rfl rfl)
theorem dX9_anew_20 : decode cX9_anew 20 = .ok (.invokespecial 22, 3) := dk_183 0 22 (dk_at dksX9_anew_0 20 rfl rfl)
theorem dX9_anew_23 : decode cX9_anew 23 = .ok (.areturn, 1) := dk_176 (dk_at dksX9_anew_0 23 rfl rfl)
abbrev cX9_init : ByteArray := prog_7_method_1_code
def yX9_init : MethodName := ⟨RX9, "<init>", "(IIII)V"⟩
def dkwX9_init_0 : List UInt8 := [42, 27, 28, 29, 21, 4, 183, 0, 1, 177]
abbrev dktX9_init_0 : List UInt8 := dkwX9_init_0 ++ []
theorem dksX9_init_0 : cX9_init.data.toList.drop 0 = dktX9_init_0 := by decide +kernel
theorem dX9_init_0 : decode cX9_init 0 = .ok (.aload_n 0, 1) := dk_42 (dk_at dksX9_init_0 0 rfl rfl)
theorem dX9_init_1 : decode cX9_init 1 = .ok (.iload_n 1, 1) := dk_27 (dk_at dksX9_init_0 1 rfl rfl)
theorem dX9_init_2 : decode cX9_init 2 = .ok (.iload_n 2, 1) := dk_28 (dk_at dksX9_init_0 2 rfl rfl)
theorem dX9_init_3 : decode cX9_init 3 = .ok (.iload_n 3, 1) := dk_29 (dk_at dksX9_init_0 3 rfl rfl)
theorem dX9_init_4 : decode cX9_init 4 = .ok (.iload 4, 2) := dk_21 4 (dk_at dksX9_init_0 4 rfl rfl)
theorem dX9_init_6 : decode cX9_init 6 = .ok (.invokespecial 1, 3) := dk_183 0 1 (dk_at dksX9_init_0 6 rfl rfl)
theorem dX9_init_9 : decode cX9_init 9 = .ok (.return_, 1) := dk_177 (dk_at dksX9_init_0 9 rfl rfl)
abbrev cX9_kind : ByteArray := prog_7_method_2_code
def yX9_kind : MethodName := ⟨RX9, "kind", "()I"⟩
theorem dX9_kind_0 : decode cX9_kind 0 = .ok (.iconst 0, 1) := by decide +kernel
theorem dX9_kind_1 : decode cX9_kind 1 = .ok (.ireturn, 1) := by decide +kernel
abbrev cX9_worn : ByteArray := prog_7_method_3_code
def yX9_worn : MethodName := ⟨RX9, "worn", "()I"⟩
theorem dX9_worn_0 : decode cX9_worn 0 = .ok (.iconst 1, 1) := by decide +kernel
theorem dX9_worn_1 : decode cX9_worn 1 = .ok (.ireturn, 1) := by decide +kernel
abbrev cX9_rest : ByteArray := prog_7_method_4_code
def yX9_rest : MethodName := ⟨RX9, "rest", "()I"⟩
theorem dX9_rest_0 : decode cX9_rest 0 = .ok (.iconst 2, 1) := by decide +kernel
theorem dX9_rest_1 : decode cX9_rest 1 = .ok (.ireturn, 1) := by decide +kernel
theorem q159 : (Jvm.Cond.initialized "CrumblingWall$Edge") ∈ lw_all := lw_g (lw_at lw_m1 40 rfl) rfl
theorem q1082 : (Jvm.Cond.selects "CrumblingWall$Edge" ({ cls := "java/lang/Object", name := "getClass", desc := "()Ljava/lang/Class;" } : Jvm.MethodName) ({ cls := "java/lang/Object", name := "getClass", desc := "()Ljava/lang/Class;" } : Jvm.MethodName)) ∈ lw_all := lw_g (lw_at lw_m5 3 rfl) rfl
theorem q1224 : (Jvm.Cond.castable "CrumblingWall$Edge" "CrumblingWall$Place") ∈ lw_tbl := lw_at lw_m5 145 rfl
theorem q1225 : (Jvm.Cond.selects "CrumblingWall$Edge" ({ cls := "CrumblingWall$Place", name := "number", desc := "()I" } : Jvm.MethodName) ({ cls := "CrumblingWall$Hold", name := "number", desc := "()I" } : Jvm.MethodName)) ∈ lw_all := lw_g (lw_at lw_m5 146 rfl) rfl
theorem q1226 : (Jvm.Cond.unhidden "CrumblingWall$Edge" "number" "()I") ∈ lw_tbl := lw_at lw_m5 147 rfl
theorem q1243 : (Jvm.Cond.selects "CrumblingWall$Edge" ({ cls := "CrumblingWall$Hold", name := "aside", desc := "(LCrumblingWall$Place;)I" } : Jvm.MethodName) ({ cls := "CrumblingWall$Hold", name := "aside", desc := "(LCrumblingWall$Place;)I" } : Jvm.MethodName)) ∈ lw_all := lw_g (lw_at lw_m5 164 rfl) rfl
theorem q1254 : (Jvm.Cond.unhidden "CrumblingWall$Edge" "upOrDown" "(LCrumblingWall$Place;)I") ∈ lw_tbl := lw_at lw_m5 175 rfl
theorem q1269 : (Jvm.Cond.selects "CrumblingWall$Edge" ({ cls := "CrumblingWall$Place", name := "row", desc := "()I" } : Jvm.MethodName) ({ cls := "CrumblingWall$Hold", name := "row", desc := "()I" } : Jvm.MethodName)) ∈ lw_all := lw_g (lw_at lw_m5 190 rfl) rfl
theorem q1270 : (Jvm.Cond.unhidden "CrumblingWall$Edge" "row" "()I") ∈ lw_tbl := lw_at lw_m5 191 rfl
theorem q1281 : (Jvm.Cond.selects "CrumblingWall$Edge" ({ cls := "CrumblingWall$Place", name := "distance", desc := "(LCrumblingWall$Place;)I" } : Jvm.MethodName) ({ cls := "CrumblingWall$Hold", name := "distance", desc := "(LCrumblingWall$Place;)I" } : Jvm.MethodName)) ∈ lw_all := lw_g (lw_at lw_m5 202 rfl) rfl
theorem q1282 : (Jvm.Cond.unhidden "CrumblingWall$Edge" "distance" "(LCrumblingWall$Place;)I") ∈ lw_tbl := lw_at lw_m5 203 rfl
theorem q1329 : (Jvm.Cond.selects "CrumblingWall$Edge" ({ cls := "CrumblingWall$Place", name := "aside", desc := "(LCrumblingWall$Place;)I" } : Jvm.MethodName) ({ cls := "CrumblingWall$Hold", name := "aside", desc := "(LCrumblingWall$Place;)I" } : Jvm.MethodName)) ∈ lw_all := lw_g (lw_at lw_m6 10 rfl) rfl
theorem q1330 : (Jvm.Cond.unhidden "CrumblingWall$Edge" "aside" "(LCrumblingWall$Place;)I") ∈ lw_tbl := lw_at lw_m6 11 rfl
theorem q1362 : (Jvm.Cond.selects "CrumblingWall$Edge" ({ cls := "CrumblingWall$Hold", name := "left", desc := "()I" } : Jvm.MethodName) ({ cls := "CrumblingWall$Hold", name := "left", desc := "()I" } : Jvm.MethodName)) ∈ lw_all := lw_g (lw_at lw_m6 43 rfl) rfl
theorem q1370 : (Jvm.Cond.selects "CrumblingWall$Edge" ({ cls := "CrumblingWall$Hold", name := "hasCrumbled", desc := "()Z" } : Jvm.MethodName) ({ cls := "CrumblingWall$Hold", name := "hasCrumbled", desc := "()Z" } : Jvm.MethodName)) ∈ lw_all := lw_g (lw_at lw_m6 51 rfl) rfl
theorem q1394 : (Jvm.Cond.selects "CrumblingWall$Edge" ({ cls := "CrumblingWall$Hold", name := "copy", desc := "()LCrumblingWall$Hold;" } : Jvm.MethodName) ({ cls := "CrumblingWall$Hold", name := "copy", desc := "()LCrumblingWall$Hold;" } : Jvm.MethodName)) ∈ lw_all := lw_g (lw_at lw_m6 75 rfl) rfl
theorem q1449 : (Jvm.Cond.selects "CrumblingWall$Edge" ({ cls := "CrumblingWall$Hold", name := "anew", desc := "()LCrumblingWall$Hold;" } : Jvm.MethodName) ({ cls := "CrumblingWall$Edge", name := "anew", desc := "()LCrumblingWall$Hold;" } : Jvm.MethodName)) ∈ lw_all := lw_g (lw_at lw_m6 130 rfl) rfl
theorem q1450 : (Jvm.Cond.instanceMethod ({ cls := "CrumblingWall$Edge", name := "anew", desc := "()LCrumblingWall$Hold;" } : Jvm.MethodName)) ∈ lw_all := lw_g (lw_at lw_m6 131 rfl) rfl
theorem q1451 : (Jvm.Cond.code ({ cls := "CrumblingWall$Edge", name := "anew", desc := "()LCrumblingWall$Hold;" } : Jvm.MethodName) prog_7_method_5_code (1 : Nat) (Option.some (Jvm.ClassFile.FieldType.object "CrumblingWall$Hold"))) ∈ lw_all := lw_g (lw_at lw_m6 132 rfl) rfl
theorem q1452 : (Jvm.Cond.classLink "CrumblingWall$Edge" (7 : Nat) "CrumblingWall$Edge") ∈ lw_all := lw_g (lw_at lw_m6 133 rfl) rfl
theorem q1453 : (Jvm.Cond.instantiable "CrumblingWall$Edge" (5 : Nat)) ∈ lw_all := lw_g (lw_at lw_m6 134 rfl) rfl
theorem q1454 : (Jvm.Cond.methodLink "CrumblingWall$Edge" (9 : Nat) ({ cls := "CrumblingWall$Edge", name := "number", desc := "()I" } : Jvm.MethodName)) ∈ lw_all := lw_g (lw_at lw_m6 135 rfl) rfl
theorem q1455 : (Jvm.Cond.sameMethod "CrumblingWall$Edge" "CrumblingWall$Hold" "number" "()I") ∈ lw_all := lw_g (lw_at lw_m6 136 rfl) rfl
theorem q1456 : (Jvm.Cond.selects "CrumblingWall$Edge" ({ cls := "CrumblingWall$Edge", name := "number", desc := "()I" } : Jvm.MethodName) ({ cls := "CrumblingWall$Hold", name := "number", desc := "()I" } : Jvm.MethodName)) ∈ lw_all := lw_g (lw_at lw_m6 137 rfl) rfl
theorem q1457 : (Jvm.Cond.methodLink "CrumblingWall$Edge" (13 : Nat) ({ cls := "CrumblingWall$Edge", name := "column", desc := "()I" } : Jvm.MethodName)) ∈ lw_all := lw_g (lw_at lw_m6 138 rfl) rfl
theorem q1458 : (Jvm.Cond.sameMethod "CrumblingWall$Edge" "CrumblingWall$Hold" "column" "()I") ∈ lw_all := lw_g (lw_at lw_m6 139 rfl) rfl
theorem q1459 : (Jvm.Cond.selects "CrumblingWall$Edge" ({ cls := "CrumblingWall$Edge", name := "column", desc := "()I" } : Jvm.MethodName) ({ cls := "CrumblingWall$Hold", name := "column", desc := "()I" } : Jvm.MethodName)) ∈ lw_all := lw_g (lw_at lw_m6 140 rfl) rfl
theorem q1460 : (Jvm.Cond.methodLink "CrumblingWall$Edge" (16 : Nat) ({ cls := "CrumblingWall$Edge", name := "row", desc := "()I" } : Jvm.MethodName)) ∈ lw_all := lw_g (lw_at lw_m6 141 rfl) rfl
theorem q1461 : (Jvm.Cond.sameMethod "CrumblingWall$Edge" "CrumblingWall$Hold" "row" "()I") ∈ lw_all := lw_g (lw_at lw_m6 142 rfl) rfl
theorem q1462 : (Jvm.Cond.selects "CrumblingWall$Edge" ({ cls := "CrumblingWall$Edge", name := "row", desc := "()I" } : Jvm.MethodName) ({ cls := "CrumblingWall$Hold", name := "row", desc := "()I" } : Jvm.MethodName)) ∈ lw_all := lw_g (lw_at lw_m6 143 rfl) rfl
theorem q1463 : (Jvm.Cond.methodLink "CrumblingWall$Edge" (19 : Nat) ({ cls := "CrumblingWall$Edge", name := "strength", desc := "()I" } : Jvm.MethodName)) ∈ lw_all := lw_g (lw_at lw_m6 144 rfl) rfl
theorem q1464 : (Jvm.Cond.sameMethod "CrumblingWall$Edge" "CrumblingWall$Hold" "strength" "()I") ∈ lw_all := lw_g (lw_at lw_m6 145 rfl) rfl
theorem q1465 : (Jvm.Cond.selects "CrumblingWall$Edge" ({ cls := "CrumblingWall$Edge", name := "strength", desc := "()I" } : Jvm.MethodName) ({ cls := "CrumblingWall$Hold", name := "strength", desc := "()I" } : Jvm.MethodName)) ∈ lw_all := lw_g (lw_at lw_m6 146 rfl) rfl
theorem q1466 : (Jvm.Cond.methodLink "CrumblingWall$Edge" (22 : Nat) ({ cls := "CrumblingWall$Edge", name := "<init>", desc := "(IIII)V" } : Jvm.MethodName)) ∈ lw_all := lw_g (lw_at lw_m6 147 rfl) rfl
theorem q1467 : (Jvm.Cond.instanceMethod ({ cls := "CrumblingWall$Edge", name := "<init>", desc := "(IIII)V" } : Jvm.MethodName)) ∈ lw_all := lw_g (lw_at lw_m6 148 rfl) rfl
theorem q1468 : (Jvm.Cond.code ({ cls := "CrumblingWall$Edge", name := "<init>", desc := "(IIII)V" } : Jvm.MethodName) prog_7_method_1_code (5 : Nat) (Option.none : Option Jvm.ClassFile.FieldType)) ∈ lw_all := lw_g (lw_at lw_m6 149 rfl) rfl
theorem q1469 : (Jvm.Cond.methodLink "CrumblingWall$Edge" (1 : Nat) ({ cls := "CrumblingWall$Hold", name := "<init>", desc := "(IIII)V" } : Jvm.MethodName)) ∈ lw_all := lw_g (lw_at lw_m6 150 rfl) rfl
theorem q1470 : (Jvm.Cond.laysFinal "CrumblingWall$Edge" "CrumblingWall$Hold" "number" "I") ∈ lw_all := lw_g (lw_at lw_m6 151 rfl) rfl
theorem q1471 : (Jvm.Cond.laysFinal "CrumblingWall$Edge" "CrumblingWall$Hold" "column" "I") ∈ lw_all := lw_g (lw_at lw_m6 152 rfl) rfl
theorem q1472 : (Jvm.Cond.laysFinal "CrumblingWall$Edge" "CrumblingWall$Hold" "row" "I") ∈ lw_all := lw_g (lw_at lw_m6 153 rfl) rfl
theorem q1473 : (Jvm.Cond.laysFinal "CrumblingWall$Edge" "CrumblingWall$Hold" "strength" "I") ∈ lw_all := lw_g (lw_at lw_m6 154 rfl) rfl
theorem q1474 : (Jvm.Cond.lays "CrumblingWall$Edge" "CrumblingWall$Hold" "wear" "I") ∈ lw_all := lw_g (lw_at lw_m6 155 rfl) rfl
theorem q1475 : (Jvm.Cond.superclass "CrumblingWall$Edge" "CrumblingWall$Hold") ∈ lw_all := lw_g (lw_at lw_m6 156 rfl) rfl
theorem q1831 : (Jvm.Cond.selects "CrumblingWall$Edge" ({ cls := "CrumblingWall$Hold", name := "kind", desc := "()I" } : Jvm.MethodName) ({ cls := "CrumblingWall$Edge", name := "kind", desc := "()I" } : Jvm.MethodName)) ∈ lw_all := lw_g (lw_at lw_m8 32 rfl) rfl
theorem q1832 : (Jvm.Cond.instanceMethod ({ cls := "CrumblingWall$Edge", name := "kind", desc := "()I" } : Jvm.MethodName)) ∈ lw_all := lw_g (lw_at lw_m8 33 rfl) rfl
theorem q1833 : (Jvm.Cond.code ({ cls := "CrumblingWall$Edge", name := "kind", desc := "()I" } : Jvm.MethodName) prog_7_method_2_code (1 : Nat) (Option.some Jvm.ClassFile.FieldType.int)) ∈ lw_all := lw_g (lw_at lw_m8 34 rfl) rfl
theorem q1845 : (Jvm.Cond.selects "CrumblingWall$Edge" ({ cls := "CrumblingWall$Hold", name := "wear", desc := "()I" } : Jvm.MethodName) ({ cls := "CrumblingWall$Hold", name := "wear", desc := "()I" } : Jvm.MethodName)) ∈ lw_all := lw_g (lw_at lw_m8 46 rfl) rfl
theorem q1969 : (Jvm.Cond.selects "CrumblingWall$Edge" ({ cls := "CrumblingWall$Hold", name := "worn", desc := "()I" } : Jvm.MethodName) ({ cls := "CrumblingWall$Edge", name := "worn", desc := "()I" } : Jvm.MethodName)) ∈ lw_all := lw_g (lw_at lw_m8 170 rfl) rfl
theorem q1970 : (Jvm.Cond.instanceMethod ({ cls := "CrumblingWall$Edge", name := "worn", desc := "()I" } : Jvm.MethodName)) ∈ lw_all := lw_g (lw_at lw_m8 171 rfl) rfl
theorem q1971 : (Jvm.Cond.code ({ cls := "CrumblingWall$Edge", name := "worn", desc := "()I" } : Jvm.MethodName) prog_7_method_3_code (1 : Nat) (Option.some Jvm.ClassFile.FieldType.int)) ∈ lw_all := lw_g (lw_at lw_m8 172 rfl) rfl
theorem q1982 : (Jvm.Cond.selects "CrumblingWall$Edge" ({ cls := "CrumblingWall$Hold", name := "wears", desc := "(I)V" } : Jvm.MethodName) ({ cls := "CrumblingWall$Hold", name := "wears", desc := "(I)V" } : Jvm.MethodName)) ∈ lw_all := lw_g (lw_at lw_m8 183 rfl) rfl
theorem q1992 : (Jvm.Cond.selects "CrumblingWall$Edge" ({ cls := "CrumblingWall$Hold", name := "isWorn", desc := "()Z" } : Jvm.MethodName) ({ cls := "CrumblingWall$Hold", name := "isWorn", desc := "()Z" } : Jvm.MethodName)) ∈ lw_all := lw_g (lw_at lw_m8 193 rfl) rfl
theorem q2174 : (Jvm.Cond.selects "CrumblingWall$Edge" ({ cls := "CrumblingWall$Hold", name := "rest", desc := "()I" } : Jvm.MethodName) ({ cls := "CrumblingWall$Edge", name := "rest", desc := "()I" } : Jvm.MethodName)) ∈ lw_all := lw_g (lw_at lw_m9 135 rfl) rfl
theorem q2175 : (Jvm.Cond.instanceMethod ({ cls := "CrumblingWall$Edge", name := "rest", desc := "()I" } : Jvm.MethodName)) ∈ lw_all := lw_g (lw_at lw_m9 136 rfl) rfl
theorem q2176 : (Jvm.Cond.code ({ cls := "CrumblingWall$Edge", name := "rest", desc := "()I" } : Jvm.MethodName) prog_7_method_4_code (1 : Nat) (Option.some Jvm.ClassFile.FieldType.int)) ∈ lw_all := lw_g (lw_at lw_m9 137 rfl) rfl
theorem q3513 : (Jvm.Cond.selects "CrumblingWall$Edge" ({ cls := "CrumblingWall$Hold", name := "number", desc := "()I" } : Jvm.MethodName) ({ cls := "CrumblingWall$Hold", name := "number", desc := "()I" } : Jvm.MethodName)) ∈ lw_all := lw_g (lw_at lw_m15 34 rfl) rfl
theorem q3519 : (Jvm.Cond.selects "CrumblingWall$Edge" ({ cls := "CrumblingWall$Hold", name := "column", desc := "()I" } : Jvm.MethodName) ({ cls := "CrumblingWall$Hold", name := "column", desc := "()I" } : Jvm.MethodName)) ∈ lw_all := lw_g (lw_at lw_m15 40 rfl) rfl
theorem q3524 : (Jvm.Cond.selects "CrumblingWall$Edge" ({ cls := "CrumblingWall$Hold", name := "row", desc := "()I" } : Jvm.MethodName) ({ cls := "CrumblingWall$Hold", name := "row", desc := "()I" } : Jvm.MethodName)) ∈ lw_all := lw_g (lw_at lw_m15 45 rfl) rfl
theorem q3529 : (Jvm.Cond.selects "CrumblingWall$Edge" ({ cls := "CrumblingWall$Hold", name := "strength", desc := "()I" } : Jvm.MethodName) ({ cls := "CrumblingWall$Hold", name := "strength", desc := "()I" } : Jvm.MethodName)) ∈ lw_all := lw_g (lw_at lw_m15 50 rfl) rfl
theorem q3534 : (Jvm.Cond.selects "CrumblingWall$Edge" ({ cls := "CrumblingWall$Hold", name := "distance", desc := "(LCrumblingWall$Place;)I" } : Jvm.MethodName) ({ cls := "CrumblingWall$Hold", name := "distance", desc := "(LCrumblingWall$Place;)I" } : Jvm.MethodName)) ∈ lw_all := lw_g (lw_at lw_m15 55 rfl) rfl
theorem q3552 : (Jvm.Cond.castable "CrumblingWall$Edge" "CrumblingWall$Hold") ∈ lw_tbl := lw_at lw_m15 73 rfl
theorem q3560 : (Jvm.Cond.castable "CrumblingWall$Edge" "java/lang/Object") ∈ lw_tbl := lw_at lw_m15 81 rfl
theorem in_X9 : ∀ w ∈ wsX90, w ∈ lw_all := lw_in wsX90 [1470, 1471, 1472, 1473, 1474] (by decide +kernel) (by decide +kernel)
/-! CrumblingWall$Flake -/
set_option maxRecDepth 100000
def RX10 : String := "CrumblingWall$Flake"
def TX10 : u_T := fun k => match k with
  | 0 => ("CrumblingWall$Hold", "number", "I", true)
  | 1 => ("CrumblingWall$Hold", "column", "I", true)
  | 2 => ("CrumblingWall$Hold", "row", "I", true)
  | 3 => ("CrumblingWall$Hold", "strength", "I", true)
  | _ => ("CrumblingWall$Hold", "wear", "I", false)
def tyX10 : Nat → FieldType := fun k => match k with
  | 0 => .int
  | 1 => .int
  | 2 => .int
  | 3 => .int
  | _ => .int
abbrev wsX100 : List Cond := u_ws RX10 TX10 5
theorem nmX10 : ∀ a, a < 5 → ∀ b, b < 5 → a ≠ b → (TX10 a).2.1 ≠ (TX10 b).2.1 := by decide +kernel
theorem tyX10_ok : ∀ k, k < 5 → parseFieldDescriptor (TX10 k).2.2.1 = some (tyX10 k) := by decide +kernel
abbrev cX10_anew : ByteArray := prog_8_method_5_code
def yX10_anew : MethodName := ⟨RX10, "anew", "()LCrumblingWall$Hold;"⟩
def dkwX10_anew_0 : List UInt8 := [187, 0, 7, 89, 42, 182, 0, 9, 42, 182, 0, 13, 42, 182, 0, 16, 42, 182, 0, 19, 183, 0, 22, 176]
abbrev dktX10_anew_0 : List UInt8 := dkwX10_anew_0 ++ []
theorem dksX10_anew_0 : cX10_anew.data.toList.drop 0 = dktX10_anew_0 := by decide +kernel
theorem dX10_anew_0 : decode cX10_anew 0 = .ok (.new 7, 3) := dk_187 0 7 (dk_at dksX10_anew_0 0 rfl rfl)
theorem dX10_anew_3 : decode cX10_anew 3 = .ok (.dup, 1) := dk_89 (dk_at dksX10_anew_0 3 rfl rfl)
theorem dX10_anew_4 : decode cX10_anew 4 = .ok (.aload_n 0, 1) := dk_42 (dk_at dksX10_anew_0 4 rfl rfl)
theorem dX10_anew_5 : decode cX10_anew 5 = .ok (.invokevirtual 9, 3) := dk_182 0 9 (dk_at dksX10_anew_0 5 rfl rfl)
theorem dX10_anew_8 : decode cX10_anew 8 = .ok (.aload_n 0, 1) := dk_42 (dk_at dksX10_anew_0 8 rfl rfl)
theorem dX10_anew_9 : decode cX10_anew 9 = .ok (.invokevirtual 13, 3) := dk_182 0 13 (dk_at dksX10_anew_0 9 rfl rfl)
theorem dX10_anew_12 : decode cX10_anew 12 = .ok (.aload_n 0, 1) := dk_42 (dk_at dksX10_anew_0 12 rfl rfl)
theorem dX10_anew_13 : decode cX10_anew 13 = .ok (.invokevirtual 16, 3) := dk_182 0 16 (dk_at dksX10_anew_0 13 rfl rfl)
theorem dX10_anew_16 : decode cX10_anew 16 = .ok (.aload_n 0, 1) := dk_42 (dk_at dksX10_anew_0 16 rfl rfl)
theorem dX10_anew_17 : decode cX10_anew 17 = .ok (.invokevirtual 19, 3) := dk_182 0 19 (dk_at dksX10_anew_0 17 rfl rfl)
theorem dX10_anew_20 : decode cX10_anew 20 = .ok (.invokespecial 22, 3) := dk_183 0 22 (dk_at dksX10_anew_0 20 rfl rfl)
theorem dX10_anew_23 : decode cX10_anew 23 = .ok (.areturn, 1) := dk_176 (dk_at dksX10_anew_0 23 rfl rfl)
abbrev cX10_init : ByteArray := prog_8_method_1_code
def yX10_init : MethodName := ⟨RX10, "<init>", "(IIII)V"⟩
def dkwX10_init_0 : List UInt8 := [42, 27, 28, 29, 21, 4, 183, 0, 1, 177]
abbrev dktX10_init_0 : List UInt8 := dkwX10_init_0 ++ []
theorem dksX10_init_0 : cX10_init.data.toList.drop 0 = dktX10_init_0 := by decide +kernel
theorem dX10_init_0 : decode cX10_init 0 = .ok (.aload_n 0, 1) := dk_42 (dk_at dksX10_init_0 0 rfl rfl)
theorem dX10_init_1 : decode cX10_init 1 = .ok (.iload_n 1, 1) := dk_27 (dk_at dksX10_init_0 1 rfl rfl)
theorem dX10_init_2 : decode cX10_init 2 = .ok (.iload_n 2, 1) := dk_28 (dk_at dksX10_init_0 2 rfl rfl)
theorem dX10_init_3 : decode cX10_init 3 = .ok (.iload_n 3, 1) := dk_29 (dk_at dksX10_init_0 3 rfl rfl)
theorem dX10_init_4 : decode cX10_init 4 = .ok (.iload 4, 2) := dk_21 4 (dk_at dksX10_init_0 4 rfl rfl)
theorem dX10_init_6 : decode cX10_init 6 = .ok (.invokespecial 1, 3) := dk_183 0 1 (dk_at dksX10_init_0 6 rfl rfl)
theorem dX10_init_9 : decode cX10_init 9 = .ok (.return_, 1) := dk_177 (dk_at dksX10_init_0 9 rfl rfl)
abbrev cX10_kind : ByteArray := prog_8_method_2_code
def yX10_kind : MethodName := ⟨RX10, "kind", "()I"⟩
theorem dX10_kind_0 : decode cX10_kind 0 = .ok (.iconst 2, 1) := by decide +kernel
theorem dX10_kind_1 : decode cX10_kind 1 = .ok (.ireturn, 1) := by decide +kernel
abbrev cX10_worn : ByteArray := prog_8_method_3_code
def yX10_worn : MethodName := ⟨RX10, "worn", "()I"⟩
theorem dX10_worn_0 : decode cX10_worn 0 = .ok (.iconst 2, 1) := by decide +kernel
theorem dX10_worn_1 : decode cX10_worn 1 = .ok (.ireturn, 1) := by decide +kernel
abbrev cX10_rest : ByteArray := prog_8_method_4_code
def yX10_rest : MethodName := ⟨RX10, "rest", "()I"⟩
theorem dX10_rest_0 : decode cX10_rest 0 = .ok (.iconst 1, 1) := by decide +kernel
theorem dX10_rest_1 : decode cX10_rest 1 = .ok (.ireturn, 1) := by decide +kernel
theorem q160 : (Jvm.Cond.initialized "CrumblingWall$Flake") ∈ lw_all := lw_g (lw_at lw_m1 41 rfl) rfl
theorem q1083 : (Jvm.Cond.selects "CrumblingWall$Flake" ({ cls := "java/lang/Object", name := "getClass", desc := "()Ljava/lang/Class;" } : Jvm.MethodName) ({ cls := "java/lang/Object", name := "getClass", desc := "()Ljava/lang/Class;" } : Jvm.MethodName)) ∈ lw_all := lw_g (lw_at lw_m5 4 rfl) rfl
theorem q1227 : (Jvm.Cond.castable "CrumblingWall$Flake" "CrumblingWall$Place") ∈ lw_tbl := lw_at lw_m5 148 rfl
theorem q1228 : (Jvm.Cond.selects "CrumblingWall$Flake" ({ cls := "CrumblingWall$Place", name := "number", desc := "()I" } : Jvm.MethodName) ({ cls := "CrumblingWall$Hold", name := "number", desc := "()I" } : Jvm.MethodName)) ∈ lw_all := lw_g (lw_at lw_m5 149 rfl) rfl
theorem q1229 : (Jvm.Cond.unhidden "CrumblingWall$Flake" "number" "()I") ∈ lw_tbl := lw_at lw_m5 150 rfl
theorem q1244 : (Jvm.Cond.selects "CrumblingWall$Flake" ({ cls := "CrumblingWall$Hold", name := "aside", desc := "(LCrumblingWall$Place;)I" } : Jvm.MethodName) ({ cls := "CrumblingWall$Hold", name := "aside", desc := "(LCrumblingWall$Place;)I" } : Jvm.MethodName)) ∈ lw_all := lw_g (lw_at lw_m5 165 rfl) rfl
theorem q1255 : (Jvm.Cond.unhidden "CrumblingWall$Flake" "upOrDown" "(LCrumblingWall$Place;)I") ∈ lw_tbl := lw_at lw_m5 176 rfl
theorem q1271 : (Jvm.Cond.selects "CrumblingWall$Flake" ({ cls := "CrumblingWall$Place", name := "row", desc := "()I" } : Jvm.MethodName) ({ cls := "CrumblingWall$Hold", name := "row", desc := "()I" } : Jvm.MethodName)) ∈ lw_all := lw_g (lw_at lw_m5 192 rfl) rfl
theorem q1272 : (Jvm.Cond.unhidden "CrumblingWall$Flake" "row" "()I") ∈ lw_tbl := lw_at lw_m5 193 rfl
theorem q1283 : (Jvm.Cond.selects "CrumblingWall$Flake" ({ cls := "CrumblingWall$Place", name := "distance", desc := "(LCrumblingWall$Place;)I" } : Jvm.MethodName) ({ cls := "CrumblingWall$Hold", name := "distance", desc := "(LCrumblingWall$Place;)I" } : Jvm.MethodName)) ∈ lw_all := lw_g (lw_at lw_m5 204 rfl) rfl
theorem q1284 : (Jvm.Cond.unhidden "CrumblingWall$Flake" "distance" "(LCrumblingWall$Place;)I") ∈ lw_tbl := lw_at lw_m5 205 rfl
theorem q1331 : (Jvm.Cond.selects "CrumblingWall$Flake" ({ cls := "CrumblingWall$Place", name := "aside", desc := "(LCrumblingWall$Place;)I" } : Jvm.MethodName) ({ cls := "CrumblingWall$Hold", name := "aside", desc := "(LCrumblingWall$Place;)I" } : Jvm.MethodName)) ∈ lw_all := lw_g (lw_at lw_m6 12 rfl) rfl
theorem q1332 : (Jvm.Cond.unhidden "CrumblingWall$Flake" "aside" "(LCrumblingWall$Place;)I") ∈ lw_tbl := lw_at lw_m6 13 rfl
theorem q1363 : (Jvm.Cond.selects "CrumblingWall$Flake" ({ cls := "CrumblingWall$Hold", name := "left", desc := "()I" } : Jvm.MethodName) ({ cls := "CrumblingWall$Hold", name := "left", desc := "()I" } : Jvm.MethodName)) ∈ lw_all := lw_g (lw_at lw_m6 44 rfl) rfl
theorem q1371 : (Jvm.Cond.selects "CrumblingWall$Flake" ({ cls := "CrumblingWall$Hold", name := "hasCrumbled", desc := "()Z" } : Jvm.MethodName) ({ cls := "CrumblingWall$Hold", name := "hasCrumbled", desc := "()Z" } : Jvm.MethodName)) ∈ lw_all := lw_g (lw_at lw_m6 52 rfl) rfl
theorem q1395 : (Jvm.Cond.selects "CrumblingWall$Flake" ({ cls := "CrumblingWall$Hold", name := "copy", desc := "()LCrumblingWall$Hold;" } : Jvm.MethodName) ({ cls := "CrumblingWall$Hold", name := "copy", desc := "()LCrumblingWall$Hold;" } : Jvm.MethodName)) ∈ lw_all := lw_g (lw_at lw_m6 76 rfl) rfl
theorem q1476 : (Jvm.Cond.selects "CrumblingWall$Flake" ({ cls := "CrumblingWall$Hold", name := "anew", desc := "()LCrumblingWall$Hold;" } : Jvm.MethodName) ({ cls := "CrumblingWall$Flake", name := "anew", desc := "()LCrumblingWall$Hold;" } : Jvm.MethodName)) ∈ lw_all := lw_g (lw_at lw_m6 157 rfl) rfl
theorem q1477 : (Jvm.Cond.instanceMethod ({ cls := "CrumblingWall$Flake", name := "anew", desc := "()LCrumblingWall$Hold;" } : Jvm.MethodName)) ∈ lw_all := lw_g (lw_at lw_m6 158 rfl) rfl
theorem q1478 : (Jvm.Cond.code ({ cls := "CrumblingWall$Flake", name := "anew", desc := "()LCrumblingWall$Hold;" } : Jvm.MethodName) prog_8_method_5_code (1 : Nat) (Option.some (Jvm.ClassFile.FieldType.object "CrumblingWall$Hold"))) ∈ lw_all := lw_g (lw_at lw_m6 159 rfl) rfl
theorem q1479 : (Jvm.Cond.classLink "CrumblingWall$Flake" (7 : Nat) "CrumblingWall$Flake") ∈ lw_all := lw_g (lw_at lw_m6 160 rfl) rfl
theorem q1480 : (Jvm.Cond.instantiable "CrumblingWall$Flake" (5 : Nat)) ∈ lw_all := lw_g (lw_at lw_m6 161 rfl) rfl
theorem q1481 : (Jvm.Cond.methodLink "CrumblingWall$Flake" (9 : Nat) ({ cls := "CrumblingWall$Flake", name := "number", desc := "()I" } : Jvm.MethodName)) ∈ lw_all := lw_g (lw_at lw_m6 162 rfl) rfl
theorem q1482 : (Jvm.Cond.sameMethod "CrumblingWall$Flake" "CrumblingWall$Hold" "number" "()I") ∈ lw_all := lw_g (lw_at lw_m6 163 rfl) rfl
theorem q1483 : (Jvm.Cond.selects "CrumblingWall$Flake" ({ cls := "CrumblingWall$Flake", name := "number", desc := "()I" } : Jvm.MethodName) ({ cls := "CrumblingWall$Hold", name := "number", desc := "()I" } : Jvm.MethodName)) ∈ lw_all := lw_g (lw_at lw_m6 164 rfl) rfl
theorem q1484 : (Jvm.Cond.methodLink "CrumblingWall$Flake" (13 : Nat) ({ cls := "CrumblingWall$Flake", name := "column", desc := "()I" } : Jvm.MethodName)) ∈ lw_all := lw_g (lw_at lw_m6 165 rfl) rfl
theorem q1485 : (Jvm.Cond.sameMethod "CrumblingWall$Flake" "CrumblingWall$Hold" "column" "()I") ∈ lw_all := lw_g (lw_at lw_m6 166 rfl) rfl
theorem q1486 : (Jvm.Cond.selects "CrumblingWall$Flake" ({ cls := "CrumblingWall$Flake", name := "column", desc := "()I" } : Jvm.MethodName) ({ cls := "CrumblingWall$Hold", name := "column", desc := "()I" } : Jvm.MethodName)) ∈ lw_all := lw_g (lw_at lw_m6 167 rfl) rfl
theorem q1487 : (Jvm.Cond.methodLink "CrumblingWall$Flake" (16 : Nat) ({ cls := "CrumblingWall$Flake", name := "row", desc := "()I" } : Jvm.MethodName)) ∈ lw_all := lw_g (lw_at lw_m6 168 rfl) rfl
theorem q1488 : (Jvm.Cond.sameMethod "CrumblingWall$Flake" "CrumblingWall$Hold" "row" "()I") ∈ lw_all := lw_g (lw_at lw_m6 169 rfl) rfl
theorem q1489 : (Jvm.Cond.selects "CrumblingWall$Flake" ({ cls := "CrumblingWall$Flake", name := "row", desc := "()I" } : Jvm.MethodName) ({ cls := "CrumblingWall$Hold", name := "row", desc := "()I" } : Jvm.MethodName)) ∈ lw_all := lw_g (lw_at lw_m6 170 rfl) rfl
theorem q1490 : (Jvm.Cond.methodLink "CrumblingWall$Flake" (19 : Nat) ({ cls := "CrumblingWall$Flake", name := "strength", desc := "()I" } : Jvm.MethodName)) ∈ lw_all := lw_g (lw_at lw_m6 171 rfl) rfl
theorem q1491 : (Jvm.Cond.sameMethod "CrumblingWall$Flake" "CrumblingWall$Hold" "strength" "()I") ∈ lw_all := lw_g (lw_at lw_m6 172 rfl) rfl
theorem q1492 : (Jvm.Cond.selects "CrumblingWall$Flake" ({ cls := "CrumblingWall$Flake", name := "strength", desc := "()I" } : Jvm.MethodName) ({ cls := "CrumblingWall$Hold", name := "strength", desc := "()I" } : Jvm.MethodName)) ∈ lw_all := lw_g (lw_at lw_m6 173 rfl) rfl
theorem q1493 : (Jvm.Cond.methodLink "CrumblingWall$Flake" (22 : Nat) ({ cls := "CrumblingWall$Flake", name := "<init>", desc := "(IIII)V" } : Jvm.MethodName)) ∈ lw_all := lw_g (lw_at lw_m6 174 rfl) rfl
theorem q1494 : (Jvm.Cond.instanceMethod ({ cls := "CrumblingWall$Flake", name := "<init>", desc := "(IIII)V" } : Jvm.MethodName)) ∈ lw_all := lw_g (lw_at lw_m6 175 rfl) rfl
theorem q1495 : (Jvm.Cond.code ({ cls := "CrumblingWall$Flake", name := "<init>", desc := "(IIII)V" } : Jvm.MethodName) prog_8_method_1_code (5 : Nat) (Option.none : Option Jvm.ClassFile.FieldType)) ∈ lw_all := lw_g (lw_at lw_m6 176 rfl) rfl
theorem q1496 : (Jvm.Cond.methodLink "CrumblingWall$Flake" (1 : Nat) ({ cls := "CrumblingWall$Hold", name := "<init>", desc := "(IIII)V" } : Jvm.MethodName)) ∈ lw_all := lw_g (lw_at lw_m6 177 rfl) rfl
theorem q1497 : (Jvm.Cond.laysFinal "CrumblingWall$Flake" "CrumblingWall$Hold" "number" "I") ∈ lw_all := lw_g (lw_at lw_m6 178 rfl) rfl
theorem q1498 : (Jvm.Cond.laysFinal "CrumblingWall$Flake" "CrumblingWall$Hold" "column" "I") ∈ lw_all := lw_g (lw_at lw_m6 179 rfl) rfl
theorem q1499 : (Jvm.Cond.laysFinal "CrumblingWall$Flake" "CrumblingWall$Hold" "row" "I") ∈ lw_all := lw_g (lw_at lw_m6 180 rfl) rfl
theorem q1500 : (Jvm.Cond.laysFinal "CrumblingWall$Flake" "CrumblingWall$Hold" "strength" "I") ∈ lw_all := lw_g (lw_at lw_m6 181 rfl) rfl
theorem q1501 : (Jvm.Cond.lays "CrumblingWall$Flake" "CrumblingWall$Hold" "wear" "I") ∈ lw_all := lw_g (lw_at lw_m6 182 rfl) rfl
theorem q1502 : (Jvm.Cond.superclass "CrumblingWall$Flake" "CrumblingWall$Hold") ∈ lw_all := lw_g (lw_at lw_m6 183 rfl) rfl
theorem q1834 : (Jvm.Cond.selects "CrumblingWall$Flake" ({ cls := "CrumblingWall$Hold", name := "kind", desc := "()I" } : Jvm.MethodName) ({ cls := "CrumblingWall$Flake", name := "kind", desc := "()I" } : Jvm.MethodName)) ∈ lw_all := lw_g (lw_at lw_m8 35 rfl) rfl
theorem q1835 : (Jvm.Cond.instanceMethod ({ cls := "CrumblingWall$Flake", name := "kind", desc := "()I" } : Jvm.MethodName)) ∈ lw_all := lw_g (lw_at lw_m8 36 rfl) rfl
theorem q1836 : (Jvm.Cond.code ({ cls := "CrumblingWall$Flake", name := "kind", desc := "()I" } : Jvm.MethodName) prog_8_method_2_code (1 : Nat) (Option.some Jvm.ClassFile.FieldType.int)) ∈ lw_all := lw_g (lw_at lw_m8 37 rfl) rfl
theorem q1846 : (Jvm.Cond.selects "CrumblingWall$Flake" ({ cls := "CrumblingWall$Hold", name := "wear", desc := "()I" } : Jvm.MethodName) ({ cls := "CrumblingWall$Hold", name := "wear", desc := "()I" } : Jvm.MethodName)) ∈ lw_all := lw_g (lw_at lw_m8 47 rfl) rfl
theorem q1972 : (Jvm.Cond.selects "CrumblingWall$Flake" ({ cls := "CrumblingWall$Hold", name := "worn", desc := "()I" } : Jvm.MethodName) ({ cls := "CrumblingWall$Flake", name := "worn", desc := "()I" } : Jvm.MethodName)) ∈ lw_all := lw_g (lw_at lw_m8 173 rfl) rfl
theorem q1973 : (Jvm.Cond.instanceMethod ({ cls := "CrumblingWall$Flake", name := "worn", desc := "()I" } : Jvm.MethodName)) ∈ lw_all := lw_g (lw_at lw_m8 174 rfl) rfl
theorem q1974 : (Jvm.Cond.code ({ cls := "CrumblingWall$Flake", name := "worn", desc := "()I" } : Jvm.MethodName) prog_8_method_3_code (1 : Nat) (Option.some Jvm.ClassFile.FieldType.int)) ∈ lw_all := lw_g (lw_at lw_m8 175 rfl) rfl
theorem q1983 : (Jvm.Cond.selects "CrumblingWall$Flake" ({ cls := "CrumblingWall$Hold", name := "wears", desc := "(I)V" } : Jvm.MethodName) ({ cls := "CrumblingWall$Hold", name := "wears", desc := "(I)V" } : Jvm.MethodName)) ∈ lw_all := lw_g (lw_at lw_m8 184 rfl) rfl
theorem q1993 : (Jvm.Cond.selects "CrumblingWall$Flake" ({ cls := "CrumblingWall$Hold", name := "isWorn", desc := "()Z" } : Jvm.MethodName) ({ cls := "CrumblingWall$Hold", name := "isWorn", desc := "()Z" } : Jvm.MethodName)) ∈ lw_all := lw_g (lw_at lw_m8 194 rfl) rfl
theorem q2177 : (Jvm.Cond.selects "CrumblingWall$Flake" ({ cls := "CrumblingWall$Hold", name := "rest", desc := "()I" } : Jvm.MethodName) ({ cls := "CrumblingWall$Flake", name := "rest", desc := "()I" } : Jvm.MethodName)) ∈ lw_all := lw_g (lw_at lw_m9 138 rfl) rfl
theorem q2178 : (Jvm.Cond.instanceMethod ({ cls := "CrumblingWall$Flake", name := "rest", desc := "()I" } : Jvm.MethodName)) ∈ lw_all := lw_g (lw_at lw_m9 139 rfl) rfl
theorem q2179 : (Jvm.Cond.code ({ cls := "CrumblingWall$Flake", name := "rest", desc := "()I" } : Jvm.MethodName) prog_8_method_4_code (1 : Nat) (Option.some Jvm.ClassFile.FieldType.int)) ∈ lw_all := lw_g (lw_at lw_m9 140 rfl) rfl
theorem q3514 : (Jvm.Cond.selects "CrumblingWall$Flake" ({ cls := "CrumblingWall$Hold", name := "number", desc := "()I" } : Jvm.MethodName) ({ cls := "CrumblingWall$Hold", name := "number", desc := "()I" } : Jvm.MethodName)) ∈ lw_all := lw_g (lw_at lw_m15 35 rfl) rfl
theorem q3520 : (Jvm.Cond.selects "CrumblingWall$Flake" ({ cls := "CrumblingWall$Hold", name := "column", desc := "()I" } : Jvm.MethodName) ({ cls := "CrumblingWall$Hold", name := "column", desc := "()I" } : Jvm.MethodName)) ∈ lw_all := lw_g (lw_at lw_m15 41 rfl) rfl
theorem q3525 : (Jvm.Cond.selects "CrumblingWall$Flake" ({ cls := "CrumblingWall$Hold", name := "row", desc := "()I" } : Jvm.MethodName) ({ cls := "CrumblingWall$Hold", name := "row", desc := "()I" } : Jvm.MethodName)) ∈ lw_all := lw_g (lw_at lw_m15 46 rfl) rfl
theorem q3530 : (Jvm.Cond.selects "CrumblingWall$Flake" ({ cls := "CrumblingWall$Hold", name := "strength", desc := "()I" } : Jvm.MethodName) ({ cls := "CrumblingWall$Hold", name := "strength", desc := "()I" } : Jvm.MethodName)) ∈ lw_all := lw_g (lw_at lw_m15 51 rfl) rfl
theorem q3535 : (Jvm.Cond.selects "CrumblingWall$Flake" ({ cls := "CrumblingWall$Hold", name := "distance", desc := "(LCrumblingWall$Place;)I" } : Jvm.MethodName) ({ cls := "CrumblingWall$Hold", name := "distance", desc := "(LCrumblingWall$Place;)I" } : Jvm.MethodName)) ∈ lw_all := lw_g (lw_at lw_m15 56 rfl) rfl
theorem q3553 : (Jvm.Cond.castable "CrumblingWall$Flake" "CrumblingWall$Hold") ∈ lw_tbl := lw_at lw_m15 74 rfl
theorem q3562 : (Jvm.Cond.castable "CrumblingWall$Flake" "java/lang/Object") ∈ lw_tbl := lw_at lw_m15 83 rfl
theorem in_X10 : ∀ w ∈ wsX100, w ∈ lw_all := lw_in wsX100 [1497, 1498, 1499, 1500, 1501] (by decide +kernel) (by decide +kernel)
/-! CrumblingWall$Pocket -/
set_option maxRecDepth 100000
def RX11 : String := "CrumblingWall$Pocket"
def TX11 : u_T := fun k => match k with
  | 0 => ("CrumblingWall$Hold", "number", "I", true)
  | 1 => ("CrumblingWall$Hold", "column", "I", true)
  | 2 => ("CrumblingWall$Hold", "row", "I", true)
  | 3 => ("CrumblingWall$Hold", "strength", "I", true)
  | _ => ("CrumblingWall$Hold", "wear", "I", false)
def tyX11 : Nat → FieldType := fun k => match k with
  | 0 => .int
  | 1 => .int
  | 2 => .int
  | 3 => .int
  | _ => .int
abbrev wsX110 : List Cond := u_ws RX11 TX11 5
theorem nmX11 : ∀ a, a < 5 → ∀ b, b < 5 → a ≠ b → (TX11 a).2.1 ≠ (TX11 b).2.1 := by decide +kernel
theorem tyX11_ok : ∀ k, k < 5 → parseFieldDescriptor (TX11 k).2.2.1 = some (tyX11 k) := by decide +kernel
abbrev cX11_anew : ByteArray := prog_15_method_5_code
def yX11_anew : MethodName := ⟨RX11, "anew", "()LCrumblingWall$Hold;"⟩
def dkwX11_anew_0 : List UInt8 := [187, 0, 7, 89, 42, 182, 0, 9, 42, 182, 0, 13, 42, 182, 0, 16, 42, 182, 0, 19, 183, 0, 22, 176]
abbrev dktX11_anew_0 : List UInt8 := dkwX11_anew_0 ++ []
theorem dksX11_anew_0 : cX11_anew.data.toList.drop 0 = dktX11_anew_0 := by decide +kernel
theorem dX11_anew_0 : decode cX11_anew 0 = .ok (.new 7, 3) := dk_187 0 7 (dk_at dksX11_anew_0 0 rfl rfl)
theorem dX11_anew_3 : decode cX11_anew 3 = .ok (.dup, 1) := dk_89 (dk_at dksX11_anew_0 3 rfl rfl)
theorem dX11_anew_4 : decode cX11_anew 4 = .ok (.aload_n 0, 1) := dk_42 (dk_at dksX11_anew_0 4 rfl rfl)
theorem dX11_anew_5 : decode cX11_anew 5 = .ok (.invokevirtual 9, 3) := dk_182 0 9 (dk_at dksX11_anew_0 5 rfl rfl)
theorem dX11_anew_8 : decode cX11_anew 8 = .ok (.aload_n 0, 1) := dk_42 (dk_at dksX11_anew_0 8 rfl rfl)
theorem dX11_anew_9 : decode cX11_anew 9 = .ok (.invokevirtual 13, 3) := dk_182 0 13 (dk_at dksX11_anew_0 9 rfl rfl)
theorem dX11_anew_12 : decode cX11_anew 12 = .ok (.aload_n 0, 1) := dk_42 (dk_at dksX11_anew_0 12 rfl rfl)
theorem dX11_anew_13 : decode cX11_anew 13 = .ok (.invokevirtual 16, 3) := dk_182 0 16 (dk_at dksX11_anew_0 13 rfl rfl)
theorem dX11_anew_16 : decode cX11_anew 16 = .ok (.aload_n 0, 1) := dk_42 (dk_at dksX11_anew_0 16 rfl rfl)
theorem dX11_anew_17 : decode cX11_anew 17 = .ok (.invokevirtual 19, 3) := dk_182 0 19 (dk_at dksX11_anew_0 17 rfl rfl)
theorem dX11_anew_20 : decode cX11_anew 20 = .ok (.invokespecial 22, 3) := dk_183 0 22 (dk_at dksX11_anew_0 20 rfl rfl)
theorem dX11_anew_23 : decode cX11_anew 23 = .ok (.areturn, 1) := dk_176 (dk_at dksX11_anew_0 23 rfl rfl)
abbrev cX11_init : ByteArray := prog_15_method_1_code
def yX11_init : MethodName := ⟨RX11, "<init>", "(IIII)V"⟩
def dkwX11_init_0 : List UInt8 := [42, 27, 28, 29, 21, 4, 183, 0, 1, 177]
abbrev dktX11_init_0 : List UInt8 := dkwX11_init_0 ++ []
theorem dksX11_init_0 : cX11_init.data.toList.drop 0 = dktX11_init_0 := by decide +kernel
theorem dX11_init_0 : decode cX11_init 0 = .ok (.aload_n 0, 1) := dk_42 (dk_at dksX11_init_0 0 rfl rfl)
theorem dX11_init_1 : decode cX11_init 1 = .ok (.iload_n 1, 1) := dk_27 (dk_at dksX11_init_0 1 rfl rfl)
theorem dX11_init_2 : decode cX11_init 2 = .ok (.iload_n 2, 1) := dk_28 (dk_at dksX11_init_0 2 rfl rfl)
theorem dX11_init_3 : decode cX11_init 3 = .ok (.iload_n 3, 1) := dk_29 (dk_at dksX11_init_0 3 rfl rfl)
theorem dX11_init_4 : decode cX11_init 4 = .ok (.iload 4, 2) := dk_21 4 (dk_at dksX11_init_0 4 rfl rfl)
theorem dX11_init_6 : decode cX11_init 6 = .ok (.invokespecial 1, 3) := dk_183 0 1 (dk_at dksX11_init_0 6 rfl rfl)
theorem dX11_init_9 : decode cX11_init 9 = .ok (.return_, 1) := dk_177 (dk_at dksX11_init_0 9 rfl rfl)
abbrev cX11_kind : ByteArray := prog_15_method_2_code
def yX11_kind : MethodName := ⟨RX11, "kind", "()I"⟩
theorem dX11_kind_0 : decode cX11_kind 0 = .ok (.iconst 1, 1) := by decide +kernel
theorem dX11_kind_1 : decode cX11_kind 1 = .ok (.ireturn, 1) := by decide +kernel
abbrev cX11_worn : ByteArray := prog_15_method_3_code
def yX11_worn : MethodName := ⟨RX11, "worn", "()I"⟩
theorem dX11_worn_0 : decode cX11_worn 0 = .ok (.iconst 0, 1) := by decide +kernel
theorem dX11_worn_1 : decode cX11_worn 1 = .ok (.ireturn, 1) := by decide +kernel
abbrev cX11_rest : ByteArray := prog_15_method_4_code
def yX11_rest : MethodName := ⟨RX11, "rest", "()I"⟩
theorem dX11_rest_0 : decode cX11_rest 0 = .ok (.iconst 4, 1) := by decide +kernel
theorem dX11_rest_1 : decode cX11_rest 1 = .ok (.ireturn, 1) := by decide +kernel
theorem q161 : (Jvm.Cond.initialized "CrumblingWall$Pocket") ∈ lw_all := lw_g (lw_at lw_m1 42 rfl) rfl
theorem q1088 : (Jvm.Cond.selects "CrumblingWall$Pocket" ({ cls := "java/lang/Object", name := "getClass", desc := "()Ljava/lang/Class;" } : Jvm.MethodName) ({ cls := "java/lang/Object", name := "getClass", desc := "()Ljava/lang/Class;" } : Jvm.MethodName)) ∈ lw_all := lw_g (lw_at lw_m5 9 rfl) rfl
theorem q1236 : (Jvm.Cond.castable "CrumblingWall$Pocket" "CrumblingWall$Place") ∈ lw_tbl := lw_at lw_m5 157 rfl
theorem q1237 : (Jvm.Cond.selects "CrumblingWall$Pocket" ({ cls := "CrumblingWall$Place", name := "number", desc := "()I" } : Jvm.MethodName) ({ cls := "CrumblingWall$Hold", name := "number", desc := "()I" } : Jvm.MethodName)) ∈ lw_all := lw_g (lw_at lw_m5 158 rfl) rfl
theorem q1238 : (Jvm.Cond.unhidden "CrumblingWall$Pocket" "number" "()I") ∈ lw_tbl := lw_at lw_m5 159 rfl
theorem q1245 : (Jvm.Cond.selects "CrumblingWall$Pocket" ({ cls := "CrumblingWall$Hold", name := "aside", desc := "(LCrumblingWall$Place;)I" } : Jvm.MethodName) ({ cls := "CrumblingWall$Hold", name := "aside", desc := "(LCrumblingWall$Place;)I" } : Jvm.MethodName)) ∈ lw_all := lw_g (lw_at lw_m5 166 rfl) rfl
theorem q1256 : (Jvm.Cond.unhidden "CrumblingWall$Pocket" "upOrDown" "(LCrumblingWall$Place;)I") ∈ lw_tbl := lw_at lw_m5 177 rfl
theorem q1278 : (Jvm.Cond.selects "CrumblingWall$Pocket" ({ cls := "CrumblingWall$Place", name := "row", desc := "()I" } : Jvm.MethodName) ({ cls := "CrumblingWall$Hold", name := "row", desc := "()I" } : Jvm.MethodName)) ∈ lw_all := lw_g (lw_at lw_m5 199 rfl) rfl
theorem q1279 : (Jvm.Cond.unhidden "CrumblingWall$Pocket" "row" "()I") ∈ lw_tbl := lw_at lw_m5 200 rfl
theorem q1292 : (Jvm.Cond.selects "CrumblingWall$Pocket" ({ cls := "CrumblingWall$Place", name := "distance", desc := "(LCrumblingWall$Place;)I" } : Jvm.MethodName) ({ cls := "CrumblingWall$Hold", name := "distance", desc := "(LCrumblingWall$Place;)I" } : Jvm.MethodName)) ∈ lw_all := lw_g (lw_at lw_m5 213 rfl) rfl
theorem q1293 : (Jvm.Cond.unhidden "CrumblingWall$Pocket" "distance" "(LCrumblingWall$Place;)I") ∈ lw_tbl := lw_at lw_m5 214 rfl
theorem q1338 : (Jvm.Cond.selects "CrumblingWall$Pocket" ({ cls := "CrumblingWall$Place", name := "aside", desc := "(LCrumblingWall$Place;)I" } : Jvm.MethodName) ({ cls := "CrumblingWall$Hold", name := "aside", desc := "(LCrumblingWall$Place;)I" } : Jvm.MethodName)) ∈ lw_all := lw_g (lw_at lw_m6 19 rfl) rfl
theorem q1339 : (Jvm.Cond.unhidden "CrumblingWall$Pocket" "aside" "(LCrumblingWall$Place;)I") ∈ lw_tbl := lw_at lw_m6 20 rfl
theorem q1364 : (Jvm.Cond.selects "CrumblingWall$Pocket" ({ cls := "CrumblingWall$Hold", name := "left", desc := "()I" } : Jvm.MethodName) ({ cls := "CrumblingWall$Hold", name := "left", desc := "()I" } : Jvm.MethodName)) ∈ lw_all := lw_g (lw_at lw_m6 45 rfl) rfl
theorem q1372 : (Jvm.Cond.selects "CrumblingWall$Pocket" ({ cls := "CrumblingWall$Hold", name := "hasCrumbled", desc := "()Z" } : Jvm.MethodName) ({ cls := "CrumblingWall$Hold", name := "hasCrumbled", desc := "()Z" } : Jvm.MethodName)) ∈ lw_all := lw_g (lw_at lw_m6 53 rfl) rfl
theorem q1396 : (Jvm.Cond.selects "CrumblingWall$Pocket" ({ cls := "CrumblingWall$Hold", name := "copy", desc := "()LCrumblingWall$Hold;" } : Jvm.MethodName) ({ cls := "CrumblingWall$Hold", name := "copy", desc := "()LCrumblingWall$Hold;" } : Jvm.MethodName)) ∈ lw_all := lw_g (lw_at lw_m6 77 rfl) rfl
theorem q1503 : (Jvm.Cond.selects "CrumblingWall$Pocket" ({ cls := "CrumblingWall$Hold", name := "anew", desc := "()LCrumblingWall$Hold;" } : Jvm.MethodName) ({ cls := "CrumblingWall$Pocket", name := "anew", desc := "()LCrumblingWall$Hold;" } : Jvm.MethodName)) ∈ lw_all := lw_g (lw_at lw_m6 184 rfl) rfl
theorem q1504 : (Jvm.Cond.instanceMethod ({ cls := "CrumblingWall$Pocket", name := "anew", desc := "()LCrumblingWall$Hold;" } : Jvm.MethodName)) ∈ lw_all := lw_g (lw_at lw_m6 185 rfl) rfl
theorem q1505 : (Jvm.Cond.code ({ cls := "CrumblingWall$Pocket", name := "anew", desc := "()LCrumblingWall$Hold;" } : Jvm.MethodName) prog_15_method_5_code (1 : Nat) (Option.some (Jvm.ClassFile.FieldType.object "CrumblingWall$Hold"))) ∈ lw_all := lw_g (lw_at lw_m6 186 rfl) rfl
theorem q1506 : (Jvm.Cond.classLink "CrumblingWall$Pocket" (7 : Nat) "CrumblingWall$Pocket") ∈ lw_all := lw_g (lw_at lw_m6 187 rfl) rfl
theorem q1507 : (Jvm.Cond.instantiable "CrumblingWall$Pocket" (5 : Nat)) ∈ lw_all := lw_g (lw_at lw_m6 188 rfl) rfl
theorem q1508 : (Jvm.Cond.methodLink "CrumblingWall$Pocket" (9 : Nat) ({ cls := "CrumblingWall$Pocket", name := "number", desc := "()I" } : Jvm.MethodName)) ∈ lw_all := lw_g (lw_at lw_m6 189 rfl) rfl
theorem q1509 : (Jvm.Cond.sameMethod "CrumblingWall$Pocket" "CrumblingWall$Hold" "number" "()I") ∈ lw_all := lw_g (lw_at lw_m6 190 rfl) rfl
theorem q1510 : (Jvm.Cond.selects "CrumblingWall$Pocket" ({ cls := "CrumblingWall$Pocket", name := "number", desc := "()I" } : Jvm.MethodName) ({ cls := "CrumblingWall$Hold", name := "number", desc := "()I" } : Jvm.MethodName)) ∈ lw_all := lw_g (lw_at lw_m6 191 rfl) rfl
theorem q1511 : (Jvm.Cond.methodLink "CrumblingWall$Pocket" (13 : Nat) ({ cls := "CrumblingWall$Pocket", name := "column", desc := "()I" } : Jvm.MethodName)) ∈ lw_all := lw_g (lw_at lw_m6 192 rfl) rfl
theorem q1512 : (Jvm.Cond.sameMethod "CrumblingWall$Pocket" "CrumblingWall$Hold" "column" "()I") ∈ lw_all := lw_g (lw_at lw_m6 193 rfl) rfl
theorem q1513 : (Jvm.Cond.selects "CrumblingWall$Pocket" ({ cls := "CrumblingWall$Pocket", name := "column", desc := "()I" } : Jvm.MethodName) ({ cls := "CrumblingWall$Hold", name := "column", desc := "()I" } : Jvm.MethodName)) ∈ lw_all := lw_g (lw_at lw_m6 194 rfl) rfl
theorem q1514 : (Jvm.Cond.methodLink "CrumblingWall$Pocket" (16 : Nat) ({ cls := "CrumblingWall$Pocket", name := "row", desc := "()I" } : Jvm.MethodName)) ∈ lw_all := lw_g (lw_at lw_m6 195 rfl) rfl
theorem q1515 : (Jvm.Cond.sameMethod "CrumblingWall$Pocket" "CrumblingWall$Hold" "row" "()I") ∈ lw_all := lw_g (lw_at lw_m6 196 rfl) rfl
theorem q1516 : (Jvm.Cond.selects "CrumblingWall$Pocket" ({ cls := "CrumblingWall$Pocket", name := "row", desc := "()I" } : Jvm.MethodName) ({ cls := "CrumblingWall$Hold", name := "row", desc := "()I" } : Jvm.MethodName)) ∈ lw_all := lw_g (lw_at lw_m6 197 rfl) rfl
theorem q1517 : (Jvm.Cond.methodLink "CrumblingWall$Pocket" (19 : Nat) ({ cls := "CrumblingWall$Pocket", name := "strength", desc := "()I" } : Jvm.MethodName)) ∈ lw_all := lw_g (lw_at lw_m6 198 rfl) rfl
theorem q1518 : (Jvm.Cond.sameMethod "CrumblingWall$Pocket" "CrumblingWall$Hold" "strength" "()I") ∈ lw_all := lw_g (lw_at lw_m6 199 rfl) rfl
theorem q1519 : (Jvm.Cond.selects "CrumblingWall$Pocket" ({ cls := "CrumblingWall$Pocket", name := "strength", desc := "()I" } : Jvm.MethodName) ({ cls := "CrumblingWall$Hold", name := "strength", desc := "()I" } : Jvm.MethodName)) ∈ lw_all := lw_g (lw_at lw_m6 200 rfl) rfl
theorem q1520 : (Jvm.Cond.methodLink "CrumblingWall$Pocket" (22 : Nat) ({ cls := "CrumblingWall$Pocket", name := "<init>", desc := "(IIII)V" } : Jvm.MethodName)) ∈ lw_all := lw_g (lw_at lw_m6 201 rfl) rfl
theorem q1521 : (Jvm.Cond.instanceMethod ({ cls := "CrumblingWall$Pocket", name := "<init>", desc := "(IIII)V" } : Jvm.MethodName)) ∈ lw_all := lw_g (lw_at lw_m6 202 rfl) rfl
theorem q1522 : (Jvm.Cond.code ({ cls := "CrumblingWall$Pocket", name := "<init>", desc := "(IIII)V" } : Jvm.MethodName) prog_15_method_1_code (5 : Nat) (Option.none : Option Jvm.ClassFile.FieldType)) ∈ lw_all := lw_g (lw_at lw_m6 203 rfl) rfl
theorem q1523 : (Jvm.Cond.methodLink "CrumblingWall$Pocket" (1 : Nat) ({ cls := "CrumblingWall$Hold", name := "<init>", desc := "(IIII)V" } : Jvm.MethodName)) ∈ lw_all := lw_g (lw_at lw_m6 204 rfl) rfl
theorem q1524 : (Jvm.Cond.laysFinal "CrumblingWall$Pocket" "CrumblingWall$Hold" "number" "I") ∈ lw_all := lw_g (lw_at lw_m6 205 rfl) rfl
theorem q1525 : (Jvm.Cond.laysFinal "CrumblingWall$Pocket" "CrumblingWall$Hold" "column" "I") ∈ lw_all := lw_g (lw_at lw_m6 206 rfl) rfl
theorem q1526 : (Jvm.Cond.laysFinal "CrumblingWall$Pocket" "CrumblingWall$Hold" "row" "I") ∈ lw_all := lw_g (lw_at lw_m6 207 rfl) rfl
theorem q1527 : (Jvm.Cond.laysFinal "CrumblingWall$Pocket" "CrumblingWall$Hold" "strength" "I") ∈ lw_all := lw_g (lw_at lw_m6 208 rfl) rfl
theorem q1528 : (Jvm.Cond.lays "CrumblingWall$Pocket" "CrumblingWall$Hold" "wear" "I") ∈ lw_all := lw_g (lw_at lw_m6 209 rfl) rfl
theorem q1529 : (Jvm.Cond.superclass "CrumblingWall$Pocket" "CrumblingWall$Hold") ∈ lw_all := lw_g (lw_at lw_m6 210 rfl) rfl
theorem q1837 : (Jvm.Cond.selects "CrumblingWall$Pocket" ({ cls := "CrumblingWall$Hold", name := "kind", desc := "()I" } : Jvm.MethodName) ({ cls := "CrumblingWall$Pocket", name := "kind", desc := "()I" } : Jvm.MethodName)) ∈ lw_all := lw_g (lw_at lw_m8 38 rfl) rfl
theorem q1838 : (Jvm.Cond.instanceMethod ({ cls := "CrumblingWall$Pocket", name := "kind", desc := "()I" } : Jvm.MethodName)) ∈ lw_all := lw_g (lw_at lw_m8 39 rfl) rfl
theorem q1839 : (Jvm.Cond.code ({ cls := "CrumblingWall$Pocket", name := "kind", desc := "()I" } : Jvm.MethodName) prog_15_method_2_code (1 : Nat) (Option.some Jvm.ClassFile.FieldType.int)) ∈ lw_all := lw_g (lw_at lw_m8 40 rfl) rfl
theorem q1847 : (Jvm.Cond.selects "CrumblingWall$Pocket" ({ cls := "CrumblingWall$Hold", name := "wear", desc := "()I" } : Jvm.MethodName) ({ cls := "CrumblingWall$Hold", name := "wear", desc := "()I" } : Jvm.MethodName)) ∈ lw_all := lw_g (lw_at lw_m8 48 rfl) rfl
theorem q1975 : (Jvm.Cond.selects "CrumblingWall$Pocket" ({ cls := "CrumblingWall$Hold", name := "worn", desc := "()I" } : Jvm.MethodName) ({ cls := "CrumblingWall$Pocket", name := "worn", desc := "()I" } : Jvm.MethodName)) ∈ lw_all := lw_g (lw_at lw_m8 176 rfl) rfl
theorem q1976 : (Jvm.Cond.instanceMethod ({ cls := "CrumblingWall$Pocket", name := "worn", desc := "()I" } : Jvm.MethodName)) ∈ lw_all := lw_g (lw_at lw_m8 177 rfl) rfl
theorem q1977 : (Jvm.Cond.code ({ cls := "CrumblingWall$Pocket", name := "worn", desc := "()I" } : Jvm.MethodName) prog_15_method_3_code (1 : Nat) (Option.some Jvm.ClassFile.FieldType.int)) ∈ lw_all := lw_g (lw_at lw_m8 178 rfl) rfl
theorem q1984 : (Jvm.Cond.selects "CrumblingWall$Pocket" ({ cls := "CrumblingWall$Hold", name := "wears", desc := "(I)V" } : Jvm.MethodName) ({ cls := "CrumblingWall$Hold", name := "wears", desc := "(I)V" } : Jvm.MethodName)) ∈ lw_all := lw_g (lw_at lw_m8 185 rfl) rfl
theorem q1994 : (Jvm.Cond.selects "CrumblingWall$Pocket" ({ cls := "CrumblingWall$Hold", name := "isWorn", desc := "()Z" } : Jvm.MethodName) ({ cls := "CrumblingWall$Hold", name := "isWorn", desc := "()Z" } : Jvm.MethodName)) ∈ lw_all := lw_g (lw_at lw_m8 195 rfl) rfl
theorem q2180 : (Jvm.Cond.selects "CrumblingWall$Pocket" ({ cls := "CrumblingWall$Hold", name := "rest", desc := "()I" } : Jvm.MethodName) ({ cls := "CrumblingWall$Pocket", name := "rest", desc := "()I" } : Jvm.MethodName)) ∈ lw_all := lw_g (lw_at lw_m9 141 rfl) rfl
theorem q2181 : (Jvm.Cond.instanceMethod ({ cls := "CrumblingWall$Pocket", name := "rest", desc := "()I" } : Jvm.MethodName)) ∈ lw_all := lw_g (lw_at lw_m9 142 rfl) rfl
theorem q2182 : (Jvm.Cond.code ({ cls := "CrumblingWall$Pocket", name := "rest", desc := "()I" } : Jvm.MethodName) prog_15_method_4_code (1 : Nat) (Option.some Jvm.ClassFile.FieldType.int)) ∈ lw_all := lw_g (lw_at lw_m9 143 rfl) rfl
theorem q3515 : (Jvm.Cond.selects "CrumblingWall$Pocket" ({ cls := "CrumblingWall$Hold", name := "number", desc := "()I" } : Jvm.MethodName) ({ cls := "CrumblingWall$Hold", name := "number", desc := "()I" } : Jvm.MethodName)) ∈ lw_all := lw_g (lw_at lw_m15 36 rfl) rfl
theorem q3521 : (Jvm.Cond.selects "CrumblingWall$Pocket" ({ cls := "CrumblingWall$Hold", name := "column", desc := "()I" } : Jvm.MethodName) ({ cls := "CrumblingWall$Hold", name := "column", desc := "()I" } : Jvm.MethodName)) ∈ lw_all := lw_g (lw_at lw_m15 42 rfl) rfl
theorem q3526 : (Jvm.Cond.selects "CrumblingWall$Pocket" ({ cls := "CrumblingWall$Hold", name := "row", desc := "()I" } : Jvm.MethodName) ({ cls := "CrumblingWall$Hold", name := "row", desc := "()I" } : Jvm.MethodName)) ∈ lw_all := lw_g (lw_at lw_m15 47 rfl) rfl
theorem q3531 : (Jvm.Cond.selects "CrumblingWall$Pocket" ({ cls := "CrumblingWall$Hold", name := "strength", desc := "()I" } : Jvm.MethodName) ({ cls := "CrumblingWall$Hold", name := "strength", desc := "()I" } : Jvm.MethodName)) ∈ lw_all := lw_g (lw_at lw_m15 52 rfl) rfl
theorem q3536 : (Jvm.Cond.selects "CrumblingWall$Pocket" ({ cls := "CrumblingWall$Hold", name := "distance", desc := "(LCrumblingWall$Place;)I" } : Jvm.MethodName) ({ cls := "CrumblingWall$Hold", name := "distance", desc := "(LCrumblingWall$Place;)I" } : Jvm.MethodName)) ∈ lw_all := lw_g (lw_at lw_m15 57 rfl) rfl
theorem q3554 : (Jvm.Cond.castable "CrumblingWall$Pocket" "CrumblingWall$Hold") ∈ lw_tbl := lw_at lw_m15 75 rfl
theorem q3561 : (Jvm.Cond.castable "CrumblingWall$Pocket" "java/lang/Object") ∈ lw_tbl := lw_at lw_m15 82 rfl
theorem in_X11 : ∀ w ∈ wsX110, w ∈ lw_all := lw_in wsX110 [1524, 1525, 1526, 1527, 1528] (by decide +kernel) (by decide +kernel)
/-! CrumblingWall$Lamp -/
set_option maxRecDepth 100000
def RX12 : String := "CrumblingWall$Lamp"
def TX12 : u_T := fun k => match k with
  | 0 => ("CrumblingWall$Lamp", "radius", "I", true)
  | 1 => ("CrumblingWall$Lamp", "at", "I", false)
  | 2 => ("CrumblingWall$Lamp", "carrier", "I", false)
  | 3 => ("CrumblingWall$Lamp", "oil", "I", false)
  | _ => ("CrumblingWall$Lamp", "isLit", "Z", false)
def tyX12 : Nat → FieldType := fun k => match k with
  | 0 => .int
  | 1 => .int
  | 2 => .int
  | 3 => .int
  | _ => .boolean
abbrev wsX120 : List Cond := u_ws RX12 TX12 5
theorem nmX12 : ∀ a, a < 5 → ∀ b, b < 5 → a ≠ b → (TX12 a).2.1 ≠ (TX12 b).2.1 := by decide +kernel
theorem tyX12_ok : ∀ k, k < 5 → parseFieldDescriptor (TX12 k).2.2.1 = some (tyX12 k) := by decide +kernel
abbrev cX12_copy : ByteArray := prog_11_method_2_code
def yX12_copy : MethodName := ⟨RX12, "copy", "()LCrumblingWall$Lamp;"⟩
def dkwX12_copy_1 : List UInt8 := [180, 0, 9, 181, 0, 9, 43, 42, 180, 0, 27, 181, 0, 27, 43, 176]
abbrev dktX12_copy_1 : List UInt8 := dkwX12_copy_1 ++ []
def dkwX12_copy_0 : List UInt8 := [187, 0, 10, 89, 42, 180, 0, 15, 42, 180, 0, 18, 42, 180, 0, 21, 183, 0, 24, 76, 43, 42]
abbrev dktX12_copy_0 : List UInt8 := dkwX12_copy_0 ++ dktX12_copy_1
theorem dksX12_copy_0 : cX12_copy.data.toList.drop 0 = dktX12_copy_0 := by decide +kernel
theorem dksX12_copy_1 : cX12_copy.data.toList.drop 22 = dktX12_copy_1 := dk_seg dksX12_copy_0 22 rfl rfl
theorem dX12_copy_0 : decode cX12_copy 0 = .ok (.new 10, 3) := dk_187 0 10 (dk_at dksX12_copy_0 0 rfl rfl)
theorem dX12_copy_3 : decode cX12_copy 3 = .ok (.dup, 1) := dk_89 (dk_at dksX12_copy_0 3 rfl rfl)
theorem dX12_copy_4 : decode cX12_copy 4 = .ok (.aload_n 0, 1) := dk_42 (dk_at dksX12_copy_0 4 rfl rfl)
theorem dX12_copy_5 : decode cX12_copy 5 = .ok (.getfield 15, 3) := dk_180 0 15 (dk_at dksX12_copy_0 5 rfl rfl)
theorem dX12_copy_8 : decode cX12_copy 8 = .ok (.aload_n 0, 1) := dk_42 (dk_at dksX12_copy_0 8 rfl rfl)
theorem dX12_copy_9 : decode cX12_copy 9 = .ok (.getfield 18, 3) := dk_180 0 18 (dk_at dksX12_copy_0 9 rfl rfl)
theorem dX12_copy_12 : decode cX12_copy 12 = .ok (.aload_n 0, 1) := dk_42 (dk_at dksX12_copy_0 12 rfl rfl)
theorem dX12_copy_13 : decode cX12_copy 13 = .ok (.getfield 21, 3) := dk_180 0 21 (dk_at dksX12_copy_0 13 rfl rfl)
theorem dX12_copy_16 : decode cX12_copy 16 = .ok (.invokespecial 24, 3) := dk_183 0 24 (dk_at dksX12_copy_0 16 rfl rfl)
theorem dX12_copy_19 : decode cX12_copy 19 = .ok (.astore_n 1, 1) := dk_76 (dk_at dksX12_copy_0 19 rfl rfl)
theorem dX12_copy_20 : decode cX12_copy 20 = .ok (.aload_n 1, 1) := dk_43 (dk_at dksX12_copy_0 20 rfl rfl)
theorem dX12_copy_21 : decode cX12_copy 21 = .ok (.aload_n 0, 1) := dk_42 (dk_at dksX12_copy_0 21 rfl rfl)
theorem dX12_copy_22 : decode cX12_copy 22 = .ok (.getfield 9, 3) := dk_180 0 9 (dk_at dksX12_copy_1 0 rfl rfl)
theorem dX12_copy_25 : decode cX12_copy 25 = .ok (.putfield 9, 3) := dk_181 0 9 (dk_at dksX12_copy_1 3 rfl rfl)
theorem dX12_copy_28 : decode cX12_copy 28 = .ok (.aload_n 1, 1) := dk_43 (dk_at dksX12_copy_1 6 rfl rfl)
theorem dX12_copy_29 : decode cX12_copy 29 = .ok (.aload_n 0, 1) := dk_42 (dk_at dksX12_copy_1 7 rfl rfl)
theorem dX12_copy_30 : decode cX12_copy 30 = .ok (.getfield 27, 3) := dk_180 0 27 (dk_at dksX12_copy_1 8 rfl rfl)
theorem dX12_copy_33 : decode cX12_copy 33 = .ok (.putfield 27, 3) := dk_181 0 27 (dk_at dksX12_copy_1 11 rfl rfl)
theorem dX12_copy_36 : decode cX12_copy 36 = .ok (.aload_n 1, 1) := dk_43 (dk_at dksX12_copy_1 14 rfl rfl)
theorem dX12_copy_37 : decode cX12_copy 37 = .ok (.areturn, 1) := dk_176 (dk_at dksX12_copy_1 15 rfl rfl)
abbrev cX12_init : ByteArray := prog_11_method_1_code
def yX12_init : MethodName := ⟨RX12, "<init>", "(III)V"⟩
def dkwX12_init_1 : List UInt8 := [177]
abbrev dktX12_init_1 : List UInt8 := dkwX12_init_1 ++ []
def dkwX12_init_0 : List UInt8 := [42, 183, 0, 3, 42, 2, 181, 0, 9, 42, 27, 181, 0, 15, 42, 28, 181, 0, 18, 42, 29, 181, 0, 21]
abbrev dktX12_init_0 : List UInt8 := dkwX12_init_0 ++ dktX12_init_1
theorem dksX12_init_0 : cX12_init.data.toList.drop 0 = dktX12_init_0 := by decide +kernel
theorem dksX12_init_1 : cX12_init.data.toList.drop 24 = dktX12_init_1 := dk_seg dksX12_init_0 24 rfl rfl
theorem dX12_init_0 : decode cX12_init 0 = .ok (.aload_n 0, 1) := dk_42 (dk_at dksX12_init_0 0 rfl rfl)
theorem dX12_init_1 : decode cX12_init 1 = .ok (.invokespecial 3, 3) := dk_183 0 3 (dk_at dksX12_init_0 1 rfl rfl)
theorem dX12_init_4 : decode cX12_init 4 = .ok (.aload_n 0, 1) := dk_42 (dk_at dksX12_init_0 4 rfl rfl)
theorem dX12_init_5 : decode cX12_init 5 = .ok (.iconst (-1), 1) := dk_2 (dk_at dksX12_init_0 5 rfl rfl)
theorem dX12_init_6 : decode cX12_init 6 = .ok (.putfield 9, 3) := dk_181 0 9 (dk_at dksX12_init_0 6 rfl rfl)
theorem dX12_init_9 : decode cX12_init 9 = .ok (.aload_n 0, 1) := dk_42 (dk_at dksX12_init_0 9 rfl rfl)
theorem dX12_init_10 : decode cX12_init 10 = .ok (.iload_n 1, 1) := dk_27 (dk_at dksX12_init_0 10 rfl rfl)
theorem dX12_init_11 : decode cX12_init 11 = .ok (.putfield 15, 3) := dk_181 0 15 (dk_at dksX12_init_0 11 rfl rfl)
theorem dX12_init_14 : decode cX12_init 14 = .ok (.aload_n 0, 1) := dk_42 (dk_at dksX12_init_0 14 rfl rfl)
theorem dX12_init_15 : decode cX12_init 15 = .ok (.iload_n 2, 1) := dk_28 (dk_at dksX12_init_0 15 rfl rfl)
theorem dX12_init_16 : decode cX12_init 16 = .ok (.putfield 18, 3) := dk_181 0 18 (dk_at dksX12_init_0 16 rfl rfl)
theorem dX12_init_19 : decode cX12_init 19 = .ok (.aload_n 0, 1) := dk_42 (dk_at dksX12_init_0 19 rfl rfl)
theorem dX12_init_20 : decode cX12_init 20 = .ok (.iload_n 3, 1) := dk_29 (dk_at dksX12_init_0 20 rfl rfl)
theorem dX12_init_21 : decode cX12_init 21 = .ok (.putfield 21, 3) := dk_181 0 21 (dk_at dksX12_init_0 21 rfl rfl)
theorem dX12_init_24 : decode cX12_init 24 = .ok (.return_, 1) := dk_177 (dk_at dksX12_init_1 0 rfl rfl)
abbrev cX12_isCarried : ByteArray := prog_11_method_3_code
def yX12_isCarried : MethodName := ⟨RX12, "isCarried", "()Z"⟩
def dkwX12_isCarried_0 : List UInt8 := [42, 180, 0, 9, 2, 159, 0, 7, 4, 167, 0, 4, 3, 172]
abbrev dktX12_isCarried_0 : List UInt8 := dkwX12_isCarried_0 ++ []
theorem dksX12_isCarried_0 : cX12_isCarried.data.toList.drop 0 = dktX12_isCarried_0 := by decide +kernel
theorem dX12_isCarried_0 : decode cX12_isCarried 0 = .ok (.aload_n 0, 1) := dk_42 (dk_at dksX12_isCarried_0 0 rfl rfl)
theorem dX12_isCarried_1 : decode cX12_isCarried 1 = .ok (.getfield 9, 3) := dk_180 0 9 (dk_at dksX12_isCarried_0 1 rfl rfl)
theorem dX12_isCarried_4 : decode cX12_isCarried 4 = .ok (.iconst (-1), 1) := dk_2 (dk_at dksX12_isCarried_0 4 rfl rfl)
theorem dX12_isCarried_5 : decode cX12_isCarried 5 = .ok (.if_icmp .eq 7, 3) := dk_159 0 7 (dk_at dksX12_isCarried_0 5 rfl rfl)
theorem dX12_isCarried_8 : decode cX12_isCarried 8 = .ok (.iconst 1, 1) := dk_4 (dk_at dksX12_isCarried_0 8 rfl rfl)
theorem dX12_isCarried_9 : decode cX12_isCarried 9 = .ok (.goto 4, 3) := dk_167 0 4 (dk_at dksX12_isCarried_0 9 rfl rfl)
theorem dX12_isCarried_12 : decode cX12_isCarried 12 = .ok (.iconst 0, 1) := dk_3 (dk_at dksX12_isCarried_0 12 rfl rfl)
theorem dX12_isCarried_13 : decode cX12_isCarried 13 = .ok (.ireturn, 1) := dk_172 (dk_at dksX12_isCarried_0 13 rfl rfl)
abbrev cX12_drops : ByteArray := prog_11_method_4_code
def yX12_drops : MethodName := ⟨RX12, "drops", "()V"⟩
def dkwX12_drops_0 : List UInt8 := [42, 2, 181, 0, 15, 42, 2, 181, 0, 9, 42, 3, 181, 0, 27, 177]
abbrev dktX12_drops_0 : List UInt8 := dkwX12_drops_0 ++ []
theorem dksX12_drops_0 : cX12_drops.data.toList.drop 0 = dktX12_drops_0 := by decide +kernel
theorem dX12_drops_0 : decode cX12_drops 0 = .ok (.aload_n 0, 1) := dk_42 (dk_at dksX12_drops_0 0 rfl rfl)
theorem dX12_drops_1 : decode cX12_drops 1 = .ok (.iconst (-1), 1) := dk_2 (dk_at dksX12_drops_0 1 rfl rfl)
theorem dX12_drops_2 : decode cX12_drops 2 = .ok (.putfield 15, 3) := dk_181 0 15 (dk_at dksX12_drops_0 2 rfl rfl)
theorem dX12_drops_5 : decode cX12_drops 5 = .ok (.aload_n 0, 1) := dk_42 (dk_at dksX12_drops_0 5 rfl rfl)
theorem dX12_drops_6 : decode cX12_drops 6 = .ok (.iconst (-1), 1) := dk_2 (dk_at dksX12_drops_0 6 rfl rfl)
theorem dX12_drops_7 : decode cX12_drops 7 = .ok (.putfield 9, 3) := dk_181 0 9 (dk_at dksX12_drops_0 7 rfl rfl)
theorem dX12_drops_10 : decode cX12_drops 10 = .ok (.aload_n 0, 1) := dk_42 (dk_at dksX12_drops_0 10 rfl rfl)
theorem dX12_drops_11 : decode cX12_drops 11 = .ok (.iconst 0, 1) := dk_3 (dk_at dksX12_drops_0 11 rfl rfl)
theorem dX12_drops_12 : decode cX12_drops 12 = .ok (.putfield 27, 3) := dk_181 0 27 (dk_at dksX12_drops_0 12 rfl rfl)
theorem dX12_drops_15 : decode cX12_drops 15 = .ok (.return_, 1) := dk_177 (dk_at dksX12_drops_0 15 rfl rfl)
abbrev cX12_burns : ByteArray := prog_11_method_5_code
def yX12_burns : MethodName := ⟨RX12, "burns", "()V"⟩
def dkwX12_burns_1 : List UInt8 := [180, 0, 27, 42, 180, 0, 21, 158, 0, 7, 4, 167, 0, 4, 3, 126, 181, 0, 27, 177]
abbrev dktX12_burns_1 : List UInt8 := dkwX12_burns_1 ++ []
def dkwX12_burns_0 : List UInt8 := [42, 89, 180, 0, 21, 42, 180, 0, 27, 153, 0, 7, 4, 167, 0, 4, 3, 100, 181, 0, 21, 42, 89]
abbrev dktX12_burns_0 : List UInt8 := dkwX12_burns_0 ++ dktX12_burns_1
theorem dksX12_burns_0 : cX12_burns.data.toList.drop 0 = dktX12_burns_0 := by decide +kernel
theorem dksX12_burns_1 : cX12_burns.data.toList.drop 23 = dktX12_burns_1 := dk_seg dksX12_burns_0 23 rfl rfl
theorem dX12_burns_0 : decode cX12_burns 0 = .ok (.aload_n 0, 1) := dk_42 (dk_at dksX12_burns_0 0 rfl rfl)
theorem dX12_burns_1 : decode cX12_burns 1 = .ok (.dup, 1) := dk_89 (dk_at dksX12_burns_0 1 rfl rfl)
theorem dX12_burns_2 : decode cX12_burns 2 = .ok (.getfield 21, 3) := dk_180 0 21 (dk_at dksX12_burns_0 2 rfl rfl)
theorem dX12_burns_5 : decode cX12_burns 5 = .ok (.aload_n 0, 1) := dk_42 (dk_at dksX12_burns_0 5 rfl rfl)
theorem dX12_burns_6 : decode cX12_burns 6 = .ok (.getfield 27, 3) := dk_180 0 27 (dk_at dksX12_burns_0 6 rfl rfl)
theorem dX12_burns_9 : decode cX12_burns 9 = .ok (.ifCond .eq 7, 3) := dk_153 0 7 (dk_at dksX12_burns_0 9 rfl rfl)
theorem dX12_burns_12 : decode cX12_burns 12 = .ok (.iconst 1, 1) := dk_4 (dk_at dksX12_burns_0 12 rfl rfl)
theorem dX12_burns_13 : decode cX12_burns 13 = .ok (.goto 4, 3) := dk_167 0 4 (dk_at dksX12_burns_0 13 rfl rfl)
theorem dX12_burns_16 : decode cX12_burns 16 = .ok (.iconst 0, 1) := dk_3 (dk_at dksX12_burns_0 16 rfl rfl)
theorem dX12_burns_17 : decode cX12_burns 17 = .ok (.isub, 1) := dk_100 (dk_at dksX12_burns_0 17 rfl rfl)
theorem dX12_burns_18 : decode cX12_burns 18 = .ok (.putfield 21, 3) := dk_181 0 21 (dk_at dksX12_burns_0 18 rfl rfl)
theorem dX12_burns_21 : decode cX12_burns 21 = .ok (.aload_n 0, 1) := dk_42 (dk_at dksX12_burns_0 21 rfl rfl)
theorem dX12_burns_22 : decode cX12_burns 22 = .ok (.dup, 1) := dk_89 (dk_at dksX12_burns_0 22 rfl rfl)
theorem dX12_burns_23 : decode cX12_burns 23 = .ok (.getfield 27, 3) := dk_180 0 27 (dk_at dksX12_burns_1 0 rfl rfl)
theorem dX12_burns_26 : decode cX12_burns 26 = .ok (.aload_n 0, 1) := dk_42 (dk_at dksX12_burns_1 3 rfl rfl)
theorem dX12_burns_27 : decode cX12_burns 27 = .ok (.getfield 21, 3) := dk_180 0 21 (dk_at dksX12_burns_1 4 rfl rfl)
theorem dX12_burns_30 : decode cX12_burns 30 = .ok (.ifCond .le 7, 3) := dk_158 0 7 (dk_at dksX12_burns_1 7 rfl rfl)
theorem dX12_burns_33 : decode cX12_burns 33 = .ok (.iconst 1, 1) := dk_4 (dk_at dksX12_burns_1 10 rfl rfl)
theorem dX12_burns_34 : decode cX12_burns 34 = .ok (.goto 4, 3) := dk_167 0 4 (dk_at dksX12_burns_1 11 rfl rfl)
theorem dX12_burns_37 : decode cX12_burns 37 = .ok (.iconst 0, 1) := dk_3 (dk_at dksX12_burns_1 14 rfl rfl)
theorem dX12_burns_38 : decode cX12_burns 38 = .ok (.iand, 1) := dk_126 (dk_at dksX12_burns_1 15 rfl rfl)
theorem dX12_burns_39 : decode cX12_burns 39 = .ok (.putfield 27, 3) := dk_181 0 27 (dk_at dksX12_burns_1 16 rfl rfl)
theorem dX12_burns_42 : decode cX12_burns 42 = .ok (.return_, 1) := dk_177 (dk_at dksX12_burns_1 19 rfl rfl)
theorem q162 : (Jvm.Cond.initialized "CrumblingWall$Lamp") ∈ lw_all := lw_g (lw_at lw_m1 43 rfl) rfl
theorem q1085 : (Jvm.Cond.selects "CrumblingWall$Lamp" ({ cls := "java/lang/Object", name := "getClass", desc := "()Ljava/lang/Class;" } : Jvm.MethodName) ({ cls := "java/lang/Object", name := "getClass", desc := "()Ljava/lang/Class;" } : Jvm.MethodName)) ∈ lw_all := lw_g (lw_at lw_m5 6 rfl) rfl
theorem q1561 : (Jvm.Cond.instanceMethod ({ cls := "CrumblingWall$Lamp", name := "copy", desc := "()LCrumblingWall$Lamp;" } : Jvm.MethodName)) ∈ lw_all := lw_g (lw_at lw_m7 2 rfl) rfl
theorem q1562 : (Jvm.Cond.selects "CrumblingWall$Lamp" ({ cls := "CrumblingWall$Lamp", name := "copy", desc := "()LCrumblingWall$Lamp;" } : Jvm.MethodName) ({ cls := "CrumblingWall$Lamp", name := "copy", desc := "()LCrumblingWall$Lamp;" } : Jvm.MethodName)) ∈ lw_all := lw_g (lw_at lw_m7 3 rfl) rfl
theorem q1563 : (Jvm.Cond.code ({ cls := "CrumblingWall$Lamp", name := "copy", desc := "()LCrumblingWall$Lamp;" } : Jvm.MethodName) prog_11_method_2_code (2 : Nat) (Option.some (Jvm.ClassFile.FieldType.object "CrumblingWall$Lamp"))) ∈ lw_all := lw_g (lw_at lw_m7 4 rfl) rfl
theorem q1564 : (Jvm.Cond.classLink "CrumblingWall$Lamp" (10 : Nat) "CrumblingWall$Lamp") ∈ lw_all := lw_g (lw_at lw_m7 5 rfl) rfl
theorem q1565 : (Jvm.Cond.instantiable "CrumblingWall$Lamp" (5 : Nat)) ∈ lw_all := lw_g (lw_at lw_m7 6 rfl) rfl
theorem q1566 : (Jvm.Cond.methodLink "CrumblingWall$Lamp" (24 : Nat) ({ cls := "CrumblingWall$Lamp", name := "<init>", desc := "(III)V" } : Jvm.MethodName)) ∈ lw_all := lw_g (lw_at lw_m7 7 rfl) rfl
theorem q1567 : (Jvm.Cond.instanceMethod ({ cls := "CrumblingWall$Lamp", name := "<init>", desc := "(III)V" } : Jvm.MethodName)) ∈ lw_all := lw_g (lw_at lw_m7 8 rfl) rfl
theorem q1568 : (Jvm.Cond.code ({ cls := "CrumblingWall$Lamp", name := "<init>", desc := "(III)V" } : Jvm.MethodName) prog_11_method_1_code (4 : Nat) (Option.none : Option Jvm.ClassFile.FieldType)) ∈ lw_all := lw_g (lw_at lw_m7 9 rfl) rfl
theorem q1569 : (Jvm.Cond.methodLink "CrumblingWall$Lamp" (3 : Nat) ({ cls := "java/lang/Object", name := "<init>", desc := "()V" } : Jvm.MethodName)) ∈ lw_all := lw_g (lw_at lw_m7 10 rfl) rfl
theorem q1570 : (Jvm.Cond.fieldLink "CrumblingWall$Lamp" (18 : Nat) "CrumblingWall$Lamp" "radius" "I") ∈ lw_all := lw_g (lw_at lw_m7 11 rfl) rfl
theorem q1573 : (Jvm.Cond.fieldLink "CrumblingWall$Lamp" (15 : Nat) "CrumblingWall$Lamp" "at" "I") ∈ lw_all := lw_g (lw_at lw_m7 14 rfl) rfl
theorem q1575 : (Jvm.Cond.fieldLink "CrumblingWall$Lamp" (9 : Nat) "CrumblingWall$Lamp" "carrier" "I") ∈ lw_all := lw_g (lw_at lw_m7 16 rfl) rfl
theorem q1578 : (Jvm.Cond.fieldLink "CrumblingWall$Lamp" (21 : Nat) "CrumblingWall$Lamp" "oil" "I") ∈ lw_all := lw_g (lw_at lw_m7 19 rfl) rfl
theorem q1581 : (Jvm.Cond.fieldLink "CrumblingWall$Lamp" (27 : Nat) "CrumblingWall$Lamp" "isLit" "Z") ∈ lw_all := lw_g (lw_at lw_m7 22 rfl) rfl
theorem q1584 : (Jvm.Cond.laysFinal "CrumblingWall$Lamp" "CrumblingWall$Lamp" "radius" "I") ∈ lw_all := lw_g (lw_at lw_m7 25 rfl) rfl
theorem q1585 : (Jvm.Cond.soleField "CrumblingWall$Lamp" "radius") ∈ lw_all := lw_g (lw_at lw_m7 26 rfl) rfl
theorem q1586 : (Jvm.Cond.lays "CrumblingWall$Lamp" "CrumblingWall$Lamp" "at" "I") ∈ lw_all := lw_g (lw_at lw_m7 27 rfl) rfl
theorem q1587 : (Jvm.Cond.soleField "CrumblingWall$Lamp" "at") ∈ lw_all := lw_g (lw_at lw_m7 28 rfl) rfl
theorem q1588 : (Jvm.Cond.lays "CrumblingWall$Lamp" "CrumblingWall$Lamp" "carrier" "I") ∈ lw_all := lw_g (lw_at lw_m7 29 rfl) rfl
theorem q1589 : (Jvm.Cond.soleField "CrumblingWall$Lamp" "carrier") ∈ lw_all := lw_g (lw_at lw_m7 30 rfl) rfl
theorem q1590 : (Jvm.Cond.lays "CrumblingWall$Lamp" "CrumblingWall$Lamp" "oil" "I") ∈ lw_all := lw_g (lw_at lw_m7 31 rfl) rfl
theorem q1591 : (Jvm.Cond.soleField "CrumblingWall$Lamp" "oil") ∈ lw_all := lw_g (lw_at lw_m7 32 rfl) rfl
theorem q1592 : (Jvm.Cond.lays "CrumblingWall$Lamp" "CrumblingWall$Lamp" "isLit" "Z") ∈ lw_all := lw_g (lw_at lw_m7 33 rfl) rfl
theorem q1593 : (Jvm.Cond.soleField "CrumblingWall$Lamp" "isLit") ∈ lw_all := lw_g (lw_at lw_m7 34 rfl) rfl
theorem q1594 : (Jvm.Cond.superclass "CrumblingWall$Lamp" "java/lang/Object") ∈ lw_all := lw_g (lw_at lw_m7 35 rfl) rfl
theorem q1859 : (Jvm.Cond.instanceMethod ({ cls := "CrumblingWall$Lamp", name := "isCarried", desc := "()Z" } : Jvm.MethodName)) ∈ lw_all := lw_g (lw_at lw_m8 60 rfl) rfl
theorem q1860 : (Jvm.Cond.selects "CrumblingWall$Lamp" ({ cls := "CrumblingWall$Lamp", name := "isCarried", desc := "()Z" } : Jvm.MethodName) ({ cls := "CrumblingWall$Lamp", name := "isCarried", desc := "()Z" } : Jvm.MethodName)) ∈ lw_all := lw_g (lw_at lw_m8 61 rfl) rfl
theorem q1861 : (Jvm.Cond.code ({ cls := "CrumblingWall$Lamp", name := "isCarried", desc := "()Z" } : Jvm.MethodName) prog_11_method_3_code (1 : Nat) (Option.some Jvm.ClassFile.FieldType.boolean)) ∈ lw_all := lw_g (lw_at lw_m8 62 rfl) rfl
theorem q2103 : (Jvm.Cond.instanceMethod ({ cls := "CrumblingWall$Lamp", name := "drops", desc := "()V" } : Jvm.MethodName)) ∈ lw_all := lw_g (lw_at lw_m9 64 rfl) rfl
theorem q2104 : (Jvm.Cond.selects "CrumblingWall$Lamp" ({ cls := "CrumblingWall$Lamp", name := "drops", desc := "()V" } : Jvm.MethodName) ({ cls := "CrumblingWall$Lamp", name := "drops", desc := "()V" } : Jvm.MethodName)) ∈ lw_all := lw_g (lw_at lw_m9 65 rfl) rfl
theorem q2105 : (Jvm.Cond.code ({ cls := "CrumblingWall$Lamp", name := "drops", desc := "()V" } : Jvm.MethodName) prog_11_method_4_code (1 : Nat) (Option.none : Option Jvm.ClassFile.FieldType)) ∈ lw_all := lw_g (lw_at lw_m9 66 rfl) rfl
theorem q2146 : (Jvm.Cond.instanceMethod ({ cls := "CrumblingWall$Lamp", name := "burns", desc := "()V" } : Jvm.MethodName)) ∈ lw_all := lw_g (lw_at lw_m9 107 rfl) rfl
theorem q2147 : (Jvm.Cond.selects "CrumblingWall$Lamp" ({ cls := "CrumblingWall$Lamp", name := "burns", desc := "()V" } : Jvm.MethodName) ({ cls := "CrumblingWall$Lamp", name := "burns", desc := "()V" } : Jvm.MethodName)) ∈ lw_all := lw_g (lw_at lw_m9 108 rfl) rfl
theorem q2148 : (Jvm.Cond.code ({ cls := "CrumblingWall$Lamp", name := "burns", desc := "()V" } : Jvm.MethodName) prog_11_method_5_code (1 : Nat) (Option.none : Option Jvm.ClassFile.FieldType)) ∈ lw_all := lw_g (lw_at lw_m9 109 rfl) rfl
theorem q3580 : (Jvm.Cond.castable "CrumblingWall$Lamp" "java/lang/Object") ∈ lw_tbl := lw_at lw_m15 101 rfl
theorem in_X12 : ∀ w ∈ wsX120, w ∈ lw_all := lw_in wsX120 [1584, 1586, 1588, 1590, 1592] (by decide +kernel) (by decide +kernel)
/-! CrumblingWall$Place -/
set_option maxRecDepth 100000
def RX13 : String := "CrumblingWall$Place"
abbrev cX13_amount : ByteArray := prog_14_method_5_code
def yX13_amount : MethodName := ⟨RX13, "amount", "(I)I"⟩
def dkwX13_amount_0 : List UInt8 := [26, 156, 0, 8, 26, 116, 167, 0, 4, 26, 172]
abbrev dktX13_amount_0 : List UInt8 := dkwX13_amount_0 ++ []
theorem dksX13_amount_0 : cX13_amount.data.toList.drop 0 = dktX13_amount_0 := by decide +kernel
theorem dX13_amount_0 : decode cX13_amount 0 = .ok (.iload_n 0, 1) := dk_26 (dk_at dksX13_amount_0 0 rfl rfl)
theorem dX13_amount_1 : decode cX13_amount 1 = .ok (.ifCond .ge 8, 3) := dk_156 0 8 (dk_at dksX13_amount_0 1 rfl rfl)
theorem dX13_amount_4 : decode cX13_amount 4 = .ok (.iload_n 0, 1) := dk_26 (dk_at dksX13_amount_0 4 rfl rfl)
theorem dX13_amount_5 : decode cX13_amount 5 = .ok (.ineg, 1) := dk_116 (dk_at dksX13_amount_0 5 rfl rfl)
theorem dX13_amount_6 : decode cX13_amount 6 = .ok (.goto 4, 3) := dk_167 0 4 (dk_at dksX13_amount_0 6 rfl rfl)
theorem dX13_amount_9 : decode cX13_amount 9 = .ok (.iload_n 0, 1) := dk_26 (dk_at dksX13_amount_0 9 rfl rfl)
theorem dX13_amount_10 : decode cX13_amount 10 = .ok (.ireturn, 1) := dk_172 (dk_at dksX13_amount_0 10 rfl rfl)
abbrev cX13_upOrDown : ByteArray := prog_14_method_6_code
def yX13_upOrDown : MethodName := ⟨RX13, "upOrDown", "(LCrumblingWall$Place;)I"⟩
def dkwX13_upOrDown_0 : List UInt8 := [42, 185, 0, 1, 1, 0, 43, 185, 0, 1, 1, 0, 100, 184, 0, 7, 172]
abbrev dktX13_upOrDown_0 : List UInt8 := dkwX13_upOrDown_0 ++ []
theorem dksX13_upOrDown_0 : cX13_upOrDown.data.toList.drop 0 = dktX13_upOrDown_0 := by decide +kernel
theorem dX13_upOrDown_0 : decode cX13_upOrDown 0 = .ok (.aload_n 0, 1) := dk_42 (dk_at dksX13_upOrDown_0 0 rfl rfl)
theorem dX13_upOrDown_1 : decode cX13_upOrDown 1 = .ok (.invokeinterface 1 1, 5) := by decide +kernel
theorem dX13_upOrDown_6 : decode cX13_upOrDown 6 = .ok (.aload_n 1, 1) := dk_43 (dk_at dksX13_upOrDown_0 6 rfl rfl)
theorem dX13_upOrDown_7 : decode cX13_upOrDown 7 = .ok (.invokeinterface 1 1, 5) := by decide +kernel
theorem dX13_upOrDown_12 : decode cX13_upOrDown 12 = .ok (.isub, 1) := dk_100 (dk_at dksX13_upOrDown_0 12 rfl rfl)
theorem dX13_upOrDown_13 : decode cX13_upOrDown 13 = .ok (.invokestatic 7, 3) := dk_184 0 7 (dk_at dksX13_upOrDown_0 13 rfl rfl)
theorem dX13_upOrDown_16 : decode cX13_upOrDown 16 = .ok (.ireturn, 1) := dk_172 (dk_at dksX13_upOrDown_0 16 rfl rfl)
theorem q170 : (Jvm.Cond.initialized "CrumblingWall$Place") ∈ lw_all := lw_g (lw_at lw_m1 51 rfl) rfl
theorem q1207 : (Jvm.Cond.interfaceMethod "CrumblingWall$Place" "CrumblingWall$Place" "distance" "(LCrumblingWall$Place;)I") ∈ lw_tbl := lw_at lw_m5 128 rfl
theorem q1208 : (Jvm.Cond.declares ({ cls := "CrumblingWall$Place", name := "distance", desc := "(LCrumblingWall$Place;)I" } : Jvm.MethodName)) ∈ lw_tbl := lw_at lw_m5 129 rfl
theorem q1217 : (Jvm.Cond.interfaceMethod "CrumblingWall$Place" "CrumblingWall$Place" "number" "()I") ∈ lw_tbl := lw_at lw_m5 138 rfl
theorem q1218 : (Jvm.Cond.declares ({ cls := "CrumblingWall$Place", name := "number", desc := "()I" } : Jvm.MethodName)) ∈ lw_tbl := lw_at lw_m5 139 rfl
theorem q1249 : (Jvm.Cond.static ({ cls := "CrumblingWall$Place", name := "amount", desc := "(I)I" } : Jvm.MethodName)) ∈ lw_all := lw_g (lw_at lw_m5 170 rfl) rfl
theorem q1250 : (Jvm.Cond.code ({ cls := "CrumblingWall$Place", name := "amount", desc := "(I)I" } : Jvm.MethodName) prog_14_method_5_code (1 : Nat) (Option.some Jvm.ClassFile.FieldType.int)) ∈ lw_all := lw_g (lw_at lw_m5 171 rfl) rfl
theorem q1252 : (Jvm.Cond.declares ({ cls := "CrumblingWall$Place", name := "upOrDown", desc := "(LCrumblingWall$Place;)I" } : Jvm.MethodName)) ∈ lw_tbl := lw_at lw_m5 173 rfl
theorem q1257 : (Jvm.Cond.instanceMethod ({ cls := "CrumblingWall$Place", name := "upOrDown", desc := "(LCrumblingWall$Place;)I" } : Jvm.MethodName)) ∈ lw_all := lw_g (lw_at lw_m5 178 rfl) rfl
theorem q1258 : (Jvm.Cond.publicMethod ({ cls := "CrumblingWall$Place", name := "upOrDown", desc := "(LCrumblingWall$Place;)I" } : Jvm.MethodName)) ∈ lw_tbl := lw_at lw_m5 179 rfl
theorem q1259 : (Jvm.Cond.code ({ cls := "CrumblingWall$Place", name := "upOrDown", desc := "(LCrumblingWall$Place;)I" } : Jvm.MethodName) prog_14_method_6_code (2 : Nat) (Option.some Jvm.ClassFile.FieldType.int)) ∈ lw_all := lw_g (lw_at lw_m5 180 rfl) rfl
theorem q1260 : (Jvm.Cond.interfaceEntry "CrumblingWall$Place" (1 : Nat)) ∈ lw_tbl := lw_at lw_m5 181 rfl
theorem q1261 : (Jvm.Cond.methodLink "CrumblingWall$Place" (1 : Nat) ({ cls := "CrumblingWall$Place", name := "row", desc := "()I" } : Jvm.MethodName)) ∈ lw_all := lw_g (lw_at lw_m5 182 rfl) rfl
theorem q1262 : (Jvm.Cond.interfaceMethod "CrumblingWall$Place" "CrumblingWall$Place" "row" "()I") ∈ lw_tbl := lw_at lw_m5 183 rfl
theorem q1263 : (Jvm.Cond.declares ({ cls := "CrumblingWall$Place", name := "row", desc := "()I" } : Jvm.MethodName)) ∈ lw_tbl := lw_at lw_m5 184 rfl
theorem q1280 : (Jvm.Cond.methodLink "CrumblingWall$Place" (7 : Nat) ({ cls := "CrumblingWall$Place", name := "amount", desc := "(I)I" } : Jvm.MethodName)) ∈ lw_all := lw_g (lw_at lw_m5 201 rfl) rfl
theorem q1324 : (Jvm.Cond.interfaceMethod "CrumblingWall$Place" "CrumblingWall$Place" "aside" "(LCrumblingWall$Place;)I") ∈ lw_tbl := lw_at lw_m6 5 rfl
theorem q1325 : (Jvm.Cond.declares ({ cls := "CrumblingWall$Place", name := "aside", desc := "(LCrumblingWall$Place;)I" } : Jvm.MethodName)) ∈ lw_tbl := lw_at lw_m6 6 rfl
theorem q1342 : (Jvm.Cond.interfaceMethod "CrumblingWall$Place" "CrumblingWall$Place" "upOrDown" "(LCrumblingWall$Place;)I") ∈ lw_tbl := lw_at lw_m6 23 rfl
/-! CrumblingWall$Reader -/
set_option maxRecDepth 100000
def RX14 : String := "CrumblingWall$Reader"
def TX14 : u_T := fun k => match k with
  | 0 => ("CrumblingWall$Reader", "text", "Ljava/lang/CharSequence;", true)
  | _ => ("CrumblingWall$Reader", "at", "I", false)
def tyX14 : Nat → FieldType := fun k => match k with
  | 0 => .object "java/lang/CharSequence"
  | _ => .int
abbrev wsX140 : List Cond := u_ws RX14 TX14 2
theorem nmX14 : ∀ a, a < 2 → ∀ b, b < 2 → a ≠ b → (TX14 a).2.1 ≠ (TX14 b).2.1 := by decide +kernel
theorem tyX14_ok : ∀ k, k < 2 → parseFieldDescriptor (TX14 k).2.2.1 = some (tyX14 k) := by decide +kernel
abbrev cX14_init : ByteArray := prog_16_method_1_code
def yX14_init : MethodName := ⟨RX14, "<init>", "(Ljava/lang/CharSequence;)V"⟩
def dkwX14_init_0 : List UInt8 := [42, 183, 0, 3, 42, 43, 181, 0, 9, 177]
abbrev dktX14_init_0 : List UInt8 := dkwX14_init_0 ++ []
theorem dksX14_init_0 : cX14_init.data.toList.drop 0 = dktX14_init_0 := by decide +kernel
theorem dX14_init_0 : decode cX14_init 0 = .ok (.aload_n 0, 1) := dk_42 (dk_at dksX14_init_0 0 rfl rfl)
theorem dX14_init_1 : decode cX14_init 1 = .ok (.invokespecial 3, 3) := dk_183 0 3 (dk_at dksX14_init_0 1 rfl rfl)
theorem dX14_init_4 : decode cX14_init 4 = .ok (.aload_n 0, 1) := dk_42 (dk_at dksX14_init_0 4 rfl rfl)
theorem dX14_init_5 : decode cX14_init 5 = .ok (.aload_n 1, 1) := dk_43 (dk_at dksX14_init_0 5 rfl rfl)
theorem dX14_init_6 : decode cX14_init 6 = .ok (.putfield 9, 3) := dk_181 0 9 (dk_at dksX14_init_0 6 rfl rfl)
theorem dX14_init_9 : decode cX14_init 9 = .ok (.return_, 1) := dk_177 (dk_at dksX14_init_0 9 rfl rfl)
abbrev cX14_plan : ByteArray := prog_16_method_9_code
def yX14_plan : MethodName := ⟨RX14, "plan", "()Ljava/util/LinkedList;"⟩
def dkwX14_plan_2 : List UInt8 := [185, 0, 19, 1, 0, 162, 0, 15, 187, 0, 40, 89, 42, 180, 0, 15, 183, 0, 42, 191, 43, 176]
abbrev dktX14_plan_2 : List UInt8 := dkwX14_plan_2 ++ []
def dkwX14_plan_1 : List UInt8 := [153, 0, 14, 43, 42, 182, 0, 80, 182, 0, 84, 167, 255, 239, 42, 180, 0, 15, 42, 180, 0, 9]
abbrev dktX14_plan_1 : List UInt8 := dkwX14_plan_1 ++ dktX14_plan_2
def dkwX14_plan_0 : List UInt8 := [187, 0, 77, 89, 183, 0, 79, 76, 43, 42, 182, 0, 80, 182, 0, 84, 42, 16, 59, 182, 0, 45]
abbrev dktX14_plan_0 : List UInt8 := dkwX14_plan_0 ++ dktX14_plan_1
theorem dksX14_plan_0 : cX14_plan.data.toList.drop 0 = dktX14_plan_0 := by decide +kernel
theorem dksX14_plan_1 : cX14_plan.data.toList.drop 22 = dktX14_plan_1 := dk_seg dksX14_plan_0 22 rfl rfl
theorem dksX14_plan_2 : cX14_plan.data.toList.drop 44 = dktX14_plan_2 := dk_seg dksX14_plan_1 22 rfl rfl
theorem dX14_plan_0 : decode cX14_plan 0 = .ok (.new 77, 3) := dk_187 0 77 (dk_at dksX14_plan_0 0 rfl rfl)
theorem dX14_plan_3 : decode cX14_plan 3 = .ok (.dup, 1) := dk_89 (dk_at dksX14_plan_0 3 rfl rfl)
theorem dX14_plan_4 : decode cX14_plan 4 = .ok (.invokespecial 79, 3) := dk_183 0 79 (dk_at dksX14_plan_0 4 rfl rfl)
theorem dX14_plan_7 : decode cX14_plan 7 = .ok (.astore_n 1, 1) := dk_76 (dk_at dksX14_plan_0 7 rfl rfl)
theorem dX14_plan_8 : decode cX14_plan 8 = .ok (.aload_n 1, 1) := dk_43 (dk_at dksX14_plan_0 8 rfl rfl)
theorem dX14_plan_9 : decode cX14_plan 9 = .ok (.aload_n 0, 1) := dk_42 (dk_at dksX14_plan_0 9 rfl rfl)
theorem dX14_plan_10 : decode cX14_plan 10 = .ok (.invokevirtual 80, 3) := dk_182 0 80 (dk_at dksX14_plan_0 10 rfl rfl)
theorem dX14_plan_13 : decode cX14_plan 13 = .ok (.invokevirtual 84, 3) := dk_182 0 84 (dk_at dksX14_plan_0 13 rfl rfl)
theorem dX14_plan_16 : decode cX14_plan 16 = .ok (.aload_n 0, 1) := dk_42 (dk_at dksX14_plan_0 16 rfl rfl)
theorem dX14_plan_17 : decode cX14_plan 17 = .ok (.bipush 59, 2) := dk_16 59 (dk_at dksX14_plan_0 17 rfl rfl)
theorem dX14_plan_19 : decode cX14_plan 19 = .ok (.invokevirtual 45, 3) := dk_182 0 45 (dk_at dksX14_plan_0 19 rfl rfl)
theorem dX14_plan_22 : decode cX14_plan 22 = .ok (.ifCond .eq 14, 3) := dk_153 0 14 (dk_at dksX14_plan_1 0 rfl rfl)
theorem dX14_plan_25 : decode cX14_plan 25 = .ok (.aload_n 1, 1) := dk_43 (dk_at dksX14_plan_1 3 rfl rfl)
theorem dX14_plan_26 : decode cX14_plan 26 = .ok (.aload_n 0, 1) := dk_42 (dk_at dksX14_plan_1 4 rfl rfl)
theorem dX14_plan_27 : decode cX14_plan 27 = .ok (.invokevirtual 80, 3) := dk_182 0 80 (dk_at dksX14_plan_1 5 rfl rfl)
theorem dX14_plan_30 : decode cX14_plan 30 = .ok (.invokevirtual 84, 3) := dk_182 0 84 (dk_at dksX14_plan_1 8 rfl rfl)
theorem dX14_plan_33 : decode cX14_plan 33 = .ok (.goto (-17), 3) := dk_167 255 239 (dk_at dksX14_plan_1 11 rfl rfl)
theorem dX14_plan_36 : decode cX14_plan 36 = .ok (.aload_n 0, 1) := dk_42 (dk_at dksX14_plan_1 14 rfl rfl)
theorem dX14_plan_37 : decode cX14_plan 37 = .ok (.getfield 15, 3) := dk_180 0 15 (dk_at dksX14_plan_1 15 rfl rfl)
theorem dX14_plan_40 : decode cX14_plan 40 = .ok (.aload_n 0, 1) := dk_42 (dk_at dksX14_plan_1 18 rfl rfl)
theorem dX14_plan_41 : decode cX14_plan 41 = .ok (.getfield 9, 3) := dk_180 0 9 (dk_at dksX14_plan_1 19 rfl rfl)
theorem dX14_plan_44 : decode cX14_plan 44 = .ok (.invokeinterface 19 1, 5) := by decide +kernel
theorem dX14_plan_49 : decode cX14_plan 49 = .ok (.if_icmp .ge 15, 3) := dk_162 0 15 (dk_at dksX14_plan_2 5 rfl rfl)
theorem dX14_plan_52 : decode cX14_plan 52 = .ok (.new 40, 3) := dk_187 0 40 (dk_at dksX14_plan_2 8 rfl rfl)
theorem dX14_plan_55 : decode cX14_plan 55 = .ok (.dup, 1) := dk_89 (dk_at dksX14_plan_2 11 rfl rfl)
theorem dX14_plan_56 : decode cX14_plan 56 = .ok (.aload_n 0, 1) := dk_42 (dk_at dksX14_plan_2 12 rfl rfl)
theorem dX14_plan_57 : decode cX14_plan 57 = .ok (.getfield 15, 3) := dk_180 0 15 (dk_at dksX14_plan_2 13 rfl rfl)
theorem dX14_plan_60 : decode cX14_plan 60 = .ok (.invokespecial 42, 3) := dk_183 0 42 (dk_at dksX14_plan_2 16 rfl rfl)
theorem dX14_plan_63 : decode cX14_plan 63 = .ok (.athrow, 1) := dk_191 (dk_at dksX14_plan_2 19 rfl rfl)
theorem dX14_plan_64 : decode cX14_plan 64 = .ok (.aload_n 1, 1) := dk_43 (dk_at dksX14_plan_2 20 rfl rfl)
theorem dX14_plan_65 : decode cX14_plan 65 = .ok (.areturn, 1) := dk_176 (dk_at dksX14_plan_2 21 rfl rfl)
abbrev cX14_step : ByteArray := prog_16_method_8_code
def yX14_step : MethodName := ⟨RX14, "step", "()LCrumblingWall$Step;"⟩
def dkwX14_step_3 : List UInt8 := [180, 0, 15, 183, 0, 42, 191]
abbrev dktX14_step_3 : List UInt8 := dkwX14_step_3 ++ []
def dkwX14_step_2 : List UInt8 := [182, 0, 73, 176, 42, 16, 49, 182, 0, 45, 153, 0, 9, 42, 4, 182, 0, 73, 176, 187, 0, 40, 89, 42]
abbrev dktX14_step_2 : List UInt8 := dkwX14_step_2 ++ dktX14_step_3
def dkwX14_step_1 : List UInt8 := [153, 0, 12, 187, 0, 68, 89, 3, 183, 0, 70, 176, 42, 16, 48, 182, 0, 45, 153, 0, 9, 42, 3]
abbrev dktX14_step_1 : List UInt8 := dkwX14_step_1 ++ dktX14_step_2
def dkwX14_step_0 : List UInt8 := [42, 16, 99, 182, 0, 45, 153, 0, 12, 187, 0, 68, 89, 4, 183, 0, 70, 176, 42, 16, 117, 182, 0, 45]
abbrev dktX14_step_0 : List UInt8 := dkwX14_step_0 ++ dktX14_step_1
theorem dksX14_step_0 : cX14_step.data.toList.drop 0 = dktX14_step_0 := by decide +kernel
theorem dksX14_step_1 : cX14_step.data.toList.drop 24 = dktX14_step_1 := dk_seg dksX14_step_0 24 rfl rfl
theorem dksX14_step_2 : cX14_step.data.toList.drop 47 = dktX14_step_2 := dk_seg dksX14_step_1 23 rfl rfl
theorem dksX14_step_3 : cX14_step.data.toList.drop 71 = dktX14_step_3 := dk_seg dksX14_step_2 24 rfl rfl
theorem dX14_step_0 : decode cX14_step 0 = .ok (.aload_n 0, 1) := dk_42 (dk_at dksX14_step_0 0 rfl rfl)
theorem dX14_step_1 : decode cX14_step 1 = .ok (.bipush 99, 2) := dk_16 99 (dk_at dksX14_step_0 1 rfl rfl)
theorem dX14_step_3 : decode cX14_step 3 = .ok (.invokevirtual 45, 3) := dk_182 0 45 (dk_at dksX14_step_0 3 rfl rfl)
theorem dX14_step_6 : decode cX14_step 6 = .ok (.ifCond .eq 12, 3) := dk_153 0 12 (dk_at dksX14_step_0 6 rfl rfl)
theorem dX14_step_9 : decode cX14_step 9 = .ok (.new 68, 3) := dk_187 0 68 (dk_at dksX14_step_0 9 rfl rfl)
theorem dX14_step_12 : decode cX14_step 12 = .ok (.dup, 1) := dk_89 (dk_at dksX14_step_0 12 rfl rfl)
theorem dX14_step_13 : decode cX14_step 13 = .ok (.iconst 1, 1) := dk_4 (dk_at dksX14_step_0 13 rfl rfl)
theorem dX14_step_14 : decode cX14_step 14 = .ok (.invokespecial 70, 3) := dk_183 0 70 (dk_at dksX14_step_0 14 rfl rfl)
theorem dX14_step_17 : decode cX14_step 17 = .ok (.areturn, 1) := dk_176 (dk_at dksX14_step_0 17 rfl rfl)
theorem dX14_step_18 : decode cX14_step 18 = .ok (.aload_n 0, 1) := dk_42 (dk_at dksX14_step_0 18 rfl rfl)
theorem dX14_step_19 : decode cX14_step 19 = .ok (.bipush 117, 2) := dk_16 117 (dk_at dksX14_step_0 19 rfl rfl)
theorem dX14_step_21 : decode cX14_step 21 = .ok (.invokevirtual 45, 3) := dk_182 0 45 (dk_at dksX14_step_0 21 rfl rfl)
theorem dX14_step_24 : decode cX14_step 24 = .ok (.ifCond .eq 12, 3) := dk_153 0 12 (dk_at dksX14_step_1 0 rfl rfl)
theorem dX14_step_27 : decode cX14_step 27 = .ok (.new 68, 3) := dk_187 0 68 (dk_at dksX14_step_1 3 rfl rfl)
theorem dX14_step_30 : decode cX14_step 30 = .ok (.dup, 1) := dk_89 (dk_at dksX14_step_1 6 rfl rfl)
theorem dX14_step_31 : decode cX14_step 31 = .ok (.iconst 0, 1) := dk_3 (dk_at dksX14_step_1 7 rfl rfl)
theorem dX14_step_32 : decode cX14_step 32 = .ok (.invokespecial 70, 3) := dk_183 0 70 (dk_at dksX14_step_1 8 rfl rfl)
theorem dX14_step_35 : decode cX14_step 35 = .ok (.areturn, 1) := dk_176 (dk_at dksX14_step_1 11 rfl rfl)
theorem dX14_step_36 : decode cX14_step 36 = .ok (.aload_n 0, 1) := dk_42 (dk_at dksX14_step_1 12 rfl rfl)
theorem dX14_step_37 : decode cX14_step 37 = .ok (.bipush 48, 2) := dk_16 48 (dk_at dksX14_step_1 13 rfl rfl)
theorem dX14_step_39 : decode cX14_step 39 = .ok (.invokevirtual 45, 3) := dk_182 0 45 (dk_at dksX14_step_1 15 rfl rfl)
theorem dX14_step_42 : decode cX14_step 42 = .ok (.ifCond .eq 9, 3) := dk_153 0 9 (dk_at dksX14_step_1 18 rfl rfl)
theorem dX14_step_45 : decode cX14_step 45 = .ok (.aload_n 0, 1) := dk_42 (dk_at dksX14_step_1 21 rfl rfl)
theorem dX14_step_46 : decode cX14_step 46 = .ok (.iconst 0, 1) := dk_3 (dk_at dksX14_step_1 22 rfl rfl)
theorem dX14_step_47 : decode cX14_step 47 = .ok (.invokevirtual 73, 3) := dk_182 0 73 (dk_at dksX14_step_2 0 rfl rfl)
theorem dX14_step_50 : decode cX14_step 50 = .ok (.areturn, 1) := dk_176 (dk_at dksX14_step_2 3 rfl rfl)
theorem dX14_step_51 : decode cX14_step 51 = .ok (.aload_n 0, 1) := dk_42 (dk_at dksX14_step_2 4 rfl rfl)
theorem dX14_step_52 : decode cX14_step 52 = .ok (.bipush 49, 2) := dk_16 49 (dk_at dksX14_step_2 5 rfl rfl)
theorem dX14_step_54 : decode cX14_step 54 = .ok (.invokevirtual 45, 3) := dk_182 0 45 (dk_at dksX14_step_2 7 rfl rfl)
theorem dX14_step_57 : decode cX14_step 57 = .ok (.ifCond .eq 9, 3) := dk_153 0 9 (dk_at dksX14_step_2 10 rfl rfl)
theorem dX14_step_60 : decode cX14_step 60 = .ok (.aload_n 0, 1) := dk_42 (dk_at dksX14_step_2 13 rfl rfl)
theorem dX14_step_61 : decode cX14_step 61 = .ok (.iconst 1, 1) := dk_4 (dk_at dksX14_step_2 14 rfl rfl)
theorem dX14_step_62 : decode cX14_step 62 = .ok (.invokevirtual 73, 3) := dk_182 0 73 (dk_at dksX14_step_2 15 rfl rfl)
theorem dX14_step_65 : decode cX14_step 65 = .ok (.areturn, 1) := dk_176 (dk_at dksX14_step_2 18 rfl rfl)
theorem dX14_step_66 : decode cX14_step 66 = .ok (.new 40, 3) := dk_187 0 40 (dk_at dksX14_step_2 19 rfl rfl)
theorem dX14_step_69 : decode cX14_step 69 = .ok (.dup, 1) := dk_89 (dk_at dksX14_step_2 22 rfl rfl)
theorem dX14_step_70 : decode cX14_step 70 = .ok (.aload_n 0, 1) := dk_42 (dk_at dksX14_step_2 23 rfl rfl)
theorem dX14_step_71 : decode cX14_step 71 = .ok (.getfield 15, 3) := dk_180 0 15 (dk_at dksX14_step_3 0 rfl rfl)
theorem dX14_step_74 : decode cX14_step 74 = .ok (.invokespecial 42, 3) := dk_183 0 42 (dk_at dksX14_step_3 3 rfl rfl)
theorem dX14_step_77 : decode cX14_step 77 = .ok (.athrow, 1) := dk_191 (dk_at dksX14_step_3 6 rfl rfl)
abbrev cX14_takes : ByteArray := prog_16_method_3_code
def yX14_takes : MethodName := ⟨RX14, "takes", "(I)Z"⟩
def dkwX14_takes_1 : List UInt8 := [167, 0, 4, 3, 96, 181, 0, 15, 28, 172]
abbrev dktX14_takes_1 : List UInt8 := dkwX14_takes_1 ++ []
def dkwX14_takes_0 : List UInt8 := [42, 182, 0, 29, 27, 160, 0, 7, 4, 167, 0, 4, 3, 61, 42, 89, 180, 0, 15, 28, 153, 0, 7, 4]
abbrev dktX14_takes_0 : List UInt8 := dkwX14_takes_0 ++ dktX14_takes_1
theorem dksX14_takes_0 : cX14_takes.data.toList.drop 0 = dktX14_takes_0 := by decide +kernel
theorem dksX14_takes_1 : cX14_takes.data.toList.drop 24 = dktX14_takes_1 := dk_seg dksX14_takes_0 24 rfl rfl
theorem dX14_takes_0 : decode cX14_takes 0 = .ok (.aload_n 0, 1) := dk_42 (dk_at dksX14_takes_0 0 rfl rfl)
theorem dX14_takes_1 : decode cX14_takes 1 = .ok (.invokevirtual 29, 3) := dk_182 0 29 (dk_at dksX14_takes_0 1 rfl rfl)
theorem dX14_takes_4 : decode cX14_takes 4 = .ok (.iload_n 1, 1) := dk_27 (dk_at dksX14_takes_0 4 rfl rfl)
theorem dX14_takes_5 : decode cX14_takes 5 = .ok (.if_icmp .ne 7, 3) := dk_160 0 7 (dk_at dksX14_takes_0 5 rfl rfl)
theorem dX14_takes_8 : decode cX14_takes 8 = .ok (.iconst 1, 1) := dk_4 (dk_at dksX14_takes_0 8 rfl rfl)
theorem dX14_takes_9 : decode cX14_takes 9 = .ok (.goto 4, 3) := dk_167 0 4 (dk_at dksX14_takes_0 9 rfl rfl)
theorem dX14_takes_12 : decode cX14_takes 12 = .ok (.iconst 0, 1) := dk_3 (dk_at dksX14_takes_0 12 rfl rfl)
theorem dX14_takes_13 : decode cX14_takes 13 = .ok (.istore_n 2, 1) := dk_61 (dk_at dksX14_takes_0 13 rfl rfl)
theorem dX14_takes_14 : decode cX14_takes 14 = .ok (.aload_n 0, 1) := dk_42 (dk_at dksX14_takes_0 14 rfl rfl)
theorem dX14_takes_15 : decode cX14_takes 15 = .ok (.dup, 1) := dk_89 (dk_at dksX14_takes_0 15 rfl rfl)
theorem dX14_takes_16 : decode cX14_takes 16 = .ok (.getfield 15, 3) := dk_180 0 15 (dk_at dksX14_takes_0 16 rfl rfl)
theorem dX14_takes_19 : decode cX14_takes 19 = .ok (.iload_n 2, 1) := dk_28 (dk_at dksX14_takes_0 19 rfl rfl)
theorem dX14_takes_20 : decode cX14_takes 20 = .ok (.ifCond .eq 7, 3) := dk_153 0 7 (dk_at dksX14_takes_0 20 rfl rfl)
theorem dX14_takes_23 : decode cX14_takes 23 = .ok (.iconst 1, 1) := dk_4 (dk_at dksX14_takes_0 23 rfl rfl)
theorem dX14_takes_24 : decode cX14_takes 24 = .ok (.goto 4, 3) := dk_167 0 4 (dk_at dksX14_takes_1 0 rfl rfl)
theorem dX14_takes_27 : decode cX14_takes 27 = .ok (.iconst 0, 1) := dk_3 (dk_at dksX14_takes_1 3 rfl rfl)
theorem dX14_takes_28 : decode cX14_takes 28 = .ok (.iadd, 1) := dk_96 (dk_at dksX14_takes_1 4 rfl rfl)
theorem dX14_takes_29 : decode cX14_takes 29 = .ok (.putfield 15, 3) := dk_181 0 15 (dk_at dksX14_takes_1 5 rfl rfl)
theorem dX14_takes_32 : decode cX14_takes 32 = .ok (.iload_n 2, 1) := dk_28 (dk_at dksX14_takes_1 8 rfl rfl)
theorem dX14_takes_33 : decode cX14_takes 33 = .ok (.ireturn, 1) := dk_172 (dk_at dksX14_takes_1 9 rfl rfl)
abbrev cX14_here : ByteArray := prog_16_method_2_code
def yX14_here : MethodName := ⟨RX14, "here", "()I"⟩
def dkwX14_here_1 : List UInt8 := [185, 0, 25, 2, 0, 167, 0, 4, 2, 172]
abbrev dktX14_here_1 : List UInt8 := dkwX14_here_1 ++ []
def dkwX14_here_0 : List UInt8 := [42, 180, 0, 15, 42, 180, 0, 9, 185, 0, 19, 1, 0, 162, 0, 19, 42, 180, 0, 9, 42, 180, 0, 15]
abbrev dktX14_here_0 : List UInt8 := dkwX14_here_0 ++ dktX14_here_1
theorem dksX14_here_0 : cX14_here.data.toList.drop 0 = dktX14_here_0 := by decide +kernel
theorem dksX14_here_1 : cX14_here.data.toList.drop 24 = dktX14_here_1 := dk_seg dksX14_here_0 24 rfl rfl
theorem dX14_here_0 : decode cX14_here 0 = .ok (.aload_n 0, 1) := dk_42 (dk_at dksX14_here_0 0 rfl rfl)
theorem dX14_here_1 : decode cX14_here 1 = .ok (.getfield 15, 3) := dk_180 0 15 (dk_at dksX14_here_0 1 rfl rfl)
theorem dX14_here_4 : decode cX14_here 4 = .ok (.aload_n 0, 1) := dk_42 (dk_at dksX14_here_0 4 rfl rfl)
theorem dX14_here_5 : decode cX14_here 5 = .ok (.getfield 9, 3) := dk_180 0 9 (dk_at dksX14_here_0 5 rfl rfl)
theorem dX14_here_8 : decode cX14_here 8 = .ok (.invokeinterface 19 1, 5) := by decide +kernel
theorem dX14_here_13 : decode cX14_here 13 = .ok (.if_icmp .ge 19, 3) := dk_162 0 19 (dk_at dksX14_here_0 13 rfl rfl)
theorem dX14_here_16 : decode cX14_here 16 = .ok (.aload_n 0, 1) := dk_42 (dk_at dksX14_here_0 16 rfl rfl)
theorem dX14_here_17 : decode cX14_here 17 = .ok (.getfield 9, 3) := dk_180 0 9 (dk_at dksX14_here_0 17 rfl rfl)
theorem dX14_here_20 : decode cX14_here 20 = .ok (.aload_n 0, 1) := dk_42 (dk_at dksX14_here_0 20 rfl rfl)
theorem dX14_here_21 : decode cX14_here 21 = .ok (.getfield 15, 3) := dk_180 0 15 (dk_at dksX14_here_0 21 rfl rfl)
theorem dX14_here_24 : decode cX14_here 24 = .ok (.invokeinterface 25 2, 5) := by decide +kernel
theorem dX14_here_29 : decode cX14_here 29 = .ok (.goto 4, 3) := dk_167 0 4 (dk_at dksX14_here_1 5 rfl rfl)
theorem dX14_here_32 : decode cX14_here 32 = .ok (.iconst (-1), 1) := dk_2 (dk_at dksX14_here_1 8 rfl rfl)
theorem dX14_here_33 : decode cX14_here 33 = .ok (.ireturn, 1) := dk_172 (dk_at dksX14_here_1 9 rfl rfl)
abbrev cX14_ofClimber : ByteArray := prog_16_method_7_code
def yX14_ofClimber : MethodName := ⟨RX14, "ofClimber", "(I)LCrumblingWall$Step;"⟩
def dkwX14_ofClimber_4 : List UInt8 := [182, 0, 49, 183, 0, 65, 176]
abbrev dktX14_ofClimber_4 : List UInt8 := dkwX14_ofClimber_4 ++ []
def dkwX14_ofClimber_3 : List UInt8 := [180, 0, 15, 183, 0, 42, 191, 42, 89, 180, 0, 15, 4, 96, 181, 0, 15, 187, 0, 63, 89, 27, 28, 42]
abbrev dktX14_ofClimber_3 : List UInt8 := dkwX14_ofClimber_3 ++ dktX14_ofClimber_4
def dkwX14_ofClimber_2 : List UInt8 := [16, 43, 159, 0, 27, 28, 16, 45, 159, 0, 21, 28, 16, 42, 159, 0, 15, 187, 0, 40, 89, 42]
abbrev dktX14_ofClimber_2 : List UInt8 := dkwX14_ofClimber_2 ++ dktX14_ofClimber_3
def dkwX14_ofClimber_1 : List UInt8 := [16, 114, 182, 0, 45, 153, 0, 12, 187, 0, 60, 89, 27, 183, 0, 62, 176, 42, 182, 0, 29, 61, 28]
abbrev dktX14_ofClimber_1 : List UInt8 := dkwX14_ofClimber_1 ++ dktX14_ofClimber_2
def dkwX14_ofClimber_0 : List UInt8 := [42, 16, 62, 182, 0, 45, 153, 0, 16, 187, 0, 52, 89, 27, 42, 182, 0, 54, 183, 0, 57, 176, 42]
abbrev dktX14_ofClimber_0 : List UInt8 := dkwX14_ofClimber_0 ++ dktX14_ofClimber_1
theorem dksX14_ofClimber_0 : cX14_ofClimber.data.toList.drop 0 = dktX14_ofClimber_0 := by decide +kernel
theorem dksX14_ofClimber_1 : cX14_ofClimber.data.toList.drop 23 = dktX14_ofClimber_1 := dk_seg dksX14_ofClimber_0 23 rfl rfl
theorem dksX14_ofClimber_2 : cX14_ofClimber.data.toList.drop 46 = dktX14_ofClimber_2 := dk_seg dksX14_ofClimber_1 23 rfl rfl
theorem dksX14_ofClimber_3 : cX14_ofClimber.data.toList.drop 68 = dktX14_ofClimber_3 := dk_seg dksX14_ofClimber_2 22 rfl rfl
theorem dksX14_ofClimber_4 : cX14_ofClimber.data.toList.drop 92 = dktX14_ofClimber_4 := dk_seg dksX14_ofClimber_3 24 rfl rfl
theorem dX14_ofClimber_0 : decode cX14_ofClimber 0 = .ok (.aload_n 0, 1) := dk_42 (dk_at dksX14_ofClimber_0 0 rfl rfl)
theorem dX14_ofClimber_1 : decode cX14_ofClimber 1 = .ok (.bipush 62, 2) := dk_16 62 (dk_at dksX14_ofClimber_0 1 rfl rfl)
theorem dX14_ofClimber_3 : decode cX14_ofClimber 3 = .ok (.invokevirtual 45, 3) := dk_182 0 45 (dk_at dksX14_ofClimber_0 3 rfl rfl)
theorem dX14_ofClimber_6 : decode cX14_ofClimber 6 = .ok (.ifCond .eq 16, 3) := dk_153 0 16 (dk_at dksX14_ofClimber_0 6 rfl rfl)
theorem dX14_ofClimber_9 : decode cX14_ofClimber 9 = .ok (.new 52, 3) := dk_187 0 52 (dk_at dksX14_ofClimber_0 9 rfl rfl)
theorem dX14_ofClimber_12 : decode cX14_ofClimber 12 = .ok (.dup, 1) := dk_89 (dk_at dksX14_ofClimber_0 12 rfl rfl)
theorem dX14_ofClimber_13 : decode cX14_ofClimber 13 = .ok (.iload_n 1, 1) := dk_27 (dk_at dksX14_ofClimber_0 13 rfl rfl)
theorem dX14_ofClimber_14 : decode cX14_ofClimber 14 = .ok (.aload_n 0, 1) := dk_42 (dk_at dksX14_ofClimber_0 14 rfl rfl)
theorem dX14_ofClimber_15 : decode cX14_ofClimber 15 = .ok (.invokevirtual 54, 3) := dk_182 0 54 (dk_at dksX14_ofClimber_0 15 rfl rfl)
theorem dX14_ofClimber_18 : decode cX14_ofClimber 18 = .ok (.invokespecial 57, 3) := dk_183 0 57 (dk_at dksX14_ofClimber_0 18 rfl rfl)
theorem dX14_ofClimber_21 : decode cX14_ofClimber 21 = .ok (.areturn, 1) := dk_176 (dk_at dksX14_ofClimber_0 21 rfl rfl)
theorem dX14_ofClimber_22 : decode cX14_ofClimber 22 = .ok (.aload_n 0, 1) := dk_42 (dk_at dksX14_ofClimber_0 22 rfl rfl)
theorem dX14_ofClimber_23 : decode cX14_ofClimber 23 = .ok (.bipush 114, 2) := dk_16 114 (dk_at dksX14_ofClimber_1 0 rfl rfl)
theorem dX14_ofClimber_25 : decode cX14_ofClimber 25 = .ok (.invokevirtual 45, 3) := dk_182 0 45 (dk_at dksX14_ofClimber_1 2 rfl rfl)
theorem dX14_ofClimber_28 : decode cX14_ofClimber 28 = .ok (.ifCond .eq 12, 3) := dk_153 0 12 (dk_at dksX14_ofClimber_1 5 rfl rfl)
theorem dX14_ofClimber_31 : decode cX14_ofClimber 31 = .ok (.new 60, 3) := dk_187 0 60 (dk_at dksX14_ofClimber_1 8 rfl rfl)
theorem dX14_ofClimber_34 : decode cX14_ofClimber 34 = .ok (.dup, 1) := dk_89 (dk_at dksX14_ofClimber_1 11 rfl rfl)
theorem dX14_ofClimber_35 : decode cX14_ofClimber 35 = .ok (.iload_n 1, 1) := dk_27 (dk_at dksX14_ofClimber_1 12 rfl rfl)
theorem dX14_ofClimber_36 : decode cX14_ofClimber 36 = .ok (.invokespecial 62, 3) := dk_183 0 62 (dk_at dksX14_ofClimber_1 13 rfl rfl)
theorem dX14_ofClimber_39 : decode cX14_ofClimber 39 = .ok (.areturn, 1) := dk_176 (dk_at dksX14_ofClimber_1 16 rfl rfl)
theorem dX14_ofClimber_40 : decode cX14_ofClimber 40 = .ok (.aload_n 0, 1) := dk_42 (dk_at dksX14_ofClimber_1 17 rfl rfl)
theorem dX14_ofClimber_41 : decode cX14_ofClimber 41 = .ok (.invokevirtual 29, 3) := dk_182 0 29 (dk_at dksX14_ofClimber_1 18 rfl rfl)
theorem dX14_ofClimber_44 : decode cX14_ofClimber 44 = .ok (.istore_n 2, 1) := dk_61 (dk_at dksX14_ofClimber_1 21 rfl rfl)
theorem dX14_ofClimber_45 : decode cX14_ofClimber 45 = .ok (.iload_n 2, 1) := dk_28 (dk_at dksX14_ofClimber_1 22 rfl rfl)
theorem dX14_ofClimber_46 : decode cX14_ofClimber 46 = .ok (.bipush 43, 2) := dk_16 43 (dk_at dksX14_ofClimber_2 0 rfl rfl)
theorem dX14_ofClimber_48 : decode cX14_ofClimber 48 = .ok (.if_icmp .eq 27, 3) := dk_159 0 27 (dk_at dksX14_ofClimber_2 2 rfl rfl)
theorem dX14_ofClimber_51 : decode cX14_ofClimber 51 = .ok (.iload_n 2, 1) := dk_28 (dk_at dksX14_ofClimber_2 5 rfl rfl)
theorem dX14_ofClimber_52 : decode cX14_ofClimber 52 = .ok (.bipush 45, 2) := dk_16 45 (dk_at dksX14_ofClimber_2 6 rfl rfl)
theorem dX14_ofClimber_54 : decode cX14_ofClimber 54 = .ok (.if_icmp .eq 21, 3) := dk_159 0 21 (dk_at dksX14_ofClimber_2 8 rfl rfl)
theorem dX14_ofClimber_57 : decode cX14_ofClimber 57 = .ok (.iload_n 2, 1) := dk_28 (dk_at dksX14_ofClimber_2 11 rfl rfl)
theorem dX14_ofClimber_58 : decode cX14_ofClimber 58 = .ok (.bipush 42, 2) := dk_16 42 (dk_at dksX14_ofClimber_2 12 rfl rfl)
theorem dX14_ofClimber_60 : decode cX14_ofClimber 60 = .ok (.if_icmp .eq 15, 3) := dk_159 0 15 (dk_at dksX14_ofClimber_2 14 rfl rfl)
theorem dX14_ofClimber_63 : decode cX14_ofClimber 63 = .ok (.new 40, 3) := dk_187 0 40 (dk_at dksX14_ofClimber_2 17 rfl rfl)
theorem dX14_ofClimber_66 : decode cX14_ofClimber 66 = .ok (.dup, 1) := dk_89 (dk_at dksX14_ofClimber_2 20 rfl rfl)
theorem dX14_ofClimber_67 : decode cX14_ofClimber 67 = .ok (.aload_n 0, 1) := dk_42 (dk_at dksX14_ofClimber_2 21 rfl rfl)
theorem dX14_ofClimber_68 : decode cX14_ofClimber 68 = .ok (.getfield 15, 3) := dk_180 0 15 (dk_at dksX14_ofClimber_3 0 rfl rfl)
theorem dX14_ofClimber_71 : decode cX14_ofClimber 71 = .ok (.invokespecial 42, 3) := dk_183 0 42 (dk_at dksX14_ofClimber_3 3 rfl rfl)
theorem dX14_ofClimber_74 : decode cX14_ofClimber 74 = .ok (.athrow, 1) := dk_191 (dk_at dksX14_ofClimber_3 6 rfl rfl)
theorem dX14_ofClimber_75 : decode cX14_ofClimber 75 = .ok (.aload_n 0, 1) := dk_42 (dk_at dksX14_ofClimber_3 7 rfl rfl)
theorem dX14_ofClimber_76 : decode cX14_ofClimber 76 = .ok (.dup, 1) := dk_89 (dk_at dksX14_ofClimber_3 8 rfl rfl)
theorem dX14_ofClimber_77 : decode cX14_ofClimber 77 = .ok (.getfield 15, 3) := dk_180 0 15 (dk_at dksX14_ofClimber_3 9 rfl rfl)
theorem dX14_ofClimber_80 : decode cX14_ofClimber 80 = .ok (.iconst 1, 1) := dk_4 (dk_at dksX14_ofClimber_3 12 rfl rfl)
theorem dX14_ofClimber_81 : decode cX14_ofClimber 81 = .ok (.iadd, 1) := dk_96 (dk_at dksX14_ofClimber_3 13 rfl rfl)
theorem dX14_ofClimber_82 : decode cX14_ofClimber 82 = .ok (.putfield 15, 3) := dk_181 0 15 (dk_at dksX14_ofClimber_3 14 rfl rfl)
theorem dX14_ofClimber_85 : decode cX14_ofClimber 85 = .ok (.new 63, 3) := dk_187 0 63 (dk_at dksX14_ofClimber_3 17 rfl rfl)
theorem dX14_ofClimber_88 : decode cX14_ofClimber 88 = .ok (.dup, 1) := dk_89 (dk_at dksX14_ofClimber_3 20 rfl rfl)
theorem dX14_ofClimber_89 : decode cX14_ofClimber 89 = .ok (.iload_n 1, 1) := dk_27 (dk_at dksX14_ofClimber_3 21 rfl rfl)
theorem dX14_ofClimber_90 : decode cX14_ofClimber 90 = .ok (.iload_n 2, 1) := dk_28 (dk_at dksX14_ofClimber_3 22 rfl rfl)
theorem dX14_ofClimber_91 : decode cX14_ofClimber 91 = .ok (.aload_n 0, 1) := dk_42 (dk_at dksX14_ofClimber_3 23 rfl rfl)
theorem dX14_ofClimber_92 : decode cX14_ofClimber 92 = .ok (.invokevirtual 49, 3) := dk_182 0 49 (dk_at dksX14_ofClimber_4 0 rfl rfl)
theorem dX14_ofClimber_95 : decode cX14_ofClimber 95 = .ok (.invokespecial 65, 3) := dk_183 0 65 (dk_at dksX14_ofClimber_4 3 rfl rfl)
theorem dX14_ofClimber_98 : decode cX14_ofClimber 98 = .ok (.areturn, 1) := dk_176 (dk_at dksX14_ofClimber_4 6 rfl rfl)
abbrev cX14_place : ByteArray := prog_16_method_6_code
def yX14_place : MethodName := ⟨RX14, "place", "()I"⟩
def dkwX14_place_1 : List UInt8 := [16, 10, 27, 104, 42, 182, 0, 49, 96, 167, 0, 4, 27, 172]
abbrev dktX14_place_1 : List UInt8 := dkwX14_place_1 ++ []
def dkwX14_place_0 : List UInt8 := [42, 16, 103, 182, 0, 45, 153, 0, 5, 2, 172, 42, 182, 0, 49, 60, 42, 182, 0, 36, 153, 0, 15]
abbrev dktX14_place_0 : List UInt8 := dkwX14_place_0 ++ dktX14_place_1
theorem dksX14_place_0 : cX14_place.data.toList.drop 0 = dktX14_place_0 := by decide +kernel
theorem dksX14_place_1 : cX14_place.data.toList.drop 23 = dktX14_place_1 := dk_seg dksX14_place_0 23 rfl rfl
theorem dX14_place_0 : decode cX14_place 0 = .ok (.aload_n 0, 1) := dk_42 (dk_at dksX14_place_0 0 rfl rfl)
theorem dX14_place_1 : decode cX14_place 1 = .ok (.bipush 103, 2) := dk_16 103 (dk_at dksX14_place_0 1 rfl rfl)
theorem dX14_place_3 : decode cX14_place 3 = .ok (.invokevirtual 45, 3) := dk_182 0 45 (dk_at dksX14_place_0 3 rfl rfl)
theorem dX14_place_6 : decode cX14_place 6 = .ok (.ifCond .eq 5, 3) := dk_153 0 5 (dk_at dksX14_place_0 6 rfl rfl)
theorem dX14_place_9 : decode cX14_place 9 = .ok (.iconst (-1), 1) := dk_2 (dk_at dksX14_place_0 9 rfl rfl)
theorem dX14_place_10 : decode cX14_place 10 = .ok (.ireturn, 1) := dk_172 (dk_at dksX14_place_0 10 rfl rfl)
theorem dX14_place_11 : decode cX14_place 11 = .ok (.aload_n 0, 1) := dk_42 (dk_at dksX14_place_0 11 rfl rfl)
theorem dX14_place_12 : decode cX14_place 12 = .ok (.invokevirtual 49, 3) := dk_182 0 49 (dk_at dksX14_place_0 12 rfl rfl)
theorem dX14_place_15 : decode cX14_place 15 = .ok (.istore_n 1, 1) := dk_60 (dk_at dksX14_place_0 15 rfl rfl)
theorem dX14_place_16 : decode cX14_place 16 = .ok (.aload_n 0, 1) := dk_42 (dk_at dksX14_place_0 16 rfl rfl)
theorem dX14_place_17 : decode cX14_place 17 = .ok (.invokevirtual 36, 3) := dk_182 0 36 (dk_at dksX14_place_0 17 rfl rfl)
theorem dX14_place_20 : decode cX14_place 20 = .ok (.ifCond .eq 15, 3) := dk_153 0 15 (dk_at dksX14_place_0 20 rfl rfl)
theorem dX14_place_23 : decode cX14_place 23 = .ok (.bipush 10, 2) := dk_16 10 (dk_at dksX14_place_1 0 rfl rfl)
theorem dX14_place_25 : decode cX14_place 25 = .ok (.iload_n 1, 1) := dk_27 (dk_at dksX14_place_1 2 rfl rfl)
theorem dX14_place_26 : decode cX14_place 26 = .ok (.imul, 1) := dk_104 (dk_at dksX14_place_1 3 rfl rfl)
theorem dX14_place_27 : decode cX14_place 27 = .ok (.aload_n 0, 1) := dk_42 (dk_at dksX14_place_1 4 rfl rfl)
theorem dX14_place_28 : decode cX14_place 28 = .ok (.invokevirtual 49, 3) := dk_182 0 49 (dk_at dksX14_place_1 5 rfl rfl)
theorem dX14_place_31 : decode cX14_place 31 = .ok (.iadd, 1) := dk_96 (dk_at dksX14_place_1 8 rfl rfl)
theorem dX14_place_32 : decode cX14_place 32 = .ok (.goto 4, 3) := dk_167 0 4 (dk_at dksX14_place_1 9 rfl rfl)
theorem dX14_place_35 : decode cX14_place 35 = .ok (.iload_n 1, 1) := dk_27 (dk_at dksX14_place_1 12 rfl rfl)
theorem dX14_place_36 : decode cX14_place 36 = .ok (.ireturn, 1) := dk_172 (dk_at dksX14_place_1 13 rfl rfl)
abbrev cX14_digit : ByteArray := prog_16_method_5_code
def yX14_digit : MethodName := ⟨RX14, "digit", "()I"⟩
def dkwX14_digit_1 : List UInt8 := [4, 96, 181, 0, 15, 42, 180, 0, 9, 42, 180, 0, 15, 4, 100, 185, 0, 25, 2, 0, 16, 48, 100, 172]
abbrev dktX14_digit_1 : List UInt8 := dkwX14_digit_1 ++ []
def dkwX14_digit_0 : List UInt8 := [42, 182, 0, 36, 154, 0, 15, 187, 0, 40, 89, 42, 180, 0, 15, 183, 0, 42, 191, 42, 89, 180, 0, 15]
abbrev dktX14_digit_0 : List UInt8 := dkwX14_digit_0 ++ dktX14_digit_1
theorem dksX14_digit_0 : cX14_digit.data.toList.drop 0 = dktX14_digit_0 := by decide +kernel
theorem dksX14_digit_1 : cX14_digit.data.toList.drop 24 = dktX14_digit_1 := dk_seg dksX14_digit_0 24 rfl rfl
theorem dX14_digit_0 : decode cX14_digit 0 = .ok (.aload_n 0, 1) := dk_42 (dk_at dksX14_digit_0 0 rfl rfl)
theorem dX14_digit_1 : decode cX14_digit 1 = .ok (.invokevirtual 36, 3) := dk_182 0 36 (dk_at dksX14_digit_0 1 rfl rfl)
theorem dX14_digit_4 : decode cX14_digit 4 = .ok (.ifCond .ne 15, 3) := dk_154 0 15 (dk_at dksX14_digit_0 4 rfl rfl)
theorem dX14_digit_7 : decode cX14_digit 7 = .ok (.new 40, 3) := dk_187 0 40 (dk_at dksX14_digit_0 7 rfl rfl)
theorem dX14_digit_10 : decode cX14_digit 10 = .ok (.dup, 1) := dk_89 (dk_at dksX14_digit_0 10 rfl rfl)
theorem dX14_digit_11 : decode cX14_digit 11 = .ok (.aload_n 0, 1) := dk_42 (dk_at dksX14_digit_0 11 rfl rfl)
theorem dX14_digit_12 : decode cX14_digit 12 = .ok (.getfield 15, 3) := dk_180 0 15 (dk_at dksX14_digit_0 12 rfl rfl)
theorem dX14_digit_15 : decode cX14_digit 15 = .ok (.invokespecial 42, 3) := dk_183 0 42 (dk_at dksX14_digit_0 15 rfl rfl)
theorem dX14_digit_18 : decode cX14_digit 18 = .ok (.athrow, 1) := dk_191 (dk_at dksX14_digit_0 18 rfl rfl)
theorem dX14_digit_19 : decode cX14_digit 19 = .ok (.aload_n 0, 1) := dk_42 (dk_at dksX14_digit_0 19 rfl rfl)
theorem dX14_digit_20 : decode cX14_digit 20 = .ok (.dup, 1) := dk_89 (dk_at dksX14_digit_0 20 rfl rfl)
theorem dX14_digit_21 : decode cX14_digit 21 = .ok (.getfield 15, 3) := dk_180 0 15 (dk_at dksX14_digit_0 21 rfl rfl)
theorem dX14_digit_24 : decode cX14_digit 24 = .ok (.iconst 1, 1) := dk_4 (dk_at dksX14_digit_1 0 rfl rfl)
theorem dX14_digit_25 : decode cX14_digit 25 = .ok (.iadd, 1) := dk_96 (dk_at dksX14_digit_1 1 rfl rfl)
theorem dX14_digit_26 : decode cX14_digit 26 = .ok (.putfield 15, 3) := dk_181 0 15 (dk_at dksX14_digit_1 2 rfl rfl)
theorem dX14_digit_29 : decode cX14_digit 29 = .ok (.aload_n 0, 1) := dk_42 (dk_at dksX14_digit_1 5 rfl rfl)
theorem dX14_digit_30 : decode cX14_digit 30 = .ok (.getfield 9, 3) := dk_180 0 9 (dk_at dksX14_digit_1 6 rfl rfl)
theorem dX14_digit_33 : decode cX14_digit 33 = .ok (.aload_n 0, 1) := dk_42 (dk_at dksX14_digit_1 9 rfl rfl)
theorem dX14_digit_34 : decode cX14_digit 34 = .ok (.getfield 15, 3) := dk_180 0 15 (dk_at dksX14_digit_1 10 rfl rfl)
theorem dX14_digit_37 : decode cX14_digit 37 = .ok (.iconst 1, 1) := dk_4 (dk_at dksX14_digit_1 13 rfl rfl)
theorem dX14_digit_38 : decode cX14_digit 38 = .ok (.isub, 1) := dk_100 (dk_at dksX14_digit_1 14 rfl rfl)
theorem dX14_digit_39 : decode cX14_digit 39 = .ok (.invokeinterface 25 2, 5) := by decide +kernel
theorem dX14_digit_44 : decode cX14_digit 44 = .ok (.bipush 48, 2) := dk_16 48 (dk_at dksX14_digit_1 20 rfl rfl)
theorem dX14_digit_46 : decode cX14_digit 46 = .ok (.isub, 1) := dk_100 (dk_at dksX14_digit_1 22 rfl rfl)
theorem dX14_digit_47 : decode cX14_digit 47 = .ok (.ireturn, 1) := dk_172 (dk_at dksX14_digit_1 23 rfl rfl)
abbrev cX14_isDigit : ByteArray := prog_16_method_4_code
def yX14_isDigit : MethodName := ⟨RX14, "isDigit", "()Z"⟩
def dkwX14_isDigit_0 : List UInt8 := [42, 182, 0, 29, 16, 48, 16, 57, 184, 0, 32, 172]
abbrev dktX14_isDigit_0 : List UInt8 := dkwX14_isDigit_0 ++ []
theorem dksX14_isDigit_0 : cX14_isDigit.data.toList.drop 0 = dktX14_isDigit_0 := by decide +kernel
theorem dX14_isDigit_0 : decode cX14_isDigit 0 = .ok (.aload_n 0, 1) := dk_42 (dk_at dksX14_isDigit_0 0 rfl rfl)
theorem dX14_isDigit_1 : decode cX14_isDigit 1 = .ok (.invokevirtual 29, 3) := dk_182 0 29 (dk_at dksX14_isDigit_0 1 rfl rfl)
theorem dX14_isDigit_4 : decode cX14_isDigit 4 = .ok (.bipush 48, 2) := dk_16 48 (dk_at dksX14_isDigit_0 4 rfl rfl)
theorem dX14_isDigit_6 : decode cX14_isDigit 6 = .ok (.bipush 57, 2) := dk_16 57 (dk_at dksX14_isDigit_0 6 rfl rfl)
theorem dX14_isDigit_8 : decode cX14_isDigit 8 = .ok (.invokestatic 32, 3) := dk_184 0 32 (dk_at dksX14_isDigit_0 8 rfl rfl)
theorem dX14_isDigit_11 : decode cX14_isDigit 11 = .ok (.ireturn, 1) := dk_172 (dk_at dksX14_isDigit_0 11 rfl rfl)
theorem q179 : (Jvm.Cond.initialized "CrumblingWall$Reader") ∈ lw_all := lw_g (lw_at lw_m1 60 rfl) rfl
theorem q1089 : (Jvm.Cond.selects "CrumblingWall$Reader" ({ cls := "java/lang/Object", name := "getClass", desc := "()Ljava/lang/Class;" } : Jvm.MethodName) ({ cls := "java/lang/Object", name := "getClass", desc := "()Ljava/lang/Class;" } : Jvm.MethodName)) ∈ lw_all := lw_g (lw_at lw_m5 10 rfl) rfl
theorem q2574 : (Jvm.Cond.instantiable "CrumblingWall$Reader" (2 : Nat)) ∈ lw_all := lw_g (lw_at lw_m11 55 rfl) rfl
theorem q2576 : (Jvm.Cond.instanceMethod ({ cls := "CrumblingWall$Reader", name := "<init>", desc := "(Ljava/lang/CharSequence;)V" } : Jvm.MethodName)) ∈ lw_all := lw_g (lw_at lw_m11 57 rfl) rfl
theorem q2577 : (Jvm.Cond.code ({ cls := "CrumblingWall$Reader", name := "<init>", desc := "(Ljava/lang/CharSequence;)V" } : Jvm.MethodName) prog_16_method_1_code (2 : Nat) (Option.none : Option Jvm.ClassFile.FieldType)) ∈ lw_all := lw_g (lw_at lw_m11 58 rfl) rfl
theorem q2578 : (Jvm.Cond.methodLink "CrumblingWall$Reader" (3 : Nat) ({ cls := "java/lang/Object", name := "<init>", desc := "()V" } : Jvm.MethodName)) ∈ lw_all := lw_g (lw_at lw_m11 59 rfl) rfl
theorem q2579 : (Jvm.Cond.fieldLink "CrumblingWall$Reader" (9 : Nat) "CrumblingWall$Reader" "text" "Ljava/lang/CharSequence;") ∈ lw_all := lw_g (lw_at lw_m11 60 rfl) rfl
theorem q2580 : (Jvm.Cond.fieldLink "CrumblingWall$Reader" (15 : Nat) "CrumblingWall$Reader" "at" "I") ∈ lw_all := lw_g (lw_at lw_m11 61 rfl) rfl
theorem q2581 : (Jvm.Cond.laysFinal "CrumblingWall$Reader" "CrumblingWall$Reader" "text" "Ljava/lang/CharSequence;") ∈ lw_all := lw_g (lw_at lw_m11 62 rfl) rfl
theorem q2582 : (Jvm.Cond.soleField "CrumblingWall$Reader" "text") ∈ lw_all := lw_g (lw_at lw_m11 63 rfl) rfl
theorem q2583 : (Jvm.Cond.lays "CrumblingWall$Reader" "CrumblingWall$Reader" "at" "I") ∈ lw_all := lw_g (lw_at lw_m11 64 rfl) rfl
theorem q2584 : (Jvm.Cond.soleField "CrumblingWall$Reader" "at") ∈ lw_all := lw_g (lw_at lw_m11 65 rfl) rfl
theorem q2585 : (Jvm.Cond.superclass "CrumblingWall$Reader" "java/lang/Object") ∈ lw_all := lw_g (lw_at lw_m11 66 rfl) rfl
theorem q2587 : (Jvm.Cond.instanceMethod ({ cls := "CrumblingWall$Reader", name := "plan", desc := "()Ljava/util/LinkedList;" } : Jvm.MethodName)) ∈ lw_all := lw_g (lw_at lw_m11 68 rfl) rfl
theorem q2588 : (Jvm.Cond.selects "CrumblingWall$Reader" ({ cls := "CrumblingWall$Reader", name := "plan", desc := "()Ljava/util/LinkedList;" } : Jvm.MethodName) ({ cls := "CrumblingWall$Reader", name := "plan", desc := "()Ljava/util/LinkedList;" } : Jvm.MethodName)) ∈ lw_all := lw_g (lw_at lw_m11 69 rfl) rfl
theorem q2589 : (Jvm.Cond.code ({ cls := "CrumblingWall$Reader", name := "plan", desc := "()Ljava/util/LinkedList;" } : Jvm.MethodName) prog_16_method_9_code (2 : Nat) (Option.some (Jvm.ClassFile.FieldType.object "java/util/LinkedList"))) ∈ lw_all := lw_g (lw_at lw_m11 70 rfl) rfl
theorem q2590 : (Jvm.Cond.classLink "CrumblingWall$Reader" (77 : Nat) "java/util/LinkedList") ∈ lw_all := lw_g (lw_at lw_m11 71 rfl) rfl
theorem q2591 : (Jvm.Cond.methodLink "CrumblingWall$Reader" (79 : Nat) ({ cls := "java/util/LinkedList", name := "<init>", desc := "()V" } : Jvm.MethodName)) ∈ lw_all := lw_g (lw_at lw_m11 72 rfl) rfl
theorem q2592 : (Jvm.Cond.methodLink "CrumblingWall$Reader" (80 : Nat) ({ cls := "CrumblingWall$Reader", name := "step", desc := "()LCrumblingWall$Step;" } : Jvm.MethodName)) ∈ lw_all := lw_g (lw_at lw_m11 73 rfl) rfl
theorem q2593 : (Jvm.Cond.privateMethod ({ cls := "CrumblingWall$Reader", name := "step", desc := "()LCrumblingWall$Step;" } : Jvm.MethodName)) ∈ lw_tbl := lw_at lw_m11 74 rfl
theorem q2594 : (Jvm.Cond.instanceMethod ({ cls := "CrumblingWall$Reader", name := "step", desc := "()LCrumblingWall$Step;" } : Jvm.MethodName)) ∈ lw_all := lw_g (lw_at lw_m11 75 rfl) rfl
theorem q2595 : (Jvm.Cond.code ({ cls := "CrumblingWall$Reader", name := "step", desc := "()LCrumblingWall$Step;" } : Jvm.MethodName) prog_16_method_8_code (1 : Nat) (Option.some (Jvm.ClassFile.FieldType.object "CrumblingWall$Step"))) ∈ lw_all := lw_g (lw_at lw_m11 76 rfl) rfl
theorem q2596 : (Jvm.Cond.methodLink "CrumblingWall$Reader" (45 : Nat) ({ cls := "CrumblingWall$Reader", name := "takes", desc := "(I)Z" } : Jvm.MethodName)) ∈ lw_all := lw_g (lw_at lw_m11 77 rfl) rfl
theorem q2597 : (Jvm.Cond.privateMethod ({ cls := "CrumblingWall$Reader", name := "takes", desc := "(I)Z" } : Jvm.MethodName)) ∈ lw_tbl := lw_at lw_m11 78 rfl
theorem q2598 : (Jvm.Cond.instanceMethod ({ cls := "CrumblingWall$Reader", name := "takes", desc := "(I)Z" } : Jvm.MethodName)) ∈ lw_all := lw_g (lw_at lw_m11 79 rfl) rfl
theorem q2599 : (Jvm.Cond.code ({ cls := "CrumblingWall$Reader", name := "takes", desc := "(I)Z" } : Jvm.MethodName) prog_16_method_3_code (3 : Nat) (Option.some Jvm.ClassFile.FieldType.boolean)) ∈ lw_all := lw_g (lw_at lw_m11 80 rfl) rfl
theorem q2600 : (Jvm.Cond.methodLink "CrumblingWall$Reader" (29 : Nat) ({ cls := "CrumblingWall$Reader", name := "here", desc := "()I" } : Jvm.MethodName)) ∈ lw_all := lw_g (lw_at lw_m11 81 rfl) rfl
theorem q2601 : (Jvm.Cond.privateMethod ({ cls := "CrumblingWall$Reader", name := "here", desc := "()I" } : Jvm.MethodName)) ∈ lw_tbl := lw_at lw_m11 82 rfl
theorem q2602 : (Jvm.Cond.instanceMethod ({ cls := "CrumblingWall$Reader", name := "here", desc := "()I" } : Jvm.MethodName)) ∈ lw_all := lw_g (lw_at lw_m11 83 rfl) rfl
theorem q2603 : (Jvm.Cond.code ({ cls := "CrumblingWall$Reader", name := "here", desc := "()I" } : Jvm.MethodName) prog_16_method_2_code (1 : Nat) (Option.some Jvm.ClassFile.FieldType.int)) ∈ lw_all := lw_g (lw_at lw_m11 84 rfl) rfl
theorem q2604 : (Jvm.Cond.interfaceEntry "CrumblingWall$Reader" (19 : Nat)) ∈ lw_tbl := lw_at lw_m11 85 rfl
theorem q2605 : (Jvm.Cond.methodLink "CrumblingWall$Reader" (19 : Nat) ({ cls := "java/lang/CharSequence", name := "length", desc := "()I" } : Jvm.MethodName)) ∈ lw_all := lw_g (lw_at lw_m11 86 rfl) rfl
theorem q2616 : (Jvm.Cond.interfaceEntry "CrumblingWall$Reader" (25 : Nat)) ∈ lw_tbl := lw_at lw_m11 97 rfl
theorem q2617 : (Jvm.Cond.methodLink "CrumblingWall$Reader" (25 : Nat) ({ cls := "java/lang/CharSequence", name := "charAt", desc := "(I)C" } : Jvm.MethodName)) ∈ lw_all := lw_g (lw_at lw_m11 98 rfl) rfl
theorem q2647 : (Jvm.Cond.classLink "CrumblingWall$Reader" (68 : Nat) "CrumblingWall$RopeStep") ∈ lw_all := lw_g (lw_at lw_m11 128 rfl) rfl
theorem q2649 : (Jvm.Cond.methodLink "CrumblingWall$Reader" (70 : Nat) ({ cls := "CrumblingWall$RopeStep", name := "<init>", desc := "(Z)V" } : Jvm.MethodName)) ∈ lw_all := lw_g (lw_at lw_m11 130 rfl) rfl
theorem q2660 : (Jvm.Cond.methodLink "CrumblingWall$Reader" (73 : Nat) ({ cls := "CrumblingWall$Reader", name := "ofClimber", desc := "(I)LCrumblingWall$Step;" } : Jvm.MethodName)) ∈ lw_all := lw_g (lw_at lw_m11 141 rfl) rfl
theorem q2661 : (Jvm.Cond.privateMethod ({ cls := "CrumblingWall$Reader", name := "ofClimber", desc := "(I)LCrumblingWall$Step;" } : Jvm.MethodName)) ∈ lw_tbl := lw_at lw_m11 142 rfl
theorem q2662 : (Jvm.Cond.instanceMethod ({ cls := "CrumblingWall$Reader", name := "ofClimber", desc := "(I)LCrumblingWall$Step;" } : Jvm.MethodName)) ∈ lw_all := lw_g (lw_at lw_m11 143 rfl) rfl
theorem q2663 : (Jvm.Cond.code ({ cls := "CrumblingWall$Reader", name := "ofClimber", desc := "(I)LCrumblingWall$Step;" } : Jvm.MethodName) prog_16_method_7_code (3 : Nat) (Option.some (Jvm.ClassFile.FieldType.object "CrumblingWall$Step"))) ∈ lw_all := lw_g (lw_at lw_m11 144 rfl) rfl
theorem q2664 : (Jvm.Cond.classLink "CrumblingWall$Reader" (52 : Nat) "CrumblingWall$MoveStep") ∈ lw_all := lw_g (lw_at lw_m11 145 rfl) rfl
theorem q2666 : (Jvm.Cond.methodLink "CrumblingWall$Reader" (54 : Nat) ({ cls := "CrumblingWall$Reader", name := "place", desc := "()I" } : Jvm.MethodName)) ∈ lw_all := lw_g (lw_at lw_m11 147 rfl) rfl
theorem q2667 : (Jvm.Cond.privateMethod ({ cls := "CrumblingWall$Reader", name := "place", desc := "()I" } : Jvm.MethodName)) ∈ lw_tbl := lw_at lw_m11 148 rfl
theorem q2668 : (Jvm.Cond.instanceMethod ({ cls := "CrumblingWall$Reader", name := "place", desc := "()I" } : Jvm.MethodName)) ∈ lw_all := lw_g (lw_at lw_m11 149 rfl) rfl
theorem q2669 : (Jvm.Cond.code ({ cls := "CrumblingWall$Reader", name := "place", desc := "()I" } : Jvm.MethodName) prog_16_method_6_code (2 : Nat) (Option.some Jvm.ClassFile.FieldType.int)) ∈ lw_all := lw_g (lw_at lw_m11 150 rfl) rfl
theorem q2670 : (Jvm.Cond.methodLink "CrumblingWall$Reader" (49 : Nat) ({ cls := "CrumblingWall$Reader", name := "digit", desc := "()I" } : Jvm.MethodName)) ∈ lw_all := lw_g (lw_at lw_m11 151 rfl) rfl
theorem q2671 : (Jvm.Cond.privateMethod ({ cls := "CrumblingWall$Reader", name := "digit", desc := "()I" } : Jvm.MethodName)) ∈ lw_tbl := lw_at lw_m11 152 rfl
theorem q2672 : (Jvm.Cond.instanceMethod ({ cls := "CrumblingWall$Reader", name := "digit", desc := "()I" } : Jvm.MethodName)) ∈ lw_all := lw_g (lw_at lw_m11 153 rfl) rfl
theorem q2673 : (Jvm.Cond.code ({ cls := "CrumblingWall$Reader", name := "digit", desc := "()I" } : Jvm.MethodName) prog_16_method_5_code (1 : Nat) (Option.some Jvm.ClassFile.FieldType.int)) ∈ lw_all := lw_g (lw_at lw_m11 154 rfl) rfl
theorem q2674 : (Jvm.Cond.methodLink "CrumblingWall$Reader" (36 : Nat) ({ cls := "CrumblingWall$Reader", name := "isDigit", desc := "()Z" } : Jvm.MethodName)) ∈ lw_all := lw_g (lw_at lw_m11 155 rfl) rfl
theorem q2675 : (Jvm.Cond.privateMethod ({ cls := "CrumblingWall$Reader", name := "isDigit", desc := "()Z" } : Jvm.MethodName)) ∈ lw_tbl := lw_at lw_m11 156 rfl
theorem q2676 : (Jvm.Cond.instanceMethod ({ cls := "CrumblingWall$Reader", name := "isDigit", desc := "()Z" } : Jvm.MethodName)) ∈ lw_all := lw_g (lw_at lw_m11 157 rfl) rfl
theorem q2677 : (Jvm.Cond.code ({ cls := "CrumblingWall$Reader", name := "isDigit", desc := "()Z" } : Jvm.MethodName) prog_16_method_4_code (1 : Nat) (Option.some Jvm.ClassFile.FieldType.boolean)) ∈ lw_all := lw_g (lw_at lw_m11 158 rfl) rfl
theorem q2678 : (Jvm.Cond.methodLinkNest "CrumblingWall$Reader" (32 : Nat) ({ cls := "CrumblingWall", name := "isIn", desc := "(III)Z" } : Jvm.MethodName) "CrumblingWall") ∈ lw_tbl := lw_at lw_m11 159 rfl
theorem q2679 : (Jvm.Cond.classLink "CrumblingWall$Reader" (40 : Nat) "CrumblingWall$Wrong") ∈ lw_all := lw_g (lw_at lw_m11 160 rfl) rfl
theorem q2688 : (Jvm.Cond.methodLink "CrumblingWall$Reader" (42 : Nat) ({ cls := "CrumblingWall$Wrong", name := "<init>", desc := "(I)V" } : Jvm.MethodName)) ∈ lw_all := lw_g (lw_at lw_m11 169 rfl) rfl
theorem q2698 : (Jvm.Cond.methodLink "CrumblingWall$Reader" (57 : Nat) ({ cls := "CrumblingWall$MoveStep", name := "<init>", desc := "(II)V" } : Jvm.MethodName)) ∈ lw_all := lw_g (lw_at lw_m11 179 rfl) rfl
theorem q2709 : (Jvm.Cond.classLink "CrumblingWall$Reader" (60 : Nat) "CrumblingWall$RestStep") ∈ lw_all := lw_g (lw_at lw_m11 190 rfl) rfl
theorem q2711 : (Jvm.Cond.methodLink "CrumblingWall$Reader" (62 : Nat) ({ cls := "CrumblingWall$RestStep", name := "<init>", desc := "(I)V" } : Jvm.MethodName)) ∈ lw_all := lw_g (lw_at lw_m11 192 rfl) rfl
theorem q2719 : (Jvm.Cond.classLink "CrumblingWall$Reader" (63 : Nat) "CrumblingWall$LampStep") ∈ lw_all := lw_g (lw_at lw_m11 200 rfl) rfl
theorem q2721 : (Jvm.Cond.methodLink "CrumblingWall$Reader" (65 : Nat) ({ cls := "CrumblingWall$LampStep", name := "<init>", desc := "(III)V" } : Jvm.MethodName)) ∈ lw_all := lw_g (lw_at lw_m11 202 rfl) rfl
theorem q2735 : (Jvm.Cond.methodLink "CrumblingWall$Reader" (84 : Nat) ({ cls := "java/util/LinkedList", name := "addLast", desc := "(Ljava/lang/Object;)V" } : Jvm.MethodName)) ∈ lw_all := lw_g (lw_at lw_m11 216 rfl) rfl
theorem q3592 : (Jvm.Cond.castable "CrumblingWall$Reader" "java/lang/Object") ∈ lw_tbl := lw_at lw_m15 113 rfl
theorem in_X14 : ∀ w ∈ wsX140, w ∈ lw_all := lw_in wsX140 [2581, 2583] (by decide +kernel) (by decide +kernel)
/-! CrumblingWall$Step -/
set_option maxRecDepth 100000
def RX15 : String := "CrumblingWall$Step"
abbrev cX15_init : ByteArray := prog_20_method_1_code
def yX15_init : MethodName := ⟨RX15, "<init>", "()V"⟩
theorem dX15_init_0 : decode cX15_init 0 = .ok (.aload_n 0, 1) := by decide +kernel
theorem dX15_init_1 : decode cX15_init 1 = .ok (.invokespecial 1, 3) := by decide +kernel
theorem dX15_init_4 : decode cX15_init 4 = .ok (.return_, 1) := by decide +kernel
theorem q180 : (Jvm.Cond.initialized "CrumblingWall$Step") ∈ lw_all := lw_g (lw_at lw_m1 61 rfl) rfl
theorem q2653 : (Jvm.Cond.instanceMethod ({ cls := "CrumblingWall$Step", name := "<init>", desc := "()V" } : Jvm.MethodName)) ∈ lw_all := lw_g (lw_at lw_m11 134 rfl) rfl
theorem q2654 : (Jvm.Cond.code ({ cls := "CrumblingWall$Step", name := "<init>", desc := "()V" } : Jvm.MethodName) prog_20_method_1_code (1 : Nat) (Option.none : Option Jvm.ClassFile.FieldType)) ∈ lw_all := lw_g (lw_at lw_m11 135 rfl) rfl
theorem q2655 : (Jvm.Cond.methodLink "CrumblingWall$Step" (1 : Nat) ({ cls := "java/lang/Object", name := "<init>", desc := "()V" } : Jvm.MethodName)) ∈ lw_all := lw_g (lw_at lw_m11 136 rfl) rfl
theorem q2798 : (Jvm.Cond.declares ({ cls := "CrumblingWall$Step", name := "does", desc := "(LCrumblingWall$Wall;)V" } : Jvm.MethodName)) ∈ lw_tbl := lw_at lw_m12 39 rfl
theorem q2799 : (Jvm.Cond.sameMethod "CrumblingWall$Step" "CrumblingWall$Step" "does" "(LCrumblingWall$Wall;)V") ∈ lw_all := lw_g (lw_at lw_m12 40 rfl) rfl
/-! CrumblingWall$RopeStep -/
set_option maxRecDepth 100000
def RX16 : String := "CrumblingWall$RopeStep"
def TX16 : u_T := fun k => match k with
  | _ => ("CrumblingWall$RopeStep", "isClip", "Z", true)
def tyX16 : Nat → FieldType := fun k => match k with
  | _ => .boolean
abbrev wsX160 : List Cond := u_ws RX16 TX16 1
theorem nmX16 : ∀ a, a < 1 → ∀ b, b < 1 → a ≠ b → (TX16 a).2.1 ≠ (TX16 b).2.1 := by decide +kernel
theorem tyX16_ok : ∀ k, k < 1 → parseFieldDescriptor (TX16 k).2.2.1 = some (tyX16 k) := by decide +kernel
abbrev cX16_init : ByteArray := prog_19_method_1_code
def yX16_init : MethodName := ⟨RX16, "<init>", "(Z)V"⟩
def dkwX16_init_0 : List UInt8 := [42, 183, 0, 1, 42, 27, 181, 0, 7, 177]
abbrev dktX16_init_0 : List UInt8 := dkwX16_init_0 ++ []
theorem dksX16_init_0 : cX16_init.data.toList.drop 0 = dktX16_init_0 := by decide +kernel
theorem dX16_init_0 : decode cX16_init 0 = .ok (.aload_n 0, 1) := dk_42 (dk_at dksX16_init_0 0 rfl rfl)
theorem dX16_init_1 : decode cX16_init 1 = .ok (.invokespecial 1, 3) := dk_183 0 1 (dk_at dksX16_init_0 1 rfl rfl)
theorem dX16_init_4 : decode cX16_init 4 = .ok (.aload_n 0, 1) := dk_42 (dk_at dksX16_init_0 4 rfl rfl)
theorem dX16_init_5 : decode cX16_init 5 = .ok (.iload_n 1, 1) := dk_27 (dk_at dksX16_init_0 5 rfl rfl)
theorem dX16_init_6 : decode cX16_init 6 = .ok (.putfield 7, 3) := dk_181 0 7 (dk_at dksX16_init_0 6 rfl rfl)
theorem dX16_init_9 : decode cX16_init 9 = .ok (.return_, 1) := dk_177 (dk_at dksX16_init_0 9 rfl rfl)
abbrev cX16_does : ByteArray := prog_19_method_2_code
def yX16_does : MethodName := ⟨RX16, "does", "(LCrumblingWall$Wall;)V"⟩
def dkwX16_does_0 : List UInt8 := [42, 180, 0, 7, 153, 0, 10, 43, 182, 0, 13, 167, 0, 7, 43, 182, 0, 19, 61, 177]
abbrev dktX16_does_0 : List UInt8 := dkwX16_does_0 ++ []
theorem dksX16_does_0 : cX16_does.data.toList.drop 0 = dktX16_does_0 := by decide +kernel
theorem dX16_does_0 : decode cX16_does 0 = .ok (.aload_n 0, 1) := dk_42 (dk_at dksX16_does_0 0 rfl rfl)
theorem dX16_does_1 : decode cX16_does 1 = .ok (.getfield 7, 3) := dk_180 0 7 (dk_at dksX16_does_0 1 rfl rfl)
theorem dX16_does_4 : decode cX16_does 4 = .ok (.ifCond .eq 10, 3) := dk_153 0 10 (dk_at dksX16_does_0 4 rfl rfl)
theorem dX16_does_7 : decode cX16_does 7 = .ok (.aload_n 1, 1) := dk_43 (dk_at dksX16_does_0 7 rfl rfl)
theorem dX16_does_8 : decode cX16_does 8 = .ok (.invokevirtual 13, 3) := dk_182 0 13 (dk_at dksX16_does_0 8 rfl rfl)
theorem dX16_does_11 : decode cX16_does 11 = .ok (.goto 7, 3) := dk_167 0 7 (dk_at dksX16_does_0 11 rfl rfl)
theorem dX16_does_14 : decode cX16_does 14 = .ok (.aload_n 1, 1) := dk_43 (dk_at dksX16_does_0 14 rfl rfl)
theorem dX16_does_15 : decode cX16_does 15 = .ok (.invokevirtual 19, 3) := dk_182 0 19 (dk_at dksX16_does_0 15 rfl rfl)
theorem dX16_does_18 : decode cX16_does 18 = .ok (.istore_n 2, 1) := dk_61 (dk_at dksX16_does_0 18 rfl rfl)
theorem dX16_does_19 : decode cX16_does 19 = .ok (.return_, 1) := dk_177 (dk_at dksX16_does_0 19 rfl rfl)
theorem q181 : (Jvm.Cond.initialized "CrumblingWall$RopeStep") ∈ lw_all := lw_g (lw_at lw_m1 62 rfl) rfl
theorem q1092 : (Jvm.Cond.selects "CrumblingWall$RopeStep" ({ cls := "java/lang/Object", name := "getClass", desc := "()Ljava/lang/Class;" } : Jvm.MethodName) ({ cls := "java/lang/Object", name := "getClass", desc := "()Ljava/lang/Class;" } : Jvm.MethodName)) ∈ lw_all := lw_g (lw_at lw_m5 13 rfl) rfl
theorem q2648 : (Jvm.Cond.instantiable "CrumblingWall$RopeStep" (1 : Nat)) ∈ lw_all := lw_g (lw_at lw_m11 129 rfl) rfl
theorem q2650 : (Jvm.Cond.instanceMethod ({ cls := "CrumblingWall$RopeStep", name := "<init>", desc := "(Z)V" } : Jvm.MethodName)) ∈ lw_all := lw_g (lw_at lw_m11 131 rfl) rfl
theorem q2651 : (Jvm.Cond.code ({ cls := "CrumblingWall$RopeStep", name := "<init>", desc := "(Z)V" } : Jvm.MethodName) prog_19_method_1_code (2 : Nat) (Option.none : Option Jvm.ClassFile.FieldType)) ∈ lw_all := lw_g (lw_at lw_m11 132 rfl) rfl
theorem q2652 : (Jvm.Cond.methodLinkNest "CrumblingWall$RopeStep" (1 : Nat) ({ cls := "CrumblingWall$Step", name := "<init>", desc := "()V" } : Jvm.MethodName) "CrumblingWall") ∈ lw_tbl := lw_at lw_m11 133 rfl
theorem q2656 : (Jvm.Cond.fieldLink "CrumblingWall$RopeStep" (7 : Nat) "CrumblingWall$RopeStep" "isClip" "Z") ∈ lw_all := lw_g (lw_at lw_m11 137 rfl) rfl
theorem q2657 : (Jvm.Cond.laysFinal "CrumblingWall$RopeStep" "CrumblingWall$RopeStep" "isClip" "Z") ∈ lw_all := lw_g (lw_at lw_m11 138 rfl) rfl
theorem q2658 : (Jvm.Cond.soleField "CrumblingWall$RopeStep" "isClip") ∈ lw_all := lw_g (lw_at lw_m11 139 rfl) rfl
theorem q2659 : (Jvm.Cond.superclass "CrumblingWall$RopeStep" "CrumblingWall$Step") ∈ lw_all := lw_g (lw_at lw_m11 140 rfl) rfl
theorem q2818 : (Jvm.Cond.selects "CrumblingWall$RopeStep" ({ cls := "CrumblingWall$Step", name := "does", desc := "(LCrumblingWall$Wall;)V" } : Jvm.MethodName) ({ cls := "CrumblingWall$RopeStep", name := "does", desc := "(LCrumblingWall$Wall;)V" } : Jvm.MethodName)) ∈ lw_all := lw_g (lw_at lw_m12 59 rfl) rfl
theorem q2819 : (Jvm.Cond.instanceMethod ({ cls := "CrumblingWall$RopeStep", name := "does", desc := "(LCrumblingWall$Wall;)V" } : Jvm.MethodName)) ∈ lw_all := lw_g (lw_at lw_m12 60 rfl) rfl
theorem q2820 : (Jvm.Cond.code ({ cls := "CrumblingWall$RopeStep", name := "does", desc := "(LCrumblingWall$Wall;)V" } : Jvm.MethodName) prog_19_method_2_code (3 : Nat) (Option.none : Option Jvm.ClassFile.FieldType)) ∈ lw_all := lw_g (lw_at lw_m12 61 rfl) rfl
theorem q2821 : (Jvm.Cond.methodLink "CrumblingWall$RopeStep" (13 : Nat) ({ cls := "CrumblingWall$Wall", name := "clip", desc := "()I" } : Jvm.MethodName)) ∈ lw_all := lw_g (lw_at lw_m12 62 rfl) rfl
theorem q2822 : (Jvm.Cond.methodLink "CrumblingWall$RopeStep" (19 : Nat) ({ cls := "CrumblingWall$Wall", name := "unclip", desc := "()I" } : Jvm.MethodName)) ∈ lw_all := lw_g (lw_at lw_m12 63 rfl) rfl
theorem q3558 : (Jvm.Cond.castable "CrumblingWall$RopeStep" "CrumblingWall$Step") ∈ lw_tbl := lw_at lw_m15 79 rfl
theorem q3593 : (Jvm.Cond.castable "CrumblingWall$RopeStep" "java/lang/Object") ∈ lw_tbl := lw_at lw_m15 114 rfl
theorem in_X16 : ∀ w ∈ wsX160, w ∈ lw_all := lw_in wsX160 [2657] (by decide +kernel) (by decide +kernel)
/-! CrumblingWall$MoveStep -/
set_option maxRecDepth 100000
def RX17 : String := "CrumblingWall$MoveStep"
def TX17 : u_T := fun k => match k with
  | 0 => ("CrumblingWall$MoveStep", "climber", "I", true)
  | _ => ("CrumblingWall$MoveStep", "place", "I", true)
def tyX17 : Nat → FieldType := fun k => match k with
  | 0 => .int
  | _ => .int
abbrev wsX170 : List Cond := u_ws RX17 TX17 2
theorem nmX17 : ∀ a, a < 2 → ∀ b, b < 2 → a ≠ b → (TX17 a).2.1 ≠ (TX17 b).2.1 := by decide +kernel
theorem tyX17_ok : ∀ k, k < 2 → parseFieldDescriptor (TX17 k).2.2.1 = some (tyX17 k) := by decide +kernel
abbrev cX17_init : ByteArray := prog_13_method_1_code
def yX17_init : MethodName := ⟨RX17, "<init>", "(II)V"⟩
def dkwX17_init_0 : List UInt8 := [42, 183, 0, 1, 42, 27, 181, 0, 7, 42, 28, 181, 0, 13, 177]
abbrev dktX17_init_0 : List UInt8 := dkwX17_init_0 ++ []
theorem dksX17_init_0 : cX17_init.data.toList.drop 0 = dktX17_init_0 := by decide +kernel
theorem dX17_init_0 : decode cX17_init 0 = .ok (.aload_n 0, 1) := dk_42 (dk_at dksX17_init_0 0 rfl rfl)
theorem dX17_init_1 : decode cX17_init 1 = .ok (.invokespecial 1, 3) := dk_183 0 1 (dk_at dksX17_init_0 1 rfl rfl)
theorem dX17_init_4 : decode cX17_init 4 = .ok (.aload_n 0, 1) := dk_42 (dk_at dksX17_init_0 4 rfl rfl)
theorem dX17_init_5 : decode cX17_init 5 = .ok (.iload_n 1, 1) := dk_27 (dk_at dksX17_init_0 5 rfl rfl)
theorem dX17_init_6 : decode cX17_init 6 = .ok (.putfield 7, 3) := dk_181 0 7 (dk_at dksX17_init_0 6 rfl rfl)
theorem dX17_init_9 : decode cX17_init 9 = .ok (.aload_n 0, 1) := dk_42 (dk_at dksX17_init_0 9 rfl rfl)
theorem dX17_init_10 : decode cX17_init 10 = .ok (.iload_n 2, 1) := dk_28 (dk_at dksX17_init_0 10 rfl rfl)
theorem dX17_init_11 : decode cX17_init 11 = .ok (.putfield 13, 3) := dk_181 0 13 (dk_at dksX17_init_0 11 rfl rfl)
theorem dX17_init_14 : decode cX17_init 14 = .ok (.return_, 1) := dk_177 (dk_at dksX17_init_0 14 rfl rfl)
abbrev cX17_does : ByteArray := prog_13_method_2_code
def yX17_does : MethodName := ⟨RX17, "does", "(LCrumblingWall$Wall;)V"⟩
def dkwX17_does_1 : List UInt8 := [177]
abbrev dktX17_does_1 : List UInt8 := dkwX17_does_1 ++ []
def dkwX17_does_0 : List UInt8 := [43, 42, 180, 0, 13, 182, 0, 16, 184, 0, 22, 43, 42, 180, 0, 7, 42, 180, 0, 13, 182, 0, 28, 61]
abbrev dktX17_does_0 : List UInt8 := dkwX17_does_0 ++ dktX17_does_1
theorem dksX17_does_0 : cX17_does.data.toList.drop 0 = dktX17_does_0 := by decide +kernel
theorem dksX17_does_1 : cX17_does.data.toList.drop 24 = dktX17_does_1 := dk_seg dksX17_does_0 24 rfl rfl
theorem dX17_does_0 : decode cX17_does 0 = .ok (.aload_n 1, 1) := dk_43 (dk_at dksX17_does_0 0 rfl rfl)
theorem dX17_does_1 : decode cX17_does 1 = .ok (.aload_n 0, 1) := dk_42 (dk_at dksX17_does_0 1 rfl rfl)
theorem dX17_does_2 : decode cX17_does 2 = .ok (.getfield 13, 3) := dk_180 0 13 (dk_at dksX17_does_0 2 rfl rfl)
theorem dX17_does_5 : decode cX17_does 5 = .ok (.invokevirtual 16, 3) := dk_182 0 16 (dk_at dksX17_does_0 5 rfl rfl)
theorem dX17_does_8 : decode cX17_does 8 = .ok (.invokestatic 22, 3) := dk_184 0 22 (dk_at dksX17_does_0 8 rfl rfl)
theorem dX17_does_11 : decode cX17_does 11 = .ok (.aload_n 1, 1) := dk_43 (dk_at dksX17_does_0 11 rfl rfl)
theorem dX17_does_12 : decode cX17_does 12 = .ok (.aload_n 0, 1) := dk_42 (dk_at dksX17_does_0 12 rfl rfl)
theorem dX17_does_13 : decode cX17_does 13 = .ok (.getfield 7, 3) := dk_180 0 7 (dk_at dksX17_does_0 13 rfl rfl)
theorem dX17_does_16 : decode cX17_does 16 = .ok (.aload_n 0, 1) := dk_42 (dk_at dksX17_does_0 16 rfl rfl)
theorem dX17_does_17 : decode cX17_does 17 = .ok (.getfield 13, 3) := dk_180 0 13 (dk_at dksX17_does_0 17 rfl rfl)
theorem dX17_does_20 : decode cX17_does 20 = .ok (.invokevirtual 28, 3) := dk_182 0 28 (dk_at dksX17_does_0 20 rfl rfl)
theorem dX17_does_23 : decode cX17_does 23 = .ok (.istore_n 2, 1) := dk_61 (dk_at dksX17_does_0 23 rfl rfl)
theorem dX17_does_24 : decode cX17_does 24 = .ok (.return_, 1) := dk_177 (dk_at dksX17_does_1 0 rfl rfl)
theorem q182 : (Jvm.Cond.initialized "CrumblingWall$MoveStep") ∈ lw_all := lw_g (lw_at lw_m1 63 rfl) rfl
theorem q1087 : (Jvm.Cond.selects "CrumblingWall$MoveStep" ({ cls := "java/lang/Object", name := "getClass", desc := "()Ljava/lang/Class;" } : Jvm.MethodName) ({ cls := "java/lang/Object", name := "getClass", desc := "()Ljava/lang/Class;" } : Jvm.MethodName)) ∈ lw_all := lw_g (lw_at lw_m5 8 rfl) rfl
theorem q2665 : (Jvm.Cond.instantiable "CrumblingWall$MoveStep" (2 : Nat)) ∈ lw_all := lw_g (lw_at lw_m11 146 rfl) rfl
theorem q2699 : (Jvm.Cond.instanceMethod ({ cls := "CrumblingWall$MoveStep", name := "<init>", desc := "(II)V" } : Jvm.MethodName)) ∈ lw_all := lw_g (lw_at lw_m11 180 rfl) rfl
theorem q2700 : (Jvm.Cond.code ({ cls := "CrumblingWall$MoveStep", name := "<init>", desc := "(II)V" } : Jvm.MethodName) prog_13_method_1_code (3 : Nat) (Option.none : Option Jvm.ClassFile.FieldType)) ∈ lw_all := lw_g (lw_at lw_m11 181 rfl) rfl
theorem q2701 : (Jvm.Cond.methodLinkNest "CrumblingWall$MoveStep" (1 : Nat) ({ cls := "CrumblingWall$Step", name := "<init>", desc := "()V" } : Jvm.MethodName) "CrumblingWall") ∈ lw_tbl := lw_at lw_m11 182 rfl
theorem q2702 : (Jvm.Cond.fieldLink "CrumblingWall$MoveStep" (7 : Nat) "CrumblingWall$MoveStep" "climber" "I") ∈ lw_all := lw_g (lw_at lw_m11 183 rfl) rfl
theorem q2703 : (Jvm.Cond.fieldLink "CrumblingWall$MoveStep" (13 : Nat) "CrumblingWall$MoveStep" "place" "I") ∈ lw_all := lw_g (lw_at lw_m11 184 rfl) rfl
theorem q2704 : (Jvm.Cond.laysFinal "CrumblingWall$MoveStep" "CrumblingWall$MoveStep" "climber" "I") ∈ lw_all := lw_g (lw_at lw_m11 185 rfl) rfl
theorem q2705 : (Jvm.Cond.soleField "CrumblingWall$MoveStep" "climber") ∈ lw_all := lw_g (lw_at lw_m11 186 rfl) rfl
theorem q2706 : (Jvm.Cond.laysFinal "CrumblingWall$MoveStep" "CrumblingWall$MoveStep" "place" "I") ∈ lw_all := lw_g (lw_at lw_m11 187 rfl) rfl
theorem q2707 : (Jvm.Cond.soleField "CrumblingWall$MoveStep" "place") ∈ lw_all := lw_g (lw_at lw_m11 188 rfl) rfl
theorem q2708 : (Jvm.Cond.superclass "CrumblingWall$MoveStep" "CrumblingWall$Step") ∈ lw_all := lw_g (lw_at lw_m11 189 rfl) rfl
theorem q2808 : (Jvm.Cond.selects "CrumblingWall$MoveStep" ({ cls := "CrumblingWall$Step", name := "does", desc := "(LCrumblingWall$Wall;)V" } : Jvm.MethodName) ({ cls := "CrumblingWall$MoveStep", name := "does", desc := "(LCrumblingWall$Wall;)V" } : Jvm.MethodName)) ∈ lw_all := lw_g (lw_at lw_m12 49 rfl) rfl
theorem q2809 : (Jvm.Cond.instanceMethod ({ cls := "CrumblingWall$MoveStep", name := "does", desc := "(LCrumblingWall$Wall;)V" } : Jvm.MethodName)) ∈ lw_all := lw_g (lw_at lw_m12 50 rfl) rfl
theorem q2810 : (Jvm.Cond.code ({ cls := "CrumblingWall$MoveStep", name := "does", desc := "(LCrumblingWall$Wall;)V" } : Jvm.MethodName) prog_13_method_2_code (3 : Nat) (Option.none : Option Jvm.ClassFile.FieldType)) ∈ lw_all := lw_g (lw_at lw_m12 51 rfl) rfl
theorem q2811 : (Jvm.Cond.methodLink "CrumblingWall$MoveStep" (16 : Nat) ({ cls := "CrumblingWall$Wall", name := "isPlace", desc := "(I)Z" } : Jvm.MethodName)) ∈ lw_all := lw_g (lw_at lw_m12 52 rfl) rfl
theorem q2812 : (Jvm.Cond.methodLinkNest "CrumblingWall$MoveStep" (22 : Nat) ({ cls := "CrumblingWall", name := "checkIndex", desc := "(Z)V" } : Jvm.MethodName) "CrumblingWall") ∈ lw_tbl := lw_at lw_m12 53 rfl
theorem q2813 : (Jvm.Cond.methodLink "CrumblingWall$MoveStep" (28 : Nat) ({ cls := "CrumblingWall$Wall", name := "moves", desc := "(II)I" } : Jvm.MethodName)) ∈ lw_all := lw_g (lw_at lw_m12 54 rfl) rfl
theorem q3556 : (Jvm.Cond.castable "CrumblingWall$MoveStep" "CrumblingWall$Step") ∈ lw_tbl := lw_at lw_m15 77 rfl
theorem q3594 : (Jvm.Cond.castable "CrumblingWall$MoveStep" "java/lang/Object") ∈ lw_tbl := lw_at lw_m15 115 rfl
theorem in_X17 : ∀ w ∈ wsX170, w ∈ lw_all := lw_in wsX170 [2704, 2706] (by decide +kernel) (by decide +kernel)
/-! CrumblingWall$Wrong -/
set_option maxRecDepth 100000
def RX18 : String := "CrumblingWall$Wrong"
def TX18 : u_T := fun k => match k with
  | 0 => ("java/lang/Throwable", "cause", "Ljava/lang/Throwable;", false)
  | 1 => ("java/lang/Throwable", "stackTrace", "[Ljava/lang/StackTraceElement;", false)
  | 2 => ("java/lang/Throwable", "suppressedExceptions", "Ljava/util/List;", false)
  | 3 => ("java/lang/Throwable", "detailMessage", "Ljava/lang/String;", false)
  | 4 => ("java/lang/Throwable", "backtrace", "Ljava/lang/Object;", false)
  | 5 => ("java/lang/Throwable", "depth", "I", false)
  | _ => ("CrumblingWall$Wrong", "at", "I", true)
def tyX18 : Nat → FieldType := fun k => match k with
  | 0 => .object "java/lang/Throwable"
  | 1 => .array (.object "java/lang/StackTraceElement")
  | 2 => .object "java/util/List"
  | 3 => .object "java/lang/String"
  | 4 => .object "java/lang/Object"
  | 5 => .int
  | _ => .int
abbrev wsX180 : List Cond := u_ws RX18 TX18 7
theorem nmX18 : ∀ a, a < 7 → ∀ b, b < 7 → a ≠ b → (TX18 a).2.1 ≠ (TX18 b).2.1 := by decide +kernel
theorem tyX18_ok : ∀ k, k < 7 → parseFieldDescriptor (TX18 k).2.2.1 = some (tyX18 k) := by decide +kernel
abbrev cX18_init : ByteArray := prog_23_method_1_code
def yX18_init : MethodName := ⟨RX18, "<init>", "(I)V"⟩
def dkwX18_init_0 : List UInt8 := [42, 1, 1, 3, 3, 183, 0, 1, 42, 27, 181, 0, 7, 177]
abbrev dktX18_init_0 : List UInt8 := dkwX18_init_0 ++ []
theorem dksX18_init_0 : cX18_init.data.toList.drop 0 = dktX18_init_0 := by decide +kernel
theorem dX18_init_0 : decode cX18_init 0 = .ok (.aload_n 0, 1) := dk_42 (dk_at dksX18_init_0 0 rfl rfl)
theorem dX18_init_1 : decode cX18_init 1 = .ok (.aconst_null, 1) := dk_1 (dk_at dksX18_init_0 1 rfl rfl)
theorem dX18_init_2 : decode cX18_init 2 = .ok (.aconst_null, 1) := dk_1 (dk_at dksX18_init_0 2 rfl rfl)
theorem dX18_init_3 : decode cX18_init 3 = .ok (.iconst 0, 1) := dk_3 (dk_at dksX18_init_0 3 rfl rfl)
theorem dX18_init_4 : decode cX18_init 4 = .ok (.iconst 0, 1) := dk_3 (dk_at dksX18_init_0 4 rfl rfl)
theorem dX18_init_5 : decode cX18_init 5 = .ok (.invokespecial 1, 3) := dk_183 0 1 (dk_at dksX18_init_0 5 rfl rfl)
theorem dX18_init_8 : decode cX18_init 8 = .ok (.aload_n 0, 1) := dk_42 (dk_at dksX18_init_0 8 rfl rfl)
theorem dX18_init_9 : decode cX18_init 9 = .ok (.iload_n 1, 1) := dk_27 (dk_at dksX18_init_0 9 rfl rfl)
theorem dX18_init_10 : decode cX18_init 10 = .ok (.putfield 7, 3) := dk_181 0 7 (dk_at dksX18_init_0 10 rfl rfl)
theorem dX18_init_13 : decode cX18_init 13 = .ok (.return_, 1) := dk_177 (dk_at dksX18_init_0 13 rfl rfl)
theorem q183 : (Jvm.Cond.initialized "CrumblingWall$Wrong") ∈ lw_all := lw_g (lw_at lw_m1 64 rfl) rfl
theorem q308 : (Jvm.Cond.selects "CrumblingWall$Wrong" ({ cls := "java/lang/Throwable", name := "fillInStackTrace", desc := "()Ljava/lang/Throwable;" } : Jvm.MethodName) ({ cls := "java/lang/Throwable", name := "fillInStackTrace", desc := "()Ljava/lang/Throwable;" } : Jvm.MethodName)) ∈ lw_all := lw_g (lw_at lw_m1 189 rfl) rfl
theorem q1063 : (Jvm.Cond.selects "CrumblingWall$Wrong" ({ cls := "java/lang/Throwable", name := "toString", desc := "()Ljava/lang/String;" } : Jvm.MethodName) ({ cls := "java/lang/Throwable", name := "toString", desc := "()Ljava/lang/String;" } : Jvm.MethodName)) ∈ lw_all := lw_g (lw_at lw_m4 224 rfl) rfl
theorem q1095 : (Jvm.Cond.selects "CrumblingWall$Wrong" ({ cls := "java/lang/Object", name := "getClass", desc := "()Ljava/lang/Class;" } : Jvm.MethodName) ({ cls := "java/lang/Object", name := "getClass", desc := "()Ljava/lang/Class;" } : Jvm.MethodName)) ∈ lw_all := lw_g (lw_at lw_m5 16 rfl) rfl
theorem q1124 : (Jvm.Cond.selects "CrumblingWall$Wrong" ({ cls := "java/lang/Throwable", name := "getLocalizedMessage", desc := "()Ljava/lang/String;" } : Jvm.MethodName) ({ cls := "java/lang/Throwable", name := "getLocalizedMessage", desc := "()Ljava/lang/String;" } : Jvm.MethodName)) ∈ lw_all := lw_g (lw_at lw_m5 45 rfl) rfl
theorem q1139 : (Jvm.Cond.selects "CrumblingWall$Wrong" ({ cls := "java/lang/Throwable", name := "getMessage", desc := "()Ljava/lang/String;" } : Jvm.MethodName) ({ cls := "java/lang/Throwable", name := "getMessage", desc := "()Ljava/lang/String;" } : Jvm.MethodName)) ∈ lw_all := lw_g (lw_at lw_m5 60 rfl) rfl
theorem q2680 : (Jvm.Cond.instantiable "CrumblingWall$Wrong" (7 : Nat)) ∈ lw_all := lw_g (lw_at lw_m11 161 rfl) rfl
theorem q2681 : (Jvm.Cond.castable "CrumblingWall$Wrong" "CrumblingWall$Wrong") ∈ lw_tbl := lw_at lw_m11 162 rfl
theorem q2682 : (Jvm.Cond.selects "CrumblingWall$Wrong" ({ cls := "java/lang/Throwable", name := "fillInStackTrace", desc := "(I)Ljava/lang/Throwable;" } : Jvm.MethodName) ({ cls := "java/lang/Throwable", name := "fillInStackTrace", desc := "(I)Ljava/lang/Throwable;" } : Jvm.MethodName)) ∈ lw_all := lw_g (lw_at lw_m11 163 rfl) rfl
theorem q2683 : (Jvm.Cond.lays "CrumblingWall$Wrong" "java/lang/Throwable" "cause" "Ljava/lang/Throwable;") ∈ lw_all := lw_g (lw_at lw_m11 164 rfl) rfl
theorem q2684 : (Jvm.Cond.lays "CrumblingWall$Wrong" "java/lang/Throwable" "stackTrace" "[Ljava/lang/StackTraceElement;") ∈ lw_all := lw_g (lw_at lw_m11 165 rfl) rfl
theorem q2685 : (Jvm.Cond.lays "CrumblingWall$Wrong" "java/lang/Throwable" "suppressedExceptions" "Ljava/util/List;") ∈ lw_all := lw_g (lw_at lw_m11 166 rfl) rfl
theorem q2686 : (Jvm.Cond.lays "CrumblingWall$Wrong" "java/lang/Throwable" "detailMessage" "Ljava/lang/String;") ∈ lw_all := lw_g (lw_at lw_m11 167 rfl) rfl
theorem q2687 : (Jvm.Cond.lays "CrumblingWall$Wrong" "java/lang/Throwable" "backtrace" "Ljava/lang/Object;") ∈ lw_all := lw_g (lw_at lw_m11 168 rfl) rfl
theorem q2689 : (Jvm.Cond.instanceMethod ({ cls := "CrumblingWall$Wrong", name := "<init>", desc := "(I)V" } : Jvm.MethodName)) ∈ lw_all := lw_g (lw_at lw_m11 170 rfl) rfl
theorem q2690 : (Jvm.Cond.code ({ cls := "CrumblingWall$Wrong", name := "<init>", desc := "(I)V" } : Jvm.MethodName) prog_23_method_1_code (2 : Nat) (Option.none : Option Jvm.ClassFile.FieldType)) ∈ lw_all := lw_g (lw_at lw_m11 171 rfl) rfl
theorem q2691 : (Jvm.Cond.methodLink "CrumblingWall$Wrong" (1 : Nat) ({ cls := "java/lang/Exception", name := "<init>", desc := "(Ljava/lang/String;Ljava/lang/Throwable;ZZ)V" } : Jvm.MethodName)) ∈ lw_all := lw_g (lw_at lw_m11 172 rfl) rfl
theorem q2692 : (Jvm.Cond.fieldLink "CrumblingWall$Wrong" (7 : Nat) "CrumblingWall$Wrong" "at" "I") ∈ lw_all := lw_g (lw_at lw_m11 173 rfl) rfl
theorem q2694 : (Jvm.Cond.laysFinal "CrumblingWall$Wrong" "CrumblingWall$Wrong" "at" "I") ∈ lw_all := lw_g (lw_at lw_m11 175 rfl) rfl
theorem q2695 : (Jvm.Cond.soleField "CrumblingWall$Wrong" "at") ∈ lw_all := lw_g (lw_at lw_m11 176 rfl) rfl
theorem q2696 : (Jvm.Cond.lays "CrumblingWall$Wrong" "java/lang/Throwable" "depth" "I") ∈ lw_all := lw_g (lw_at lw_m11 177 rfl) rfl
theorem q2697 : (Jvm.Cond.superclass "CrumblingWall$Wrong" "java/lang/Exception") ∈ lw_all := lw_g (lw_at lw_m11 178 rfl) rfl
theorem q3595 : (Jvm.Cond.castable "CrumblingWall$Wrong" "java/lang/Object") ∈ lw_tbl := lw_at lw_m15 116 rfl
theorem in_X18 : ∀ w ∈ wsX180, w ∈ lw_all := lw_in wsX180 [2683, 2684, 2685, 2686, 2687, 2696, 2694] (by decide +kernel) (by decide +kernel)
/-! CrumblingWall$RestStep -/
set_option maxRecDepth 100000
def RX19 : String := "CrumblingWall$RestStep"
def TX19 : u_T := fun k => match k with
  | _ => ("CrumblingWall$RestStep", "climber", "I", true)
def tyX19 : Nat → FieldType := fun k => match k with
  | _ => .int
abbrev wsX190 : List Cond := u_ws RX19 TX19 1
theorem nmX19 : ∀ a, a < 1 → ∀ b, b < 1 → a ≠ b → (TX19 a).2.1 ≠ (TX19 b).2.1 := by decide +kernel
theorem tyX19_ok : ∀ k, k < 1 → parseFieldDescriptor (TX19 k).2.2.1 = some (tyX19 k) := by decide +kernel
abbrev cX19_init : ByteArray := prog_18_method_1_code
def yX19_init : MethodName := ⟨RX19, "<init>", "(I)V"⟩
def dkwX19_init_0 : List UInt8 := [42, 183, 0, 1, 42, 27, 181, 0, 7, 177]
abbrev dktX19_init_0 : List UInt8 := dkwX19_init_0 ++ []
theorem dksX19_init_0 : cX19_init.data.toList.drop 0 = dktX19_init_0 := by decide +kernel
theorem dX19_init_0 : decode cX19_init 0 = .ok (.aload_n 0, 1) := dk_42 (dk_at dksX19_init_0 0 rfl rfl)
theorem dX19_init_1 : decode cX19_init 1 = .ok (.invokespecial 1, 3) := dk_183 0 1 (dk_at dksX19_init_0 1 rfl rfl)
theorem dX19_init_4 : decode cX19_init 4 = .ok (.aload_n 0, 1) := dk_42 (dk_at dksX19_init_0 4 rfl rfl)
theorem dX19_init_5 : decode cX19_init 5 = .ok (.iload_n 1, 1) := dk_27 (dk_at dksX19_init_0 5 rfl rfl)
theorem dX19_init_6 : decode cX19_init 6 = .ok (.putfield 7, 3) := dk_181 0 7 (dk_at dksX19_init_0 6 rfl rfl)
theorem dX19_init_9 : decode cX19_init 9 = .ok (.return_, 1) := dk_177 (dk_at dksX19_init_0 9 rfl rfl)
abbrev cX19_does : ByteArray := prog_18_method_2_code
def yX19_does : MethodName := ⟨RX19, "does", "(LCrumblingWall$Wall;)V"⟩
def dkwX19_does_0 : List UInt8 := [43, 42, 180, 0, 7, 182, 0, 13, 61, 177]
abbrev dktX19_does_0 : List UInt8 := dkwX19_does_0 ++ []
theorem dksX19_does_0 : cX19_does.data.toList.drop 0 = dktX19_does_0 := by decide +kernel
theorem dX19_does_0 : decode cX19_does 0 = .ok (.aload_n 1, 1) := dk_43 (dk_at dksX19_does_0 0 rfl rfl)
theorem dX19_does_1 : decode cX19_does 1 = .ok (.aload_n 0, 1) := dk_42 (dk_at dksX19_does_0 1 rfl rfl)
theorem dX19_does_2 : decode cX19_does 2 = .ok (.getfield 7, 3) := dk_180 0 7 (dk_at dksX19_does_0 2 rfl rfl)
theorem dX19_does_5 : decode cX19_does 5 = .ok (.invokevirtual 13, 3) := dk_182 0 13 (dk_at dksX19_does_0 5 rfl rfl)
theorem dX19_does_8 : decode cX19_does 8 = .ok (.istore_n 2, 1) := dk_61 (dk_at dksX19_does_0 8 rfl rfl)
theorem dX19_does_9 : decode cX19_does 9 = .ok (.return_, 1) := dk_177 (dk_at dksX19_does_0 9 rfl rfl)
theorem q184 : (Jvm.Cond.initialized "CrumblingWall$RestStep") ∈ lw_all := lw_g (lw_at lw_m1 65 rfl) rfl
theorem q1091 : (Jvm.Cond.selects "CrumblingWall$RestStep" ({ cls := "java/lang/Object", name := "getClass", desc := "()Ljava/lang/Class;" } : Jvm.MethodName) ({ cls := "java/lang/Object", name := "getClass", desc := "()Ljava/lang/Class;" } : Jvm.MethodName)) ∈ lw_all := lw_g (lw_at lw_m5 12 rfl) rfl
theorem q2710 : (Jvm.Cond.instantiable "CrumblingWall$RestStep" (1 : Nat)) ∈ lw_all := lw_g (lw_at lw_m11 191 rfl) rfl
theorem q2712 : (Jvm.Cond.instanceMethod ({ cls := "CrumblingWall$RestStep", name := "<init>", desc := "(I)V" } : Jvm.MethodName)) ∈ lw_all := lw_g (lw_at lw_m11 193 rfl) rfl
theorem q2713 : (Jvm.Cond.code ({ cls := "CrumblingWall$RestStep", name := "<init>", desc := "(I)V" } : Jvm.MethodName) prog_18_method_1_code (2 : Nat) (Option.none : Option Jvm.ClassFile.FieldType)) ∈ lw_all := lw_g (lw_at lw_m11 194 rfl) rfl
theorem q2714 : (Jvm.Cond.methodLinkNest "CrumblingWall$RestStep" (1 : Nat) ({ cls := "CrumblingWall$Step", name := "<init>", desc := "()V" } : Jvm.MethodName) "CrumblingWall") ∈ lw_tbl := lw_at lw_m11 195 rfl
theorem q2715 : (Jvm.Cond.fieldLink "CrumblingWall$RestStep" (7 : Nat) "CrumblingWall$RestStep" "climber" "I") ∈ lw_all := lw_g (lw_at lw_m11 196 rfl) rfl
theorem q2716 : (Jvm.Cond.laysFinal "CrumblingWall$RestStep" "CrumblingWall$RestStep" "climber" "I") ∈ lw_all := lw_g (lw_at lw_m11 197 rfl) rfl
theorem q2717 : (Jvm.Cond.soleField "CrumblingWall$RestStep" "climber") ∈ lw_all := lw_g (lw_at lw_m11 198 rfl) rfl
theorem q2718 : (Jvm.Cond.superclass "CrumblingWall$RestStep" "CrumblingWall$Step") ∈ lw_all := lw_g (lw_at lw_m11 199 rfl) rfl
theorem q2814 : (Jvm.Cond.selects "CrumblingWall$RestStep" ({ cls := "CrumblingWall$Step", name := "does", desc := "(LCrumblingWall$Wall;)V" } : Jvm.MethodName) ({ cls := "CrumblingWall$RestStep", name := "does", desc := "(LCrumblingWall$Wall;)V" } : Jvm.MethodName)) ∈ lw_all := lw_g (lw_at lw_m12 55 rfl) rfl
theorem q2815 : (Jvm.Cond.instanceMethod ({ cls := "CrumblingWall$RestStep", name := "does", desc := "(LCrumblingWall$Wall;)V" } : Jvm.MethodName)) ∈ lw_all := lw_g (lw_at lw_m12 56 rfl) rfl
theorem q2816 : (Jvm.Cond.code ({ cls := "CrumblingWall$RestStep", name := "does", desc := "(LCrumblingWall$Wall;)V" } : Jvm.MethodName) prog_18_method_2_code (3 : Nat) (Option.none : Option Jvm.ClassFile.FieldType)) ∈ lw_all := lw_g (lw_at lw_m12 57 rfl) rfl
theorem q2817 : (Jvm.Cond.methodLink "CrumblingWall$RestStep" (13 : Nat) ({ cls := "CrumblingWall$Wall", name := "rests", desc := "(I)I" } : Jvm.MethodName)) ∈ lw_all := lw_g (lw_at lw_m12 58 rfl) rfl
theorem q3557 : (Jvm.Cond.castable "CrumblingWall$RestStep" "CrumblingWall$Step") ∈ lw_tbl := lw_at lw_m15 78 rfl
theorem q3596 : (Jvm.Cond.castable "CrumblingWall$RestStep" "java/lang/Object") ∈ lw_tbl := lw_at lw_m15 117 rfl
theorem in_X19 : ∀ w ∈ wsX190, w ∈ lw_all := lw_in wsX190 [2716] (by decide +kernel) (by decide +kernel)
/-! CrumblingWall$LampStep -/
set_option maxRecDepth 100000
def RX20 : String := "CrumblingWall$LampStep"
def TX20 : u_T := fun k => match k with
  | 0 => ("CrumblingWall$LampStep", "climber", "I", true)
  | 1 => ("CrumblingWall$LampStep", "how", "I", true)
  | _ => ("CrumblingWall$LampStep", "lamp", "I", true)
def tyX20 : Nat → FieldType := fun k => match k with
  | 0 => .int
  | 1 => .int
  | _ => .int
abbrev wsX200 : List Cond := u_ws RX20 TX20 3
theorem nmX20 : ∀ a, a < 3 → ∀ b, b < 3 → a ≠ b → (TX20 a).2.1 ≠ (TX20 b).2.1 := by decide +kernel
theorem tyX20_ok : ∀ k, k < 3 → parseFieldDescriptor (TX20 k).2.2.1 = some (tyX20 k) := by decide +kernel
abbrev cX20_init : ByteArray := prog_12_method_1_code
def yX20_init : MethodName := ⟨RX20, "<init>", "(III)V"⟩
def dkwX20_init_0 : List UInt8 := [42, 183, 0, 1, 42, 27, 181, 0, 7, 42, 28, 181, 0, 13, 42, 29, 181, 0, 16, 177]
abbrev dktX20_init_0 : List UInt8 := dkwX20_init_0 ++ []
theorem dksX20_init_0 : cX20_init.data.toList.drop 0 = dktX20_init_0 := by decide +kernel
theorem dX20_init_0 : decode cX20_init 0 = .ok (.aload_n 0, 1) := dk_42 (dk_at dksX20_init_0 0 rfl rfl)
theorem dX20_init_1 : decode cX20_init 1 = .ok (.invokespecial 1, 3) := dk_183 0 1 (dk_at dksX20_init_0 1 rfl rfl)
theorem dX20_init_4 : decode cX20_init 4 = .ok (.aload_n 0, 1) := dk_42 (dk_at dksX20_init_0 4 rfl rfl)
theorem dX20_init_5 : decode cX20_init 5 = .ok (.iload_n 1, 1) := dk_27 (dk_at dksX20_init_0 5 rfl rfl)
theorem dX20_init_6 : decode cX20_init 6 = .ok (.putfield 7, 3) := dk_181 0 7 (dk_at dksX20_init_0 6 rfl rfl)
theorem dX20_init_9 : decode cX20_init 9 = .ok (.aload_n 0, 1) := dk_42 (dk_at dksX20_init_0 9 rfl rfl)
theorem dX20_init_10 : decode cX20_init 10 = .ok (.iload_n 2, 1) := dk_28 (dk_at dksX20_init_0 10 rfl rfl)
theorem dX20_init_11 : decode cX20_init 11 = .ok (.putfield 13, 3) := dk_181 0 13 (dk_at dksX20_init_0 11 rfl rfl)
theorem dX20_init_14 : decode cX20_init 14 = .ok (.aload_n 0, 1) := dk_42 (dk_at dksX20_init_0 14 rfl rfl)
theorem dX20_init_15 : decode cX20_init 15 = .ok (.iload_n 3, 1) := dk_29 (dk_at dksX20_init_0 15 rfl rfl)
theorem dX20_init_16 : decode cX20_init 16 = .ok (.putfield 16, 3) := dk_181 0 16 (dk_at dksX20_init_0 16 rfl rfl)
theorem dX20_init_19 : decode cX20_init 19 = .ok (.return_, 1) := dk_177 (dk_at dksX20_init_0 19 rfl rfl)
abbrev cX20_does : ByteArray := prog_12_method_2_code
def yX20_does : MethodName := ⟨RX20, "does", "(LCrumblingWall$Wall;)V"⟩
def dkwX20_does_3 : List UInt8 := [182, 0, 35, 167, 0, 15, 43, 42, 180, 0, 7, 42, 180, 0, 16, 182, 0, 38, 61, 177]
abbrev dktX20_does_3 : List UInt8 := dkwX20_does_3 ++ []
def dkwX20_does_2 : List UInt8 := [43, 42, 180, 0, 7, 42, 180, 0, 16, 182, 0, 31, 167, 0, 30, 43, 42, 180, 0, 7, 42, 180, 0, 16]
abbrev dktX20_does_2 : List UInt8 := dkwX20_does_2 ++ dktX20_does_3
def dkwX20_does_1 : List UInt8 := [171, 0, 0, 0, 55, 0, 0, 0, 2, 0, 0, 0, 43, 0, 0, 0, 25, 0, 0, 0, 45, 0, 0, 0, 40]
abbrev dktX20_does_1 : List UInt8 := dkwX20_does_1 ++ dktX20_does_2
def dkwX20_does_0 : List UInt8 := [43, 42, 180, 0, 16, 182, 0, 19, 184, 0, 25, 42, 180, 0, 13]
abbrev dktX20_does_0 : List UInt8 := dkwX20_does_0 ++ dktX20_does_1
theorem dksX20_does_0 : cX20_does.data.toList.drop 0 = dktX20_does_0 := by decide +kernel
theorem dksX20_does_1 : cX20_does.data.toList.drop 15 = dktX20_does_1 := dk_seg dksX20_does_0 15 rfl rfl
theorem dksX20_does_2 : cX20_does.data.toList.drop 40 = dktX20_does_2 := dk_seg dksX20_does_1 25 rfl rfl
theorem dksX20_does_3 : cX20_does.data.toList.drop 64 = dktX20_does_3 := dk_seg dksX20_does_2 24 rfl rfl
theorem dX20_does_0 : decode cX20_does 0 = .ok (.aload_n 1, 1) := dk_43 (dk_at dksX20_does_0 0 rfl rfl)
theorem dX20_does_1 : decode cX20_does 1 = .ok (.aload_n 0, 1) := dk_42 (dk_at dksX20_does_0 1 rfl rfl)
theorem dX20_does_2 : decode cX20_does 2 = .ok (.getfield 16, 3) := dk_180 0 16 (dk_at dksX20_does_0 2 rfl rfl)
theorem dX20_does_5 : decode cX20_does 5 = .ok (.invokevirtual 19, 3) := dk_182 0 19 (dk_at dksX20_does_0 5 rfl rfl)
theorem dX20_does_8 : decode cX20_does 8 = .ok (.invokestatic 25, 3) := dk_184 0 25 (dk_at dksX20_does_0 8 rfl rfl)
theorem dX20_does_11 : decode cX20_does 11 = .ok (.aload_n 0, 1) := dk_42 (dk_at dksX20_does_0 11 rfl rfl)
theorem dX20_does_12 : decode cX20_does 12 = .ok (.getfield 13, 3) := dk_180 0 13 (dk_at dksX20_does_0 12 rfl rfl)
theorem dX20_does_15 : decode cX20_does 15 = .ok (.lookupswitch 55 #[(43, 25), (45, 40)], 25) := by decide +kernel
theorem dX20_does_40 : decode cX20_does 40 = .ok (.aload_n 1, 1) := dk_43 (dk_at dksX20_does_2 0 rfl rfl)
theorem dX20_does_41 : decode cX20_does 41 = .ok (.aload_n 0, 1) := dk_42 (dk_at dksX20_does_2 1 rfl rfl)
theorem dX20_does_42 : decode cX20_does 42 = .ok (.getfield 7, 3) := dk_180 0 7 (dk_at dksX20_does_2 2 rfl rfl)
theorem dX20_does_45 : decode cX20_does 45 = .ok (.aload_n 0, 1) := dk_42 (dk_at dksX20_does_2 5 rfl rfl)
theorem dX20_does_46 : decode cX20_does 46 = .ok (.getfield 16, 3) := dk_180 0 16 (dk_at dksX20_does_2 6 rfl rfl)
theorem dX20_does_49 : decode cX20_does 49 = .ok (.invokevirtual 31, 3) := dk_182 0 31 (dk_at dksX20_does_2 9 rfl rfl)
theorem dX20_does_52 : decode cX20_does 52 = .ok (.goto 30, 3) := dk_167 0 30 (dk_at dksX20_does_2 12 rfl rfl)
theorem dX20_does_55 : decode cX20_does 55 = .ok (.aload_n 1, 1) := dk_43 (dk_at dksX20_does_2 15 rfl rfl)
theorem dX20_does_56 : decode cX20_does 56 = .ok (.aload_n 0, 1) := dk_42 (dk_at dksX20_does_2 16 rfl rfl)
theorem dX20_does_57 : decode cX20_does 57 = .ok (.getfield 7, 3) := dk_180 0 7 (dk_at dksX20_does_2 17 rfl rfl)
theorem dX20_does_60 : decode cX20_does 60 = .ok (.aload_n 0, 1) := dk_42 (dk_at dksX20_does_2 20 rfl rfl)
theorem dX20_does_61 : decode cX20_does 61 = .ok (.getfield 16, 3) := dk_180 0 16 (dk_at dksX20_does_2 21 rfl rfl)
theorem dX20_does_64 : decode cX20_does 64 = .ok (.invokevirtual 35, 3) := dk_182 0 35 (dk_at dksX20_does_3 0 rfl rfl)
theorem dX20_does_67 : decode cX20_does 67 = .ok (.goto 15, 3) := dk_167 0 15 (dk_at dksX20_does_3 3 rfl rfl)
theorem dX20_does_70 : decode cX20_does 70 = .ok (.aload_n 1, 1) := dk_43 (dk_at dksX20_does_3 6 rfl rfl)
theorem dX20_does_71 : decode cX20_does 71 = .ok (.aload_n 0, 1) := dk_42 (dk_at dksX20_does_3 7 rfl rfl)
theorem dX20_does_72 : decode cX20_does 72 = .ok (.getfield 7, 3) := dk_180 0 7 (dk_at dksX20_does_3 8 rfl rfl)
theorem dX20_does_75 : decode cX20_does 75 = .ok (.aload_n 0, 1) := dk_42 (dk_at dksX20_does_3 11 rfl rfl)
theorem dX20_does_76 : decode cX20_does 76 = .ok (.getfield 16, 3) := dk_180 0 16 (dk_at dksX20_does_3 12 rfl rfl)
theorem dX20_does_79 : decode cX20_does 79 = .ok (.invokevirtual 38, 3) := dk_182 0 38 (dk_at dksX20_does_3 15 rfl rfl)
theorem dX20_does_82 : decode cX20_does 82 = .ok (.istore_n 2, 1) := dk_61 (dk_at dksX20_does_3 18 rfl rfl)
theorem dX20_does_83 : decode cX20_does 83 = .ok (.return_, 1) := dk_177 (dk_at dksX20_does_3 19 rfl rfl)
theorem q185 : (Jvm.Cond.initialized "CrumblingWall$LampStep") ∈ lw_all := lw_g (lw_at lw_m1 66 rfl) rfl
theorem q1086 : (Jvm.Cond.selects "CrumblingWall$LampStep" ({ cls := "java/lang/Object", name := "getClass", desc := "()Ljava/lang/Class;" } : Jvm.MethodName) ({ cls := "java/lang/Object", name := "getClass", desc := "()Ljava/lang/Class;" } : Jvm.MethodName)) ∈ lw_all := lw_g (lw_at lw_m5 7 rfl) rfl
theorem q2720 : (Jvm.Cond.instantiable "CrumblingWall$LampStep" (3 : Nat)) ∈ lw_all := lw_g (lw_at lw_m11 201 rfl) rfl
theorem q2722 : (Jvm.Cond.instanceMethod ({ cls := "CrumblingWall$LampStep", name := "<init>", desc := "(III)V" } : Jvm.MethodName)) ∈ lw_all := lw_g (lw_at lw_m11 203 rfl) rfl
theorem q2723 : (Jvm.Cond.code ({ cls := "CrumblingWall$LampStep", name := "<init>", desc := "(III)V" } : Jvm.MethodName) prog_12_method_1_code (4 : Nat) (Option.none : Option Jvm.ClassFile.FieldType)) ∈ lw_all := lw_g (lw_at lw_m11 204 rfl) rfl
theorem q2724 : (Jvm.Cond.methodLinkNest "CrumblingWall$LampStep" (1 : Nat) ({ cls := "CrumblingWall$Step", name := "<init>", desc := "()V" } : Jvm.MethodName) "CrumblingWall") ∈ lw_tbl := lw_at lw_m11 205 rfl
theorem q2725 : (Jvm.Cond.fieldLink "CrumblingWall$LampStep" (7 : Nat) "CrumblingWall$LampStep" "climber" "I") ∈ lw_all := lw_g (lw_at lw_m11 206 rfl) rfl
theorem q2726 : (Jvm.Cond.fieldLink "CrumblingWall$LampStep" (13 : Nat) "CrumblingWall$LampStep" "how" "I") ∈ lw_all := lw_g (lw_at lw_m11 207 rfl) rfl
theorem q2727 : (Jvm.Cond.fieldLink "CrumblingWall$LampStep" (16 : Nat) "CrumblingWall$LampStep" "lamp" "I") ∈ lw_all := lw_g (lw_at lw_m11 208 rfl) rfl
theorem q2728 : (Jvm.Cond.laysFinal "CrumblingWall$LampStep" "CrumblingWall$LampStep" "climber" "I") ∈ lw_all := lw_g (lw_at lw_m11 209 rfl) rfl
theorem q2729 : (Jvm.Cond.soleField "CrumblingWall$LampStep" "climber") ∈ lw_all := lw_g (lw_at lw_m11 210 rfl) rfl
theorem q2730 : (Jvm.Cond.laysFinal "CrumblingWall$LampStep" "CrumblingWall$LampStep" "how" "I") ∈ lw_all := lw_g (lw_at lw_m11 211 rfl) rfl
theorem q2731 : (Jvm.Cond.soleField "CrumblingWall$LampStep" "how") ∈ lw_all := lw_g (lw_at lw_m11 212 rfl) rfl
theorem q2732 : (Jvm.Cond.laysFinal "CrumblingWall$LampStep" "CrumblingWall$LampStep" "lamp" "I") ∈ lw_all := lw_g (lw_at lw_m11 213 rfl) rfl
theorem q2733 : (Jvm.Cond.soleField "CrumblingWall$LampStep" "lamp") ∈ lw_all := lw_g (lw_at lw_m11 214 rfl) rfl
theorem q2734 : (Jvm.Cond.superclass "CrumblingWall$LampStep" "CrumblingWall$Step") ∈ lw_all := lw_g (lw_at lw_m11 215 rfl) rfl
theorem q2800 : (Jvm.Cond.selects "CrumblingWall$LampStep" ({ cls := "CrumblingWall$Step", name := "does", desc := "(LCrumblingWall$Wall;)V" } : Jvm.MethodName) ({ cls := "CrumblingWall$LampStep", name := "does", desc := "(LCrumblingWall$Wall;)V" } : Jvm.MethodName)) ∈ lw_all := lw_g (lw_at lw_m12 41 rfl) rfl
theorem q2801 : (Jvm.Cond.instanceMethod ({ cls := "CrumblingWall$LampStep", name := "does", desc := "(LCrumblingWall$Wall;)V" } : Jvm.MethodName)) ∈ lw_all := lw_g (lw_at lw_m12 42 rfl) rfl
theorem q2802 : (Jvm.Cond.code ({ cls := "CrumblingWall$LampStep", name := "does", desc := "(LCrumblingWall$Wall;)V" } : Jvm.MethodName) prog_12_method_2_code (3 : Nat) (Option.none : Option Jvm.ClassFile.FieldType)) ∈ lw_all := lw_g (lw_at lw_m12 43 rfl) rfl
theorem q2803 : (Jvm.Cond.methodLink "CrumblingWall$LampStep" (19 : Nat) ({ cls := "CrumblingWall$Wall", name := "isLamp", desc := "(I)Z" } : Jvm.MethodName)) ∈ lw_all := lw_g (lw_at lw_m12 44 rfl) rfl
theorem q2804 : (Jvm.Cond.methodLinkNest "CrumblingWall$LampStep" (25 : Nat) ({ cls := "CrumblingWall", name := "checkIndex", desc := "(Z)V" } : Jvm.MethodName) "CrumblingWall") ∈ lw_tbl := lw_at lw_m12 45 rfl
theorem q2805 : (Jvm.Cond.methodLink "CrumblingWall$LampStep" (31 : Nat) ({ cls := "CrumblingWall$Wall", name := "takes", desc := "(II)I" } : Jvm.MethodName)) ∈ lw_all := lw_g (lw_at lw_m12 46 rfl) rfl
theorem q2806 : (Jvm.Cond.methodLink "CrumblingWall$LampStep" (35 : Nat) ({ cls := "CrumblingWall$Wall", name := "puts", desc := "(II)I" } : Jvm.MethodName)) ∈ lw_all := lw_g (lw_at lw_m12 47 rfl) rfl
theorem q2807 : (Jvm.Cond.methodLink "CrumblingWall$LampStep" (38 : Nat) ({ cls := "CrumblingWall$Wall", name := "lights", desc := "(II)I" } : Jvm.MethodName)) ∈ lw_all := lw_g (lw_at lw_m12 48 rfl) rfl
theorem q3555 : (Jvm.Cond.castable "CrumblingWall$LampStep" "CrumblingWall$Step") ∈ lw_tbl := lw_at lw_m15 76 rfl
theorem q3597 : (Jvm.Cond.castable "CrumblingWall$LampStep" "java/lang/Object") ∈ lw_tbl := lw_at lw_m15 118 rfl
theorem in_X20 : ∀ w ∈ wsX200, w ∈ lw_all := lw_in wsX200 [2728, 2730, 2732] (by decide +kernel) (by decide +kernel)
/-! CrumblingWall$Counted -/
set_option maxRecDepth 100000
def RX21 : String := "CrumblingWall$Counted"
abbrev cX21_init : ByteArray := prog_5_method_1_code
def yX21_init : MethodName := ⟨RX21, "<init>", "()V"⟩
theorem dX21_init_0 : decode cX21_init 0 = .ok (.aload_n 0, 1) := by decide +kernel
theorem dX21_init_1 : decode cX21_init 1 = .ok (.invokespecial 1, 3) := by decide +kernel
theorem dX21_init_4 : decode cX21_init 4 = .ok (.return_, 1) := by decide +kernel
abbrev cX21_all : ByteArray := prog_5_method_3_code
def yX21_all : MethodName := ⟨RX21, "all", "(LCrumblingWall$Wall;)I"⟩
def dkwX21_all_1 : List UInt8 := [182, 0, 19, 192, 0, 23, 182, 0, 25, 96, 61, 132, 3, 1, 167, 255, 223, 28, 172]
abbrev dktX21_all_1 : List UInt8 := dkwX21_all_1 ++ []
def dkwX21_all_0 : List UInt8 := [3, 61, 3, 62, 29, 43, 180, 0, 7, 182, 0, 13, 162, 0, 28, 28, 42, 43, 43, 180, 0, 7, 29]
abbrev dktX21_all_0 : List UInt8 := dkwX21_all_0 ++ dktX21_all_1
theorem dksX21_all_0 : cX21_all.data.toList.drop 0 = dktX21_all_0 := by decide +kernel
theorem dksX21_all_1 : cX21_all.data.toList.drop 23 = dktX21_all_1 := dk_seg dksX21_all_0 23 rfl rfl
theorem dX21_all_0 : decode cX21_all 0 = .ok (.iconst 0, 1) := dk_3 (dk_at dksX21_all_0 0 rfl rfl)
theorem dX21_all_1 : decode cX21_all 1 = .ok (.istore_n 2, 1) := dk_61 (dk_at dksX21_all_0 1 rfl rfl)
theorem dX21_all_2 : decode cX21_all 2 = .ok (.iconst 0, 1) := dk_3 (dk_at dksX21_all_0 2 rfl rfl)
theorem dX21_all_3 : decode cX21_all 3 = .ok (.istore_n 3, 1) := dk_62 (dk_at dksX21_all_0 3 rfl rfl)
theorem dX21_all_4 : decode cX21_all 4 = .ok (.iload_n 3, 1) := dk_29 (dk_at dksX21_all_0 4 rfl rfl)
theorem dX21_all_5 : decode cX21_all 5 = .ok (.aload_n 1, 1) := dk_43 (dk_at dksX21_all_0 5 rfl rfl)
theorem dX21_all_6 : decode cX21_all 6 = .ok (.getfield 7, 3) := dk_180 0 7 (dk_at dksX21_all_0 6 rfl rfl)
theorem dX21_all_9 : decode cX21_all 9 = .ok (.invokevirtual 13, 3) := dk_182 0 13 (dk_at dksX21_all_0 9 rfl rfl)
theorem dX21_all_12 : decode cX21_all 12 = .ok (.if_icmp .ge 28, 3) := dk_162 0 28 (dk_at dksX21_all_0 12 rfl rfl)
theorem dX21_all_15 : decode cX21_all 15 = .ok (.iload_n 2, 1) := dk_28 (dk_at dksX21_all_0 15 rfl rfl)
theorem dX21_all_16 : decode cX21_all 16 = .ok (.aload_n 0, 1) := dk_42 (dk_at dksX21_all_0 16 rfl rfl)
theorem dX21_all_17 : decode cX21_all 17 = .ok (.aload_n 1, 1) := dk_43 (dk_at dksX21_all_0 17 rfl rfl)
theorem dX21_all_18 : decode cX21_all 18 = .ok (.aload_n 1, 1) := dk_43 (dk_at dksX21_all_0 18 rfl rfl)
theorem dX21_all_19 : decode cX21_all 19 = .ok (.getfield 7, 3) := dk_180 0 7 (dk_at dksX21_all_0 19 rfl rfl)
theorem dX21_all_22 : decode cX21_all 22 = .ok (.iload_n 3, 1) := dk_29 (dk_at dksX21_all_0 22 rfl rfl)
theorem dX21_all_23 : decode cX21_all 23 = .ok (.invokevirtual 19, 3) := dk_182 0 19 (dk_at dksX21_all_1 0 rfl rfl)
theorem dX21_all_26 : decode cX21_all 26 = .ok (.checkcast 23, 3) := dk_192 0 23 (dk_at dksX21_all_1 3 rfl rfl)
theorem dX21_all_29 : decode cX21_all 29 = .ok (.invokevirtual 25, 3) := dk_182 0 25 (dk_at dksX21_all_1 6 rfl rfl)
theorem dX21_all_32 : decode cX21_all 32 = .ok (.iadd, 1) := dk_96 (dk_at dksX21_all_1 9 rfl rfl)
theorem dX21_all_33 : decode cX21_all 33 = .ok (.istore_n 2, 1) := dk_61 (dk_at dksX21_all_1 10 rfl rfl)
theorem dX21_all_34 : decode cX21_all 34 = .ok (.iinc 3 1, 3) := dk_132 3 1 (dk_at dksX21_all_1 11 rfl rfl)
theorem dX21_all_37 : decode cX21_all 37 = .ok (.goto (-33), 3) := dk_167 255 223 (dk_at dksX21_all_1 14 rfl rfl)
theorem dX21_all_40 : decode cX21_all 40 = .ok (.iload_n 2, 1) := dk_28 (dk_at dksX21_all_1 17 rfl rfl)
theorem dX21_all_41 : decode cX21_all 41 = .ok (.ireturn, 1) := dk_172 (dk_at dksX21_all_1 18 rfl rfl)
theorem q187 : (Jvm.Cond.initialized "CrumblingWall$Counted") ∈ lw_all := lw_g (lw_at lw_m1 68 rfl) rfl
theorem q644 : (Jvm.Cond.fieldLinkNest "CrumblingWall$Counted" (7 : Nat) "CrumblingWall$Wall" "holds" "Ljava/util/ArrayList;" "CrumblingWall") ∈ lw_tbl := lw_at lw_m3 45 rfl
theorem q2861 : (Jvm.Cond.instanceMethod ({ cls := "CrumblingWall$Counted", name := "<init>", desc := "()V" } : Jvm.MethodName)) ∈ lw_all := lw_g (lw_at lw_m12 102 rfl) rfl
theorem q2862 : (Jvm.Cond.code ({ cls := "CrumblingWall$Counted", name := "<init>", desc := "()V" } : Jvm.MethodName) prog_5_method_1_code (1 : Nat) (Option.none : Option Jvm.ClassFile.FieldType)) ∈ lw_all := lw_g (lw_at lw_m12 103 rfl) rfl
theorem q2863 : (Jvm.Cond.methodLink "CrumblingWall$Counted" (1 : Nat) ({ cls := "java/lang/Object", name := "<init>", desc := "()V" } : Jvm.MethodName)) ∈ lw_all := lw_g (lw_at lw_m12 104 rfl) rfl
theorem q2867 : (Jvm.Cond.declares ({ cls := "CrumblingWall$Counted", name := "all", desc := "(LCrumblingWall$Wall;)I" } : Jvm.MethodName)) ∈ lw_tbl := lw_at lw_m12 108 rfl
theorem q2869 : (Jvm.Cond.instanceMethod ({ cls := "CrumblingWall$Counted", name := "all", desc := "(LCrumblingWall$Wall;)I" } : Jvm.MethodName)) ∈ lw_all := lw_g (lw_at lw_m12 110 rfl) rfl
theorem q2870 : (Jvm.Cond.code ({ cls := "CrumblingWall$Counted", name := "all", desc := "(LCrumblingWall$Wall;)I" } : Jvm.MethodName) prog_5_method_3_code (4 : Nat) (Option.some Jvm.ClassFile.FieldType.int)) ∈ lw_all := lw_g (lw_at lw_m12 111 rfl) rfl
theorem q2871 : (Jvm.Cond.methodLink "CrumblingWall$Counted" (13 : Nat) ({ cls := "java/util/ArrayList", name := "size", desc := "()I" } : Jvm.MethodName)) ∈ lw_all := lw_g (lw_at lw_m12 112 rfl) rfl
theorem q2872 : (Jvm.Cond.methodLink "CrumblingWall$Counted" (19 : Nat) ({ cls := "java/util/ArrayList", name := "get", desc := "(I)Ljava/lang/Object;" } : Jvm.MethodName)) ∈ lw_all := lw_g (lw_at lw_m12 113 rfl) rfl
theorem q2873 : (Jvm.Cond.classLink "CrumblingWall$Counted" (23 : Nat) "CrumblingWall$Hold") ∈ lw_all := lw_g (lw_at lw_m12 114 rfl) rfl
theorem q2874 : (Jvm.Cond.methodLink "CrumblingWall$Counted" (25 : Nat) ({ cls := "CrumblingWall$Counted", name := "of", desc := "(LCrumblingWall$Wall;LCrumblingWall$Hold;)I" } : Jvm.MethodName)) ∈ lw_all := lw_g (lw_at lw_m12 115 rfl) rfl
theorem q2875 : (Jvm.Cond.declares ({ cls := "CrumblingWall$Counted", name := "of", desc := "(LCrumblingWall$Wall;LCrumblingWall$Hold;)I" } : Jvm.MethodName)) ∈ lw_tbl := lw_at lw_m12 116 rfl
theorem q2876 : (Jvm.Cond.sameMethod "CrumblingWall$Counted" "CrumblingWall$Counted" "of" "(LCrumblingWall$Wall;LCrumblingWall$Hold;)I") ∈ lw_all := lw_g (lw_at lw_m12 117 rfl) rfl
/-! CrumblingWall$Crumbled -/
set_option maxRecDepth 100000
def RX22 : String := "CrumblingWall$Crumbled"
abbrev cX22_init : ByteArray := prog_6_method_1_code
def yX22_init : MethodName := ⟨RX22, "<init>", "()V"⟩
theorem dX22_init_0 : decode cX22_init 0 = .ok (.aload_n 0, 1) := by decide +kernel
theorem dX22_init_1 : decode cX22_init 1 = .ok (.invokespecial 1, 3) := by decide +kernel
theorem dX22_init_4 : decode cX22_init 4 = .ok (.return_, 1) := by decide +kernel
abbrev cX22_of : ByteArray := prog_6_method_2_code
def yX22_of : MethodName := ⟨RX22, "of", "(LCrumblingWall$Wall;LCrumblingWall$Hold;)I"⟩
def dkwX22_of_0 : List UInt8 := [44, 182, 0, 7, 153, 0, 7, 4, 167, 0, 4, 3, 172]
abbrev dktX22_of_0 : List UInt8 := dkwX22_of_0 ++ []
theorem dksX22_of_0 : cX22_of.data.toList.drop 0 = dktX22_of_0 := by decide +kernel
theorem dX22_of_0 : decode cX22_of 0 = .ok (.aload_n 2, 1) := dk_44 (dk_at dksX22_of_0 0 rfl rfl)
theorem dX22_of_1 : decode cX22_of 1 = .ok (.invokevirtual 7, 3) := dk_182 0 7 (dk_at dksX22_of_0 1 rfl rfl)
theorem dX22_of_4 : decode cX22_of 4 = .ok (.ifCond .eq 7, 3) := dk_153 0 7 (dk_at dksX22_of_0 4 rfl rfl)
theorem dX22_of_7 : decode cX22_of 7 = .ok (.iconst 1, 1) := dk_4 (dk_at dksX22_of_0 7 rfl rfl)
theorem dX22_of_8 : decode cX22_of 8 = .ok (.goto 4, 3) := dk_167 0 4 (dk_at dksX22_of_0 8 rfl rfl)
theorem dX22_of_11 : decode cX22_of 11 = .ok (.iconst 0, 1) := dk_3 (dk_at dksX22_of_0 11 rfl rfl)
theorem dX22_of_12 : decode cX22_of 12 = .ok (.ireturn, 1) := dk_172 (dk_at dksX22_of_0 12 rfl rfl)
theorem q188 : (Jvm.Cond.initialized "CrumblingWall$Crumbled") ∈ lw_all := lw_g (lw_at lw_m1 69 rfl) rfl
theorem q1081 : (Jvm.Cond.selects "CrumblingWall$Crumbled" ({ cls := "java/lang/Object", name := "getClass", desc := "()Ljava/lang/Class;" } : Jvm.MethodName) ({ cls := "java/lang/Object", name := "getClass", desc := "()Ljava/lang/Class;" } : Jvm.MethodName)) ∈ lw_all := lw_g (lw_at lw_m5 2 rfl) rfl
theorem q2856 : (Jvm.Cond.instantiable "CrumblingWall$Crumbled" (0 : Nat)) ∈ lw_all := lw_g (lw_at lw_m12 97 rfl) rfl
theorem q2858 : (Jvm.Cond.instanceMethod ({ cls := "CrumblingWall$Crumbled", name := "<init>", desc := "()V" } : Jvm.MethodName)) ∈ lw_all := lw_g (lw_at lw_m12 99 rfl) rfl
theorem q2859 : (Jvm.Cond.code ({ cls := "CrumblingWall$Crumbled", name := "<init>", desc := "()V" } : Jvm.MethodName) prog_6_method_1_code (1 : Nat) (Option.none : Option Jvm.ClassFile.FieldType)) ∈ lw_all := lw_g (lw_at lw_m12 100 rfl) rfl
theorem q2860 : (Jvm.Cond.methodLinkNest "CrumblingWall$Crumbled" (1 : Nat) ({ cls := "CrumblingWall$Counted", name := "<init>", desc := "()V" } : Jvm.MethodName) "CrumblingWall") ∈ lw_tbl := lw_at lw_m12 101 rfl
theorem q2864 : (Jvm.Cond.superclass "CrumblingWall$Crumbled" "CrumblingWall$Counted") ∈ lw_all := lw_g (lw_at lw_m12 105 rfl) rfl
theorem q2866 : (Jvm.Cond.sameMethod "CrumblingWall$Crumbled" "CrumblingWall$Counted" "all" "(LCrumblingWall$Wall;)I") ∈ lw_all := lw_g (lw_at lw_m12 107 rfl) rfl
theorem q2868 : (Jvm.Cond.selects "CrumblingWall$Crumbled" ({ cls := "CrumblingWall$Crumbled", name := "all", desc := "(LCrumblingWall$Wall;)I" } : Jvm.MethodName) ({ cls := "CrumblingWall$Counted", name := "all", desc := "(LCrumblingWall$Wall;)I" } : Jvm.MethodName)) ∈ lw_all := lw_g (lw_at lw_m12 109 rfl) rfl
theorem q2881 : (Jvm.Cond.selects "CrumblingWall$Crumbled" ({ cls := "CrumblingWall$Counted", name := "of", desc := "(LCrumblingWall$Wall;LCrumblingWall$Hold;)I" } : Jvm.MethodName) ({ cls := "CrumblingWall$Crumbled", name := "of", desc := "(LCrumblingWall$Wall;LCrumblingWall$Hold;)I" } : Jvm.MethodName)) ∈ lw_all := lw_g (lw_at lw_m12 122 rfl) rfl
theorem q2882 : (Jvm.Cond.instanceMethod ({ cls := "CrumblingWall$Crumbled", name := "of", desc := "(LCrumblingWall$Wall;LCrumblingWall$Hold;)I" } : Jvm.MethodName)) ∈ lw_all := lw_g (lw_at lw_m12 123 rfl) rfl
theorem q2883 : (Jvm.Cond.code ({ cls := "CrumblingWall$Crumbled", name := "of", desc := "(LCrumblingWall$Wall;LCrumblingWall$Hold;)I" } : Jvm.MethodName) prog_6_method_2_code (3 : Nat) (Option.some Jvm.ClassFile.FieldType.int)) ∈ lw_all := lw_g (lw_at lw_m12 124 rfl) rfl
theorem q2884 : (Jvm.Cond.methodLink "CrumblingWall$Crumbled" (7 : Nat) ({ cls := "CrumblingWall$Hold", name := "hasCrumbled", desc := "()Z" } : Jvm.MethodName)) ∈ lw_all := lw_g (lw_at lw_m12 125 rfl) rfl
theorem q3599 : (Jvm.Cond.castable "CrumblingWall$Crumbled" "java/lang/Object") ∈ lw_tbl := lw_at lw_m15 120 rfl
/-! CrumblingWall$Worn -/
set_option maxRecDepth 100000
def RX23 : String := "CrumblingWall$Worn"
abbrev cX23_of : ByteArray := prog_22_method_2_code
def yX23_of : MethodName := ⟨RX23, "of", "(LCrumblingWall$Wall;LCrumblingWall$Hold;)I"⟩
theorem dX23_of_0 : decode cX23_of 0 = .ok (.aload_n 2, 1) := by decide +kernel
theorem dX23_of_1 : decode cX23_of 1 = .ok (.invokevirtual 7, 3) := by decide +kernel
theorem dX23_of_4 : decode cX23_of 4 = .ok (.ireturn, 1) := by decide +kernel
abbrev cX23_init : ByteArray := prog_22_method_1_code
def yX23_init : MethodName := ⟨RX23, "<init>", "()V"⟩
theorem dX23_init_0 : decode cX23_init 0 = .ok (.aload_n 0, 1) := by decide +kernel
theorem dX23_init_1 : decode cX23_init 1 = .ok (.invokespecial 1, 3) := by decide +kernel
theorem dX23_init_4 : decode cX23_init 4 = .ok (.return_, 1) := by decide +kernel
theorem q189 : (Jvm.Cond.initialized "CrumblingWall$Worn") ∈ lw_all := lw_g (lw_at lw_m1 70 rfl) rfl
theorem q1094 : (Jvm.Cond.selects "CrumblingWall$Worn" ({ cls := "java/lang/Object", name := "getClass", desc := "()Ljava/lang/Class;" } : Jvm.MethodName) ({ cls := "java/lang/Object", name := "getClass", desc := "()Ljava/lang/Class;" } : Jvm.MethodName)) ∈ lw_all := lw_g (lw_at lw_m5 15 rfl) rfl
theorem q2885 : (Jvm.Cond.selects "CrumblingWall$Worn" ({ cls := "CrumblingWall$Counted", name := "of", desc := "(LCrumblingWall$Wall;LCrumblingWall$Hold;)I" } : Jvm.MethodName) ({ cls := "CrumblingWall$Worn", name := "of", desc := "(LCrumblingWall$Wall;LCrumblingWall$Hold;)I" } : Jvm.MethodName)) ∈ lw_all := lw_g (lw_at lw_m12 126 rfl) rfl
theorem q2886 : (Jvm.Cond.instanceMethod ({ cls := "CrumblingWall$Worn", name := "of", desc := "(LCrumblingWall$Wall;LCrumblingWall$Hold;)I" } : Jvm.MethodName)) ∈ lw_all := lw_g (lw_at lw_m12 127 rfl) rfl
theorem q2887 : (Jvm.Cond.code ({ cls := "CrumblingWall$Worn", name := "of", desc := "(LCrumblingWall$Wall;LCrumblingWall$Hold;)I" } : Jvm.MethodName) prog_22_method_2_code (3 : Nat) (Option.some Jvm.ClassFile.FieldType.int)) ∈ lw_all := lw_g (lw_at lw_m12 128 rfl) rfl
theorem q2888 : (Jvm.Cond.methodLink "CrumblingWall$Worn" (7 : Nat) ({ cls := "CrumblingWall$Hold", name := "wear", desc := "()I" } : Jvm.MethodName)) ∈ lw_all := lw_g (lw_at lw_m12 129 rfl) rfl
theorem q2890 : (Jvm.Cond.instantiable "CrumblingWall$Worn" (0 : Nat)) ∈ lw_all := lw_g (lw_at lw_m12 131 rfl) rfl
theorem q2892 : (Jvm.Cond.instanceMethod ({ cls := "CrumblingWall$Worn", name := "<init>", desc := "()V" } : Jvm.MethodName)) ∈ lw_all := lw_g (lw_at lw_m12 133 rfl) rfl
theorem q2893 : (Jvm.Cond.code ({ cls := "CrumblingWall$Worn", name := "<init>", desc := "()V" } : Jvm.MethodName) prog_22_method_1_code (1 : Nat) (Option.none : Option Jvm.ClassFile.FieldType)) ∈ lw_all := lw_g (lw_at lw_m12 134 rfl) rfl
theorem q2894 : (Jvm.Cond.methodLinkNest "CrumblingWall$Worn" (1 : Nat) ({ cls := "CrumblingWall$Counted", name := "<init>", desc := "()V" } : Jvm.MethodName) "CrumblingWall") ∈ lw_tbl := lw_at lw_m12 135 rfl
theorem q2895 : (Jvm.Cond.superclass "CrumblingWall$Worn" "CrumblingWall$Counted") ∈ lw_all := lw_g (lw_at lw_m12 136 rfl) rfl
theorem q2897 : (Jvm.Cond.sameMethod "CrumblingWall$Worn" "CrumblingWall$Counted" "all" "(LCrumblingWall$Wall;)I") ∈ lw_all := lw_g (lw_at lw_m12 138 rfl) rfl
theorem q2898 : (Jvm.Cond.selects "CrumblingWall$Worn" ({ cls := "CrumblingWall$Worn", name := "all", desc := "(LCrumblingWall$Wall;)I" } : Jvm.MethodName) ({ cls := "CrumblingWall$Counted", name := "all", desc := "(LCrumblingWall$Wall;)I" } : Jvm.MethodName)) ∈ lw_all := lw_g (lw_at lw_m12 139 rfl) rfl
theorem q3600 : (Jvm.Cond.castable "CrumblingWall$Worn" "java/lang/Object") ∈ lw_tbl := lw_at lw_m15 121 rfl
/-! CrumblingWall$Bright -/
set_option maxRecDepth 100000
def RX24 : String := "CrumblingWall$Bright"
abbrev cX24_of : ByteArray := prog_3_method_2_code
def yX24_of : MethodName := ⟨RX24, "of", "(LCrumblingWall$Wall;LCrumblingWall$Hold;)I"⟩
def dkwX24_of_0 : List UInt8 := [43, 44, 182, 0, 7, 153, 0, 7, 4, 167, 0, 4, 3, 172]
abbrev dktX24_of_0 : List UInt8 := dkwX24_of_0 ++ []
theorem dksX24_of_0 : cX24_of.data.toList.drop 0 = dktX24_of_0 := by decide +kernel
theorem dX24_of_0 : decode cX24_of 0 = .ok (.aload_n 1, 1) := dk_43 (dk_at dksX24_of_0 0 rfl rfl)
theorem dX24_of_1 : decode cX24_of 1 = .ok (.aload_n 2, 1) := dk_44 (dk_at dksX24_of_0 1 rfl rfl)
theorem dX24_of_2 : decode cX24_of 2 = .ok (.invokevirtual 7, 3) := dk_182 0 7 (dk_at dksX24_of_0 2 rfl rfl)
theorem dX24_of_5 : decode cX24_of 5 = .ok (.ifCond .eq 7, 3) := dk_153 0 7 (dk_at dksX24_of_0 5 rfl rfl)
theorem dX24_of_8 : decode cX24_of 8 = .ok (.iconst 1, 1) := dk_4 (dk_at dksX24_of_0 8 rfl rfl)
theorem dX24_of_9 : decode cX24_of 9 = .ok (.goto 4, 3) := dk_167 0 4 (dk_at dksX24_of_0 9 rfl rfl)
theorem dX24_of_12 : decode cX24_of 12 = .ok (.iconst 0, 1) := dk_3 (dk_at dksX24_of_0 12 rfl rfl)
theorem dX24_of_13 : decode cX24_of 13 = .ok (.ireturn, 1) := dk_172 (dk_at dksX24_of_0 13 rfl rfl)
abbrev cX24_init : ByteArray := prog_3_method_1_code
def yX24_init : MethodName := ⟨RX24, "<init>", "()V"⟩
theorem dX24_init_0 : decode cX24_init 0 = .ok (.aload_n 0, 1) := by decide +kernel
theorem dX24_init_1 : decode cX24_init 1 = .ok (.invokespecial 1, 3) := by decide +kernel
theorem dX24_init_4 : decode cX24_init 4 = .ok (.return_, 1) := by decide +kernel
theorem q190 : (Jvm.Cond.initialized "CrumblingWall$Bright") ∈ lw_all := lw_g (lw_at lw_m1 71 rfl) rfl
theorem q1079 : (Jvm.Cond.selects "CrumblingWall$Bright" ({ cls := "java/lang/Object", name := "getClass", desc := "()Ljava/lang/Class;" } : Jvm.MethodName) ({ cls := "java/lang/Object", name := "getClass", desc := "()Ljava/lang/Class;" } : Jvm.MethodName)) ∈ lw_all := lw_g (lw_at lw_m5 0 rfl) rfl
theorem q2877 : (Jvm.Cond.selects "CrumblingWall$Bright" ({ cls := "CrumblingWall$Counted", name := "of", desc := "(LCrumblingWall$Wall;LCrumblingWall$Hold;)I" } : Jvm.MethodName) ({ cls := "CrumblingWall$Bright", name := "of", desc := "(LCrumblingWall$Wall;LCrumblingWall$Hold;)I" } : Jvm.MethodName)) ∈ lw_all := lw_g (lw_at lw_m12 118 rfl) rfl
theorem q2878 : (Jvm.Cond.instanceMethod ({ cls := "CrumblingWall$Bright", name := "of", desc := "(LCrumblingWall$Wall;LCrumblingWall$Hold;)I" } : Jvm.MethodName)) ∈ lw_all := lw_g (lw_at lw_m12 119 rfl) rfl
theorem q2879 : (Jvm.Cond.code ({ cls := "CrumblingWall$Bright", name := "of", desc := "(LCrumblingWall$Wall;LCrumblingWall$Hold;)I" } : Jvm.MethodName) prog_3_method_2_code (3 : Nat) (Option.some Jvm.ClassFile.FieldType.int)) ∈ lw_all := lw_g (lw_at lw_m12 120 rfl) rfl
theorem q2880 : (Jvm.Cond.methodLink "CrumblingWall$Bright" (7 : Nat) ({ cls := "CrumblingWall$Wall", name := "isBright", desc := "(LCrumblingWall$Hold;)Z" } : Jvm.MethodName)) ∈ lw_all := lw_g (lw_at lw_m12 121 rfl) rfl
theorem q2904 : (Jvm.Cond.instantiable "CrumblingWall$Bright" (0 : Nat)) ∈ lw_all := lw_g (lw_at lw_m12 145 rfl) rfl
theorem q2906 : (Jvm.Cond.instanceMethod ({ cls := "CrumblingWall$Bright", name := "<init>", desc := "()V" } : Jvm.MethodName)) ∈ lw_all := lw_g (lw_at lw_m12 147 rfl) rfl
theorem q2907 : (Jvm.Cond.code ({ cls := "CrumblingWall$Bright", name := "<init>", desc := "()V" } : Jvm.MethodName) prog_3_method_1_code (1 : Nat) (Option.none : Option Jvm.ClassFile.FieldType)) ∈ lw_all := lw_g (lw_at lw_m12 148 rfl) rfl
theorem q2908 : (Jvm.Cond.methodLinkNest "CrumblingWall$Bright" (1 : Nat) ({ cls := "CrumblingWall$Counted", name := "<init>", desc := "()V" } : Jvm.MethodName) "CrumblingWall") ∈ lw_tbl := lw_at lw_m12 149 rfl
theorem q2909 : (Jvm.Cond.superclass "CrumblingWall$Bright" "CrumblingWall$Counted") ∈ lw_all := lw_g (lw_at lw_m12 150 rfl) rfl
theorem q2911 : (Jvm.Cond.sameMethod "CrumblingWall$Bright" "CrumblingWall$Counted" "all" "(LCrumblingWall$Wall;)I") ∈ lw_all := lw_g (lw_at lw_m12 152 rfl) rfl
theorem q2912 : (Jvm.Cond.selects "CrumblingWall$Bright" ({ cls := "CrumblingWall$Bright", name := "all", desc := "(LCrumblingWall$Wall;)I" } : Jvm.MethodName) ({ cls := "CrumblingWall$Counted", name := "all", desc := "(LCrumblingWall$Wall;)I" } : Jvm.MethodName)) ∈ lw_all := lw_g (lw_at lw_m12 153 rfl) rfl
theorem q3601 : (Jvm.Cond.castable "CrumblingWall$Bright" "java/lang/Object") ∈ lw_tbl := lw_at lw_m15 122 rfl
