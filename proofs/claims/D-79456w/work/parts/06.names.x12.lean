/-! CrumblingWall -/
set_option maxRecDepth 100000
def RX1 : String := "CrumblingWall"
def TX1 : u_T := fun k => match k with
  | 0 => ("CrumblingWall", "wall", "LCrumblingWall$Wall;", false)
  | 1 => ("CrumblingWall", "saved", "LCrumblingWall$Wall;", false)
  | 2 => ("CrumblingWall", "past", "Ljava/util/ArrayDeque;", true)
  | 3 => ("CrumblingWall", "reason", "I", false)
  | 4 => ("CrumblingWall", "detail", "I", false)
  | 5 => ("CrumblingWall", "states", "[I", true)
  | 6 => ("CrumblingWall", "stated", "I", false)
  | 7 => ("CrumblingWall", "rows", "[[F", true)
  | 8 => ("CrumblingWall", "rack", "[LCrumblingWall$Hold;", false)
  | 9 => ("CrumblingWall", "text", "Ljava/lang/StringBuilder;", true)
  | _ => ("CrumblingWall", "errorAt", "I", false)
def tyX1 : Nat → FieldType := fun k => match k with
  | 0 => .object "CrumblingWall$Wall"
  | 1 => .object "CrumblingWall$Wall"
  | 2 => .object "java/util/ArrayDeque"
  | 3 => .int
  | 4 => .int
  | 5 => .array .int
  | 6 => .int
  | 7 => .array (.array .float)
  | 8 => .array (.object "CrumblingWall$Hold")
  | 9 => .object "java/lang/StringBuilder"
  | _ => .int
abbrev wsX10 : List Cond := u_ws RX1 TX1 11
theorem nmX1 : ∀ a, a < 11 → ∀ b, b < 11 → a ≠ b → (TX1 a).2.1 ≠ (TX1 b).2.1 := by decide +kernel
theorem tyX1_ok : ∀ k, k < 11 → parseFieldDescriptor (TX1 k).2.2.1 = some (tyX1 k) := by decide +kernel
abbrev cX1_init : ByteArray := prog_1_method_1_code
def yX1_init : MethodName := ⟨RX1, "<init>", "()V"⟩
def dkwX1_init_2 : List UInt8 := [189, 0, 33, 181, 0, 35, 42, 187, 0, 39, 89, 183, 0, 41, 181, 0, 42, 42, 2, 181, 0, 46, 177]
abbrev dktX1_init_2 : List UInt8 := dkwX1_init_2 ++ []
def dkwX1_init_1 : List UInt8 := [181, 0, 19, 42, 17, 1, 185, 188, 10, 181, 0, 23, 42, 6, 189, 0, 27, 181, 0, 29, 42, 16, 6]
abbrev dktX1_init_1 : List UInt8 := dkwX1_init_1 ++ dktX1_init_2
def dkwX1_init_0 : List UInt8 := [42, 183, 0, 3, 42, 187, 0, 9, 89, 183, 0, 11, 181, 0, 12, 42, 187, 0, 16, 89, 183, 0, 18]
abbrev dktX1_init_0 : List UInt8 := dkwX1_init_0 ++ dktX1_init_1
theorem dksX1_init_0 : cX1_init.data.toList.drop 0 = dktX1_init_0 := by decide +kernel
theorem dksX1_init_1 : cX1_init.data.toList.drop 23 = dktX1_init_1 := dk_seg dksX1_init_0 23 rfl rfl
theorem dksX1_init_2 : cX1_init.data.toList.drop 46 = dktX1_init_2 := dk_seg dksX1_init_1 23 rfl rfl
theorem dX1_init_0 : decode cX1_init 0 = .ok (.aload_n 0, 1) := dk_42 (dk_at dksX1_init_0 0 rfl rfl)
theorem dX1_init_1 : decode cX1_init 1 = .ok (.invokespecial 3, 3) := dk_183 0 3 (dk_at dksX1_init_0 1 rfl rfl)
theorem dX1_init_4 : decode cX1_init 4 = .ok (.aload_n 0, 1) := dk_42 (dk_at dksX1_init_0 4 rfl rfl)
theorem dX1_init_5 : decode cX1_init 5 = .ok (.new 9, 3) := dk_187 0 9 (dk_at dksX1_init_0 5 rfl rfl)
theorem dX1_init_8 : decode cX1_init 8 = .ok (.dup, 1) := dk_89 (dk_at dksX1_init_0 8 rfl rfl)
theorem dX1_init_9 : decode cX1_init 9 = .ok (.invokespecial 11, 3) := dk_183 0 11 (dk_at dksX1_init_0 9 rfl rfl)
theorem dX1_init_12 : decode cX1_init 12 = .ok (.putfield 12, 3) := dk_181 0 12 (dk_at dksX1_init_0 12 rfl rfl)
theorem dX1_init_15 : decode cX1_init 15 = .ok (.aload_n 0, 1) := dk_42 (dk_at dksX1_init_0 15 rfl rfl)
theorem dX1_init_16 : decode cX1_init 16 = .ok (.new 16, 3) := dk_187 0 16 (dk_at dksX1_init_0 16 rfl rfl)
theorem dX1_init_19 : decode cX1_init 19 = .ok (.dup, 1) := dk_89 (dk_at dksX1_init_0 19 rfl rfl)
theorem dX1_init_20 : decode cX1_init 20 = .ok (.invokespecial 18, 3) := dk_183 0 18 (dk_at dksX1_init_0 20 rfl rfl)
theorem dX1_init_23 : decode cX1_init 23 = .ok (.putfield 19, 3) := dk_181 0 19 (dk_at dksX1_init_1 0 rfl rfl)
theorem dX1_init_26 : decode cX1_init 26 = .ok (.aload_n 0, 1) := dk_42 (dk_at dksX1_init_1 3 rfl rfl)
theorem dX1_init_27 : decode cX1_init 27 = .ok (.sipush 441, 3) := dk_17 1 185 (dk_at dksX1_init_1 4 rfl rfl)
theorem dX1_init_30 : decode cX1_init 30 = .ok (.newarray .int, 2) := dk_188_10 (dk_at dksX1_init_1 7 rfl rfl)
theorem dX1_init_32 : decode cX1_init 32 = .ok (.putfield 23, 3) := dk_181 0 23 (dk_at dksX1_init_1 9 rfl rfl)
theorem dX1_init_35 : decode cX1_init 35 = .ok (.aload_n 0, 1) := dk_42 (dk_at dksX1_init_1 12 rfl rfl)
theorem dX1_init_36 : decode cX1_init 36 = .ok (.iconst 3, 1) := dk_6 (dk_at dksX1_init_1 13 rfl rfl)
theorem dX1_init_37 : decode cX1_init 37 = .ok (.anewarray 27, 3) := dk_189 0 27 (dk_at dksX1_init_1 14 rfl rfl)
theorem dX1_init_40 : decode cX1_init 40 = .ok (.putfield 29, 3) := dk_181 0 29 (dk_at dksX1_init_1 17 rfl rfl)
theorem dX1_init_43 : decode cX1_init 43 = .ok (.aload_n 0, 1) := dk_42 (dk_at dksX1_init_1 20 rfl rfl)
theorem dX1_init_44 : decode cX1_init 44 = .ok (.bipush 6, 2) := dk_16 6 (dk_at dksX1_init_1 21 rfl rfl)
theorem dX1_init_46 : decode cX1_init 46 = .ok (.anewarray 33, 3) := dk_189 0 33 (dk_at dksX1_init_2 0 rfl rfl)
theorem dX1_init_49 : decode cX1_init 49 = .ok (.putfield 35, 3) := dk_181 0 35 (dk_at dksX1_init_2 3 rfl rfl)
theorem dX1_init_52 : decode cX1_init 52 = .ok (.aload_n 0, 1) := dk_42 (dk_at dksX1_init_2 6 rfl rfl)
theorem dX1_init_53 : decode cX1_init 53 = .ok (.new 39, 3) := dk_187 0 39 (dk_at dksX1_init_2 7 rfl rfl)
theorem dX1_init_56 : decode cX1_init 56 = .ok (.dup, 1) := dk_89 (dk_at dksX1_init_2 10 rfl rfl)
theorem dX1_init_57 : decode cX1_init 57 = .ok (.invokespecial 41, 3) := dk_183 0 41 (dk_at dksX1_init_2 11 rfl rfl)
theorem dX1_init_60 : decode cX1_init 60 = .ok (.putfield 42, 3) := dk_181 0 42 (dk_at dksX1_init_2 14 rfl rfl)
theorem dX1_init_63 : decode cX1_init 63 = .ok (.aload_n 0, 1) := dk_42 (dk_at dksX1_init_2 17 rfl rfl)
theorem dX1_init_64 : decode cX1_init 64 = .ok (.iconst (-1), 1) := dk_2 (dk_at dksX1_init_2 18 rfl rfl)
theorem dX1_init_65 : decode cX1_init 65 = .ok (.putfield 46, 3) := dk_181 0 46 (dk_at dksX1_init_2 19 rfl rfl)
theorem dX1_init_68 : decode cX1_init 68 = .ok (.return_, 1) := dk_177 (dk_at dksX1_init_2 22 rfl rfl)
abbrev cX1_anchors : ByteArray := prog_1_method_33_code
def yX1_anchors : MethodName := ⟨RX1, "anchors", "()I"⟩
def dkwX1_anchors_0 : List UInt8 := [42, 180, 0, 12, 180, 1, 106, 182, 1, 110, 172]
abbrev dktX1_anchors_0 : List UInt8 := dkwX1_anchors_0 ++ []
theorem dksX1_anchors_0 : cX1_anchors.data.toList.drop 0 = dktX1_anchors_0 := by decide +kernel
theorem dX1_anchors_0 : decode cX1_anchors 0 = .ok (.aload_n 0, 1) := dk_42 (dk_at dksX1_anchors_0 0 rfl rfl)
theorem dX1_anchors_1 : decode cX1_anchors 1 = .ok (.getfield 12, 3) := dk_180 0 12 (dk_at dksX1_anchors_0 1 rfl rfl)
theorem dX1_anchors_4 : decode cX1_anchors 4 = .ok (.getfield 362, 3) := dk_180 1 106 (dk_at dksX1_anchors_0 4 rfl rfl)
theorem dX1_anchors_7 : decode cX1_anchors 7 = .ok (.invokevirtual 366, 3) := dk_182 1 110 (dk_at dksX1_anchors_0 7 rfl rfl)
theorem dX1_anchors_10 : decode cX1_anchors 10 = .ok (.ireturn, 1) := dk_172 (dk_at dksX1_anchors_0 10 rfl rfl)
abbrev cX1_rope : ByteArray := prog_1_method_35_code
def yX1_rope : MethodName := ⟨RX1, "rope", "()I"⟩
def dkwX1_rope_0 : List UInt8 := [42, 180, 0, 12, 182, 0, 155, 172]
abbrev dktX1_rope_0 : List UInt8 := dkwX1_rope_0 ++ []
theorem dksX1_rope_0 : cX1_rope.data.toList.drop 0 = dktX1_rope_0 := by decide +kernel
theorem dX1_rope_0 : decode cX1_rope 0 = .ok (.aload_n 0, 1) := dk_42 (dk_at dksX1_rope_0 0 rfl rfl)
theorem dX1_rope_1 : decode cX1_rope 1 = .ok (.getfield 12, 3) := dk_180 0 12 (dk_at dksX1_rope_0 1 rfl rfl)
theorem dX1_rope_4 : decode cX1_rope 4 = .ok (.invokevirtual 155, 3) := dk_182 0 155 (dk_at dksX1_rope_0 4 rfl rfl)
theorem dX1_rope_7 : decode cX1_rope 7 = .ok (.ireturn, 1) := dk_172 (dk_at dksX1_rope_0 7 rfl rfl)
abbrev cX1_ropeAgain : ByteArray := prog_1_method_36_code
def yX1_ropeAgain : MethodName := ⟨RX1, "ropeAgain", "()I"⟩
def dkwX1_ropeAgain_0 : List UInt8 := [42, 180, 0, 12, 182, 1, 117, 172]
abbrev dktX1_ropeAgain_0 : List UInt8 := dkwX1_ropeAgain_0 ++ []
theorem dksX1_ropeAgain_0 : cX1_ropeAgain.data.toList.drop 0 = dktX1_ropeAgain_0 := by decide +kernel
theorem dX1_ropeAgain_0 : decode cX1_ropeAgain 0 = .ok (.aload_n 0, 1) := dk_42 (dk_at dksX1_ropeAgain_0 0 rfl rfl)
theorem dX1_ropeAgain_1 : decode cX1_ropeAgain 1 = .ok (.getfield 12, 3) := dk_180 0 12 (dk_at dksX1_ropeAgain_0 1 rfl rfl)
theorem dX1_ropeAgain_4 : decode cX1_ropeAgain 4 = .ok (.invokevirtual 373, 3) := dk_182 1 117 (dk_at dksX1_ropeAgain_0 4 rfl rfl)
theorem dX1_ropeAgain_7 : decode cX1_ropeAgain 7 = .ok (.ireturn, 1) := dk_172 (dk_at dksX1_ropeAgain_0 7 rfl rfl)
abbrev cX1_left : ByteArray := prog_1_method_50_code
def yX1_left : MethodName := ⟨RX1, "left", "()I"⟩
def dkwX1_left_3 : List UInt8 := [96, 60, 132, 4, 1, 167, 255, 193, 27, 172]
abbrev dktX1_left_3 : List UInt8 := dkwX1_left_3 ++ []
def dkwX1_left_2 : List UInt8 := [180, 0, 12, 180, 0, 112, 25, 5, 182, 1, 166, 182, 0, 172, 192, 0, 33, 182, 1, 169, 167, 0, 4, 3]
abbrev dktX1_left_2 : List UInt8 := dkwX1_left_2 ++ dktX1_left_3
def dkwX1_left_1 : List UInt8 := [58, 5, 27, 25, 5, 198, 0, 42, 42, 180, 0, 12, 25, 5, 182, 1, 166, 182, 0, 165, 153, 0, 27, 42]
abbrev dktX1_left_1 : List UInt8 := dkwX1_left_1 ++ dktX1_left_2
def dkwX1_left_0 : List UInt8 := [3, 60, 42, 180, 0, 35, 77, 44, 190, 62, 3, 54, 4, 21, 4, 29, 162, 0, 63, 44, 21, 4, 50]
abbrev dktX1_left_0 : List UInt8 := dkwX1_left_0 ++ dktX1_left_1
theorem dksX1_left_0 : cX1_left.data.toList.drop 0 = dktX1_left_0 := by decide +kernel
theorem dksX1_left_1 : cX1_left.data.toList.drop 23 = dktX1_left_1 := dk_seg dksX1_left_0 23 rfl rfl
theorem dksX1_left_2 : cX1_left.data.toList.drop 47 = dktX1_left_2 := dk_seg dksX1_left_1 24 rfl rfl
theorem dksX1_left_3 : cX1_left.data.toList.drop 71 = dktX1_left_3 := dk_seg dksX1_left_2 24 rfl rfl
theorem dX1_left_0 : decode cX1_left 0 = .ok (.iconst 0, 1) := dk_3 (dk_at dksX1_left_0 0 rfl rfl)
theorem dX1_left_1 : decode cX1_left 1 = .ok (.istore_n 1, 1) := dk_60 (dk_at dksX1_left_0 1 rfl rfl)
theorem dX1_left_2 : decode cX1_left 2 = .ok (.aload_n 0, 1) := dk_42 (dk_at dksX1_left_0 2 rfl rfl)
theorem dX1_left_3 : decode cX1_left 3 = .ok (.getfield 35, 3) := dk_180 0 35 (dk_at dksX1_left_0 3 rfl rfl)
theorem dX1_left_6 : decode cX1_left 6 = .ok (.astore_n 2, 1) := dk_77 (dk_at dksX1_left_0 6 rfl rfl)
theorem dX1_left_7 : decode cX1_left 7 = .ok (.aload_n 2, 1) := dk_44 (dk_at dksX1_left_0 7 rfl rfl)
theorem dX1_left_8 : decode cX1_left 8 = .ok (.arraylength, 1) := dk_190 (dk_at dksX1_left_0 8 rfl rfl)
theorem dX1_left_9 : decode cX1_left 9 = .ok (.istore_n 3, 1) := dk_62 (dk_at dksX1_left_0 9 rfl rfl)
theorem dX1_left_10 : decode cX1_left 10 = .ok (.iconst 0, 1) := dk_3 (dk_at dksX1_left_0 10 rfl rfl)
theorem dX1_left_11 : decode cX1_left 11 = .ok (.istore 4, 2) := dk_54 4 (dk_at dksX1_left_0 11 rfl rfl)
theorem dX1_left_13 : decode cX1_left 13 = .ok (.iload 4, 2) := dk_21 4 (dk_at dksX1_left_0 13 rfl rfl)
theorem dX1_left_15 : decode cX1_left 15 = .ok (.iload_n 3, 1) := dk_29 (dk_at dksX1_left_0 15 rfl rfl)
theorem dX1_left_16 : decode cX1_left 16 = .ok (.if_icmp .ge 63, 3) := dk_162 0 63 (dk_at dksX1_left_0 16 rfl rfl)
theorem dX1_left_19 : decode cX1_left 19 = .ok (.aload_n 2, 1) := dk_44 (dk_at dksX1_left_0 19 rfl rfl)
theorem dX1_left_20 : decode cX1_left 20 = .ok (.iload 4, 2) := dk_21 4 (dk_at dksX1_left_0 20 rfl rfl)
theorem dX1_left_22 : decode cX1_left 22 = .ok (.aaload, 1) := dk_50 (dk_at dksX1_left_0 22 rfl rfl)
theorem dX1_left_23 : decode cX1_left 23 = .ok (.astore 5, 2) := dk_58 5 (dk_at dksX1_left_1 0 rfl rfl)
theorem dX1_left_25 : decode cX1_left 25 = .ok (.iload_n 1, 1) := dk_27 (dk_at dksX1_left_1 2 rfl rfl)
theorem dX1_left_26 : decode cX1_left 26 = .ok (.aload 5, 2) := dk_25 5 (dk_at dksX1_left_1 3 rfl rfl)
theorem dX1_left_28 : decode cX1_left 28 = .ok (.ifnull 42, 3) := dk_198 0 42 (dk_at dksX1_left_1 5 rfl rfl)
theorem dX1_left_31 : decode cX1_left 31 = .ok (.aload_n 0, 1) := dk_42 (dk_at dksX1_left_1 8 rfl rfl)
theorem dX1_left_32 : decode cX1_left 32 = .ok (.getfield 12, 3) := dk_180 0 12 (dk_at dksX1_left_1 9 rfl rfl)
theorem dX1_left_35 : decode cX1_left 35 = .ok (.aload 5, 2) := dk_25 5 (dk_at dksX1_left_1 12 rfl rfl)
theorem dX1_left_37 : decode cX1_left 37 = .ok (.invokevirtual 422, 3) := dk_182 1 166 (dk_at dksX1_left_1 14 rfl rfl)
theorem dX1_left_40 : decode cX1_left 40 = .ok (.invokevirtual 165, 3) := dk_182 0 165 (dk_at dksX1_left_1 17 rfl rfl)
theorem dX1_left_43 : decode cX1_left 43 = .ok (.ifCond .eq 27, 3) := dk_153 0 27 (dk_at dksX1_left_1 20 rfl rfl)
theorem dX1_left_46 : decode cX1_left 46 = .ok (.aload_n 0, 1) := dk_42 (dk_at dksX1_left_1 23 rfl rfl)
theorem dX1_left_47 : decode cX1_left 47 = .ok (.getfield 12, 3) := dk_180 0 12 (dk_at dksX1_left_2 0 rfl rfl)
theorem dX1_left_50 : decode cX1_left 50 = .ok (.getfield 112, 3) := dk_180 0 112 (dk_at dksX1_left_2 3 rfl rfl)
theorem dX1_left_53 : decode cX1_left 53 = .ok (.aload 5, 2) := dk_25 5 (dk_at dksX1_left_2 6 rfl rfl)
theorem dX1_left_55 : decode cX1_left 55 = .ok (.invokevirtual 422, 3) := dk_182 1 166 (dk_at dksX1_left_2 8 rfl rfl)
theorem dX1_left_58 : decode cX1_left 58 = .ok (.invokevirtual 172, 3) := dk_182 0 172 (dk_at dksX1_left_2 11 rfl rfl)
theorem dX1_left_61 : decode cX1_left 61 = .ok (.checkcast 33, 3) := dk_192 0 33 (dk_at dksX1_left_2 14 rfl rfl)
theorem dX1_left_64 : decode cX1_left 64 = .ok (.invokevirtual 425, 3) := dk_182 1 169 (dk_at dksX1_left_2 17 rfl rfl)
theorem dX1_left_67 : decode cX1_left 67 = .ok (.goto 4, 3) := dk_167 0 4 (dk_at dksX1_left_2 20 rfl rfl)
theorem dX1_left_70 : decode cX1_left 70 = .ok (.iconst 0, 1) := dk_3 (dk_at dksX1_left_2 23 rfl rfl)
theorem dX1_left_71 : decode cX1_left 71 = .ok (.iadd, 1) := dk_96 (dk_at dksX1_left_3 0 rfl rfl)
theorem dX1_left_72 : decode cX1_left 72 = .ok (.istore_n 1, 1) := dk_60 (dk_at dksX1_left_3 1 rfl rfl)
theorem dX1_left_73 : decode cX1_left 73 = .ok (.iinc 4 1, 3) := dk_132 4 1 (dk_at dksX1_left_3 2 rfl rfl)
theorem dX1_left_76 : decode cX1_left 76 = .ok (.goto (-63), 3) := dk_167 255 193 (dk_at dksX1_left_3 5 rfl rfl)
theorem dX1_left_79 : decode cX1_left 79 = .ok (.iload_n 1, 1) := dk_27 (dk_at dksX1_left_3 8 rfl rfl)
theorem dX1_left_80 : decode cX1_left 80 = .ok (.ireturn, 1) := dk_172 (dk_at dksX1_left_3 9 rfl rfl)
abbrev cX1_isIn : ByteArray := prog_1_method_2_code
def yX1_isIn : MethodName := ⟨RX1, "isIn", "(III)Z"⟩
def dkwX1_isIn_0 : List UInt8 := [26, 27, 161, 0, 12, 26, 28, 163, 0, 7, 4, 167, 0, 4, 3, 172]
abbrev dktX1_isIn_0 : List UInt8 := dkwX1_isIn_0 ++ []
theorem dksX1_isIn_0 : cX1_isIn.data.toList.drop 0 = dktX1_isIn_0 := by decide +kernel
theorem dX1_isIn_0 : decode cX1_isIn 0 = .ok (.iload_n 0, 1) := dk_26 (dk_at dksX1_isIn_0 0 rfl rfl)
theorem dX1_isIn_1 : decode cX1_isIn 1 = .ok (.iload_n 1, 1) := dk_27 (dk_at dksX1_isIn_0 1 rfl rfl)
theorem dX1_isIn_2 : decode cX1_isIn 2 = .ok (.if_icmp .lt 12, 3) := dk_161 0 12 (dk_at dksX1_isIn_0 2 rfl rfl)
theorem dX1_isIn_5 : decode cX1_isIn 5 = .ok (.iload_n 0, 1) := dk_26 (dk_at dksX1_isIn_0 5 rfl rfl)
theorem dX1_isIn_6 : decode cX1_isIn 6 = .ok (.iload_n 2, 1) := dk_28 (dk_at dksX1_isIn_0 6 rfl rfl)
theorem dX1_isIn_7 : decode cX1_isIn 7 = .ok (.if_icmp .gt 7, 3) := dk_163 0 7 (dk_at dksX1_isIn_0 7 rfl rfl)
theorem dX1_isIn_10 : decode cX1_isIn 10 = .ok (.iconst 1, 1) := dk_4 (dk_at dksX1_isIn_0 10 rfl rfl)
theorem dX1_isIn_11 : decode cX1_isIn 11 = .ok (.goto 4, 3) := dk_167 0 4 (dk_at dksX1_isIn_0 11 rfl rfl)
theorem dX1_isIn_14 : decode cX1_isIn 14 = .ok (.iconst 0, 1) := dk_3 (dk_at dksX1_isIn_0 14 rfl rfl)
theorem dX1_isIn_15 : decode cX1_isIn 15 = .ok (.ireturn, 1) := dk_172 (dk_at dksX1_isIn_0 15 rfl rfl)
abbrev cX1_save : ByteArray := prog_1_method_61_code
def yX1_save : MethodName := ⟨RX1, "save", "()I"⟩
def dkwX1_save_0 : List UInt8 := [42, 42, 180, 0, 12, 182, 0, 130, 181, 2, 4, 42, 180, 2, 4, 180, 0, 112, 182, 0, 116, 172]
abbrev dktX1_save_0 : List UInt8 := dkwX1_save_0 ++ []
theorem dksX1_save_0 : cX1_save.data.toList.drop 0 = dktX1_save_0 := by decide +kernel
theorem dX1_save_0 : decode cX1_save 0 = .ok (.aload_n 0, 1) := dk_42 (dk_at dksX1_save_0 0 rfl rfl)
theorem dX1_save_1 : decode cX1_save 1 = .ok (.aload_n 0, 1) := dk_42 (dk_at dksX1_save_0 1 rfl rfl)
theorem dX1_save_2 : decode cX1_save 2 = .ok (.getfield 12, 3) := dk_180 0 12 (dk_at dksX1_save_0 2 rfl rfl)
theorem dX1_save_5 : decode cX1_save 5 = .ok (.invokevirtual 130, 3) := dk_182 0 130 (dk_at dksX1_save_0 5 rfl rfl)
theorem dX1_save_8 : decode cX1_save 8 = .ok (.putfield 516, 3) := dk_181 2 4 (dk_at dksX1_save_0 8 rfl rfl)
theorem dX1_save_11 : decode cX1_save 11 = .ok (.aload_n 0, 1) := dk_42 (dk_at dksX1_save_0 11 rfl rfl)
theorem dX1_save_12 : decode cX1_save 12 = .ok (.getfield 516, 3) := dk_180 2 4 (dk_at dksX1_save_0 12 rfl rfl)
theorem dX1_save_15 : decode cX1_save 15 = .ok (.getfield 112, 3) := dk_180 0 112 (dk_at dksX1_save_0 15 rfl rfl)
theorem dX1_save_18 : decode cX1_save 18 = .ok (.invokevirtual 116, 3) := dk_182 0 116 (dk_at dksX1_save_0 18 rfl rfl)
theorem dX1_save_21 : decode cX1_save 21 = .ok (.ireturn, 1) := dk_172 (dk_at dksX1_save_0 21 rfl rfl)
abbrev cX1_hold : ByteArray := prog_1_method_11_code
def yX1_hold : MethodName := ⟨RX1, "hold", "(IIII)I"⟩
def dkwX1_hold_6 : List UInt8 := [21, 4, 184, 0, 134, 182, 0, 138, 87, 42, 25, 6, 21, 7, 182, 0, 142, 172]
abbrev dktX1_hold_6 : List UInt8 := dkwX1_hold_6 ++ []
def dkwX1_hold_5 : List UInt8 := [180, 0, 12, 180, 0, 112, 182, 0, 116, 54, 7, 42, 180, 0, 12, 180, 0, 112, 21, 7, 27, 28, 29]
abbrev dktX1_hold_5 : List UInt8 := dkwX1_hold_5 ++ dktX1_hold_6
def dkwX1_hold_4 : List UInt8 := [89, 16, 16, 21, 5, 183, 0, 75, 182, 0, 126, 191, 42, 180, 0, 12, 182, 0, 130, 58, 6, 42]
abbrev dktX1_hold_4 : List UInt8 := dkwX1_hold_4 ++ dktX1_hold_5
def dkwX1_hold_3 : List UInt8 := [184, 0, 119, 42, 180, 0, 12, 27, 28, 182, 0, 122, 54, 5, 21, 5, 2, 159, 0, 19, 42, 187, 0, 63]
abbrev dktX1_hold_3 : List UInt8 := dkwX1_hold_3 ++ dktX1_hold_4
def dkwX1_hold_2 : List UInt8 := [184, 0, 108, 42, 180, 0, 12, 180, 0, 112, 182, 0, 116, 16, 20, 162, 0, 7, 4, 167, 0, 4, 3]
abbrev dktX1_hold_2 : List UInt8 := dkwX1_hold_2 ++ dktX1_hold_3
def dkwX1_hold_1 : List UInt8 := [184, 0, 104, 153, 0, 18, 21, 4, 4, 16, 9, 184, 0, 104, 153, 0, 7, 4, 167, 0, 4, 3]
abbrev dktX1_hold_1 : List UInt8 := dkwX1_hold_1 ++ dktX1_hold_2
def dkwX1_hold_0 : List UInt8 := [27, 3, 16, 9, 184, 0, 104, 153, 0, 37, 28, 4, 16, 20, 184, 0, 104, 153, 0, 27, 29, 3, 6]
abbrev dktX1_hold_0 : List UInt8 := dkwX1_hold_0 ++ dktX1_hold_1
theorem dksX1_hold_0 : cX1_hold.data.toList.drop 0 = dktX1_hold_0 := by decide +kernel
theorem dksX1_hold_1 : cX1_hold.data.toList.drop 23 = dktX1_hold_1 := dk_seg dksX1_hold_0 23 rfl rfl
theorem dksX1_hold_2 : cX1_hold.data.toList.drop 45 = dktX1_hold_2 := dk_seg dksX1_hold_1 22 rfl rfl
theorem dksX1_hold_3 : cX1_hold.data.toList.drop 68 = dktX1_hold_3 := dk_seg dksX1_hold_2 23 rfl rfl
theorem dksX1_hold_4 : cX1_hold.data.toList.drop 92 = dktX1_hold_4 := dk_seg dksX1_hold_3 24 rfl rfl
theorem dksX1_hold_5 : cX1_hold.data.toList.drop 114 = dktX1_hold_5 := dk_seg dksX1_hold_4 22 rfl rfl
theorem dksX1_hold_6 : cX1_hold.data.toList.drop 137 = dktX1_hold_6 := dk_seg dksX1_hold_5 23 rfl rfl
theorem dX1_hold_0 : decode cX1_hold 0 = .ok (.iload_n 1, 1) := dk_27 (dk_at dksX1_hold_0 0 rfl rfl)
theorem dX1_hold_1 : decode cX1_hold 1 = .ok (.iconst 0, 1) := dk_3 (dk_at dksX1_hold_0 1 rfl rfl)
theorem dX1_hold_2 : decode cX1_hold 2 = .ok (.bipush 9, 2) := dk_16 9 (dk_at dksX1_hold_0 2 rfl rfl)
theorem dX1_hold_4 : decode cX1_hold 4 = .ok (.invokestatic 104, 3) := dk_184 0 104 (dk_at dksX1_hold_0 4 rfl rfl)
theorem dX1_hold_7 : decode cX1_hold 7 = .ok (.ifCond .eq 37, 3) := dk_153 0 37 (dk_at dksX1_hold_0 7 rfl rfl)
theorem dX1_hold_10 : decode cX1_hold 10 = .ok (.iload_n 2, 1) := dk_28 (dk_at dksX1_hold_0 10 rfl rfl)
theorem dX1_hold_11 : decode cX1_hold 11 = .ok (.iconst 1, 1) := dk_4 (dk_at dksX1_hold_0 11 rfl rfl)
theorem dX1_hold_12 : decode cX1_hold 12 = .ok (.bipush 20, 2) := dk_16 20 (dk_at dksX1_hold_0 12 rfl rfl)
theorem dX1_hold_14 : decode cX1_hold 14 = .ok (.invokestatic 104, 3) := dk_184 0 104 (dk_at dksX1_hold_0 14 rfl rfl)
theorem dX1_hold_17 : decode cX1_hold 17 = .ok (.ifCond .eq 27, 3) := dk_153 0 27 (dk_at dksX1_hold_0 17 rfl rfl)
theorem dX1_hold_20 : decode cX1_hold 20 = .ok (.iload_n 3, 1) := dk_29 (dk_at dksX1_hold_0 20 rfl rfl)
theorem dX1_hold_21 : decode cX1_hold 21 = .ok (.iconst 0, 1) := dk_3 (dk_at dksX1_hold_0 21 rfl rfl)
theorem dX1_hold_22 : decode cX1_hold 22 = .ok (.iconst 3, 1) := dk_6 (dk_at dksX1_hold_0 22 rfl rfl)
theorem dX1_hold_23 : decode cX1_hold 23 = .ok (.invokestatic 104, 3) := dk_184 0 104 (dk_at dksX1_hold_1 0 rfl rfl)
theorem dX1_hold_26 : decode cX1_hold 26 = .ok (.ifCond .eq 18, 3) := dk_153 0 18 (dk_at dksX1_hold_1 3 rfl rfl)
theorem dX1_hold_29 : decode cX1_hold 29 = .ok (.iload 4, 2) := dk_21 4 (dk_at dksX1_hold_1 6 rfl rfl)
theorem dX1_hold_31 : decode cX1_hold 31 = .ok (.iconst 1, 1) := dk_4 (dk_at dksX1_hold_1 8 rfl rfl)
theorem dX1_hold_32 : decode cX1_hold 32 = .ok (.bipush 9, 2) := dk_16 9 (dk_at dksX1_hold_1 9 rfl rfl)
theorem dX1_hold_34 : decode cX1_hold 34 = .ok (.invokestatic 104, 3) := dk_184 0 104 (dk_at dksX1_hold_1 11 rfl rfl)
theorem dX1_hold_37 : decode cX1_hold 37 = .ok (.ifCond .eq 7, 3) := dk_153 0 7 (dk_at dksX1_hold_1 14 rfl rfl)
theorem dX1_hold_40 : decode cX1_hold 40 = .ok (.iconst 1, 1) := dk_4 (dk_at dksX1_hold_1 17 rfl rfl)
theorem dX1_hold_41 : decode cX1_hold 41 = .ok (.goto 4, 3) := dk_167 0 4 (dk_at dksX1_hold_1 18 rfl rfl)
theorem dX1_hold_44 : decode cX1_hold 44 = .ok (.iconst 0, 1) := dk_3 (dk_at dksX1_hold_1 21 rfl rfl)
theorem dX1_hold_45 : decode cX1_hold 45 = .ok (.invokestatic 108, 3) := dk_184 0 108 (dk_at dksX1_hold_2 0 rfl rfl)
theorem dX1_hold_48 : decode cX1_hold 48 = .ok (.aload_n 0, 1) := dk_42 (dk_at dksX1_hold_2 3 rfl rfl)
theorem dX1_hold_49 : decode cX1_hold 49 = .ok (.getfield 12, 3) := dk_180 0 12 (dk_at dksX1_hold_2 4 rfl rfl)
theorem dX1_hold_52 : decode cX1_hold 52 = .ok (.getfield 112, 3) := dk_180 0 112 (dk_at dksX1_hold_2 7 rfl rfl)
theorem dX1_hold_55 : decode cX1_hold 55 = .ok (.invokevirtual 116, 3) := dk_182 0 116 (dk_at dksX1_hold_2 10 rfl rfl)
theorem dX1_hold_58 : decode cX1_hold 58 = .ok (.bipush 20, 2) := dk_16 20 (dk_at dksX1_hold_2 13 rfl rfl)
theorem dX1_hold_60 : decode cX1_hold 60 = .ok (.if_icmp .ge 7, 3) := dk_162 0 7 (dk_at dksX1_hold_2 15 rfl rfl)
theorem dX1_hold_63 : decode cX1_hold 63 = .ok (.iconst 1, 1) := dk_4 (dk_at dksX1_hold_2 18 rfl rfl)
theorem dX1_hold_64 : decode cX1_hold 64 = .ok (.goto 4, 3) := dk_167 0 4 (dk_at dksX1_hold_2 19 rfl rfl)
theorem dX1_hold_67 : decode cX1_hold 67 = .ok (.iconst 0, 1) := dk_3 (dk_at dksX1_hold_2 22 rfl rfl)
theorem dX1_hold_68 : decode cX1_hold 68 = .ok (.invokestatic 119, 3) := dk_184 0 119 (dk_at dksX1_hold_3 0 rfl rfl)
theorem dX1_hold_71 : decode cX1_hold 71 = .ok (.aload_n 0, 1) := dk_42 (dk_at dksX1_hold_3 3 rfl rfl)
theorem dX1_hold_72 : decode cX1_hold 72 = .ok (.getfield 12, 3) := dk_180 0 12 (dk_at dksX1_hold_3 4 rfl rfl)
theorem dX1_hold_75 : decode cX1_hold 75 = .ok (.iload_n 1, 1) := dk_27 (dk_at dksX1_hold_3 7 rfl rfl)
theorem dX1_hold_76 : decode cX1_hold 76 = .ok (.iload_n 2, 1) := dk_28 (dk_at dksX1_hold_3 8 rfl rfl)
theorem dX1_hold_77 : decode cX1_hold 77 = .ok (.invokevirtual 122, 3) := dk_182 0 122 (dk_at dksX1_hold_3 9 rfl rfl)
theorem dX1_hold_80 : decode cX1_hold 80 = .ok (.istore 5, 2) := dk_54 5 (dk_at dksX1_hold_3 12 rfl rfl)
theorem dX1_hold_82 : decode cX1_hold 82 = .ok (.iload 5, 2) := dk_21 5 (dk_at dksX1_hold_3 14 rfl rfl)
theorem dX1_hold_84 : decode cX1_hold 84 = .ok (.iconst (-1), 1) := dk_2 (dk_at dksX1_hold_3 16 rfl rfl)
theorem dX1_hold_85 : decode cX1_hold 85 = .ok (.if_icmp .eq 19, 3) := dk_159 0 19 (dk_at dksX1_hold_3 17 rfl rfl)
theorem dX1_hold_88 : decode cX1_hold 88 = .ok (.aload_n 0, 1) := dk_42 (dk_at dksX1_hold_3 20 rfl rfl)
theorem dX1_hold_89 : decode cX1_hold 89 = .ok (.new 63, 3) := dk_187 0 63 (dk_at dksX1_hold_3 21 rfl rfl)
theorem dX1_hold_92 : decode cX1_hold 92 = .ok (.dup, 1) := dk_89 (dk_at dksX1_hold_4 0 rfl rfl)
theorem dX1_hold_93 : decode cX1_hold 93 = .ok (.bipush 16, 2) := dk_16 16 (dk_at dksX1_hold_4 1 rfl rfl)
theorem dX1_hold_95 : decode cX1_hold 95 = .ok (.iload 5, 2) := dk_21 5 (dk_at dksX1_hold_4 3 rfl rfl)
theorem dX1_hold_97 : decode cX1_hold 97 = .ok (.invokespecial 75, 3) := dk_183 0 75 (dk_at dksX1_hold_4 5 rfl rfl)
theorem dX1_hold_100 : decode cX1_hold 100 = .ok (.invokevirtual 126, 3) := dk_182 0 126 (dk_at dksX1_hold_4 8 rfl rfl)
theorem dX1_hold_103 : decode cX1_hold 103 = .ok (.athrow, 1) := dk_191 (dk_at dksX1_hold_4 11 rfl rfl)
theorem dX1_hold_104 : decode cX1_hold 104 = .ok (.aload_n 0, 1) := dk_42 (dk_at dksX1_hold_4 12 rfl rfl)
theorem dX1_hold_105 : decode cX1_hold 105 = .ok (.getfield 12, 3) := dk_180 0 12 (dk_at dksX1_hold_4 13 rfl rfl)
theorem dX1_hold_108 : decode cX1_hold 108 = .ok (.invokevirtual 130, 3) := dk_182 0 130 (dk_at dksX1_hold_4 16 rfl rfl)
theorem dX1_hold_111 : decode cX1_hold 111 = .ok (.astore 6, 2) := dk_58 6 (dk_at dksX1_hold_4 19 rfl rfl)
theorem dX1_hold_113 : decode cX1_hold 113 = .ok (.aload_n 0, 1) := dk_42 (dk_at dksX1_hold_4 21 rfl rfl)
theorem dX1_hold_114 : decode cX1_hold 114 = .ok (.getfield 12, 3) := dk_180 0 12 (dk_at dksX1_hold_5 0 rfl rfl)
theorem dX1_hold_117 : decode cX1_hold 117 = .ok (.getfield 112, 3) := dk_180 0 112 (dk_at dksX1_hold_5 3 rfl rfl)
theorem dX1_hold_120 : decode cX1_hold 120 = .ok (.invokevirtual 116, 3) := dk_182 0 116 (dk_at dksX1_hold_5 6 rfl rfl)
theorem dX1_hold_123 : decode cX1_hold 123 = .ok (.istore 7, 2) := dk_54 7 (dk_at dksX1_hold_5 9 rfl rfl)
theorem dX1_hold_125 : decode cX1_hold 125 = .ok (.aload_n 0, 1) := dk_42 (dk_at dksX1_hold_5 11 rfl rfl)
theorem dX1_hold_126 : decode cX1_hold 126 = .ok (.getfield 12, 3) := dk_180 0 12 (dk_at dksX1_hold_5 12 rfl rfl)
theorem dX1_hold_129 : decode cX1_hold 129 = .ok (.getfield 112, 3) := dk_180 0 112 (dk_at dksX1_hold_5 15 rfl rfl)
theorem dX1_hold_132 : decode cX1_hold 132 = .ok (.iload 7, 2) := dk_21 7 (dk_at dksX1_hold_5 18 rfl rfl)
theorem dX1_hold_134 : decode cX1_hold 134 = .ok (.iload_n 1, 1) := dk_27 (dk_at dksX1_hold_5 20 rfl rfl)
theorem dX1_hold_135 : decode cX1_hold 135 = .ok (.iload_n 2, 1) := dk_28 (dk_at dksX1_hold_5 21 rfl rfl)
theorem dX1_hold_136 : decode cX1_hold 136 = .ok (.iload_n 3, 1) := dk_29 (dk_at dksX1_hold_5 22 rfl rfl)
theorem dX1_hold_137 : decode cX1_hold 137 = .ok (.iload 4, 2) := dk_21 4 (dk_at dksX1_hold_6 0 rfl rfl)
theorem dX1_hold_139 : decode cX1_hold 139 = .ok (.invokestatic 134, 3) := dk_184 0 134 (dk_at dksX1_hold_6 2 rfl rfl)
theorem dX1_hold_142 : decode cX1_hold 142 = .ok (.invokevirtual 138, 3) := dk_182 0 138 (dk_at dksX1_hold_6 5 rfl rfl)
theorem dX1_hold_145 : decode cX1_hold 145 = .ok (.pop, 1) := dk_87 (dk_at dksX1_hold_6 8 rfl rfl)
theorem dX1_hold_146 : decode cX1_hold 146 = .ok (.aload_n 0, 1) := dk_42 (dk_at dksX1_hold_6 9 rfl rfl)
theorem dX1_hold_147 : decode cX1_hold 147 = .ok (.aload 6, 2) := dk_25 6 (dk_at dksX1_hold_6 10 rfl rfl)
theorem dX1_hold_149 : decode cX1_hold 149 = .ok (.iload 7, 2) := dk_21 7 (dk_at dksX1_hold_6 12 rfl rfl)
theorem dX1_hold_151 : decode cX1_hold 151 = .ok (.invokevirtual 142, 3) := dk_182 0 142 (dk_at dksX1_hold_6 14 rfl rfl)
theorem dX1_hold_154 : decode cX1_hold 154 = .ok (.ireturn, 1) := dk_172 (dk_at dksX1_hold_6 17 rfl rfl)
abbrev cX1_check : ByteArray := prog_1_method_4_code
def yX1_check : MethodName := ⟨RX1, "check", "(Z)V"⟩
def dkwX1_check_0 : List UInt8 := [26, 154, 0, 11, 187, 0, 53, 89, 183, 0, 55, 191, 177]
abbrev dktX1_check_0 : List UInt8 := dkwX1_check_0 ++ []
theorem dksX1_check_0 : cX1_check.data.toList.drop 0 = dktX1_check_0 := by decide +kernel
theorem dX1_check_0 : decode cX1_check 0 = .ok (.iload_n 0, 1) := dk_26 (dk_at dksX1_check_0 0 rfl rfl)
theorem dX1_check_1 : decode cX1_check 1 = .ok (.ifCond .ne 11, 3) := dk_154 0 11 (dk_at dksX1_check_0 1 rfl rfl)
theorem dX1_check_4 : decode cX1_check 4 = .ok (.new 53, 3) := dk_187 0 53 (dk_at dksX1_check_0 4 rfl rfl)
theorem dX1_check_7 : decode cX1_check 7 = .ok (.dup, 1) := dk_89 (dk_at dksX1_check_0 7 rfl rfl)
theorem dX1_check_8 : decode cX1_check 8 = .ok (.invokespecial 55, 3) := dk_183 0 55 (dk_at dksX1_check_0 8 rfl rfl)
theorem dX1_check_11 : decode cX1_check 11 = .ok (.athrow, 1) := dk_191 (dk_at dksX1_check_0 11 rfl rfl)
theorem dX1_check_12 : decode cX1_check 12 = .ok (.return_, 1) := dk_177 (dk_at dksX1_check_0 12 rfl rfl)
abbrev cX1_checkState : ByteArray := prog_1_method_5_code
def yX1_checkState : MethodName := ⟨RX1, "checkState", "(Z)V"⟩
def dkwX1_checkState_0 : List UInt8 := [26, 154, 0, 11, 187, 0, 56, 89, 183, 0, 58, 191, 177]
abbrev dktX1_checkState_0 : List UInt8 := dkwX1_checkState_0 ++ []
theorem dksX1_checkState_0 : cX1_checkState.data.toList.drop 0 = dktX1_checkState_0 := by decide +kernel
theorem dX1_checkState_0 : decode cX1_checkState 0 = .ok (.iload_n 0, 1) := dk_26 (dk_at dksX1_checkState_0 0 rfl rfl)
theorem dX1_checkState_1 : decode cX1_checkState 1 = .ok (.ifCond .ne 11, 3) := dk_154 0 11 (dk_at dksX1_checkState_0 1 rfl rfl)
theorem dX1_checkState_4 : decode cX1_checkState 4 = .ok (.new 56, 3) := dk_187 0 56 (dk_at dksX1_checkState_0 4 rfl rfl)
theorem dX1_checkState_7 : decode cX1_checkState 7 = .ok (.dup, 1) := dk_89 (dk_at dksX1_checkState_0 7 rfl rfl)
theorem dX1_checkState_8 : decode cX1_checkState 8 = .ok (.invokespecial 58, 3) := dk_183 0 58 (dk_at dksX1_checkState_0 8 rfl rfl)
theorem dX1_checkState_11 : decode cX1_checkState 11 = .ok (.athrow, 1) := dk_191 (dk_at dksX1_checkState_0 11 rfl rfl)
theorem dX1_checkState_12 : decode cX1_checkState 12 = .ok (.return_, 1) := dk_177 (dk_at dksX1_checkState_0 12 rfl rfl)
abbrev cX1_refusal : ByteArray := prog_1_method_7_code
def yX1_refusal : MethodName := ⟨RX1, "refusal", "(LCrumblingWall$Refused;)Ljava/lang/UnsupportedOperationException;"⟩
def dkwX1_refusal_0 : List UInt8 := [42, 43, 180, 0, 62, 181, 0, 67, 42, 43, 180, 0, 68, 181, 0, 71, 187, 0, 72, 89, 183, 0, 74, 176]
abbrev dktX1_refusal_0 : List UInt8 := dkwX1_refusal_0 ++ []
theorem dksX1_refusal_0 : cX1_refusal.data.toList.drop 0 = dktX1_refusal_0 := by decide +kernel
theorem dX1_refusal_0 : decode cX1_refusal 0 = .ok (.aload_n 0, 1) := dk_42 (dk_at dksX1_refusal_0 0 rfl rfl)
theorem dX1_refusal_1 : decode cX1_refusal 1 = .ok (.aload_n 1, 1) := dk_43 (dk_at dksX1_refusal_0 1 rfl rfl)
theorem dX1_refusal_2 : decode cX1_refusal 2 = .ok (.getfield 62, 3) := dk_180 0 62 (dk_at dksX1_refusal_0 2 rfl rfl)
theorem dX1_refusal_5 : decode cX1_refusal 5 = .ok (.putfield 67, 3) := dk_181 0 67 (dk_at dksX1_refusal_0 5 rfl rfl)
theorem dX1_refusal_8 : decode cX1_refusal 8 = .ok (.aload_n 0, 1) := dk_42 (dk_at dksX1_refusal_0 8 rfl rfl)
theorem dX1_refusal_9 : decode cX1_refusal 9 = .ok (.aload_n 1, 1) := dk_43 (dk_at dksX1_refusal_0 9 rfl rfl)
theorem dX1_refusal_10 : decode cX1_refusal 10 = .ok (.getfield 68, 3) := dk_180 0 68 (dk_at dksX1_refusal_0 10 rfl rfl)
theorem dX1_refusal_13 : decode cX1_refusal 13 = .ok (.putfield 71, 3) := dk_181 0 71 (dk_at dksX1_refusal_0 13 rfl rfl)
theorem dX1_refusal_16 : decode cX1_refusal 16 = .ok (.new 72, 3) := dk_187 0 72 (dk_at dksX1_refusal_0 16 rfl rfl)
theorem dX1_refusal_19 : decode cX1_refusal 19 = .ok (.dup, 1) := dk_89 (dk_at dksX1_refusal_0 19 rfl rfl)
theorem dX1_refusal_20 : decode cX1_refusal 20 = .ok (.invokespecial 74, 3) := dk_183 0 74 (dk_at dksX1_refusal_0 20 rfl rfl)
theorem dX1_refusal_23 : decode cX1_refusal 23 = .ok (.areturn, 1) := dk_176 (dk_at dksX1_refusal_0 23 rfl rfl)
abbrev cX1_made : ByteArray := prog_1_method_9_code
def yX1_made : MethodName := ⟨RX1, "made", "(IIIII)LCrumblingWall$Hold;"⟩
def dkwX1_made_4 : List UInt8 := [89, 26, 27, 28, 21, 4, 183, 0, 91, 176]
abbrev dktX1_made_4 : List UInt8 := dkwX1_made_4 ++ []
def dkwX1_made_3 : List UInt8 := [183, 0, 85, 167, 0, 30, 187, 0, 86, 89, 26, 27, 28, 21, 4, 183, 0, 88, 167, 0, 15, 187, 0, 89]
abbrev dktX1_made_3 : List UInt8 := dkwX1_made_3 ++ dktX1_made_4
def dkwX1_made_2 : List UInt8 := [187, 0, 78, 89, 26, 27, 28, 21, 4, 183, 0, 80, 167, 0, 45, 187, 0, 83, 89, 26, 27, 28, 21, 4]
abbrev dktX1_made_2 : List UInt8 := dkwX1_made_2 ++ dktX1_made_3
def dkwX1_made_1 : List UInt8 := [170, 0, 0, 0, 0, 0, 72, 0, 0, 0, 0, 0, 0, 0, 2, 0, 0, 0, 27, 0, 0, 0, 42, 0, 0, 0, 57]
abbrev dktX1_made_1 : List UInt8 := dkwX1_made_1 ++ dktX1_made_2
def dkwX1_made_0 : List UInt8 := [29]
abbrev dktX1_made_0 : List UInt8 := dkwX1_made_0 ++ dktX1_made_1
theorem dksX1_made_0 : cX1_made.data.toList.drop 0 = dktX1_made_0 := by decide +kernel
theorem dksX1_made_1 : cX1_made.data.toList.drop 1 = dktX1_made_1 := dk_seg dksX1_made_0 1 rfl rfl
theorem dksX1_made_2 : cX1_made.data.toList.drop 28 = dktX1_made_2 := dk_seg dksX1_made_1 27 rfl rfl
theorem dksX1_made_3 : cX1_made.data.toList.drop 52 = dktX1_made_3 := dk_seg dksX1_made_2 24 rfl rfl
theorem dksX1_made_4 : cX1_made.data.toList.drop 76 = dktX1_made_4 := dk_seg dksX1_made_3 24 rfl rfl
theorem dX1_made_0 : decode cX1_made 0 = .ok (.iload_n 3, 1) := dk_29 (dk_at dksX1_made_0 0 rfl rfl)
theorem dX1_made_1 : decode cX1_made 1 = .ok (.tableswitch 72 0 2 #[27, 42, 57], 27) := by decide +kernel
theorem dX1_made_28 : decode cX1_made 28 = .ok (.new 78, 3) := dk_187 0 78 (dk_at dksX1_made_2 0 rfl rfl)
theorem dX1_made_31 : decode cX1_made 31 = .ok (.dup, 1) := dk_89 (dk_at dksX1_made_2 3 rfl rfl)
theorem dX1_made_32 : decode cX1_made 32 = .ok (.iload_n 0, 1) := dk_26 (dk_at dksX1_made_2 4 rfl rfl)
theorem dX1_made_33 : decode cX1_made 33 = .ok (.iload_n 1, 1) := dk_27 (dk_at dksX1_made_2 5 rfl rfl)
theorem dX1_made_34 : decode cX1_made 34 = .ok (.iload_n 2, 1) := dk_28 (dk_at dksX1_made_2 6 rfl rfl)
theorem dX1_made_35 : decode cX1_made 35 = .ok (.iload 4, 2) := dk_21 4 (dk_at dksX1_made_2 7 rfl rfl)
theorem dX1_made_37 : decode cX1_made 37 = .ok (.invokespecial 80, 3) := dk_183 0 80 (dk_at dksX1_made_2 9 rfl rfl)
theorem dX1_made_40 : decode cX1_made 40 = .ok (.goto 45, 3) := dk_167 0 45 (dk_at dksX1_made_2 12 rfl rfl)
theorem dX1_made_43 : decode cX1_made 43 = .ok (.new 83, 3) := dk_187 0 83 (dk_at dksX1_made_2 15 rfl rfl)
theorem dX1_made_46 : decode cX1_made 46 = .ok (.dup, 1) := dk_89 (dk_at dksX1_made_2 18 rfl rfl)
theorem dX1_made_47 : decode cX1_made 47 = .ok (.iload_n 0, 1) := dk_26 (dk_at dksX1_made_2 19 rfl rfl)
theorem dX1_made_48 : decode cX1_made 48 = .ok (.iload_n 1, 1) := dk_27 (dk_at dksX1_made_2 20 rfl rfl)
theorem dX1_made_49 : decode cX1_made 49 = .ok (.iload_n 2, 1) := dk_28 (dk_at dksX1_made_2 21 rfl rfl)
theorem dX1_made_50 : decode cX1_made 50 = .ok (.iload 4, 2) := dk_21 4 (dk_at dksX1_made_2 22 rfl rfl)
theorem dX1_made_52 : decode cX1_made 52 = .ok (.invokespecial 85, 3) := dk_183 0 85 (dk_at dksX1_made_3 0 rfl rfl)
theorem dX1_made_55 : decode cX1_made 55 = .ok (.goto 30, 3) := dk_167 0 30 (dk_at dksX1_made_3 3 rfl rfl)
theorem dX1_made_58 : decode cX1_made 58 = .ok (.new 86, 3) := dk_187 0 86 (dk_at dksX1_made_3 6 rfl rfl)
theorem dX1_made_61 : decode cX1_made 61 = .ok (.dup, 1) := dk_89 (dk_at dksX1_made_3 9 rfl rfl)
theorem dX1_made_62 : decode cX1_made 62 = .ok (.iload_n 0, 1) := dk_26 (dk_at dksX1_made_3 10 rfl rfl)
theorem dX1_made_63 : decode cX1_made 63 = .ok (.iload_n 1, 1) := dk_27 (dk_at dksX1_made_3 11 rfl rfl)
theorem dX1_made_64 : decode cX1_made 64 = .ok (.iload_n 2, 1) := dk_28 (dk_at dksX1_made_3 12 rfl rfl)
theorem dX1_made_65 : decode cX1_made 65 = .ok (.iload 4, 2) := dk_21 4 (dk_at dksX1_made_3 13 rfl rfl)
theorem dX1_made_67 : decode cX1_made 67 = .ok (.invokespecial 88, 3) := dk_183 0 88 (dk_at dksX1_made_3 15 rfl rfl)
theorem dX1_made_70 : decode cX1_made 70 = .ok (.goto 15, 3) := dk_167 0 15 (dk_at dksX1_made_3 18 rfl rfl)
theorem dX1_made_73 : decode cX1_made 73 = .ok (.new 89, 3) := dk_187 0 89 (dk_at dksX1_made_3 21 rfl rfl)
theorem dX1_made_76 : decode cX1_made 76 = .ok (.dup, 1) := dk_89 (dk_at dksX1_made_4 0 rfl rfl)
theorem dX1_made_77 : decode cX1_made 77 = .ok (.iload_n 0, 1) := dk_26 (dk_at dksX1_made_4 1 rfl rfl)
theorem dX1_made_78 : decode cX1_made 78 = .ok (.iload_n 1, 1) := dk_27 (dk_at dksX1_made_4 2 rfl rfl)
theorem dX1_made_79 : decode cX1_made 79 = .ok (.iload_n 2, 1) := dk_28 (dk_at dksX1_made_4 3 rfl rfl)
theorem dX1_made_80 : decode cX1_made 80 = .ok (.iload 4, 2) := dk_21 4 (dk_at dksX1_made_4 4 rfl rfl)
theorem dX1_made_82 : decode cX1_made 82 = .ok (.invokespecial 91, 3) := dk_183 0 91 (dk_at dksX1_made_4 6 rfl rfl)
theorem dX1_made_85 : decode cX1_made 85 = .ok (.areturn, 1) := dk_176 (dk_at dksX1_made_4 9 rfl rfl)
abbrev cX1_changed : ByteArray := prog_1_method_10_code
def yX1_changed : MethodName := ⟨RX1, "changed", "(LCrumblingWall$Wall;I)I"⟩
def dkwX1_changed_1 : List UInt8 := [182, 0, 100, 87, 28, 172]
abbrev dktX1_changed_1 : List UInt8 := dkwX1_changed_1 ++ []
def dkwX1_changed_0 : List UInt8 := [42, 180, 0, 19, 43, 182, 0, 92, 42, 180, 0, 19, 182, 0, 96, 16, 8, 164, 0, 11, 42, 180, 0, 19]
abbrev dktX1_changed_0 : List UInt8 := dkwX1_changed_0 ++ dktX1_changed_1
theorem dksX1_changed_0 : cX1_changed.data.toList.drop 0 = dktX1_changed_0 := by decide +kernel
theorem dksX1_changed_1 : cX1_changed.data.toList.drop 24 = dktX1_changed_1 := dk_seg dksX1_changed_0 24 rfl rfl
theorem dX1_changed_0 : decode cX1_changed 0 = .ok (.aload_n 0, 1) := dk_42 (dk_at dksX1_changed_0 0 rfl rfl)
theorem dX1_changed_1 : decode cX1_changed 1 = .ok (.getfield 19, 3) := dk_180 0 19 (dk_at dksX1_changed_0 1 rfl rfl)
theorem dX1_changed_4 : decode cX1_changed 4 = .ok (.aload_n 1, 1) := dk_43 (dk_at dksX1_changed_0 4 rfl rfl)
theorem dX1_changed_5 : decode cX1_changed 5 = .ok (.invokevirtual 92, 3) := dk_182 0 92 (dk_at dksX1_changed_0 5 rfl rfl)
theorem dX1_changed_8 : decode cX1_changed 8 = .ok (.aload_n 0, 1) := dk_42 (dk_at dksX1_changed_0 8 rfl rfl)
theorem dX1_changed_9 : decode cX1_changed 9 = .ok (.getfield 19, 3) := dk_180 0 19 (dk_at dksX1_changed_0 9 rfl rfl)
theorem dX1_changed_12 : decode cX1_changed 12 = .ok (.invokevirtual 96, 3) := dk_182 0 96 (dk_at dksX1_changed_0 12 rfl rfl)
theorem dX1_changed_15 : decode cX1_changed 15 = .ok (.bipush 8, 2) := dk_16 8 (dk_at dksX1_changed_0 15 rfl rfl)
theorem dX1_changed_17 : decode cX1_changed 17 = .ok (.if_icmp .le 11, 3) := dk_164 0 11 (dk_at dksX1_changed_0 17 rfl rfl)
theorem dX1_changed_20 : decode cX1_changed 20 = .ok (.aload_n 0, 1) := dk_42 (dk_at dksX1_changed_0 20 rfl rfl)
theorem dX1_changed_21 : decode cX1_changed 21 = .ok (.getfield 19, 3) := dk_180 0 19 (dk_at dksX1_changed_0 21 rfl rfl)
theorem dX1_changed_24 : decode cX1_changed 24 = .ok (.invokevirtual 100, 3) := dk_182 0 100 (dk_at dksX1_changed_1 0 rfl rfl)
theorem dX1_changed_27 : decode cX1_changed 27 = .ok (.pop, 1) := dk_87 (dk_at dksX1_changed_1 3 rfl rfl)
theorem dX1_changed_28 : decode cX1_changed 28 = .ok (.iload_n 2, 1) := dk_28 (dk_at dksX1_changed_1 4 rfl rfl)
theorem dX1_changed_29 : decode cX1_changed 29 = .ok (.ireturn, 1) := dk_172 (dk_at dksX1_changed_1 5 rfl rfl)
abbrev cX1_set : ByteArray := prog_1_method_13_code
def yX1_set : MethodName := ⟨RX1, "set", "(II)I"⟩
def dkwX1_set_3 : List UInt8 := [42, 45, 42, 27, 28, 182, 0, 162, 182, 0, 142, 172, 58, 4, 42, 25, 4, 182, 0, 126, 191]
abbrev dktX1_set_3 : List UInt8 := dkwX1_set_3 ++ []
def dkwX1_set_2 : List UInt8 := [16, 60, 184, 0, 104, 153, 0, 7, 4, 167, 0, 4, 3, 184, 0, 108, 42, 180, 0, 12, 182, 0, 130, 78]
abbrev dktX1_set_2 : List UInt8 := dkwX1_set_2 ++ dktX1_set_3
def dkwX1_set_1 : List UInt8 := [167, 0, 31, 27, 4, 160, 0, 16, 28, 3, 16, 21, 184, 0, 104, 153, 0, 20, 167, 0, 13, 28, 8]
abbrev dktX1_set_1 : List UInt8 := dkwX1_set_1 ++ dktX1_set_2
def dkwX1_set_0 : List UInt8 := [27, 3, 5, 184, 0, 104, 153, 0, 52, 27, 154, 0, 16, 28, 4, 16, 6, 184, 0, 104, 153, 0, 38]
abbrev dktX1_set_0 : List UInt8 := dkwX1_set_0 ++ dktX1_set_1
theorem dksX1_set_0 : cX1_set.data.toList.drop 0 = dktX1_set_0 := by decide +kernel
theorem dksX1_set_1 : cX1_set.data.toList.drop 23 = dktX1_set_1 := dk_seg dksX1_set_0 23 rfl rfl
theorem dksX1_set_2 : cX1_set.data.toList.drop 46 = dktX1_set_2 := dk_seg dksX1_set_1 23 rfl rfl
theorem dksX1_set_3 : cX1_set.data.toList.drop 70 = dktX1_set_3 := dk_seg dksX1_set_2 24 rfl rfl
theorem dX1_set_0 : decode cX1_set 0 = .ok (.iload_n 1, 1) := dk_27 (dk_at dksX1_set_0 0 rfl rfl)
theorem dX1_set_1 : decode cX1_set 1 = .ok (.iconst 0, 1) := dk_3 (dk_at dksX1_set_0 1 rfl rfl)
theorem dX1_set_2 : decode cX1_set 2 = .ok (.iconst 2, 1) := dk_5 (dk_at dksX1_set_0 2 rfl rfl)
theorem dX1_set_3 : decode cX1_set 3 = .ok (.invokestatic 104, 3) := dk_184 0 104 (dk_at dksX1_set_0 3 rfl rfl)
theorem dX1_set_6 : decode cX1_set 6 = .ok (.ifCond .eq 52, 3) := dk_153 0 52 (dk_at dksX1_set_0 6 rfl rfl)
theorem dX1_set_9 : decode cX1_set 9 = .ok (.iload_n 1, 1) := dk_27 (dk_at dksX1_set_0 9 rfl rfl)
theorem dX1_set_10 : decode cX1_set 10 = .ok (.ifCond .ne 16, 3) := dk_154 0 16 (dk_at dksX1_set_0 10 rfl rfl)
theorem dX1_set_13 : decode cX1_set 13 = .ok (.iload_n 2, 1) := dk_28 (dk_at dksX1_set_0 13 rfl rfl)
theorem dX1_set_14 : decode cX1_set 14 = .ok (.iconst 1, 1) := dk_4 (dk_at dksX1_set_0 14 rfl rfl)
theorem dX1_set_15 : decode cX1_set 15 = .ok (.bipush 6, 2) := dk_16 6 (dk_at dksX1_set_0 15 rfl rfl)
theorem dX1_set_17 : decode cX1_set 17 = .ok (.invokestatic 104, 3) := dk_184 0 104 (dk_at dksX1_set_0 17 rfl rfl)
theorem dX1_set_20 : decode cX1_set 20 = .ok (.ifCond .eq 38, 3) := dk_153 0 38 (dk_at dksX1_set_0 20 rfl rfl)
theorem dX1_set_23 : decode cX1_set 23 = .ok (.goto 31, 3) := dk_167 0 31 (dk_at dksX1_set_1 0 rfl rfl)
theorem dX1_set_26 : decode cX1_set 26 = .ok (.iload_n 1, 1) := dk_27 (dk_at dksX1_set_1 3 rfl rfl)
theorem dX1_set_27 : decode cX1_set 27 = .ok (.iconst 1, 1) := dk_4 (dk_at dksX1_set_1 4 rfl rfl)
theorem dX1_set_28 : decode cX1_set 28 = .ok (.if_icmp .ne 16, 3) := dk_160 0 16 (dk_at dksX1_set_1 5 rfl rfl)
theorem dX1_set_31 : decode cX1_set 31 = .ok (.iload_n 2, 1) := dk_28 (dk_at dksX1_set_1 8 rfl rfl)
theorem dX1_set_32 : decode cX1_set 32 = .ok (.iconst 0, 1) := dk_3 (dk_at dksX1_set_1 9 rfl rfl)
theorem dX1_set_33 : decode cX1_set 33 = .ok (.bipush 21, 2) := dk_16 21 (dk_at dksX1_set_1 10 rfl rfl)
theorem dX1_set_35 : decode cX1_set 35 = .ok (.invokestatic 104, 3) := dk_184 0 104 (dk_at dksX1_set_1 12 rfl rfl)
theorem dX1_set_38 : decode cX1_set 38 = .ok (.ifCond .eq 20, 3) := dk_153 0 20 (dk_at dksX1_set_1 15 rfl rfl)
theorem dX1_set_41 : decode cX1_set 41 = .ok (.goto 13, 3) := dk_167 0 13 (dk_at dksX1_set_1 18 rfl rfl)
theorem dX1_set_44 : decode cX1_set 44 = .ok (.iload_n 2, 1) := dk_28 (dk_at dksX1_set_1 21 rfl rfl)
theorem dX1_set_45 : decode cX1_set 45 = .ok (.iconst 5, 1) := dk_8 (dk_at dksX1_set_1 22 rfl rfl)
theorem dX1_set_46 : decode cX1_set 46 = .ok (.bipush 60, 2) := dk_16 60 (dk_at dksX1_set_2 0 rfl rfl)
theorem dX1_set_48 : decode cX1_set 48 = .ok (.invokestatic 104, 3) := dk_184 0 104 (dk_at dksX1_set_2 2 rfl rfl)
theorem dX1_set_51 : decode cX1_set 51 = .ok (.ifCond .eq 7, 3) := dk_153 0 7 (dk_at dksX1_set_2 5 rfl rfl)
theorem dX1_set_54 : decode cX1_set 54 = .ok (.iconst 1, 1) := dk_4 (dk_at dksX1_set_2 8 rfl rfl)
theorem dX1_set_55 : decode cX1_set 55 = .ok (.goto 4, 3) := dk_167 0 4 (dk_at dksX1_set_2 9 rfl rfl)
theorem dX1_set_58 : decode cX1_set 58 = .ok (.iconst 0, 1) := dk_3 (dk_at dksX1_set_2 12 rfl rfl)
theorem dX1_set_59 : decode cX1_set 59 = .ok (.invokestatic 108, 3) := dk_184 0 108 (dk_at dksX1_set_2 13 rfl rfl)
theorem dX1_set_62 : decode cX1_set 62 = .ok (.aload_n 0, 1) := dk_42 (dk_at dksX1_set_2 16 rfl rfl)
theorem dX1_set_63 : decode cX1_set 63 = .ok (.getfield 12, 3) := dk_180 0 12 (dk_at dksX1_set_2 17 rfl rfl)
theorem dX1_set_66 : decode cX1_set 66 = .ok (.invokevirtual 130, 3) := dk_182 0 130 (dk_at dksX1_set_2 20 rfl rfl)
theorem dX1_set_69 : decode cX1_set 69 = .ok (.astore_n 3, 1) := dk_78 (dk_at dksX1_set_2 23 rfl rfl)
theorem dX1_set_70 : decode cX1_set 70 = .ok (.aload_n 0, 1) := dk_42 (dk_at dksX1_set_3 0 rfl rfl)
theorem dX1_set_71 : decode cX1_set 71 = .ok (.aload_n 3, 1) := dk_45 (dk_at dksX1_set_3 1 rfl rfl)
theorem dX1_set_72 : decode cX1_set 72 = .ok (.aload_n 0, 1) := dk_42 (dk_at dksX1_set_3 2 rfl rfl)
theorem dX1_set_73 : decode cX1_set 73 = .ok (.iload_n 1, 1) := dk_27 (dk_at dksX1_set_3 3 rfl rfl)
theorem dX1_set_74 : decode cX1_set 74 = .ok (.iload_n 2, 1) := dk_28 (dk_at dksX1_set_3 4 rfl rfl)
theorem dX1_set_75 : decode cX1_set 75 = .ok (.invokevirtual 162, 3) := dk_182 0 162 (dk_at dksX1_set_3 5 rfl rfl)
theorem dX1_set_78 : decode cX1_set 78 = .ok (.invokevirtual 142, 3) := dk_182 0 142 (dk_at dksX1_set_3 8 rfl rfl)
theorem dX1_set_81 : decode cX1_set 81 = .ok (.ireturn, 1) := dk_172 (dk_at dksX1_set_3 11 rfl rfl)
theorem dX1_set_82 : decode cX1_set 82 = .ok (.astore 4, 2) := dk_58 4 (dk_at dksX1_set_3 12 rfl rfl)
theorem dX1_set_84 : decode cX1_set 84 = .ok (.aload_n 0, 1) := dk_42 (dk_at dksX1_set_3 14 rfl rfl)
theorem dX1_set_85 : decode cX1_set 85 = .ok (.aload 4, 2) := dk_25 4 (dk_at dksX1_set_3 15 rfl rfl)
theorem dX1_set_87 : decode cX1_set 87 = .ok (.invokevirtual 126, 3) := dk_182 0 126 (dk_at dksX1_set_3 17 rfl rfl)
theorem dX1_set_90 : decode cX1_set 90 = .ok (.athrow, 1) := dk_191 (dk_at dksX1_set_3 20 rfl rfl)
abbrev cX1_sets : ByteArray := prog_1_method_12_code
def yX1_sets : MethodName := ⟨RX1, "sets", "(II)I"⟩
def dkwX1_sets_4 : List UInt8 := [184, 0, 158, 42, 180, 0, 12, 28, 181, 0, 152, 29, 172]
abbrev dktX1_sets_4 : List UInt8 := dkwX1_sets_4 ++ []
def dkwX1_sets_3 : List UInt8 := [180, 0, 12, 182, 0, 155, 28, 164, 0, 7, 4, 167, 0, 4, 3, 16, 17, 42, 180, 0, 12, 182, 0, 155]
abbrev dktX1_sets_3 : List UInt8 := dkwX1_sets_3 ++ dktX1_sets_4
def dkwX1_sets_2 : List UInt8 := [181, 0, 146, 167, 0, 55, 27, 4, 160, 0, 14, 42, 180, 0, 12, 28, 181, 0, 149, 167, 0, 39, 42]
abbrev dktX1_sets_2 : List UInt8 := dkwX1_sets_2 ++ dktX1_sets_3
def dkwX1_sets_1 : List UInt8 := [180, 0, 149, 167, 0, 10, 42, 180, 0, 12, 180, 0, 152, 62, 27, 154, 0, 14, 42, 180, 0, 12, 28]
abbrev dktX1_sets_1 : List UInt8 := dkwX1_sets_1 ++ dktX1_sets_2
def dkwX1_sets_0 : List UInt8 := [27, 154, 0, 13, 42, 180, 0, 12, 180, 0, 146, 167, 0, 25, 27, 4, 160, 0, 13, 42, 180, 0, 12]
abbrev dktX1_sets_0 : List UInt8 := dkwX1_sets_0 ++ dktX1_sets_1
theorem dksX1_sets_0 : cX1_sets.data.toList.drop 0 = dktX1_sets_0 := by decide +kernel
theorem dksX1_sets_1 : cX1_sets.data.toList.drop 23 = dktX1_sets_1 := dk_seg dksX1_sets_0 23 rfl rfl
theorem dksX1_sets_2 : cX1_sets.data.toList.drop 46 = dktX1_sets_2 := dk_seg dksX1_sets_1 23 rfl rfl
theorem dksX1_sets_3 : cX1_sets.data.toList.drop 69 = dktX1_sets_3 := dk_seg dksX1_sets_2 23 rfl rfl
theorem dksX1_sets_4 : cX1_sets.data.toList.drop 93 = dktX1_sets_4 := dk_seg dksX1_sets_3 24 rfl rfl
theorem dX1_sets_0 : decode cX1_sets 0 = .ok (.iload_n 1, 1) := dk_27 (dk_at dksX1_sets_0 0 rfl rfl)
theorem dX1_sets_1 : decode cX1_sets 1 = .ok (.ifCond .ne 13, 3) := dk_154 0 13 (dk_at dksX1_sets_0 1 rfl rfl)
theorem dX1_sets_4 : decode cX1_sets 4 = .ok (.aload_n 0, 1) := dk_42 (dk_at dksX1_sets_0 4 rfl rfl)
theorem dX1_sets_5 : decode cX1_sets 5 = .ok (.getfield 12, 3) := dk_180 0 12 (dk_at dksX1_sets_0 5 rfl rfl)
theorem dX1_sets_8 : decode cX1_sets 8 = .ok (.getfield 146, 3) := dk_180 0 146 (dk_at dksX1_sets_0 8 rfl rfl)
theorem dX1_sets_11 : decode cX1_sets 11 = .ok (.goto 25, 3) := dk_167 0 25 (dk_at dksX1_sets_0 11 rfl rfl)
theorem dX1_sets_14 : decode cX1_sets 14 = .ok (.iload_n 1, 1) := dk_27 (dk_at dksX1_sets_0 14 rfl rfl)
theorem dX1_sets_15 : decode cX1_sets 15 = .ok (.iconst 1, 1) := dk_4 (dk_at dksX1_sets_0 15 rfl rfl)
theorem dX1_sets_16 : decode cX1_sets 16 = .ok (.if_icmp .ne 13, 3) := dk_160 0 13 (dk_at dksX1_sets_0 16 rfl rfl)
theorem dX1_sets_19 : decode cX1_sets 19 = .ok (.aload_n 0, 1) := dk_42 (dk_at dksX1_sets_0 19 rfl rfl)
theorem dX1_sets_20 : decode cX1_sets 20 = .ok (.getfield 12, 3) := dk_180 0 12 (dk_at dksX1_sets_0 20 rfl rfl)
theorem dX1_sets_23 : decode cX1_sets 23 = .ok (.getfield 149, 3) := dk_180 0 149 (dk_at dksX1_sets_1 0 rfl rfl)
theorem dX1_sets_26 : decode cX1_sets 26 = .ok (.goto 10, 3) := dk_167 0 10 (dk_at dksX1_sets_1 3 rfl rfl)
theorem dX1_sets_29 : decode cX1_sets 29 = .ok (.aload_n 0, 1) := dk_42 (dk_at dksX1_sets_1 6 rfl rfl)
theorem dX1_sets_30 : decode cX1_sets 30 = .ok (.getfield 12, 3) := dk_180 0 12 (dk_at dksX1_sets_1 7 rfl rfl)
theorem dX1_sets_33 : decode cX1_sets 33 = .ok (.getfield 152, 3) := dk_180 0 152 (dk_at dksX1_sets_1 10 rfl rfl)
theorem dX1_sets_36 : decode cX1_sets 36 = .ok (.istore_n 3, 1) := dk_62 (dk_at dksX1_sets_1 13 rfl rfl)
theorem dX1_sets_37 : decode cX1_sets 37 = .ok (.iload_n 1, 1) := dk_27 (dk_at dksX1_sets_1 14 rfl rfl)
theorem dX1_sets_38 : decode cX1_sets 38 = .ok (.ifCond .ne 14, 3) := dk_154 0 14 (dk_at dksX1_sets_1 15 rfl rfl)
theorem dX1_sets_41 : decode cX1_sets 41 = .ok (.aload_n 0, 1) := dk_42 (dk_at dksX1_sets_1 18 rfl rfl)
theorem dX1_sets_42 : decode cX1_sets 42 = .ok (.getfield 12, 3) := dk_180 0 12 (dk_at dksX1_sets_1 19 rfl rfl)
theorem dX1_sets_45 : decode cX1_sets 45 = .ok (.iload_n 2, 1) := dk_28 (dk_at dksX1_sets_1 22 rfl rfl)
theorem dX1_sets_46 : decode cX1_sets 46 = .ok (.putfield 146, 3) := dk_181 0 146 (dk_at dksX1_sets_2 0 rfl rfl)
theorem dX1_sets_49 : decode cX1_sets 49 = .ok (.goto 55, 3) := dk_167 0 55 (dk_at dksX1_sets_2 3 rfl rfl)
theorem dX1_sets_52 : decode cX1_sets 52 = .ok (.iload_n 1, 1) := dk_27 (dk_at dksX1_sets_2 6 rfl rfl)
theorem dX1_sets_53 : decode cX1_sets 53 = .ok (.iconst 1, 1) := dk_4 (dk_at dksX1_sets_2 7 rfl rfl)
theorem dX1_sets_54 : decode cX1_sets 54 = .ok (.if_icmp .ne 14, 3) := dk_160 0 14 (dk_at dksX1_sets_2 8 rfl rfl)
theorem dX1_sets_57 : decode cX1_sets 57 = .ok (.aload_n 0, 1) := dk_42 (dk_at dksX1_sets_2 11 rfl rfl)
theorem dX1_sets_58 : decode cX1_sets 58 = .ok (.getfield 12, 3) := dk_180 0 12 (dk_at dksX1_sets_2 12 rfl rfl)
theorem dX1_sets_61 : decode cX1_sets 61 = .ok (.iload_n 2, 1) := dk_28 (dk_at dksX1_sets_2 15 rfl rfl)
theorem dX1_sets_62 : decode cX1_sets 62 = .ok (.putfield 149, 3) := dk_181 0 149 (dk_at dksX1_sets_2 16 rfl rfl)
theorem dX1_sets_65 : decode cX1_sets 65 = .ok (.goto 39, 3) := dk_167 0 39 (dk_at dksX1_sets_2 19 rfl rfl)
theorem dX1_sets_68 : decode cX1_sets 68 = .ok (.aload_n 0, 1) := dk_42 (dk_at dksX1_sets_2 22 rfl rfl)
theorem dX1_sets_69 : decode cX1_sets 69 = .ok (.getfield 12, 3) := dk_180 0 12 (dk_at dksX1_sets_3 0 rfl rfl)
theorem dX1_sets_72 : decode cX1_sets 72 = .ok (.invokevirtual 155, 3) := dk_182 0 155 (dk_at dksX1_sets_3 3 rfl rfl)
theorem dX1_sets_75 : decode cX1_sets 75 = .ok (.iload_n 2, 1) := dk_28 (dk_at dksX1_sets_3 6 rfl rfl)
theorem dX1_sets_76 : decode cX1_sets 76 = .ok (.if_icmp .le 7, 3) := dk_164 0 7 (dk_at dksX1_sets_3 7 rfl rfl)
theorem dX1_sets_79 : decode cX1_sets 79 = .ok (.iconst 1, 1) := dk_4 (dk_at dksX1_sets_3 10 rfl rfl)
theorem dX1_sets_80 : decode cX1_sets 80 = .ok (.goto 4, 3) := dk_167 0 4 (dk_at dksX1_sets_3 11 rfl rfl)
theorem dX1_sets_83 : decode cX1_sets 83 = .ok (.iconst 0, 1) := dk_3 (dk_at dksX1_sets_3 14 rfl rfl)
theorem dX1_sets_84 : decode cX1_sets 84 = .ok (.bipush 17, 2) := dk_16 17 (dk_at dksX1_sets_3 15 rfl rfl)
theorem dX1_sets_86 : decode cX1_sets 86 = .ok (.aload_n 0, 1) := dk_42 (dk_at dksX1_sets_3 17 rfl rfl)
theorem dX1_sets_87 : decode cX1_sets 87 = .ok (.getfield 12, 3) := dk_180 0 12 (dk_at dksX1_sets_3 18 rfl rfl)
theorem dX1_sets_90 : decode cX1_sets 90 = .ok (.invokevirtual 155, 3) := dk_182 0 155 (dk_at dksX1_sets_3 21 rfl rfl)
theorem dX1_sets_93 : decode cX1_sets 93 = .ok (.invokestatic 158, 3) := dk_184 0 158 (dk_at dksX1_sets_4 0 rfl rfl)
theorem dX1_sets_96 : decode cX1_sets 96 = .ok (.aload_n 0, 1) := dk_42 (dk_at dksX1_sets_4 3 rfl rfl)
theorem dX1_sets_97 : decode cX1_sets 97 = .ok (.getfield 12, 3) := dk_180 0 12 (dk_at dksX1_sets_4 4 rfl rfl)
theorem dX1_sets_100 : decode cX1_sets 100 = .ok (.iload_n 2, 1) := dk_28 (dk_at dksX1_sets_4 7 rfl rfl)
theorem dX1_sets_101 : decode cX1_sets 101 = .ok (.putfield 152, 3) := dk_181 0 152 (dk_at dksX1_sets_4 8 rfl rfl)
theorem dX1_sets_104 : decode cX1_sets 104 = .ok (.iload_n 3, 1) := dk_29 (dk_at dksX1_sets_4 11 rfl rfl)
theorem dX1_sets_105 : decode cX1_sets 105 = .ok (.ireturn, 1) := dk_172 (dk_at dksX1_sets_4 12 rfl rfl)
abbrev cX1_refuse : ByteArray := prog_1_method_8_code
def yX1_refuse : MethodName := ⟨RX1, "refuse", "(ZII)V"⟩
def dkwX1_refuse_0 : List UInt8 := [26, 153, 0, 13, 187, 0, 63, 89, 27, 28, 183, 0, 75, 191, 177]
abbrev dktX1_refuse_0 : List UInt8 := dkwX1_refuse_0 ++ []
theorem dksX1_refuse_0 : cX1_refuse.data.toList.drop 0 = dktX1_refuse_0 := by decide +kernel
theorem dX1_refuse_0 : decode cX1_refuse 0 = .ok (.iload_n 0, 1) := dk_26 (dk_at dksX1_refuse_0 0 rfl rfl)
theorem dX1_refuse_1 : decode cX1_refuse 1 = .ok (.ifCond .eq 13, 3) := dk_153 0 13 (dk_at dksX1_refuse_0 1 rfl rfl)
theorem dX1_refuse_4 : decode cX1_refuse 4 = .ok (.new 63, 3) := dk_187 0 63 (dk_at dksX1_refuse_0 4 rfl rfl)
theorem dX1_refuse_7 : decode cX1_refuse 7 = .ok (.dup, 1) := dk_89 (dk_at dksX1_refuse_0 7 rfl rfl)
theorem dX1_refuse_8 : decode cX1_refuse 8 = .ok (.iload_n 1, 1) := dk_27 (dk_at dksX1_refuse_0 8 rfl rfl)
theorem dX1_refuse_9 : decode cX1_refuse 9 = .ok (.iload_n 2, 1) := dk_28 (dk_at dksX1_refuse_0 9 rfl rfl)
theorem dX1_refuse_10 : decode cX1_refuse 10 = .ok (.invokespecial 75, 3) := dk_183 0 75 (dk_at dksX1_refuse_0 10 rfl rfl)
theorem dX1_refuse_13 : decode cX1_refuse 13 = .ok (.athrow, 1) := dk_191 (dk_at dksX1_refuse_0 13 rfl rfl)
theorem dX1_refuse_14 : decode cX1_refuse 14 = .ok (.return_, 1) := dk_177 (dk_at dksX1_refuse_0 14 rfl rfl)
abbrev cX1_holdOf : ByteArray := prog_1_method_14_code
def yX1_holdOf : MethodName := ⟨RX1, "holdOf", "(II)I"⟩
def dkwX1_holdOf_7 : List UInt8 := [180, 0, 12, 27, 182, 0, 206, 172]
abbrev dktX1_holdOf_7 : List UInt8 := dkwX1_holdOf_7 ++ []
def dkwX1_holdOf_6 : List UInt8 := [180, 0, 12, 27, 182, 0, 199, 167, 0, 22, 42, 180, 0, 12, 27, 182, 0, 203, 167, 0, 11, 42]
abbrev dktX1_holdOf_6 : List UInt8 := dkwX1_holdOf_6 ++ dktX1_holdOf_7
def dkwX1_holdOf_5 : List UInt8 := [3, 167, 0, 52, 42, 180, 0, 12, 45, 182, 0, 195, 153, 0, 7, 4, 167, 0, 37, 3, 167, 0, 33, 42]
abbrev dktX1_holdOf_5 : List UInt8 := dkwX1_holdOf_5 ++ dktX1_holdOf_6
def dkwX1_holdOf_4 : List UInt8 := [182, 0, 185, 167, 0, 74, 45, 182, 0, 188, 167, 0, 67, 45, 182, 0, 191, 153, 0, 7, 4, 167, 0, 56]
abbrev dktX1_holdOf_4 : List UInt8 := dkwX1_holdOf_4 ++ dktX1_holdOf_5
def dkwX1_holdOf_3 : List UInt8 := [45, 182, 0, 176, 167, 0, 95, 45, 182, 0, 179, 167, 0, 88, 45, 182, 0, 182, 167, 0, 81, 45]
abbrev dktX1_holdOf_3 : List UInt8 := dkwX1_holdOf_3 ++ dktX1_holdOf_4
def dkwX1_holdOf_2 : List UInt8 := [170, 0, 0, 0, 0, 0, 142, 0, 0, 0, 0, 0, 0, 0, 8, 0, 0, 0, 51, 0, 0, 0, 58, 0, 0, 0, 65, 0, 0, 0, 72, 0, 0, 0, 79, 0, 0, 0, 86, 0, 0, 0, 101, 0, 0, 0, 120, 0, 0, 0, 131]
abbrev dktX1_holdOf_2 : List UInt8 := dkwX1_holdOf_2 ++ dktX1_holdOf_3
def dkwX1_holdOf_1 : List UInt8 := [180, 0, 12, 180, 0, 112, 27, 182, 0, 172, 192, 0, 33, 78, 28]
abbrev dktX1_holdOf_1 : List UInt8 := dkwX1_holdOf_1 ++ dktX1_holdOf_2
def dkwX1_holdOf_0 : List UInt8 := [42, 180, 0, 12, 27, 182, 0, 165, 184, 0, 169, 28, 3, 16, 9, 184, 0, 104, 184, 0, 108, 42]
abbrev dktX1_holdOf_0 : List UInt8 := dkwX1_holdOf_0 ++ dktX1_holdOf_1
theorem dksX1_holdOf_0 : cX1_holdOf.data.toList.drop 0 = dktX1_holdOf_0 := by decide +kernel
theorem dksX1_holdOf_1 : cX1_holdOf.data.toList.drop 22 = dktX1_holdOf_1 := dk_seg dksX1_holdOf_0 22 rfl rfl
theorem dksX1_holdOf_2 : cX1_holdOf.data.toList.drop 37 = dktX1_holdOf_2 := dk_seg dksX1_holdOf_1 15 rfl rfl
theorem dksX1_holdOf_3 : cX1_holdOf.data.toList.drop 88 = dktX1_holdOf_3 := dk_seg dksX1_holdOf_2 51 rfl rfl
theorem dksX1_holdOf_4 : cX1_holdOf.data.toList.drop 110 = dktX1_holdOf_4 := dk_seg dksX1_holdOf_3 22 rfl rfl
theorem dksX1_holdOf_5 : cX1_holdOf.data.toList.drop 134 = dktX1_holdOf_5 := dk_seg dksX1_holdOf_4 24 rfl rfl
theorem dksX1_holdOf_6 : cX1_holdOf.data.toList.drop 158 = dktX1_holdOf_6 := dk_seg dksX1_holdOf_5 24 rfl rfl
theorem dksX1_holdOf_7 : cX1_holdOf.data.toList.drop 180 = dktX1_holdOf_7 := dk_seg dksX1_holdOf_6 22 rfl rfl
theorem dX1_holdOf_0 : decode cX1_holdOf 0 = .ok (.aload_n 0, 1) := dk_42 (dk_at dksX1_holdOf_0 0 rfl rfl)
theorem dX1_holdOf_1 : decode cX1_holdOf 1 = .ok (.getfield 12, 3) := dk_180 0 12 (dk_at dksX1_holdOf_0 1 rfl rfl)
theorem dX1_holdOf_4 : decode cX1_holdOf 4 = .ok (.iload_n 1, 1) := dk_27 (dk_at dksX1_holdOf_0 4 rfl rfl)
theorem dX1_holdOf_5 : decode cX1_holdOf 5 = .ok (.invokevirtual 165, 3) := dk_182 0 165 (dk_at dksX1_holdOf_0 5 rfl rfl)
theorem dX1_holdOf_8 : decode cX1_holdOf 8 = .ok (.invokestatic 169, 3) := dk_184 0 169 (dk_at dksX1_holdOf_0 8 rfl rfl)
theorem dX1_holdOf_11 : decode cX1_holdOf 11 = .ok (.iload_n 2, 1) := dk_28 (dk_at dksX1_holdOf_0 11 rfl rfl)
theorem dX1_holdOf_12 : decode cX1_holdOf 12 = .ok (.iconst 0, 1) := dk_3 (dk_at dksX1_holdOf_0 12 rfl rfl)
theorem dX1_holdOf_13 : decode cX1_holdOf 13 = .ok (.bipush 9, 2) := dk_16 9 (dk_at dksX1_holdOf_0 13 rfl rfl)
theorem dX1_holdOf_15 : decode cX1_holdOf 15 = .ok (.invokestatic 104, 3) := dk_184 0 104 (dk_at dksX1_holdOf_0 15 rfl rfl)
theorem dX1_holdOf_18 : decode cX1_holdOf 18 = .ok (.invokestatic 108, 3) := dk_184 0 108 (dk_at dksX1_holdOf_0 18 rfl rfl)
theorem dX1_holdOf_21 : decode cX1_holdOf 21 = .ok (.aload_n 0, 1) := dk_42 (dk_at dksX1_holdOf_0 21 rfl rfl)
theorem dX1_holdOf_22 : decode cX1_holdOf 22 = .ok (.getfield 12, 3) := dk_180 0 12 (dk_at dksX1_holdOf_1 0 rfl rfl)
theorem dX1_holdOf_25 : decode cX1_holdOf 25 = .ok (.getfield 112, 3) := dk_180 0 112 (dk_at dksX1_holdOf_1 3 rfl rfl)
theorem dX1_holdOf_28 : decode cX1_holdOf 28 = .ok (.iload_n 1, 1) := dk_27 (dk_at dksX1_holdOf_1 6 rfl rfl)
theorem dX1_holdOf_29 : decode cX1_holdOf 29 = .ok (.invokevirtual 172, 3) := dk_182 0 172 (dk_at dksX1_holdOf_1 7 rfl rfl)
theorem dX1_holdOf_32 : decode cX1_holdOf 32 = .ok (.checkcast 33, 3) := dk_192 0 33 (dk_at dksX1_holdOf_1 10 rfl rfl)
theorem dX1_holdOf_35 : decode cX1_holdOf 35 = .ok (.astore_n 3, 1) := dk_78 (dk_at dksX1_holdOf_1 13 rfl rfl)
theorem dX1_holdOf_36 : decode cX1_holdOf 36 = .ok (.iload_n 2, 1) := dk_28 (dk_at dksX1_holdOf_1 14 rfl rfl)
theorem dX1_holdOf_37 : decode cX1_holdOf 37 = .ok (.tableswitch 142 0 8 #[51, 58, 65, 72, 79, 86, 101, 120, 131], 51) := by decide +kernel
theorem dX1_holdOf_88 : decode cX1_holdOf 88 = .ok (.aload_n 3, 1) := dk_45 (dk_at dksX1_holdOf_3 0 rfl rfl)
theorem dX1_holdOf_89 : decode cX1_holdOf 89 = .ok (.invokevirtual 176, 3) := dk_182 0 176 (dk_at dksX1_holdOf_3 1 rfl rfl)
theorem dX1_holdOf_92 : decode cX1_holdOf 92 = .ok (.goto 95, 3) := dk_167 0 95 (dk_at dksX1_holdOf_3 4 rfl rfl)
theorem dX1_holdOf_95 : decode cX1_holdOf 95 = .ok (.aload_n 3, 1) := dk_45 (dk_at dksX1_holdOf_3 7 rfl rfl)
theorem dX1_holdOf_96 : decode cX1_holdOf 96 = .ok (.invokevirtual 179, 3) := dk_182 0 179 (dk_at dksX1_holdOf_3 8 rfl rfl)
theorem dX1_holdOf_99 : decode cX1_holdOf 99 = .ok (.goto 88, 3) := dk_167 0 88 (dk_at dksX1_holdOf_3 11 rfl rfl)
theorem dX1_holdOf_102 : decode cX1_holdOf 102 = .ok (.aload_n 3, 1) := dk_45 (dk_at dksX1_holdOf_3 14 rfl rfl)
theorem dX1_holdOf_103 : decode cX1_holdOf 103 = .ok (.invokevirtual 182, 3) := dk_182 0 182 (dk_at dksX1_holdOf_3 15 rfl rfl)
theorem dX1_holdOf_106 : decode cX1_holdOf 106 = .ok (.goto 81, 3) := dk_167 0 81 (dk_at dksX1_holdOf_3 18 rfl rfl)
theorem dX1_holdOf_109 : decode cX1_holdOf 109 = .ok (.aload_n 3, 1) := dk_45 (dk_at dksX1_holdOf_3 21 rfl rfl)
theorem dX1_holdOf_110 : decode cX1_holdOf 110 = .ok (.invokevirtual 185, 3) := dk_182 0 185 (dk_at dksX1_holdOf_4 0 rfl rfl)
theorem dX1_holdOf_113 : decode cX1_holdOf 113 = .ok (.goto 74, 3) := dk_167 0 74 (dk_at dksX1_holdOf_4 3 rfl rfl)
theorem dX1_holdOf_116 : decode cX1_holdOf 116 = .ok (.aload_n 3, 1) := dk_45 (dk_at dksX1_holdOf_4 6 rfl rfl)
theorem dX1_holdOf_117 : decode cX1_holdOf 117 = .ok (.invokevirtual 188, 3) := dk_182 0 188 (dk_at dksX1_holdOf_4 7 rfl rfl)
theorem dX1_holdOf_120 : decode cX1_holdOf 120 = .ok (.goto 67, 3) := dk_167 0 67 (dk_at dksX1_holdOf_4 10 rfl rfl)
theorem dX1_holdOf_123 : decode cX1_holdOf 123 = .ok (.aload_n 3, 1) := dk_45 (dk_at dksX1_holdOf_4 13 rfl rfl)
theorem dX1_holdOf_124 : decode cX1_holdOf 124 = .ok (.invokevirtual 191, 3) := dk_182 0 191 (dk_at dksX1_holdOf_4 14 rfl rfl)
theorem dX1_holdOf_127 : decode cX1_holdOf 127 = .ok (.ifCond .eq 7, 3) := dk_153 0 7 (dk_at dksX1_holdOf_4 17 rfl rfl)
theorem dX1_holdOf_130 : decode cX1_holdOf 130 = .ok (.iconst 1, 1) := dk_4 (dk_at dksX1_holdOf_4 20 rfl rfl)
theorem dX1_holdOf_131 : decode cX1_holdOf 131 = .ok (.goto 56, 3) := dk_167 0 56 (dk_at dksX1_holdOf_4 21 rfl rfl)
theorem dX1_holdOf_134 : decode cX1_holdOf 134 = .ok (.iconst 0, 1) := dk_3 (dk_at dksX1_holdOf_5 0 rfl rfl)
theorem dX1_holdOf_135 : decode cX1_holdOf 135 = .ok (.goto 52, 3) := dk_167 0 52 (dk_at dksX1_holdOf_5 1 rfl rfl)
theorem dX1_holdOf_138 : decode cX1_holdOf 138 = .ok (.aload_n 0, 1) := dk_42 (dk_at dksX1_holdOf_5 4 rfl rfl)
theorem dX1_holdOf_139 : decode cX1_holdOf 139 = .ok (.getfield 12, 3) := dk_180 0 12 (dk_at dksX1_holdOf_5 5 rfl rfl)
theorem dX1_holdOf_142 : decode cX1_holdOf 142 = .ok (.aload_n 3, 1) := dk_45 (dk_at dksX1_holdOf_5 8 rfl rfl)
theorem dX1_holdOf_143 : decode cX1_holdOf 143 = .ok (.invokevirtual 195, 3) := dk_182 0 195 (dk_at dksX1_holdOf_5 9 rfl rfl)
theorem dX1_holdOf_146 : decode cX1_holdOf 146 = .ok (.ifCond .eq 7, 3) := dk_153 0 7 (dk_at dksX1_holdOf_5 12 rfl rfl)
theorem dX1_holdOf_149 : decode cX1_holdOf 149 = .ok (.iconst 1, 1) := dk_4 (dk_at dksX1_holdOf_5 15 rfl rfl)
theorem dX1_holdOf_150 : decode cX1_holdOf 150 = .ok (.goto 37, 3) := dk_167 0 37 (dk_at dksX1_holdOf_5 16 rfl rfl)
theorem dX1_holdOf_153 : decode cX1_holdOf 153 = .ok (.iconst 0, 1) := dk_3 (dk_at dksX1_holdOf_5 19 rfl rfl)
theorem dX1_holdOf_154 : decode cX1_holdOf 154 = .ok (.goto 33, 3) := dk_167 0 33 (dk_at dksX1_holdOf_5 20 rfl rfl)
theorem dX1_holdOf_157 : decode cX1_holdOf 157 = .ok (.aload_n 0, 1) := dk_42 (dk_at dksX1_holdOf_5 23 rfl rfl)
theorem dX1_holdOf_158 : decode cX1_holdOf 158 = .ok (.getfield 12, 3) := dk_180 0 12 (dk_at dksX1_holdOf_6 0 rfl rfl)
theorem dX1_holdOf_161 : decode cX1_holdOf 161 = .ok (.iload_n 1, 1) := dk_27 (dk_at dksX1_holdOf_6 3 rfl rfl)
theorem dX1_holdOf_162 : decode cX1_holdOf 162 = .ok (.invokevirtual 199, 3) := dk_182 0 199 (dk_at dksX1_holdOf_6 4 rfl rfl)
theorem dX1_holdOf_165 : decode cX1_holdOf 165 = .ok (.goto 22, 3) := dk_167 0 22 (dk_at dksX1_holdOf_6 7 rfl rfl)
theorem dX1_holdOf_168 : decode cX1_holdOf 168 = .ok (.aload_n 0, 1) := dk_42 (dk_at dksX1_holdOf_6 10 rfl rfl)
theorem dX1_holdOf_169 : decode cX1_holdOf 169 = .ok (.getfield 12, 3) := dk_180 0 12 (dk_at dksX1_holdOf_6 11 rfl rfl)
theorem dX1_holdOf_172 : decode cX1_holdOf 172 = .ok (.iload_n 1, 1) := dk_27 (dk_at dksX1_holdOf_6 14 rfl rfl)
theorem dX1_holdOf_173 : decode cX1_holdOf 173 = .ok (.invokevirtual 203, 3) := dk_182 0 203 (dk_at dksX1_holdOf_6 15 rfl rfl)
theorem dX1_holdOf_176 : decode cX1_holdOf 176 = .ok (.goto 11, 3) := dk_167 0 11 (dk_at dksX1_holdOf_6 18 rfl rfl)
theorem dX1_holdOf_179 : decode cX1_holdOf 179 = .ok (.aload_n 0, 1) := dk_42 (dk_at dksX1_holdOf_6 21 rfl rfl)
theorem dX1_holdOf_180 : decode cX1_holdOf 180 = .ok (.getfield 12, 3) := dk_180 0 12 (dk_at dksX1_holdOf_7 0 rfl rfl)
theorem dX1_holdOf_183 : decode cX1_holdOf 183 = .ok (.iload_n 1, 1) := dk_27 (dk_at dksX1_holdOf_7 3 rfl rfl)
theorem dX1_holdOf_184 : decode cX1_holdOf 184 = .ok (.invokevirtual 206, 3) := dk_182 0 206 (dk_at dksX1_holdOf_7 4 rfl rfl)
theorem dX1_holdOf_187 : decode cX1_holdOf 187 = .ok (.ireturn, 1) := dk_172 (dk_at dksX1_holdOf_7 7 rfl rfl)
abbrev cX1_checkIndex : ByteArray := prog_1_method_3_code
def yX1_checkIndex : MethodName := ⟨RX1, "checkIndex", "(Z)V"⟩
def dkwX1_checkIndex_0 : List UInt8 := [26, 154, 0, 11, 187, 0, 50, 89, 183, 0, 52, 191, 177]
abbrev dktX1_checkIndex_0 : List UInt8 := dkwX1_checkIndex_0 ++ []
theorem dksX1_checkIndex_0 : cX1_checkIndex.data.toList.drop 0 = dktX1_checkIndex_0 := by decide +kernel
theorem dX1_checkIndex_0 : decode cX1_checkIndex 0 = .ok (.iload_n 0, 1) := dk_26 (dk_at dksX1_checkIndex_0 0 rfl rfl)
theorem dX1_checkIndex_1 : decode cX1_checkIndex 1 = .ok (.ifCond .ne 11, 3) := dk_154 0 11 (dk_at dksX1_checkIndex_0 1 rfl rfl)
theorem dX1_checkIndex_4 : decode cX1_checkIndex 4 = .ok (.new 50, 3) := dk_187 0 50 (dk_at dksX1_checkIndex_0 4 rfl rfl)
theorem dX1_checkIndex_7 : decode cX1_checkIndex 7 = .ok (.dup, 1) := dk_89 (dk_at dksX1_checkIndex_0 7 rfl rfl)
theorem dX1_checkIndex_8 : decode cX1_checkIndex 8 = .ok (.invokespecial 52, 3) := dk_183 0 52 (dk_at dksX1_checkIndex_0 8 rfl rfl)
theorem dX1_checkIndex_11 : decode cX1_checkIndex 11 = .ok (.athrow, 1) := dk_191 (dk_at dksX1_checkIndex_0 11 rfl rfl)
theorem dX1_checkIndex_12 : decode cX1_checkIndex 12 = .ok (.return_, 1) := dk_177 (dk_at dksX1_checkIndex_0 12 rfl rfl)
abbrev cX1_lamp : ByteArray := prog_1_method_15_code
def yX1_lamp : MethodName := ⟨RX1, "lamp", "(III)I"⟩
def dkwX1_lamp_6 : List UInt8 := [182, 0, 116, 4, 100, 182, 0, 142, 172]
abbrev dktX1_lamp_6 : List UInt8 := dkwX1_lamp_6 ++ []
def dkwX1_lamp_5 : List UInt8 := [187, 0, 215, 89, 27, 28, 29, 183, 0, 217, 182, 0, 138, 87, 42, 25, 4, 42, 180, 0, 12, 180, 0, 212]
abbrev dktX1_lamp_5 : List UInt8 := dkwX1_lamp_5 ++ dktX1_lamp_6
def dkwX1_lamp_4 : List UInt8 := [183, 0, 75, 182, 0, 126, 191, 42, 180, 0, 12, 182, 0, 130, 58, 4, 42, 180, 0, 12, 180, 0, 212]
abbrev dktX1_lamp_4 : List UInt8 := dkwX1_lamp_4 ++ dktX1_lamp_5
def dkwX1_lamp_3 : List UInt8 := [180, 0, 112, 27, 182, 0, 172, 192, 0, 33, 182, 0, 191, 153, 0, 17, 42, 187, 0, 63, 89, 5, 27]
abbrev dktX1_lamp_3 : List UInt8 := dkwX1_lamp_3 ++ dktX1_lamp_4
def dkwX1_lamp_2 : List UInt8 := [182, 0, 116, 7, 162, 0, 7, 4, 167, 0, 4, 3, 184, 0, 119, 27, 2, 159, 0, 37, 42, 180, 0, 12]
abbrev dktX1_lamp_2 : List UInt8 := dkwX1_lamp_2 ++ dktX1_lamp_3
def dkwX1_lamp_1 : List UInt8 := [16, 60, 184, 0, 104, 153, 0, 7, 4, 167, 0, 4, 3, 184, 0, 108, 42, 180, 0, 12, 180, 0, 212]
abbrev dktX1_lamp_1 : List UInt8 := dkwX1_lamp_1 ++ dktX1_lamp_2
def dkwX1_lamp_0 : List UInt8 := [42, 180, 0, 12, 27, 182, 0, 209, 184, 0, 169, 28, 4, 16, 6, 184, 0, 104, 153, 0, 17, 29, 3]
abbrev dktX1_lamp_0 : List UInt8 := dkwX1_lamp_0 ++ dktX1_lamp_1
theorem dksX1_lamp_0 : cX1_lamp.data.toList.drop 0 = dktX1_lamp_0 := by decide +kernel
theorem dksX1_lamp_1 : cX1_lamp.data.toList.drop 23 = dktX1_lamp_1 := dk_seg dksX1_lamp_0 23 rfl rfl
theorem dksX1_lamp_2 : cX1_lamp.data.toList.drop 46 = dktX1_lamp_2 := dk_seg dksX1_lamp_1 23 rfl rfl
theorem dksX1_lamp_3 : cX1_lamp.data.toList.drop 70 = dktX1_lamp_3 := dk_seg dksX1_lamp_2 24 rfl rfl
theorem dksX1_lamp_4 : cX1_lamp.data.toList.drop 93 = dktX1_lamp_4 := dk_seg dksX1_lamp_3 23 rfl rfl
theorem dksX1_lamp_5 : cX1_lamp.data.toList.drop 116 = dktX1_lamp_5 := dk_seg dksX1_lamp_4 23 rfl rfl
theorem dksX1_lamp_6 : cX1_lamp.data.toList.drop 140 = dktX1_lamp_6 := dk_seg dksX1_lamp_5 24 rfl rfl
theorem dX1_lamp_0 : decode cX1_lamp 0 = .ok (.aload_n 0, 1) := dk_42 (dk_at dksX1_lamp_0 0 rfl rfl)
theorem dX1_lamp_1 : decode cX1_lamp 1 = .ok (.getfield 12, 3) := dk_180 0 12 (dk_at dksX1_lamp_0 1 rfl rfl)
theorem dX1_lamp_4 : decode cX1_lamp 4 = .ok (.iload_n 1, 1) := dk_27 (dk_at dksX1_lamp_0 4 rfl rfl)
theorem dX1_lamp_5 : decode cX1_lamp 5 = .ok (.invokevirtual 209, 3) := dk_182 0 209 (dk_at dksX1_lamp_0 5 rfl rfl)
theorem dX1_lamp_8 : decode cX1_lamp 8 = .ok (.invokestatic 169, 3) := dk_184 0 169 (dk_at dksX1_lamp_0 8 rfl rfl)
theorem dX1_lamp_11 : decode cX1_lamp 11 = .ok (.iload_n 2, 1) := dk_28 (dk_at dksX1_lamp_0 11 rfl rfl)
theorem dX1_lamp_12 : decode cX1_lamp 12 = .ok (.iconst 1, 1) := dk_4 (dk_at dksX1_lamp_0 12 rfl rfl)
theorem dX1_lamp_13 : decode cX1_lamp 13 = .ok (.bipush 6, 2) := dk_16 6 (dk_at dksX1_lamp_0 13 rfl rfl)
theorem dX1_lamp_15 : decode cX1_lamp 15 = .ok (.invokestatic 104, 3) := dk_184 0 104 (dk_at dksX1_lamp_0 15 rfl rfl)
theorem dX1_lamp_18 : decode cX1_lamp 18 = .ok (.ifCond .eq 17, 3) := dk_153 0 17 (dk_at dksX1_lamp_0 18 rfl rfl)
theorem dX1_lamp_21 : decode cX1_lamp 21 = .ok (.iload_n 3, 1) := dk_29 (dk_at dksX1_lamp_0 21 rfl rfl)
theorem dX1_lamp_22 : decode cX1_lamp 22 = .ok (.iconst 0, 1) := dk_3 (dk_at dksX1_lamp_0 22 rfl rfl)
theorem dX1_lamp_23 : decode cX1_lamp 23 = .ok (.bipush 60, 2) := dk_16 60 (dk_at dksX1_lamp_1 0 rfl rfl)
theorem dX1_lamp_25 : decode cX1_lamp 25 = .ok (.invokestatic 104, 3) := dk_184 0 104 (dk_at dksX1_lamp_1 2 rfl rfl)
theorem dX1_lamp_28 : decode cX1_lamp 28 = .ok (.ifCond .eq 7, 3) := dk_153 0 7 (dk_at dksX1_lamp_1 5 rfl rfl)
theorem dX1_lamp_31 : decode cX1_lamp 31 = .ok (.iconst 1, 1) := dk_4 (dk_at dksX1_lamp_1 8 rfl rfl)
theorem dX1_lamp_32 : decode cX1_lamp 32 = .ok (.goto 4, 3) := dk_167 0 4 (dk_at dksX1_lamp_1 9 rfl rfl)
theorem dX1_lamp_35 : decode cX1_lamp 35 = .ok (.iconst 0, 1) := dk_3 (dk_at dksX1_lamp_1 12 rfl rfl)
theorem dX1_lamp_36 : decode cX1_lamp 36 = .ok (.invokestatic 108, 3) := dk_184 0 108 (dk_at dksX1_lamp_1 13 rfl rfl)
theorem dX1_lamp_39 : decode cX1_lamp 39 = .ok (.aload_n 0, 1) := dk_42 (dk_at dksX1_lamp_1 16 rfl rfl)
theorem dX1_lamp_40 : decode cX1_lamp 40 = .ok (.getfield 12, 3) := dk_180 0 12 (dk_at dksX1_lamp_1 17 rfl rfl)
theorem dX1_lamp_43 : decode cX1_lamp 43 = .ok (.getfield 212, 3) := dk_180 0 212 (dk_at dksX1_lamp_1 20 rfl rfl)
theorem dX1_lamp_46 : decode cX1_lamp 46 = .ok (.invokevirtual 116, 3) := dk_182 0 116 (dk_at dksX1_lamp_2 0 rfl rfl)
theorem dX1_lamp_49 : decode cX1_lamp 49 = .ok (.iconst 4, 1) := dk_7 (dk_at dksX1_lamp_2 3 rfl rfl)
theorem dX1_lamp_50 : decode cX1_lamp 50 = .ok (.if_icmp .ge 7, 3) := dk_162 0 7 (dk_at dksX1_lamp_2 4 rfl rfl)
theorem dX1_lamp_53 : decode cX1_lamp 53 = .ok (.iconst 1, 1) := dk_4 (dk_at dksX1_lamp_2 7 rfl rfl)
theorem dX1_lamp_54 : decode cX1_lamp 54 = .ok (.goto 4, 3) := dk_167 0 4 (dk_at dksX1_lamp_2 8 rfl rfl)
theorem dX1_lamp_57 : decode cX1_lamp 57 = .ok (.iconst 0, 1) := dk_3 (dk_at dksX1_lamp_2 11 rfl rfl)
theorem dX1_lamp_58 : decode cX1_lamp 58 = .ok (.invokestatic 119, 3) := dk_184 0 119 (dk_at dksX1_lamp_2 12 rfl rfl)
theorem dX1_lamp_61 : decode cX1_lamp 61 = .ok (.iload_n 1, 1) := dk_27 (dk_at dksX1_lamp_2 15 rfl rfl)
theorem dX1_lamp_62 : decode cX1_lamp 62 = .ok (.iconst (-1), 1) := dk_2 (dk_at dksX1_lamp_2 16 rfl rfl)
theorem dX1_lamp_63 : decode cX1_lamp 63 = .ok (.if_icmp .eq 37, 3) := dk_159 0 37 (dk_at dksX1_lamp_2 17 rfl rfl)
theorem dX1_lamp_66 : decode cX1_lamp 66 = .ok (.aload_n 0, 1) := dk_42 (dk_at dksX1_lamp_2 20 rfl rfl)
theorem dX1_lamp_67 : decode cX1_lamp 67 = .ok (.getfield 12, 3) := dk_180 0 12 (dk_at dksX1_lamp_2 21 rfl rfl)
theorem dX1_lamp_70 : decode cX1_lamp 70 = .ok (.getfield 112, 3) := dk_180 0 112 (dk_at dksX1_lamp_3 0 rfl rfl)
theorem dX1_lamp_73 : decode cX1_lamp 73 = .ok (.iload_n 1, 1) := dk_27 (dk_at dksX1_lamp_3 3 rfl rfl)
theorem dX1_lamp_74 : decode cX1_lamp 74 = .ok (.invokevirtual 172, 3) := dk_182 0 172 (dk_at dksX1_lamp_3 4 rfl rfl)
theorem dX1_lamp_77 : decode cX1_lamp 77 = .ok (.checkcast 33, 3) := dk_192 0 33 (dk_at dksX1_lamp_3 7 rfl rfl)
theorem dX1_lamp_80 : decode cX1_lamp 80 = .ok (.invokevirtual 191, 3) := dk_182 0 191 (dk_at dksX1_lamp_3 10 rfl rfl)
theorem dX1_lamp_83 : decode cX1_lamp 83 = .ok (.ifCond .eq 17, 3) := dk_153 0 17 (dk_at dksX1_lamp_3 13 rfl rfl)
theorem dX1_lamp_86 : decode cX1_lamp 86 = .ok (.aload_n 0, 1) := dk_42 (dk_at dksX1_lamp_3 16 rfl rfl)
theorem dX1_lamp_87 : decode cX1_lamp 87 = .ok (.new 63, 3) := dk_187 0 63 (dk_at dksX1_lamp_3 17 rfl rfl)
theorem dX1_lamp_90 : decode cX1_lamp 90 = .ok (.dup, 1) := dk_89 (dk_at dksX1_lamp_3 20 rfl rfl)
theorem dX1_lamp_91 : decode cX1_lamp 91 = .ok (.iconst 2, 1) := dk_5 (dk_at dksX1_lamp_3 21 rfl rfl)
theorem dX1_lamp_92 : decode cX1_lamp 92 = .ok (.iload_n 1, 1) := dk_27 (dk_at dksX1_lamp_3 22 rfl rfl)
theorem dX1_lamp_93 : decode cX1_lamp 93 = .ok (.invokespecial 75, 3) := dk_183 0 75 (dk_at dksX1_lamp_4 0 rfl rfl)
theorem dX1_lamp_96 : decode cX1_lamp 96 = .ok (.invokevirtual 126, 3) := dk_182 0 126 (dk_at dksX1_lamp_4 3 rfl rfl)
theorem dX1_lamp_99 : decode cX1_lamp 99 = .ok (.athrow, 1) := dk_191 (dk_at dksX1_lamp_4 6 rfl rfl)
theorem dX1_lamp_100 : decode cX1_lamp 100 = .ok (.aload_n 0, 1) := dk_42 (dk_at dksX1_lamp_4 7 rfl rfl)
theorem dX1_lamp_101 : decode cX1_lamp 101 = .ok (.getfield 12, 3) := dk_180 0 12 (dk_at dksX1_lamp_4 8 rfl rfl)
theorem dX1_lamp_104 : decode cX1_lamp 104 = .ok (.invokevirtual 130, 3) := dk_182 0 130 (dk_at dksX1_lamp_4 11 rfl rfl)
theorem dX1_lamp_107 : decode cX1_lamp 107 = .ok (.astore 4, 2) := dk_58 4 (dk_at dksX1_lamp_4 14 rfl rfl)
theorem dX1_lamp_109 : decode cX1_lamp 109 = .ok (.aload_n 0, 1) := dk_42 (dk_at dksX1_lamp_4 16 rfl rfl)
theorem dX1_lamp_110 : decode cX1_lamp 110 = .ok (.getfield 12, 3) := dk_180 0 12 (dk_at dksX1_lamp_4 17 rfl rfl)
theorem dX1_lamp_113 : decode cX1_lamp 113 = .ok (.getfield 212, 3) := dk_180 0 212 (dk_at dksX1_lamp_4 20 rfl rfl)
theorem dX1_lamp_116 : decode cX1_lamp 116 = .ok (.new 215, 3) := dk_187 0 215 (dk_at dksX1_lamp_5 0 rfl rfl)
theorem dX1_lamp_119 : decode cX1_lamp 119 = .ok (.dup, 1) := dk_89 (dk_at dksX1_lamp_5 3 rfl rfl)
theorem dX1_lamp_120 : decode cX1_lamp 120 = .ok (.iload_n 1, 1) := dk_27 (dk_at dksX1_lamp_5 4 rfl rfl)
theorem dX1_lamp_121 : decode cX1_lamp 121 = .ok (.iload_n 2, 1) := dk_28 (dk_at dksX1_lamp_5 5 rfl rfl)
theorem dX1_lamp_122 : decode cX1_lamp 122 = .ok (.iload_n 3, 1) := dk_29 (dk_at dksX1_lamp_5 6 rfl rfl)
theorem dX1_lamp_123 : decode cX1_lamp 123 = .ok (.invokespecial 217, 3) := dk_183 0 217 (dk_at dksX1_lamp_5 7 rfl rfl)
theorem dX1_lamp_126 : decode cX1_lamp 126 = .ok (.invokevirtual 138, 3) := dk_182 0 138 (dk_at dksX1_lamp_5 10 rfl rfl)
theorem dX1_lamp_129 : decode cX1_lamp 129 = .ok (.pop, 1) := dk_87 (dk_at dksX1_lamp_5 13 rfl rfl)
theorem dX1_lamp_130 : decode cX1_lamp 130 = .ok (.aload_n 0, 1) := dk_42 (dk_at dksX1_lamp_5 14 rfl rfl)
theorem dX1_lamp_131 : decode cX1_lamp 131 = .ok (.aload 4, 2) := dk_25 4 (dk_at dksX1_lamp_5 15 rfl rfl)
theorem dX1_lamp_133 : decode cX1_lamp 133 = .ok (.aload_n 0, 1) := dk_42 (dk_at dksX1_lamp_5 17 rfl rfl)
theorem dX1_lamp_134 : decode cX1_lamp 134 = .ok (.getfield 12, 3) := dk_180 0 12 (dk_at dksX1_lamp_5 18 rfl rfl)
theorem dX1_lamp_137 : decode cX1_lamp 137 = .ok (.getfield 212, 3) := dk_180 0 212 (dk_at dksX1_lamp_5 21 rfl rfl)
theorem dX1_lamp_140 : decode cX1_lamp 140 = .ok (.invokevirtual 116, 3) := dk_182 0 116 (dk_at dksX1_lamp_6 0 rfl rfl)
theorem dX1_lamp_143 : decode cX1_lamp 143 = .ok (.iconst 1, 1) := dk_4 (dk_at dksX1_lamp_6 3 rfl rfl)
theorem dX1_lamp_144 : decode cX1_lamp 144 = .ok (.isub, 1) := dk_100 (dk_at dksX1_lamp_6 4 rfl rfl)
theorem dX1_lamp_145 : decode cX1_lamp 145 = .ok (.invokevirtual 142, 3) := dk_182 0 142 (dk_at dksX1_lamp_6 5 rfl rfl)
theorem dX1_lamp_148 : decode cX1_lamp 148 = .ok (.ireturn, 1) := dk_172 (dk_at dksX1_lamp_6 8 rfl rfl)
abbrev cX1_lampOf : ByteArray := prog_1_method_16_code
def yX1_lampOf : MethodName := ⟨RX1, "lampOf", "(II)I"⟩
def dkwX1_lampOf_4 : List UInt8 := [167, 0, 22, 45, 180, 0, 233, 167, 0, 15, 45, 180, 0, 236, 153, 0, 7, 4, 167, 0, 4, 3, 172]
abbrev dktX1_lampOf_4 : List UInt8 := dkwX1_lampOf_4 ++ []
def dkwX1_lampOf_3 : List UInt8 := [42, 180, 0, 12, 45, 182, 0, 223, 167, 0, 36, 45, 180, 0, 227, 167, 0, 29, 45, 180, 0, 230]
abbrev dktX1_lampOf_3 : List UInt8 := dkwX1_lampOf_3 ++ dktX1_lampOf_4
def dkwX1_lampOf_2 : List UInt8 := [170, 0, 0, 0, 0, 0, 0, 64, 0, 0, 0, 0, 0, 0, 0, 3, 0, 0, 0, 32, 0, 0, 0, 43, 0, 0, 0, 50, 0, 0, 0, 57]
abbrev dktX1_lampOf_2 : List UInt8 := dkwX1_lampOf_2 ++ dktX1_lampOf_3
def dkwX1_lampOf_1 : List UInt8 := [180, 0, 212, 27, 182, 0, 172, 192, 0, 215, 78, 28]
abbrev dktX1_lampOf_1 : List UInt8 := dkwX1_lampOf_1 ++ dktX1_lampOf_2
def dkwX1_lampOf_0 : List UInt8 := [42, 180, 0, 12, 27, 182, 0, 220, 184, 0, 169, 28, 3, 7, 184, 0, 104, 184, 0, 108, 42, 180, 0, 12]
abbrev dktX1_lampOf_0 : List UInt8 := dkwX1_lampOf_0 ++ dktX1_lampOf_1
theorem dksX1_lampOf_0 : cX1_lampOf.data.toList.drop 0 = dktX1_lampOf_0 := by decide +kernel
theorem dksX1_lampOf_1 : cX1_lampOf.data.toList.drop 24 = dktX1_lampOf_1 := dk_seg dksX1_lampOf_0 24 rfl rfl
theorem dksX1_lampOf_2 : cX1_lampOf.data.toList.drop 36 = dktX1_lampOf_2 := dk_seg dksX1_lampOf_1 12 rfl rfl
theorem dksX1_lampOf_3 : cX1_lampOf.data.toList.drop 68 = dktX1_lampOf_3 := dk_seg dksX1_lampOf_2 32 rfl rfl
theorem dksX1_lampOf_4 : cX1_lampOf.data.toList.drop 90 = dktX1_lampOf_4 := dk_seg dksX1_lampOf_3 22 rfl rfl
theorem dX1_lampOf_0 : decode cX1_lampOf 0 = .ok (.aload_n 0, 1) := dk_42 (dk_at dksX1_lampOf_0 0 rfl rfl)
theorem dX1_lampOf_1 : decode cX1_lampOf 1 = .ok (.getfield 12, 3) := dk_180 0 12 (dk_at dksX1_lampOf_0 1 rfl rfl)
theorem dX1_lampOf_4 : decode cX1_lampOf 4 = .ok (.iload_n 1, 1) := dk_27 (dk_at dksX1_lampOf_0 4 rfl rfl)
theorem dX1_lampOf_5 : decode cX1_lampOf 5 = .ok (.invokevirtual 220, 3) := dk_182 0 220 (dk_at dksX1_lampOf_0 5 rfl rfl)
theorem dX1_lampOf_8 : decode cX1_lampOf 8 = .ok (.invokestatic 169, 3) := dk_184 0 169 (dk_at dksX1_lampOf_0 8 rfl rfl)
theorem dX1_lampOf_11 : decode cX1_lampOf 11 = .ok (.iload_n 2, 1) := dk_28 (dk_at dksX1_lampOf_0 11 rfl rfl)
theorem dX1_lampOf_12 : decode cX1_lampOf 12 = .ok (.iconst 0, 1) := dk_3 (dk_at dksX1_lampOf_0 12 rfl rfl)
theorem dX1_lampOf_13 : decode cX1_lampOf 13 = .ok (.iconst 4, 1) := dk_7 (dk_at dksX1_lampOf_0 13 rfl rfl)
theorem dX1_lampOf_14 : decode cX1_lampOf 14 = .ok (.invokestatic 104, 3) := dk_184 0 104 (dk_at dksX1_lampOf_0 14 rfl rfl)
theorem dX1_lampOf_17 : decode cX1_lampOf 17 = .ok (.invokestatic 108, 3) := dk_184 0 108 (dk_at dksX1_lampOf_0 17 rfl rfl)
theorem dX1_lampOf_20 : decode cX1_lampOf 20 = .ok (.aload_n 0, 1) := dk_42 (dk_at dksX1_lampOf_0 20 rfl rfl)
theorem dX1_lampOf_21 : decode cX1_lampOf 21 = .ok (.getfield 12, 3) := dk_180 0 12 (dk_at dksX1_lampOf_0 21 rfl rfl)
theorem dX1_lampOf_24 : decode cX1_lampOf 24 = .ok (.getfield 212, 3) := dk_180 0 212 (dk_at dksX1_lampOf_1 0 rfl rfl)
theorem dX1_lampOf_27 : decode cX1_lampOf 27 = .ok (.iload_n 1, 1) := dk_27 (dk_at dksX1_lampOf_1 3 rfl rfl)
theorem dX1_lampOf_28 : decode cX1_lampOf 28 = .ok (.invokevirtual 172, 3) := dk_182 0 172 (dk_at dksX1_lampOf_1 4 rfl rfl)
theorem dX1_lampOf_31 : decode cX1_lampOf 31 = .ok (.checkcast 215, 3) := dk_192 0 215 (dk_at dksX1_lampOf_1 7 rfl rfl)
theorem dX1_lampOf_34 : decode cX1_lampOf 34 = .ok (.astore_n 3, 1) := dk_78 (dk_at dksX1_lampOf_1 10 rfl rfl)
theorem dX1_lampOf_35 : decode cX1_lampOf 35 = .ok (.iload_n 2, 1) := dk_28 (dk_at dksX1_lampOf_1 11 rfl rfl)
theorem dX1_lampOf_36 : decode cX1_lampOf 36 = .ok (.tableswitch 64 0 3 #[32, 43, 50, 57], 32) := by decide +kernel
theorem dX1_lampOf_68 : decode cX1_lampOf 68 = .ok (.aload_n 0, 1) := dk_42 (dk_at dksX1_lampOf_3 0 rfl rfl)
theorem dX1_lampOf_69 : decode cX1_lampOf 69 = .ok (.getfield 12, 3) := dk_180 0 12 (dk_at dksX1_lampOf_3 1 rfl rfl)
theorem dX1_lampOf_72 : decode cX1_lampOf 72 = .ok (.aload_n 3, 1) := dk_45 (dk_at dksX1_lampOf_3 4 rfl rfl)
theorem dX1_lampOf_73 : decode cX1_lampOf 73 = .ok (.invokevirtual 223, 3) := dk_182 0 223 (dk_at dksX1_lampOf_3 5 rfl rfl)
theorem dX1_lampOf_76 : decode cX1_lampOf 76 = .ok (.goto 36, 3) := dk_167 0 36 (dk_at dksX1_lampOf_3 8 rfl rfl)
theorem dX1_lampOf_79 : decode cX1_lampOf 79 = .ok (.aload_n 3, 1) := dk_45 (dk_at dksX1_lampOf_3 11 rfl rfl)
theorem dX1_lampOf_80 : decode cX1_lampOf 80 = .ok (.getfield 227, 3) := dk_180 0 227 (dk_at dksX1_lampOf_3 12 rfl rfl)
theorem dX1_lampOf_83 : decode cX1_lampOf 83 = .ok (.goto 29, 3) := dk_167 0 29 (dk_at dksX1_lampOf_3 15 rfl rfl)
theorem dX1_lampOf_86 : decode cX1_lampOf 86 = .ok (.aload_n 3, 1) := dk_45 (dk_at dksX1_lampOf_3 18 rfl rfl)
theorem dX1_lampOf_87 : decode cX1_lampOf 87 = .ok (.getfield 230, 3) := dk_180 0 230 (dk_at dksX1_lampOf_3 19 rfl rfl)
theorem dX1_lampOf_90 : decode cX1_lampOf 90 = .ok (.goto 22, 3) := dk_167 0 22 (dk_at dksX1_lampOf_4 0 rfl rfl)
theorem dX1_lampOf_93 : decode cX1_lampOf 93 = .ok (.aload_n 3, 1) := dk_45 (dk_at dksX1_lampOf_4 3 rfl rfl)
theorem dX1_lampOf_94 : decode cX1_lampOf 94 = .ok (.getfield 233, 3) := dk_180 0 233 (dk_at dksX1_lampOf_4 4 rfl rfl)
theorem dX1_lampOf_97 : decode cX1_lampOf 97 = .ok (.goto 15, 3) := dk_167 0 15 (dk_at dksX1_lampOf_4 7 rfl rfl)
theorem dX1_lampOf_100 : decode cX1_lampOf 100 = .ok (.aload_n 3, 1) := dk_45 (dk_at dksX1_lampOf_4 10 rfl rfl)
theorem dX1_lampOf_101 : decode cX1_lampOf 101 = .ok (.getfield 236, 3) := dk_180 0 236 (dk_at dksX1_lampOf_4 11 rfl rfl)
theorem dX1_lampOf_104 : decode cX1_lampOf 104 = .ok (.ifCond .eq 7, 3) := dk_153 0 7 (dk_at dksX1_lampOf_4 14 rfl rfl)
theorem dX1_lampOf_107 : decode cX1_lampOf 107 = .ok (.iconst 1, 1) := dk_4 (dk_at dksX1_lampOf_4 17 rfl rfl)
theorem dX1_lampOf_108 : decode cX1_lampOf 108 = .ok (.goto 4, 3) := dk_167 0 4 (dk_at dksX1_lampOf_4 18 rfl rfl)
theorem dX1_lampOf_111 : decode cX1_lampOf 111 = .ok (.iconst 0, 1) := dk_3 (dk_at dksX1_lampOf_4 21 rfl rfl)
theorem dX1_lampOf_112 : decode cX1_lampOf 112 = .ok (.ireturn, 1) := dk_172 (dk_at dksX1_lampOf_4 22 rfl rfl)
abbrev cX1_climberOf : ByteArray := prog_1_method_18_code
def yX1_climberOf : MethodName := ⟨RX1, "climberOf", "(II)I"⟩
def dkwX1_climberOf_5 : List UInt8 := [167, 0, 4, 3, 172]
abbrev dktX1_climberOf_5 : List UInt8 := dkwX1_climberOf_5 ++ []
def dkwX1_climberOf_4 : List UInt8 := [180, 0, 12, 27, 182, 1, 2, 167, 0, 19, 42, 180, 0, 12, 27, 182, 1, 5, 153, 0, 7, 4]
abbrev dktX1_climberOf_4 : List UInt8 := dkwX1_climberOf_4 ++ dktX1_climberOf_5
def dkwX1_climberOf_3 : List UInt8 := [45, 180, 0, 247, 167, 0, 44, 45, 180, 0, 252, 167, 0, 37, 45, 180, 0, 255, 167, 0, 30, 42]
abbrev dktX1_climberOf_3 : List UInt8 := dkwX1_climberOf_3 ++ dktX1_climberOf_4
def dkwX1_climberOf_2 : List UInt8 := [170, 0, 0, 0, 0, 62, 0, 0, 0, 0, 0, 0, 0, 3, 0, 0, 0, 30, 0, 0, 0, 37, 0, 0, 0, 44, 0, 0, 0, 51]
abbrev dktX1_climberOf_2 : List UInt8 := dkwX1_climberOf_2 ++ dktX1_climberOf_3
def dkwX1_climberOf_1 : List UInt8 := [78, 28]
abbrev dktX1_climberOf_1 : List UInt8 := dkwX1_climberOf_1 ++ dktX1_climberOf_2
def dkwX1_climberOf_0 : List UInt8 := [27, 184, 0, 240, 184, 0, 169, 28, 3, 7, 184, 0, 104, 184, 0, 108, 42, 180, 0, 12, 27, 182, 0, 243]
abbrev dktX1_climberOf_0 : List UInt8 := dkwX1_climberOf_0 ++ dktX1_climberOf_1
theorem dksX1_climberOf_0 : cX1_climberOf.data.toList.drop 0 = dktX1_climberOf_0 := by decide +kernel
theorem dksX1_climberOf_1 : cX1_climberOf.data.toList.drop 24 = dktX1_climberOf_1 := dk_seg dksX1_climberOf_0 24 rfl rfl
theorem dksX1_climberOf_2 : cX1_climberOf.data.toList.drop 26 = dktX1_climberOf_2 := dk_seg dksX1_climberOf_1 2 rfl rfl
theorem dksX1_climberOf_3 : cX1_climberOf.data.toList.drop 56 = dktX1_climberOf_3 := dk_seg dksX1_climberOf_2 30 rfl rfl
theorem dksX1_climberOf_4 : cX1_climberOf.data.toList.drop 78 = dktX1_climberOf_4 := dk_seg dksX1_climberOf_3 22 rfl rfl
theorem dksX1_climberOf_5 : cX1_climberOf.data.toList.drop 100 = dktX1_climberOf_5 := dk_seg dksX1_climberOf_4 22 rfl rfl
theorem dX1_climberOf_0 : decode cX1_climberOf 0 = .ok (.iload_n 1, 1) := dk_27 (dk_at dksX1_climberOf_0 0 rfl rfl)
theorem dX1_climberOf_1 : decode cX1_climberOf 1 = .ok (.invokestatic 240, 3) := dk_184 0 240 (dk_at dksX1_climberOf_0 1 rfl rfl)
theorem dX1_climberOf_4 : decode cX1_climberOf 4 = .ok (.invokestatic 169, 3) := dk_184 0 169 (dk_at dksX1_climberOf_0 4 rfl rfl)
theorem dX1_climberOf_7 : decode cX1_climberOf 7 = .ok (.iload_n 2, 1) := dk_28 (dk_at dksX1_climberOf_0 7 rfl rfl)
theorem dX1_climberOf_8 : decode cX1_climberOf 8 = .ok (.iconst 0, 1) := dk_3 (dk_at dksX1_climberOf_0 8 rfl rfl)
theorem dX1_climberOf_9 : decode cX1_climberOf 9 = .ok (.iconst 4, 1) := dk_7 (dk_at dksX1_climberOf_0 9 rfl rfl)
theorem dX1_climberOf_10 : decode cX1_climberOf 10 = .ok (.invokestatic 104, 3) := dk_184 0 104 (dk_at dksX1_climberOf_0 10 rfl rfl)
theorem dX1_climberOf_13 : decode cX1_climberOf 13 = .ok (.invokestatic 108, 3) := dk_184 0 108 (dk_at dksX1_climberOf_0 13 rfl rfl)
theorem dX1_climberOf_16 : decode cX1_climberOf 16 = .ok (.aload_n 0, 1) := dk_42 (dk_at dksX1_climberOf_0 16 rfl rfl)
theorem dX1_climberOf_17 : decode cX1_climberOf 17 = .ok (.getfield 12, 3) := dk_180 0 12 (dk_at dksX1_climberOf_0 17 rfl rfl)
theorem dX1_climberOf_20 : decode cX1_climberOf 20 = .ok (.iload_n 1, 1) := dk_27 (dk_at dksX1_climberOf_0 20 rfl rfl)
theorem dX1_climberOf_21 : decode cX1_climberOf 21 = .ok (.invokevirtual 243, 3) := dk_182 0 243 (dk_at dksX1_climberOf_0 21 rfl rfl)
theorem dX1_climberOf_24 : decode cX1_climberOf 24 = .ok (.astore_n 3, 1) := dk_78 (dk_at dksX1_climberOf_1 0 rfl rfl)
theorem dX1_climberOf_25 : decode cX1_climberOf 25 = .ok (.iload_n 2, 1) := dk_28 (dk_at dksX1_climberOf_1 1 rfl rfl)
theorem dX1_climberOf_26 : decode cX1_climberOf 26 = .ok (.tableswitch 62 0 3 #[30, 37, 44, 51], 30) := by decide +kernel
theorem dX1_climberOf_56 : decode cX1_climberOf 56 = .ok (.aload_n 3, 1) := dk_45 (dk_at dksX1_climberOf_3 0 rfl rfl)
theorem dX1_climberOf_57 : decode cX1_climberOf 57 = .ok (.getfield 247, 3) := dk_180 0 247 (dk_at dksX1_climberOf_3 1 rfl rfl)
theorem dX1_climberOf_60 : decode cX1_climberOf 60 = .ok (.goto 44, 3) := dk_167 0 44 (dk_at dksX1_climberOf_3 4 rfl rfl)
theorem dX1_climberOf_63 : decode cX1_climberOf 63 = .ok (.aload_n 3, 1) := dk_45 (dk_at dksX1_climberOf_3 7 rfl rfl)
theorem dX1_climberOf_64 : decode cX1_climberOf 64 = .ok (.getfield 252, 3) := dk_180 0 252 (dk_at dksX1_climberOf_3 8 rfl rfl)
theorem dX1_climberOf_67 : decode cX1_climberOf 67 = .ok (.goto 37, 3) := dk_167 0 37 (dk_at dksX1_climberOf_3 11 rfl rfl)
theorem dX1_climberOf_70 : decode cX1_climberOf 70 = .ok (.aload_n 3, 1) := dk_45 (dk_at dksX1_climberOf_3 14 rfl rfl)
theorem dX1_climberOf_71 : decode cX1_climberOf 71 = .ok (.getfield 255, 3) := dk_180 0 255 (dk_at dksX1_climberOf_3 15 rfl rfl)
theorem dX1_climberOf_74 : decode cX1_climberOf 74 = .ok (.goto 30, 3) := dk_167 0 30 (dk_at dksX1_climberOf_3 18 rfl rfl)
theorem dX1_climberOf_77 : decode cX1_climberOf 77 = .ok (.aload_n 0, 1) := dk_42 (dk_at dksX1_climberOf_3 21 rfl rfl)
theorem dX1_climberOf_78 : decode cX1_climberOf 78 = .ok (.getfield 12, 3) := dk_180 0 12 (dk_at dksX1_climberOf_4 0 rfl rfl)
theorem dX1_climberOf_81 : decode cX1_climberOf 81 = .ok (.iload_n 1, 1) := dk_27 (dk_at dksX1_climberOf_4 3 rfl rfl)
theorem dX1_climberOf_82 : decode cX1_climberOf 82 = .ok (.invokevirtual 258, 3) := dk_182 1 2 (dk_at dksX1_climberOf_4 4 rfl rfl)
theorem dX1_climberOf_85 : decode cX1_climberOf 85 = .ok (.goto 19, 3) := dk_167 0 19 (dk_at dksX1_climberOf_4 7 rfl rfl)
theorem dX1_climberOf_88 : decode cX1_climberOf 88 = .ok (.aload_n 0, 1) := dk_42 (dk_at dksX1_climberOf_4 10 rfl rfl)
theorem dX1_climberOf_89 : decode cX1_climberOf 89 = .ok (.getfield 12, 3) := dk_180 0 12 (dk_at dksX1_climberOf_4 11 rfl rfl)
theorem dX1_climberOf_92 : decode cX1_climberOf 92 = .ok (.iload_n 1, 1) := dk_27 (dk_at dksX1_climberOf_4 14 rfl rfl)
theorem dX1_climberOf_93 : decode cX1_climberOf 93 = .ok (.invokevirtual 261, 3) := dk_182 1 5 (dk_at dksX1_climberOf_4 15 rfl rfl)
theorem dX1_climberOf_96 : decode cX1_climberOf 96 = .ok (.ifCond .eq 7, 3) := dk_153 0 7 (dk_at dksX1_climberOf_4 18 rfl rfl)
theorem dX1_climberOf_99 : decode cX1_climberOf 99 = .ok (.iconst 1, 1) := dk_4 (dk_at dksX1_climberOf_4 21 rfl rfl)
theorem dX1_climberOf_100 : decode cX1_climberOf 100 = .ok (.goto 4, 3) := dk_167 0 4 (dk_at dksX1_climberOf_5 0 rfl rfl)
theorem dX1_climberOf_103 : decode cX1_climberOf 103 = .ok (.iconst 0, 1) := dk_3 (dk_at dksX1_climberOf_5 3 rfl rfl)
theorem dX1_climberOf_104 : decode cX1_climberOf 104 = .ok (.ireturn, 1) := dk_172 (dk_at dksX1_climberOf_5 4 rfl rfl)
abbrev cX1_isClimber : ByteArray := prog_1_method_17_code
def yX1_isClimber : MethodName := ⟨RX1, "isClimber", "(I)Z"⟩
def dkwX1_isClimber_0 : List UInt8 := [26, 153, 0, 8, 26, 4, 160, 0, 7, 4, 167, 0, 4, 3, 172]
abbrev dktX1_isClimber_0 : List UInt8 := dkwX1_isClimber_0 ++ []
theorem dksX1_isClimber_0 : cX1_isClimber.data.toList.drop 0 = dktX1_isClimber_0 := by decide +kernel
theorem dX1_isClimber_0 : decode cX1_isClimber 0 = .ok (.iload_n 0, 1) := dk_26 (dk_at dksX1_isClimber_0 0 rfl rfl)
theorem dX1_isClimber_1 : decode cX1_isClimber 1 = .ok (.ifCond .eq 8, 3) := dk_153 0 8 (dk_at dksX1_isClimber_0 1 rfl rfl)
theorem dX1_isClimber_4 : decode cX1_isClimber 4 = .ok (.iload_n 0, 1) := dk_26 (dk_at dksX1_isClimber_0 4 rfl rfl)
theorem dX1_isClimber_5 : decode cX1_isClimber 5 = .ok (.iconst 1, 1) := dk_4 (dk_at dksX1_isClimber_0 5 rfl rfl)
theorem dX1_isClimber_6 : decode cX1_isClimber 6 = .ok (.if_icmp .ne 7, 3) := dk_160 0 7 (dk_at dksX1_isClimber_0 6 rfl rfl)
theorem dX1_isClimber_9 : decode cX1_isClimber 9 = .ok (.iconst 1, 1) := dk_4 (dk_at dksX1_isClimber_0 9 rfl rfl)
theorem dX1_isClimber_10 : decode cX1_isClimber 10 = .ok (.goto 4, 3) := dk_167 0 4 (dk_at dksX1_isClimber_0 10 rfl rfl)
theorem dX1_isClimber_13 : decode cX1_isClimber 13 = .ok (.iconst 0, 1) := dk_3 (dk_at dksX1_isClimber_0 13 rfl rfl)
theorem dX1_isClimber_14 : decode cX1_isClimber 14 = .ok (.ireturn, 1) := dk_172 (dk_at dksX1_isClimber_0 14 rfl rfl)
abbrev cX1_move : ByteArray := prog_1_method_19_code
def yX1_move : MethodName := ⟨RX1, "move", "(II)I"⟩
def dkwX1_move_2 : List UInt8 := [182, 0, 142, 172, 58, 4, 42, 25, 4, 182, 0, 126, 191]
abbrev dktX1_move_2 : List UInt8 := dkwX1_move_2 ++ []
def dkwX1_move_1 : List UInt8 := [184, 0, 169, 42, 180, 0, 12, 182, 0, 130, 78, 42, 45, 42, 180, 0, 12, 27, 28, 182, 1, 8]
abbrev dktX1_move_1 : List UInt8 := dkwX1_move_1 ++ dktX1_move_2
def dkwX1_move_0 : List UInt8 := [27, 184, 0, 240, 153, 0, 18, 42, 180, 0, 12, 28, 182, 0, 209, 153, 0, 7, 4, 167, 0, 4, 3]
abbrev dktX1_move_0 : List UInt8 := dkwX1_move_0 ++ dktX1_move_1
theorem dksX1_move_0 : cX1_move.data.toList.drop 0 = dktX1_move_0 := by decide +kernel
theorem dksX1_move_1 : cX1_move.data.toList.drop 23 = dktX1_move_1 := dk_seg dksX1_move_0 23 rfl rfl
theorem dksX1_move_2 : cX1_move.data.toList.drop 45 = dktX1_move_2 := dk_seg dksX1_move_1 22 rfl rfl
theorem dX1_move_0 : decode cX1_move 0 = .ok (.iload_n 1, 1) := dk_27 (dk_at dksX1_move_0 0 rfl rfl)
theorem dX1_move_1 : decode cX1_move 1 = .ok (.invokestatic 240, 3) := dk_184 0 240 (dk_at dksX1_move_0 1 rfl rfl)
theorem dX1_move_4 : decode cX1_move 4 = .ok (.ifCond .eq 18, 3) := dk_153 0 18 (dk_at dksX1_move_0 4 rfl rfl)
theorem dX1_move_7 : decode cX1_move 7 = .ok (.aload_n 0, 1) := dk_42 (dk_at dksX1_move_0 7 rfl rfl)
theorem dX1_move_8 : decode cX1_move 8 = .ok (.getfield 12, 3) := dk_180 0 12 (dk_at dksX1_move_0 8 rfl rfl)
theorem dX1_move_11 : decode cX1_move 11 = .ok (.iload_n 2, 1) := dk_28 (dk_at dksX1_move_0 11 rfl rfl)
theorem dX1_move_12 : decode cX1_move 12 = .ok (.invokevirtual 209, 3) := dk_182 0 209 (dk_at dksX1_move_0 12 rfl rfl)
theorem dX1_move_15 : decode cX1_move 15 = .ok (.ifCond .eq 7, 3) := dk_153 0 7 (dk_at dksX1_move_0 15 rfl rfl)
theorem dX1_move_18 : decode cX1_move 18 = .ok (.iconst 1, 1) := dk_4 (dk_at dksX1_move_0 18 rfl rfl)
theorem dX1_move_19 : decode cX1_move 19 = .ok (.goto 4, 3) := dk_167 0 4 (dk_at dksX1_move_0 19 rfl rfl)
theorem dX1_move_22 : decode cX1_move 22 = .ok (.iconst 0, 1) := dk_3 (dk_at dksX1_move_0 22 rfl rfl)
theorem dX1_move_23 : decode cX1_move 23 = .ok (.invokestatic 169, 3) := dk_184 0 169 (dk_at dksX1_move_1 0 rfl rfl)
theorem dX1_move_26 : decode cX1_move 26 = .ok (.aload_n 0, 1) := dk_42 (dk_at dksX1_move_1 3 rfl rfl)
theorem dX1_move_27 : decode cX1_move 27 = .ok (.getfield 12, 3) := dk_180 0 12 (dk_at dksX1_move_1 4 rfl rfl)
theorem dX1_move_30 : decode cX1_move 30 = .ok (.invokevirtual 130, 3) := dk_182 0 130 (dk_at dksX1_move_1 7 rfl rfl)
theorem dX1_move_33 : decode cX1_move 33 = .ok (.astore_n 3, 1) := dk_78 (dk_at dksX1_move_1 10 rfl rfl)
theorem dX1_move_34 : decode cX1_move 34 = .ok (.aload_n 0, 1) := dk_42 (dk_at dksX1_move_1 11 rfl rfl)
theorem dX1_move_35 : decode cX1_move 35 = .ok (.aload_n 3, 1) := dk_45 (dk_at dksX1_move_1 12 rfl rfl)
theorem dX1_move_36 : decode cX1_move 36 = .ok (.aload_n 0, 1) := dk_42 (dk_at dksX1_move_1 13 rfl rfl)
theorem dX1_move_37 : decode cX1_move 37 = .ok (.getfield 12, 3) := dk_180 0 12 (dk_at dksX1_move_1 14 rfl rfl)
theorem dX1_move_40 : decode cX1_move 40 = .ok (.iload_n 1, 1) := dk_27 (dk_at dksX1_move_1 17 rfl rfl)
theorem dX1_move_41 : decode cX1_move 41 = .ok (.iload_n 2, 1) := dk_28 (dk_at dksX1_move_1 18 rfl rfl)
theorem dX1_move_42 : decode cX1_move 42 = .ok (.invokevirtual 264, 3) := dk_182 1 8 (dk_at dksX1_move_1 19 rfl rfl)
theorem dX1_move_45 : decode cX1_move 45 = .ok (.invokevirtual 142, 3) := dk_182 0 142 (dk_at dksX1_move_2 0 rfl rfl)
theorem dX1_move_48 : decode cX1_move 48 = .ok (.ireturn, 1) := dk_172 (dk_at dksX1_move_2 3 rfl rfl)
theorem dX1_move_49 : decode cX1_move 49 = .ok (.astore 4, 2) := dk_58 4 (dk_at dksX1_move_2 4 rfl rfl)
theorem dX1_move_51 : decode cX1_move 51 = .ok (.aload_n 0, 1) := dk_42 (dk_at dksX1_move_2 6 rfl rfl)
theorem dX1_move_52 : decode cX1_move 52 = .ok (.aload 4, 2) := dk_25 4 (dk_at dksX1_move_2 7 rfl rfl)
theorem dX1_move_54 : decode cX1_move 54 = .ok (.invokevirtual 126, 3) := dk_182 0 126 (dk_at dksX1_move_2 9 rfl rfl)
theorem dX1_move_57 : decode cX1_move 57 = .ok (.athrow, 1) := dk_191 (dk_at dksX1_move_2 12 rfl rfl)
abbrev cX1_rest : ByteArray := prog_1_method_20_code
def yX1_rest : MethodName := ⟨RX1, "rest", "(I)I"⟩
def dkwX1_rest_1 : List UInt8 := [182, 1, 11, 182, 0, 142, 172, 78, 42, 45, 182, 0, 126, 191]
abbrev dktX1_rest_1 : List UInt8 := dkwX1_rest_1 ++ []
def dkwX1_rest_0 : List UInt8 := [27, 184, 0, 240, 184, 0, 169, 42, 180, 0, 12, 182, 0, 130, 77, 42, 44, 42, 180, 0, 12, 27]
abbrev dktX1_rest_0 : List UInt8 := dkwX1_rest_0 ++ dktX1_rest_1
theorem dksX1_rest_0 : cX1_rest.data.toList.drop 0 = dktX1_rest_0 := by decide +kernel
theorem dksX1_rest_1 : cX1_rest.data.toList.drop 22 = dktX1_rest_1 := dk_seg dksX1_rest_0 22 rfl rfl
theorem dX1_rest_0 : decode cX1_rest 0 = .ok (.iload_n 1, 1) := dk_27 (dk_at dksX1_rest_0 0 rfl rfl)
theorem dX1_rest_1 : decode cX1_rest 1 = .ok (.invokestatic 240, 3) := dk_184 0 240 (dk_at dksX1_rest_0 1 rfl rfl)
theorem dX1_rest_4 : decode cX1_rest 4 = .ok (.invokestatic 169, 3) := dk_184 0 169 (dk_at dksX1_rest_0 4 rfl rfl)
theorem dX1_rest_7 : decode cX1_rest 7 = .ok (.aload_n 0, 1) := dk_42 (dk_at dksX1_rest_0 7 rfl rfl)
theorem dX1_rest_8 : decode cX1_rest 8 = .ok (.getfield 12, 3) := dk_180 0 12 (dk_at dksX1_rest_0 8 rfl rfl)
theorem dX1_rest_11 : decode cX1_rest 11 = .ok (.invokevirtual 130, 3) := dk_182 0 130 (dk_at dksX1_rest_0 11 rfl rfl)
theorem dX1_rest_14 : decode cX1_rest 14 = .ok (.astore_n 2, 1) := dk_77 (dk_at dksX1_rest_0 14 rfl rfl)
theorem dX1_rest_15 : decode cX1_rest 15 = .ok (.aload_n 0, 1) := dk_42 (dk_at dksX1_rest_0 15 rfl rfl)
theorem dX1_rest_16 : decode cX1_rest 16 = .ok (.aload_n 2, 1) := dk_44 (dk_at dksX1_rest_0 16 rfl rfl)
theorem dX1_rest_17 : decode cX1_rest 17 = .ok (.aload_n 0, 1) := dk_42 (dk_at dksX1_rest_0 17 rfl rfl)
theorem dX1_rest_18 : decode cX1_rest 18 = .ok (.getfield 12, 3) := dk_180 0 12 (dk_at dksX1_rest_0 18 rfl rfl)
theorem dX1_rest_21 : decode cX1_rest 21 = .ok (.iload_n 1, 1) := dk_27 (dk_at dksX1_rest_0 21 rfl rfl)
theorem dX1_rest_22 : decode cX1_rest 22 = .ok (.invokevirtual 267, 3) := dk_182 1 11 (dk_at dksX1_rest_1 0 rfl rfl)
theorem dX1_rest_25 : decode cX1_rest 25 = .ok (.invokevirtual 142, 3) := dk_182 0 142 (dk_at dksX1_rest_1 3 rfl rfl)
theorem dX1_rest_28 : decode cX1_rest 28 = .ok (.ireturn, 1) := dk_172 (dk_at dksX1_rest_1 6 rfl rfl)
theorem dX1_rest_29 : decode cX1_rest 29 = .ok (.astore_n 3, 1) := dk_78 (dk_at dksX1_rest_1 7 rfl rfl)
theorem dX1_rest_30 : decode cX1_rest 30 = .ok (.aload_n 0, 1) := dk_42 (dk_at dksX1_rest_1 8 rfl rfl)
theorem dX1_rest_31 : decode cX1_rest 31 = .ok (.aload_n 3, 1) := dk_45 (dk_at dksX1_rest_1 9 rfl rfl)
theorem dX1_rest_32 : decode cX1_rest 32 = .ok (.invokevirtual 126, 3) := dk_182 0 126 (dk_at dksX1_rest_1 10 rfl rfl)
theorem dX1_rest_35 : decode cX1_rest 35 = .ok (.athrow, 1) := dk_191 (dk_at dksX1_rest_1 13 rfl rfl)
abbrev cX1_why : ByteArray := prog_1_method_21_code
def yX1_why : MethodName := ⟨RX1, "why", "(IIZ)I"⟩
def dkwX1_why_2 : List UInt8 := [180, 0, 68, 167, 0, 8, 25, 4, 180, 0, 62, 172]
abbrev dktX1_why_2 : List UInt8 := dkwX1_why_2 ++ []
def dkwX1_why_1 : List UInt8 := [184, 0, 169, 42, 180, 0, 12, 27, 28, 182, 1, 14, 3, 172, 58, 4, 29, 153, 0, 11, 25, 4]
abbrev dktX1_why_1 : List UInt8 := dkwX1_why_1 ++ dktX1_why_2
def dkwX1_why_0 : List UInt8 := [27, 184, 0, 240, 153, 0, 18, 42, 180, 0, 12, 28, 182, 0, 209, 153, 0, 7, 4, 167, 0, 4, 3]
abbrev dktX1_why_0 : List UInt8 := dkwX1_why_0 ++ dktX1_why_1
theorem dksX1_why_0 : cX1_why.data.toList.drop 0 = dktX1_why_0 := by decide +kernel
theorem dksX1_why_1 : cX1_why.data.toList.drop 23 = dktX1_why_1 := dk_seg dksX1_why_0 23 rfl rfl
theorem dksX1_why_2 : cX1_why.data.toList.drop 45 = dktX1_why_2 := dk_seg dksX1_why_1 22 rfl rfl
theorem dX1_why_0 : decode cX1_why 0 = .ok (.iload_n 1, 1) := dk_27 (dk_at dksX1_why_0 0 rfl rfl)
theorem dX1_why_1 : decode cX1_why 1 = .ok (.invokestatic 240, 3) := dk_184 0 240 (dk_at dksX1_why_0 1 rfl rfl)
theorem dX1_why_4 : decode cX1_why 4 = .ok (.ifCond .eq 18, 3) := dk_153 0 18 (dk_at dksX1_why_0 4 rfl rfl)
theorem dX1_why_7 : decode cX1_why 7 = .ok (.aload_n 0, 1) := dk_42 (dk_at dksX1_why_0 7 rfl rfl)
theorem dX1_why_8 : decode cX1_why 8 = .ok (.getfield 12, 3) := dk_180 0 12 (dk_at dksX1_why_0 8 rfl rfl)
theorem dX1_why_11 : decode cX1_why 11 = .ok (.iload_n 2, 1) := dk_28 (dk_at dksX1_why_0 11 rfl rfl)
theorem dX1_why_12 : decode cX1_why 12 = .ok (.invokevirtual 209, 3) := dk_182 0 209 (dk_at dksX1_why_0 12 rfl rfl)
theorem dX1_why_15 : decode cX1_why 15 = .ok (.ifCond .eq 7, 3) := dk_153 0 7 (dk_at dksX1_why_0 15 rfl rfl)
theorem dX1_why_18 : decode cX1_why 18 = .ok (.iconst 1, 1) := dk_4 (dk_at dksX1_why_0 18 rfl rfl)
theorem dX1_why_19 : decode cX1_why 19 = .ok (.goto 4, 3) := dk_167 0 4 (dk_at dksX1_why_0 19 rfl rfl)
theorem dX1_why_22 : decode cX1_why 22 = .ok (.iconst 0, 1) := dk_3 (dk_at dksX1_why_0 22 rfl rfl)
theorem dX1_why_23 : decode cX1_why 23 = .ok (.invokestatic 169, 3) := dk_184 0 169 (dk_at dksX1_why_1 0 rfl rfl)
theorem dX1_why_26 : decode cX1_why 26 = .ok (.aload_n 0, 1) := dk_42 (dk_at dksX1_why_1 3 rfl rfl)
theorem dX1_why_27 : decode cX1_why 27 = .ok (.getfield 12, 3) := dk_180 0 12 (dk_at dksX1_why_1 4 rfl rfl)
theorem dX1_why_30 : decode cX1_why 30 = .ok (.iload_n 1, 1) := dk_27 (dk_at dksX1_why_1 7 rfl rfl)
theorem dX1_why_31 : decode cX1_why 31 = .ok (.iload_n 2, 1) := dk_28 (dk_at dksX1_why_1 8 rfl rfl)
theorem dX1_why_32 : decode cX1_why 32 = .ok (.invokevirtual 270, 3) := dk_182 1 14 (dk_at dksX1_why_1 9 rfl rfl)
theorem dX1_why_35 : decode cX1_why 35 = .ok (.iconst 0, 1) := dk_3 (dk_at dksX1_why_1 12 rfl rfl)
theorem dX1_why_36 : decode cX1_why 36 = .ok (.ireturn, 1) := dk_172 (dk_at dksX1_why_1 13 rfl rfl)
theorem dX1_why_37 : decode cX1_why 37 = .ok (.astore 4, 2) := dk_58 4 (dk_at dksX1_why_1 14 rfl rfl)
theorem dX1_why_39 : decode cX1_why 39 = .ok (.iload_n 3, 1) := dk_29 (dk_at dksX1_why_1 16 rfl rfl)
theorem dX1_why_40 : decode cX1_why 40 = .ok (.ifCond .eq 11, 3) := dk_153 0 11 (dk_at dksX1_why_1 17 rfl rfl)
theorem dX1_why_43 : decode cX1_why 43 = .ok (.aload 4, 2) := dk_25 4 (dk_at dksX1_why_1 20 rfl rfl)
theorem dX1_why_45 : decode cX1_why 45 = .ok (.getfield 68, 3) := dk_180 0 68 (dk_at dksX1_why_2 0 rfl rfl)
theorem dX1_why_48 : decode cX1_why 48 = .ok (.goto 8, 3) := dk_167 0 8 (dk_at dksX1_why_2 3 rfl rfl)
theorem dX1_why_51 : decode cX1_why 51 = .ok (.aload 4, 2) := dk_25 4 (dk_at dksX1_why_2 6 rfl rfl)
theorem dX1_why_53 : decode cX1_why 53 = .ok (.getfield 62, 3) := dk_180 0 62 (dk_at dksX1_why_2 8 rfl rfl)
theorem dX1_why_56 : decode cX1_why 56 = .ok (.ireturn, 1) := dk_172 (dk_at dksX1_why_2 11 rfl rfl)
abbrev cX1_moves : ByteArray := prog_1_method_22_code
def yX1_moves : MethodName := ⟨RX1, "moves", "(I)I"⟩
def dkwX1_moves_2 : List UInt8 := [132, 3, 1, 167, 255, 219, 28, 172]
abbrev dktX1_moves_2 : List UInt8 := dkwX1_moves_2 ++ []
def dkwX1_moves_1 : List UInt8 := [162, 0, 29, 28, 42, 27, 29, 3, 182, 1, 17, 154, 0, 9, 4, 29, 120, 167, 0, 4, 3, 128, 61]
abbrev dktX1_moves_1 : List UInt8 := dkwX1_moves_1 ++ dktX1_moves_2
def dkwX1_moves_0 : List UInt8 := [27, 184, 0, 240, 184, 0, 169, 3, 61, 3, 62, 29, 42, 180, 0, 12, 180, 0, 112, 182, 0, 116]
abbrev dktX1_moves_0 : List UInt8 := dkwX1_moves_0 ++ dktX1_moves_1
theorem dksX1_moves_0 : cX1_moves.data.toList.drop 0 = dktX1_moves_0 := by decide +kernel
theorem dksX1_moves_1 : cX1_moves.data.toList.drop 22 = dktX1_moves_1 := dk_seg dksX1_moves_0 22 rfl rfl
theorem dksX1_moves_2 : cX1_moves.data.toList.drop 45 = dktX1_moves_2 := dk_seg dksX1_moves_1 23 rfl rfl
theorem dX1_moves_0 : decode cX1_moves 0 = .ok (.iload_n 1, 1) := dk_27 (dk_at dksX1_moves_0 0 rfl rfl)
theorem dX1_moves_1 : decode cX1_moves 1 = .ok (.invokestatic 240, 3) := dk_184 0 240 (dk_at dksX1_moves_0 1 rfl rfl)
theorem dX1_moves_4 : decode cX1_moves 4 = .ok (.invokestatic 169, 3) := dk_184 0 169 (dk_at dksX1_moves_0 4 rfl rfl)
theorem dX1_moves_7 : decode cX1_moves 7 = .ok (.iconst 0, 1) := dk_3 (dk_at dksX1_moves_0 7 rfl rfl)
theorem dX1_moves_8 : decode cX1_moves 8 = .ok (.istore_n 2, 1) := dk_61 (dk_at dksX1_moves_0 8 rfl rfl)
theorem dX1_moves_9 : decode cX1_moves 9 = .ok (.iconst 0, 1) := dk_3 (dk_at dksX1_moves_0 9 rfl rfl)
theorem dX1_moves_10 : decode cX1_moves 10 = .ok (.istore_n 3, 1) := dk_62 (dk_at dksX1_moves_0 10 rfl rfl)
theorem dX1_moves_11 : decode cX1_moves 11 = .ok (.iload_n 3, 1) := dk_29 (dk_at dksX1_moves_0 11 rfl rfl)
theorem dX1_moves_12 : decode cX1_moves 12 = .ok (.aload_n 0, 1) := dk_42 (dk_at dksX1_moves_0 12 rfl rfl)
theorem dX1_moves_13 : decode cX1_moves 13 = .ok (.getfield 12, 3) := dk_180 0 12 (dk_at dksX1_moves_0 13 rfl rfl)
theorem dX1_moves_16 : decode cX1_moves 16 = .ok (.getfield 112, 3) := dk_180 0 112 (dk_at dksX1_moves_0 16 rfl rfl)
theorem dX1_moves_19 : decode cX1_moves 19 = .ok (.invokevirtual 116, 3) := dk_182 0 116 (dk_at dksX1_moves_0 19 rfl rfl)
theorem dX1_moves_22 : decode cX1_moves 22 = .ok (.if_icmp .ge 29, 3) := dk_162 0 29 (dk_at dksX1_moves_1 0 rfl rfl)
theorem dX1_moves_25 : decode cX1_moves 25 = .ok (.iload_n 2, 1) := dk_28 (dk_at dksX1_moves_1 3 rfl rfl)
theorem dX1_moves_26 : decode cX1_moves 26 = .ok (.aload_n 0, 1) := dk_42 (dk_at dksX1_moves_1 4 rfl rfl)
theorem dX1_moves_27 : decode cX1_moves 27 = .ok (.iload_n 1, 1) := dk_27 (dk_at dksX1_moves_1 5 rfl rfl)
theorem dX1_moves_28 : decode cX1_moves 28 = .ok (.iload_n 3, 1) := dk_29 (dk_at dksX1_moves_1 6 rfl rfl)
theorem dX1_moves_29 : decode cX1_moves 29 = .ok (.iconst 0, 1) := dk_3 (dk_at dksX1_moves_1 7 rfl rfl)
theorem dX1_moves_30 : decode cX1_moves 30 = .ok (.invokevirtual 273, 3) := dk_182 1 17 (dk_at dksX1_moves_1 8 rfl rfl)
theorem dX1_moves_33 : decode cX1_moves 33 = .ok (.ifCond .ne 9, 3) := dk_154 0 9 (dk_at dksX1_moves_1 11 rfl rfl)
theorem dX1_moves_36 : decode cX1_moves 36 = .ok (.iconst 1, 1) := dk_4 (dk_at dksX1_moves_1 14 rfl rfl)
theorem dX1_moves_37 : decode cX1_moves 37 = .ok (.iload_n 3, 1) := dk_29 (dk_at dksX1_moves_1 15 rfl rfl)
theorem dX1_moves_38 : decode cX1_moves 38 = .ok (.ishl, 1) := dk_120 (dk_at dksX1_moves_1 16 rfl rfl)
theorem dX1_moves_39 : decode cX1_moves 39 = .ok (.goto 4, 3) := dk_167 0 4 (dk_at dksX1_moves_1 17 rfl rfl)
theorem dX1_moves_42 : decode cX1_moves 42 = .ok (.iconst 0, 1) := dk_3 (dk_at dksX1_moves_1 20 rfl rfl)
theorem dX1_moves_43 : decode cX1_moves 43 = .ok (.ior, 1) := dk_128 (dk_at dksX1_moves_1 21 rfl rfl)
theorem dX1_moves_44 : decode cX1_moves 44 = .ok (.istore_n 2, 1) := dk_61 (dk_at dksX1_moves_1 22 rfl rfl)
theorem dX1_moves_45 : decode cX1_moves 45 = .ok (.iinc 3 1, 3) := dk_132 3 1 (dk_at dksX1_moves_2 0 rfl rfl)
theorem dX1_moves_48 : decode cX1_moves 48 = .ok (.goto (-37), 3) := dk_167 255 219 (dk_at dksX1_moves_2 3 rfl rfl)
theorem dX1_moves_51 : decode cX1_moves 51 = .ok (.iload_n 2, 1) := dk_28 (dk_at dksX1_moves_2 6 rfl rfl)
theorem dX1_moves_52 : decode cX1_moves 52 = .ok (.ireturn, 1) := dk_172 (dk_at dksX1_moves_2 7 rfl rfl)
abbrev cX1_leastRests : ByteArray := prog_1_method_29_code
def yX1_leastRests : MethodName := ⟨RX1, "leastRests", "(II)I"⟩
def dkwX1_leastRests_9 : List UInt8 := [21, 6, 182, 1, 71, 167, 255, 142, 21, 5, 172]
abbrev dktX1_leastRests_9 : List UInt8 := dkwX1_leastRests_9 ++ []
def dkwX1_leastRests_8 : List UInt8 := [21, 7, 164, 0, 7, 4, 167, 0, 4, 3, 184, 1, 66, 21, 7, 54, 6, 132, 5, 1, 42, 25, 4, 27]
abbrev dktX1_leastRests_8 : List UInt8 := dkwX1_leastRests_8 ++ dktX1_leastRests_9
def dkwX1_leastRests_7 : List UInt8 := [182, 1, 79, 96, 184, 1, 82, 184, 1, 56, 182, 1, 59, 132, 8, 1, 167, 255, 198, 42, 180, 1, 29]
abbrev dktX1_leastRests_7 : List UInt8 := dkwX1_leastRests_7 ++ dktX1_leastRests_8
def dkwX1_leastRests_6 : List UInt8 := [25, 4, 21, 9, 16, 20, 42, 180, 0, 23, 21, 8, 46, 184, 1, 40, 42, 180, 0, 12, 21, 9]
abbrev dktX1_leastRests_6 : List UInt8 := dkwX1_leastRests_6 ++ dktX1_leastRests_7
def dkwX1_leastRests_5 : List UInt8 := [21, 6, 54, 8, 21, 8, 21, 7, 162, 0, 57, 42, 180, 0, 23, 21, 8, 46, 184, 1, 37, 54, 9, 42]
abbrev dktX1_leastRests_5 : List UInt8 := dkwX1_leastRests_5 ++ dktX1_leastRests_6
def dkwX1_leastRests_4 : List UInt8 := [25, 4, 27, 21, 6, 182, 1, 71, 42, 28, 21, 6, 182, 1, 75, 154, 0, 110, 42, 180, 1, 29, 54, 7]
abbrev dktX1_leastRests_4 : List UInt8 := dkwX1_leastRests_4 ++ dktX1_leastRests_5
def dkwX1_leastRests_3 : List UInt8 := [25, 4, 45, 180, 0, 247, 45, 180, 0, 255, 184, 1, 56, 182, 1, 59, 3, 54, 5, 3, 54, 6, 42]
abbrev dktX1_leastRests_3 : List UInt8 := dkwX1_leastRests_3 ++ dktX1_leastRests_4
def dkwX1_leastRests_2 : List UInt8 := [184, 1, 66, 187, 1, 22, 89, 42, 180, 0, 23, 190, 183, 1, 69, 58, 4, 42, 3, 181, 1, 29, 42]
abbrev dktX1_leastRests_2 : List UInt8 := dkwX1_leastRests_2 ++ dktX1_leastRests_3
def dkwX1_leastRests_1 : List UInt8 := [184, 0, 169, 42, 180, 0, 12, 27, 182, 0, 243, 78, 45, 182, 1, 63, 154, 0, 7, 4, 167, 0, 4, 3]
abbrev dktX1_leastRests_1 : List UInt8 := dkwX1_leastRests_1 ++ dktX1_leastRests_2
def dkwX1_leastRests_0 : List UInt8 := [27, 184, 0, 240, 153, 0, 18, 42, 180, 0, 12, 28, 182, 0, 209, 153, 0, 7, 4, 167, 0, 4, 3]
abbrev dktX1_leastRests_0 : List UInt8 := dkwX1_leastRests_0 ++ dktX1_leastRests_1
theorem dksX1_leastRests_0 : cX1_leastRests.data.toList.drop 0 = dktX1_leastRests_0 := by decide +kernel
theorem dksX1_leastRests_1 : cX1_leastRests.data.toList.drop 23 = dktX1_leastRests_1 := dk_seg dksX1_leastRests_0 23 rfl rfl
theorem dksX1_leastRests_2 : cX1_leastRests.data.toList.drop 47 = dktX1_leastRests_2 := dk_seg dksX1_leastRests_1 24 rfl rfl
theorem dksX1_leastRests_3 : cX1_leastRests.data.toList.drop 70 = dktX1_leastRests_3 := dk_seg dksX1_leastRests_2 23 rfl rfl
theorem dksX1_leastRests_4 : cX1_leastRests.data.toList.drop 93 = dktX1_leastRests_4 := dk_seg dksX1_leastRests_3 23 rfl rfl
theorem dksX1_leastRests_5 : cX1_leastRests.data.toList.drop 117 = dktX1_leastRests_5 := dk_seg dksX1_leastRests_4 24 rfl rfl
theorem dksX1_leastRests_6 : cX1_leastRests.data.toList.drop 141 = dktX1_leastRests_6 := dk_seg dksX1_leastRests_5 24 rfl rfl
theorem dksX1_leastRests_7 : cX1_leastRests.data.toList.drop 163 = dktX1_leastRests_7 := dk_seg dksX1_leastRests_6 22 rfl rfl
theorem dksX1_leastRests_8 : cX1_leastRests.data.toList.drop 186 = dktX1_leastRests_8 := dk_seg dksX1_leastRests_7 23 rfl rfl
theorem dksX1_leastRests_9 : cX1_leastRests.data.toList.drop 210 = dktX1_leastRests_9 := dk_seg dksX1_leastRests_8 24 rfl rfl
theorem dX1_leastRests_0 : decode cX1_leastRests 0 = .ok (.iload_n 1, 1) := dk_27 (dk_at dksX1_leastRests_0 0 rfl rfl)
theorem dX1_leastRests_1 : decode cX1_leastRests 1 = .ok (.invokestatic 240, 3) := dk_184 0 240 (dk_at dksX1_leastRests_0 1 rfl rfl)
theorem dX1_leastRests_4 : decode cX1_leastRests 4 = .ok (.ifCond .eq 18, 3) := dk_153 0 18 (dk_at dksX1_leastRests_0 4 rfl rfl)
theorem dX1_leastRests_7 : decode cX1_leastRests 7 = .ok (.aload_n 0, 1) := dk_42 (dk_at dksX1_leastRests_0 7 rfl rfl)
theorem dX1_leastRests_8 : decode cX1_leastRests 8 = .ok (.getfield 12, 3) := dk_180 0 12 (dk_at dksX1_leastRests_0 8 rfl rfl)
theorem dX1_leastRests_11 : decode cX1_leastRests 11 = .ok (.iload_n 2, 1) := dk_28 (dk_at dksX1_leastRests_0 11 rfl rfl)
theorem dX1_leastRests_12 : decode cX1_leastRests 12 = .ok (.invokevirtual 209, 3) := dk_182 0 209 (dk_at dksX1_leastRests_0 12 rfl rfl)
theorem dX1_leastRests_15 : decode cX1_leastRests 15 = .ok (.ifCond .eq 7, 3) := dk_153 0 7 (dk_at dksX1_leastRests_0 15 rfl rfl)
theorem dX1_leastRests_18 : decode cX1_leastRests 18 = .ok (.iconst 1, 1) := dk_4 (dk_at dksX1_leastRests_0 18 rfl rfl)
theorem dX1_leastRests_19 : decode cX1_leastRests 19 = .ok (.goto 4, 3) := dk_167 0 4 (dk_at dksX1_leastRests_0 19 rfl rfl)
theorem dX1_leastRests_22 : decode cX1_leastRests 22 = .ok (.iconst 0, 1) := dk_3 (dk_at dksX1_leastRests_0 22 rfl rfl)
theorem dX1_leastRests_23 : decode cX1_leastRests 23 = .ok (.invokestatic 169, 3) := dk_184 0 169 (dk_at dksX1_leastRests_1 0 rfl rfl)
theorem dX1_leastRests_26 : decode cX1_leastRests 26 = .ok (.aload_n 0, 1) := dk_42 (dk_at dksX1_leastRests_1 3 rfl rfl)
theorem dX1_leastRests_27 : decode cX1_leastRests 27 = .ok (.getfield 12, 3) := dk_180 0 12 (dk_at dksX1_leastRests_1 4 rfl rfl)
theorem dX1_leastRests_30 : decode cX1_leastRests 30 = .ok (.iload_n 1, 1) := dk_27 (dk_at dksX1_leastRests_1 7 rfl rfl)
theorem dX1_leastRests_31 : decode cX1_leastRests 31 = .ok (.invokevirtual 243, 3) := dk_182 0 243 (dk_at dksX1_leastRests_1 8 rfl rfl)
theorem dX1_leastRests_34 : decode cX1_leastRests 34 = .ok (.astore_n 3, 1) := dk_78 (dk_at dksX1_leastRests_1 11 rfl rfl)
theorem dX1_leastRests_35 : decode cX1_leastRests 35 = .ok (.aload_n 3, 1) := dk_45 (dk_at dksX1_leastRests_1 12 rfl rfl)
theorem dX1_leastRests_36 : decode cX1_leastRests 36 = .ok (.invokevirtual 319, 3) := dk_182 1 63 (dk_at dksX1_leastRests_1 13 rfl rfl)
theorem dX1_leastRests_39 : decode cX1_leastRests 39 = .ok (.ifCond .ne 7, 3) := dk_154 0 7 (dk_at dksX1_leastRests_1 16 rfl rfl)
theorem dX1_leastRests_42 : decode cX1_leastRests 42 = .ok (.iconst 1, 1) := dk_4 (dk_at dksX1_leastRests_1 19 rfl rfl)
theorem dX1_leastRests_43 : decode cX1_leastRests 43 = .ok (.goto 4, 3) := dk_167 0 4 (dk_at dksX1_leastRests_1 20 rfl rfl)
theorem dX1_leastRests_46 : decode cX1_leastRests 46 = .ok (.iconst 0, 1) := dk_3 (dk_at dksX1_leastRests_1 23 rfl rfl)
theorem dX1_leastRests_47 : decode cX1_leastRests 47 = .ok (.invokestatic 322, 3) := dk_184 1 66 (dk_at dksX1_leastRests_2 0 rfl rfl)
theorem dX1_leastRests_50 : decode cX1_leastRests 50 = .ok (.new 278, 3) := dk_187 1 22 (dk_at dksX1_leastRests_2 3 rfl rfl)
theorem dX1_leastRests_53 : decode cX1_leastRests 53 = .ok (.dup, 1) := dk_89 (dk_at dksX1_leastRests_2 6 rfl rfl)
theorem dX1_leastRests_54 : decode cX1_leastRests 54 = .ok (.aload_n 0, 1) := dk_42 (dk_at dksX1_leastRests_2 7 rfl rfl)
theorem dX1_leastRests_55 : decode cX1_leastRests 55 = .ok (.getfield 23, 3) := dk_180 0 23 (dk_at dksX1_leastRests_2 8 rfl rfl)
theorem dX1_leastRests_58 : decode cX1_leastRests 58 = .ok (.arraylength, 1) := dk_190 (dk_at dksX1_leastRests_2 11 rfl rfl)
theorem dX1_leastRests_59 : decode cX1_leastRests 59 = .ok (.invokespecial 325, 3) := dk_183 1 69 (dk_at dksX1_leastRests_2 12 rfl rfl)
theorem dX1_leastRests_62 : decode cX1_leastRests 62 = .ok (.astore 4, 2) := dk_58 4 (dk_at dksX1_leastRests_2 15 rfl rfl)
theorem dX1_leastRests_64 : decode cX1_leastRests 64 = .ok (.aload_n 0, 1) := dk_42 (dk_at dksX1_leastRests_2 17 rfl rfl)
theorem dX1_leastRests_65 : decode cX1_leastRests 65 = .ok (.iconst 0, 1) := dk_3 (dk_at dksX1_leastRests_2 18 rfl rfl)
theorem dX1_leastRests_66 : decode cX1_leastRests 66 = .ok (.putfield 285, 3) := dk_181 1 29 (dk_at dksX1_leastRests_2 19 rfl rfl)
theorem dX1_leastRests_69 : decode cX1_leastRests 69 = .ok (.aload_n 0, 1) := dk_42 (dk_at dksX1_leastRests_2 22 rfl rfl)
theorem dX1_leastRests_70 : decode cX1_leastRests 70 = .ok (.aload 4, 2) := dk_25 4 (dk_at dksX1_leastRests_3 0 rfl rfl)
theorem dX1_leastRests_72 : decode cX1_leastRests 72 = .ok (.aload_n 3, 1) := dk_45 (dk_at dksX1_leastRests_3 2 rfl rfl)
theorem dX1_leastRests_73 : decode cX1_leastRests 73 = .ok (.getfield 247, 3) := dk_180 0 247 (dk_at dksX1_leastRests_3 3 rfl rfl)
theorem dX1_leastRests_76 : decode cX1_leastRests 76 = .ok (.aload_n 3, 1) := dk_45 (dk_at dksX1_leastRests_3 6 rfl rfl)
theorem dX1_leastRests_77 : decode cX1_leastRests 77 = .ok (.getfield 255, 3) := dk_180 0 255 (dk_at dksX1_leastRests_3 7 rfl rfl)
theorem dX1_leastRests_80 : decode cX1_leastRests 80 = .ok (.invokestatic 312, 3) := dk_184 1 56 (dk_at dksX1_leastRests_3 10 rfl rfl)
theorem dX1_leastRests_83 : decode cX1_leastRests 83 = .ok (.invokevirtual 315, 3) := dk_182 1 59 (dk_at dksX1_leastRests_3 13 rfl rfl)
theorem dX1_leastRests_86 : decode cX1_leastRests 86 = .ok (.iconst 0, 1) := dk_3 (dk_at dksX1_leastRests_3 16 rfl rfl)
theorem dX1_leastRests_87 : decode cX1_leastRests 87 = .ok (.istore 5, 2) := dk_54 5 (dk_at dksX1_leastRests_3 17 rfl rfl)
theorem dX1_leastRests_89 : decode cX1_leastRests 89 = .ok (.iconst 0, 1) := dk_3 (dk_at dksX1_leastRests_3 19 rfl rfl)
theorem dX1_leastRests_90 : decode cX1_leastRests 90 = .ok (.istore 6, 2) := dk_54 6 (dk_at dksX1_leastRests_3 20 rfl rfl)
theorem dX1_leastRests_92 : decode cX1_leastRests 92 = .ok (.aload_n 0, 1) := dk_42 (dk_at dksX1_leastRests_3 22 rfl rfl)
theorem dX1_leastRests_93 : decode cX1_leastRests 93 = .ok (.aload 4, 2) := dk_25 4 (dk_at dksX1_leastRests_4 0 rfl rfl)
theorem dX1_leastRests_95 : decode cX1_leastRests 95 = .ok (.iload_n 1, 1) := dk_27 (dk_at dksX1_leastRests_4 2 rfl rfl)
theorem dX1_leastRests_96 : decode cX1_leastRests 96 = .ok (.iload 6, 2) := dk_21 6 (dk_at dksX1_leastRests_4 3 rfl rfl)
theorem dX1_leastRests_98 : decode cX1_leastRests 98 = .ok (.invokevirtual 327, 3) := dk_182 1 71 (dk_at dksX1_leastRests_4 5 rfl rfl)
theorem dX1_leastRests_101 : decode cX1_leastRests 101 = .ok (.aload_n 0, 1) := dk_42 (dk_at dksX1_leastRests_4 8 rfl rfl)
theorem dX1_leastRests_102 : decode cX1_leastRests 102 = .ok (.iload_n 2, 1) := dk_28 (dk_at dksX1_leastRests_4 9 rfl rfl)
theorem dX1_leastRests_103 : decode cX1_leastRests 103 = .ok (.iload 6, 2) := dk_21 6 (dk_at dksX1_leastRests_4 10 rfl rfl)
theorem dX1_leastRests_105 : decode cX1_leastRests 105 = .ok (.invokevirtual 331, 3) := dk_182 1 75 (dk_at dksX1_leastRests_4 12 rfl rfl)
theorem dX1_leastRests_108 : decode cX1_leastRests 108 = .ok (.ifCond .ne 110, 3) := dk_154 0 110 (dk_at dksX1_leastRests_4 15 rfl rfl)
theorem dX1_leastRests_111 : decode cX1_leastRests 111 = .ok (.aload_n 0, 1) := dk_42 (dk_at dksX1_leastRests_4 18 rfl rfl)
theorem dX1_leastRests_112 : decode cX1_leastRests 112 = .ok (.getfield 285, 3) := dk_180 1 29 (dk_at dksX1_leastRests_4 19 rfl rfl)
theorem dX1_leastRests_115 : decode cX1_leastRests 115 = .ok (.istore 7, 2) := dk_54 7 (dk_at dksX1_leastRests_4 22 rfl rfl)
theorem dX1_leastRests_117 : decode cX1_leastRests 117 = .ok (.iload 6, 2) := dk_21 6 (dk_at dksX1_leastRests_5 0 rfl rfl)
theorem dX1_leastRests_119 : decode cX1_leastRests 119 = .ok (.istore 8, 2) := dk_54 8 (dk_at dksX1_leastRests_5 2 rfl rfl)
theorem dX1_leastRests_121 : decode cX1_leastRests 121 = .ok (.iload 8, 2) := dk_21 8 (dk_at dksX1_leastRests_5 4 rfl rfl)
theorem dX1_leastRests_123 : decode cX1_leastRests 123 = .ok (.iload 7, 2) := dk_21 7 (dk_at dksX1_leastRests_5 6 rfl rfl)
theorem dX1_leastRests_125 : decode cX1_leastRests 125 = .ok (.if_icmp .ge 57, 3) := dk_162 0 57 (dk_at dksX1_leastRests_5 8 rfl rfl)
theorem dX1_leastRests_128 : decode cX1_leastRests 128 = .ok (.aload_n 0, 1) := dk_42 (dk_at dksX1_leastRests_5 11 rfl rfl)
theorem dX1_leastRests_129 : decode cX1_leastRests 129 = .ok (.getfield 23, 3) := dk_180 0 23 (dk_at dksX1_leastRests_5 12 rfl rfl)
theorem dX1_leastRests_132 : decode cX1_leastRests 132 = .ok (.iload 8, 2) := dk_21 8 (dk_at dksX1_leastRests_5 15 rfl rfl)
theorem dX1_leastRests_134 : decode cX1_leastRests 134 = .ok (.iaload, 1) := dk_46 (dk_at dksX1_leastRests_5 17 rfl rfl)
theorem dX1_leastRests_135 : decode cX1_leastRests 135 = .ok (.invokestatic 293, 3) := dk_184 1 37 (dk_at dksX1_leastRests_5 18 rfl rfl)
theorem dX1_leastRests_138 : decode cX1_leastRests 138 = .ok (.istore 9, 2) := dk_54 9 (dk_at dksX1_leastRests_5 21 rfl rfl)
theorem dX1_leastRests_140 : decode cX1_leastRests 140 = .ok (.aload_n 0, 1) := dk_42 (dk_at dksX1_leastRests_5 23 rfl rfl)
theorem dX1_leastRests_141 : decode cX1_leastRests 141 = .ok (.aload 4, 2) := dk_25 4 (dk_at dksX1_leastRests_6 0 rfl rfl)
theorem dX1_leastRests_143 : decode cX1_leastRests 143 = .ok (.iload 9, 2) := dk_21 9 (dk_at dksX1_leastRests_6 2 rfl rfl)
theorem dX1_leastRests_145 : decode cX1_leastRests 145 = .ok (.bipush 20, 2) := dk_16 20 (dk_at dksX1_leastRests_6 4 rfl rfl)
theorem dX1_leastRests_147 : decode cX1_leastRests 147 = .ok (.aload_n 0, 1) := dk_42 (dk_at dksX1_leastRests_6 6 rfl rfl)
theorem dX1_leastRests_148 : decode cX1_leastRests 148 = .ok (.getfield 23, 3) := dk_180 0 23 (dk_at dksX1_leastRests_6 7 rfl rfl)
theorem dX1_leastRests_151 : decode cX1_leastRests 151 = .ok (.iload 8, 2) := dk_21 8 (dk_at dksX1_leastRests_6 10 rfl rfl)
theorem dX1_leastRests_153 : decode cX1_leastRests 153 = .ok (.iaload, 1) := dk_46 (dk_at dksX1_leastRests_6 12 rfl rfl)
theorem dX1_leastRests_154 : decode cX1_leastRests 154 = .ok (.invokestatic 296, 3) := dk_184 1 40 (dk_at dksX1_leastRests_6 13 rfl rfl)
theorem dX1_leastRests_157 : decode cX1_leastRests 157 = .ok (.aload_n 0, 1) := dk_42 (dk_at dksX1_leastRests_6 16 rfl rfl)
theorem dX1_leastRests_158 : decode cX1_leastRests 158 = .ok (.getfield 12, 3) := dk_180 0 12 (dk_at dksX1_leastRests_6 17 rfl rfl)
theorem dX1_leastRests_161 : decode cX1_leastRests 161 = .ok (.iload 9, 2) := dk_21 9 (dk_at dksX1_leastRests_6 20 rfl rfl)
theorem dX1_leastRests_163 : decode cX1_leastRests 163 = .ok (.invokevirtual 335, 3) := dk_182 1 79 (dk_at dksX1_leastRests_7 0 rfl rfl)
theorem dX1_leastRests_166 : decode cX1_leastRests 166 = .ok (.iadd, 1) := dk_96 (dk_at dksX1_leastRests_7 3 rfl rfl)
theorem dX1_leastRests_167 : decode cX1_leastRests 167 = .ok (.invokestatic 338, 3) := dk_184 1 82 (dk_at dksX1_leastRests_7 4 rfl rfl)
theorem dX1_leastRests_170 : decode cX1_leastRests 170 = .ok (.invokestatic 312, 3) := dk_184 1 56 (dk_at dksX1_leastRests_7 7 rfl rfl)
theorem dX1_leastRests_173 : decode cX1_leastRests 173 = .ok (.invokevirtual 315, 3) := dk_182 1 59 (dk_at dksX1_leastRests_7 10 rfl rfl)
theorem dX1_leastRests_176 : decode cX1_leastRests 176 = .ok (.iinc 8 1, 3) := dk_132 8 1 (dk_at dksX1_leastRests_7 13 rfl rfl)
theorem dX1_leastRests_179 : decode cX1_leastRests 179 = .ok (.goto (-58), 3) := dk_167 255 198 (dk_at dksX1_leastRests_7 16 rfl rfl)
theorem dX1_leastRests_182 : decode cX1_leastRests 182 = .ok (.aload_n 0, 1) := dk_42 (dk_at dksX1_leastRests_7 19 rfl rfl)
theorem dX1_leastRests_183 : decode cX1_leastRests 183 = .ok (.getfield 285, 3) := dk_180 1 29 (dk_at dksX1_leastRests_7 20 rfl rfl)
theorem dX1_leastRests_186 : decode cX1_leastRests 186 = .ok (.iload 7, 2) := dk_21 7 (dk_at dksX1_leastRests_8 0 rfl rfl)
theorem dX1_leastRests_188 : decode cX1_leastRests 188 = .ok (.if_icmp .le 7, 3) := dk_164 0 7 (dk_at dksX1_leastRests_8 2 rfl rfl)
theorem dX1_leastRests_191 : decode cX1_leastRests 191 = .ok (.iconst 1, 1) := dk_4 (dk_at dksX1_leastRests_8 5 rfl rfl)
theorem dX1_leastRests_192 : decode cX1_leastRests 192 = .ok (.goto 4, 3) := dk_167 0 4 (dk_at dksX1_leastRests_8 6 rfl rfl)
theorem dX1_leastRests_195 : decode cX1_leastRests 195 = .ok (.iconst 0, 1) := dk_3 (dk_at dksX1_leastRests_8 9 rfl rfl)
theorem dX1_leastRests_196 : decode cX1_leastRests 196 = .ok (.invokestatic 322, 3) := dk_184 1 66 (dk_at dksX1_leastRests_8 10 rfl rfl)
theorem dX1_leastRests_199 : decode cX1_leastRests 199 = .ok (.iload 7, 2) := dk_21 7 (dk_at dksX1_leastRests_8 13 rfl rfl)
theorem dX1_leastRests_201 : decode cX1_leastRests 201 = .ok (.istore 6, 2) := dk_54 6 (dk_at dksX1_leastRests_8 15 rfl rfl)
theorem dX1_leastRests_203 : decode cX1_leastRests 203 = .ok (.iinc 5 1, 3) := dk_132 5 1 (dk_at dksX1_leastRests_8 17 rfl rfl)
theorem dX1_leastRests_206 : decode cX1_leastRests 206 = .ok (.aload_n 0, 1) := dk_42 (dk_at dksX1_leastRests_8 20 rfl rfl)
theorem dX1_leastRests_207 : decode cX1_leastRests 207 = .ok (.aload 4, 2) := dk_25 4 (dk_at dksX1_leastRests_8 21 rfl rfl)
theorem dX1_leastRests_209 : decode cX1_leastRests 209 = .ok (.iload_n 1, 1) := dk_27 (dk_at dksX1_leastRests_8 23 rfl rfl)
theorem dX1_leastRests_210 : decode cX1_leastRests 210 = .ok (.iload 6, 2) := dk_21 6 (dk_at dksX1_leastRests_9 0 rfl rfl)
theorem dX1_leastRests_212 : decode cX1_leastRests 212 = .ok (.invokevirtual 327, 3) := dk_182 1 71 (dk_at dksX1_leastRests_9 2 rfl rfl)
theorem dX1_leastRests_215 : decode cX1_leastRests 215 = .ok (.goto (-114), 3) := dk_167 255 142 (dk_at dksX1_leastRests_9 5 rfl rfl)
theorem dX1_leastRests_218 : decode cX1_leastRests 218 = .ok (.iload 5, 2) := dk_21 5 (dk_at dksX1_leastRests_9 8 rfl rfl)
theorem dX1_leastRests_220 : decode cX1_leastRests 220 = .ok (.ireturn, 1) := dk_172 (dk_at dksX1_leastRests_9 10 rfl rfl)
abbrev cX1_checkElement : ByteArray := prog_1_method_6_code
def yX1_checkElement : MethodName := ⟨RX1, "checkElement", "(Z)V"⟩
def dkwX1_checkElement_0 : List UInt8 := [26, 154, 0, 11, 187, 0, 59, 89, 183, 0, 61, 191, 177]
abbrev dktX1_checkElement_0 : List UInt8 := dkwX1_checkElement_0 ++ []
theorem dksX1_checkElement_0 : cX1_checkElement.data.toList.drop 0 = dktX1_checkElement_0 := by decide +kernel
theorem dX1_checkElement_0 : decode cX1_checkElement 0 = .ok (.iload_n 0, 1) := dk_26 (dk_at dksX1_checkElement_0 0 rfl rfl)
theorem dX1_checkElement_1 : decode cX1_checkElement 1 = .ok (.ifCond .ne 11, 3) := dk_154 0 11 (dk_at dksX1_checkElement_0 1 rfl rfl)
theorem dX1_checkElement_4 : decode cX1_checkElement 4 = .ok (.new 59, 3) := dk_187 0 59 (dk_at dksX1_checkElement_0 4 rfl rfl)
theorem dX1_checkElement_7 : decode cX1_checkElement 7 = .ok (.dup, 1) := dk_89 (dk_at dksX1_checkElement_0 7 rfl rfl)
theorem dX1_checkElement_8 : decode cX1_checkElement 8 = .ok (.invokespecial 61, 3) := dk_183 0 61 (dk_at dksX1_checkElement_0 8 rfl rfl)
theorem dX1_checkElement_11 : decode cX1_checkElement 11 = .ok (.athrow, 1) := dk_191 (dk_at dksX1_checkElement_0 11 rfl rfl)
theorem dX1_checkElement_12 : decode cX1_checkElement 12 = .ok (.return_, 1) := dk_177 (dk_at dksX1_checkElement_0 12 rfl rfl)
abbrev cX1_stateOf : ByteArray := prog_1_method_23_code
def yX1_stateOf : MethodName := ⟨RX1, "stateOf", "(II)I"⟩
def dkwX1_stateOf_0 : List UInt8 := [16, 21, 26, 4, 96, 104, 27, 96, 172]
abbrev dktX1_stateOf_0 : List UInt8 := dkwX1_stateOf_0 ++ []
theorem dksX1_stateOf_0 : cX1_stateOf.data.toList.drop 0 = dktX1_stateOf_0 := by decide +kernel
theorem dX1_stateOf_0 : decode cX1_stateOf 0 = .ok (.bipush 21, 2) := dk_16 21 (dk_at dksX1_stateOf_0 0 rfl rfl)
theorem dX1_stateOf_2 : decode cX1_stateOf 2 = .ok (.iload_n 0, 1) := dk_26 (dk_at dksX1_stateOf_0 2 rfl rfl)
theorem dX1_stateOf_3 : decode cX1_stateOf 3 = .ok (.iconst 1, 1) := dk_4 (dk_at dksX1_stateOf_0 3 rfl rfl)
theorem dX1_stateOf_4 : decode cX1_stateOf 4 = .ok (.iadd, 1) := dk_96 (dk_at dksX1_stateOf_0 4 rfl rfl)
theorem dX1_stateOf_5 : decode cX1_stateOf 5 = .ok (.imul, 1) := dk_104 (dk_at dksX1_stateOf_0 5 rfl rfl)
theorem dX1_stateOf_6 : decode cX1_stateOf 6 = .ok (.iload_n 1, 1) := dk_27 (dk_at dksX1_stateOf_0 6 rfl rfl)
theorem dX1_stateOf_7 : decode cX1_stateOf 7 = .ok (.iadd, 1) := dk_96 (dk_at dksX1_stateOf_0 7 rfl rfl)
theorem dX1_stateOf_8 : decode cX1_stateOf 8 = .ok (.ireturn, 1) := dk_172 (dk_at dksX1_stateOf_0 8 rfl rfl)
abbrev cX1_notes : ByteArray := prog_1_method_26_code
def yX1_notes : MethodName := ⟨RX1, "notes", "(Ljava/util/BitSet;I)V"⟩
def dkwX1_notes_1 : List UInt8 := [89, 180, 1, 29, 4, 96, 181, 1, 29, 177]
abbrev dktX1_notes_1 : List UInt8 := dkwX1_notes_1 ++ []
def dkwX1_notes_0 : List UInt8 := [43, 28, 182, 1, 21, 154, 0, 28, 43, 28, 182, 1, 25, 42, 180, 0, 23, 42, 180, 1, 29, 28, 79, 42]
abbrev dktX1_notes_0 : List UInt8 := dkwX1_notes_0 ++ dktX1_notes_1
theorem dksX1_notes_0 : cX1_notes.data.toList.drop 0 = dktX1_notes_0 := by decide +kernel
theorem dksX1_notes_1 : cX1_notes.data.toList.drop 24 = dktX1_notes_1 := dk_seg dksX1_notes_0 24 rfl rfl
theorem dX1_notes_0 : decode cX1_notes 0 = .ok (.aload_n 1, 1) := dk_43 (dk_at dksX1_notes_0 0 rfl rfl)
theorem dX1_notes_1 : decode cX1_notes 1 = .ok (.iload_n 2, 1) := dk_28 (dk_at dksX1_notes_0 1 rfl rfl)
theorem dX1_notes_2 : decode cX1_notes 2 = .ok (.invokevirtual 277, 3) := dk_182 1 21 (dk_at dksX1_notes_0 2 rfl rfl)
theorem dX1_notes_5 : decode cX1_notes 5 = .ok (.ifCond .ne 28, 3) := dk_154 0 28 (dk_at dksX1_notes_0 5 rfl rfl)
theorem dX1_notes_8 : decode cX1_notes 8 = .ok (.aload_n 1, 1) := dk_43 (dk_at dksX1_notes_0 8 rfl rfl)
theorem dX1_notes_9 : decode cX1_notes 9 = .ok (.iload_n 2, 1) := dk_28 (dk_at dksX1_notes_0 9 rfl rfl)
theorem dX1_notes_10 : decode cX1_notes 10 = .ok (.invokevirtual 281, 3) := dk_182 1 25 (dk_at dksX1_notes_0 10 rfl rfl)
theorem dX1_notes_13 : decode cX1_notes 13 = .ok (.aload_n 0, 1) := dk_42 (dk_at dksX1_notes_0 13 rfl rfl)
theorem dX1_notes_14 : decode cX1_notes 14 = .ok (.getfield 23, 3) := dk_180 0 23 (dk_at dksX1_notes_0 14 rfl rfl)
theorem dX1_notes_17 : decode cX1_notes 17 = .ok (.aload_n 0, 1) := dk_42 (dk_at dksX1_notes_0 17 rfl rfl)
theorem dX1_notes_18 : decode cX1_notes 18 = .ok (.getfield 285, 3) := dk_180 1 29 (dk_at dksX1_notes_0 18 rfl rfl)
theorem dX1_notes_21 : decode cX1_notes 21 = .ok (.iload_n 2, 1) := dk_28 (dk_at dksX1_notes_0 21 rfl rfl)
theorem dX1_notes_22 : decode cX1_notes 22 = .ok (.iastore, 1) := dk_79 (dk_at dksX1_notes_0 22 rfl rfl)
theorem dX1_notes_23 : decode cX1_notes 23 = .ok (.aload_n 0, 1) := dk_42 (dk_at dksX1_notes_0 23 rfl rfl)
theorem dX1_notes_24 : decode cX1_notes 24 = .ok (.dup, 1) := dk_89 (dk_at dksX1_notes_1 0 rfl rfl)
theorem dX1_notes_25 : decode cX1_notes 25 = .ok (.getfield 285, 3) := dk_180 1 29 (dk_at dksX1_notes_1 1 rfl rfl)
theorem dX1_notes_28 : decode cX1_notes 28 = .ok (.iconst 1, 1) := dk_4 (dk_at dksX1_notes_1 4 rfl rfl)
theorem dX1_notes_29 : decode cX1_notes 29 = .ok (.iadd, 1) := dk_96 (dk_at dksX1_notes_1 5 rfl rfl)
theorem dX1_notes_30 : decode cX1_notes 30 = .ok (.putfield 285, 3) := dk_181 1 29 (dk_at dksX1_notes_1 6 rfl rfl)
theorem dX1_notes_33 : decode cX1_notes 33 = .ok (.return_, 1) := dk_177 (dk_at dksX1_notes_1 9 rfl rfl)
abbrev cX1_spreads : ByteArray := prog_1_method_27_code
def yX1_spreads : MethodName := ⟨RX1, "spreads", "(Ljava/util/BitSet;II)V"⟩
def dkwX1_spreads_7 : List UInt8 := [177]
abbrev dktX1_spreads_7 : List UInt8 := dkwX1_spreads_7 ++ []
def dkwX1_spreads_6 : List UInt8 := [21, 9, 100, 21, 4, 100, 184, 1, 56, 182, 1, 59, 132, 8, 1, 167, 255, 154, 132, 5, 1, 167, 255, 112]
abbrev dktX1_spreads_6 : List UInt8 := dkwX1_spreads_6 ++ dktX1_spreads_7
def dkwX1_spreads_5 : List UInt8 := [21, 7, 163, 0, 33, 42, 180, 0, 12, 21, 8, 182, 1, 53, 153, 0, 21, 42, 43, 21, 8, 21, 7]
abbrev dktX1_spreads_5 : List UInt8 := dkwX1_spreads_5 ++ dktX1_spreads_6
def dkwX1_spreads_4 : List UInt8 := [21, 8, 21, 6, 159, 0, 55, 21, 9, 42, 180, 0, 12, 180, 0, 146, 163, 0, 43, 21, 9, 21, 4, 96]
abbrev dktX1_spreads_4 : List UInt8 := dkwX1_spreads_4 ++ dktX1_spreads_5
def dkwX1_spreads_3 : List UInt8 := [180, 0, 12, 21, 6, 182, 1, 43, 42, 180, 0, 12, 21, 8, 182, 1, 43, 185, 1, 47, 2, 0, 54, 9]
abbrev dktX1_spreads_3 : List UInt8 := dkwX1_spreads_3 ++ dktX1_spreads_4
def dkwX1_spreads_2 : List UInt8 := [184, 1, 40, 54, 7, 2, 54, 8, 21, 8, 42, 180, 0, 12, 180, 0, 112, 182, 0, 116, 162, 0, 93, 42]
abbrev dktX1_spreads_2 : List UInt8 := dkwX1_spreads_2 ++ dktX1_spreads_3
def dkwX1_spreads_1 : List UInt8 := [162, 0, 141, 42, 180, 0, 23, 21, 5, 46, 184, 1, 37, 54, 6, 42, 180, 0, 23, 21, 5, 46]
abbrev dktX1_spreads_1 : List UInt8 := dkwX1_spreads_1 ++ dktX1_spreads_2
def dkwX1_spreads_0 : List UInt8 := [42, 180, 0, 12, 28, 182, 1, 2, 184, 1, 32, 54, 4, 29, 54, 5, 21, 5, 42, 180, 1, 29]
abbrev dktX1_spreads_0 : List UInt8 := dkwX1_spreads_0 ++ dktX1_spreads_1
theorem dksX1_spreads_0 : cX1_spreads.data.toList.drop 0 = dktX1_spreads_0 := by decide +kernel
theorem dksX1_spreads_1 : cX1_spreads.data.toList.drop 22 = dktX1_spreads_1 := dk_seg dksX1_spreads_0 22 rfl rfl
theorem dksX1_spreads_2 : cX1_spreads.data.toList.drop 44 = dktX1_spreads_2 := dk_seg dksX1_spreads_1 22 rfl rfl
theorem dksX1_spreads_3 : cX1_spreads.data.toList.drop 68 = dktX1_spreads_3 := dk_seg dksX1_spreads_2 24 rfl rfl
theorem dksX1_spreads_4 : cX1_spreads.data.toList.drop 92 = dktX1_spreads_4 := dk_seg dksX1_spreads_3 24 rfl rfl
theorem dksX1_spreads_5 : cX1_spreads.data.toList.drop 116 = dktX1_spreads_5 := dk_seg dksX1_spreads_4 24 rfl rfl
theorem dksX1_spreads_6 : cX1_spreads.data.toList.drop 139 = dktX1_spreads_6 := dk_seg dksX1_spreads_5 23 rfl rfl
theorem dksX1_spreads_7 : cX1_spreads.data.toList.drop 163 = dktX1_spreads_7 := dk_seg dksX1_spreads_6 24 rfl rfl
theorem dX1_spreads_0 : decode cX1_spreads 0 = .ok (.aload_n 0, 1) := dk_42 (dk_at dksX1_spreads_0 0 rfl rfl)
theorem dX1_spreads_1 : decode cX1_spreads 1 = .ok (.getfield 12, 3) := dk_180 0 12 (dk_at dksX1_spreads_0 1 rfl rfl)
theorem dX1_spreads_4 : decode cX1_spreads 4 = .ok (.iload_n 2, 1) := dk_28 (dk_at dksX1_spreads_0 4 rfl rfl)
theorem dX1_spreads_5 : decode cX1_spreads 5 = .ok (.invokevirtual 258, 3) := dk_182 1 2 (dk_at dksX1_spreads_0 5 rfl rfl)
theorem dX1_spreads_8 : decode cX1_spreads 8 = .ok (.invokestatic 288, 3) := dk_184 1 32 (dk_at dksX1_spreads_0 8 rfl rfl)
theorem dX1_spreads_11 : decode cX1_spreads 11 = .ok (.istore 4, 2) := dk_54 4 (dk_at dksX1_spreads_0 11 rfl rfl)
theorem dX1_spreads_13 : decode cX1_spreads 13 = .ok (.iload_n 3, 1) := dk_29 (dk_at dksX1_spreads_0 13 rfl rfl)
theorem dX1_spreads_14 : decode cX1_spreads 14 = .ok (.istore 5, 2) := dk_54 5 (dk_at dksX1_spreads_0 14 rfl rfl)
theorem dX1_spreads_16 : decode cX1_spreads 16 = .ok (.iload 5, 2) := dk_21 5 (dk_at dksX1_spreads_0 16 rfl rfl)
theorem dX1_spreads_18 : decode cX1_spreads 18 = .ok (.aload_n 0, 1) := dk_42 (dk_at dksX1_spreads_0 18 rfl rfl)
theorem dX1_spreads_19 : decode cX1_spreads 19 = .ok (.getfield 285, 3) := dk_180 1 29 (dk_at dksX1_spreads_0 19 rfl rfl)
theorem dX1_spreads_22 : decode cX1_spreads 22 = .ok (.if_icmp .ge 141, 3) := dk_162 0 141 (dk_at dksX1_spreads_1 0 rfl rfl)
theorem dX1_spreads_25 : decode cX1_spreads 25 = .ok (.aload_n 0, 1) := dk_42 (dk_at dksX1_spreads_1 3 rfl rfl)
theorem dX1_spreads_26 : decode cX1_spreads 26 = .ok (.getfield 23, 3) := dk_180 0 23 (dk_at dksX1_spreads_1 4 rfl rfl)
theorem dX1_spreads_29 : decode cX1_spreads 29 = .ok (.iload 5, 2) := dk_21 5 (dk_at dksX1_spreads_1 7 rfl rfl)
theorem dX1_spreads_31 : decode cX1_spreads 31 = .ok (.iaload, 1) := dk_46 (dk_at dksX1_spreads_1 9 rfl rfl)
theorem dX1_spreads_32 : decode cX1_spreads 32 = .ok (.invokestatic 293, 3) := dk_184 1 37 (dk_at dksX1_spreads_1 10 rfl rfl)
theorem dX1_spreads_35 : decode cX1_spreads 35 = .ok (.istore 6, 2) := dk_54 6 (dk_at dksX1_spreads_1 13 rfl rfl)
theorem dX1_spreads_37 : decode cX1_spreads 37 = .ok (.aload_n 0, 1) := dk_42 (dk_at dksX1_spreads_1 15 rfl rfl)
theorem dX1_spreads_38 : decode cX1_spreads 38 = .ok (.getfield 23, 3) := dk_180 0 23 (dk_at dksX1_spreads_1 16 rfl rfl)
theorem dX1_spreads_41 : decode cX1_spreads 41 = .ok (.iload 5, 2) := dk_21 5 (dk_at dksX1_spreads_1 19 rfl rfl)
theorem dX1_spreads_43 : decode cX1_spreads 43 = .ok (.iaload, 1) := dk_46 (dk_at dksX1_spreads_1 21 rfl rfl)
theorem dX1_spreads_44 : decode cX1_spreads 44 = .ok (.invokestatic 296, 3) := dk_184 1 40 (dk_at dksX1_spreads_2 0 rfl rfl)
theorem dX1_spreads_47 : decode cX1_spreads 47 = .ok (.istore 7, 2) := dk_54 7 (dk_at dksX1_spreads_2 3 rfl rfl)
theorem dX1_spreads_49 : decode cX1_spreads 49 = .ok (.iconst (-1), 1) := dk_2 (dk_at dksX1_spreads_2 5 rfl rfl)
theorem dX1_spreads_50 : decode cX1_spreads 50 = .ok (.istore 8, 2) := dk_54 8 (dk_at dksX1_spreads_2 6 rfl rfl)
theorem dX1_spreads_52 : decode cX1_spreads 52 = .ok (.iload 8, 2) := dk_21 8 (dk_at dksX1_spreads_2 8 rfl rfl)
theorem dX1_spreads_54 : decode cX1_spreads 54 = .ok (.aload_n 0, 1) := dk_42 (dk_at dksX1_spreads_2 10 rfl rfl)
theorem dX1_spreads_55 : decode cX1_spreads 55 = .ok (.getfield 12, 3) := dk_180 0 12 (dk_at dksX1_spreads_2 11 rfl rfl)
theorem dX1_spreads_58 : decode cX1_spreads 58 = .ok (.getfield 112, 3) := dk_180 0 112 (dk_at dksX1_spreads_2 14 rfl rfl)
theorem dX1_spreads_61 : decode cX1_spreads 61 = .ok (.invokevirtual 116, 3) := dk_182 0 116 (dk_at dksX1_spreads_2 17 rfl rfl)
theorem dX1_spreads_64 : decode cX1_spreads 64 = .ok (.if_icmp .ge 93, 3) := dk_162 0 93 (dk_at dksX1_spreads_2 20 rfl rfl)
theorem dX1_spreads_67 : decode cX1_spreads 67 = .ok (.aload_n 0, 1) := dk_42 (dk_at dksX1_spreads_2 23 rfl rfl)
theorem dX1_spreads_68 : decode cX1_spreads 68 = .ok (.getfield 12, 3) := dk_180 0 12 (dk_at dksX1_spreads_3 0 rfl rfl)
theorem dX1_spreads_71 : decode cX1_spreads 71 = .ok (.iload 6, 2) := dk_21 6 (dk_at dksX1_spreads_3 3 rfl rfl)
theorem dX1_spreads_73 : decode cX1_spreads 73 = .ok (.invokevirtual 299, 3) := dk_182 1 43 (dk_at dksX1_spreads_3 5 rfl rfl)
theorem dX1_spreads_76 : decode cX1_spreads 76 = .ok (.aload_n 0, 1) := dk_42 (dk_at dksX1_spreads_3 8 rfl rfl)
theorem dX1_spreads_77 : decode cX1_spreads 77 = .ok (.getfield 12, 3) := dk_180 0 12 (dk_at dksX1_spreads_3 9 rfl rfl)
theorem dX1_spreads_80 : decode cX1_spreads 80 = .ok (.iload 8, 2) := dk_21 8 (dk_at dksX1_spreads_3 12 rfl rfl)
theorem dX1_spreads_82 : decode cX1_spreads 82 = .ok (.invokevirtual 299, 3) := dk_182 1 43 (dk_at dksX1_spreads_3 14 rfl rfl)
theorem dX1_spreads_85 : decode cX1_spreads 85 = .ok (.invokeinterface 303 2, 5) := by decide +kernel
theorem dX1_spreads_90 : decode cX1_spreads 90 = .ok (.istore 9, 2) := dk_54 9 (dk_at dksX1_spreads_3 22 rfl rfl)
theorem dX1_spreads_92 : decode cX1_spreads 92 = .ok (.iload 8, 2) := dk_21 8 (dk_at dksX1_spreads_4 0 rfl rfl)
theorem dX1_spreads_94 : decode cX1_spreads 94 = .ok (.iload 6, 2) := dk_21 6 (dk_at dksX1_spreads_4 2 rfl rfl)
theorem dX1_spreads_96 : decode cX1_spreads 96 = .ok (.if_icmp .eq 55, 3) := dk_159 0 55 (dk_at dksX1_spreads_4 4 rfl rfl)
theorem dX1_spreads_99 : decode cX1_spreads 99 = .ok (.iload 9, 2) := dk_21 9 (dk_at dksX1_spreads_4 7 rfl rfl)
theorem dX1_spreads_101 : decode cX1_spreads 101 = .ok (.aload_n 0, 1) := dk_42 (dk_at dksX1_spreads_4 9 rfl rfl)
theorem dX1_spreads_102 : decode cX1_spreads 102 = .ok (.getfield 12, 3) := dk_180 0 12 (dk_at dksX1_spreads_4 10 rfl rfl)
theorem dX1_spreads_105 : decode cX1_spreads 105 = .ok (.getfield 146, 3) := dk_180 0 146 (dk_at dksX1_spreads_4 13 rfl rfl)
theorem dX1_spreads_108 : decode cX1_spreads 108 = .ok (.if_icmp .gt 43, 3) := dk_163 0 43 (dk_at dksX1_spreads_4 16 rfl rfl)
theorem dX1_spreads_111 : decode cX1_spreads 111 = .ok (.iload 9, 2) := dk_21 9 (dk_at dksX1_spreads_4 19 rfl rfl)
theorem dX1_spreads_113 : decode cX1_spreads 113 = .ok (.iload 4, 2) := dk_21 4 (dk_at dksX1_spreads_4 21 rfl rfl)
theorem dX1_spreads_115 : decode cX1_spreads 115 = .ok (.iadd, 1) := dk_96 (dk_at dksX1_spreads_4 23 rfl rfl)
theorem dX1_spreads_116 : decode cX1_spreads 116 = .ok (.iload 7, 2) := dk_21 7 (dk_at dksX1_spreads_5 0 rfl rfl)
theorem dX1_spreads_118 : decode cX1_spreads 118 = .ok (.if_icmp .gt 33, 3) := dk_163 0 33 (dk_at dksX1_spreads_5 2 rfl rfl)
theorem dX1_spreads_121 : decode cX1_spreads 121 = .ok (.aload_n 0, 1) := dk_42 (dk_at dksX1_spreads_5 5 rfl rfl)
theorem dX1_spreads_122 : decode cX1_spreads 122 = .ok (.getfield 12, 3) := dk_180 0 12 (dk_at dksX1_spreads_5 6 rfl rfl)
theorem dX1_spreads_125 : decode cX1_spreads 125 = .ok (.iload 8, 2) := dk_21 8 (dk_at dksX1_spreads_5 9 rfl rfl)
theorem dX1_spreads_127 : decode cX1_spreads 127 = .ok (.invokevirtual 309, 3) := dk_182 1 53 (dk_at dksX1_spreads_5 11 rfl rfl)
theorem dX1_spreads_130 : decode cX1_spreads 130 = .ok (.ifCond .eq 21, 3) := dk_153 0 21 (dk_at dksX1_spreads_5 14 rfl rfl)
theorem dX1_spreads_133 : decode cX1_spreads 133 = .ok (.aload_n 0, 1) := dk_42 (dk_at dksX1_spreads_5 17 rfl rfl)
theorem dX1_spreads_134 : decode cX1_spreads 134 = .ok (.aload_n 1, 1) := dk_43 (dk_at dksX1_spreads_5 18 rfl rfl)
theorem dX1_spreads_135 : decode cX1_spreads 135 = .ok (.iload 8, 2) := dk_21 8 (dk_at dksX1_spreads_5 19 rfl rfl)
theorem dX1_spreads_137 : decode cX1_spreads 137 = .ok (.iload 7, 2) := dk_21 7 (dk_at dksX1_spreads_5 21 rfl rfl)
theorem dX1_spreads_139 : decode cX1_spreads 139 = .ok (.iload 9, 2) := dk_21 9 (dk_at dksX1_spreads_6 0 rfl rfl)
theorem dX1_spreads_141 : decode cX1_spreads 141 = .ok (.isub, 1) := dk_100 (dk_at dksX1_spreads_6 2 rfl rfl)
theorem dX1_spreads_142 : decode cX1_spreads 142 = .ok (.iload 4, 2) := dk_21 4 (dk_at dksX1_spreads_6 3 rfl rfl)
theorem dX1_spreads_144 : decode cX1_spreads 144 = .ok (.isub, 1) := dk_100 (dk_at dksX1_spreads_6 5 rfl rfl)
theorem dX1_spreads_145 : decode cX1_spreads 145 = .ok (.invokestatic 312, 3) := dk_184 1 56 (dk_at dksX1_spreads_6 6 rfl rfl)
theorem dX1_spreads_148 : decode cX1_spreads 148 = .ok (.invokevirtual 315, 3) := dk_182 1 59 (dk_at dksX1_spreads_6 9 rfl rfl)
theorem dX1_spreads_151 : decode cX1_spreads 151 = .ok (.iinc 8 1, 3) := dk_132 8 1 (dk_at dksX1_spreads_6 12 rfl rfl)
theorem dX1_spreads_154 : decode cX1_spreads 154 = .ok (.goto (-102), 3) := dk_167 255 154 (dk_at dksX1_spreads_6 15 rfl rfl)
theorem dX1_spreads_157 : decode cX1_spreads 157 = .ok (.iinc 5 1, 3) := dk_132 5 1 (dk_at dksX1_spreads_6 18 rfl rfl)
theorem dX1_spreads_160 : decode cX1_spreads 160 = .ok (.goto (-144), 3) := dk_167 255 112 (dk_at dksX1_spreads_6 21 rfl rfl)
theorem dX1_spreads_163 : decode cX1_spreads 163 = .ok (.return_, 1) := dk_177 (dk_at dksX1_spreads_7 0 rfl rfl)
abbrev cX1_placeIn : ByteArray := prog_1_method_24_code
def yX1_placeIn : MethodName := ⟨RX1, "placeIn", "(I)I"⟩
def dkwX1_placeIn_0 : List UInt8 := [26, 16, 21, 108, 4, 100, 172]
abbrev dktX1_placeIn_0 : List UInt8 := dkwX1_placeIn_0 ++ []
theorem dksX1_placeIn_0 : cX1_placeIn.data.toList.drop 0 = dktX1_placeIn_0 := by decide +kernel
theorem dX1_placeIn_0 : decode cX1_placeIn 0 = .ok (.iload_n 0, 1) := dk_26 (dk_at dksX1_placeIn_0 0 rfl rfl)
theorem dX1_placeIn_1 : decode cX1_placeIn 1 = .ok (.bipush 21, 2) := dk_16 21 (dk_at dksX1_placeIn_0 1 rfl rfl)
theorem dX1_placeIn_3 : decode cX1_placeIn 3 = .ok (.idiv, 1) := dk_108 (dk_at dksX1_placeIn_0 3 rfl rfl)
theorem dX1_placeIn_4 : decode cX1_placeIn 4 = .ok (.iconst 1, 1) := dk_4 (dk_at dksX1_placeIn_0 4 rfl rfl)
theorem dX1_placeIn_5 : decode cX1_placeIn 5 = .ok (.isub, 1) := dk_100 (dk_at dksX1_placeIn_0 5 rfl rfl)
theorem dX1_placeIn_6 : decode cX1_placeIn 6 = .ok (.ireturn, 1) := dk_172 (dk_at dksX1_placeIn_0 6 rfl rfl)
abbrev cX1_gripIn : ByteArray := prog_1_method_25_code
def yX1_gripIn : MethodName := ⟨RX1, "gripIn", "(I)I"⟩
def dkwX1_gripIn_0 : List UInt8 := [26, 16, 21, 112, 172]
abbrev dktX1_gripIn_0 : List UInt8 := dkwX1_gripIn_0 ++ []
theorem dksX1_gripIn_0 : cX1_gripIn.data.toList.drop 0 = dktX1_gripIn_0 := by decide +kernel
theorem dX1_gripIn_0 : decode cX1_gripIn 0 = .ok (.iload_n 0, 1) := dk_26 (dk_at dksX1_gripIn_0 0 rfl rfl)
theorem dX1_gripIn_1 : decode cX1_gripIn 1 = .ok (.bipush 21, 2) := dk_16 21 (dk_at dksX1_gripIn_0 1 rfl rfl)
theorem dX1_gripIn_3 : decode cX1_gripIn 3 = .ok (.irem, 1) := dk_112 (dk_at dksX1_gripIn_0 3 rfl rfl)
theorem dX1_gripIn_4 : decode cX1_gripIn 4 = .ok (.ireturn, 1) := dk_172 (dk_at dksX1_gripIn_0 4 rfl rfl)
abbrev cX1_isReached : ByteArray := prog_1_method_28_code
def yX1_isReached : MethodName := ⟨RX1, "isReached", "(II)Z"⟩
def dkwX1_isReached_1 : List UInt8 := [172, 132, 3, 1, 167, 255, 230, 3, 172]
abbrev dktX1_isReached_1 : List UInt8 := dkwX1_isReached_1 ++ []
def dkwX1_isReached_0 : List UInt8 := [28, 62, 29, 42, 180, 1, 29, 162, 0, 24, 42, 180, 0, 23, 29, 46, 184, 1, 37, 27, 160, 0, 5, 4]
abbrev dktX1_isReached_0 : List UInt8 := dkwX1_isReached_0 ++ dktX1_isReached_1
theorem dksX1_isReached_0 : cX1_isReached.data.toList.drop 0 = dktX1_isReached_0 := by decide +kernel
theorem dksX1_isReached_1 : cX1_isReached.data.toList.drop 24 = dktX1_isReached_1 := dk_seg dksX1_isReached_0 24 rfl rfl
theorem dX1_isReached_0 : decode cX1_isReached 0 = .ok (.iload_n 2, 1) := dk_28 (dk_at dksX1_isReached_0 0 rfl rfl)
theorem dX1_isReached_1 : decode cX1_isReached 1 = .ok (.istore_n 3, 1) := dk_62 (dk_at dksX1_isReached_0 1 rfl rfl)
theorem dX1_isReached_2 : decode cX1_isReached 2 = .ok (.iload_n 3, 1) := dk_29 (dk_at dksX1_isReached_0 2 rfl rfl)
theorem dX1_isReached_3 : decode cX1_isReached 3 = .ok (.aload_n 0, 1) := dk_42 (dk_at dksX1_isReached_0 3 rfl rfl)
theorem dX1_isReached_4 : decode cX1_isReached 4 = .ok (.getfield 285, 3) := dk_180 1 29 (dk_at dksX1_isReached_0 4 rfl rfl)
theorem dX1_isReached_7 : decode cX1_isReached 7 = .ok (.if_icmp .ge 24, 3) := dk_162 0 24 (dk_at dksX1_isReached_0 7 rfl rfl)
theorem dX1_isReached_10 : decode cX1_isReached 10 = .ok (.aload_n 0, 1) := dk_42 (dk_at dksX1_isReached_0 10 rfl rfl)
theorem dX1_isReached_11 : decode cX1_isReached 11 = .ok (.getfield 23, 3) := dk_180 0 23 (dk_at dksX1_isReached_0 11 rfl rfl)
theorem dX1_isReached_14 : decode cX1_isReached 14 = .ok (.iload_n 3, 1) := dk_29 (dk_at dksX1_isReached_0 14 rfl rfl)
theorem dX1_isReached_15 : decode cX1_isReached 15 = .ok (.iaload, 1) := dk_46 (dk_at dksX1_isReached_0 15 rfl rfl)
theorem dX1_isReached_16 : decode cX1_isReached 16 = .ok (.invokestatic 293, 3) := dk_184 1 37 (dk_at dksX1_isReached_0 16 rfl rfl)
theorem dX1_isReached_19 : decode cX1_isReached 19 = .ok (.iload_n 1, 1) := dk_27 (dk_at dksX1_isReached_0 19 rfl rfl)
theorem dX1_isReached_20 : decode cX1_isReached 20 = .ok (.if_icmp .ne 5, 3) := dk_160 0 5 (dk_at dksX1_isReached_0 20 rfl rfl)
theorem dX1_isReached_23 : decode cX1_isReached 23 = .ok (.iconst 1, 1) := dk_4 (dk_at dksX1_isReached_0 23 rfl rfl)
theorem dX1_isReached_24 : decode cX1_isReached 24 = .ok (.ireturn, 1) := dk_172 (dk_at dksX1_isReached_1 0 rfl rfl)
theorem dX1_isReached_25 : decode cX1_isReached 25 = .ok (.iinc 3 1, 3) := dk_132 3 1 (dk_at dksX1_isReached_1 1 rfl rfl)
theorem dX1_isReached_28 : decode cX1_isReached 28 = .ok (.goto (-26), 3) := dk_167 255 230 (dk_at dksX1_isReached_1 4 rfl rfl)
theorem dX1_isReached_31 : decode cX1_isReached 31 = .ok (.iconst 0, 1) := dk_3 (dk_at dksX1_isReached_1 7 rfl rfl)
theorem dX1_isReached_32 : decode cX1_isReached 32 = .ok (.ireturn, 1) := dk_172 (dk_at dksX1_isReached_1 8 rfl rfl)
abbrev cX1_leastMoves : ByteArray := prog_1_method_30_code
def yX1_leastMoves : MethodName := ⟨RX1, "leastMoves", "(II)I"⟩
def dkwX1_leastMoves_11 : List UInt8 := [4, 167, 0, 4, 3, 184, 1, 66, 132, 5, 1, 167, 255, 63, 21, 5, 172]
abbrev dktX1_leastMoves_11 : List UInt8 := dkwX1_leastMoves_11 ++ []
def dkwX1_leastMoves_10 : List UInt8 := [25, 4, 182, 1, 93, 54, 7, 25, 4, 25, 6, 182, 1, 96, 25, 4, 182, 1, 93, 21, 7, 164, 0, 7]
abbrev dktX1_leastMoves_10 : List UInt8 := dkwX1_leastMoves_10 ++ dktX1_leastMoves_11
def dkwX1_leastMoves_9 : List UInt8 := [182, 1, 90, 132, 8, 1, 167, 255, 153, 25, 4, 21, 7, 4, 96, 182, 1, 87, 54, 7, 167, 255, 131]
abbrev dktX1_leastMoves_9 : List UInt8 := dkwX1_leastMoves_9 ++ dktX1_leastMoves_10
def dkwX1_leastMoves_8 : List UInt8 := [21, 9, 154, 0, 15, 25, 6, 21, 8, 4, 96, 182, 1, 21, 153, 0, 7, 4, 167, 0, 4, 3]
abbrev dktX1_leastMoves_8 : List UInt8 := dkwX1_leastMoves_8 ++ dktX1_leastMoves_9
def dkwX1_leastMoves_7 : List UInt8 := [180, 0, 12, 21, 8, 182, 1, 53, 153, 0, 7, 4, 167, 0, 4, 3, 54, 9, 25, 6, 21, 8, 4, 96]
abbrev dktX1_leastMoves_7 : List UInt8 := dkwX1_leastMoves_7 ++ dktX1_leastMoves_8
def dkwX1_leastMoves_6 : List UInt8 := [180, 0, 12, 21, 8, 182, 1, 43, 185, 1, 47, 2, 0, 42, 180, 0, 12, 180, 0, 146, 163, 0, 19, 42]
abbrev dktX1_leastMoves_6 : List UInt8 := dkwX1_leastMoves_6 ++ dktX1_leastMoves_7
def dkwX1_leastMoves_5 : List UInt8 := [180, 0, 12, 180, 0, 112, 182, 0, 116, 162, 0, 94, 42, 180, 0, 12, 21, 7, 4, 100, 182, 1, 43, 42]
abbrev dktX1_leastMoves_5 : List UInt8 := dkwX1_leastMoves_5 ++ dktX1_leastMoves_6
def dkwX1_leastMoves_4 : List UInt8 := [183, 1, 69, 58, 6, 25, 4, 3, 182, 1, 87, 54, 7, 21, 7, 155, 0, 126, 2, 54, 8, 21, 8, 42]
abbrev dktX1_leastMoves_4 : List UInt8 := dkwX1_leastMoves_4 ++ dktX1_leastMoves_5
def dkwX1_leastMoves_3 : List UInt8 := [182, 1, 25, 3, 54, 5, 25, 4, 28, 4, 96, 182, 1, 21, 154, 0, 188, 187, 1, 22, 89, 16, 21]
abbrev dktX1_leastMoves_3 : List UInt8 := dkwX1_leastMoves_3 ++ dktX1_leastMoves_4
def dkwX1_leastMoves_2 : List UInt8 := [184, 1, 66, 187, 1, 22, 89, 16, 21, 183, 1, 69, 58, 4, 25, 4, 45, 180, 0, 247, 4, 96]
abbrev dktX1_leastMoves_2 : List UInt8 := dkwX1_leastMoves_2 ++ dktX1_leastMoves_3
def dkwX1_leastMoves_1 : List UInt8 := [184, 0, 169, 42, 180, 0, 12, 27, 182, 0, 243, 78, 45, 182, 1, 63, 154, 0, 7, 4, 167, 0, 4, 3]
abbrev dktX1_leastMoves_1 : List UInt8 := dkwX1_leastMoves_1 ++ dktX1_leastMoves_2
def dkwX1_leastMoves_0 : List UInt8 := [27, 184, 0, 240, 153, 0, 18, 42, 180, 0, 12, 28, 182, 0, 209, 153, 0, 7, 4, 167, 0, 4, 3]
abbrev dktX1_leastMoves_0 : List UInt8 := dkwX1_leastMoves_0 ++ dktX1_leastMoves_1
theorem dksX1_leastMoves_0 : cX1_leastMoves.data.toList.drop 0 = dktX1_leastMoves_0 := by decide +kernel
theorem dksX1_leastMoves_1 : cX1_leastMoves.data.toList.drop 23 = dktX1_leastMoves_1 := dk_seg dksX1_leastMoves_0 23 rfl rfl
theorem dksX1_leastMoves_2 : cX1_leastMoves.data.toList.drop 47 = dktX1_leastMoves_2 := dk_seg dksX1_leastMoves_1 24 rfl rfl
theorem dksX1_leastMoves_3 : cX1_leastMoves.data.toList.drop 69 = dktX1_leastMoves_3 := dk_seg dksX1_leastMoves_2 22 rfl rfl
theorem dksX1_leastMoves_4 : cX1_leastMoves.data.toList.drop 92 = dktX1_leastMoves_4 := dk_seg dksX1_leastMoves_3 23 rfl rfl
theorem dksX1_leastMoves_5 : cX1_leastMoves.data.toList.drop 116 = dktX1_leastMoves_5 := dk_seg dksX1_leastMoves_4 24 rfl rfl
theorem dksX1_leastMoves_6 : cX1_leastMoves.data.toList.drop 140 = dktX1_leastMoves_6 := dk_seg dksX1_leastMoves_5 24 rfl rfl
theorem dksX1_leastMoves_7 : cX1_leastMoves.data.toList.drop 164 = dktX1_leastMoves_7 := dk_seg dksX1_leastMoves_6 24 rfl rfl
theorem dksX1_leastMoves_8 : cX1_leastMoves.data.toList.drop 188 = dktX1_leastMoves_8 := dk_seg dksX1_leastMoves_7 24 rfl rfl
theorem dksX1_leastMoves_9 : cX1_leastMoves.data.toList.drop 210 = dktX1_leastMoves_9 := dk_seg dksX1_leastMoves_8 22 rfl rfl
theorem dksX1_leastMoves_10 : cX1_leastMoves.data.toList.drop 233 = dktX1_leastMoves_10 := dk_seg dksX1_leastMoves_9 23 rfl rfl
theorem dksX1_leastMoves_11 : cX1_leastMoves.data.toList.drop 257 = dktX1_leastMoves_11 := dk_seg dksX1_leastMoves_10 24 rfl rfl
theorem dX1_leastMoves_0 : decode cX1_leastMoves 0 = .ok (.iload_n 1, 1) := dk_27 (dk_at dksX1_leastMoves_0 0 rfl rfl)
theorem dX1_leastMoves_1 : decode cX1_leastMoves 1 = .ok (.invokestatic 240, 3) := dk_184 0 240 (dk_at dksX1_leastMoves_0 1 rfl rfl)
theorem dX1_leastMoves_4 : decode cX1_leastMoves 4 = .ok (.ifCond .eq 18, 3) := dk_153 0 18 (dk_at dksX1_leastMoves_0 4 rfl rfl)
theorem dX1_leastMoves_7 : decode cX1_leastMoves 7 = .ok (.aload_n 0, 1) := dk_42 (dk_at dksX1_leastMoves_0 7 rfl rfl)
theorem dX1_leastMoves_8 : decode cX1_leastMoves 8 = .ok (.getfield 12, 3) := dk_180 0 12 (dk_at dksX1_leastMoves_0 8 rfl rfl)
theorem dX1_leastMoves_11 : decode cX1_leastMoves 11 = .ok (.iload_n 2, 1) := dk_28 (dk_at dksX1_leastMoves_0 11 rfl rfl)
theorem dX1_leastMoves_12 : decode cX1_leastMoves 12 = .ok (.invokevirtual 209, 3) := dk_182 0 209 (dk_at dksX1_leastMoves_0 12 rfl rfl)
theorem dX1_leastMoves_15 : decode cX1_leastMoves 15 = .ok (.ifCond .eq 7, 3) := dk_153 0 7 (dk_at dksX1_leastMoves_0 15 rfl rfl)
theorem dX1_leastMoves_18 : decode cX1_leastMoves 18 = .ok (.iconst 1, 1) := dk_4 (dk_at dksX1_leastMoves_0 18 rfl rfl)
theorem dX1_leastMoves_19 : decode cX1_leastMoves 19 = .ok (.goto 4, 3) := dk_167 0 4 (dk_at dksX1_leastMoves_0 19 rfl rfl)
theorem dX1_leastMoves_22 : decode cX1_leastMoves 22 = .ok (.iconst 0, 1) := dk_3 (dk_at dksX1_leastMoves_0 22 rfl rfl)
theorem dX1_leastMoves_23 : decode cX1_leastMoves 23 = .ok (.invokestatic 169, 3) := dk_184 0 169 (dk_at dksX1_leastMoves_1 0 rfl rfl)
theorem dX1_leastMoves_26 : decode cX1_leastMoves 26 = .ok (.aload_n 0, 1) := dk_42 (dk_at dksX1_leastMoves_1 3 rfl rfl)
theorem dX1_leastMoves_27 : decode cX1_leastMoves 27 = .ok (.getfield 12, 3) := dk_180 0 12 (dk_at dksX1_leastMoves_1 4 rfl rfl)
theorem dX1_leastMoves_30 : decode cX1_leastMoves 30 = .ok (.iload_n 1, 1) := dk_27 (dk_at dksX1_leastMoves_1 7 rfl rfl)
theorem dX1_leastMoves_31 : decode cX1_leastMoves 31 = .ok (.invokevirtual 243, 3) := dk_182 0 243 (dk_at dksX1_leastMoves_1 8 rfl rfl)
theorem dX1_leastMoves_34 : decode cX1_leastMoves 34 = .ok (.astore_n 3, 1) := dk_78 (dk_at dksX1_leastMoves_1 11 rfl rfl)
theorem dX1_leastMoves_35 : decode cX1_leastMoves 35 = .ok (.aload_n 3, 1) := dk_45 (dk_at dksX1_leastMoves_1 12 rfl rfl)
theorem dX1_leastMoves_36 : decode cX1_leastMoves 36 = .ok (.invokevirtual 319, 3) := dk_182 1 63 (dk_at dksX1_leastMoves_1 13 rfl rfl)
theorem dX1_leastMoves_39 : decode cX1_leastMoves 39 = .ok (.ifCond .ne 7, 3) := dk_154 0 7 (dk_at dksX1_leastMoves_1 16 rfl rfl)
theorem dX1_leastMoves_42 : decode cX1_leastMoves 42 = .ok (.iconst 1, 1) := dk_4 (dk_at dksX1_leastMoves_1 19 rfl rfl)
theorem dX1_leastMoves_43 : decode cX1_leastMoves 43 = .ok (.goto 4, 3) := dk_167 0 4 (dk_at dksX1_leastMoves_1 20 rfl rfl)
theorem dX1_leastMoves_46 : decode cX1_leastMoves 46 = .ok (.iconst 0, 1) := dk_3 (dk_at dksX1_leastMoves_1 23 rfl rfl)
theorem dX1_leastMoves_47 : decode cX1_leastMoves 47 = .ok (.invokestatic 322, 3) := dk_184 1 66 (dk_at dksX1_leastMoves_2 0 rfl rfl)
theorem dX1_leastMoves_50 : decode cX1_leastMoves 50 = .ok (.new 278, 3) := dk_187 1 22 (dk_at dksX1_leastMoves_2 3 rfl rfl)
theorem dX1_leastMoves_53 : decode cX1_leastMoves 53 = .ok (.dup, 1) := dk_89 (dk_at dksX1_leastMoves_2 6 rfl rfl)
theorem dX1_leastMoves_54 : decode cX1_leastMoves 54 = .ok (.bipush 21, 2) := dk_16 21 (dk_at dksX1_leastMoves_2 7 rfl rfl)
theorem dX1_leastMoves_56 : decode cX1_leastMoves 56 = .ok (.invokespecial 325, 3) := dk_183 1 69 (dk_at dksX1_leastMoves_2 9 rfl rfl)
theorem dX1_leastMoves_59 : decode cX1_leastMoves 59 = .ok (.astore 4, 2) := dk_58 4 (dk_at dksX1_leastMoves_2 12 rfl rfl)
theorem dX1_leastMoves_61 : decode cX1_leastMoves 61 = .ok (.aload 4, 2) := dk_25 4 (dk_at dksX1_leastMoves_2 14 rfl rfl)
theorem dX1_leastMoves_63 : decode cX1_leastMoves 63 = .ok (.aload_n 3, 1) := dk_45 (dk_at dksX1_leastMoves_2 16 rfl rfl)
theorem dX1_leastMoves_64 : decode cX1_leastMoves 64 = .ok (.getfield 247, 3) := dk_180 0 247 (dk_at dksX1_leastMoves_2 17 rfl rfl)
theorem dX1_leastMoves_67 : decode cX1_leastMoves 67 = .ok (.iconst 1, 1) := dk_4 (dk_at dksX1_leastMoves_2 20 rfl rfl)
theorem dX1_leastMoves_68 : decode cX1_leastMoves 68 = .ok (.iadd, 1) := dk_96 (dk_at dksX1_leastMoves_2 21 rfl rfl)
theorem dX1_leastMoves_69 : decode cX1_leastMoves 69 = .ok (.invokevirtual 281, 3) := dk_182 1 25 (dk_at dksX1_leastMoves_3 0 rfl rfl)
theorem dX1_leastMoves_72 : decode cX1_leastMoves 72 = .ok (.iconst 0, 1) := dk_3 (dk_at dksX1_leastMoves_3 3 rfl rfl)
theorem dX1_leastMoves_73 : decode cX1_leastMoves 73 = .ok (.istore 5, 2) := dk_54 5 (dk_at dksX1_leastMoves_3 4 rfl rfl)
theorem dX1_leastMoves_75 : decode cX1_leastMoves 75 = .ok (.aload 4, 2) := dk_25 4 (dk_at dksX1_leastMoves_3 6 rfl rfl)
theorem dX1_leastMoves_77 : decode cX1_leastMoves 77 = .ok (.iload_n 2, 1) := dk_28 (dk_at dksX1_leastMoves_3 8 rfl rfl)
theorem dX1_leastMoves_78 : decode cX1_leastMoves 78 = .ok (.iconst 1, 1) := dk_4 (dk_at dksX1_leastMoves_3 9 rfl rfl)
theorem dX1_leastMoves_79 : decode cX1_leastMoves 79 = .ok (.iadd, 1) := dk_96 (dk_at dksX1_leastMoves_3 10 rfl rfl)
theorem dX1_leastMoves_80 : decode cX1_leastMoves 80 = .ok (.invokevirtual 277, 3) := dk_182 1 21 (dk_at dksX1_leastMoves_3 11 rfl rfl)
theorem dX1_leastMoves_83 : decode cX1_leastMoves 83 = .ok (.ifCond .ne 188, 3) := dk_154 0 188 (dk_at dksX1_leastMoves_3 14 rfl rfl)
theorem dX1_leastMoves_86 : decode cX1_leastMoves 86 = .ok (.new 278, 3) := dk_187 1 22 (dk_at dksX1_leastMoves_3 17 rfl rfl)
theorem dX1_leastMoves_89 : decode cX1_leastMoves 89 = .ok (.dup, 1) := dk_89 (dk_at dksX1_leastMoves_3 20 rfl rfl)
theorem dX1_leastMoves_90 : decode cX1_leastMoves 90 = .ok (.bipush 21, 2) := dk_16 21 (dk_at dksX1_leastMoves_3 21 rfl rfl)
theorem dX1_leastMoves_92 : decode cX1_leastMoves 92 = .ok (.invokespecial 325, 3) := dk_183 1 69 (dk_at dksX1_leastMoves_4 0 rfl rfl)
theorem dX1_leastMoves_95 : decode cX1_leastMoves 95 = .ok (.astore 6, 2) := dk_58 6 (dk_at dksX1_leastMoves_4 3 rfl rfl)
theorem dX1_leastMoves_97 : decode cX1_leastMoves 97 = .ok (.aload 4, 2) := dk_25 4 (dk_at dksX1_leastMoves_4 5 rfl rfl)
theorem dX1_leastMoves_99 : decode cX1_leastMoves 99 = .ok (.iconst 0, 1) := dk_3 (dk_at dksX1_leastMoves_4 7 rfl rfl)
theorem dX1_leastMoves_100 : decode cX1_leastMoves 100 = .ok (.invokevirtual 343, 3) := dk_182 1 87 (dk_at dksX1_leastMoves_4 8 rfl rfl)
theorem dX1_leastMoves_103 : decode cX1_leastMoves 103 = .ok (.istore 7, 2) := dk_54 7 (dk_at dksX1_leastMoves_4 11 rfl rfl)
theorem dX1_leastMoves_105 : decode cX1_leastMoves 105 = .ok (.iload 7, 2) := dk_21 7 (dk_at dksX1_leastMoves_4 13 rfl rfl)
theorem dX1_leastMoves_107 : decode cX1_leastMoves 107 = .ok (.ifCond .lt 126, 3) := dk_155 0 126 (dk_at dksX1_leastMoves_4 15 rfl rfl)
theorem dX1_leastMoves_110 : decode cX1_leastMoves 110 = .ok (.iconst (-1), 1) := dk_2 (dk_at dksX1_leastMoves_4 18 rfl rfl)
theorem dX1_leastMoves_111 : decode cX1_leastMoves 111 = .ok (.istore 8, 2) := dk_54 8 (dk_at dksX1_leastMoves_4 19 rfl rfl)
theorem dX1_leastMoves_113 : decode cX1_leastMoves 113 = .ok (.iload 8, 2) := dk_21 8 (dk_at dksX1_leastMoves_4 21 rfl rfl)
theorem dX1_leastMoves_115 : decode cX1_leastMoves 115 = .ok (.aload_n 0, 1) := dk_42 (dk_at dksX1_leastMoves_4 23 rfl rfl)
theorem dX1_leastMoves_116 : decode cX1_leastMoves 116 = .ok (.getfield 12, 3) := dk_180 0 12 (dk_at dksX1_leastMoves_5 0 rfl rfl)
theorem dX1_leastMoves_119 : decode cX1_leastMoves 119 = .ok (.getfield 112, 3) := dk_180 0 112 (dk_at dksX1_leastMoves_5 3 rfl rfl)
theorem dX1_leastMoves_122 : decode cX1_leastMoves 122 = .ok (.invokevirtual 116, 3) := dk_182 0 116 (dk_at dksX1_leastMoves_5 6 rfl rfl)
theorem dX1_leastMoves_125 : decode cX1_leastMoves 125 = .ok (.if_icmp .ge 94, 3) := dk_162 0 94 (dk_at dksX1_leastMoves_5 9 rfl rfl)
theorem dX1_leastMoves_128 : decode cX1_leastMoves 128 = .ok (.aload_n 0, 1) := dk_42 (dk_at dksX1_leastMoves_5 12 rfl rfl)
theorem dX1_leastMoves_129 : decode cX1_leastMoves 129 = .ok (.getfield 12, 3) := dk_180 0 12 (dk_at dksX1_leastMoves_5 13 rfl rfl)
theorem dX1_leastMoves_132 : decode cX1_leastMoves 132 = .ok (.iload 7, 2) := dk_21 7 (dk_at dksX1_leastMoves_5 16 rfl rfl)
theorem dX1_leastMoves_134 : decode cX1_leastMoves 134 = .ok (.iconst 1, 1) := dk_4 (dk_at dksX1_leastMoves_5 18 rfl rfl)
theorem dX1_leastMoves_135 : decode cX1_leastMoves 135 = .ok (.isub, 1) := dk_100 (dk_at dksX1_leastMoves_5 19 rfl rfl)
theorem dX1_leastMoves_136 : decode cX1_leastMoves 136 = .ok (.invokevirtual 299, 3) := dk_182 1 43 (dk_at dksX1_leastMoves_5 20 rfl rfl)
theorem dX1_leastMoves_139 : decode cX1_leastMoves 139 = .ok (.aload_n 0, 1) := dk_42 (dk_at dksX1_leastMoves_5 23 rfl rfl)
theorem dX1_leastMoves_140 : decode cX1_leastMoves 140 = .ok (.getfield 12, 3) := dk_180 0 12 (dk_at dksX1_leastMoves_6 0 rfl rfl)
theorem dX1_leastMoves_143 : decode cX1_leastMoves 143 = .ok (.iload 8, 2) := dk_21 8 (dk_at dksX1_leastMoves_6 3 rfl rfl)
theorem dX1_leastMoves_145 : decode cX1_leastMoves 145 = .ok (.invokevirtual 299, 3) := dk_182 1 43 (dk_at dksX1_leastMoves_6 5 rfl rfl)
theorem dX1_leastMoves_148 : decode cX1_leastMoves 148 = .ok (.invokeinterface 303 2, 5) := by decide +kernel
theorem dX1_leastMoves_153 : decode cX1_leastMoves 153 = .ok (.aload_n 0, 1) := dk_42 (dk_at dksX1_leastMoves_6 13 rfl rfl)
theorem dX1_leastMoves_154 : decode cX1_leastMoves 154 = .ok (.getfield 12, 3) := dk_180 0 12 (dk_at dksX1_leastMoves_6 14 rfl rfl)
theorem dX1_leastMoves_157 : decode cX1_leastMoves 157 = .ok (.getfield 146, 3) := dk_180 0 146 (dk_at dksX1_leastMoves_6 17 rfl rfl)
theorem dX1_leastMoves_160 : decode cX1_leastMoves 160 = .ok (.if_icmp .gt 19, 3) := dk_163 0 19 (dk_at dksX1_leastMoves_6 20 rfl rfl)
theorem dX1_leastMoves_163 : decode cX1_leastMoves 163 = .ok (.aload_n 0, 1) := dk_42 (dk_at dksX1_leastMoves_6 23 rfl rfl)
theorem dX1_leastMoves_164 : decode cX1_leastMoves 164 = .ok (.getfield 12, 3) := dk_180 0 12 (dk_at dksX1_leastMoves_7 0 rfl rfl)
theorem dX1_leastMoves_167 : decode cX1_leastMoves 167 = .ok (.iload 8, 2) := dk_21 8 (dk_at dksX1_leastMoves_7 3 rfl rfl)
theorem dX1_leastMoves_169 : decode cX1_leastMoves 169 = .ok (.invokevirtual 309, 3) := dk_182 1 53 (dk_at dksX1_leastMoves_7 5 rfl rfl)
theorem dX1_leastMoves_172 : decode cX1_leastMoves 172 = .ok (.ifCond .eq 7, 3) := dk_153 0 7 (dk_at dksX1_leastMoves_7 8 rfl rfl)
theorem dX1_leastMoves_175 : decode cX1_leastMoves 175 = .ok (.iconst 1, 1) := dk_4 (dk_at dksX1_leastMoves_7 11 rfl rfl)
theorem dX1_leastMoves_176 : decode cX1_leastMoves 176 = .ok (.goto 4, 3) := dk_167 0 4 (dk_at dksX1_leastMoves_7 12 rfl rfl)
theorem dX1_leastMoves_179 : decode cX1_leastMoves 179 = .ok (.iconst 0, 1) := dk_3 (dk_at dksX1_leastMoves_7 15 rfl rfl)
theorem dX1_leastMoves_180 : decode cX1_leastMoves 180 = .ok (.istore 9, 2) := dk_54 9 (dk_at dksX1_leastMoves_7 16 rfl rfl)
theorem dX1_leastMoves_182 : decode cX1_leastMoves 182 = .ok (.aload 6, 2) := dk_25 6 (dk_at dksX1_leastMoves_7 18 rfl rfl)
theorem dX1_leastMoves_184 : decode cX1_leastMoves 184 = .ok (.iload 8, 2) := dk_21 8 (dk_at dksX1_leastMoves_7 20 rfl rfl)
theorem dX1_leastMoves_186 : decode cX1_leastMoves 186 = .ok (.iconst 1, 1) := dk_4 (dk_at dksX1_leastMoves_7 22 rfl rfl)
theorem dX1_leastMoves_187 : decode cX1_leastMoves 187 = .ok (.iadd, 1) := dk_96 (dk_at dksX1_leastMoves_7 23 rfl rfl)
theorem dX1_leastMoves_188 : decode cX1_leastMoves 188 = .ok (.iload 9, 2) := dk_21 9 (dk_at dksX1_leastMoves_8 0 rfl rfl)
theorem dX1_leastMoves_190 : decode cX1_leastMoves 190 = .ok (.ifCond .ne 15, 3) := dk_154 0 15 (dk_at dksX1_leastMoves_8 2 rfl rfl)
theorem dX1_leastMoves_193 : decode cX1_leastMoves 193 = .ok (.aload 6, 2) := dk_25 6 (dk_at dksX1_leastMoves_8 5 rfl rfl)
theorem dX1_leastMoves_195 : decode cX1_leastMoves 195 = .ok (.iload 8, 2) := dk_21 8 (dk_at dksX1_leastMoves_8 7 rfl rfl)
theorem dX1_leastMoves_197 : decode cX1_leastMoves 197 = .ok (.iconst 1, 1) := dk_4 (dk_at dksX1_leastMoves_8 9 rfl rfl)
theorem dX1_leastMoves_198 : decode cX1_leastMoves 198 = .ok (.iadd, 1) := dk_96 (dk_at dksX1_leastMoves_8 10 rfl rfl)
theorem dX1_leastMoves_199 : decode cX1_leastMoves 199 = .ok (.invokevirtual 277, 3) := dk_182 1 21 (dk_at dksX1_leastMoves_8 11 rfl rfl)
theorem dX1_leastMoves_202 : decode cX1_leastMoves 202 = .ok (.ifCond .eq 7, 3) := dk_153 0 7 (dk_at dksX1_leastMoves_8 14 rfl rfl)
theorem dX1_leastMoves_205 : decode cX1_leastMoves 205 = .ok (.iconst 1, 1) := dk_4 (dk_at dksX1_leastMoves_8 17 rfl rfl)
theorem dX1_leastMoves_206 : decode cX1_leastMoves 206 = .ok (.goto 4, 3) := dk_167 0 4 (dk_at dksX1_leastMoves_8 18 rfl rfl)
theorem dX1_leastMoves_209 : decode cX1_leastMoves 209 = .ok (.iconst 0, 1) := dk_3 (dk_at dksX1_leastMoves_8 21 rfl rfl)
theorem dX1_leastMoves_210 : decode cX1_leastMoves 210 = .ok (.invokevirtual 346, 3) := dk_182 1 90 (dk_at dksX1_leastMoves_9 0 rfl rfl)
theorem dX1_leastMoves_213 : decode cX1_leastMoves 213 = .ok (.iinc 8 1, 3) := dk_132 8 1 (dk_at dksX1_leastMoves_9 3 rfl rfl)
theorem dX1_leastMoves_216 : decode cX1_leastMoves 216 = .ok (.goto (-103), 3) := dk_167 255 153 (dk_at dksX1_leastMoves_9 6 rfl rfl)
theorem dX1_leastMoves_219 : decode cX1_leastMoves 219 = .ok (.aload 4, 2) := dk_25 4 (dk_at dksX1_leastMoves_9 9 rfl rfl)
theorem dX1_leastMoves_221 : decode cX1_leastMoves 221 = .ok (.iload 7, 2) := dk_21 7 (dk_at dksX1_leastMoves_9 11 rfl rfl)
theorem dX1_leastMoves_223 : decode cX1_leastMoves 223 = .ok (.iconst 1, 1) := dk_4 (dk_at dksX1_leastMoves_9 13 rfl rfl)
theorem dX1_leastMoves_224 : decode cX1_leastMoves 224 = .ok (.iadd, 1) := dk_96 (dk_at dksX1_leastMoves_9 14 rfl rfl)
theorem dX1_leastMoves_225 : decode cX1_leastMoves 225 = .ok (.invokevirtual 343, 3) := dk_182 1 87 (dk_at dksX1_leastMoves_9 15 rfl rfl)
theorem dX1_leastMoves_228 : decode cX1_leastMoves 228 = .ok (.istore 7, 2) := dk_54 7 (dk_at dksX1_leastMoves_9 18 rfl rfl)
theorem dX1_leastMoves_230 : decode cX1_leastMoves 230 = .ok (.goto (-125), 3) := dk_167 255 131 (dk_at dksX1_leastMoves_9 20 rfl rfl)
theorem dX1_leastMoves_233 : decode cX1_leastMoves 233 = .ok (.aload 4, 2) := dk_25 4 (dk_at dksX1_leastMoves_10 0 rfl rfl)
theorem dX1_leastMoves_235 : decode cX1_leastMoves 235 = .ok (.invokevirtual 349, 3) := dk_182 1 93 (dk_at dksX1_leastMoves_10 2 rfl rfl)
theorem dX1_leastMoves_238 : decode cX1_leastMoves 238 = .ok (.istore 7, 2) := dk_54 7 (dk_at dksX1_leastMoves_10 5 rfl rfl)
theorem dX1_leastMoves_240 : decode cX1_leastMoves 240 = .ok (.aload 4, 2) := dk_25 4 (dk_at dksX1_leastMoves_10 7 rfl rfl)
theorem dX1_leastMoves_242 : decode cX1_leastMoves 242 = .ok (.aload 6, 2) := dk_25 6 (dk_at dksX1_leastMoves_10 9 rfl rfl)
theorem dX1_leastMoves_244 : decode cX1_leastMoves 244 = .ok (.invokevirtual 352, 3) := dk_182 1 96 (dk_at dksX1_leastMoves_10 11 rfl rfl)
theorem dX1_leastMoves_247 : decode cX1_leastMoves 247 = .ok (.aload 4, 2) := dk_25 4 (dk_at dksX1_leastMoves_10 14 rfl rfl)
theorem dX1_leastMoves_249 : decode cX1_leastMoves 249 = .ok (.invokevirtual 349, 3) := dk_182 1 93 (dk_at dksX1_leastMoves_10 16 rfl rfl)
theorem dX1_leastMoves_252 : decode cX1_leastMoves 252 = .ok (.iload 7, 2) := dk_21 7 (dk_at dksX1_leastMoves_10 19 rfl rfl)
theorem dX1_leastMoves_254 : decode cX1_leastMoves 254 = .ok (.if_icmp .le 7, 3) := dk_164 0 7 (dk_at dksX1_leastMoves_10 21 rfl rfl)
theorem dX1_leastMoves_257 : decode cX1_leastMoves 257 = .ok (.iconst 1, 1) := dk_4 (dk_at dksX1_leastMoves_11 0 rfl rfl)
theorem dX1_leastMoves_258 : decode cX1_leastMoves 258 = .ok (.goto 4, 3) := dk_167 0 4 (dk_at dksX1_leastMoves_11 1 rfl rfl)
theorem dX1_leastMoves_261 : decode cX1_leastMoves 261 = .ok (.iconst 0, 1) := dk_3 (dk_at dksX1_leastMoves_11 4 rfl rfl)
theorem dX1_leastMoves_262 : decode cX1_leastMoves 262 = .ok (.invokestatic 322, 3) := dk_184 1 66 (dk_at dksX1_leastMoves_11 5 rfl rfl)
theorem dX1_leastMoves_265 : decode cX1_leastMoves 265 = .ok (.iinc 5 1, 3) := dk_132 5 1 (dk_at dksX1_leastMoves_11 8 rfl rfl)
theorem dX1_leastMoves_268 : decode cX1_leastMoves 268 = .ok (.goto (-193), 3) := dk_167 255 63 (dk_at dksX1_leastMoves_11 11 rfl rfl)
theorem dX1_leastMoves_271 : decode cX1_leastMoves 271 = .ok (.iload 5, 2) := dk_21 5 (dk_at dksX1_leastMoves_11 14 rfl rfl)
theorem dX1_leastMoves_273 : decode cX1_leastMoves 273 = .ok (.ireturn, 1) := dk_172 (dk_at dksX1_leastMoves_11 16 rfl rfl)
abbrev cX1_clip : ByteArray := prog_1_method_31_code
def yX1_clip : MethodName := ⟨RX1, "clip", "()I"⟩
def dkwX1_clip_1 : List UInt8 := [182, 0, 126, 191]
abbrev dktX1_clip_1 : List UInt8 := dkwX1_clip_1 ++ []
def dkwX1_clip_0 : List UInt8 := [42, 180, 0, 12, 182, 0, 130, 76, 42, 43, 42, 180, 0, 12, 182, 1, 100, 182, 0, 142, 172, 77, 42, 44]
abbrev dktX1_clip_0 : List UInt8 := dkwX1_clip_0 ++ dktX1_clip_1
theorem dksX1_clip_0 : cX1_clip.data.toList.drop 0 = dktX1_clip_0 := by decide +kernel
theorem dksX1_clip_1 : cX1_clip.data.toList.drop 24 = dktX1_clip_1 := dk_seg dksX1_clip_0 24 rfl rfl
theorem dX1_clip_0 : decode cX1_clip 0 = .ok (.aload_n 0, 1) := dk_42 (dk_at dksX1_clip_0 0 rfl rfl)
theorem dX1_clip_1 : decode cX1_clip 1 = .ok (.getfield 12, 3) := dk_180 0 12 (dk_at dksX1_clip_0 1 rfl rfl)
theorem dX1_clip_4 : decode cX1_clip 4 = .ok (.invokevirtual 130, 3) := dk_182 0 130 (dk_at dksX1_clip_0 4 rfl rfl)
theorem dX1_clip_7 : decode cX1_clip 7 = .ok (.astore_n 1, 1) := dk_76 (dk_at dksX1_clip_0 7 rfl rfl)
theorem dX1_clip_8 : decode cX1_clip 8 = .ok (.aload_n 0, 1) := dk_42 (dk_at dksX1_clip_0 8 rfl rfl)
theorem dX1_clip_9 : decode cX1_clip 9 = .ok (.aload_n 1, 1) := dk_43 (dk_at dksX1_clip_0 9 rfl rfl)
theorem dX1_clip_10 : decode cX1_clip 10 = .ok (.aload_n 0, 1) := dk_42 (dk_at dksX1_clip_0 10 rfl rfl)
theorem dX1_clip_11 : decode cX1_clip 11 = .ok (.getfield 12, 3) := dk_180 0 12 (dk_at dksX1_clip_0 11 rfl rfl)
theorem dX1_clip_14 : decode cX1_clip 14 = .ok (.invokevirtual 356, 3) := dk_182 1 100 (dk_at dksX1_clip_0 14 rfl rfl)
theorem dX1_clip_17 : decode cX1_clip 17 = .ok (.invokevirtual 142, 3) := dk_182 0 142 (dk_at dksX1_clip_0 17 rfl rfl)
theorem dX1_clip_20 : decode cX1_clip 20 = .ok (.ireturn, 1) := dk_172 (dk_at dksX1_clip_0 20 rfl rfl)
theorem dX1_clip_21 : decode cX1_clip 21 = .ok (.astore_n 2, 1) := dk_77 (dk_at dksX1_clip_0 21 rfl rfl)
theorem dX1_clip_22 : decode cX1_clip 22 = .ok (.aload_n 0, 1) := dk_42 (dk_at dksX1_clip_0 22 rfl rfl)
theorem dX1_clip_23 : decode cX1_clip 23 = .ok (.aload_n 2, 1) := dk_44 (dk_at dksX1_clip_0 23 rfl rfl)
theorem dX1_clip_24 : decode cX1_clip 24 = .ok (.invokevirtual 126, 3) := dk_182 0 126 (dk_at dksX1_clip_1 0 rfl rfl)
theorem dX1_clip_27 : decode cX1_clip 27 = .ok (.athrow, 1) := dk_191 (dk_at dksX1_clip_1 3 rfl rfl)
abbrev cX1_unclip : ByteArray := prog_1_method_32_code
def yX1_unclip : MethodName := ⟨RX1, "unclip", "()I"⟩
def dkwX1_unclip_1 : List UInt8 := [182, 0, 126, 191]
abbrev dktX1_unclip_1 : List UInt8 := dkwX1_unclip_1 ++ []
def dkwX1_unclip_0 : List UInt8 := [42, 180, 0, 12, 182, 0, 130, 76, 42, 43, 42, 180, 0, 12, 182, 1, 103, 182, 0, 142, 172, 77, 42, 44]
abbrev dktX1_unclip_0 : List UInt8 := dkwX1_unclip_0 ++ dktX1_unclip_1
theorem dksX1_unclip_0 : cX1_unclip.data.toList.drop 0 = dktX1_unclip_0 := by decide +kernel
theorem dksX1_unclip_1 : cX1_unclip.data.toList.drop 24 = dktX1_unclip_1 := dk_seg dksX1_unclip_0 24 rfl rfl
theorem dX1_unclip_0 : decode cX1_unclip 0 = .ok (.aload_n 0, 1) := dk_42 (dk_at dksX1_unclip_0 0 rfl rfl)
theorem dX1_unclip_1 : decode cX1_unclip 1 = .ok (.getfield 12, 3) := dk_180 0 12 (dk_at dksX1_unclip_0 1 rfl rfl)
theorem dX1_unclip_4 : decode cX1_unclip 4 = .ok (.invokevirtual 130, 3) := dk_182 0 130 (dk_at dksX1_unclip_0 4 rfl rfl)
theorem dX1_unclip_7 : decode cX1_unclip 7 = .ok (.astore_n 1, 1) := dk_76 (dk_at dksX1_unclip_0 7 rfl rfl)
theorem dX1_unclip_8 : decode cX1_unclip 8 = .ok (.aload_n 0, 1) := dk_42 (dk_at dksX1_unclip_0 8 rfl rfl)
theorem dX1_unclip_9 : decode cX1_unclip 9 = .ok (.aload_n 1, 1) := dk_43 (dk_at dksX1_unclip_0 9 rfl rfl)
theorem dX1_unclip_10 : decode cX1_unclip 10 = .ok (.aload_n 0, 1) := dk_42 (dk_at dksX1_unclip_0 10 rfl rfl)
theorem dX1_unclip_11 : decode cX1_unclip 11 = .ok (.getfield 12, 3) := dk_180 0 12 (dk_at dksX1_unclip_0 11 rfl rfl)
theorem dX1_unclip_14 : decode cX1_unclip 14 = .ok (.invokevirtual 359, 3) := dk_182 1 103 (dk_at dksX1_unclip_0 14 rfl rfl)
theorem dX1_unclip_17 : decode cX1_unclip 17 = .ok (.invokevirtual 142, 3) := dk_182 0 142 (dk_at dksX1_unclip_0 17 rfl rfl)
theorem dX1_unclip_20 : decode cX1_unclip 20 = .ok (.ireturn, 1) := dk_172 (dk_at dksX1_unclip_0 20 rfl rfl)
theorem dX1_unclip_21 : decode cX1_unclip 21 = .ok (.astore_n 2, 1) := dk_77 (dk_at dksX1_unclip_0 21 rfl rfl)
theorem dX1_unclip_22 : decode cX1_unclip 22 = .ok (.aload_n 0, 1) := dk_42 (dk_at dksX1_unclip_0 22 rfl rfl)
theorem dX1_unclip_23 : decode cX1_unclip 23 = .ok (.aload_n 2, 1) := dk_44 (dk_at dksX1_unclip_0 23 rfl rfl)
theorem dX1_unclip_24 : decode cX1_unclip 24 = .ok (.invokevirtual 126, 3) := dk_182 0 126 (dk_at dksX1_unclip_1 0 rfl rfl)
theorem dX1_unclip_27 : decode cX1_unclip 27 = .ok (.athrow, 1) := dk_191 (dk_at dksX1_unclip_1 3 rfl rfl)
abbrev cX1_anchor : ByteArray := prog_1_method_34_code
def yX1_anchor : MethodName := ⟨RX1, "anchor", "(I)I"⟩
def dkwX1_anchor_1 : List UInt8 := [180, 1, 106, 27, 182, 1, 113, 192, 1, 33, 182, 1, 114, 172]
abbrev dktX1_anchor_1 : List UInt8 := dkwX1_anchor_1 ++ []
def dkwX1_anchor_0 : List UInt8 := [27, 3, 42, 180, 0, 12, 180, 1, 106, 182, 1, 110, 4, 100, 184, 0, 104, 184, 1, 66, 42, 180, 0, 12]
abbrev dktX1_anchor_0 : List UInt8 := dkwX1_anchor_0 ++ dktX1_anchor_1
theorem dksX1_anchor_0 : cX1_anchor.data.toList.drop 0 = dktX1_anchor_0 := by decide +kernel
theorem dksX1_anchor_1 : cX1_anchor.data.toList.drop 24 = dktX1_anchor_1 := dk_seg dksX1_anchor_0 24 rfl rfl
theorem dX1_anchor_0 : decode cX1_anchor 0 = .ok (.iload_n 1, 1) := dk_27 (dk_at dksX1_anchor_0 0 rfl rfl)
theorem dX1_anchor_1 : decode cX1_anchor 1 = .ok (.iconst 0, 1) := dk_3 (dk_at dksX1_anchor_0 1 rfl rfl)
theorem dX1_anchor_2 : decode cX1_anchor 2 = .ok (.aload_n 0, 1) := dk_42 (dk_at dksX1_anchor_0 2 rfl rfl)
theorem dX1_anchor_3 : decode cX1_anchor 3 = .ok (.getfield 12, 3) := dk_180 0 12 (dk_at dksX1_anchor_0 3 rfl rfl)
theorem dX1_anchor_6 : decode cX1_anchor 6 = .ok (.getfield 362, 3) := dk_180 1 106 (dk_at dksX1_anchor_0 6 rfl rfl)
theorem dX1_anchor_9 : decode cX1_anchor 9 = .ok (.invokevirtual 366, 3) := dk_182 1 110 (dk_at dksX1_anchor_0 9 rfl rfl)
theorem dX1_anchor_12 : decode cX1_anchor 12 = .ok (.iconst 1, 1) := dk_4 (dk_at dksX1_anchor_0 12 rfl rfl)
theorem dX1_anchor_13 : decode cX1_anchor 13 = .ok (.isub, 1) := dk_100 (dk_at dksX1_anchor_0 13 rfl rfl)
theorem dX1_anchor_14 : decode cX1_anchor 14 = .ok (.invokestatic 104, 3) := dk_184 0 104 (dk_at dksX1_anchor_0 14 rfl rfl)
theorem dX1_anchor_17 : decode cX1_anchor 17 = .ok (.invokestatic 322, 3) := dk_184 1 66 (dk_at dksX1_anchor_0 17 rfl rfl)
theorem dX1_anchor_20 : decode cX1_anchor 20 = .ok (.aload_n 0, 1) := dk_42 (dk_at dksX1_anchor_0 20 rfl rfl)
theorem dX1_anchor_21 : decode cX1_anchor 21 = .ok (.getfield 12, 3) := dk_180 0 12 (dk_at dksX1_anchor_0 21 rfl rfl)
theorem dX1_anchor_24 : decode cX1_anchor 24 = .ok (.getfield 362, 3) := dk_180 1 106 (dk_at dksX1_anchor_1 0 rfl rfl)
theorem dX1_anchor_27 : decode cX1_anchor 27 = .ok (.iload_n 1, 1) := dk_27 (dk_at dksX1_anchor_1 3 rfl rfl)
theorem dX1_anchor_28 : decode cX1_anchor 28 = .ok (.invokevirtual 369, 3) := dk_182 1 113 (dk_at dksX1_anchor_1 4 rfl rfl)
theorem dX1_anchor_31 : decode cX1_anchor 31 = .ok (.checkcast 289, 3) := dk_192 1 33 (dk_at dksX1_anchor_1 7 rfl rfl)
theorem dX1_anchor_34 : decode cX1_anchor 34 = .ok (.invokevirtual 370, 3) := dk_182 1 114 (dk_at dksX1_anchor_1 10 rfl rfl)
theorem dX1_anchor_37 : decode cX1_anchor 37 = .ok (.ireturn, 1) := dk_172 (dk_at dksX1_anchor_1 13 rfl rfl)
abbrev cX1_take : ByteArray := prog_1_method_38_code
def yX1_take : MethodName := ⟨RX1, "take", "(II)I"⟩
def dkwX1_take_1 : List UInt8 := [182, 1, 123, 182, 0, 142, 172, 58, 4, 42, 25, 4, 182, 0, 126, 191]
abbrev dktX1_take_1 : List UInt8 := dkwX1_take_1 ++ []
def dkwX1_take_0 : List UInt8 := [42, 27, 28, 182, 1, 120, 42, 180, 0, 12, 182, 0, 130, 78, 42, 45, 42, 180, 0, 12, 27, 28]
abbrev dktX1_take_0 : List UInt8 := dkwX1_take_0 ++ dktX1_take_1
theorem dksX1_take_0 : cX1_take.data.toList.drop 0 = dktX1_take_0 := by decide +kernel
theorem dksX1_take_1 : cX1_take.data.toList.drop 22 = dktX1_take_1 := dk_seg dksX1_take_0 22 rfl rfl
theorem dX1_take_0 : decode cX1_take 0 = .ok (.aload_n 0, 1) := dk_42 (dk_at dksX1_take_0 0 rfl rfl)
theorem dX1_take_1 : decode cX1_take 1 = .ok (.iload_n 1, 1) := dk_27 (dk_at dksX1_take_0 1 rfl rfl)
theorem dX1_take_2 : decode cX1_take 2 = .ok (.iload_n 2, 1) := dk_28 (dk_at dksX1_take_0 2 rfl rfl)
theorem dX1_take_3 : decode cX1_take 3 = .ok (.invokevirtual 376, 3) := dk_182 1 120 (dk_at dksX1_take_0 3 rfl rfl)
theorem dX1_take_6 : decode cX1_take 6 = .ok (.aload_n 0, 1) := dk_42 (dk_at dksX1_take_0 6 rfl rfl)
theorem dX1_take_7 : decode cX1_take 7 = .ok (.getfield 12, 3) := dk_180 0 12 (dk_at dksX1_take_0 7 rfl rfl)
theorem dX1_take_10 : decode cX1_take 10 = .ok (.invokevirtual 130, 3) := dk_182 0 130 (dk_at dksX1_take_0 10 rfl rfl)
theorem dX1_take_13 : decode cX1_take 13 = .ok (.astore_n 3, 1) := dk_78 (dk_at dksX1_take_0 13 rfl rfl)
theorem dX1_take_14 : decode cX1_take 14 = .ok (.aload_n 0, 1) := dk_42 (dk_at dksX1_take_0 14 rfl rfl)
theorem dX1_take_15 : decode cX1_take 15 = .ok (.aload_n 3, 1) := dk_45 (dk_at dksX1_take_0 15 rfl rfl)
theorem dX1_take_16 : decode cX1_take 16 = .ok (.aload_n 0, 1) := dk_42 (dk_at dksX1_take_0 16 rfl rfl)
theorem dX1_take_17 : decode cX1_take 17 = .ok (.getfield 12, 3) := dk_180 0 12 (dk_at dksX1_take_0 17 rfl rfl)
theorem dX1_take_20 : decode cX1_take 20 = .ok (.iload_n 1, 1) := dk_27 (dk_at dksX1_take_0 20 rfl rfl)
theorem dX1_take_21 : decode cX1_take 21 = .ok (.iload_n 2, 1) := dk_28 (dk_at dksX1_take_0 21 rfl rfl)
theorem dX1_take_22 : decode cX1_take 22 = .ok (.invokevirtual 379, 3) := dk_182 1 123 (dk_at dksX1_take_1 0 rfl rfl)
theorem dX1_take_25 : decode cX1_take 25 = .ok (.invokevirtual 142, 3) := dk_182 0 142 (dk_at dksX1_take_1 3 rfl rfl)
theorem dX1_take_28 : decode cX1_take 28 = .ok (.ireturn, 1) := dk_172 (dk_at dksX1_take_1 6 rfl rfl)
theorem dX1_take_29 : decode cX1_take 29 = .ok (.astore 4, 2) := dk_58 4 (dk_at dksX1_take_1 7 rfl rfl)
theorem dX1_take_31 : decode cX1_take 31 = .ok (.aload_n 0, 1) := dk_42 (dk_at dksX1_take_1 9 rfl rfl)
theorem dX1_take_32 : decode cX1_take 32 = .ok (.aload 4, 2) := dk_25 4 (dk_at dksX1_take_1 10 rfl rfl)
theorem dX1_take_34 : decode cX1_take 34 = .ok (.invokevirtual 126, 3) := dk_182 0 126 (dk_at dksX1_take_1 12 rfl rfl)
theorem dX1_take_37 : decode cX1_take 37 = .ok (.athrow, 1) := dk_191 (dk_at dksX1_take_1 15 rfl rfl)
abbrev cX1_checkLamp : ByteArray := prog_1_method_37_code
def yX1_checkLamp : MethodName := ⟨RX1, "checkLamp", "(II)V"⟩
def dkwX1_checkLamp_1 : List UInt8 := [184, 0, 169, 177]
abbrev dktX1_checkLamp_1 : List UInt8 := dkwX1_checkLamp_1 ++ []
def dkwX1_checkLamp_0 : List UInt8 := [27, 184, 0, 240, 153, 0, 18, 42, 180, 0, 12, 28, 182, 0, 220, 153, 0, 7, 4, 167, 0, 4, 3]
abbrev dktX1_checkLamp_0 : List UInt8 := dkwX1_checkLamp_0 ++ dktX1_checkLamp_1
theorem dksX1_checkLamp_0 : cX1_checkLamp.data.toList.drop 0 = dktX1_checkLamp_0 := by decide +kernel
theorem dksX1_checkLamp_1 : cX1_checkLamp.data.toList.drop 23 = dktX1_checkLamp_1 := dk_seg dksX1_checkLamp_0 23 rfl rfl
theorem dX1_checkLamp_0 : decode cX1_checkLamp 0 = .ok (.iload_n 1, 1) := dk_27 (dk_at dksX1_checkLamp_0 0 rfl rfl)
theorem dX1_checkLamp_1 : decode cX1_checkLamp 1 = .ok (.invokestatic 240, 3) := dk_184 0 240 (dk_at dksX1_checkLamp_0 1 rfl rfl)
theorem dX1_checkLamp_4 : decode cX1_checkLamp 4 = .ok (.ifCond .eq 18, 3) := dk_153 0 18 (dk_at dksX1_checkLamp_0 4 rfl rfl)
theorem dX1_checkLamp_7 : decode cX1_checkLamp 7 = .ok (.aload_n 0, 1) := dk_42 (dk_at dksX1_checkLamp_0 7 rfl rfl)
theorem dX1_checkLamp_8 : decode cX1_checkLamp 8 = .ok (.getfield 12, 3) := dk_180 0 12 (dk_at dksX1_checkLamp_0 8 rfl rfl)
theorem dX1_checkLamp_11 : decode cX1_checkLamp 11 = .ok (.iload_n 2, 1) := dk_28 (dk_at dksX1_checkLamp_0 11 rfl rfl)
theorem dX1_checkLamp_12 : decode cX1_checkLamp 12 = .ok (.invokevirtual 220, 3) := dk_182 0 220 (dk_at dksX1_checkLamp_0 12 rfl rfl)
theorem dX1_checkLamp_15 : decode cX1_checkLamp 15 = .ok (.ifCond .eq 7, 3) := dk_153 0 7 (dk_at dksX1_checkLamp_0 15 rfl rfl)
theorem dX1_checkLamp_18 : decode cX1_checkLamp 18 = .ok (.iconst 1, 1) := dk_4 (dk_at dksX1_checkLamp_0 18 rfl rfl)
theorem dX1_checkLamp_19 : decode cX1_checkLamp 19 = .ok (.goto 4, 3) := dk_167 0 4 (dk_at dksX1_checkLamp_0 19 rfl rfl)
theorem dX1_checkLamp_22 : decode cX1_checkLamp 22 = .ok (.iconst 0, 1) := dk_3 (dk_at dksX1_checkLamp_0 22 rfl rfl)
theorem dX1_checkLamp_23 : decode cX1_checkLamp 23 = .ok (.invokestatic 169, 3) := dk_184 0 169 (dk_at dksX1_checkLamp_1 0 rfl rfl)
theorem dX1_checkLamp_26 : decode cX1_checkLamp 26 = .ok (.return_, 1) := dk_177 (dk_at dksX1_checkLamp_1 3 rfl rfl)
abbrev cX1_put : ByteArray := prog_1_method_39_code
def yX1_put : MethodName := ⟨RX1, "put", "(II)I"⟩
def dkwX1_put_1 : List UInt8 := [182, 1, 126, 182, 0, 142, 172, 58, 4, 42, 25, 4, 182, 0, 126, 191]
abbrev dktX1_put_1 : List UInt8 := dkwX1_put_1 ++ []
def dkwX1_put_0 : List UInt8 := [42, 27, 28, 182, 1, 120, 42, 180, 0, 12, 182, 0, 130, 78, 42, 45, 42, 180, 0, 12, 27, 28]
abbrev dktX1_put_0 : List UInt8 := dkwX1_put_0 ++ dktX1_put_1
theorem dksX1_put_0 : cX1_put.data.toList.drop 0 = dktX1_put_0 := by decide +kernel
theorem dksX1_put_1 : cX1_put.data.toList.drop 22 = dktX1_put_1 := dk_seg dksX1_put_0 22 rfl rfl
theorem dX1_put_0 : decode cX1_put 0 = .ok (.aload_n 0, 1) := dk_42 (dk_at dksX1_put_0 0 rfl rfl)
theorem dX1_put_1 : decode cX1_put 1 = .ok (.iload_n 1, 1) := dk_27 (dk_at dksX1_put_0 1 rfl rfl)
theorem dX1_put_2 : decode cX1_put 2 = .ok (.iload_n 2, 1) := dk_28 (dk_at dksX1_put_0 2 rfl rfl)
theorem dX1_put_3 : decode cX1_put 3 = .ok (.invokevirtual 376, 3) := dk_182 1 120 (dk_at dksX1_put_0 3 rfl rfl)
theorem dX1_put_6 : decode cX1_put 6 = .ok (.aload_n 0, 1) := dk_42 (dk_at dksX1_put_0 6 rfl rfl)
theorem dX1_put_7 : decode cX1_put 7 = .ok (.getfield 12, 3) := dk_180 0 12 (dk_at dksX1_put_0 7 rfl rfl)
theorem dX1_put_10 : decode cX1_put 10 = .ok (.invokevirtual 130, 3) := dk_182 0 130 (dk_at dksX1_put_0 10 rfl rfl)
theorem dX1_put_13 : decode cX1_put 13 = .ok (.astore_n 3, 1) := dk_78 (dk_at dksX1_put_0 13 rfl rfl)
theorem dX1_put_14 : decode cX1_put 14 = .ok (.aload_n 0, 1) := dk_42 (dk_at dksX1_put_0 14 rfl rfl)
theorem dX1_put_15 : decode cX1_put 15 = .ok (.aload_n 3, 1) := dk_45 (dk_at dksX1_put_0 15 rfl rfl)
theorem dX1_put_16 : decode cX1_put 16 = .ok (.aload_n 0, 1) := dk_42 (dk_at dksX1_put_0 16 rfl rfl)
theorem dX1_put_17 : decode cX1_put 17 = .ok (.getfield 12, 3) := dk_180 0 12 (dk_at dksX1_put_0 17 rfl rfl)
theorem dX1_put_20 : decode cX1_put 20 = .ok (.iload_n 1, 1) := dk_27 (dk_at dksX1_put_0 20 rfl rfl)
theorem dX1_put_21 : decode cX1_put 21 = .ok (.iload_n 2, 1) := dk_28 (dk_at dksX1_put_0 21 rfl rfl)
theorem dX1_put_22 : decode cX1_put 22 = .ok (.invokevirtual 382, 3) := dk_182 1 126 (dk_at dksX1_put_1 0 rfl rfl)
theorem dX1_put_25 : decode cX1_put 25 = .ok (.invokevirtual 142, 3) := dk_182 0 142 (dk_at dksX1_put_1 3 rfl rfl)
theorem dX1_put_28 : decode cX1_put 28 = .ok (.ireturn, 1) := dk_172 (dk_at dksX1_put_1 6 rfl rfl)
theorem dX1_put_29 : decode cX1_put 29 = .ok (.astore 4, 2) := dk_58 4 (dk_at dksX1_put_1 7 rfl rfl)
theorem dX1_put_31 : decode cX1_put 31 = .ok (.aload_n 0, 1) := dk_42 (dk_at dksX1_put_1 9 rfl rfl)
theorem dX1_put_32 : decode cX1_put 32 = .ok (.aload 4, 2) := dk_25 4 (dk_at dksX1_put_1 10 rfl rfl)
theorem dX1_put_34 : decode cX1_put 34 = .ok (.invokevirtual 126, 3) := dk_182 0 126 (dk_at dksX1_put_1 12 rfl rfl)
theorem dX1_put_37 : decode cX1_put 37 = .ok (.athrow, 1) := dk_191 (dk_at dksX1_put_1 15 rfl rfl)
abbrev cX1_light : ByteArray := prog_1_method_40_code
def yX1_light : MethodName := ⟨RX1, "light", "(II)I"⟩
def dkwX1_light_1 : List UInt8 := [182, 1, 129, 182, 0, 142, 172, 58, 4, 42, 25, 4, 182, 0, 126, 191]
abbrev dktX1_light_1 : List UInt8 := dkwX1_light_1 ++ []
def dkwX1_light_0 : List UInt8 := [42, 27, 28, 182, 1, 120, 42, 180, 0, 12, 182, 0, 130, 78, 42, 45, 42, 180, 0, 12, 27, 28]
abbrev dktX1_light_0 : List UInt8 := dkwX1_light_0 ++ dktX1_light_1
theorem dksX1_light_0 : cX1_light.data.toList.drop 0 = dktX1_light_0 := by decide +kernel
theorem dksX1_light_1 : cX1_light.data.toList.drop 22 = dktX1_light_1 := dk_seg dksX1_light_0 22 rfl rfl
theorem dX1_light_0 : decode cX1_light 0 = .ok (.aload_n 0, 1) := dk_42 (dk_at dksX1_light_0 0 rfl rfl)
theorem dX1_light_1 : decode cX1_light 1 = .ok (.iload_n 1, 1) := dk_27 (dk_at dksX1_light_0 1 rfl rfl)
theorem dX1_light_2 : decode cX1_light 2 = .ok (.iload_n 2, 1) := dk_28 (dk_at dksX1_light_0 2 rfl rfl)
theorem dX1_light_3 : decode cX1_light 3 = .ok (.invokevirtual 376, 3) := dk_182 1 120 (dk_at dksX1_light_0 3 rfl rfl)
theorem dX1_light_6 : decode cX1_light 6 = .ok (.aload_n 0, 1) := dk_42 (dk_at dksX1_light_0 6 rfl rfl)
theorem dX1_light_7 : decode cX1_light 7 = .ok (.getfield 12, 3) := dk_180 0 12 (dk_at dksX1_light_0 7 rfl rfl)
theorem dX1_light_10 : decode cX1_light 10 = .ok (.invokevirtual 130, 3) := dk_182 0 130 (dk_at dksX1_light_0 10 rfl rfl)
theorem dX1_light_13 : decode cX1_light 13 = .ok (.astore_n 3, 1) := dk_78 (dk_at dksX1_light_0 13 rfl rfl)
theorem dX1_light_14 : decode cX1_light 14 = .ok (.aload_n 0, 1) := dk_42 (dk_at dksX1_light_0 14 rfl rfl)
theorem dX1_light_15 : decode cX1_light 15 = .ok (.aload_n 3, 1) := dk_45 (dk_at dksX1_light_0 15 rfl rfl)
theorem dX1_light_16 : decode cX1_light 16 = .ok (.aload_n 0, 1) := dk_42 (dk_at dksX1_light_0 16 rfl rfl)
theorem dX1_light_17 : decode cX1_light 17 = .ok (.getfield 12, 3) := dk_180 0 12 (dk_at dksX1_light_0 17 rfl rfl)
theorem dX1_light_20 : decode cX1_light 20 = .ok (.iload_n 1, 1) := dk_27 (dk_at dksX1_light_0 20 rfl rfl)
theorem dX1_light_21 : decode cX1_light 21 = .ok (.iload_n 2, 1) := dk_28 (dk_at dksX1_light_0 21 rfl rfl)
theorem dX1_light_22 : decode cX1_light 22 = .ok (.invokevirtual 385, 3) := dk_182 1 129 (dk_at dksX1_light_1 0 rfl rfl)
theorem dX1_light_25 : decode cX1_light 25 = .ok (.invokevirtual 142, 3) := dk_182 0 142 (dk_at dksX1_light_1 3 rfl rfl)
theorem dX1_light_28 : decode cX1_light 28 = .ok (.ireturn, 1) := dk_172 (dk_at dksX1_light_1 6 rfl rfl)
theorem dX1_light_29 : decode cX1_light 29 = .ok (.astore 4, 2) := dk_58 4 (dk_at dksX1_light_1 7 rfl rfl)
theorem dX1_light_31 : decode cX1_light 31 = .ok (.aload_n 0, 1) := dk_42 (dk_at dksX1_light_1 9 rfl rfl)
theorem dX1_light_32 : decode cX1_light 32 = .ok (.aload 4, 2) := dk_25 4 (dk_at dksX1_light_1 10 rfl rfl)
theorem dX1_light_34 : decode cX1_light 34 = .ok (.invokevirtual 126, 3) := dk_182 0 126 (dk_at dksX1_light_1 12 rfl rfl)
theorem dX1_light_37 : decode cX1_light 37 = .ok (.athrow, 1) := dk_191 (dk_at dksX1_light_1 15 rfl rfl)
abbrev cX1_force : ByteArray := prog_1_method_41_code
def yX1_force : MethodName := ⟨RX1, "force", "(I)F"⟩
def dkwX1_force_1 : List UInt8 := [27, 48, 174]
abbrev dktX1_force_1 : List UInt8 := dkwX1_force_1 ++ []
def dkwX1_force_0 : List UInt8 := [27, 3, 42, 180, 0, 12, 180, 1, 132, 4, 100, 184, 0, 104, 184, 1, 66, 42, 180, 0, 12, 180, 1, 135]
abbrev dktX1_force_0 : List UInt8 := dkwX1_force_0 ++ dktX1_force_1
theorem dksX1_force_0 : cX1_force.data.toList.drop 0 = dktX1_force_0 := by decide +kernel
theorem dksX1_force_1 : cX1_force.data.toList.drop 24 = dktX1_force_1 := dk_seg dksX1_force_0 24 rfl rfl
theorem dX1_force_0 : decode cX1_force 0 = .ok (.iload_n 1, 1) := dk_27 (dk_at dksX1_force_0 0 rfl rfl)
theorem dX1_force_1 : decode cX1_force 1 = .ok (.iconst 0, 1) := dk_3 (dk_at dksX1_force_0 1 rfl rfl)
theorem dX1_force_2 : decode cX1_force 2 = .ok (.aload_n 0, 1) := dk_42 (dk_at dksX1_force_0 2 rfl rfl)
theorem dX1_force_3 : decode cX1_force 3 = .ok (.getfield 12, 3) := dk_180 0 12 (dk_at dksX1_force_0 3 rfl rfl)
theorem dX1_force_6 : decode cX1_force 6 = .ok (.getfield 388, 3) := dk_180 1 132 (dk_at dksX1_force_0 6 rfl rfl)
theorem dX1_force_9 : decode cX1_force 9 = .ok (.iconst 1, 1) := dk_4 (dk_at dksX1_force_0 9 rfl rfl)
theorem dX1_force_10 : decode cX1_force 10 = .ok (.isub, 1) := dk_100 (dk_at dksX1_force_0 10 rfl rfl)
theorem dX1_force_11 : decode cX1_force 11 = .ok (.invokestatic 104, 3) := dk_184 0 104 (dk_at dksX1_force_0 11 rfl rfl)
theorem dX1_force_14 : decode cX1_force 14 = .ok (.invokestatic 322, 3) := dk_184 1 66 (dk_at dksX1_force_0 14 rfl rfl)
theorem dX1_force_17 : decode cX1_force 17 = .ok (.aload_n 0, 1) := dk_42 (dk_at dksX1_force_0 17 rfl rfl)
theorem dX1_force_18 : decode cX1_force 18 = .ok (.getfield 12, 3) := dk_180 0 12 (dk_at dksX1_force_0 18 rfl rfl)
theorem dX1_force_21 : decode cX1_force 21 = .ok (.getfield 391, 3) := dk_180 1 135 (dk_at dksX1_force_0 21 rfl rfl)
theorem dX1_force_24 : decode cX1_force 24 = .ok (.iload_n 1, 1) := dk_27 (dk_at dksX1_force_1 0 rfl rfl)
theorem dX1_force_25 : decode cX1_force 25 = .ok (.faload, 1) := dk_48 (dk_at dksX1_force_1 1 rfl rfl)
theorem dX1_force_26 : decode cX1_force 26 = .ok (.freturn, 1) := dk_174 (dk_at dksX1_force_1 2 rfl rfl)
abbrev cX1_keep : ByteArray := prog_1_method_43_code
def yX1_keep : MethodName := ⟨RX1, "keep", "(I)I"⟩
def dkwX1_keep_2 : List UInt8 := [42, 180, 0, 12, 180, 1, 132, 172]
abbrev dktX1_keep_2 : List UInt8 := dkwX1_keep_2 ++ []
def dkwX1_keep_1 : List UInt8 := [180, 0, 12, 180, 1, 135, 3, 42, 180, 0, 29, 27, 50, 3, 42, 180, 0, 12, 180, 1, 132, 184, 1, 141]
abbrev dktX1_keep_1 : List UInt8 := dkwX1_keep_1 ++ dktX1_keep_2
def dkwX1_keep_0 : List UInt8 := [27, 184, 1, 138, 184, 0, 169, 42, 180, 0, 29, 27, 42, 180, 0, 12, 180, 1, 132, 188, 6, 83, 42]
abbrev dktX1_keep_0 : List UInt8 := dkwX1_keep_0 ++ dktX1_keep_1
theorem dksX1_keep_0 : cX1_keep.data.toList.drop 0 = dktX1_keep_0 := by decide +kernel
theorem dksX1_keep_1 : cX1_keep.data.toList.drop 23 = dktX1_keep_1 := dk_seg dksX1_keep_0 23 rfl rfl
theorem dksX1_keep_2 : cX1_keep.data.toList.drop 47 = dktX1_keep_2 := dk_seg dksX1_keep_1 24 rfl rfl
theorem dX1_keep_0 : decode cX1_keep 0 = .ok (.iload_n 1, 1) := dk_27 (dk_at dksX1_keep_0 0 rfl rfl)
theorem dX1_keep_1 : decode cX1_keep 1 = .ok (.invokestatic 394, 3) := dk_184 1 138 (dk_at dksX1_keep_0 1 rfl rfl)
theorem dX1_keep_4 : decode cX1_keep 4 = .ok (.invokestatic 169, 3) := dk_184 0 169 (dk_at dksX1_keep_0 4 rfl rfl)
theorem dX1_keep_7 : decode cX1_keep 7 = .ok (.aload_n 0, 1) := dk_42 (dk_at dksX1_keep_0 7 rfl rfl)
theorem dX1_keep_8 : decode cX1_keep 8 = .ok (.getfield 29, 3) := dk_180 0 29 (dk_at dksX1_keep_0 8 rfl rfl)
theorem dX1_keep_11 : decode cX1_keep 11 = .ok (.iload_n 1, 1) := dk_27 (dk_at dksX1_keep_0 11 rfl rfl)
theorem dX1_keep_12 : decode cX1_keep 12 = .ok (.aload_n 0, 1) := dk_42 (dk_at dksX1_keep_0 12 rfl rfl)
theorem dX1_keep_13 : decode cX1_keep 13 = .ok (.getfield 12, 3) := dk_180 0 12 (dk_at dksX1_keep_0 13 rfl rfl)
theorem dX1_keep_16 : decode cX1_keep 16 = .ok (.getfield 388, 3) := dk_180 1 132 (dk_at dksX1_keep_0 16 rfl rfl)
theorem dX1_keep_19 : decode cX1_keep 19 = .ok (.newarray .float, 2) := dk_188_6 (dk_at dksX1_keep_0 19 rfl rfl)
theorem dX1_keep_21 : decode cX1_keep 21 = .ok (.aastore, 1) := dk_83 (dk_at dksX1_keep_0 21 rfl rfl)
theorem dX1_keep_22 : decode cX1_keep 22 = .ok (.aload_n 0, 1) := dk_42 (dk_at dksX1_keep_0 22 rfl rfl)
theorem dX1_keep_23 : decode cX1_keep 23 = .ok (.getfield 12, 3) := dk_180 0 12 (dk_at dksX1_keep_1 0 rfl rfl)
theorem dX1_keep_26 : decode cX1_keep 26 = .ok (.getfield 391, 3) := dk_180 1 135 (dk_at dksX1_keep_1 3 rfl rfl)
theorem dX1_keep_29 : decode cX1_keep 29 = .ok (.iconst 0, 1) := dk_3 (dk_at dksX1_keep_1 6 rfl rfl)
theorem dX1_keep_30 : decode cX1_keep 30 = .ok (.aload_n 0, 1) := dk_42 (dk_at dksX1_keep_1 7 rfl rfl)
theorem dX1_keep_31 : decode cX1_keep 31 = .ok (.getfield 29, 3) := dk_180 0 29 (dk_at dksX1_keep_1 8 rfl rfl)
theorem dX1_keep_34 : decode cX1_keep 34 = .ok (.iload_n 1, 1) := dk_27 (dk_at dksX1_keep_1 11 rfl rfl)
theorem dX1_keep_35 : decode cX1_keep 35 = .ok (.aaload, 1) := dk_50 (dk_at dksX1_keep_1 12 rfl rfl)
theorem dX1_keep_36 : decode cX1_keep 36 = .ok (.iconst 0, 1) := dk_3 (dk_at dksX1_keep_1 13 rfl rfl)
theorem dX1_keep_37 : decode cX1_keep 37 = .ok (.aload_n 0, 1) := dk_42 (dk_at dksX1_keep_1 14 rfl rfl)
theorem dX1_keep_38 : decode cX1_keep 38 = .ok (.getfield 12, 3) := dk_180 0 12 (dk_at dksX1_keep_1 15 rfl rfl)
theorem dX1_keep_41 : decode cX1_keep 41 = .ok (.getfield 388, 3) := dk_180 1 132 (dk_at dksX1_keep_1 18 rfl rfl)
theorem dX1_keep_44 : decode cX1_keep 44 = .ok (.invokestatic 397, 3) := dk_184 1 141 (dk_at dksX1_keep_1 21 rfl rfl)
theorem dX1_keep_47 : decode cX1_keep 47 = .ok (.aload_n 0, 1) := dk_42 (dk_at dksX1_keep_2 0 rfl rfl)
theorem dX1_keep_48 : decode cX1_keep 48 = .ok (.getfield 12, 3) := dk_180 0 12 (dk_at dksX1_keep_2 1 rfl rfl)
theorem dX1_keep_51 : decode cX1_keep 51 = .ok (.getfield 388, 3) := dk_180 1 132 (dk_at dksX1_keep_2 4 rfl rfl)
theorem dX1_keep_54 : decode cX1_keep 54 = .ok (.ireturn, 1) := dk_172 (dk_at dksX1_keep_2 7 rfl rfl)
abbrev cX1_isRow : ByteArray := prog_1_method_42_code
def yX1_isRow : MethodName := ⟨RX1, "isRow", "(I)Z"⟩
def dkwX1_isRow_0 : List UInt8 := [26, 3, 5, 184, 0, 104, 172]
abbrev dktX1_isRow_0 : List UInt8 := dkwX1_isRow_0 ++ []
theorem dksX1_isRow_0 : cX1_isRow.data.toList.drop 0 = dktX1_isRow_0 := by decide +kernel
theorem dX1_isRow_0 : decode cX1_isRow 0 = .ok (.iload_n 0, 1) := dk_26 (dk_at dksX1_isRow_0 0 rfl rfl)
theorem dX1_isRow_1 : decode cX1_isRow 1 = .ok (.iconst 0, 1) := dk_3 (dk_at dksX1_isRow_0 1 rfl rfl)
theorem dX1_isRow_2 : decode cX1_isRow 2 = .ok (.iconst 2, 1) := dk_5 (dk_at dksX1_isRow_0 2 rfl rfl)
theorem dX1_isRow_3 : decode cX1_isRow 3 = .ok (.invokestatic 104, 3) := dk_184 0 104 (dk_at dksX1_isRow_0 3 rfl rfl)
theorem dX1_isRow_6 : decode cX1_isRow 6 = .ok (.ireturn, 1) := dk_172 (dk_at dksX1_isRow_0 6 rfl rfl)
abbrev cX1_scale : ByteArray := prog_1_method_44_code
def yX1_scale : MethodName := ⟨RX1, "scale", "(III)I"⟩
def dkwX1_scale_5 : List UInt8 := [167, 255, 208, 42, 180, 0, 29, 28, 25, 4, 83, 21, 5, 172]
abbrev dktX1_scale_5 : List UInt8 := dkwX1_scale_5 ++ []
def dkwX1_scale_4 : List UInt8 := [81, 21, 5, 25, 4, 21, 6, 48, 12, 149, 158, 0, 7, 4, 167, 0, 4, 3, 96, 54, 5, 132, 6, 1]
abbrev dktX1_scale_4 : List UInt8 := dkwX1_scale_4 ++ dktX1_scale_5
def dkwX1_scale_3 : List UInt8 := [21, 6, 25, 4, 190, 162, 0, 46, 25, 4, 21, 6, 25, 4, 21, 6, 48, 29, 134, 106, 19, 1, 150, 110]
abbrev dktX1_scale_3 : List UInt8 := dkwX1_scale_3 ++ dktX1_scale_4
def dkwX1_scale_2 : List UInt8 := [184, 0, 119, 42, 180, 0, 29, 27, 50, 182, 1, 147, 192, 0, 27, 58, 4, 3, 54, 5, 3, 54, 6]
abbrev dktX1_scale_2 : List UInt8 := dkwX1_scale_2 ++ dktX1_scale_3
def dkwX1_scale_1 : List UInt8 := [17, 3, 231, 184, 0, 104, 184, 0, 108, 42, 180, 0, 29, 27, 50, 198, 0, 7, 4, 167, 0, 4, 3]
abbrev dktX1_scale_1 : List UInt8 := dkwX1_scale_1 ++ dktX1_scale_2
def dkwX1_scale_0 : List UInt8 := [27, 184, 1, 138, 153, 0, 14, 28, 184, 1, 138, 153, 0, 7, 4, 167, 0, 4, 3, 184, 0, 169, 29, 3]
abbrev dktX1_scale_0 : List UInt8 := dkwX1_scale_0 ++ dktX1_scale_1
theorem dksX1_scale_0 : cX1_scale.data.toList.drop 0 = dktX1_scale_0 := by decide +kernel
theorem dksX1_scale_1 : cX1_scale.data.toList.drop 24 = dktX1_scale_1 := dk_seg dksX1_scale_0 24 rfl rfl
theorem dksX1_scale_2 : cX1_scale.data.toList.drop 47 = dktX1_scale_2 := dk_seg dksX1_scale_1 23 rfl rfl
theorem dksX1_scale_3 : cX1_scale.data.toList.drop 70 = dktX1_scale_3 := dk_seg dksX1_scale_2 23 rfl rfl
theorem dksX1_scale_4 : cX1_scale.data.toList.drop 94 = dktX1_scale_4 := dk_seg dksX1_scale_3 24 rfl rfl
theorem dksX1_scale_5 : cX1_scale.data.toList.drop 118 = dktX1_scale_5 := dk_seg dksX1_scale_4 24 rfl rfl
theorem dX1_scale_0 : decode cX1_scale 0 = .ok (.iload_n 1, 1) := dk_27 (dk_at dksX1_scale_0 0 rfl rfl)
theorem dX1_scale_1 : decode cX1_scale 1 = .ok (.invokestatic 394, 3) := dk_184 1 138 (dk_at dksX1_scale_0 1 rfl rfl)
theorem dX1_scale_4 : decode cX1_scale 4 = .ok (.ifCond .eq 14, 3) := dk_153 0 14 (dk_at dksX1_scale_0 4 rfl rfl)
theorem dX1_scale_7 : decode cX1_scale 7 = .ok (.iload_n 2, 1) := dk_28 (dk_at dksX1_scale_0 7 rfl rfl)
theorem dX1_scale_8 : decode cX1_scale 8 = .ok (.invokestatic 394, 3) := dk_184 1 138 (dk_at dksX1_scale_0 8 rfl rfl)
theorem dX1_scale_11 : decode cX1_scale 11 = .ok (.ifCond .eq 7, 3) := dk_153 0 7 (dk_at dksX1_scale_0 11 rfl rfl)
theorem dX1_scale_14 : decode cX1_scale 14 = .ok (.iconst 1, 1) := dk_4 (dk_at dksX1_scale_0 14 rfl rfl)
theorem dX1_scale_15 : decode cX1_scale 15 = .ok (.goto 4, 3) := dk_167 0 4 (dk_at dksX1_scale_0 15 rfl rfl)
theorem dX1_scale_18 : decode cX1_scale 18 = .ok (.iconst 0, 1) := dk_3 (dk_at dksX1_scale_0 18 rfl rfl)
theorem dX1_scale_19 : decode cX1_scale 19 = .ok (.invokestatic 169, 3) := dk_184 0 169 (dk_at dksX1_scale_0 19 rfl rfl)
theorem dX1_scale_22 : decode cX1_scale 22 = .ok (.iload_n 3, 1) := dk_29 (dk_at dksX1_scale_0 22 rfl rfl)
theorem dX1_scale_23 : decode cX1_scale 23 = .ok (.iconst 0, 1) := dk_3 (dk_at dksX1_scale_0 23 rfl rfl)
theorem dX1_scale_24 : decode cX1_scale 24 = .ok (.sipush 999, 3) := dk_17 3 231 (dk_at dksX1_scale_1 0 rfl rfl)
theorem dX1_scale_27 : decode cX1_scale 27 = .ok (.invokestatic 104, 3) := dk_184 0 104 (dk_at dksX1_scale_1 3 rfl rfl)
theorem dX1_scale_30 : decode cX1_scale 30 = .ok (.invokestatic 108, 3) := dk_184 0 108 (dk_at dksX1_scale_1 6 rfl rfl)
theorem dX1_scale_33 : decode cX1_scale 33 = .ok (.aload_n 0, 1) := dk_42 (dk_at dksX1_scale_1 9 rfl rfl)
theorem dX1_scale_34 : decode cX1_scale 34 = .ok (.getfield 29, 3) := dk_180 0 29 (dk_at dksX1_scale_1 10 rfl rfl)
theorem dX1_scale_37 : decode cX1_scale 37 = .ok (.iload_n 1, 1) := dk_27 (dk_at dksX1_scale_1 13 rfl rfl)
theorem dX1_scale_38 : decode cX1_scale 38 = .ok (.aaload, 1) := dk_50 (dk_at dksX1_scale_1 14 rfl rfl)
theorem dX1_scale_39 : decode cX1_scale 39 = .ok (.ifnull 7, 3) := dk_198 0 7 (dk_at dksX1_scale_1 15 rfl rfl)
theorem dX1_scale_42 : decode cX1_scale 42 = .ok (.iconst 1, 1) := dk_4 (dk_at dksX1_scale_1 18 rfl rfl)
theorem dX1_scale_43 : decode cX1_scale 43 = .ok (.goto 4, 3) := dk_167 0 4 (dk_at dksX1_scale_1 19 rfl rfl)
theorem dX1_scale_46 : decode cX1_scale 46 = .ok (.iconst 0, 1) := dk_3 (dk_at dksX1_scale_1 22 rfl rfl)
theorem dX1_scale_47 : decode cX1_scale 47 = .ok (.invokestatic 119, 3) := dk_184 0 119 (dk_at dksX1_scale_2 0 rfl rfl)
theorem dX1_scale_50 : decode cX1_scale 50 = .ok (.aload_n 0, 1) := dk_42 (dk_at dksX1_scale_2 3 rfl rfl)
theorem dX1_scale_51 : decode cX1_scale 51 = .ok (.getfield 29, 3) := dk_180 0 29 (dk_at dksX1_scale_2 4 rfl rfl)
theorem dX1_scale_54 : decode cX1_scale 54 = .ok (.iload_n 1, 1) := dk_27 (dk_at dksX1_scale_2 7 rfl rfl)
theorem dX1_scale_55 : decode cX1_scale 55 = .ok (.aaload, 1) := dk_50 (dk_at dksX1_scale_2 8 rfl rfl)
theorem dX1_scale_56 : decode cX1_scale 56 = .ok (.invokevirtual 403, 3) := dk_182 1 147 (dk_at dksX1_scale_2 9 rfl rfl)
theorem dX1_scale_59 : decode cX1_scale 59 = .ok (.checkcast 27, 3) := dk_192 0 27 (dk_at dksX1_scale_2 12 rfl rfl)
theorem dX1_scale_62 : decode cX1_scale 62 = .ok (.astore 4, 2) := dk_58 4 (dk_at dksX1_scale_2 15 rfl rfl)
theorem dX1_scale_64 : decode cX1_scale 64 = .ok (.iconst 0, 1) := dk_3 (dk_at dksX1_scale_2 17 rfl rfl)
theorem dX1_scale_65 : decode cX1_scale 65 = .ok (.istore 5, 2) := dk_54 5 (dk_at dksX1_scale_2 18 rfl rfl)
theorem dX1_scale_67 : decode cX1_scale 67 = .ok (.iconst 0, 1) := dk_3 (dk_at dksX1_scale_2 20 rfl rfl)
theorem dX1_scale_68 : decode cX1_scale 68 = .ok (.istore 6, 2) := dk_54 6 (dk_at dksX1_scale_2 21 rfl rfl)
theorem dX1_scale_70 : decode cX1_scale 70 = .ok (.iload 6, 2) := dk_21 6 (dk_at dksX1_scale_3 0 rfl rfl)
theorem dX1_scale_72 : decode cX1_scale 72 = .ok (.aload 4, 2) := dk_25 4 (dk_at dksX1_scale_3 2 rfl rfl)
theorem dX1_scale_74 : decode cX1_scale 74 = .ok (.arraylength, 1) := dk_190 (dk_at dksX1_scale_3 4 rfl rfl)
theorem dX1_scale_75 : decode cX1_scale 75 = .ok (.if_icmp .ge 46, 3) := dk_162 0 46 (dk_at dksX1_scale_3 5 rfl rfl)
theorem dX1_scale_78 : decode cX1_scale 78 = .ok (.aload 4, 2) := dk_25 4 (dk_at dksX1_scale_3 8 rfl rfl)
theorem dX1_scale_80 : decode cX1_scale 80 = .ok (.iload 6, 2) := dk_21 6 (dk_at dksX1_scale_3 10 rfl rfl)
theorem dX1_scale_82 : decode cX1_scale 82 = .ok (.aload 4, 2) := dk_25 4 (dk_at dksX1_scale_3 12 rfl rfl)
theorem dX1_scale_84 : decode cX1_scale 84 = .ok (.iload 6, 2) := dk_21 6 (dk_at dksX1_scale_3 14 rfl rfl)
theorem dX1_scale_86 : decode cX1_scale 86 = .ok (.faload, 1) := dk_48 (dk_at dksX1_scale_3 16 rfl rfl)
theorem dX1_scale_87 : decode cX1_scale 87 = .ok (.iload_n 3, 1) := dk_29 (dk_at dksX1_scale_3 17 rfl rfl)
theorem dX1_scale_88 : decode cX1_scale 88 = .ok (.i2f, 1) := dk_134 (dk_at dksX1_scale_3 18 rfl rfl)
theorem dX1_scale_89 : decode cX1_scale 89 = .ok (.fmul, 1) := dk_106 (dk_at dksX1_scale_3 19 rfl rfl)
theorem dX1_scale_90 : decode cX1_scale 90 = .ok (.ldc_w 406, 3) := dk_19 1 150 (dk_at dksX1_scale_3 20 rfl rfl)
theorem dX1_scale_93 : decode cX1_scale 93 = .ok (.fdiv, 1) := dk_110 (dk_at dksX1_scale_3 23 rfl rfl)
theorem dX1_scale_94 : decode cX1_scale 94 = .ok (.fastore, 1) := dk_81 (dk_at dksX1_scale_4 0 rfl rfl)
theorem dX1_scale_95 : decode cX1_scale 95 = .ok (.iload 5, 2) := dk_21 5 (dk_at dksX1_scale_4 1 rfl rfl)
theorem dX1_scale_97 : decode cX1_scale 97 = .ok (.aload 4, 2) := dk_25 4 (dk_at dksX1_scale_4 3 rfl rfl)
theorem dX1_scale_99 : decode cX1_scale 99 = .ok (.iload 6, 2) := dk_21 6 (dk_at dksX1_scale_4 5 rfl rfl)
theorem dX1_scale_101 : decode cX1_scale 101 = .ok (.faload, 1) := dk_48 (dk_at dksX1_scale_4 7 rfl rfl)
theorem dX1_scale_102 : decode cX1_scale 102 = .ok (.fconst 1, 1) := dk_12 (dk_at dksX1_scale_4 8 rfl rfl)
theorem dX1_scale_103 : decode cX1_scale 103 = .ok (.fcmp .l, 1) := dk_149 (dk_at dksX1_scale_4 9 rfl rfl)
theorem dX1_scale_104 : decode cX1_scale 104 = .ok (.ifCond .le 7, 3) := dk_158 0 7 (dk_at dksX1_scale_4 10 rfl rfl)
theorem dX1_scale_107 : decode cX1_scale 107 = .ok (.iconst 1, 1) := dk_4 (dk_at dksX1_scale_4 13 rfl rfl)
theorem dX1_scale_108 : decode cX1_scale 108 = .ok (.goto 4, 3) := dk_167 0 4 (dk_at dksX1_scale_4 14 rfl rfl)
theorem dX1_scale_111 : decode cX1_scale 111 = .ok (.iconst 0, 1) := dk_3 (dk_at dksX1_scale_4 17 rfl rfl)
theorem dX1_scale_112 : decode cX1_scale 112 = .ok (.iadd, 1) := dk_96 (dk_at dksX1_scale_4 18 rfl rfl)
theorem dX1_scale_113 : decode cX1_scale 113 = .ok (.istore 5, 2) := dk_54 5 (dk_at dksX1_scale_4 19 rfl rfl)
theorem dX1_scale_115 : decode cX1_scale 115 = .ok (.iinc 6 1, 3) := dk_132 6 1 (dk_at dksX1_scale_4 21 rfl rfl)
theorem dX1_scale_118 : decode cX1_scale 118 = .ok (.goto (-48), 3) := dk_167 255 208 (dk_at dksX1_scale_5 0 rfl rfl)
theorem dX1_scale_121 : decode cX1_scale 121 = .ok (.aload_n 0, 1) := dk_42 (dk_at dksX1_scale_5 3 rfl rfl)
theorem dX1_scale_122 : decode cX1_scale 122 = .ok (.getfield 29, 3) := dk_180 0 29 (dk_at dksX1_scale_5 4 rfl rfl)
theorem dX1_scale_125 : decode cX1_scale 125 = .ok (.iload_n 2, 1) := dk_28 (dk_at dksX1_scale_5 7 rfl rfl)
theorem dX1_scale_126 : decode cX1_scale 126 = .ok (.aload 4, 2) := dk_25 4 (dk_at dksX1_scale_5 8 rfl rfl)
theorem dX1_scale_128 : decode cX1_scale 128 = .ok (.aastore, 1) := dk_83 (dk_at dksX1_scale_5 10 rfl rfl)
theorem dX1_scale_129 : decode cX1_scale 129 = .ok (.iload 5, 2) := dk_21 5 (dk_at dksX1_scale_5 11 rfl rfl)
theorem dX1_scale_131 : decode cX1_scale 131 = .ok (.ireturn, 1) := dk_172 (dk_at dksX1_scale_5 13 rfl rfl)
abbrev cX1_element : ByteArray := prog_1_method_45_code
def yX1_element : MethodName := ⟨RX1, "element", "(II)I"⟩
def dkwX1_element_2 : List UInt8 := [48, 184, 1, 151, 172]
abbrev dktX1_element_2 : List UInt8 := dkwX1_element_2 ++ []
def dkwX1_element_1 : List UInt8 := [28, 3, 42, 180, 0, 29, 27, 50, 190, 4, 100, 184, 0, 104, 184, 1, 66, 42, 180, 0, 29, 27, 50, 28]
abbrev dktX1_element_1 : List UInt8 := dkwX1_element_1 ++ dktX1_element_2
def dkwX1_element_0 : List UInt8 := [27, 184, 1, 138, 184, 0, 169, 42, 180, 0, 29, 27, 50, 198, 0, 7, 4, 167, 0, 4, 3, 184, 0, 119]
abbrev dktX1_element_0 : List UInt8 := dkwX1_element_0 ++ dktX1_element_1
theorem dksX1_element_0 : cX1_element.data.toList.drop 0 = dktX1_element_0 := by decide +kernel
theorem dksX1_element_1 : cX1_element.data.toList.drop 24 = dktX1_element_1 := dk_seg dksX1_element_0 24 rfl rfl
theorem dksX1_element_2 : cX1_element.data.toList.drop 48 = dktX1_element_2 := dk_seg dksX1_element_1 24 rfl rfl
theorem dX1_element_0 : decode cX1_element 0 = .ok (.iload_n 1, 1) := dk_27 (dk_at dksX1_element_0 0 rfl rfl)
theorem dX1_element_1 : decode cX1_element 1 = .ok (.invokestatic 394, 3) := dk_184 1 138 (dk_at dksX1_element_0 1 rfl rfl)
theorem dX1_element_4 : decode cX1_element 4 = .ok (.invokestatic 169, 3) := dk_184 0 169 (dk_at dksX1_element_0 4 rfl rfl)
theorem dX1_element_7 : decode cX1_element 7 = .ok (.aload_n 0, 1) := dk_42 (dk_at dksX1_element_0 7 rfl rfl)
theorem dX1_element_8 : decode cX1_element 8 = .ok (.getfield 29, 3) := dk_180 0 29 (dk_at dksX1_element_0 8 rfl rfl)
theorem dX1_element_11 : decode cX1_element 11 = .ok (.iload_n 1, 1) := dk_27 (dk_at dksX1_element_0 11 rfl rfl)
theorem dX1_element_12 : decode cX1_element 12 = .ok (.aaload, 1) := dk_50 (dk_at dksX1_element_0 12 rfl rfl)
theorem dX1_element_13 : decode cX1_element 13 = .ok (.ifnull 7, 3) := dk_198 0 7 (dk_at dksX1_element_0 13 rfl rfl)
theorem dX1_element_16 : decode cX1_element 16 = .ok (.iconst 1, 1) := dk_4 (dk_at dksX1_element_0 16 rfl rfl)
theorem dX1_element_17 : decode cX1_element 17 = .ok (.goto 4, 3) := dk_167 0 4 (dk_at dksX1_element_0 17 rfl rfl)
theorem dX1_element_20 : decode cX1_element 20 = .ok (.iconst 0, 1) := dk_3 (dk_at dksX1_element_0 20 rfl rfl)
theorem dX1_element_21 : decode cX1_element 21 = .ok (.invokestatic 119, 3) := dk_184 0 119 (dk_at dksX1_element_0 21 rfl rfl)
theorem dX1_element_24 : decode cX1_element 24 = .ok (.iload_n 2, 1) := dk_28 (dk_at dksX1_element_1 0 rfl rfl)
theorem dX1_element_25 : decode cX1_element 25 = .ok (.iconst 0, 1) := dk_3 (dk_at dksX1_element_1 1 rfl rfl)
theorem dX1_element_26 : decode cX1_element 26 = .ok (.aload_n 0, 1) := dk_42 (dk_at dksX1_element_1 2 rfl rfl)
theorem dX1_element_27 : decode cX1_element 27 = .ok (.getfield 29, 3) := dk_180 0 29 (dk_at dksX1_element_1 3 rfl rfl)
theorem dX1_element_30 : decode cX1_element 30 = .ok (.iload_n 1, 1) := dk_27 (dk_at dksX1_element_1 6 rfl rfl)
theorem dX1_element_31 : decode cX1_element 31 = .ok (.aaload, 1) := dk_50 (dk_at dksX1_element_1 7 rfl rfl)
theorem dX1_element_32 : decode cX1_element 32 = .ok (.arraylength, 1) := dk_190 (dk_at dksX1_element_1 8 rfl rfl)
theorem dX1_element_33 : decode cX1_element 33 = .ok (.iconst 1, 1) := dk_4 (dk_at dksX1_element_1 9 rfl rfl)
theorem dX1_element_34 : decode cX1_element 34 = .ok (.isub, 1) := dk_100 (dk_at dksX1_element_1 10 rfl rfl)
theorem dX1_element_35 : decode cX1_element 35 = .ok (.invokestatic 104, 3) := dk_184 0 104 (dk_at dksX1_element_1 11 rfl rfl)
theorem dX1_element_38 : decode cX1_element 38 = .ok (.invokestatic 322, 3) := dk_184 1 66 (dk_at dksX1_element_1 14 rfl rfl)
theorem dX1_element_41 : decode cX1_element 41 = .ok (.aload_n 0, 1) := dk_42 (dk_at dksX1_element_1 17 rfl rfl)
theorem dX1_element_42 : decode cX1_element 42 = .ok (.getfield 29, 3) := dk_180 0 29 (dk_at dksX1_element_1 18 rfl rfl)
theorem dX1_element_45 : decode cX1_element 45 = .ok (.iload_n 1, 1) := dk_27 (dk_at dksX1_element_1 21 rfl rfl)
theorem dX1_element_46 : decode cX1_element 46 = .ok (.aaload, 1) := dk_50 (dk_at dksX1_element_1 22 rfl rfl)
theorem dX1_element_47 : decode cX1_element 47 = .ok (.iload_n 2, 1) := dk_28 (dk_at dksX1_element_1 23 rfl rfl)
theorem dX1_element_48 : decode cX1_element 48 = .ok (.faload, 1) := dk_48 (dk_at dksX1_element_2 0 rfl rfl)
theorem dX1_element_49 : decode cX1_element 49 = .ok (.invokestatic 407, 3) := dk_184 1 151 (dk_at dksX1_element_2 1 rfl rfl)
theorem dX1_element_52 : decode cX1_element 52 = .ok (.ireturn, 1) := dk_172 (dk_at dksX1_element_2 4 rfl rfl)
abbrev cX1_rack : ByteArray := prog_1_method_48_code
def yX1_rack : MethodName := ⟨RX1, "rack", "(I)I"⟩
def dkwX1_rack_0 : List UInt8 := [27, 3, 7, 184, 0, 104, 184, 0, 108, 42, 182, 1, 157, 61, 42, 27, 184, 1, 160, 181, 0, 35, 28, 172]
abbrev dktX1_rack_0 : List UInt8 := dkwX1_rack_0 ++ []
theorem dksX1_rack_0 : cX1_rack.data.toList.drop 0 = dktX1_rack_0 := by decide +kernel
theorem dX1_rack_0 : decode cX1_rack 0 = .ok (.iload_n 1, 1) := dk_27 (dk_at dksX1_rack_0 0 rfl rfl)
theorem dX1_rack_1 : decode cX1_rack 1 = .ok (.iconst 0, 1) := dk_3 (dk_at dksX1_rack_0 1 rfl rfl)
theorem dX1_rack_2 : decode cX1_rack 2 = .ok (.iconst 4, 1) := dk_7 (dk_at dksX1_rack_0 2 rfl rfl)
theorem dX1_rack_3 : decode cX1_rack 3 = .ok (.invokestatic 104, 3) := dk_184 0 104 (dk_at dksX1_rack_0 3 rfl rfl)
theorem dX1_rack_6 : decode cX1_rack 6 = .ok (.invokestatic 108, 3) := dk_184 0 108 (dk_at dksX1_rack_0 6 rfl rfl)
theorem dX1_rack_9 : decode cX1_rack 9 = .ok (.aload_n 0, 1) := dk_42 (dk_at dksX1_rack_0 9 rfl rfl)
theorem dX1_rack_10 : decode cX1_rack 10 = .ok (.invokevirtual 413, 3) := dk_182 1 157 (dk_at dksX1_rack_0 10 rfl rfl)
theorem dX1_rack_13 : decode cX1_rack 13 = .ok (.istore_n 2, 1) := dk_61 (dk_at dksX1_rack_0 13 rfl rfl)
theorem dX1_rack_14 : decode cX1_rack 14 = .ok (.aload_n 0, 1) := dk_42 (dk_at dksX1_rack_0 14 rfl rfl)
theorem dX1_rack_15 : decode cX1_rack 15 = .ok (.iload_n 1, 1) := dk_27 (dk_at dksX1_rack_0 15 rfl rfl)
theorem dX1_rack_16 : decode cX1_rack 16 = .ok (.invokestatic 416, 3) := dk_184 1 160 (dk_at dksX1_rack_0 16 rfl rfl)
theorem dX1_rack_19 : decode cX1_rack 19 = .ok (.putfield 35, 3) := dk_181 0 35 (dk_at dksX1_rack_0 19 rfl rfl)
theorem dX1_rack_22 : decode cX1_rack 22 = .ok (.iload_n 2, 1) := dk_28 (dk_at dksX1_rack_0 22 rfl rfl)
theorem dX1_rack_23 : decode cX1_rack 23 = .ok (.ireturn, 1) := dk_172 (dk_at dksX1_rack_0 23 rfl rfl)
abbrev cX1_racked : ByteArray := prog_1_method_47_code
def yX1_racked : MethodName := ⟨RX1, "racked", "()I"⟩
def dkwX1_racked_1 : List UInt8 := [58, 5, 27, 25, 5, 199, 0, 7, 3, 167, 0, 4, 4, 96, 60, 132, 4, 1, 167, 255, 228, 27, 172]
abbrev dktX1_racked_1 : List UInt8 := dkwX1_racked_1 ++ []
def dkwX1_racked_0 : List UInt8 := [3, 60, 42, 180, 0, 35, 77, 44, 190, 62, 3, 54, 4, 21, 4, 29, 162, 0, 28, 44, 21, 4, 50]
abbrev dktX1_racked_0 : List UInt8 := dkwX1_racked_0 ++ dktX1_racked_1
theorem dksX1_racked_0 : cX1_racked.data.toList.drop 0 = dktX1_racked_0 := by decide +kernel
theorem dksX1_racked_1 : cX1_racked.data.toList.drop 23 = dktX1_racked_1 := dk_seg dksX1_racked_0 23 rfl rfl
theorem dX1_racked_0 : decode cX1_racked 0 = .ok (.iconst 0, 1) := dk_3 (dk_at dksX1_racked_0 0 rfl rfl)
theorem dX1_racked_1 : decode cX1_racked 1 = .ok (.istore_n 1, 1) := dk_60 (dk_at dksX1_racked_0 1 rfl rfl)
theorem dX1_racked_2 : decode cX1_racked 2 = .ok (.aload_n 0, 1) := dk_42 (dk_at dksX1_racked_0 2 rfl rfl)
theorem dX1_racked_3 : decode cX1_racked 3 = .ok (.getfield 35, 3) := dk_180 0 35 (dk_at dksX1_racked_0 3 rfl rfl)
theorem dX1_racked_6 : decode cX1_racked 6 = .ok (.astore_n 2, 1) := dk_77 (dk_at dksX1_racked_0 6 rfl rfl)
theorem dX1_racked_7 : decode cX1_racked 7 = .ok (.aload_n 2, 1) := dk_44 (dk_at dksX1_racked_0 7 rfl rfl)
theorem dX1_racked_8 : decode cX1_racked 8 = .ok (.arraylength, 1) := dk_190 (dk_at dksX1_racked_0 8 rfl rfl)
theorem dX1_racked_9 : decode cX1_racked 9 = .ok (.istore_n 3, 1) := dk_62 (dk_at dksX1_racked_0 9 rfl rfl)
theorem dX1_racked_10 : decode cX1_racked 10 = .ok (.iconst 0, 1) := dk_3 (dk_at dksX1_racked_0 10 rfl rfl)
theorem dX1_racked_11 : decode cX1_racked 11 = .ok (.istore 4, 2) := dk_54 4 (dk_at dksX1_racked_0 11 rfl rfl)
theorem dX1_racked_13 : decode cX1_racked 13 = .ok (.iload 4, 2) := dk_21 4 (dk_at dksX1_racked_0 13 rfl rfl)
theorem dX1_racked_15 : decode cX1_racked 15 = .ok (.iload_n 3, 1) := dk_29 (dk_at dksX1_racked_0 15 rfl rfl)
theorem dX1_racked_16 : decode cX1_racked 16 = .ok (.if_icmp .ge 28, 3) := dk_162 0 28 (dk_at dksX1_racked_0 16 rfl rfl)
theorem dX1_racked_19 : decode cX1_racked 19 = .ok (.aload_n 2, 1) := dk_44 (dk_at dksX1_racked_0 19 rfl rfl)
theorem dX1_racked_20 : decode cX1_racked 20 = .ok (.iload 4, 2) := dk_21 4 (dk_at dksX1_racked_0 20 rfl rfl)
theorem dX1_racked_22 : decode cX1_racked 22 = .ok (.aaload, 1) := dk_50 (dk_at dksX1_racked_0 22 rfl rfl)
theorem dX1_racked_23 : decode cX1_racked 23 = .ok (.astore 5, 2) := dk_58 5 (dk_at dksX1_racked_1 0 rfl rfl)
theorem dX1_racked_25 : decode cX1_racked 25 = .ok (.iload_n 1, 1) := dk_27 (dk_at dksX1_racked_1 2 rfl rfl)
theorem dX1_racked_26 : decode cX1_racked 26 = .ok (.aload 5, 2) := dk_25 5 (dk_at dksX1_racked_1 3 rfl rfl)
theorem dX1_racked_28 : decode cX1_racked 28 = .ok (.ifnonnull 7, 3) := dk_199 0 7 (dk_at dksX1_racked_1 5 rfl rfl)
theorem dX1_racked_31 : decode cX1_racked 31 = .ok (.iconst 0, 1) := dk_3 (dk_at dksX1_racked_1 8 rfl rfl)
theorem dX1_racked_32 : decode cX1_racked 32 = .ok (.goto 4, 3) := dk_167 0 4 (dk_at dksX1_racked_1 9 rfl rfl)
theorem dX1_racked_35 : decode cX1_racked 35 = .ok (.iconst 1, 1) := dk_4 (dk_at dksX1_racked_1 12 rfl rfl)
theorem dX1_racked_36 : decode cX1_racked 36 = .ok (.iadd, 1) := dk_96 (dk_at dksX1_racked_1 13 rfl rfl)
theorem dX1_racked_37 : decode cX1_racked 37 = .ok (.istore_n 1, 1) := dk_60 (dk_at dksX1_racked_1 14 rfl rfl)
theorem dX1_racked_38 : decode cX1_racked 38 = .ok (.iinc 4 1, 3) := dk_132 4 1 (dk_at dksX1_racked_1 15 rfl rfl)
theorem dX1_racked_41 : decode cX1_racked 41 = .ok (.goto (-28), 3) := dk_167 255 228 (dk_at dksX1_racked_1 18 rfl rfl)
theorem dX1_racked_44 : decode cX1_racked 44 = .ok (.iload_n 1, 1) := dk_27 (dk_at dksX1_racked_1 21 rfl rfl)
theorem dX1_racked_45 : decode cX1_racked 45 = .ok (.ireturn, 1) := dk_172 (dk_at dksX1_racked_1 22 rfl rfl)
abbrev cX1_rackOf : ByteArray := prog_1_method_46_code
def yX1_rackOf : MethodName := ⟨RX1, "rackOf", "(I)[LCrumblingWall$Hold;"⟩
def dkwX1_rackOf_3 : List UInt8 := [16, 6, 189, 0, 89, 167, 0, 8, 16, 6, 189, 0, 33, 176]
abbrev dktX1_rackOf_3 : List UInt8 := dkwX1_rackOf_3 ++ []
def dkwX1_rackOf_2 : List UInt8 := [16, 6, 189, 0, 78, 167, 0, 32, 16, 6, 189, 0, 83, 167, 0, 24, 16, 6, 189, 0, 86, 167, 0, 16]
abbrev dktX1_rackOf_2 : List UInt8 := dkwX1_rackOf_2 ++ dktX1_rackOf_3
def dkwX1_rackOf_1 : List UInt8 := [170, 0, 0, 0, 0, 0, 63, 0, 0, 0, 0, 0, 0, 0, 3, 0, 0, 0, 31, 0, 0, 0, 39, 0, 0, 0, 47, 0, 0, 0, 55]
abbrev dktX1_rackOf_1 : List UInt8 := dkwX1_rackOf_1 ++ dktX1_rackOf_2
def dkwX1_rackOf_0 : List UInt8 := [26]
abbrev dktX1_rackOf_0 : List UInt8 := dkwX1_rackOf_0 ++ dktX1_rackOf_1
theorem dksX1_rackOf_0 : cX1_rackOf.data.toList.drop 0 = dktX1_rackOf_0 := by decide +kernel
theorem dksX1_rackOf_1 : cX1_rackOf.data.toList.drop 1 = dktX1_rackOf_1 := dk_seg dksX1_rackOf_0 1 rfl rfl
theorem dksX1_rackOf_2 : cX1_rackOf.data.toList.drop 32 = dktX1_rackOf_2 := dk_seg dksX1_rackOf_1 31 rfl rfl
theorem dksX1_rackOf_3 : cX1_rackOf.data.toList.drop 56 = dktX1_rackOf_3 := dk_seg dksX1_rackOf_2 24 rfl rfl
theorem dX1_rackOf_0 : decode cX1_rackOf 0 = .ok (.iload_n 0, 1) := dk_26 (dk_at dksX1_rackOf_0 0 rfl rfl)
theorem dX1_rackOf_1 : decode cX1_rackOf 1 = .ok (.tableswitch 63 0 3 #[31, 39, 47, 55], 31) := by decide +kernel
theorem dX1_rackOf_32 : decode cX1_rackOf 32 = .ok (.bipush 6, 2) := dk_16 6 (dk_at dksX1_rackOf_2 0 rfl rfl)
theorem dX1_rackOf_34 : decode cX1_rackOf 34 = .ok (.anewarray 78, 3) := dk_189 0 78 (dk_at dksX1_rackOf_2 2 rfl rfl)
theorem dX1_rackOf_37 : decode cX1_rackOf 37 = .ok (.goto 32, 3) := dk_167 0 32 (dk_at dksX1_rackOf_2 5 rfl rfl)
theorem dX1_rackOf_40 : decode cX1_rackOf 40 = .ok (.bipush 6, 2) := dk_16 6 (dk_at dksX1_rackOf_2 8 rfl rfl)
theorem dX1_rackOf_42 : decode cX1_rackOf 42 = .ok (.anewarray 83, 3) := dk_189 0 83 (dk_at dksX1_rackOf_2 10 rfl rfl)
theorem dX1_rackOf_45 : decode cX1_rackOf 45 = .ok (.goto 24, 3) := dk_167 0 24 (dk_at dksX1_rackOf_2 13 rfl rfl)
theorem dX1_rackOf_48 : decode cX1_rackOf 48 = .ok (.bipush 6, 2) := dk_16 6 (dk_at dksX1_rackOf_2 16 rfl rfl)
theorem dX1_rackOf_50 : decode cX1_rackOf 50 = .ok (.anewarray 86, 3) := dk_189 0 86 (dk_at dksX1_rackOf_2 18 rfl rfl)
theorem dX1_rackOf_53 : decode cX1_rackOf 53 = .ok (.goto 16, 3) := dk_167 0 16 (dk_at dksX1_rackOf_2 21 rfl rfl)
theorem dX1_rackOf_56 : decode cX1_rackOf 56 = .ok (.bipush 6, 2) := dk_16 6 (dk_at dksX1_rackOf_3 0 rfl rfl)
theorem dX1_rackOf_58 : decode cX1_rackOf 58 = .ok (.anewarray 89, 3) := dk_189 0 89 (dk_at dksX1_rackOf_3 2 rfl rfl)
theorem dX1_rackOf_61 : decode cX1_rackOf 61 = .ok (.goto 8, 3) := dk_167 0 8 (dk_at dksX1_rackOf_3 5 rfl rfl)
theorem dX1_rackOf_64 : decode cX1_rackOf 64 = .ok (.bipush 6, 2) := dk_16 6 (dk_at dksX1_rackOf_3 8 rfl rfl)
theorem dX1_rackOf_66 : decode cX1_rackOf 66 = .ok (.anewarray 33, 3) := dk_189 0 33 (dk_at dksX1_rackOf_3 10 rfl rfl)
theorem dX1_rackOf_69 : decode cX1_rackOf 69 = .ok (.areturn, 1) := dk_176 (dk_at dksX1_rackOf_3 13 rfl rfl)
abbrev cX1_note : ByteArray := prog_1_method_49_code
def yX1_note : MethodName := ⟨RX1, "note", "(II)I"⟩
def dkwX1_note_3 : List UInt8 := [192, 0, 33, 182, 0, 182, 183, 0, 75, 182, 0, 126, 191]
abbrev dktX1_note_3 : List UInt8 := dkwX1_note_3 ++ []
def dkwX1_note_2 : List UInt8 := [42, 182, 1, 157, 172, 78, 42, 187, 0, 63, 89, 16, 18, 42, 180, 0, 12, 180, 0, 112, 28, 182, 0, 172]
abbrev dktX1_note_2 : List UInt8 := dkwX1_note_2 ++ dktX1_note_3
def dkwX1_note_1 : List UInt8 := [3, 184, 0, 169, 42, 180, 0, 35, 27, 42, 180, 0, 12, 180, 0, 112, 28, 182, 0, 172, 192, 0, 33, 83]
abbrev dktX1_note_1 : List UInt8 := dkwX1_note_1 ++ dktX1_note_2
def dkwX1_note_0 : List UInt8 := [27, 3, 8, 184, 0, 104, 153, 0, 18, 42, 180, 0, 12, 28, 182, 0, 165, 153, 0, 7, 4, 167, 0, 4]
abbrev dktX1_note_0 : List UInt8 := dkwX1_note_0 ++ dktX1_note_1
theorem dksX1_note_0 : cX1_note.data.toList.drop 0 = dktX1_note_0 := by decide +kernel
theorem dksX1_note_1 : cX1_note.data.toList.drop 24 = dktX1_note_1 := dk_seg dksX1_note_0 24 rfl rfl
theorem dksX1_note_2 : cX1_note.data.toList.drop 48 = dktX1_note_2 := dk_seg dksX1_note_1 24 rfl rfl
theorem dksX1_note_3 : cX1_note.data.toList.drop 72 = dktX1_note_3 := dk_seg dksX1_note_2 24 rfl rfl
theorem dX1_note_0 : decode cX1_note 0 = .ok (.iload_n 1, 1) := dk_27 (dk_at dksX1_note_0 0 rfl rfl)
theorem dX1_note_1 : decode cX1_note 1 = .ok (.iconst 0, 1) := dk_3 (dk_at dksX1_note_0 1 rfl rfl)
theorem dX1_note_2 : decode cX1_note 2 = .ok (.iconst 5, 1) := dk_8 (dk_at dksX1_note_0 2 rfl rfl)
theorem dX1_note_3 : decode cX1_note 3 = .ok (.invokestatic 104, 3) := dk_184 0 104 (dk_at dksX1_note_0 3 rfl rfl)
theorem dX1_note_6 : decode cX1_note 6 = .ok (.ifCond .eq 18, 3) := dk_153 0 18 (dk_at dksX1_note_0 6 rfl rfl)
theorem dX1_note_9 : decode cX1_note 9 = .ok (.aload_n 0, 1) := dk_42 (dk_at dksX1_note_0 9 rfl rfl)
theorem dX1_note_10 : decode cX1_note 10 = .ok (.getfield 12, 3) := dk_180 0 12 (dk_at dksX1_note_0 10 rfl rfl)
theorem dX1_note_13 : decode cX1_note 13 = .ok (.iload_n 2, 1) := dk_28 (dk_at dksX1_note_0 13 rfl rfl)
theorem dX1_note_14 : decode cX1_note 14 = .ok (.invokevirtual 165, 3) := dk_182 0 165 (dk_at dksX1_note_0 14 rfl rfl)
theorem dX1_note_17 : decode cX1_note 17 = .ok (.ifCond .eq 7, 3) := dk_153 0 7 (dk_at dksX1_note_0 17 rfl rfl)
theorem dX1_note_20 : decode cX1_note 20 = .ok (.iconst 1, 1) := dk_4 (dk_at dksX1_note_0 20 rfl rfl)
theorem dX1_note_21 : decode cX1_note 21 = .ok (.goto 4, 3) := dk_167 0 4 (dk_at dksX1_note_0 21 rfl rfl)
theorem dX1_note_24 : decode cX1_note 24 = .ok (.iconst 0, 1) := dk_3 (dk_at dksX1_note_1 0 rfl rfl)
theorem dX1_note_25 : decode cX1_note 25 = .ok (.invokestatic 169, 3) := dk_184 0 169 (dk_at dksX1_note_1 1 rfl rfl)
theorem dX1_note_28 : decode cX1_note 28 = .ok (.aload_n 0, 1) := dk_42 (dk_at dksX1_note_1 4 rfl rfl)
theorem dX1_note_29 : decode cX1_note 29 = .ok (.getfield 35, 3) := dk_180 0 35 (dk_at dksX1_note_1 5 rfl rfl)
theorem dX1_note_32 : decode cX1_note 32 = .ok (.iload_n 1, 1) := dk_27 (dk_at dksX1_note_1 8 rfl rfl)
theorem dX1_note_33 : decode cX1_note 33 = .ok (.aload_n 0, 1) := dk_42 (dk_at dksX1_note_1 9 rfl rfl)
theorem dX1_note_34 : decode cX1_note 34 = .ok (.getfield 12, 3) := dk_180 0 12 (dk_at dksX1_note_1 10 rfl rfl)
theorem dX1_note_37 : decode cX1_note 37 = .ok (.getfield 112, 3) := dk_180 0 112 (dk_at dksX1_note_1 13 rfl rfl)
theorem dX1_note_40 : decode cX1_note 40 = .ok (.iload_n 2, 1) := dk_28 (dk_at dksX1_note_1 16 rfl rfl)
theorem dX1_note_41 : decode cX1_note 41 = .ok (.invokevirtual 172, 3) := dk_182 0 172 (dk_at dksX1_note_1 17 rfl rfl)
theorem dX1_note_44 : decode cX1_note 44 = .ok (.checkcast 33, 3) := dk_192 0 33 (dk_at dksX1_note_1 20 rfl rfl)
theorem dX1_note_47 : decode cX1_note 47 = .ok (.aastore, 1) := dk_83 (dk_at dksX1_note_1 23 rfl rfl)
theorem dX1_note_48 : decode cX1_note 48 = .ok (.aload_n 0, 1) := dk_42 (dk_at dksX1_note_2 0 rfl rfl)
theorem dX1_note_49 : decode cX1_note 49 = .ok (.invokevirtual 413, 3) := dk_182 1 157 (dk_at dksX1_note_2 1 rfl rfl)
theorem dX1_note_52 : decode cX1_note 52 = .ok (.ireturn, 1) := dk_172 (dk_at dksX1_note_2 4 rfl rfl)
theorem dX1_note_53 : decode cX1_note 53 = .ok (.astore_n 3, 1) := dk_78 (dk_at dksX1_note_2 5 rfl rfl)
theorem dX1_note_54 : decode cX1_note 54 = .ok (.aload_n 0, 1) := dk_42 (dk_at dksX1_note_2 6 rfl rfl)
theorem dX1_note_55 : decode cX1_note 55 = .ok (.new 63, 3) := dk_187 0 63 (dk_at dksX1_note_2 7 rfl rfl)
theorem dX1_note_58 : decode cX1_note 58 = .ok (.dup, 1) := dk_89 (dk_at dksX1_note_2 10 rfl rfl)
theorem dX1_note_59 : decode cX1_note 59 = .ok (.bipush 18, 2) := dk_16 18 (dk_at dksX1_note_2 11 rfl rfl)
theorem dX1_note_61 : decode cX1_note 61 = .ok (.aload_n 0, 1) := dk_42 (dk_at dksX1_note_2 13 rfl rfl)
theorem dX1_note_62 : decode cX1_note 62 = .ok (.getfield 12, 3) := dk_180 0 12 (dk_at dksX1_note_2 14 rfl rfl)
theorem dX1_note_65 : decode cX1_note 65 = .ok (.getfield 112, 3) := dk_180 0 112 (dk_at dksX1_note_2 17 rfl rfl)
theorem dX1_note_68 : decode cX1_note 68 = .ok (.iload_n 2, 1) := dk_28 (dk_at dksX1_note_2 20 rfl rfl)
theorem dX1_note_69 : decode cX1_note 69 = .ok (.invokevirtual 172, 3) := dk_182 0 172 (dk_at dksX1_note_2 21 rfl rfl)
theorem dX1_note_72 : decode cX1_note 72 = .ok (.checkcast 33, 3) := dk_192 0 33 (dk_at dksX1_note_3 0 rfl rfl)
theorem dX1_note_75 : decode cX1_note 75 = .ok (.invokevirtual 182, 3) := dk_182 0 182 (dk_at dksX1_note_3 3 rfl rfl)
theorem dX1_note_78 : decode cX1_note 78 = .ok (.invokespecial 75, 3) := dk_183 0 75 (dk_at dksX1_note_3 6 rfl rfl)
theorem dX1_note_81 : decode cX1_note 81 = .ok (.invokevirtual 126, 3) := dk_182 0 126 (dk_at dksX1_note_3 9 rfl rfl)
theorem dX1_note_84 : decode cX1_note 84 = .ok (.athrow, 1) := dk_191 (dk_at dksX1_note_3 12 rfl rfl)
abbrev cX1_append : ByteArray := prog_1_method_51_code
def yX1_append : MethodName := ⟨RX1, "append", "(C)I"⟩
def dkwX1_append_1 : List UInt8 := [27, 182, 1, 174, 87, 42, 180, 0, 42, 182, 1, 172, 172]
abbrev dktX1_append_1 : List UInt8 := dkwX1_append_1 ++ []
def dkwX1_append_0 : List UInt8 := [42, 180, 0, 42, 182, 1, 172, 16, 60, 162, 0, 7, 4, 167, 0, 4, 3, 184, 0, 119, 42, 180, 0, 42]
abbrev dktX1_append_0 : List UInt8 := dkwX1_append_0 ++ dktX1_append_1
theorem dksX1_append_0 : cX1_append.data.toList.drop 0 = dktX1_append_0 := by decide +kernel
theorem dksX1_append_1 : cX1_append.data.toList.drop 24 = dktX1_append_1 := dk_seg dksX1_append_0 24 rfl rfl
theorem dX1_append_0 : decode cX1_append 0 = .ok (.aload_n 0, 1) := dk_42 (dk_at dksX1_append_0 0 rfl rfl)
theorem dX1_append_1 : decode cX1_append 1 = .ok (.getfield 42, 3) := dk_180 0 42 (dk_at dksX1_append_0 1 rfl rfl)
theorem dX1_append_4 : decode cX1_append 4 = .ok (.invokevirtual 428, 3) := dk_182 1 172 (dk_at dksX1_append_0 4 rfl rfl)
theorem dX1_append_7 : decode cX1_append 7 = .ok (.bipush 60, 2) := dk_16 60 (dk_at dksX1_append_0 7 rfl rfl)
theorem dX1_append_9 : decode cX1_append 9 = .ok (.if_icmp .ge 7, 3) := dk_162 0 7 (dk_at dksX1_append_0 9 rfl rfl)
theorem dX1_append_12 : decode cX1_append 12 = .ok (.iconst 1, 1) := dk_4 (dk_at dksX1_append_0 12 rfl rfl)
theorem dX1_append_13 : decode cX1_append 13 = .ok (.goto 4, 3) := dk_167 0 4 (dk_at dksX1_append_0 13 rfl rfl)
theorem dX1_append_16 : decode cX1_append 16 = .ok (.iconst 0, 1) := dk_3 (dk_at dksX1_append_0 16 rfl rfl)
theorem dX1_append_17 : decode cX1_append 17 = .ok (.invokestatic 119, 3) := dk_184 0 119 (dk_at dksX1_append_0 17 rfl rfl)
theorem dX1_append_20 : decode cX1_append 20 = .ok (.aload_n 0, 1) := dk_42 (dk_at dksX1_append_0 20 rfl rfl)
theorem dX1_append_21 : decode cX1_append 21 = .ok (.getfield 42, 3) := dk_180 0 42 (dk_at dksX1_append_0 21 rfl rfl)
theorem dX1_append_24 : decode cX1_append 24 = .ok (.iload_n 1, 1) := dk_27 (dk_at dksX1_append_1 0 rfl rfl)
theorem dX1_append_25 : decode cX1_append 25 = .ok (.invokevirtual 430, 3) := dk_182 1 174 (dk_at dksX1_append_1 1 rfl rfl)
theorem dX1_append_28 : decode cX1_append 28 = .ok (.pop, 1) := dk_87 (dk_at dksX1_append_1 4 rfl rfl)
theorem dX1_append_29 : decode cX1_append 29 = .ok (.aload_n 0, 1) := dk_42 (dk_at dksX1_append_1 5 rfl rfl)
theorem dX1_append_30 : decode cX1_append 30 = .ok (.getfield 42, 3) := dk_180 0 42 (dk_at dksX1_append_1 6 rfl rfl)
theorem dX1_append_33 : decode cX1_append 33 = .ok (.invokevirtual 428, 3) := dk_182 1 172 (dk_at dksX1_append_1 9 rfl rfl)
theorem dX1_append_36 : decode cX1_append 36 = .ok (.ireturn, 1) := dk_172 (dk_at dksX1_append_1 12 rfl rfl)
abbrev cX1_tries : ByteArray := prog_1_method_54_code
def yX1_tries : MethodName := ⟨RX1, "tries", "()I"⟩
def dkwX1_tries_2 : List UInt8 := [132, 3, 1, 167, 255, 229, 29, 172, 58, 4, 29, 172]
abbrev dktX1_tries_2 : List UInt8 := dkwX1_tries_2 ++ []
def dkwX1_tries_1 : List UInt8 := [185, 1, 209, 1, 0, 153, 0, 23, 44, 25, 4, 185, 1, 214, 1, 0, 192, 1, 194, 184, 1, 217]
abbrev dktX1_tries_1 : List UInt8 := dkwX1_tries_1 ++ dktX1_tries_2
def dkwX1_tries_0 : List UInt8 := [42, 182, 1, 202, 76, 42, 180, 0, 12, 182, 0, 130, 77, 3, 62, 43, 182, 1, 205, 58, 4, 25, 4]
abbrev dktX1_tries_0 : List UInt8 := dkwX1_tries_0 ++ dktX1_tries_1
theorem dksX1_tries_0 : cX1_tries.data.toList.drop 0 = dktX1_tries_0 := by decide +kernel
theorem dksX1_tries_1 : cX1_tries.data.toList.drop 23 = dktX1_tries_1 := dk_seg dksX1_tries_0 23 rfl rfl
theorem dksX1_tries_2 : cX1_tries.data.toList.drop 45 = dktX1_tries_2 := dk_seg dksX1_tries_1 22 rfl rfl
theorem dX1_tries_0 : decode cX1_tries 0 = .ok (.aload_n 0, 1) := dk_42 (dk_at dksX1_tries_0 0 rfl rfl)
theorem dX1_tries_1 : decode cX1_tries 1 = .ok (.invokevirtual 458, 3) := dk_182 1 202 (dk_at dksX1_tries_0 1 rfl rfl)
theorem dX1_tries_4 : decode cX1_tries 4 = .ok (.astore_n 1, 1) := dk_76 (dk_at dksX1_tries_0 4 rfl rfl)
theorem dX1_tries_5 : decode cX1_tries 5 = .ok (.aload_n 0, 1) := dk_42 (dk_at dksX1_tries_0 5 rfl rfl)
theorem dX1_tries_6 : decode cX1_tries 6 = .ok (.getfield 12, 3) := dk_180 0 12 (dk_at dksX1_tries_0 6 rfl rfl)
theorem dX1_tries_9 : decode cX1_tries 9 = .ok (.invokevirtual 130, 3) := dk_182 0 130 (dk_at dksX1_tries_0 9 rfl rfl)
theorem dX1_tries_12 : decode cX1_tries 12 = .ok (.astore_n 2, 1) := dk_77 (dk_at dksX1_tries_0 12 rfl rfl)
theorem dX1_tries_13 : decode cX1_tries 13 = .ok (.iconst 0, 1) := dk_3 (dk_at dksX1_tries_0 13 rfl rfl)
theorem dX1_tries_14 : decode cX1_tries 14 = .ok (.istore_n 3, 1) := dk_62 (dk_at dksX1_tries_0 14 rfl rfl)
theorem dX1_tries_15 : decode cX1_tries 15 = .ok (.aload_n 1, 1) := dk_43 (dk_at dksX1_tries_0 15 rfl rfl)
theorem dX1_tries_16 : decode cX1_tries 16 = .ok (.invokevirtual 461, 3) := dk_182 1 205 (dk_at dksX1_tries_0 16 rfl rfl)
theorem dX1_tries_19 : decode cX1_tries 19 = .ok (.astore 4, 2) := dk_58 4 (dk_at dksX1_tries_0 19 rfl rfl)
theorem dX1_tries_21 : decode cX1_tries 21 = .ok (.aload 4, 2) := dk_25 4 (dk_at dksX1_tries_0 21 rfl rfl)
theorem dX1_tries_23 : decode cX1_tries 23 = .ok (.invokeinterface 465 1, 5) := by decide +kernel
theorem dX1_tries_28 : decode cX1_tries 28 = .ok (.ifCond .eq 23, 3) := dk_153 0 23 (dk_at dksX1_tries_1 5 rfl rfl)
theorem dX1_tries_31 : decode cX1_tries 31 = .ok (.aload_n 2, 1) := dk_44 (dk_at dksX1_tries_1 8 rfl rfl)
theorem dX1_tries_32 : decode cX1_tries 32 = .ok (.aload 4, 2) := dk_25 4 (dk_at dksX1_tries_1 9 rfl rfl)
theorem dX1_tries_34 : decode cX1_tries 34 = .ok (.invokeinterface 470 1, 5) := by decide +kernel
theorem dX1_tries_39 : decode cX1_tries 39 = .ok (.checkcast 450, 3) := dk_192 1 194 (dk_at dksX1_tries_1 16 rfl rfl)
theorem dX1_tries_42 : decode cX1_tries 42 = .ok (.invokestatic 473, 3) := dk_184 1 217 (dk_at dksX1_tries_1 19 rfl rfl)
theorem dX1_tries_45 : decode cX1_tries 45 = .ok (.iinc 3 1, 3) := dk_132 3 1 (dk_at dksX1_tries_2 0 rfl rfl)
theorem dX1_tries_48 : decode cX1_tries 48 = .ok (.goto (-27), 3) := dk_167 255 229 (dk_at dksX1_tries_2 3 rfl rfl)
theorem dX1_tries_51 : decode cX1_tries 51 = .ok (.iload_n 3, 1) := dk_29 (dk_at dksX1_tries_2 6 rfl rfl)
theorem dX1_tries_52 : decode cX1_tries 52 = .ok (.ireturn, 1) := dk_172 (dk_at dksX1_tries_2 7 rfl rfl)
theorem dX1_tries_53 : decode cX1_tries 53 = .ok (.astore 4, 2) := dk_58 4 (dk_at dksX1_tries_2 8 rfl rfl)
theorem dX1_tries_55 : decode cX1_tries 55 = .ok (.iload_n 3, 1) := dk_29 (dk_at dksX1_tries_2 10 rfl rfl)
theorem dX1_tries_56 : decode cX1_tries 56 = .ok (.ireturn, 1) := dk_172 (dk_at dksX1_tries_2 11 rfl rfl)
abbrev cX1_read : ByteArray := prog_1_method_52_code
def yX1_read : MethodName := ⟨RX1, "read", "()Ljava/util/LinkedList;"⟩
def dkwX1_read_2 : List UInt8 := [182, 1, 187, 44, 191]
abbrev dktX1_read_2 : List UInt8 := dkwX1_read_2 ++ []
def dkwX1_read_1 : List UInt8 := [176, 76, 42, 43, 180, 1, 192, 181, 0, 46, 187, 0, 53, 89, 183, 0, 55, 191, 77, 42, 180, 0, 42, 3]
abbrev dktX1_read_1 : List UInt8 := dkwX1_read_1 ++ dktX1_read_2
def dkwX1_read_0 : List UInt8 := [187, 1, 178, 89, 42, 180, 0, 42, 183, 1, 180, 182, 1, 183, 76, 42, 180, 0, 42, 3, 182, 1, 187, 43]
abbrev dktX1_read_0 : List UInt8 := dkwX1_read_0 ++ dktX1_read_1
theorem dksX1_read_0 : cX1_read.data.toList.drop 0 = dktX1_read_0 := by decide +kernel
theorem dksX1_read_1 : cX1_read.data.toList.drop 24 = dktX1_read_1 := dk_seg dksX1_read_0 24 rfl rfl
theorem dksX1_read_2 : cX1_read.data.toList.drop 48 = dktX1_read_2 := dk_seg dksX1_read_1 24 rfl rfl
theorem dX1_read_0 : decode cX1_read 0 = .ok (.new 434, 3) := dk_187 1 178 (dk_at dksX1_read_0 0 rfl rfl)
theorem dX1_read_3 : decode cX1_read 3 = .ok (.dup, 1) := dk_89 (dk_at dksX1_read_0 3 rfl rfl)
theorem dX1_read_4 : decode cX1_read 4 = .ok (.aload_n 0, 1) := dk_42 (dk_at dksX1_read_0 4 rfl rfl)
theorem dX1_read_5 : decode cX1_read 5 = .ok (.getfield 42, 3) := dk_180 0 42 (dk_at dksX1_read_0 5 rfl rfl)
theorem dX1_read_8 : decode cX1_read 8 = .ok (.invokespecial 436, 3) := dk_183 1 180 (dk_at dksX1_read_0 8 rfl rfl)
theorem dX1_read_11 : decode cX1_read 11 = .ok (.invokevirtual 439, 3) := dk_182 1 183 (dk_at dksX1_read_0 11 rfl rfl)
theorem dX1_read_14 : decode cX1_read 14 = .ok (.astore_n 1, 1) := dk_76 (dk_at dksX1_read_0 14 rfl rfl)
theorem dX1_read_15 : decode cX1_read 15 = .ok (.aload_n 0, 1) := dk_42 (dk_at dksX1_read_0 15 rfl rfl)
theorem dX1_read_16 : decode cX1_read 16 = .ok (.getfield 42, 3) := dk_180 0 42 (dk_at dksX1_read_0 16 rfl rfl)
theorem dX1_read_19 : decode cX1_read 19 = .ok (.iconst 0, 1) := dk_3 (dk_at dksX1_read_0 19 rfl rfl)
theorem dX1_read_20 : decode cX1_read 20 = .ok (.invokevirtual 443, 3) := dk_182 1 187 (dk_at dksX1_read_0 20 rfl rfl)
theorem dX1_read_23 : decode cX1_read 23 = .ok (.aload_n 1, 1) := dk_43 (dk_at dksX1_read_0 23 rfl rfl)
theorem dX1_read_24 : decode cX1_read 24 = .ok (.areturn, 1) := dk_176 (dk_at dksX1_read_1 0 rfl rfl)
theorem dX1_read_25 : decode cX1_read 25 = .ok (.astore_n 1, 1) := dk_76 (dk_at dksX1_read_1 1 rfl rfl)
theorem dX1_read_26 : decode cX1_read 26 = .ok (.aload_n 0, 1) := dk_42 (dk_at dksX1_read_1 2 rfl rfl)
theorem dX1_read_27 : decode cX1_read 27 = .ok (.aload_n 1, 1) := dk_43 (dk_at dksX1_read_1 3 rfl rfl)
theorem dX1_read_28 : decode cX1_read 28 = .ok (.getfield 448, 3) := dk_180 1 192 (dk_at dksX1_read_1 4 rfl rfl)
theorem dX1_read_31 : decode cX1_read 31 = .ok (.putfield 46, 3) := dk_181 0 46 (dk_at dksX1_read_1 7 rfl rfl)
theorem dX1_read_34 : decode cX1_read 34 = .ok (.new 53, 3) := dk_187 0 53 (dk_at dksX1_read_1 10 rfl rfl)
theorem dX1_read_37 : decode cX1_read 37 = .ok (.dup, 1) := dk_89 (dk_at dksX1_read_1 13 rfl rfl)
theorem dX1_read_38 : decode cX1_read 38 = .ok (.invokespecial 55, 3) := dk_183 0 55 (dk_at dksX1_read_1 14 rfl rfl)
theorem dX1_read_41 : decode cX1_read 41 = .ok (.athrow, 1) := dk_191 (dk_at dksX1_read_1 17 rfl rfl)
theorem dX1_read_42 : decode cX1_read 42 = .ok (.astore_n 2, 1) := dk_77 (dk_at dksX1_read_1 18 rfl rfl)
theorem dX1_read_43 : decode cX1_read 43 = .ok (.aload_n 0, 1) := dk_42 (dk_at dksX1_read_1 19 rfl rfl)
theorem dX1_read_44 : decode cX1_read 44 = .ok (.getfield 42, 3) := dk_180 0 42 (dk_at dksX1_read_1 20 rfl rfl)
theorem dX1_read_47 : decode cX1_read 47 = .ok (.iconst 0, 1) := dk_3 (dk_at dksX1_read_1 23 rfl rfl)
theorem dX1_read_48 : decode cX1_read 48 = .ok (.invokevirtual 443, 3) := dk_182 1 187 (dk_at dksX1_read_2 0 rfl rfl)
theorem dX1_read_51 : decode cX1_read 51 = .ok (.aload_n 2, 1) := dk_44 (dk_at dksX1_read_2 3 rfl rfl)
theorem dX1_read_52 : decode cX1_read 52 = .ok (.athrow, 1) := dk_191 (dk_at dksX1_read_2 4 rfl rfl)
abbrev cX1_goes : ByteArray := prog_1_method_53_code
def yX1_goes : MethodName := ⟨RX1, "goes", "(LCrumblingWall$Wall;LCrumblingWall$Step;)V"⟩
def dkwX1_goes_1 : List UInt8 := [3, 28, 182, 1, 199, 16, 19, 3, 184, 0, 158, 42, 4, 29, 182, 1, 199, 16, 19, 4, 184, 0, 158, 177]
abbrev dktX1_goes_1 : List UInt8 := dkwX1_goes_1 ++ []
def dkwX1_goes_0 : List UInt8 := [42, 3, 182, 0, 243, 180, 0, 252, 61, 42, 4, 182, 0, 243, 180, 0, 252, 62, 43, 42, 182, 1, 193, 42]
abbrev dktX1_goes_0 : List UInt8 := dkwX1_goes_0 ++ dktX1_goes_1
theorem dksX1_goes_0 : cX1_goes.data.toList.drop 0 = dktX1_goes_0 := by decide +kernel
theorem dksX1_goes_1 : cX1_goes.data.toList.drop 24 = dktX1_goes_1 := dk_seg dksX1_goes_0 24 rfl rfl
theorem dX1_goes_0 : decode cX1_goes 0 = .ok (.aload_n 0, 1) := dk_42 (dk_at dksX1_goes_0 0 rfl rfl)
theorem dX1_goes_1 : decode cX1_goes 1 = .ok (.iconst 0, 1) := dk_3 (dk_at dksX1_goes_0 1 rfl rfl)
theorem dX1_goes_2 : decode cX1_goes 2 = .ok (.invokevirtual 243, 3) := dk_182 0 243 (dk_at dksX1_goes_0 2 rfl rfl)
theorem dX1_goes_5 : decode cX1_goes 5 = .ok (.getfield 252, 3) := dk_180 0 252 (dk_at dksX1_goes_0 5 rfl rfl)
theorem dX1_goes_8 : decode cX1_goes 8 = .ok (.istore_n 2, 1) := dk_61 (dk_at dksX1_goes_0 8 rfl rfl)
theorem dX1_goes_9 : decode cX1_goes 9 = .ok (.aload_n 0, 1) := dk_42 (dk_at dksX1_goes_0 9 rfl rfl)
theorem dX1_goes_10 : decode cX1_goes 10 = .ok (.iconst 1, 1) := dk_4 (dk_at dksX1_goes_0 10 rfl rfl)
theorem dX1_goes_11 : decode cX1_goes 11 = .ok (.invokevirtual 243, 3) := dk_182 0 243 (dk_at dksX1_goes_0 11 rfl rfl)
theorem dX1_goes_14 : decode cX1_goes 14 = .ok (.getfield 252, 3) := dk_180 0 252 (dk_at dksX1_goes_0 14 rfl rfl)
theorem dX1_goes_17 : decode cX1_goes 17 = .ok (.istore_n 3, 1) := dk_62 (dk_at dksX1_goes_0 17 rfl rfl)
theorem dX1_goes_18 : decode cX1_goes 18 = .ok (.aload_n 1, 1) := dk_43 (dk_at dksX1_goes_0 18 rfl rfl)
theorem dX1_goes_19 : decode cX1_goes 19 = .ok (.aload_n 0, 1) := dk_42 (dk_at dksX1_goes_0 19 rfl rfl)
theorem dX1_goes_20 : decode cX1_goes 20 = .ok (.invokevirtual 449, 3) := dk_182 1 193 (dk_at dksX1_goes_0 20 rfl rfl)
theorem dX1_goes_23 : decode cX1_goes 23 = .ok (.aload_n 0, 1) := dk_42 (dk_at dksX1_goes_0 23 rfl rfl)
theorem dX1_goes_24 : decode cX1_goes 24 = .ok (.iconst 0, 1) := dk_3 (dk_at dksX1_goes_1 0 rfl rfl)
theorem dX1_goes_25 : decode cX1_goes 25 = .ok (.iload_n 2, 1) := dk_28 (dk_at dksX1_goes_1 1 rfl rfl)
theorem dX1_goes_26 : decode cX1_goes 26 = .ok (.invokevirtual 455, 3) := dk_182 1 199 (dk_at dksX1_goes_1 2 rfl rfl)
theorem dX1_goes_29 : decode cX1_goes 29 = .ok (.bipush 19, 2) := dk_16 19 (dk_at dksX1_goes_1 5 rfl rfl)
theorem dX1_goes_31 : decode cX1_goes 31 = .ok (.iconst 0, 1) := dk_3 (dk_at dksX1_goes_1 7 rfl rfl)
theorem dX1_goes_32 : decode cX1_goes 32 = .ok (.invokestatic 158, 3) := dk_184 0 158 (dk_at dksX1_goes_1 8 rfl rfl)
theorem dX1_goes_35 : decode cX1_goes 35 = .ok (.aload_n 0, 1) := dk_42 (dk_at dksX1_goes_1 11 rfl rfl)
theorem dX1_goes_36 : decode cX1_goes 36 = .ok (.iconst 1, 1) := dk_4 (dk_at dksX1_goes_1 12 rfl rfl)
theorem dX1_goes_37 : decode cX1_goes 37 = .ok (.iload_n 3, 1) := dk_29 (dk_at dksX1_goes_1 13 rfl rfl)
theorem dX1_goes_38 : decode cX1_goes 38 = .ok (.invokevirtual 455, 3) := dk_182 1 199 (dk_at dksX1_goes_1 14 rfl rfl)
theorem dX1_goes_41 : decode cX1_goes 41 = .ok (.bipush 19, 2) := dk_16 19 (dk_at dksX1_goes_1 17 rfl rfl)
theorem dX1_goes_43 : decode cX1_goes 43 = .ok (.iconst 1, 1) := dk_4 (dk_at dksX1_goes_1 19 rfl rfl)
theorem dX1_goes_44 : decode cX1_goes 44 = .ok (.invokestatic 158, 3) := dk_184 0 158 (dk_at dksX1_goes_1 20 rfl rfl)
theorem dX1_goes_47 : decode cX1_goes 47 = .ok (.return_, 1) := dk_177 (dk_at dksX1_goes_1 23 rfl rfl)
abbrev cX1_run : ByteArray := prog_1_method_55_code
def yX1_run : MethodName := ⟨RX1, "run", "()I"⟩
def dkwX1_run_3 : List UInt8 := [172]
abbrev dktX1_run_3 : List UInt8 := dkwX1_run_3 ++ []
def dkwX1_run_2 : List UInt8 := [45, 182, 0, 126, 191, 42, 180, 0, 12, 78, 42, 44, 181, 0, 12, 42, 45, 43, 182, 1, 110, 182, 0, 142]
abbrev dktX1_run_2 : List UInt8 := dkwX1_run_2 ++ dktX1_run_3
def dkwX1_run_1 : List UInt8 := [153, 0, 19, 44, 45, 185, 1, 214, 1, 0, 192, 1, 194, 184, 1, 217, 167, 255, 234, 167, 0, 10, 78, 42]
abbrev dktX1_run_1 : List UInt8 := dkwX1_run_1 ++ dktX1_run_2
def dkwX1_run_0 : List UInt8 := [42, 182, 1, 202, 76, 42, 180, 0, 12, 182, 0, 130, 77, 43, 182, 1, 205, 78, 45, 185, 1, 209, 1, 0]
abbrev dktX1_run_0 : List UInt8 := dkwX1_run_0 ++ dktX1_run_1
theorem dksX1_run_0 : cX1_run.data.toList.drop 0 = dktX1_run_0 := by decide +kernel
theorem dksX1_run_1 : cX1_run.data.toList.drop 24 = dktX1_run_1 := dk_seg dksX1_run_0 24 rfl rfl
theorem dksX1_run_2 : cX1_run.data.toList.drop 48 = dktX1_run_2 := dk_seg dksX1_run_1 24 rfl rfl
theorem dksX1_run_3 : cX1_run.data.toList.drop 72 = dktX1_run_3 := dk_seg dksX1_run_2 24 rfl rfl
theorem dX1_run_0 : decode cX1_run 0 = .ok (.aload_n 0, 1) := dk_42 (dk_at dksX1_run_0 0 rfl rfl)
theorem dX1_run_1 : decode cX1_run 1 = .ok (.invokevirtual 458, 3) := dk_182 1 202 (dk_at dksX1_run_0 1 rfl rfl)
theorem dX1_run_4 : decode cX1_run 4 = .ok (.astore_n 1, 1) := dk_76 (dk_at dksX1_run_0 4 rfl rfl)
theorem dX1_run_5 : decode cX1_run 5 = .ok (.aload_n 0, 1) := dk_42 (dk_at dksX1_run_0 5 rfl rfl)
theorem dX1_run_6 : decode cX1_run 6 = .ok (.getfield 12, 3) := dk_180 0 12 (dk_at dksX1_run_0 6 rfl rfl)
theorem dX1_run_9 : decode cX1_run 9 = .ok (.invokevirtual 130, 3) := dk_182 0 130 (dk_at dksX1_run_0 9 rfl rfl)
theorem dX1_run_12 : decode cX1_run 12 = .ok (.astore_n 2, 1) := dk_77 (dk_at dksX1_run_0 12 rfl rfl)
theorem dX1_run_13 : decode cX1_run 13 = .ok (.aload_n 1, 1) := dk_43 (dk_at dksX1_run_0 13 rfl rfl)
theorem dX1_run_14 : decode cX1_run 14 = .ok (.invokevirtual 461, 3) := dk_182 1 205 (dk_at dksX1_run_0 14 rfl rfl)
theorem dX1_run_17 : decode cX1_run 17 = .ok (.astore_n 3, 1) := dk_78 (dk_at dksX1_run_0 17 rfl rfl)
theorem dX1_run_18 : decode cX1_run 18 = .ok (.aload_n 3, 1) := dk_45 (dk_at dksX1_run_0 18 rfl rfl)
theorem dX1_run_19 : decode cX1_run 19 = .ok (.invokeinterface 465 1, 5) := by decide +kernel
theorem dX1_run_24 : decode cX1_run 24 = .ok (.ifCond .eq 19, 3) := dk_153 0 19 (dk_at dksX1_run_1 0 rfl rfl)
theorem dX1_run_27 : decode cX1_run 27 = .ok (.aload_n 2, 1) := dk_44 (dk_at dksX1_run_1 3 rfl rfl)
theorem dX1_run_28 : decode cX1_run 28 = .ok (.aload_n 3, 1) := dk_45 (dk_at dksX1_run_1 4 rfl rfl)
theorem dX1_run_29 : decode cX1_run 29 = .ok (.invokeinterface 470 1, 5) := by decide +kernel
theorem dX1_run_34 : decode cX1_run 34 = .ok (.checkcast 450, 3) := dk_192 1 194 (dk_at dksX1_run_1 10 rfl rfl)
theorem dX1_run_37 : decode cX1_run 37 = .ok (.invokestatic 473, 3) := dk_184 1 217 (dk_at dksX1_run_1 13 rfl rfl)
theorem dX1_run_40 : decode cX1_run 40 = .ok (.goto (-22), 3) := dk_167 255 234 (dk_at dksX1_run_1 16 rfl rfl)
theorem dX1_run_43 : decode cX1_run 43 = .ok (.goto 10, 3) := dk_167 0 10 (dk_at dksX1_run_1 19 rfl rfl)
theorem dX1_run_46 : decode cX1_run 46 = .ok (.astore_n 3, 1) := dk_78 (dk_at dksX1_run_1 22 rfl rfl)
theorem dX1_run_47 : decode cX1_run 47 = .ok (.aload_n 0, 1) := dk_42 (dk_at dksX1_run_1 23 rfl rfl)
theorem dX1_run_48 : decode cX1_run 48 = .ok (.aload_n 3, 1) := dk_45 (dk_at dksX1_run_2 0 rfl rfl)
theorem dX1_run_49 : decode cX1_run 49 = .ok (.invokevirtual 126, 3) := dk_182 0 126 (dk_at dksX1_run_2 1 rfl rfl)
theorem dX1_run_52 : decode cX1_run 52 = .ok (.athrow, 1) := dk_191 (dk_at dksX1_run_2 4 rfl rfl)
theorem dX1_run_53 : decode cX1_run 53 = .ok (.aload_n 0, 1) := dk_42 (dk_at dksX1_run_2 5 rfl rfl)
theorem dX1_run_54 : decode cX1_run 54 = .ok (.getfield 12, 3) := dk_180 0 12 (dk_at dksX1_run_2 6 rfl rfl)
theorem dX1_run_57 : decode cX1_run 57 = .ok (.astore_n 3, 1) := dk_78 (dk_at dksX1_run_2 9 rfl rfl)
theorem dX1_run_58 : decode cX1_run 58 = .ok (.aload_n 0, 1) := dk_42 (dk_at dksX1_run_2 10 rfl rfl)
theorem dX1_run_59 : decode cX1_run 59 = .ok (.aload_n 2, 1) := dk_44 (dk_at dksX1_run_2 11 rfl rfl)
theorem dX1_run_60 : decode cX1_run 60 = .ok (.putfield 12, 3) := dk_181 0 12 (dk_at dksX1_run_2 12 rfl rfl)
theorem dX1_run_63 : decode cX1_run 63 = .ok (.aload_n 0, 1) := dk_42 (dk_at dksX1_run_2 15 rfl rfl)
theorem dX1_run_64 : decode cX1_run 64 = .ok (.aload_n 3, 1) := dk_45 (dk_at dksX1_run_2 16 rfl rfl)
theorem dX1_run_65 : decode cX1_run 65 = .ok (.aload_n 1, 1) := dk_43 (dk_at dksX1_run_2 17 rfl rfl)
theorem dX1_run_66 : decode cX1_run 66 = .ok (.invokevirtual 366, 3) := dk_182 1 110 (dk_at dksX1_run_2 18 rfl rfl)
theorem dX1_run_69 : decode cX1_run 69 = .ok (.invokevirtual 142, 3) := dk_182 0 142 (dk_at dksX1_run_2 21 rfl rfl)
theorem dX1_run_72 : decode cX1_run 72 = .ok (.ireturn, 1) := dk_172 (dk_at dksX1_run_3 0 rfl rfl)
abbrev cX1_errorPosition : ByteArray := prog_1_method_56_code
def yX1_errorPosition : MethodName := ⟨RX1, "errorPosition", "()I"⟩
def dkwX1_errorPosition_0 : List UInt8 := [42, 180, 0, 46, 2, 159, 0, 7, 4, 167, 0, 4, 3, 184, 1, 66, 42, 180, 0, 46, 172]
abbrev dktX1_errorPosition_0 : List UInt8 := dkwX1_errorPosition_0 ++ []
theorem dksX1_errorPosition_0 : cX1_errorPosition.data.toList.drop 0 = dktX1_errorPosition_0 := by decide +kernel
theorem dX1_errorPosition_0 : decode cX1_errorPosition 0 = .ok (.aload_n 0, 1) := dk_42 (dk_at dksX1_errorPosition_0 0 rfl rfl)
theorem dX1_errorPosition_1 : decode cX1_errorPosition 1 = .ok (.getfield 46, 3) := dk_180 0 46 (dk_at dksX1_errorPosition_0 1 rfl rfl)
theorem dX1_errorPosition_4 : decode cX1_errorPosition 4 = .ok (.iconst (-1), 1) := dk_2 (dk_at dksX1_errorPosition_0 4 rfl rfl)
theorem dX1_errorPosition_5 : decode cX1_errorPosition 5 = .ok (.if_icmp .eq 7, 3) := dk_159 0 7 (dk_at dksX1_errorPosition_0 5 rfl rfl)
theorem dX1_errorPosition_8 : decode cX1_errorPosition 8 = .ok (.iconst 1, 1) := dk_4 (dk_at dksX1_errorPosition_0 8 rfl rfl)
theorem dX1_errorPosition_9 : decode cX1_errorPosition 9 = .ok (.goto 4, 3) := dk_167 0 4 (dk_at dksX1_errorPosition_0 9 rfl rfl)
theorem dX1_errorPosition_12 : decode cX1_errorPosition 12 = .ok (.iconst 0, 1) := dk_3 (dk_at dksX1_errorPosition_0 12 rfl rfl)
theorem dX1_errorPosition_13 : decode cX1_errorPosition 13 = .ok (.invokestatic 322, 3) := dk_184 1 66 (dk_at dksX1_errorPosition_0 13 rfl rfl)
theorem dX1_errorPosition_16 : decode cX1_errorPosition 16 = .ok (.aload_n 0, 1) := dk_42 (dk_at dksX1_errorPosition_0 16 rfl rfl)
theorem dX1_errorPosition_17 : decode cX1_errorPosition 17 = .ok (.getfield 46, 3) := dk_180 0 46 (dk_at dksX1_errorPosition_0 17 rfl rfl)
theorem dX1_errorPosition_20 : decode cX1_errorPosition 20 = .ok (.ireturn, 1) := dk_172 (dk_at dksX1_errorPosition_0 20 rfl rfl)
abbrev cX1_reason : ByteArray := prog_1_method_57_code
def yX1_reason : MethodName := ⟨RX1, "reason", "(Z)I"⟩
def dkwX1_reason_1 : List UInt8 := [167, 0, 7, 42, 180, 0, 67, 172]
abbrev dktX1_reason_1 : List UInt8 := dkwX1_reason_1 ++ []
def dkwX1_reason_0 : List UInt8 := [42, 180, 0, 67, 153, 0, 7, 4, 167, 0, 4, 3, 184, 1, 66, 27, 153, 0, 10, 42, 180, 0, 71]
abbrev dktX1_reason_0 : List UInt8 := dkwX1_reason_0 ++ dktX1_reason_1
theorem dksX1_reason_0 : cX1_reason.data.toList.drop 0 = dktX1_reason_0 := by decide +kernel
theorem dksX1_reason_1 : cX1_reason.data.toList.drop 23 = dktX1_reason_1 := dk_seg dksX1_reason_0 23 rfl rfl
theorem dX1_reason_0 : decode cX1_reason 0 = .ok (.aload_n 0, 1) := dk_42 (dk_at dksX1_reason_0 0 rfl rfl)
theorem dX1_reason_1 : decode cX1_reason 1 = .ok (.getfield 67, 3) := dk_180 0 67 (dk_at dksX1_reason_0 1 rfl rfl)
theorem dX1_reason_4 : decode cX1_reason 4 = .ok (.ifCond .eq 7, 3) := dk_153 0 7 (dk_at dksX1_reason_0 4 rfl rfl)
theorem dX1_reason_7 : decode cX1_reason 7 = .ok (.iconst 1, 1) := dk_4 (dk_at dksX1_reason_0 7 rfl rfl)
theorem dX1_reason_8 : decode cX1_reason 8 = .ok (.goto 4, 3) := dk_167 0 4 (dk_at dksX1_reason_0 8 rfl rfl)
theorem dX1_reason_11 : decode cX1_reason 11 = .ok (.iconst 0, 1) := dk_3 (dk_at dksX1_reason_0 11 rfl rfl)
theorem dX1_reason_12 : decode cX1_reason 12 = .ok (.invokestatic 322, 3) := dk_184 1 66 (dk_at dksX1_reason_0 12 rfl rfl)
theorem dX1_reason_15 : decode cX1_reason 15 = .ok (.iload_n 1, 1) := dk_27 (dk_at dksX1_reason_0 15 rfl rfl)
theorem dX1_reason_16 : decode cX1_reason 16 = .ok (.ifCond .eq 10, 3) := dk_153 0 10 (dk_at dksX1_reason_0 16 rfl rfl)
theorem dX1_reason_19 : decode cX1_reason 19 = .ok (.aload_n 0, 1) := dk_42 (dk_at dksX1_reason_0 19 rfl rfl)
theorem dX1_reason_20 : decode cX1_reason 20 = .ok (.getfield 71, 3) := dk_180 0 71 (dk_at dksX1_reason_0 20 rfl rfl)
theorem dX1_reason_23 : decode cX1_reason 23 = .ok (.goto 7, 3) := dk_167 0 7 (dk_at dksX1_reason_1 0 rfl rfl)
theorem dX1_reason_26 : decode cX1_reason 26 = .ok (.aload_n 0, 1) := dk_42 (dk_at dksX1_reason_1 3 rfl rfl)
theorem dX1_reason_27 : decode cX1_reason 27 = .ok (.getfield 67, 3) := dk_180 0 67 (dk_at dksX1_reason_1 4 rfl rfl)
theorem dX1_reason_30 : decode cX1_reason 30 = .ok (.ireturn, 1) := dk_172 (dk_at dksX1_reason_1 7 rfl rfl)
abbrev cX1_account : ByteArray := prog_1_method_59_code
def yX1_account : MethodName := ⟨RX1, "account", "(I)I"⟩
def dkwX1_account_9 : List UInt8 := [182, 0, 96, 172]
abbrev dktX1_account_9 : List UInt8 := dkwX1_account_9 ++ []
def dkwX1_account_8 : List UInt8 := [167, 0, 27, 42, 182, 1, 157, 167, 0, 20, 42, 180, 0, 42, 182, 1, 172, 167, 0, 10, 42, 180, 0, 19]
abbrev dktX1_account_8 : List UInt8 := dkwX1_account_8 ++ dktX1_account_9
def dkwX1_account_7 : List UInt8 := [167, 0, 51, 42, 182, 1, 247, 167, 0, 44, 187, 1, 250, 89, 183, 1, 252, 42, 180, 0, 12, 182, 1, 253]
abbrev dktX1_account_7 : List UInt8 := dkwX1_account_7 ++ dktX1_account_8
def dkwX1_account_6 : List UInt8 := [167, 0, 74, 42, 180, 0, 12, 180, 1, 132, 167, 0, 64, 42, 180, 0, 12, 180, 0, 212, 182, 0, 116]
abbrev dktX1_account_6 : List UInt8 := dkwX1_account_6 ++ dktX1_account_7
def dkwX1_account_5 : List UInt8 := [180, 1, 238, 167, 0, 94, 42, 180, 0, 12, 180, 1, 241, 167, 0, 84, 42, 180, 0, 12, 180, 1, 244]
abbrev dktX1_account_5 : List UInt8 := dkwX1_account_5 ++ dktX1_account_6
def dkwX1_account_4 : List UInt8 := [180, 0, 12, 180, 1, 232, 167, 0, 114, 42, 180, 0, 12, 180, 1, 235, 167, 0, 104, 42, 180, 0, 12]
abbrev dktX1_account_4 : List UInt8 := dkwX1_account_4 ++ dktX1_account_5
def dkwX1_account_3 : List UInt8 := [182, 1, 224, 167, 0, 141, 187, 1, 228, 89, 183, 1, 230, 42, 180, 0, 12, 182, 1, 231, 167, 0, 124, 42]
abbrev dktX1_account_3 : List UInt8 := dkwX1_account_3 ++ dktX1_account_4
def dkwX1_account_2 : List UInt8 := [42, 180, 0, 12, 180, 0, 112, 182, 0, 116, 167, 0, 158, 187, 1, 221, 89, 183, 1, 223, 42, 180, 0, 12]
abbrev dktX1_account_2 : List UInt8 := dkwX1_account_2 ++ dktX1_account_3
def dkwX1_account_1 : List UInt8 := [170, 0, 0, 0, 230, 0, 0, 0, 0, 0, 0, 0, 13, 0, 0, 0, 69, 0, 0, 0, 82, 0, 0, 0, 99, 0, 0, 0, 116, 0, 0, 0, 126, 0, 0, 0, 136, 0, 0, 0, 146, 0, 0, 0, 156, 0, 0, 0, 166, 0, 0, 0, 176, 0, 0, 0, 189, 0, 0, 0, 196, 0, 0, 0, 213, 0, 0, 0, 220]
abbrev dktX1_account_1 : List UInt8 := dkwX1_account_1 ++ dktX1_account_2
def dkwX1_account_0 : List UInt8 := [27, 3, 16, 14, 184, 0, 104, 184, 0, 108, 27]
abbrev dktX1_account_0 : List UInt8 := dkwX1_account_0 ++ dktX1_account_1
theorem dksX1_account_0 : cX1_account.data.toList.drop 0 = dktX1_account_0 := by decide +kernel
theorem dksX1_account_1 : cX1_account.data.toList.drop 11 = dktX1_account_1 := dk_seg dksX1_account_0 11 rfl rfl
theorem dksX1_account_2 : cX1_account.data.toList.drop 80 = dktX1_account_2 := dk_seg dksX1_account_1 69 rfl rfl
theorem dksX1_account_3 : cX1_account.data.toList.drop 104 = dktX1_account_3 := dk_seg dksX1_account_2 24 rfl rfl
theorem dksX1_account_4 : cX1_account.data.toList.drop 128 = dktX1_account_4 := dk_seg dksX1_account_3 24 rfl rfl
theorem dksX1_account_5 : cX1_account.data.toList.drop 151 = dktX1_account_5 := dk_seg dksX1_account_4 23 rfl rfl
theorem dksX1_account_6 : cX1_account.data.toList.drop 174 = dktX1_account_6 := dk_seg dksX1_account_5 23 rfl rfl
theorem dksX1_account_7 : cX1_account.data.toList.drop 197 = dktX1_account_7 := dk_seg dksX1_account_6 23 rfl rfl
theorem dksX1_account_8 : cX1_account.data.toList.drop 221 = dktX1_account_8 := dk_seg dksX1_account_7 24 rfl rfl
theorem dksX1_account_9 : cX1_account.data.toList.drop 245 = dktX1_account_9 := dk_seg dksX1_account_8 24 rfl rfl
theorem dX1_account_0 : decode cX1_account 0 = .ok (.iload_n 1, 1) := dk_27 (dk_at dksX1_account_0 0 rfl rfl)
theorem dX1_account_1 : decode cX1_account 1 = .ok (.iconst 0, 1) := dk_3 (dk_at dksX1_account_0 1 rfl rfl)
theorem dX1_account_2 : decode cX1_account 2 = .ok (.bipush 14, 2) := dk_16 14 (dk_at dksX1_account_0 2 rfl rfl)
theorem dX1_account_4 : decode cX1_account 4 = .ok (.invokestatic 104, 3) := dk_184 0 104 (dk_at dksX1_account_0 4 rfl rfl)
theorem dX1_account_7 : decode cX1_account 7 = .ok (.invokestatic 108, 3) := dk_184 0 108 (dk_at dksX1_account_0 7 rfl rfl)
theorem dX1_account_10 : decode cX1_account 10 = .ok (.iload_n 1, 1) := dk_27 (dk_at dksX1_account_0 10 rfl rfl)
theorem dX1_account_11 : decode cX1_account 11 = .ok (.tableswitch 230 0 13 #[69, 82, 99, 116, 126, 136, 146, 156, 166, 176, 189, 196, 213, 220], 69) := by decide +kernel
theorem dX1_account_80 : decode cX1_account 80 = .ok (.aload_n 0, 1) := dk_42 (dk_at dksX1_account_2 0 rfl rfl)
theorem dX1_account_81 : decode cX1_account 81 = .ok (.getfield 12, 3) := dk_180 0 12 (dk_at dksX1_account_2 1 rfl rfl)
theorem dX1_account_84 : decode cX1_account 84 = .ok (.getfield 112, 3) := dk_180 0 112 (dk_at dksX1_account_2 4 rfl rfl)
theorem dX1_account_87 : decode cX1_account 87 = .ok (.invokevirtual 116, 3) := dk_182 0 116 (dk_at dksX1_account_2 7 rfl rfl)
theorem dX1_account_90 : decode cX1_account 90 = .ok (.goto 158, 3) := dk_167 0 158 (dk_at dksX1_account_2 10 rfl rfl)
theorem dX1_account_93 : decode cX1_account 93 = .ok (.new 477, 3) := dk_187 1 221 (dk_at dksX1_account_2 13 rfl rfl)
theorem dX1_account_96 : decode cX1_account 96 = .ok (.dup, 1) := dk_89 (dk_at dksX1_account_2 16 rfl rfl)
theorem dX1_account_97 : decode cX1_account 97 = .ok (.invokespecial 479, 3) := dk_183 1 223 (dk_at dksX1_account_2 17 rfl rfl)
theorem dX1_account_100 : decode cX1_account 100 = .ok (.aload_n 0, 1) := dk_42 (dk_at dksX1_account_2 20 rfl rfl)
theorem dX1_account_101 : decode cX1_account 101 = .ok (.getfield 12, 3) := dk_180 0 12 (dk_at dksX1_account_2 21 rfl rfl)
theorem dX1_account_104 : decode cX1_account 104 = .ok (.invokevirtual 480, 3) := dk_182 1 224 (dk_at dksX1_account_3 0 rfl rfl)
theorem dX1_account_107 : decode cX1_account 107 = .ok (.goto 141, 3) := dk_167 0 141 (dk_at dksX1_account_3 3 rfl rfl)
theorem dX1_account_110 : decode cX1_account 110 = .ok (.new 484, 3) := dk_187 1 228 (dk_at dksX1_account_3 6 rfl rfl)
theorem dX1_account_113 : decode cX1_account 113 = .ok (.dup, 1) := dk_89 (dk_at dksX1_account_3 9 rfl rfl)
theorem dX1_account_114 : decode cX1_account 114 = .ok (.invokespecial 486, 3) := dk_183 1 230 (dk_at dksX1_account_3 10 rfl rfl)
theorem dX1_account_117 : decode cX1_account 117 = .ok (.aload_n 0, 1) := dk_42 (dk_at dksX1_account_3 13 rfl rfl)
theorem dX1_account_118 : decode cX1_account 118 = .ok (.getfield 12, 3) := dk_180 0 12 (dk_at dksX1_account_3 14 rfl rfl)
theorem dX1_account_121 : decode cX1_account 121 = .ok (.invokevirtual 487, 3) := dk_182 1 231 (dk_at dksX1_account_3 17 rfl rfl)
theorem dX1_account_124 : decode cX1_account 124 = .ok (.goto 124, 3) := dk_167 0 124 (dk_at dksX1_account_3 20 rfl rfl)
theorem dX1_account_127 : decode cX1_account 127 = .ok (.aload_n 0, 1) := dk_42 (dk_at dksX1_account_3 23 rfl rfl)
theorem dX1_account_128 : decode cX1_account 128 = .ok (.getfield 12, 3) := dk_180 0 12 (dk_at dksX1_account_4 0 rfl rfl)
theorem dX1_account_131 : decode cX1_account 131 = .ok (.getfield 488, 3) := dk_180 1 232 (dk_at dksX1_account_4 3 rfl rfl)
theorem dX1_account_134 : decode cX1_account 134 = .ok (.goto 114, 3) := dk_167 0 114 (dk_at dksX1_account_4 6 rfl rfl)
theorem dX1_account_137 : decode cX1_account 137 = .ok (.aload_n 0, 1) := dk_42 (dk_at dksX1_account_4 9 rfl rfl)
theorem dX1_account_138 : decode cX1_account 138 = .ok (.getfield 12, 3) := dk_180 0 12 (dk_at dksX1_account_4 10 rfl rfl)
theorem dX1_account_141 : decode cX1_account 141 = .ok (.getfield 491, 3) := dk_180 1 235 (dk_at dksX1_account_4 13 rfl rfl)
theorem dX1_account_144 : decode cX1_account 144 = .ok (.goto 104, 3) := dk_167 0 104 (dk_at dksX1_account_4 16 rfl rfl)
theorem dX1_account_147 : decode cX1_account 147 = .ok (.aload_n 0, 1) := dk_42 (dk_at dksX1_account_4 19 rfl rfl)
theorem dX1_account_148 : decode cX1_account 148 = .ok (.getfield 12, 3) := dk_180 0 12 (dk_at dksX1_account_4 20 rfl rfl)
theorem dX1_account_151 : decode cX1_account 151 = .ok (.getfield 494, 3) := dk_180 1 238 (dk_at dksX1_account_5 0 rfl rfl)
theorem dX1_account_154 : decode cX1_account 154 = .ok (.goto 94, 3) := dk_167 0 94 (dk_at dksX1_account_5 3 rfl rfl)
theorem dX1_account_157 : decode cX1_account 157 = .ok (.aload_n 0, 1) := dk_42 (dk_at dksX1_account_5 6 rfl rfl)
theorem dX1_account_158 : decode cX1_account 158 = .ok (.getfield 12, 3) := dk_180 0 12 (dk_at dksX1_account_5 7 rfl rfl)
theorem dX1_account_161 : decode cX1_account 161 = .ok (.getfield 497, 3) := dk_180 1 241 (dk_at dksX1_account_5 10 rfl rfl)
theorem dX1_account_164 : decode cX1_account 164 = .ok (.goto 84, 3) := dk_167 0 84 (dk_at dksX1_account_5 13 rfl rfl)
theorem dX1_account_167 : decode cX1_account 167 = .ok (.aload_n 0, 1) := dk_42 (dk_at dksX1_account_5 16 rfl rfl)
theorem dX1_account_168 : decode cX1_account 168 = .ok (.getfield 12, 3) := dk_180 0 12 (dk_at dksX1_account_5 17 rfl rfl)
theorem dX1_account_171 : decode cX1_account 171 = .ok (.getfield 500, 3) := dk_180 1 244 (dk_at dksX1_account_5 20 rfl rfl)
theorem dX1_account_174 : decode cX1_account 174 = .ok (.goto 74, 3) := dk_167 0 74 (dk_at dksX1_account_6 0 rfl rfl)
theorem dX1_account_177 : decode cX1_account 177 = .ok (.aload_n 0, 1) := dk_42 (dk_at dksX1_account_6 3 rfl rfl)
theorem dX1_account_178 : decode cX1_account 178 = .ok (.getfield 12, 3) := dk_180 0 12 (dk_at dksX1_account_6 4 rfl rfl)
theorem dX1_account_181 : decode cX1_account 181 = .ok (.getfield 388, 3) := dk_180 1 132 (dk_at dksX1_account_6 7 rfl rfl)
theorem dX1_account_184 : decode cX1_account 184 = .ok (.goto 64, 3) := dk_167 0 64 (dk_at dksX1_account_6 10 rfl rfl)
theorem dX1_account_187 : decode cX1_account 187 = .ok (.aload_n 0, 1) := dk_42 (dk_at dksX1_account_6 13 rfl rfl)
theorem dX1_account_188 : decode cX1_account 188 = .ok (.getfield 12, 3) := dk_180 0 12 (dk_at dksX1_account_6 14 rfl rfl)
theorem dX1_account_191 : decode cX1_account 191 = .ok (.getfield 212, 3) := dk_180 0 212 (dk_at dksX1_account_6 17 rfl rfl)
theorem dX1_account_194 : decode cX1_account 194 = .ok (.invokevirtual 116, 3) := dk_182 0 116 (dk_at dksX1_account_6 20 rfl rfl)
theorem dX1_account_197 : decode cX1_account 197 = .ok (.goto 51, 3) := dk_167 0 51 (dk_at dksX1_account_7 0 rfl rfl)
theorem dX1_account_200 : decode cX1_account 200 = .ok (.aload_n 0, 1) := dk_42 (dk_at dksX1_account_7 3 rfl rfl)
theorem dX1_account_201 : decode cX1_account 201 = .ok (.invokevirtual 503, 3) := dk_182 1 247 (dk_at dksX1_account_7 4 rfl rfl)
theorem dX1_account_204 : decode cX1_account 204 = .ok (.goto 44, 3) := dk_167 0 44 (dk_at dksX1_account_7 7 rfl rfl)
theorem dX1_account_207 : decode cX1_account 207 = .ok (.new 506, 3) := dk_187 1 250 (dk_at dksX1_account_7 10 rfl rfl)
theorem dX1_account_210 : decode cX1_account 210 = .ok (.dup, 1) := dk_89 (dk_at dksX1_account_7 13 rfl rfl)
theorem dX1_account_211 : decode cX1_account 211 = .ok (.invokespecial 508, 3) := dk_183 1 252 (dk_at dksX1_account_7 14 rfl rfl)
theorem dX1_account_214 : decode cX1_account 214 = .ok (.aload_n 0, 1) := dk_42 (dk_at dksX1_account_7 17 rfl rfl)
theorem dX1_account_215 : decode cX1_account 215 = .ok (.getfield 12, 3) := dk_180 0 12 (dk_at dksX1_account_7 18 rfl rfl)
theorem dX1_account_218 : decode cX1_account 218 = .ok (.invokevirtual 509, 3) := dk_182 1 253 (dk_at dksX1_account_7 21 rfl rfl)
theorem dX1_account_221 : decode cX1_account 221 = .ok (.goto 27, 3) := dk_167 0 27 (dk_at dksX1_account_8 0 rfl rfl)
theorem dX1_account_224 : decode cX1_account 224 = .ok (.aload_n 0, 1) := dk_42 (dk_at dksX1_account_8 3 rfl rfl)
theorem dX1_account_225 : decode cX1_account 225 = .ok (.invokevirtual 413, 3) := dk_182 1 157 (dk_at dksX1_account_8 4 rfl rfl)
theorem dX1_account_228 : decode cX1_account 228 = .ok (.goto 20, 3) := dk_167 0 20 (dk_at dksX1_account_8 7 rfl rfl)
theorem dX1_account_231 : decode cX1_account 231 = .ok (.aload_n 0, 1) := dk_42 (dk_at dksX1_account_8 10 rfl rfl)
theorem dX1_account_232 : decode cX1_account 232 = .ok (.getfield 42, 3) := dk_180 0 42 (dk_at dksX1_account_8 11 rfl rfl)
theorem dX1_account_235 : decode cX1_account 235 = .ok (.invokevirtual 428, 3) := dk_182 1 172 (dk_at dksX1_account_8 14 rfl rfl)
theorem dX1_account_238 : decode cX1_account 238 = .ok (.goto 10, 3) := dk_167 0 10 (dk_at dksX1_account_8 17 rfl rfl)
theorem dX1_account_241 : decode cX1_account 241 = .ok (.aload_n 0, 1) := dk_42 (dk_at dksX1_account_8 20 rfl rfl)
theorem dX1_account_242 : decode cX1_account 242 = .ok (.getfield 19, 3) := dk_180 0 19 (dk_at dksX1_account_8 21 rfl rfl)
theorem dX1_account_245 : decode cX1_account 245 = .ok (.invokevirtual 96, 3) := dk_182 0 96 (dk_at dksX1_account_9 0 rfl rfl)
theorem dX1_account_248 : decode cX1_account 248 = .ok (.ireturn, 1) := dk_172 (dk_at dksX1_account_9 3 rfl rfl)
abbrev cX1_lit : ByteArray := prog_1_method_58_code
def yX1_lit : MethodName := ⟨RX1, "lit", "()I"⟩
def dkwX1_lit_2 : List UInt8 := [132, 2, 1, 167, 255, 211, 27, 172]
abbrev dktX1_lit_2 : List UInt8 := dkwX1_lit_2 ++ []
def dkwX1_lit_1 : List UInt8 := [180, 0, 212, 28, 182, 0, 172, 192, 0, 215, 180, 0, 236, 153, 0, 7, 4, 167, 0, 4, 3, 96, 60]
abbrev dktX1_lit_1 : List UInt8 := dkwX1_lit_1 ++ dktX1_lit_2
def dkwX1_lit_0 : List UInt8 := [3, 60, 3, 61, 28, 42, 180, 0, 12, 180, 0, 212, 182, 0, 116, 162, 0, 37, 27, 42, 180, 0, 12]
abbrev dktX1_lit_0 : List UInt8 := dkwX1_lit_0 ++ dktX1_lit_1
theorem dksX1_lit_0 : cX1_lit.data.toList.drop 0 = dktX1_lit_0 := by decide +kernel
theorem dksX1_lit_1 : cX1_lit.data.toList.drop 23 = dktX1_lit_1 := dk_seg dksX1_lit_0 23 rfl rfl
theorem dksX1_lit_2 : cX1_lit.data.toList.drop 46 = dktX1_lit_2 := dk_seg dksX1_lit_1 23 rfl rfl
theorem dX1_lit_0 : decode cX1_lit 0 = .ok (.iconst 0, 1) := dk_3 (dk_at dksX1_lit_0 0 rfl rfl)
theorem dX1_lit_1 : decode cX1_lit 1 = .ok (.istore_n 1, 1) := dk_60 (dk_at dksX1_lit_0 1 rfl rfl)
theorem dX1_lit_2 : decode cX1_lit 2 = .ok (.iconst 0, 1) := dk_3 (dk_at dksX1_lit_0 2 rfl rfl)
theorem dX1_lit_3 : decode cX1_lit 3 = .ok (.istore_n 2, 1) := dk_61 (dk_at dksX1_lit_0 3 rfl rfl)
theorem dX1_lit_4 : decode cX1_lit 4 = .ok (.iload_n 2, 1) := dk_28 (dk_at dksX1_lit_0 4 rfl rfl)
theorem dX1_lit_5 : decode cX1_lit 5 = .ok (.aload_n 0, 1) := dk_42 (dk_at dksX1_lit_0 5 rfl rfl)
theorem dX1_lit_6 : decode cX1_lit 6 = .ok (.getfield 12, 3) := dk_180 0 12 (dk_at dksX1_lit_0 6 rfl rfl)
theorem dX1_lit_9 : decode cX1_lit 9 = .ok (.getfield 212, 3) := dk_180 0 212 (dk_at dksX1_lit_0 9 rfl rfl)
theorem dX1_lit_12 : decode cX1_lit 12 = .ok (.invokevirtual 116, 3) := dk_182 0 116 (dk_at dksX1_lit_0 12 rfl rfl)
theorem dX1_lit_15 : decode cX1_lit 15 = .ok (.if_icmp .ge 37, 3) := dk_162 0 37 (dk_at dksX1_lit_0 15 rfl rfl)
theorem dX1_lit_18 : decode cX1_lit 18 = .ok (.iload_n 1, 1) := dk_27 (dk_at dksX1_lit_0 18 rfl rfl)
theorem dX1_lit_19 : decode cX1_lit 19 = .ok (.aload_n 0, 1) := dk_42 (dk_at dksX1_lit_0 19 rfl rfl)
theorem dX1_lit_20 : decode cX1_lit 20 = .ok (.getfield 12, 3) := dk_180 0 12 (dk_at dksX1_lit_0 20 rfl rfl)
theorem dX1_lit_23 : decode cX1_lit 23 = .ok (.getfield 212, 3) := dk_180 0 212 (dk_at dksX1_lit_1 0 rfl rfl)
theorem dX1_lit_26 : decode cX1_lit 26 = .ok (.iload_n 2, 1) := dk_28 (dk_at dksX1_lit_1 3 rfl rfl)
theorem dX1_lit_27 : decode cX1_lit 27 = .ok (.invokevirtual 172, 3) := dk_182 0 172 (dk_at dksX1_lit_1 4 rfl rfl)
theorem dX1_lit_30 : decode cX1_lit 30 = .ok (.checkcast 215, 3) := dk_192 0 215 (dk_at dksX1_lit_1 7 rfl rfl)
theorem dX1_lit_33 : decode cX1_lit 33 = .ok (.getfield 236, 3) := dk_180 0 236 (dk_at dksX1_lit_1 10 rfl rfl)
theorem dX1_lit_36 : decode cX1_lit 36 = .ok (.ifCond .eq 7, 3) := dk_153 0 7 (dk_at dksX1_lit_1 13 rfl rfl)
theorem dX1_lit_39 : decode cX1_lit 39 = .ok (.iconst 1, 1) := dk_4 (dk_at dksX1_lit_1 16 rfl rfl)
theorem dX1_lit_40 : decode cX1_lit 40 = .ok (.goto 4, 3) := dk_167 0 4 (dk_at dksX1_lit_1 17 rfl rfl)
theorem dX1_lit_43 : decode cX1_lit 43 = .ok (.iconst 0, 1) := dk_3 (dk_at dksX1_lit_1 20 rfl rfl)
theorem dX1_lit_44 : decode cX1_lit 44 = .ok (.iadd, 1) := dk_96 (dk_at dksX1_lit_1 21 rfl rfl)
theorem dX1_lit_45 : decode cX1_lit 45 = .ok (.istore_n 1, 1) := dk_60 (dk_at dksX1_lit_1 22 rfl rfl)
theorem dX1_lit_46 : decode cX1_lit 46 = .ok (.iinc 2 1, 3) := dk_132 2 1 (dk_at dksX1_lit_2 0 rfl rfl)
theorem dX1_lit_49 : decode cX1_lit 49 = .ok (.goto (-45), 3) := dk_167 255 211 (dk_at dksX1_lit_2 3 rfl rfl)
theorem dX1_lit_52 : decode cX1_lit 52 = .ok (.iload_n 1, 1) := dk_27 (dk_at dksX1_lit_2 6 rfl rfl)
theorem dX1_lit_53 : decode cX1_lit 53 = .ok (.ireturn, 1) := dk_172 (dk_at dksX1_lit_2 7 rfl rfl)
abbrev cX1_undo : ByteArray := prog_1_method_60_code
def yX1_undo : MethodName := ⟨RX1, "undo", "()I"⟩
def dkwX1_undo_1 : List UInt8 := [182, 2, 1, 192, 0, 9, 181, 0, 12, 42, 180, 0, 19, 182, 0, 96, 172]
abbrev dktX1_undo_1 : List UInt8 := dkwX1_undo_1 ++ []
def dkwX1_undo_0 : List UInt8 := [42, 180, 0, 19, 182, 1, 254, 154, 0, 7, 4, 167, 0, 4, 3, 184, 0, 119, 42, 42, 180, 0, 19]
abbrev dktX1_undo_0 : List UInt8 := dkwX1_undo_0 ++ dktX1_undo_1
theorem dksX1_undo_0 : cX1_undo.data.toList.drop 0 = dktX1_undo_0 := by decide +kernel
theorem dksX1_undo_1 : cX1_undo.data.toList.drop 23 = dktX1_undo_1 := dk_seg dksX1_undo_0 23 rfl rfl
theorem dX1_undo_0 : decode cX1_undo 0 = .ok (.aload_n 0, 1) := dk_42 (dk_at dksX1_undo_0 0 rfl rfl)
theorem dX1_undo_1 : decode cX1_undo 1 = .ok (.getfield 19, 3) := dk_180 0 19 (dk_at dksX1_undo_0 1 rfl rfl)
theorem dX1_undo_4 : decode cX1_undo 4 = .ok (.invokevirtual 510, 3) := dk_182 1 254 (dk_at dksX1_undo_0 4 rfl rfl)
theorem dX1_undo_7 : decode cX1_undo 7 = .ok (.ifCond .ne 7, 3) := dk_154 0 7 (dk_at dksX1_undo_0 7 rfl rfl)
theorem dX1_undo_10 : decode cX1_undo 10 = .ok (.iconst 1, 1) := dk_4 (dk_at dksX1_undo_0 10 rfl rfl)
theorem dX1_undo_11 : decode cX1_undo 11 = .ok (.goto 4, 3) := dk_167 0 4 (dk_at dksX1_undo_0 11 rfl rfl)
theorem dX1_undo_14 : decode cX1_undo 14 = .ok (.iconst 0, 1) := dk_3 (dk_at dksX1_undo_0 14 rfl rfl)
theorem dX1_undo_15 : decode cX1_undo 15 = .ok (.invokestatic 119, 3) := dk_184 0 119 (dk_at dksX1_undo_0 15 rfl rfl)
theorem dX1_undo_18 : decode cX1_undo 18 = .ok (.aload_n 0, 1) := dk_42 (dk_at dksX1_undo_0 18 rfl rfl)
theorem dX1_undo_19 : decode cX1_undo 19 = .ok (.aload_n 0, 1) := dk_42 (dk_at dksX1_undo_0 19 rfl rfl)
theorem dX1_undo_20 : decode cX1_undo 20 = .ok (.getfield 19, 3) := dk_180 0 19 (dk_at dksX1_undo_0 20 rfl rfl)
theorem dX1_undo_23 : decode cX1_undo 23 = .ok (.invokevirtual 513, 3) := dk_182 2 1 (dk_at dksX1_undo_1 0 rfl rfl)
theorem dX1_undo_26 : decode cX1_undo 26 = .ok (.checkcast 9, 3) := dk_192 0 9 (dk_at dksX1_undo_1 3 rfl rfl)
theorem dX1_undo_29 : decode cX1_undo 29 = .ok (.putfield 12, 3) := dk_181 0 12 (dk_at dksX1_undo_1 6 rfl rfl)
theorem dX1_undo_32 : decode cX1_undo 32 = .ok (.aload_n 0, 1) := dk_42 (dk_at dksX1_undo_1 9 rfl rfl)
theorem dX1_undo_33 : decode cX1_undo 33 = .ok (.getfield 19, 3) := dk_180 0 19 (dk_at dksX1_undo_1 10 rfl rfl)
theorem dX1_undo_36 : decode cX1_undo 36 = .ok (.invokevirtual 96, 3) := dk_182 0 96 (dk_at dksX1_undo_1 13 rfl rfl)
theorem dX1_undo_39 : decode cX1_undo 39 = .ok (.ireturn, 1) := dk_172 (dk_at dksX1_undo_1 16 rfl rfl)
abbrev cX1_restore : ByteArray := prog_1_method_62_code
def yX1_restore : MethodName := ⟨RX1, "restore", "()I"⟩
def dkwX1_restore_1 : List UInt8 := [181, 0, 12, 42, 180, 0, 19, 182, 2, 7, 42, 180, 0, 12, 180, 0, 112, 182, 0, 116, 172]
abbrev dktX1_restore_1 : List UInt8 := dkwX1_restore_1 ++ []
def dkwX1_restore_0 : List UInt8 := [42, 180, 2, 4, 198, 0, 7, 4, 167, 0, 4, 3, 184, 0, 119, 42, 42, 180, 2, 4, 182, 0, 130]
abbrev dktX1_restore_0 : List UInt8 := dkwX1_restore_0 ++ dktX1_restore_1
theorem dksX1_restore_0 : cX1_restore.data.toList.drop 0 = dktX1_restore_0 := by decide +kernel
theorem dksX1_restore_1 : cX1_restore.data.toList.drop 23 = dktX1_restore_1 := dk_seg dksX1_restore_0 23 rfl rfl
theorem dX1_restore_0 : decode cX1_restore 0 = .ok (.aload_n 0, 1) := dk_42 (dk_at dksX1_restore_0 0 rfl rfl)
theorem dX1_restore_1 : decode cX1_restore 1 = .ok (.getfield 516, 3) := dk_180 2 4 (dk_at dksX1_restore_0 1 rfl rfl)
theorem dX1_restore_4 : decode cX1_restore 4 = .ok (.ifnull 7, 3) := dk_198 0 7 (dk_at dksX1_restore_0 4 rfl rfl)
theorem dX1_restore_7 : decode cX1_restore 7 = .ok (.iconst 1, 1) := dk_4 (dk_at dksX1_restore_0 7 rfl rfl)
theorem dX1_restore_8 : decode cX1_restore 8 = .ok (.goto 4, 3) := dk_167 0 4 (dk_at dksX1_restore_0 8 rfl rfl)
theorem dX1_restore_11 : decode cX1_restore 11 = .ok (.iconst 0, 1) := dk_3 (dk_at dksX1_restore_0 11 rfl rfl)
theorem dX1_restore_12 : decode cX1_restore 12 = .ok (.invokestatic 119, 3) := dk_184 0 119 (dk_at dksX1_restore_0 12 rfl rfl)
theorem dX1_restore_15 : decode cX1_restore 15 = .ok (.aload_n 0, 1) := dk_42 (dk_at dksX1_restore_0 15 rfl rfl)
theorem dX1_restore_16 : decode cX1_restore 16 = .ok (.aload_n 0, 1) := dk_42 (dk_at dksX1_restore_0 16 rfl rfl)
theorem dX1_restore_17 : decode cX1_restore 17 = .ok (.getfield 516, 3) := dk_180 2 4 (dk_at dksX1_restore_0 17 rfl rfl)
theorem dX1_restore_20 : decode cX1_restore 20 = .ok (.invokevirtual 130, 3) := dk_182 0 130 (dk_at dksX1_restore_0 20 rfl rfl)
theorem dX1_restore_23 : decode cX1_restore 23 = .ok (.putfield 12, 3) := dk_181 0 12 (dk_at dksX1_restore_1 0 rfl rfl)
theorem dX1_restore_26 : decode cX1_restore 26 = .ok (.aload_n 0, 1) := dk_42 (dk_at dksX1_restore_1 3 rfl rfl)
theorem dX1_restore_27 : decode cX1_restore 27 = .ok (.getfield 19, 3) := dk_180 0 19 (dk_at dksX1_restore_1 4 rfl rfl)
theorem dX1_restore_30 : decode cX1_restore 30 = .ok (.invokevirtual 519, 3) := dk_182 2 7 (dk_at dksX1_restore_1 7 rfl rfl)
theorem dX1_restore_33 : decode cX1_restore 33 = .ok (.aload_n 0, 1) := dk_42 (dk_at dksX1_restore_1 10 rfl rfl)
theorem dX1_restore_34 : decode cX1_restore 34 = .ok (.getfield 12, 3) := dk_180 0 12 (dk_at dksX1_restore_1 11 rfl rfl)
theorem dX1_restore_37 : decode cX1_restore 37 = .ok (.getfield 112, 3) := dk_180 0 112 (dk_at dksX1_restore_1 14 rfl rfl)
theorem dX1_restore_40 : decode cX1_restore 40 = .ok (.invokevirtual 116, 3) := dk_182 0 116 (dk_at dksX1_restore_1 17 rfl rfl)
theorem dX1_restore_43 : decode cX1_restore 43 = .ok (.ireturn, 1) := dk_172 (dk_at dksX1_restore_1 20 rfl rfl)
theorem q120 : (Jvm.Cond.initialized "CrumblingWall") ∈ lw_all := lw_g (lw_at lw_m1 1 rfl) rfl
theorem q192 : (Jvm.Cond.instantiable "CrumblingWall" (11 : Nat)) ∈ lw_all := lw_g (lw_at lw_m1 73 rfl) rfl
theorem q194 : (Jvm.Cond.instanceMethod ({ cls := "CrumblingWall", name := "<init>", desc := "()V" } : Jvm.MethodName)) ∈ lw_all := lw_g (lw_at lw_m1 75 rfl) rfl
theorem q195 : (Jvm.Cond.code ({ cls := "CrumblingWall", name := "<init>", desc := "()V" } : Jvm.MethodName) prog_1_method_1_code (1 : Nat) (Option.none : Option Jvm.ClassFile.FieldType)) ∈ lw_all := lw_g (lw_at lw_m1 76 rfl) rfl
theorem q196 : (Jvm.Cond.methodLink "CrumblingWall" (3 : Nat) ({ cls := "java/lang/Object", name := "<init>", desc := "()V" } : Jvm.MethodName)) ∈ lw_all := lw_g (lw_at lw_m1 77 rfl) rfl
theorem q199 : (Jvm.Cond.classLink "CrumblingWall" (9 : Nat) "CrumblingWall$Wall") ∈ lw_all := lw_g (lw_at lw_m1 80 rfl) rfl
theorem q201 : (Jvm.Cond.methodLink "CrumblingWall" (11 : Nat) ({ cls := "CrumblingWall$Wall", name := "<init>", desc := "()V" } : Jvm.MethodName)) ∈ lw_all := lw_g (lw_at lw_m1 82 rfl) rfl
theorem q213 : (Jvm.Cond.fieldLinkNest "CrumblingWall" (247 : Nat) "CrumblingWall$Climber" "at" "I" "CrumblingWall") ∈ lw_tbl := lw_at lw_m1 94 rfl
theorem q216 : (Jvm.Cond.fieldLinkNest "CrumblingWall" (252 : Nat) "CrumblingWall$Climber" "state" "I" "CrumblingWall") ∈ lw_tbl := lw_at lw_m1 97 rfl
theorem q218 : (Jvm.Cond.fieldLinkNest "CrumblingWall" (255 : Nat) "CrumblingWall$Climber" "grip" "I" "CrumblingWall") ∈ lw_tbl := lw_at lw_m1 99 rfl
theorem q645 : (Jvm.Cond.fieldLinkNest "CrumblingWall" (112 : Nat) "CrumblingWall$Wall" "holds" "Ljava/util/ArrayList;" "CrumblingWall") ∈ lw_tbl := lw_at lw_m3 46 rfl
theorem q647 : (Jvm.Cond.fieldLinkNest "CrumblingWall" (212 : Nat) "CrumblingWall$Wall" "lamps" "Ljava/util/ArrayList;" "CrumblingWall") ∈ lw_tbl := lw_at lw_m3 48 rfl
theorem q649 : (Jvm.Cond.fieldLinkNest "CrumblingWall" (362 : Nat) "CrumblingWall$Wall" "anchors" "Ljava/util/LinkedList;" "CrumblingWall") ∈ lw_tbl := lw_at lw_m3 50 rfl
theorem q653 : (Jvm.Cond.fieldLinkNest "CrumblingWall" (391 : Nat) "CrumblingWall$Wall" "forces" "[F" "CrumblingWall") ∈ lw_tbl := lw_at lw_m3 54 rfl
theorem q655 : (Jvm.Cond.fieldLinkNest "CrumblingWall" (388 : Nat) "CrumblingWall$Wall" "forced" "I" "CrumblingWall") ∈ lw_tbl := lw_at lw_m3 56 rfl
theorem q657 : (Jvm.Cond.fieldLinkNest "CrumblingWall" (146 : Nat) "CrumblingWall$Wall" "reach" "I" "CrumblingWall") ∈ lw_tbl := lw_at lw_m3 58 rfl
theorem q659 : (Jvm.Cond.fieldLinkNest "CrumblingWall" (149 : Nat) "CrumblingWall$Wall" "dusk" "I" "CrumblingWall") ∈ lw_tbl := lw_at lw_m3 60 rfl
theorem q661 : (Jvm.Cond.fieldLinkNest "CrumblingWall" (152 : Nat) "CrumblingWall$Wall" "length" "I" "CrumblingWall") ∈ lw_tbl := lw_at lw_m3 62 rfl
theorem q663 : (Jvm.Cond.fieldLinkNest "CrumblingWall" (488 : Nat) "CrumblingWall$Wall" "minutes" "I" "CrumblingWall") ∈ lw_tbl := lw_at lw_m3 64 rfl
theorem q665 : (Jvm.Cond.fieldLinkNest "CrumblingWall" (491 : Nat) "CrumblingWall$Wall" "moved" "I" "CrumblingWall") ∈ lw_tbl := lw_at lw_m3 66 rfl
theorem q667 : (Jvm.Cond.fieldLinkNest "CrumblingWall" (494 : Nat) "CrumblingWall$Wall" "rested" "I" "CrumblingWall") ∈ lw_tbl := lw_at lw_m3 68 rfl
theorem q669 : (Jvm.Cond.fieldLinkNest "CrumblingWall" (497 : Nat) "CrumblingWall$Wall" "hung" "I" "CrumblingWall") ∈ lw_tbl := lw_at lw_m3 70 rfl
theorem q671 : (Jvm.Cond.fieldLinkNest "CrumblingWall" (500 : Nat) "CrumblingWall$Wall" "fallen" "I" "CrumblingWall") ∈ lw_tbl := lw_at lw_m3 72 rfl
theorem q704 : (Jvm.Cond.classLink "CrumblingWall" (16 : Nat) "java/util/ArrayDeque") ∈ lw_all := lw_g (lw_at lw_m3 105 rfl) rfl
theorem q706 : (Jvm.Cond.methodLink "CrumblingWall" (18 : Nat) ({ cls := "java/util/ArrayDeque", name := "<init>", desc := "()V" } : Jvm.MethodName)) ∈ lw_all := lw_g (lw_at lw_m3 107 rfl) rfl
theorem q721 : (Jvm.Cond.classLink "CrumblingWall" (27 : Nat) "[F") ∈ lw_all := lw_g (lw_at lw_m3 122 rfl) rfl
theorem q723 : (Jvm.Cond.classLink "CrumblingWall" (33 : Nat) "CrumblingWall$Hold") ∈ lw_all := lw_g (lw_at lw_m3 124 rfl) rfl
theorem q725 : (Jvm.Cond.classLink "CrumblingWall" (39 : Nat) "java/lang/StringBuilder") ∈ lw_all := lw_g (lw_at lw_m3 126 rfl) rfl
theorem q726 : (Jvm.Cond.methodLink "CrumblingWall" (41 : Nat) ({ cls := "java/lang/StringBuilder", name := "<init>", desc := "()V" } : Jvm.MethodName)) ∈ lw_all := lw_g (lw_at lw_m3 127 rfl) rfl
theorem q727 : (Jvm.Cond.fieldLink "CrumblingWall" (12 : Nat) "CrumblingWall" "wall" "LCrumblingWall$Wall;") ∈ lw_all := lw_g (lw_at lw_m3 128 rfl) rfl
theorem q728 : (Jvm.Cond.fieldLink "CrumblingWall" (516 : Nat) "CrumblingWall" "saved" "LCrumblingWall$Wall;") ∈ lw_all := lw_g (lw_at lw_m3 129 rfl) rfl
theorem q729 : (Jvm.Cond.fieldLink "CrumblingWall" (19 : Nat) "CrumblingWall" "past" "Ljava/util/ArrayDeque;") ∈ lw_all := lw_g (lw_at lw_m3 130 rfl) rfl
theorem q730 : (Jvm.Cond.fieldLink "CrumblingWall" (67 : Nat) "CrumblingWall" "reason" "I") ∈ lw_all := lw_g (lw_at lw_m3 131 rfl) rfl
theorem q731 : (Jvm.Cond.fieldLink "CrumblingWall" (71 : Nat) "CrumblingWall" "detail" "I") ∈ lw_all := lw_g (lw_at lw_m3 132 rfl) rfl
theorem q732 : (Jvm.Cond.fieldLink "CrumblingWall" (23 : Nat) "CrumblingWall" "states" "[I") ∈ lw_all := lw_g (lw_at lw_m3 133 rfl) rfl
theorem q733 : (Jvm.Cond.fieldLink "CrumblingWall" (285 : Nat) "CrumblingWall" "stated" "I") ∈ lw_all := lw_g (lw_at lw_m3 134 rfl) rfl
theorem q734 : (Jvm.Cond.fieldLink "CrumblingWall" (29 : Nat) "CrumblingWall" "rows" "[[F") ∈ lw_all := lw_g (lw_at lw_m3 135 rfl) rfl
theorem q735 : (Jvm.Cond.fieldLink "CrumblingWall" (35 : Nat) "CrumblingWall" "rack" "[LCrumblingWall$Hold;") ∈ lw_all := lw_g (lw_at lw_m3 136 rfl) rfl
theorem q736 : (Jvm.Cond.fieldLink "CrumblingWall" (42 : Nat) "CrumblingWall" "text" "Ljava/lang/StringBuilder;") ∈ lw_all := lw_g (lw_at lw_m3 137 rfl) rfl
theorem q737 : (Jvm.Cond.fieldLink "CrumblingWall" (46 : Nat) "CrumblingWall" "errorAt" "I") ∈ lw_all := lw_g (lw_at lw_m3 138 rfl) rfl
theorem q738 : (Jvm.Cond.lays "CrumblingWall" "CrumblingWall" "wall" "LCrumblingWall$Wall;") ∈ lw_all := lw_g (lw_at lw_m3 139 rfl) rfl
theorem q739 : (Jvm.Cond.soleField "CrumblingWall" "wall") ∈ lw_all := lw_g (lw_at lw_m3 140 rfl) rfl
theorem q740 : (Jvm.Cond.lays "CrumblingWall" "CrumblingWall" "saved" "LCrumblingWall$Wall;") ∈ lw_all := lw_g (lw_at lw_m3 141 rfl) rfl
theorem q741 : (Jvm.Cond.soleField "CrumblingWall" "saved") ∈ lw_all := lw_g (lw_at lw_m3 142 rfl) rfl
theorem q742 : (Jvm.Cond.laysFinal "CrumblingWall" "CrumblingWall" "past" "Ljava/util/ArrayDeque;") ∈ lw_all := lw_g (lw_at lw_m3 143 rfl) rfl
theorem q743 : (Jvm.Cond.soleField "CrumblingWall" "past") ∈ lw_all := lw_g (lw_at lw_m3 144 rfl) rfl
theorem q744 : (Jvm.Cond.lays "CrumblingWall" "CrumblingWall" "reason" "I") ∈ lw_all := lw_g (lw_at lw_m3 145 rfl) rfl
theorem q745 : (Jvm.Cond.soleField "CrumblingWall" "reason") ∈ lw_all := lw_g (lw_at lw_m3 146 rfl) rfl
theorem q746 : (Jvm.Cond.lays "CrumblingWall" "CrumblingWall" "detail" "I") ∈ lw_all := lw_g (lw_at lw_m3 147 rfl) rfl
theorem q747 : (Jvm.Cond.soleField "CrumblingWall" "detail") ∈ lw_all := lw_g (lw_at lw_m3 148 rfl) rfl
theorem q748 : (Jvm.Cond.laysFinal "CrumblingWall" "CrumblingWall" "states" "[I") ∈ lw_all := lw_g (lw_at lw_m3 149 rfl) rfl
theorem q749 : (Jvm.Cond.soleField "CrumblingWall" "states") ∈ lw_all := lw_g (lw_at lw_m3 150 rfl) rfl
theorem q750 : (Jvm.Cond.lays "CrumblingWall" "CrumblingWall" "stated" "I") ∈ lw_all := lw_g (lw_at lw_m3 151 rfl) rfl
theorem q751 : (Jvm.Cond.soleField "CrumblingWall" "stated") ∈ lw_all := lw_g (lw_at lw_m3 152 rfl) rfl
theorem q752 : (Jvm.Cond.laysFinal "CrumblingWall" "CrumblingWall" "rows" "[[F") ∈ lw_all := lw_g (lw_at lw_m3 153 rfl) rfl
theorem q753 : (Jvm.Cond.soleField "CrumblingWall" "rows") ∈ lw_all := lw_g (lw_at lw_m3 154 rfl) rfl
theorem q754 : (Jvm.Cond.lays "CrumblingWall" "CrumblingWall" "rack" "[LCrumblingWall$Hold;") ∈ lw_all := lw_g (lw_at lw_m3 155 rfl) rfl
theorem q755 : (Jvm.Cond.soleField "CrumblingWall" "rack") ∈ lw_all := lw_g (lw_at lw_m3 156 rfl) rfl
theorem q756 : (Jvm.Cond.laysFinal "CrumblingWall" "CrumblingWall" "text" "Ljava/lang/StringBuilder;") ∈ lw_all := lw_g (lw_at lw_m3 157 rfl) rfl
theorem q757 : (Jvm.Cond.soleField "CrumblingWall" "text") ∈ lw_all := lw_g (lw_at lw_m3 158 rfl) rfl
theorem q758 : (Jvm.Cond.lays "CrumblingWall" "CrumblingWall" "errorAt" "I") ∈ lw_all := lw_g (lw_at lw_m3 159 rfl) rfl
theorem q759 : (Jvm.Cond.soleField "CrumblingWall" "errorAt") ∈ lw_all := lw_g (lw_at lw_m3 160 rfl) rfl
theorem q760 : (Jvm.Cond.superclass "CrumblingWall" "java/lang/Object") ∈ lw_all := lw_g (lw_at lw_m3 161 rfl) rfl
theorem q763 : (Jvm.Cond.instanceMethod ({ cls := "CrumblingWall", name := "anchors", desc := "()I" } : Jvm.MethodName)) ∈ lw_all := lw_g (lw_at lw_m3 164 rfl) rfl
theorem q764 : (Jvm.Cond.selects "CrumblingWall" ({ cls := "CrumblingWall", name := "anchors", desc := "()I" } : Jvm.MethodName) ({ cls := "CrumblingWall", name := "anchors", desc := "()I" } : Jvm.MethodName)) ∈ lw_all := lw_g (lw_at lw_m3 165 rfl) rfl
theorem q765 : (Jvm.Cond.code ({ cls := "CrumblingWall", name := "anchors", desc := "()I" } : Jvm.MethodName) prog_1_method_33_code (1 : Nat) (Option.some Jvm.ClassFile.FieldType.int)) ∈ lw_all := lw_g (lw_at lw_m3 166 rfl) rfl
theorem q766 : (Jvm.Cond.methodLink "CrumblingWall" (366 : Nat) ({ cls := "java/util/LinkedList", name := "size", desc := "()I" } : Jvm.MethodName)) ∈ lw_all := lw_g (lw_at lw_m3 167 rfl) rfl
theorem q771 : (Jvm.Cond.instanceMethod ({ cls := "CrumblingWall", name := "rope", desc := "()I" } : Jvm.MethodName)) ∈ lw_all := lw_g (lw_at lw_m3 172 rfl) rfl
theorem q772 : (Jvm.Cond.selects "CrumblingWall" ({ cls := "CrumblingWall", name := "rope", desc := "()I" } : Jvm.MethodName) ({ cls := "CrumblingWall", name := "rope", desc := "()I" } : Jvm.MethodName)) ∈ lw_all := lw_g (lw_at lw_m3 173 rfl) rfl
theorem q773 : (Jvm.Cond.code ({ cls := "CrumblingWall", name := "rope", desc := "()I" } : Jvm.MethodName) prog_1_method_35_code (1 : Nat) (Option.some Jvm.ClassFile.FieldType.int)) ∈ lw_all := lw_g (lw_at lw_m3 174 rfl) rfl
theorem q774 : (Jvm.Cond.methodLink "CrumblingWall" (155 : Nat) ({ cls := "CrumblingWall$Wall", name := "out", desc := "()I" } : Jvm.MethodName)) ∈ lw_all := lw_g (lw_at lw_m3 175 rfl) rfl
theorem q1077 : (Jvm.Cond.selects "CrumblingWall" ({ cls := "java/lang/Object", name := "getClass", desc := "()Ljava/lang/Class;" } : Jvm.MethodName) ({ cls := "java/lang/Object", name := "getClass", desc := "()Ljava/lang/Class;" } : Jvm.MethodName)) ∈ lw_all := lw_g (lw_at lw_m4 238 rfl) rfl
theorem q1295 : (Jvm.Cond.instanceMethod ({ cls := "CrumblingWall", name := "ropeAgain", desc := "()I" } : Jvm.MethodName)) ∈ lw_all := lw_g (lw_at lw_m5 216 rfl) rfl
theorem q1296 : (Jvm.Cond.selects "CrumblingWall" ({ cls := "CrumblingWall", name := "ropeAgain", desc := "()I" } : Jvm.MethodName) ({ cls := "CrumblingWall", name := "ropeAgain", desc := "()I" } : Jvm.MethodName)) ∈ lw_all := lw_g (lw_at lw_m5 217 rfl) rfl
theorem q1297 : (Jvm.Cond.code ({ cls := "CrumblingWall", name := "ropeAgain", desc := "()I" } : Jvm.MethodName) prog_1_method_36_code (1 : Nat) (Option.some Jvm.ClassFile.FieldType.int)) ∈ lw_all := lw_g (lw_at lw_m5 218 rfl) rfl
theorem q1298 : (Jvm.Cond.methodLink "CrumblingWall" (373 : Nat) ({ cls := "CrumblingWall$Wall", name := "outAgain", desc := "()I" } : Jvm.MethodName)) ∈ lw_all := lw_g (lw_at lw_m5 219 rfl) rfl
theorem q1345 : (Jvm.Cond.instanceMethod ({ cls := "CrumblingWall", name := "left", desc := "()I" } : Jvm.MethodName)) ∈ lw_all := lw_g (lw_at lw_m6 26 rfl) rfl
theorem q1346 : (Jvm.Cond.selects "CrumblingWall" ({ cls := "CrumblingWall", name := "left", desc := "()I" } : Jvm.MethodName) ({ cls := "CrumblingWall", name := "left", desc := "()I" } : Jvm.MethodName)) ∈ lw_all := lw_g (lw_at lw_m6 27 rfl) rfl
theorem q1347 : (Jvm.Cond.code ({ cls := "CrumblingWall", name := "left", desc := "()I" } : Jvm.MethodName) prog_1_method_50_code (6 : Nat) (Option.some Jvm.ClassFile.FieldType.int)) ∈ lw_all := lw_g (lw_at lw_m6 28 rfl) rfl
theorem q1348 : (Jvm.Cond.methodLink "CrumblingWall" (422 : Nat) ({ cls := "CrumblingWall$Hold", name := "number", desc := "()I" } : Jvm.MethodName)) ∈ lw_all := lw_g (lw_at lw_m6 29 rfl) rfl
theorem q1349 : (Jvm.Cond.methodLink "CrumblingWall" (165 : Nat) ({ cls := "CrumblingWall$Wall", name := "isHold", desc := "(I)Z" } : Jvm.MethodName)) ∈ lw_all := lw_g (lw_at lw_m6 30 rfl) rfl
theorem q1355 : (Jvm.Cond.static ({ cls := "CrumblingWall", name := "isIn", desc := "(III)Z" } : Jvm.MethodName)) ∈ lw_all := lw_g (lw_at lw_m6 36 rfl) rfl
theorem q1356 : (Jvm.Cond.code ({ cls := "CrumblingWall", name := "isIn", desc := "(III)Z" } : Jvm.MethodName) prog_1_method_2_code (3 : Nat) (Option.some Jvm.ClassFile.FieldType.boolean)) ∈ lw_all := lw_g (lw_at lw_m6 37 rfl) rfl
theorem q1357 : (Jvm.Cond.methodLink "CrumblingWall" (172 : Nat) ({ cls := "java/util/ArrayList", name := "get", desc := "(I)Ljava/lang/Object;" } : Jvm.MethodName)) ∈ lw_all := lw_g (lw_at lw_m6 38 rfl) rfl
theorem q1358 : (Jvm.Cond.methodLink "CrumblingWall" (425 : Nat) ({ cls := "CrumblingWall$Hold", name := "left", desc := "()I" } : Jvm.MethodName)) ∈ lw_all := lw_g (lw_at lw_m6 39 rfl) rfl
theorem q1375 : (Jvm.Cond.instanceMethod ({ cls := "CrumblingWall", name := "save", desc := "()I" } : Jvm.MethodName)) ∈ lw_all := lw_g (lw_at lw_m6 56 rfl) rfl
theorem q1376 : (Jvm.Cond.selects "CrumblingWall" ({ cls := "CrumblingWall", name := "save", desc := "()I" } : Jvm.MethodName) ({ cls := "CrumblingWall", name := "save", desc := "()I" } : Jvm.MethodName)) ∈ lw_all := lw_g (lw_at lw_m6 57 rfl) rfl
theorem q1377 : (Jvm.Cond.code ({ cls := "CrumblingWall", name := "save", desc := "()I" } : Jvm.MethodName) prog_1_method_61_code (1 : Nat) (Option.some Jvm.ClassFile.FieldType.int)) ∈ lw_all := lw_g (lw_at lw_m6 58 rfl) rfl
theorem q1378 : (Jvm.Cond.methodLink "CrumblingWall" (130 : Nat) ({ cls := "CrumblingWall$Wall", name := "copy", desc := "()LCrumblingWall$Wall;" } : Jvm.MethodName)) ∈ lw_all := lw_g (lw_at lw_m6 59 rfl) rfl
theorem q1572 : (Jvm.Cond.fieldLinkNest "CrumblingWall" (230 : Nat) "CrumblingWall$Lamp" "radius" "I" "CrumblingWall") ∈ lw_tbl := lw_at lw_m7 13 rfl
theorem q1577 : (Jvm.Cond.fieldLinkNest "CrumblingWall" (227 : Nat) "CrumblingWall$Lamp" "carrier" "I" "CrumblingWall") ∈ lw_tbl := lw_at lw_m7 18 rfl
theorem q1579 : (Jvm.Cond.fieldLinkNest "CrumblingWall" (233 : Nat) "CrumblingWall$Lamp" "oil" "I" "CrumblingWall") ∈ lw_tbl := lw_at lw_m7 20 rfl
theorem q1583 : (Jvm.Cond.fieldLinkNest "CrumblingWall" (236 : Nat) "CrumblingWall$Lamp" "isLit" "Z" "CrumblingWall") ∈ lw_tbl := lw_at lw_m7 24 rfl
theorem q1626 : (Jvm.Cond.methodLink "CrumblingWall" (116 : Nat) ({ cls := "java/util/ArrayList", name := "size", desc := "()I" } : Jvm.MethodName)) ∈ lw_all := lw_g (lw_at lw_m7 67 rfl) rfl
theorem q1634 : (Jvm.Cond.instanceMethod ({ cls := "CrumblingWall", name := "hold", desc := "(IIII)I" } : Jvm.MethodName)) ∈ lw_all := lw_g (lw_at lw_m7 75 rfl) rfl
theorem q1635 : (Jvm.Cond.selects "CrumblingWall" ({ cls := "CrumblingWall", name := "hold", desc := "(IIII)I" } : Jvm.MethodName) ({ cls := "CrumblingWall", name := "hold", desc := "(IIII)I" } : Jvm.MethodName)) ∈ lw_all := lw_g (lw_at lw_m7 76 rfl) rfl
theorem q1636 : (Jvm.Cond.code ({ cls := "CrumblingWall", name := "hold", desc := "(IIII)I" } : Jvm.MethodName) prog_1_method_11_code (8 : Nat) (Option.some Jvm.ClassFile.FieldType.int)) ∈ lw_all := lw_g (lw_at lw_m7 77 rfl) rfl
theorem q1637 : (Jvm.Cond.methodLink "CrumblingWall" (104 : Nat) ({ cls := "CrumblingWall", name := "isIn", desc := "(III)Z" } : Jvm.MethodName)) ∈ lw_all := lw_g (lw_at lw_m7 78 rfl) rfl
theorem q1638 : (Jvm.Cond.methodLink "CrumblingWall" (108 : Nat) ({ cls := "CrumblingWall", name := "check", desc := "(Z)V" } : Jvm.MethodName)) ∈ lw_all := lw_g (lw_at lw_m7 79 rfl) rfl
theorem q1639 : (Jvm.Cond.static ({ cls := "CrumblingWall", name := "check", desc := "(Z)V" } : Jvm.MethodName)) ∈ lw_all := lw_g (lw_at lw_m7 80 rfl) rfl
theorem q1640 : (Jvm.Cond.code ({ cls := "CrumblingWall", name := "check", desc := "(Z)V" } : Jvm.MethodName) prog_1_method_4_code (1 : Nat) (Option.none : Option Jvm.ClassFile.FieldType)) ∈ lw_all := lw_g (lw_at lw_m7 81 rfl) rfl
theorem q1641 : (Jvm.Cond.classLink "CrumblingWall" (53 : Nat) "java/lang/IllegalArgumentException") ∈ lw_all := lw_g (lw_at lw_m7 82 rfl) rfl
theorem q1642 : (Jvm.Cond.methodLink "CrumblingWall" (55 : Nat) ({ cls := "java/lang/IllegalArgumentException", name := "<init>", desc := "()V" } : Jvm.MethodName)) ∈ lw_all := lw_g (lw_at lw_m7 83 rfl) rfl
theorem q1646 : (Jvm.Cond.methodLink "CrumblingWall" (119 : Nat) ({ cls := "CrumblingWall", name := "checkState", desc := "(Z)V" } : Jvm.MethodName)) ∈ lw_all := lw_g (lw_at lw_m7 87 rfl) rfl
theorem q1647 : (Jvm.Cond.static ({ cls := "CrumblingWall", name := "checkState", desc := "(Z)V" } : Jvm.MethodName)) ∈ lw_all := lw_g (lw_at lw_m7 88 rfl) rfl
theorem q1648 : (Jvm.Cond.code ({ cls := "CrumblingWall", name := "checkState", desc := "(Z)V" } : Jvm.MethodName) prog_1_method_5_code (1 : Nat) (Option.none : Option Jvm.ClassFile.FieldType)) ∈ lw_all := lw_g (lw_at lw_m7 89 rfl) rfl
theorem q1649 : (Jvm.Cond.classLink "CrumblingWall" (56 : Nat) "java/lang/IllegalStateException") ∈ lw_all := lw_g (lw_at lw_m7 90 rfl) rfl
theorem q1658 : (Jvm.Cond.methodLink "CrumblingWall" (58 : Nat) ({ cls := "java/lang/IllegalStateException", name := "<init>", desc := "()V" } : Jvm.MethodName)) ∈ lw_all := lw_g (lw_at lw_m7 99 rfl) rfl
theorem q1664 : (Jvm.Cond.methodLink "CrumblingWall" (122 : Nat) ({ cls := "CrumblingWall$Wall", name := "holdAt", desc := "(II)I" } : Jvm.MethodName)) ∈ lw_all := lw_g (lw_at lw_m7 105 rfl) rfl
theorem q1670 : (Jvm.Cond.classLink "CrumblingWall" (63 : Nat) "CrumblingWall$Refused") ∈ lw_all := lw_g (lw_at lw_m7 111 rfl) rfl
theorem q1679 : (Jvm.Cond.methodLink "CrumblingWall" (75 : Nat) ({ cls := "CrumblingWall$Refused", name := "<init>", desc := "(II)V" } : Jvm.MethodName)) ∈ lw_all := lw_g (lw_at lw_m7 120 rfl) rfl
theorem q1689 : (Jvm.Cond.fieldLinkNest "CrumblingWall" (62 : Nat) "CrumblingWall$Refused" "reason" "I" "CrumblingWall") ∈ lw_tbl := lw_at lw_m7 130 rfl
theorem q1691 : (Jvm.Cond.fieldLinkNest "CrumblingWall" (68 : Nat) "CrumblingWall$Refused" "detail" "I" "CrumblingWall") ∈ lw_tbl := lw_at lw_m7 132 rfl
theorem q1698 : (Jvm.Cond.methodLink "CrumblingWall" (126 : Nat) ({ cls := "CrumblingWall", name := "refusal", desc := "(LCrumblingWall$Refused;)Ljava/lang/UnsupportedOperationException;" } : Jvm.MethodName)) ∈ lw_all := lw_g (lw_at lw_m7 139 rfl) rfl
theorem q1699 : (Jvm.Cond.privateMethod ({ cls := "CrumblingWall", name := "refusal", desc := "(LCrumblingWall$Refused;)Ljava/lang/UnsupportedOperationException;" } : Jvm.MethodName)) ∈ lw_tbl := lw_at lw_m7 140 rfl
theorem q1700 : (Jvm.Cond.instanceMethod ({ cls := "CrumblingWall", name := "refusal", desc := "(LCrumblingWall$Refused;)Ljava/lang/UnsupportedOperationException;" } : Jvm.MethodName)) ∈ lw_all := lw_g (lw_at lw_m7 141 rfl) rfl
theorem q1701 : (Jvm.Cond.code ({ cls := "CrumblingWall", name := "refusal", desc := "(LCrumblingWall$Refused;)Ljava/lang/UnsupportedOperationException;" } : Jvm.MethodName) prog_1_method_7_code (2 : Nat) (Option.some (Jvm.ClassFile.FieldType.object "java/lang/UnsupportedOperationException"))) ∈ lw_all := lw_g (lw_at lw_m7 142 rfl) rfl
theorem q1702 : (Jvm.Cond.classLink "CrumblingWall" (72 : Nat) "java/lang/UnsupportedOperationException") ∈ lw_all := lw_g (lw_at lw_m7 143 rfl) rfl
theorem q1711 : (Jvm.Cond.methodLink "CrumblingWall" (74 : Nat) ({ cls := "java/lang/UnsupportedOperationException", name := "<init>", desc := "()V" } : Jvm.MethodName)) ∈ lw_all := lw_g (lw_at lw_m7 152 rfl) rfl
theorem q1717 : (Jvm.Cond.methodLink "CrumblingWall" (134 : Nat) ({ cls := "CrumblingWall", name := "made", desc := "(IIIII)LCrumblingWall$Hold;" } : Jvm.MethodName)) ∈ lw_all := lw_g (lw_at lw_m7 158 rfl) rfl
theorem q1718 : (Jvm.Cond.static ({ cls := "CrumblingWall", name := "made", desc := "(IIIII)LCrumblingWall$Hold;" } : Jvm.MethodName)) ∈ lw_all := lw_g (lw_at lw_m7 159 rfl) rfl
theorem q1719 : (Jvm.Cond.code ({ cls := "CrumblingWall", name := "made", desc := "(IIIII)LCrumblingWall$Hold;" } : Jvm.MethodName) prog_1_method_9_code (5 : Nat) (Option.some (Jvm.ClassFile.FieldType.object "CrumblingWall$Hold"))) ∈ lw_all := lw_g (lw_at lw_m7 160 rfl) rfl
theorem q1720 : (Jvm.Cond.classLink "CrumblingWall" (78 : Nat) "CrumblingWall$Edge") ∈ lw_all := lw_g (lw_at lw_m7 161 rfl) rfl
theorem q1721 : (Jvm.Cond.methodLink "CrumblingWall" (80 : Nat) ({ cls := "CrumblingWall$Edge", name := "<init>", desc := "(IIII)V" } : Jvm.MethodName)) ∈ lw_all := lw_g (lw_at lw_m7 162 rfl) rfl
theorem q1722 : (Jvm.Cond.classLink "CrumblingWall" (83 : Nat) "CrumblingWall$Pocket") ∈ lw_all := lw_g (lw_at lw_m7 163 rfl) rfl
theorem q1723 : (Jvm.Cond.methodLink "CrumblingWall" (85 : Nat) ({ cls := "CrumblingWall$Pocket", name := "<init>", desc := "(IIII)V" } : Jvm.MethodName)) ∈ lw_all := lw_g (lw_at lw_m7 164 rfl) rfl
theorem q1724 : (Jvm.Cond.classLink "CrumblingWall" (86 : Nat) "CrumblingWall$Flake") ∈ lw_all := lw_g (lw_at lw_m7 165 rfl) rfl
theorem q1725 : (Jvm.Cond.methodLink "CrumblingWall" (88 : Nat) ({ cls := "CrumblingWall$Flake", name := "<init>", desc := "(IIII)V" } : Jvm.MethodName)) ∈ lw_all := lw_g (lw_at lw_m7 166 rfl) rfl
theorem q1726 : (Jvm.Cond.classLink "CrumblingWall" (89 : Nat) "CrumblingWall$Bolt") ∈ lw_all := lw_g (lw_at lw_m7 167 rfl) rfl
theorem q1727 : (Jvm.Cond.methodLink "CrumblingWall" (91 : Nat) ({ cls := "CrumblingWall$Bolt", name := "<init>", desc := "(IIII)V" } : Jvm.MethodName)) ∈ lw_all := lw_g (lw_at lw_m7 168 rfl) rfl
theorem q1728 : (Jvm.Cond.methodLink "CrumblingWall" (138 : Nat) ({ cls := "java/util/ArrayList", name := "add", desc := "(Ljava/lang/Object;)Z" } : Jvm.MethodName)) ∈ lw_all := lw_g (lw_at lw_m7 169 rfl) rfl
theorem q1729 : (Jvm.Cond.methodLink "CrumblingWall" (142 : Nat) ({ cls := "CrumblingWall", name := "changed", desc := "(LCrumblingWall$Wall;I)I" } : Jvm.MethodName)) ∈ lw_all := lw_g (lw_at lw_m7 170 rfl) rfl
theorem q1730 : (Jvm.Cond.privateMethod ({ cls := "CrumblingWall", name := "changed", desc := "(LCrumblingWall$Wall;I)I" } : Jvm.MethodName)) ∈ lw_tbl := lw_at lw_m7 171 rfl
theorem q1731 : (Jvm.Cond.instanceMethod ({ cls := "CrumblingWall", name := "changed", desc := "(LCrumblingWall$Wall;I)I" } : Jvm.MethodName)) ∈ lw_all := lw_g (lw_at lw_m7 172 rfl) rfl
theorem q1732 : (Jvm.Cond.code ({ cls := "CrumblingWall", name := "changed", desc := "(LCrumblingWall$Wall;I)I" } : Jvm.MethodName) prog_1_method_10_code (3 : Nat) (Option.some Jvm.ClassFile.FieldType.int)) ∈ lw_all := lw_g (lw_at lw_m7 173 rfl) rfl
theorem q1733 : (Jvm.Cond.methodLink "CrumblingWall" (92 : Nat) ({ cls := "java/util/ArrayDeque", name := "addLast", desc := "(Ljava/lang/Object;)V" } : Jvm.MethodName)) ∈ lw_all := lw_g (lw_at lw_m7 174 rfl) rfl
theorem q1758 : (Jvm.Cond.methodLink "CrumblingWall" (96 : Nat) ({ cls := "java/util/ArrayDeque", name := "size", desc := "()I" } : Jvm.MethodName)) ∈ lw_all := lw_g (lw_at lw_m7 199 rfl) rfl
theorem q1765 : (Jvm.Cond.methodLink "CrumblingWall" (100 : Nat) ({ cls := "java/util/ArrayDeque", name := "removeFirst", desc := "()Ljava/lang/Object;" } : Jvm.MethodName)) ∈ lw_all := lw_g (lw_at lw_m7 206 rfl) rfl
theorem q1782 : (Jvm.Cond.instanceMethod ({ cls := "CrumblingWall", name := "set", desc := "(II)I" } : Jvm.MethodName)) ∈ lw_all := lw_g (lw_at lw_m7 223 rfl) rfl
theorem q1783 : (Jvm.Cond.selects "CrumblingWall" ({ cls := "CrumblingWall", name := "set", desc := "(II)I" } : Jvm.MethodName) ({ cls := "CrumblingWall", name := "set", desc := "(II)I" } : Jvm.MethodName)) ∈ lw_all := lw_g (lw_at lw_m7 224 rfl) rfl
theorem q1784 : (Jvm.Cond.codeWith ({ cls := "CrumblingWall", name := "set", desc := "(II)I" } : Jvm.MethodName) prog_1_method_13_code (5 : Nat) (Option.some Jvm.ClassFile.FieldType.int) [((70 : Nat), (81 : Nat), (82 : Nat), (63 : Nat))]) ∈ lw_all := lw_g (lw_at lw_m7 225 rfl) rfl
theorem q1785 : (Jvm.Cond.methodLink "CrumblingWall" (162 : Nat) ({ cls := "CrumblingWall", name := "sets", desc := "(II)I" } : Jvm.MethodName)) ∈ lw_all := lw_g (lw_at lw_m7 226 rfl) rfl
theorem q1786 : (Jvm.Cond.privateMethod ({ cls := "CrumblingWall", name := "sets", desc := "(II)I" } : Jvm.MethodName)) ∈ lw_tbl := lw_at lw_m7 227 rfl
theorem q1787 : (Jvm.Cond.instanceMethod ({ cls := "CrumblingWall", name := "sets", desc := "(II)I" } : Jvm.MethodName)) ∈ lw_all := lw_g (lw_at lw_m7 228 rfl) rfl
theorem q1788 : (Jvm.Cond.code ({ cls := "CrumblingWall", name := "sets", desc := "(II)I" } : Jvm.MethodName) prog_1_method_12_code (4 : Nat) (Option.some Jvm.ClassFile.FieldType.int)) ∈ lw_all := lw_g (lw_at lw_m7 229 rfl) rfl
theorem q1789 : (Jvm.Cond.methodLink "CrumblingWall" (158 : Nat) ({ cls := "CrumblingWall", name := "refuse", desc := "(ZII)V" } : Jvm.MethodName)) ∈ lw_all := lw_g (lw_at lw_m7 230 rfl) rfl
theorem q1790 : (Jvm.Cond.static ({ cls := "CrumblingWall", name := "refuse", desc := "(ZII)V" } : Jvm.MethodName)) ∈ lw_all := lw_g (lw_at lw_m7 231 rfl) rfl
theorem q1791 : (Jvm.Cond.code ({ cls := "CrumblingWall", name := "refuse", desc := "(ZII)V" } : Jvm.MethodName) prog_1_method_8_code (3 : Nat) (Option.none : Option Jvm.ClassFile.FieldType)) ∈ lw_all := lw_g (lw_at lw_m7 232 rfl) rfl
theorem q1812 : (Jvm.Cond.instanceMethod ({ cls := "CrumblingWall", name := "holdOf", desc := "(II)I" } : Jvm.MethodName)) ∈ lw_all := lw_g (lw_at lw_m8 13 rfl) rfl
theorem q1813 : (Jvm.Cond.selects "CrumblingWall" ({ cls := "CrumblingWall", name := "holdOf", desc := "(II)I" } : Jvm.MethodName) ({ cls := "CrumblingWall", name := "holdOf", desc := "(II)I" } : Jvm.MethodName)) ∈ lw_all := lw_g (lw_at lw_m8 14 rfl) rfl
theorem q1814 : (Jvm.Cond.code ({ cls := "CrumblingWall", name := "holdOf", desc := "(II)I" } : Jvm.MethodName) prog_1_method_14_code (4 : Nat) (Option.some Jvm.ClassFile.FieldType.int)) ∈ lw_all := lw_g (lw_at lw_m8 15 rfl) rfl
theorem q1815 : (Jvm.Cond.methodLink "CrumblingWall" (169 : Nat) ({ cls := "CrumblingWall", name := "checkIndex", desc := "(Z)V" } : Jvm.MethodName)) ∈ lw_all := lw_g (lw_at lw_m8 16 rfl) rfl
theorem q1816 : (Jvm.Cond.static ({ cls := "CrumblingWall", name := "checkIndex", desc := "(Z)V" } : Jvm.MethodName)) ∈ lw_all := lw_g (lw_at lw_m8 17 rfl) rfl
theorem q1817 : (Jvm.Cond.code ({ cls := "CrumblingWall", name := "checkIndex", desc := "(Z)V" } : Jvm.MethodName) prog_1_method_3_code (1 : Nat) (Option.none : Option Jvm.ClassFile.FieldType)) ∈ lw_all := lw_g (lw_at lw_m8 18 rfl) rfl
theorem q1818 : (Jvm.Cond.classLink "CrumblingWall" (50 : Nat) "java/lang/IndexOutOfBoundsException") ∈ lw_all := lw_g (lw_at lw_m8 19 rfl) rfl
theorem q1819 : (Jvm.Cond.methodLink "CrumblingWall" (52 : Nat) ({ cls := "java/lang/IndexOutOfBoundsException", name := "<init>", desc := "()V" } : Jvm.MethodName)) ∈ lw_all := lw_g (lw_at lw_m8 20 rfl) rfl
theorem q1823 : (Jvm.Cond.methodLink "CrumblingWall" (176 : Nat) ({ cls := "CrumblingWall$Hold", name := "column", desc := "()I" } : Jvm.MethodName)) ∈ lw_all := lw_g (lw_at lw_m8 24 rfl) rfl
theorem q1824 : (Jvm.Cond.methodLink "CrumblingWall" (179 : Nat) ({ cls := "CrumblingWall$Hold", name := "row", desc := "()I" } : Jvm.MethodName)) ∈ lw_all := lw_g (lw_at lw_m8 25 rfl) rfl
theorem q1825 : (Jvm.Cond.methodLink "CrumblingWall" (182 : Nat) ({ cls := "CrumblingWall$Hold", name := "kind", desc := "()I" } : Jvm.MethodName)) ∈ lw_all := lw_g (lw_at lw_m8 26 rfl) rfl
theorem q1840 : (Jvm.Cond.methodLink "CrumblingWall" (185 : Nat) ({ cls := "CrumblingWall$Hold", name := "strength", desc := "()I" } : Jvm.MethodName)) ∈ lw_all := lw_g (lw_at lw_m8 41 rfl) rfl
theorem q1841 : (Jvm.Cond.methodLink "CrumblingWall" (188 : Nat) ({ cls := "CrumblingWall$Hold", name := "wear", desc := "()I" } : Jvm.MethodName)) ∈ lw_all := lw_g (lw_at lw_m8 42 rfl) rfl
theorem q1849 : (Jvm.Cond.methodLink "CrumblingWall" (191 : Nat) ({ cls := "CrumblingWall$Hold", name := "hasCrumbled", desc := "()Z" } : Jvm.MethodName)) ∈ lw_all := lw_g (lw_at lw_m8 50 rfl) rfl
theorem q1850 : (Jvm.Cond.methodLink "CrumblingWall" (195 : Nat) ({ cls := "CrumblingWall$Wall", name := "isBright", desc := "(LCrumblingWall$Hold;)Z" } : Jvm.MethodName)) ∈ lw_all := lw_g (lw_at lw_m8 51 rfl) rfl
theorem q1863 : (Jvm.Cond.methodLink "CrumblingWall" (199 : Nat) ({ cls := "CrumblingWall$Wall", name := "thereAt", desc := "(I)I" } : Jvm.MethodName)) ∈ lw_all := lw_g (lw_at lw_m8 64 rfl) rfl
theorem q1867 : (Jvm.Cond.methodLink "CrumblingWall" (203 : Nat) ({ cls := "CrumblingWall$Wall", name := "lyingAt", desc := "(I)I" } : Jvm.MethodName)) ∈ lw_all := lw_g (lw_at lw_m8 68 rfl) rfl
theorem q1871 : (Jvm.Cond.methodLink "CrumblingWall" (206 : Nat) ({ cls := "CrumblingWall$Wall", name := "anchorsAt", desc := "(I)I" } : Jvm.MethodName)) ∈ lw_all := lw_g (lw_at lw_m8 72 rfl) rfl
theorem q1879 : (Jvm.Cond.instanceMethod ({ cls := "CrumblingWall", name := "lamp", desc := "(III)I" } : Jvm.MethodName)) ∈ lw_all := lw_g (lw_at lw_m8 80 rfl) rfl
theorem q1880 : (Jvm.Cond.selects "CrumblingWall" ({ cls := "CrumblingWall", name := "lamp", desc := "(III)I" } : Jvm.MethodName) ({ cls := "CrumblingWall", name := "lamp", desc := "(III)I" } : Jvm.MethodName)) ∈ lw_all := lw_g (lw_at lw_m8 81 rfl) rfl
theorem q1881 : (Jvm.Cond.code ({ cls := "CrumblingWall", name := "lamp", desc := "(III)I" } : Jvm.MethodName) prog_1_method_15_code (5 : Nat) (Option.some Jvm.ClassFile.FieldType.int)) ∈ lw_all := lw_g (lw_at lw_m8 82 rfl) rfl
theorem q1882 : (Jvm.Cond.methodLink "CrumblingWall" (209 : Nat) ({ cls := "CrumblingWall$Wall", name := "isPlace", desc := "(I)Z" } : Jvm.MethodName)) ∈ lw_all := lw_g (lw_at lw_m8 83 rfl) rfl
theorem q1887 : (Jvm.Cond.classLink "CrumblingWall" (215 : Nat) "CrumblingWall$Lamp") ∈ lw_all := lw_g (lw_at lw_m8 88 rfl) rfl
theorem q1888 : (Jvm.Cond.methodLink "CrumblingWall" (217 : Nat) ({ cls := "CrumblingWall$Lamp", name := "<init>", desc := "(III)V" } : Jvm.MethodName)) ∈ lw_all := lw_g (lw_at lw_m8 89 rfl) rfl
theorem q1893 : (Jvm.Cond.instanceMethod ({ cls := "CrumblingWall", name := "lampOf", desc := "(II)I" } : Jvm.MethodName)) ∈ lw_all := lw_g (lw_at lw_m8 94 rfl) rfl
theorem q1894 : (Jvm.Cond.selects "CrumblingWall" ({ cls := "CrumblingWall", name := "lampOf", desc := "(II)I" } : Jvm.MethodName) ({ cls := "CrumblingWall", name := "lampOf", desc := "(II)I" } : Jvm.MethodName)) ∈ lw_all := lw_g (lw_at lw_m8 95 rfl) rfl
theorem q1895 : (Jvm.Cond.code ({ cls := "CrumblingWall", name := "lampOf", desc := "(II)I" } : Jvm.MethodName) prog_1_method_16_code (4 : Nat) (Option.some Jvm.ClassFile.FieldType.int)) ∈ lw_all := lw_g (lw_at lw_m8 96 rfl) rfl
theorem q1896 : (Jvm.Cond.methodLink "CrumblingWall" (220 : Nat) ({ cls := "CrumblingWall$Wall", name := "isLamp", desc := "(I)Z" } : Jvm.MethodName)) ∈ lw_all := lw_g (lw_at lw_m8 97 rfl) rfl
theorem q1900 : (Jvm.Cond.methodLinkNest "CrumblingWall" (223 : Nat) ({ cls := "CrumblingWall$Wall", name := "placeOf", desc := "(LCrumblingWall$Lamp;)I" } : Jvm.MethodName) "CrumblingWall") ∈ lw_tbl := lw_at lw_m8 101 rfl
theorem q1905 : (Jvm.Cond.instanceMethod ({ cls := "CrumblingWall", name := "climberOf", desc := "(II)I" } : Jvm.MethodName)) ∈ lw_all := lw_g (lw_at lw_m8 106 rfl) rfl
theorem q1906 : (Jvm.Cond.selects "CrumblingWall" ({ cls := "CrumblingWall", name := "climberOf", desc := "(II)I" } : Jvm.MethodName) ({ cls := "CrumblingWall", name := "climberOf", desc := "(II)I" } : Jvm.MethodName)) ∈ lw_all := lw_g (lw_at lw_m8 107 rfl) rfl
theorem q1907 : (Jvm.Cond.code ({ cls := "CrumblingWall", name := "climberOf", desc := "(II)I" } : Jvm.MethodName) prog_1_method_18_code (4 : Nat) (Option.some Jvm.ClassFile.FieldType.int)) ∈ lw_all := lw_g (lw_at lw_m8 108 rfl) rfl
theorem q1908 : (Jvm.Cond.methodLink "CrumblingWall" (240 : Nat) ({ cls := "CrumblingWall", name := "isClimber", desc := "(I)Z" } : Jvm.MethodName)) ∈ lw_all := lw_g (lw_at lw_m8 109 rfl) rfl
theorem q1909 : (Jvm.Cond.static ({ cls := "CrumblingWall", name := "isClimber", desc := "(I)Z" } : Jvm.MethodName)) ∈ lw_all := lw_g (lw_at lw_m8 110 rfl) rfl
theorem q1910 : (Jvm.Cond.code ({ cls := "CrumblingWall", name := "isClimber", desc := "(I)Z" } : Jvm.MethodName) prog_1_method_17_code (1 : Nat) (Option.some Jvm.ClassFile.FieldType.boolean)) ∈ lw_all := lw_g (lw_at lw_m8 111 rfl) rfl
theorem q1911 : (Jvm.Cond.methodLink "CrumblingWall" (243 : Nat) ({ cls := "CrumblingWall$Wall", name := "climber", desc := "(I)LCrumblingWall$Climber;" } : Jvm.MethodName)) ∈ lw_all := lw_g (lw_at lw_m8 112 rfl) rfl
theorem q1912 : (Jvm.Cond.methodLink "CrumblingWall" (258 : Nat) ({ cls := "CrumblingWall$Wall", name := "carriedBy", desc := "(I)I" } : Jvm.MethodName)) ∈ lw_all := lw_g (lw_at lw_m8 113 rfl) rfl
theorem q1916 : (Jvm.Cond.methodLink "CrumblingWall" (261 : Nat) ({ cls := "CrumblingWall$Wall", name := "isSecure", desc := "(I)Z" } : Jvm.MethodName)) ∈ lw_all := lw_g (lw_at lw_m8 117 rfl) rfl
theorem q1925 : (Jvm.Cond.instanceMethod ({ cls := "CrumblingWall", name := "move", desc := "(II)I" } : Jvm.MethodName)) ∈ lw_all := lw_g (lw_at lw_m8 126 rfl) rfl
theorem q1926 : (Jvm.Cond.selects "CrumblingWall" ({ cls := "CrumblingWall", name := "move", desc := "(II)I" } : Jvm.MethodName) ({ cls := "CrumblingWall", name := "move", desc := "(II)I" } : Jvm.MethodName)) ∈ lw_all := lw_g (lw_at lw_m8 127 rfl) rfl
theorem q1927 : (Jvm.Cond.codeWith ({ cls := "CrumblingWall", name := "move", desc := "(II)I" } : Jvm.MethodName) prog_1_method_19_code (5 : Nat) (Option.some Jvm.ClassFile.FieldType.int) [((34 : Nat), (48 : Nat), (49 : Nat), (63 : Nat))]) ∈ lw_all := lw_g (lw_at lw_m8 128 rfl) rfl
theorem q1928 : (Jvm.Cond.methodLink "CrumblingWall" (264 : Nat) ({ cls := "CrumblingWall$Wall", name := "moves", desc := "(II)I" } : Jvm.MethodName)) ∈ lw_all := lw_g (lw_at lw_m8 129 rfl) rfl
theorem q2153 : (Jvm.Cond.instanceMethod ({ cls := "CrumblingWall", name := "rest", desc := "(I)I" } : Jvm.MethodName)) ∈ lw_all := lw_g (lw_at lw_m9 114 rfl) rfl
theorem q2154 : (Jvm.Cond.selects "CrumblingWall" ({ cls := "CrumblingWall", name := "rest", desc := "(I)I" } : Jvm.MethodName) ({ cls := "CrumblingWall", name := "rest", desc := "(I)I" } : Jvm.MethodName)) ∈ lw_all := lw_g (lw_at lw_m9 115 rfl) rfl
theorem q2155 : (Jvm.Cond.codeWith ({ cls := "CrumblingWall", name := "rest", desc := "(I)I" } : Jvm.MethodName) prog_1_method_20_code (4 : Nat) (Option.some Jvm.ClassFile.FieldType.int) [((15 : Nat), (28 : Nat), (29 : Nat), (63 : Nat))]) ∈ lw_all := lw_g (lw_at lw_m9 116 rfl) rfl
theorem q2156 : (Jvm.Cond.methodLink "CrumblingWall" (267 : Nat) ({ cls := "CrumblingWall$Wall", name := "rests", desc := "(I)I" } : Jvm.MethodName)) ∈ lw_all := lw_g (lw_at lw_m9 117 rfl) rfl
theorem q2192 : (Jvm.Cond.instanceMethod ({ cls := "CrumblingWall", name := "why", desc := "(IIZ)I" } : Jvm.MethodName)) ∈ lw_all := lw_g (lw_at lw_m9 153 rfl) rfl
theorem q2193 : (Jvm.Cond.selects "CrumblingWall" ({ cls := "CrumblingWall", name := "why", desc := "(IIZ)I" } : Jvm.MethodName) ({ cls := "CrumblingWall", name := "why", desc := "(IIZ)I" } : Jvm.MethodName)) ∈ lw_all := lw_g (lw_at lw_m9 154 rfl) rfl
theorem q2194 : (Jvm.Cond.codeWith ({ cls := "CrumblingWall", name := "why", desc := "(IIZ)I" } : Jvm.MethodName) prog_1_method_21_code (5 : Nat) (Option.some Jvm.ClassFile.FieldType.int) [((26 : Nat), (36 : Nat), (37 : Nat), (63 : Nat))]) ∈ lw_all := lw_g (lw_at lw_m9 155 rfl) rfl
theorem q2195 : (Jvm.Cond.methodLink "CrumblingWall" (270 : Nat) ({ cls := "CrumblingWall$Wall", name := "checkMove", desc := "(II)V" } : Jvm.MethodName)) ∈ lw_all := lw_g (lw_at lw_m9 156 rfl) rfl
theorem q2200 : (Jvm.Cond.instanceMethod ({ cls := "CrumblingWall", name := "moves", desc := "(I)I" } : Jvm.MethodName)) ∈ lw_all := lw_g (lw_at lw_m9 161 rfl) rfl
theorem q2201 : (Jvm.Cond.selects "CrumblingWall" ({ cls := "CrumblingWall", name := "moves", desc := "(I)I" } : Jvm.MethodName) ({ cls := "CrumblingWall", name := "moves", desc := "(I)I" } : Jvm.MethodName)) ∈ lw_all := lw_g (lw_at lw_m9 162 rfl) rfl
theorem q2202 : (Jvm.Cond.code ({ cls := "CrumblingWall", name := "moves", desc := "(I)I" } : Jvm.MethodName) prog_1_method_22_code (4 : Nat) (Option.some Jvm.ClassFile.FieldType.int)) ∈ lw_all := lw_g (lw_at lw_m9 163 rfl) rfl
theorem q2203 : (Jvm.Cond.methodLink "CrumblingWall" (273 : Nat) ({ cls := "CrumblingWall", name := "why", desc := "(IIZ)I" } : Jvm.MethodName)) ∈ lw_all := lw_g (lw_at lw_m9 164 rfl) rfl
theorem q2209 : (Jvm.Cond.instanceMethod ({ cls := "CrumblingWall", name := "leastRests", desc := "(II)I" } : Jvm.MethodName)) ∈ lw_all := lw_g (lw_at lw_m9 170 rfl) rfl
theorem q2210 : (Jvm.Cond.selects "CrumblingWall" ({ cls := "CrumblingWall", name := "leastRests", desc := "(II)I" } : Jvm.MethodName) ({ cls := "CrumblingWall", name := "leastRests", desc := "(II)I" } : Jvm.MethodName)) ∈ lw_all := lw_g (lw_at lw_m9 171 rfl) rfl
theorem q2211 : (Jvm.Cond.code ({ cls := "CrumblingWall", name := "leastRests", desc := "(II)I" } : Jvm.MethodName) prog_1_method_29_code (10 : Nat) (Option.some Jvm.ClassFile.FieldType.int)) ∈ lw_all := lw_g (lw_at lw_m9 172 rfl) rfl
theorem q2212 : (Jvm.Cond.methodLink "CrumblingWall" (319 : Nat) ({ cls := "CrumblingWall$Climber", name := "isHurt", desc := "()Z" } : Jvm.MethodName)) ∈ lw_all := lw_g (lw_at lw_m9 173 rfl) rfl
theorem q2213 : (Jvm.Cond.methodLink "CrumblingWall" (322 : Nat) ({ cls := "CrumblingWall", name := "checkElement", desc := "(Z)V" } : Jvm.MethodName)) ∈ lw_all := lw_g (lw_at lw_m9 174 rfl) rfl
theorem q2214 : (Jvm.Cond.static ({ cls := "CrumblingWall", name := "checkElement", desc := "(Z)V" } : Jvm.MethodName)) ∈ lw_all := lw_g (lw_at lw_m9 175 rfl) rfl
theorem q2215 : (Jvm.Cond.code ({ cls := "CrumblingWall", name := "checkElement", desc := "(Z)V" } : Jvm.MethodName) prog_1_method_6_code (1 : Nat) (Option.none : Option Jvm.ClassFile.FieldType)) ∈ lw_all := lw_g (lw_at lw_m9 176 rfl) rfl
theorem q2216 : (Jvm.Cond.classLink "CrumblingWall" (59 : Nat) "java/util/NoSuchElementException") ∈ lw_all := lw_g (lw_at lw_m9 177 rfl) rfl
theorem q2217 : (Jvm.Cond.methodLink "CrumblingWall" (61 : Nat) ({ cls := "java/util/NoSuchElementException", name := "<init>", desc := "()V" } : Jvm.MethodName)) ∈ lw_all := lw_g (lw_at lw_m9 178 rfl) rfl
theorem q2218 : (Jvm.Cond.classLink "CrumblingWall" (278 : Nat) "java/util/BitSet") ∈ lw_all := lw_g (lw_at lw_m9 179 rfl) rfl
theorem q2220 : (Jvm.Cond.methodLink "CrumblingWall" (325 : Nat) ({ cls := "java/util/BitSet", name := "<init>", desc := "(I)V" } : Jvm.MethodName)) ∈ lw_all := lw_g (lw_at lw_m9 181 rfl) rfl
theorem q2242 : (Jvm.Cond.methodLink "CrumblingWall" (312 : Nat) ({ cls := "CrumblingWall", name := "stateOf", desc := "(II)I" } : Jvm.MethodName)) ∈ lw_all := lw_g (lw_at lw_m9 203 rfl) rfl
theorem q2243 : (Jvm.Cond.static ({ cls := "CrumblingWall", name := "stateOf", desc := "(II)I" } : Jvm.MethodName)) ∈ lw_all := lw_g (lw_at lw_m9 204 rfl) rfl
theorem q2244 : (Jvm.Cond.code ({ cls := "CrumblingWall", name := "stateOf", desc := "(II)I" } : Jvm.MethodName) prog_1_method_23_code (2 : Nat) (Option.some Jvm.ClassFile.FieldType.int)) ∈ lw_all := lw_g (lw_at lw_m9 205 rfl) rfl
theorem q2245 : (Jvm.Cond.methodLink "CrumblingWall" (315 : Nat) ({ cls := "CrumblingWall", name := "notes", desc := "(Ljava/util/BitSet;I)V" } : Jvm.MethodName)) ∈ lw_all := lw_g (lw_at lw_m9 206 rfl) rfl
theorem q2246 : (Jvm.Cond.privateMethod ({ cls := "CrumblingWall", name := "notes", desc := "(Ljava/util/BitSet;I)V" } : Jvm.MethodName)) ∈ lw_tbl := lw_at lw_m9 207 rfl
theorem q2247 : (Jvm.Cond.instanceMethod ({ cls := "CrumblingWall", name := "notes", desc := "(Ljava/util/BitSet;I)V" } : Jvm.MethodName)) ∈ lw_all := lw_g (lw_at lw_m9 208 rfl) rfl
theorem q2248 : (Jvm.Cond.code ({ cls := "CrumblingWall", name := "notes", desc := "(Ljava/util/BitSet;I)V" } : Jvm.MethodName) prog_1_method_26_code (3 : Nat) (Option.none : Option Jvm.ClassFile.FieldType)) ∈ lw_all := lw_g (lw_at lw_m9 209 rfl) rfl
theorem q2249 : (Jvm.Cond.methodLink "CrumblingWall" (277 : Nat) ({ cls := "java/util/BitSet", name := "get", desc := "(I)Z" } : Jvm.MethodName)) ∈ lw_all := lw_g (lw_at lw_m9 210 rfl) rfl
theorem q2267 : (Jvm.Cond.methodLink "CrumblingWall" (281 : Nat) ({ cls := "java/util/BitSet", name := "set", desc := "(I)V" } : Jvm.MethodName)) ∈ lw_all := lw_g (lw_at lw_m9 228 rfl) rfl
theorem q2288 : (Jvm.Cond.methodLink "CrumblingWall" (327 : Nat) ({ cls := "CrumblingWall", name := "spreads", desc := "(Ljava/util/BitSet;II)V" } : Jvm.MethodName)) ∈ lw_all := lw_g (lw_at lw_m10 9 rfl) rfl
theorem q2289 : (Jvm.Cond.privateMethod ({ cls := "CrumblingWall", name := "spreads", desc := "(Ljava/util/BitSet;II)V" } : Jvm.MethodName)) ∈ lw_tbl := lw_at lw_m10 10 rfl
theorem q2290 : (Jvm.Cond.instanceMethod ({ cls := "CrumblingWall", name := "spreads", desc := "(Ljava/util/BitSet;II)V" } : Jvm.MethodName)) ∈ lw_all := lw_g (lw_at lw_m10 11 rfl) rfl
theorem q2291 : (Jvm.Cond.code ({ cls := "CrumblingWall", name := "spreads", desc := "(Ljava/util/BitSet;II)V" } : Jvm.MethodName) prog_1_method_27_code (10 : Nat) (Option.none : Option Jvm.ClassFile.FieldType)) ∈ lw_all := lw_g (lw_at lw_m10 12 rfl) rfl
theorem q2292 : (Jvm.Cond.methodLink "CrumblingWall" (288 : Nat) ({ cls := "java/lang/Integer", name := "bitCount", desc := "(I)I" } : Jvm.MethodName)) ∈ lw_all := lw_g (lw_at lw_m10 13 rfl) rfl
theorem q2293 : (Jvm.Cond.methodLink "CrumblingWall" (293 : Nat) ({ cls := "CrumblingWall", name := "placeIn", desc := "(I)I" } : Jvm.MethodName)) ∈ lw_all := lw_g (lw_at lw_m10 14 rfl) rfl
theorem q2294 : (Jvm.Cond.static ({ cls := "CrumblingWall", name := "placeIn", desc := "(I)I" } : Jvm.MethodName)) ∈ lw_all := lw_g (lw_at lw_m10 15 rfl) rfl
theorem q2295 : (Jvm.Cond.code ({ cls := "CrumblingWall", name := "placeIn", desc := "(I)I" } : Jvm.MethodName) prog_1_method_24_code (1 : Nat) (Option.some Jvm.ClassFile.FieldType.int)) ∈ lw_all := lw_g (lw_at lw_m10 16 rfl) rfl
theorem q2296 : (Jvm.Cond.methodLink "CrumblingWall" (296 : Nat) ({ cls := "CrumblingWall", name := "gripIn", desc := "(I)I" } : Jvm.MethodName)) ∈ lw_all := lw_g (lw_at lw_m10 17 rfl) rfl
theorem q2297 : (Jvm.Cond.static ({ cls := "CrumblingWall", name := "gripIn", desc := "(I)I" } : Jvm.MethodName)) ∈ lw_all := lw_g (lw_at lw_m10 18 rfl) rfl
theorem q2298 : (Jvm.Cond.code ({ cls := "CrumblingWall", name := "gripIn", desc := "(I)I" } : Jvm.MethodName) prog_1_method_25_code (1 : Nat) (Option.some Jvm.ClassFile.FieldType.int)) ∈ lw_all := lw_g (lw_at lw_m10 19 rfl) rfl
theorem q2299 : (Jvm.Cond.methodLink "CrumblingWall" (299 : Nat) ({ cls := "CrumblingWall$Wall", name := "place", desc := "(I)LCrumblingWall$Place;" } : Jvm.MethodName)) ∈ lw_all := lw_g (lw_at lw_m10 20 rfl) rfl
theorem q2300 : (Jvm.Cond.interfaceEntry "CrumblingWall" (303 : Nat)) ∈ lw_tbl := lw_at lw_m10 21 rfl
theorem q2301 : (Jvm.Cond.methodLink "CrumblingWall" (303 : Nat) ({ cls := "CrumblingWall$Place", name := "distance", desc := "(LCrumblingWall$Place;)I" } : Jvm.MethodName)) ∈ lw_all := lw_g (lw_at lw_m10 22 rfl) rfl
theorem q2302 : (Jvm.Cond.methodLink "CrumblingWall" (309 : Nat) ({ cls := "CrumblingWall$Wall", name := "isOpen", desc := "(I)Z" } : Jvm.MethodName)) ∈ lw_all := lw_g (lw_at lw_m10 23 rfl) rfl
theorem q2306 : (Jvm.Cond.methodLink "CrumblingWall" (331 : Nat) ({ cls := "CrumblingWall", name := "isReached", desc := "(II)Z" } : Jvm.MethodName)) ∈ lw_all := lw_g (lw_at lw_m10 27 rfl) rfl
theorem q2307 : (Jvm.Cond.privateMethod ({ cls := "CrumblingWall", name := "isReached", desc := "(II)Z" } : Jvm.MethodName)) ∈ lw_tbl := lw_at lw_m10 28 rfl
theorem q2308 : (Jvm.Cond.instanceMethod ({ cls := "CrumblingWall", name := "isReached", desc := "(II)Z" } : Jvm.MethodName)) ∈ lw_all := lw_g (lw_at lw_m10 29 rfl) rfl
theorem q2309 : (Jvm.Cond.code ({ cls := "CrumblingWall", name := "isReached", desc := "(II)Z" } : Jvm.MethodName) prog_1_method_28_code (4 : Nat) (Option.some Jvm.ClassFile.FieldType.boolean)) ∈ lw_all := lw_g (lw_at lw_m10 30 rfl) rfl
theorem q2310 : (Jvm.Cond.methodLinkNest "CrumblingWall" (335 : Nat) ({ cls := "CrumblingWall$Wall", name := "restAt", desc := "(I)I" } : Jvm.MethodName) "CrumblingWall") ∈ lw_tbl := lw_at lw_m10 31 rfl
theorem q2311 : (Jvm.Cond.methodLink "CrumblingWall" (338 : Nat) ({ cls := "java/lang/Math", name := "min", desc := "(II)I" } : Jvm.MethodName)) ∈ lw_all := lw_g (lw_at lw_m10 32 rfl) rfl
theorem q2316 : (Jvm.Cond.instanceMethod ({ cls := "CrumblingWall", name := "leastMoves", desc := "(II)I" } : Jvm.MethodName)) ∈ lw_all := lw_g (lw_at lw_m10 37 rfl) rfl
theorem q2317 : (Jvm.Cond.selects "CrumblingWall" ({ cls := "CrumblingWall", name := "leastMoves", desc := "(II)I" } : Jvm.MethodName) ({ cls := "CrumblingWall", name := "leastMoves", desc := "(II)I" } : Jvm.MethodName)) ∈ lw_all := lw_g (lw_at lw_m10 38 rfl) rfl
theorem q2318 : (Jvm.Cond.code ({ cls := "CrumblingWall", name := "leastMoves", desc := "(II)I" } : Jvm.MethodName) prog_1_method_30_code (10 : Nat) (Option.some Jvm.ClassFile.FieldType.int)) ∈ lw_all := lw_g (lw_at lw_m10 39 rfl) rfl
theorem q2319 : (Jvm.Cond.methodLink "CrumblingWall" (343 : Nat) ({ cls := "java/util/BitSet", name := "nextSetBit", desc := "(I)I" } : Jvm.MethodName)) ∈ lw_all := lw_g (lw_at lw_m10 40 rfl) rfl
theorem q2332 : (Jvm.Cond.methodLink "CrumblingWall" (346 : Nat) ({ cls := "java/util/BitSet", name := "set", desc := "(IZ)V" } : Jvm.MethodName)) ∈ lw_all := lw_g (lw_at lw_m10 53 rfl) rfl
theorem q2345 : (Jvm.Cond.methodLink "CrumblingWall" (349 : Nat) ({ cls := "java/util/BitSet", name := "cardinality", desc := "()I" } : Jvm.MethodName)) ∈ lw_all := lw_g (lw_at lw_m10 66 rfl) rfl
theorem q2355 : (Jvm.Cond.methodLink "CrumblingWall" (352 : Nat) ({ cls := "java/util/BitSet", name := "or", desc := "(Ljava/util/BitSet;)V" } : Jvm.MethodName)) ∈ lw_all := lw_g (lw_at lw_m10 76 rfl) rfl
theorem q2365 : (Jvm.Cond.instanceMethod ({ cls := "CrumblingWall", name := "clip", desc := "()I" } : Jvm.MethodName)) ∈ lw_all := lw_g (lw_at lw_m10 86 rfl) rfl
theorem q2366 : (Jvm.Cond.selects "CrumblingWall" ({ cls := "CrumblingWall", name := "clip", desc := "()I" } : Jvm.MethodName) ({ cls := "CrumblingWall", name := "clip", desc := "()I" } : Jvm.MethodName)) ∈ lw_all := lw_g (lw_at lw_m10 87 rfl) rfl
theorem q2367 : (Jvm.Cond.codeWith ({ cls := "CrumblingWall", name := "clip", desc := "()I" } : Jvm.MethodName) prog_1_method_31_code (3 : Nat) (Option.some Jvm.ClassFile.FieldType.int) [((8 : Nat), (20 : Nat), (21 : Nat), (63 : Nat))]) ∈ lw_all := lw_g (lw_at lw_m10 88 rfl) rfl
theorem q2368 : (Jvm.Cond.methodLink "CrumblingWall" (356 : Nat) ({ cls := "CrumblingWall$Wall", name := "clip", desc := "()I" } : Jvm.MethodName)) ∈ lw_all := lw_g (lw_at lw_m10 89 rfl) rfl
theorem q2377 : (Jvm.Cond.instanceMethod ({ cls := "CrumblingWall", name := "unclip", desc := "()I" } : Jvm.MethodName)) ∈ lw_all := lw_g (lw_at lw_m10 98 rfl) rfl
theorem q2378 : (Jvm.Cond.selects "CrumblingWall" ({ cls := "CrumblingWall", name := "unclip", desc := "()I" } : Jvm.MethodName) ({ cls := "CrumblingWall", name := "unclip", desc := "()I" } : Jvm.MethodName)) ∈ lw_all := lw_g (lw_at lw_m10 99 rfl) rfl
theorem q2379 : (Jvm.Cond.codeWith ({ cls := "CrumblingWall", name := "unclip", desc := "()I" } : Jvm.MethodName) prog_1_method_32_code (3 : Nat) (Option.some Jvm.ClassFile.FieldType.int) [((8 : Nat), (20 : Nat), (21 : Nat), (63 : Nat))]) ∈ lw_all := lw_g (lw_at lw_m10 100 rfl) rfl
theorem q2380 : (Jvm.Cond.methodLink "CrumblingWall" (359 : Nat) ({ cls := "CrumblingWall$Wall", name := "unclip", desc := "()I" } : Jvm.MethodName)) ∈ lw_all := lw_g (lw_at lw_m10 101 rfl) rfl
theorem q2396 : (Jvm.Cond.instanceMethod ({ cls := "CrumblingWall", name := "anchor", desc := "(I)I" } : Jvm.MethodName)) ∈ lw_all := lw_g (lw_at lw_m10 117 rfl) rfl
theorem q2397 : (Jvm.Cond.selects "CrumblingWall" ({ cls := "CrumblingWall", name := "anchor", desc := "(I)I" } : Jvm.MethodName) ({ cls := "CrumblingWall", name := "anchor", desc := "(I)I" } : Jvm.MethodName)) ∈ lw_all := lw_g (lw_at lw_m10 118 rfl) rfl
theorem q2398 : (Jvm.Cond.code ({ cls := "CrumblingWall", name := "anchor", desc := "(I)I" } : Jvm.MethodName) prog_1_method_34_code (2 : Nat) (Option.some Jvm.ClassFile.FieldType.int)) ∈ lw_all := lw_g (lw_at lw_m10 119 rfl) rfl
theorem q2399 : (Jvm.Cond.methodLink "CrumblingWall" (369 : Nat) ({ cls := "java/util/LinkedList", name := "get", desc := "(I)Ljava/lang/Object;" } : Jvm.MethodName)) ∈ lw_all := lw_g (lw_at lw_m10 120 rfl) rfl
theorem q2400 : (Jvm.Cond.classLink "CrumblingWall" (289 : Nat) "java/lang/Integer") ∈ lw_all := lw_g (lw_at lw_m10 121 rfl) rfl
theorem q2401 : (Jvm.Cond.methodLink "CrumblingWall" (370 : Nat) ({ cls := "java/lang/Integer", name := "intValue", desc := "()I" } : Jvm.MethodName)) ∈ lw_all := lw_g (lw_at lw_m10 122 rfl) rfl
theorem q2406 : (Jvm.Cond.instanceMethod ({ cls := "CrumblingWall", name := "take", desc := "(II)I" } : Jvm.MethodName)) ∈ lw_all := lw_g (lw_at lw_m10 127 rfl) rfl
theorem q2407 : (Jvm.Cond.selects "CrumblingWall" ({ cls := "CrumblingWall", name := "take", desc := "(II)I" } : Jvm.MethodName) ({ cls := "CrumblingWall", name := "take", desc := "(II)I" } : Jvm.MethodName)) ∈ lw_all := lw_g (lw_at lw_m10 128 rfl) rfl
theorem q2408 : (Jvm.Cond.codeWith ({ cls := "CrumblingWall", name := "take", desc := "(II)I" } : Jvm.MethodName) prog_1_method_38_code (5 : Nat) (Option.some Jvm.ClassFile.FieldType.int) [((14 : Nat), (28 : Nat), (29 : Nat), (63 : Nat))]) ∈ lw_all := lw_g (lw_at lw_m10 129 rfl) rfl
theorem q2409 : (Jvm.Cond.methodLink "CrumblingWall" (376 : Nat) ({ cls := "CrumblingWall", name := "checkLamp", desc := "(II)V" } : Jvm.MethodName)) ∈ lw_all := lw_g (lw_at lw_m10 130 rfl) rfl
theorem q2410 : (Jvm.Cond.privateMethod ({ cls := "CrumblingWall", name := "checkLamp", desc := "(II)V" } : Jvm.MethodName)) ∈ lw_tbl := lw_at lw_m10 131 rfl
theorem q2411 : (Jvm.Cond.instanceMethod ({ cls := "CrumblingWall", name := "checkLamp", desc := "(II)V" } : Jvm.MethodName)) ∈ lw_all := lw_g (lw_at lw_m10 132 rfl) rfl
theorem q2412 : (Jvm.Cond.code ({ cls := "CrumblingWall", name := "checkLamp", desc := "(II)V" } : Jvm.MethodName) prog_1_method_37_code (3 : Nat) (Option.none : Option Jvm.ClassFile.FieldType)) ∈ lw_all := lw_g (lw_at lw_m10 133 rfl) rfl
theorem q2413 : (Jvm.Cond.methodLink "CrumblingWall" (379 : Nat) ({ cls := "CrumblingWall$Wall", name := "takes", desc := "(II)I" } : Jvm.MethodName)) ∈ lw_all := lw_g (lw_at lw_m10 134 rfl) rfl
theorem q2425 : (Jvm.Cond.instanceMethod ({ cls := "CrumblingWall", name := "put", desc := "(II)I" } : Jvm.MethodName)) ∈ lw_all := lw_g (lw_at lw_m10 146 rfl) rfl
theorem q2426 : (Jvm.Cond.selects "CrumblingWall" ({ cls := "CrumblingWall", name := "put", desc := "(II)I" } : Jvm.MethodName) ({ cls := "CrumblingWall", name := "put", desc := "(II)I" } : Jvm.MethodName)) ∈ lw_all := lw_g (lw_at lw_m10 147 rfl) rfl
theorem q2427 : (Jvm.Cond.codeWith ({ cls := "CrumblingWall", name := "put", desc := "(II)I" } : Jvm.MethodName) prog_1_method_39_code (5 : Nat) (Option.some Jvm.ClassFile.FieldType.int) [((14 : Nat), (28 : Nat), (29 : Nat), (63 : Nat))]) ∈ lw_all := lw_g (lw_at lw_m10 148 rfl) rfl
theorem q2428 : (Jvm.Cond.methodLink "CrumblingWall" (382 : Nat) ({ cls := "CrumblingWall$Wall", name := "puts", desc := "(II)I" } : Jvm.MethodName)) ∈ lw_all := lw_g (lw_at lw_m10 149 rfl) rfl
theorem q2440 : (Jvm.Cond.instanceMethod ({ cls := "CrumblingWall", name := "light", desc := "(II)I" } : Jvm.MethodName)) ∈ lw_all := lw_g (lw_at lw_m10 161 rfl) rfl
theorem q2441 : (Jvm.Cond.selects "CrumblingWall" ({ cls := "CrumblingWall", name := "light", desc := "(II)I" } : Jvm.MethodName) ({ cls := "CrumblingWall", name := "light", desc := "(II)I" } : Jvm.MethodName)) ∈ lw_all := lw_g (lw_at lw_m10 162 rfl) rfl
theorem q2442 : (Jvm.Cond.codeWith ({ cls := "CrumblingWall", name := "light", desc := "(II)I" } : Jvm.MethodName) prog_1_method_40_code (5 : Nat) (Option.some Jvm.ClassFile.FieldType.int) [((14 : Nat), (28 : Nat), (29 : Nat), (63 : Nat))]) ∈ lw_all := lw_g (lw_at lw_m10 163 rfl) rfl
theorem q2443 : (Jvm.Cond.methodLink "CrumblingWall" (385 : Nat) ({ cls := "CrumblingWall$Wall", name := "lights", desc := "(II)I" } : Jvm.MethodName)) ∈ lw_all := lw_g (lw_at lw_m10 164 rfl) rfl
theorem q2451 : (Jvm.Cond.instanceMethod ({ cls := "CrumblingWall", name := "force", desc := "(I)F" } : Jvm.MethodName)) ∈ lw_all := lw_g (lw_at lw_m10 172 rfl) rfl
theorem q2452 : (Jvm.Cond.selects "CrumblingWall" ({ cls := "CrumblingWall", name := "force", desc := "(I)F" } : Jvm.MethodName) ({ cls := "CrumblingWall", name := "force", desc := "(I)F" } : Jvm.MethodName)) ∈ lw_all := lw_g (lw_at lw_m10 173 rfl) rfl
theorem q2453 : (Jvm.Cond.code ({ cls := "CrumblingWall", name := "force", desc := "(I)F" } : Jvm.MethodName) prog_1_method_41_code (2 : Nat) (Option.some Jvm.ClassFile.FieldType.float)) ∈ lw_all := lw_g (lw_at lw_m10 174 rfl) rfl
theorem q2458 : (Jvm.Cond.instanceMethod ({ cls := "CrumblingWall", name := "keep", desc := "(I)I" } : Jvm.MethodName)) ∈ lw_all := lw_g (lw_at lw_m10 179 rfl) rfl
theorem q2459 : (Jvm.Cond.selects "CrumblingWall" ({ cls := "CrumblingWall", name := "keep", desc := "(I)I" } : Jvm.MethodName) ({ cls := "CrumblingWall", name := "keep", desc := "(I)I" } : Jvm.MethodName)) ∈ lw_all := lw_g (lw_at lw_m10 180 rfl) rfl
theorem q2460 : (Jvm.Cond.code ({ cls := "CrumblingWall", name := "keep", desc := "(I)I" } : Jvm.MethodName) prog_1_method_43_code (2 : Nat) (Option.some Jvm.ClassFile.FieldType.int)) ∈ lw_all := lw_g (lw_at lw_m10 181 rfl) rfl
theorem q2461 : (Jvm.Cond.methodLink "CrumblingWall" (394 : Nat) ({ cls := "CrumblingWall", name := "isRow", desc := "(I)Z" } : Jvm.MethodName)) ∈ lw_all := lw_g (lw_at lw_m10 182 rfl) rfl
theorem q2462 : (Jvm.Cond.static ({ cls := "CrumblingWall", name := "isRow", desc := "(I)Z" } : Jvm.MethodName)) ∈ lw_all := lw_g (lw_at lw_m10 183 rfl) rfl
theorem q2463 : (Jvm.Cond.code ({ cls := "CrumblingWall", name := "isRow", desc := "(I)Z" } : Jvm.MethodName) prog_1_method_42_code (1 : Nat) (Option.some Jvm.ClassFile.FieldType.boolean)) ∈ lw_all := lw_g (lw_at lw_m10 184 rfl) rfl
theorem q2464 : (Jvm.Cond.methodLink "CrumblingWall" (397 : Nat) ({ cls := "java/lang/System", name := "arraycopy", desc := "(Ljava/lang/Object;ILjava/lang/Object;II)V" } : Jvm.MethodName)) ∈ lw_all := lw_g (lw_at lw_m10 185 rfl) rfl
theorem q2469 : (Jvm.Cond.instanceMethod ({ cls := "CrumblingWall", name := "scale", desc := "(III)I" } : Jvm.MethodName)) ∈ lw_all := lw_g (lw_at lw_m10 190 rfl) rfl
theorem q2470 : (Jvm.Cond.selects "CrumblingWall" ({ cls := "CrumblingWall", name := "scale", desc := "(III)I" } : Jvm.MethodName) ({ cls := "CrumblingWall", name := "scale", desc := "(III)I" } : Jvm.MethodName)) ∈ lw_all := lw_g (lw_at lw_m10 191 rfl) rfl
theorem q2471 : (Jvm.Cond.code ({ cls := "CrumblingWall", name := "scale", desc := "(III)I" } : Jvm.MethodName) prog_1_method_44_code (7 : Nat) (Option.some Jvm.ClassFile.FieldType.int)) ∈ lw_all := lw_g (lw_at lw_m10 192 rfl) rfl
theorem q2472 : (Jvm.Cond.methodLink "CrumblingWall" (403 : Nat) ({ cls := "[F", name := "clone", desc := "()Ljava/lang/Object;" } : Jvm.MethodName)) ∈ lw_all := lw_g (lw_at lw_m10 193 rfl) rfl
theorem q2476 : (Jvm.Cond.constantFloat "CrumblingWall" (406 : Nat) (1120403456 : UInt32)) ∈ lw_all := lw_g (lw_at lw_m10 197 rfl) rfl
theorem q2481 : (Jvm.Cond.instanceMethod ({ cls := "CrumblingWall", name := "element", desc := "(II)I" } : Jvm.MethodName)) ∈ lw_all := lw_g (lw_at lw_m10 202 rfl) rfl
theorem q2482 : (Jvm.Cond.selects "CrumblingWall" ({ cls := "CrumblingWall", name := "element", desc := "(II)I" } : Jvm.MethodName) ({ cls := "CrumblingWall", name := "element", desc := "(II)I" } : Jvm.MethodName)) ∈ lw_all := lw_g (lw_at lw_m10 203 rfl) rfl
theorem q2483 : (Jvm.Cond.code ({ cls := "CrumblingWall", name := "element", desc := "(II)I" } : Jvm.MethodName) prog_1_method_45_code (3 : Nat) (Option.some Jvm.ClassFile.FieldType.int)) ∈ lw_all := lw_g (lw_at lw_m10 204 rfl) rfl
theorem q2484 : (Jvm.Cond.methodLink "CrumblingWall" (407 : Nat) ({ cls := "java/lang/Float", name := "floatToIntBits", desc := "(F)I" } : Jvm.MethodName)) ∈ lw_all := lw_g (lw_at lw_m10 205 rfl) rfl
theorem q2498 : (Jvm.Cond.instanceMethod ({ cls := "CrumblingWall", name := "rack", desc := "(I)I" } : Jvm.MethodName)) ∈ lw_all := lw_g (lw_at lw_m10 219 rfl) rfl
theorem q2499 : (Jvm.Cond.selects "CrumblingWall" ({ cls := "CrumblingWall", name := "rack", desc := "(I)I" } : Jvm.MethodName) ({ cls := "CrumblingWall", name := "rack", desc := "(I)I" } : Jvm.MethodName)) ∈ lw_all := lw_g (lw_at lw_m10 220 rfl) rfl
theorem q2500 : (Jvm.Cond.code ({ cls := "CrumblingWall", name := "rack", desc := "(I)I" } : Jvm.MethodName) prog_1_method_48_code (3 : Nat) (Option.some Jvm.ClassFile.FieldType.int)) ∈ lw_all := lw_g (lw_at lw_m10 221 rfl) rfl
theorem q2501 : (Jvm.Cond.methodLink "CrumblingWall" (413 : Nat) ({ cls := "CrumblingWall", name := "racked", desc := "()I" } : Jvm.MethodName)) ∈ lw_all := lw_g (lw_at lw_m10 222 rfl) rfl
theorem q2502 : (Jvm.Cond.privateMethod ({ cls := "CrumblingWall", name := "racked", desc := "()I" } : Jvm.MethodName)) ∈ lw_tbl := lw_at lw_m10 223 rfl
theorem q2503 : (Jvm.Cond.instanceMethod ({ cls := "CrumblingWall", name := "racked", desc := "()I" } : Jvm.MethodName)) ∈ lw_all := lw_g (lw_at lw_m10 224 rfl) rfl
theorem q2504 : (Jvm.Cond.code ({ cls := "CrumblingWall", name := "racked", desc := "()I" } : Jvm.MethodName) prog_1_method_47_code (6 : Nat) (Option.some Jvm.ClassFile.FieldType.int)) ∈ lw_all := lw_g (lw_at lw_m10 225 rfl) rfl
theorem q2505 : (Jvm.Cond.methodLink "CrumblingWall" (416 : Nat) ({ cls := "CrumblingWall", name := "rackOf", desc := "(I)[LCrumblingWall$Hold;" } : Jvm.MethodName)) ∈ lw_all := lw_g (lw_at lw_m10 226 rfl) rfl
theorem q2506 : (Jvm.Cond.static ({ cls := "CrumblingWall", name := "rackOf", desc := "(I)[LCrumblingWall$Hold;" } : Jvm.MethodName)) ∈ lw_all := lw_g (lw_at lw_m10 227 rfl) rfl
theorem q2507 : (Jvm.Cond.code ({ cls := "CrumblingWall", name := "rackOf", desc := "(I)[LCrumblingWall$Hold;" } : Jvm.MethodName) prog_1_method_46_code (1 : Nat) (Option.some (Jvm.ClassFile.FieldType.array (Jvm.ClassFile.FieldType.object "CrumblingWall$Hold")))) ∈ lw_all := lw_g (lw_at lw_m10 228 rfl) rfl
theorem q2516 : (Jvm.Cond.instanceMethod ({ cls := "CrumblingWall", name := "note", desc := "(II)I" } : Jvm.MethodName)) ∈ lw_all := lw_g (lw_at lw_m10 237 rfl) rfl
theorem q2517 : (Jvm.Cond.selects "CrumblingWall" ({ cls := "CrumblingWall", name := "note", desc := "(II)I" } : Jvm.MethodName) ({ cls := "CrumblingWall", name := "note", desc := "(II)I" } : Jvm.MethodName)) ∈ lw_all := lw_g (lw_at lw_m10 238 rfl) rfl
theorem q2518 : (Jvm.Cond.codeWith ({ cls := "CrumblingWall", name := "note", desc := "(II)I" } : Jvm.MethodName) prog_1_method_49_code (4 : Nat) (Option.some Jvm.ClassFile.FieldType.int) [((28 : Nat), (52 : Nat), (53 : Nat), (420 : Nat))]) ∈ lw_all := lw_g (lw_at lw_m10 239 rfl) rfl
theorem q2519 : (Jvm.Cond.classLink "CrumblingWall" (420 : Nat) "java/lang/ArrayStoreException") ∈ lw_all := lw_g (lw_at lw_m11 0 rfl) rfl
theorem q2537 : (Jvm.Cond.instanceMethod ({ cls := "CrumblingWall", name := "append", desc := "(C)I" } : Jvm.MethodName)) ∈ lw_all := lw_g (lw_at lw_m11 18 rfl) rfl
theorem q2538 : (Jvm.Cond.selects "CrumblingWall" ({ cls := "CrumblingWall", name := "append", desc := "(C)I" } : Jvm.MethodName) ({ cls := "CrumblingWall", name := "append", desc := "(C)I" } : Jvm.MethodName)) ∈ lw_all := lw_g (lw_at lw_m11 19 rfl) rfl
theorem q2539 : (Jvm.Cond.code ({ cls := "CrumblingWall", name := "append", desc := "(C)I" } : Jvm.MethodName) prog_1_method_51_code (2 : Nat) (Option.some Jvm.ClassFile.FieldType.int)) ∈ lw_all := lw_g (lw_at lw_m11 20 rfl) rfl
theorem q2540 : (Jvm.Cond.methodLink "CrumblingWall" (428 : Nat) ({ cls := "java/lang/StringBuilder", name := "length", desc := "()I" } : Jvm.MethodName)) ∈ lw_all := lw_g (lw_at lw_m11 21 rfl) rfl
theorem q2541 : (Jvm.Cond.methodLink "CrumblingWall" (430 : Nat) ({ cls := "java/lang/StringBuilder", name := "append", desc := "(C)Ljava/lang/StringBuilder;" } : Jvm.MethodName)) ∈ lw_all := lw_g (lw_at lw_m11 22 rfl) rfl
theorem q2565 : (Jvm.Cond.instanceMethod ({ cls := "CrumblingWall", name := "tries", desc := "()I" } : Jvm.MethodName)) ∈ lw_all := lw_g (lw_at lw_m11 46 rfl) rfl
theorem q2566 : (Jvm.Cond.selects "CrumblingWall" ({ cls := "CrumblingWall", name := "tries", desc := "()I" } : Jvm.MethodName) ({ cls := "CrumblingWall", name := "tries", desc := "()I" } : Jvm.MethodName)) ∈ lw_all := lw_g (lw_at lw_m11 47 rfl) rfl
theorem q2567 : (Jvm.Cond.codeWith ({ cls := "CrumblingWall", name := "tries", desc := "()I" } : Jvm.MethodName) prog_1_method_54_code (5 : Nat) (Option.some Jvm.ClassFile.FieldType.int) [((15 : Nat), (52 : Nat), (53 : Nat), (63 : Nat)), ((15 : Nat), (52 : Nat), (53 : Nat), (50 : Nat))]) ∈ lw_all := lw_g (lw_at lw_m11 48 rfl) rfl
theorem q2568 : (Jvm.Cond.methodLink "CrumblingWall" (458 : Nat) ({ cls := "CrumblingWall", name := "read", desc := "()Ljava/util/LinkedList;" } : Jvm.MethodName)) ∈ lw_all := lw_g (lw_at lw_m11 49 rfl) rfl
theorem q2569 : (Jvm.Cond.privateMethod ({ cls := "CrumblingWall", name := "read", desc := "()Ljava/util/LinkedList;" } : Jvm.MethodName)) ∈ lw_tbl := lw_at lw_m11 50 rfl
theorem q2570 : (Jvm.Cond.instanceMethod ({ cls := "CrumblingWall", name := "read", desc := "()Ljava/util/LinkedList;" } : Jvm.MethodName)) ∈ lw_all := lw_g (lw_at lw_m11 51 rfl) rfl
theorem q2571 : (Jvm.Cond.codeWith ({ cls := "CrumblingWall", name := "read", desc := "()Ljava/util/LinkedList;" } : Jvm.MethodName) prog_1_method_52_code (3 : Nat) (Option.some (Jvm.ClassFile.FieldType.object "java/util/LinkedList")) [((0 : Nat), (15 : Nat), (25 : Nat), (446 : Nat)), ((0 : Nat), (15 : Nat), (42 : Nat), (0 : Nat)), ((25 : Nat), (43 : Nat), (42 : Nat), (0 : Nat))]) ∈ lw_all := lw_g (lw_at lw_m11 52 rfl) rfl
theorem q2572 : (Jvm.Cond.classLink "CrumblingWall" (446 : Nat) "CrumblingWall$Wrong") ∈ lw_all := lw_g (lw_at lw_m11 53 rfl) rfl
theorem q2573 : (Jvm.Cond.classLink "CrumblingWall" (434 : Nat) "CrumblingWall$Reader") ∈ lw_all := lw_g (lw_at lw_m11 54 rfl) rfl
theorem q2575 : (Jvm.Cond.methodLink "CrumblingWall" (436 : Nat) ({ cls := "CrumblingWall$Reader", name := "<init>", desc := "(Ljava/lang/CharSequence;)V" } : Jvm.MethodName)) ∈ lw_all := lw_g (lw_at lw_m11 56 rfl) rfl
theorem q2586 : (Jvm.Cond.methodLink "CrumblingWall" (439 : Nat) ({ cls := "CrumblingWall$Reader", name := "plan", desc := "()Ljava/util/LinkedList;" } : Jvm.MethodName)) ∈ lw_all := lw_g (lw_at lw_m11 67 rfl) rfl
theorem q2693 : (Jvm.Cond.fieldLinkNest "CrumblingWall" (448 : Nat) "CrumblingWall$Wrong" "at" "I" "CrumblingWall") ∈ lw_tbl := lw_at lw_m11 174 rfl
theorem q2736 : (Jvm.Cond.methodLink "CrumblingWall" (443 : Nat) ({ cls := "java/lang/StringBuilder", name := "setLength", desc := "(I)V" } : Jvm.MethodName)) ∈ lw_all := lw_g (lw_at lw_m11 217 rfl) rfl
theorem q2788 : (Jvm.Cond.methodLink "CrumblingWall" (461 : Nat) ({ cls := "java/util/LinkedList", name := "iterator", desc := "()Ljava/util/Iterator;" } : Jvm.MethodName)) ∈ lw_all := lw_g (lw_at lw_m12 29 rfl) rfl
theorem q2789 : (Jvm.Cond.interfaceEntry "CrumblingWall" (465 : Nat)) ∈ lw_tbl := lw_at lw_m12 30 rfl
theorem q2790 : (Jvm.Cond.methodLink "CrumblingWall" (465 : Nat) ({ cls := "java/util/Iterator", name := "hasNext", desc := "()Z" } : Jvm.MethodName)) ∈ lw_all := lw_g (lw_at lw_m12 31 rfl) rfl
theorem q2791 : (Jvm.Cond.interfaceEntry "CrumblingWall" (470 : Nat)) ∈ lw_tbl := lw_at lw_m12 32 rfl
theorem q2792 : (Jvm.Cond.methodLink "CrumblingWall" (470 : Nat) ({ cls := "java/util/Iterator", name := "next", desc := "()Ljava/lang/Object;" } : Jvm.MethodName)) ∈ lw_all := lw_g (lw_at lw_m12 33 rfl) rfl
theorem q2793 : (Jvm.Cond.classLink "CrumblingWall" (450 : Nat) "CrumblingWall$Step") ∈ lw_all := lw_g (lw_at lw_m12 34 rfl) rfl
theorem q2794 : (Jvm.Cond.methodLink "CrumblingWall" (473 : Nat) ({ cls := "CrumblingWall", name := "goes", desc := "(LCrumblingWall$Wall;LCrumblingWall$Step;)V" } : Jvm.MethodName)) ∈ lw_all := lw_g (lw_at lw_m12 35 rfl) rfl
theorem q2795 : (Jvm.Cond.static ({ cls := "CrumblingWall", name := "goes", desc := "(LCrumblingWall$Wall;LCrumblingWall$Step;)V" } : Jvm.MethodName)) ∈ lw_all := lw_g (lw_at lw_m12 36 rfl) rfl
theorem q2796 : (Jvm.Cond.code ({ cls := "CrumblingWall", name := "goes", desc := "(LCrumblingWall$Wall;LCrumblingWall$Step;)V" } : Jvm.MethodName) prog_1_method_53_code (4 : Nat) (Option.none : Option Jvm.ClassFile.FieldType)) ∈ lw_all := lw_g (lw_at lw_m12 37 rfl) rfl
theorem q2797 : (Jvm.Cond.methodLink "CrumblingWall" (449 : Nat) ({ cls := "CrumblingWall$Step", name := "does", desc := "(LCrumblingWall$Wall;)V" } : Jvm.MethodName)) ∈ lw_all := lw_g (lw_at lw_m12 38 rfl) rfl
theorem q2823 : (Jvm.Cond.methodLink "CrumblingWall" (455 : Nat) ({ cls := "CrumblingWall$Wall", name := "isWorse", desc := "(II)Z" } : Jvm.MethodName)) ∈ lw_all := lw_g (lw_at lw_m12 64 rfl) rfl
theorem q2831 : (Jvm.Cond.instanceMethod ({ cls := "CrumblingWall", name := "run", desc := "()I" } : Jvm.MethodName)) ∈ lw_all := lw_g (lw_at lw_m12 72 rfl) rfl
theorem q2832 : (Jvm.Cond.selects "CrumblingWall" ({ cls := "CrumblingWall", name := "run", desc := "()I" } : Jvm.MethodName) ({ cls := "CrumblingWall", name := "run", desc := "()I" } : Jvm.MethodName)) ∈ lw_all := lw_g (lw_at lw_m12 73 rfl) rfl
theorem q2833 : (Jvm.Cond.codeWith ({ cls := "CrumblingWall", name := "run", desc := "()I" } : Jvm.MethodName) prog_1_method_55_code (4 : Nat) (Option.some Jvm.ClassFile.FieldType.int) [((13 : Nat), (43 : Nat), (46 : Nat), (63 : Nat))]) ∈ lw_all := lw_g (lw_at lw_m12 74 rfl) rfl
theorem q2838 : (Jvm.Cond.instanceMethod ({ cls := "CrumblingWall", name := "errorPosition", desc := "()I" } : Jvm.MethodName)) ∈ lw_all := lw_g (lw_at lw_m12 79 rfl) rfl
theorem q2839 : (Jvm.Cond.selects "CrumblingWall" ({ cls := "CrumblingWall", name := "errorPosition", desc := "()I" } : Jvm.MethodName) ({ cls := "CrumblingWall", name := "errorPosition", desc := "()I" } : Jvm.MethodName)) ∈ lw_all := lw_g (lw_at lw_m12 80 rfl) rfl
theorem q2840 : (Jvm.Cond.code ({ cls := "CrumblingWall", name := "errorPosition", desc := "()I" } : Jvm.MethodName) prog_1_method_56_code (1 : Nat) (Option.some Jvm.ClassFile.FieldType.int)) ∈ lw_all := lw_g (lw_at lw_m12 81 rfl) rfl
theorem q2845 : (Jvm.Cond.instanceMethod ({ cls := "CrumblingWall", name := "reason", desc := "(Z)I" } : Jvm.MethodName)) ∈ lw_all := lw_g (lw_at lw_m12 86 rfl) rfl
theorem q2846 : (Jvm.Cond.selects "CrumblingWall" ({ cls := "CrumblingWall", name := "reason", desc := "(Z)I" } : Jvm.MethodName) ({ cls := "CrumblingWall", name := "reason", desc := "(Z)I" } : Jvm.MethodName)) ∈ lw_all := lw_g (lw_at lw_m12 87 rfl) rfl
theorem q2847 : (Jvm.Cond.code ({ cls := "CrumblingWall", name := "reason", desc := "(Z)I" } : Jvm.MethodName) prog_1_method_57_code (2 : Nat) (Option.some Jvm.ClassFile.FieldType.int)) ∈ lw_all := lw_g (lw_at lw_m12 88 rfl) rfl
theorem q2852 : (Jvm.Cond.instanceMethod ({ cls := "CrumblingWall", name := "account", desc := "(I)I" } : Jvm.MethodName)) ∈ lw_all := lw_g (lw_at lw_m12 93 rfl) rfl
theorem q2853 : (Jvm.Cond.selects "CrumblingWall" ({ cls := "CrumblingWall", name := "account", desc := "(I)I" } : Jvm.MethodName) ({ cls := "CrumblingWall", name := "account", desc := "(I)I" } : Jvm.MethodName)) ∈ lw_all := lw_g (lw_at lw_m12 94 rfl) rfl
theorem q2854 : (Jvm.Cond.code ({ cls := "CrumblingWall", name := "account", desc := "(I)I" } : Jvm.MethodName) prog_1_method_59_code (2 : Nat) (Option.some Jvm.ClassFile.FieldType.int)) ∈ lw_all := lw_g (lw_at lw_m12 95 rfl) rfl
theorem q2855 : (Jvm.Cond.classLink "CrumblingWall" (477 : Nat) "CrumblingWall$Crumbled") ∈ lw_all := lw_g (lw_at lw_m12 96 rfl) rfl
theorem q2857 : (Jvm.Cond.methodLinkNest "CrumblingWall" (479 : Nat) ({ cls := "CrumblingWall$Crumbled", name := "<init>", desc := "()V" } : Jvm.MethodName) "CrumblingWall") ∈ lw_tbl := lw_at lw_m12 98 rfl
theorem q2865 : (Jvm.Cond.methodLink "CrumblingWall" (480 : Nat) ({ cls := "CrumblingWall$Crumbled", name := "all", desc := "(LCrumblingWall$Wall;)I" } : Jvm.MethodName)) ∈ lw_all := lw_g (lw_at lw_m12 106 rfl) rfl
theorem q2889 : (Jvm.Cond.classLink "CrumblingWall" (484 : Nat) "CrumblingWall$Worn") ∈ lw_all := lw_g (lw_at lw_m12 130 rfl) rfl
theorem q2891 : (Jvm.Cond.methodLinkNest "CrumblingWall" (486 : Nat) ({ cls := "CrumblingWall$Worn", name := "<init>", desc := "()V" } : Jvm.MethodName) "CrumblingWall") ∈ lw_tbl := lw_at lw_m12 132 rfl
theorem q2896 : (Jvm.Cond.methodLink "CrumblingWall" (487 : Nat) ({ cls := "CrumblingWall$Worn", name := "all", desc := "(LCrumblingWall$Wall;)I" } : Jvm.MethodName)) ∈ lw_all := lw_g (lw_at lw_m12 137 rfl) rfl
theorem q2899 : (Jvm.Cond.methodLink "CrumblingWall" (503 : Nat) ({ cls := "CrumblingWall", name := "lit", desc := "()I" } : Jvm.MethodName)) ∈ lw_all := lw_g (lw_at lw_m12 140 rfl) rfl
theorem q2900 : (Jvm.Cond.privateMethod ({ cls := "CrumblingWall", name := "lit", desc := "()I" } : Jvm.MethodName)) ∈ lw_tbl := lw_at lw_m12 141 rfl
theorem q2901 : (Jvm.Cond.instanceMethod ({ cls := "CrumblingWall", name := "lit", desc := "()I" } : Jvm.MethodName)) ∈ lw_all := lw_g (lw_at lw_m12 142 rfl) rfl
theorem q2902 : (Jvm.Cond.code ({ cls := "CrumblingWall", name := "lit", desc := "()I" } : Jvm.MethodName) prog_1_method_58_code (3 : Nat) (Option.some Jvm.ClassFile.FieldType.int)) ∈ lw_all := lw_g (lw_at lw_m12 143 rfl) rfl
theorem q2903 : (Jvm.Cond.classLink "CrumblingWall" (506 : Nat) "CrumblingWall$Bright") ∈ lw_all := lw_g (lw_at lw_m12 144 rfl) rfl
theorem q2905 : (Jvm.Cond.methodLinkNest "CrumblingWall" (508 : Nat) ({ cls := "CrumblingWall$Bright", name := "<init>", desc := "()V" } : Jvm.MethodName) "CrumblingWall") ∈ lw_tbl := lw_at lw_m12 146 rfl
theorem q2910 : (Jvm.Cond.methodLink "CrumblingWall" (509 : Nat) ({ cls := "CrumblingWall$Bright", name := "all", desc := "(LCrumblingWall$Wall;)I" } : Jvm.MethodName)) ∈ lw_all := lw_g (lw_at lw_m12 151 rfl) rfl
theorem q2917 : (Jvm.Cond.instanceMethod ({ cls := "CrumblingWall", name := "undo", desc := "()I" } : Jvm.MethodName)) ∈ lw_all := lw_g (lw_at lw_m12 158 rfl) rfl
theorem q2918 : (Jvm.Cond.selects "CrumblingWall" ({ cls := "CrumblingWall", name := "undo", desc := "()I" } : Jvm.MethodName) ({ cls := "CrumblingWall", name := "undo", desc := "()I" } : Jvm.MethodName)) ∈ lw_all := lw_g (lw_at lw_m12 159 rfl) rfl
theorem q2919 : (Jvm.Cond.code ({ cls := "CrumblingWall", name := "undo", desc := "()I" } : Jvm.MethodName) prog_1_method_60_code (1 : Nat) (Option.some Jvm.ClassFile.FieldType.int)) ∈ lw_all := lw_g (lw_at lw_m12 160 rfl) rfl
theorem q2920 : (Jvm.Cond.methodLink "CrumblingWall" (510 : Nat) ({ cls := "java/util/ArrayDeque", name := "isEmpty", desc := "()Z" } : Jvm.MethodName)) ∈ lw_all := lw_g (lw_at lw_m12 161 rfl) rfl
theorem q2921 : (Jvm.Cond.methodLink "CrumblingWall" (513 : Nat) ({ cls := "java/util/ArrayDeque", name := "removeLast", desc := "()Ljava/lang/Object;" } : Jvm.MethodName)) ∈ lw_all := lw_g (lw_at lw_m12 162 rfl) rfl
theorem q2936 : (Jvm.Cond.instanceMethod ({ cls := "CrumblingWall", name := "restore", desc := "()I" } : Jvm.MethodName)) ∈ lw_all := lw_g (lw_at lw_m12 177 rfl) rfl
theorem q2937 : (Jvm.Cond.selects "CrumblingWall" ({ cls := "CrumblingWall", name := "restore", desc := "()I" } : Jvm.MethodName) ({ cls := "CrumblingWall", name := "restore", desc := "()I" } : Jvm.MethodName)) ∈ lw_all := lw_g (lw_at lw_m12 178 rfl) rfl
theorem q2938 : (Jvm.Cond.code ({ cls := "CrumblingWall", name := "restore", desc := "()I" } : Jvm.MethodName) prog_1_method_62_code (1 : Nat) (Option.some Jvm.ClassFile.FieldType.int)) ∈ lw_all := lw_g (lw_at lw_m12 179 rfl) rfl
theorem q2939 : (Jvm.Cond.methodLink "CrumblingWall" (519 : Nat) ({ cls := "java/util/ArrayDeque", name := "clear", desc := "()V" } : Jvm.MethodName)) ∈ lw_all := lw_g (lw_at lw_m12 180 rfl) rfl
theorem q3564 : (Jvm.Cond.castable "CrumblingWall" "java/lang/Object") ∈ lw_tbl := lw_at lw_m15 85 rfl
theorem in_X1 : ∀ w ∈ wsX10, w ∈ lw_all := lw_in wsX10 [738, 740, 742, 744, 746, 748, 750, 752, 754, 756, 758] (by decide +kernel) (by decide +kernel)
/-! CrumblingWall$Wall -/
set_option maxRecDepth 100000
def RX2 : String := "CrumblingWall$Wall"
def TX2 : u_T := fun k => match k with
  | 0 => ("CrumblingWall$Wall", "holds", "Ljava/util/ArrayList;", true)
  | 1 => ("CrumblingWall$Wall", "lamps", "Ljava/util/ArrayList;", true)
  | 2 => ("CrumblingWall$Wall", "anchors", "Ljava/util/LinkedList;", true)
  | 3 => ("CrumblingWall$Wall", "climbers", "Ljava/util/List;", true)
  | 4 => ("CrumblingWall$Wall", "ground", "LCrumblingWall$Ground;", true)
  | 5 => ("CrumblingWall$Wall", "forces", "[F", true)
  | 6 => ("CrumblingWall$Wall", "forced", "I", false)
  | 7 => ("CrumblingWall$Wall", "reach", "I", false)
  | 8 => ("CrumblingWall$Wall", "dusk", "I", false)
  | 9 => ("CrumblingWall$Wall", "length", "I", false)
  | 10 => ("CrumblingWall$Wall", "minutes", "I", false)
  | 11 => ("CrumblingWall$Wall", "moved", "I", false)
  | 12 => ("CrumblingWall$Wall", "rested", "I", false)
  | 13 => ("CrumblingWall$Wall", "hung", "I", false)
  | _ => ("CrumblingWall$Wall", "fallen", "I", false)
def tyX2 : Nat → FieldType := fun k => match k with
  | 0 => .object "java/util/ArrayList"
  | 1 => .object "java/util/ArrayList"
  | 2 => .object "java/util/LinkedList"
  | 3 => .object "java/util/List"
  | 4 => .object "CrumblingWall$Ground"
  | 5 => .array .float
  | 6 => .int
  | 7 => .int
  | 8 => .int
  | 9 => .int
  | 10 => .int
  | 11 => .int
  | 12 => .int
  | 13 => .int
  | _ => .int
abbrev wsX20 : List Cond := u_ws RX2 TX2 15
set_option maxRecDepth 100000 in
theorem nmX2 : ∀ a, a < 15 → ∀ b, b < 15 → a ≠ b → (TX2 a).2.1 ≠ (TX2 b).2.1 := by decide +kernel
set_option maxRecDepth 100000 in
theorem tyX2_ok : ∀ k, k < 15 → parseFieldDescriptor (TX2 k).2.2.1 = some (tyX2 k) := by decide +kernel
abbrev cX2_init : ByteArray := prog_21_method_1_code
def yX2_init : MethodName := ⟨RX2, "<init>", "()V"⟩
def dkwX2_init_0 : List UInt8 := [42, 187, 0, 3, 89, 3, 183, 0, 5, 187, 0, 3, 89, 4, 183, 0, 5, 184, 0, 9, 183, 0, 15, 177]
abbrev dktX2_init_0 : List UInt8 := dkwX2_init_0 ++ []
theorem dksX2_init_0 : cX2_init.data.toList.drop 0 = dktX2_init_0 := by decide +kernel
theorem dX2_init_0 : decode cX2_init 0 = .ok (.aload_n 0, 1) := dk_42 (dk_at dksX2_init_0 0 rfl rfl)
theorem dX2_init_1 : decode cX2_init 1 = .ok (.new 3, 3) := dk_187 0 3 (dk_at dksX2_init_0 1 rfl rfl)
theorem dX2_init_4 : decode cX2_init 4 = .ok (.dup, 1) := dk_89 (dk_at dksX2_init_0 4 rfl rfl)
theorem dX2_init_5 : decode cX2_init 5 = .ok (.iconst 0, 1) := dk_3 (dk_at dksX2_init_0 5 rfl rfl)
theorem dX2_init_6 : decode cX2_init 6 = .ok (.invokespecial 5, 3) := dk_183 0 5 (dk_at dksX2_init_0 6 rfl rfl)
theorem dX2_init_9 : decode cX2_init 9 = .ok (.new 3, 3) := dk_187 0 3 (dk_at dksX2_init_0 9 rfl rfl)
theorem dX2_init_12 : decode cX2_init 12 = .ok (.dup, 1) := dk_89 (dk_at dksX2_init_0 12 rfl rfl)
theorem dX2_init_13 : decode cX2_init 13 = .ok (.iconst 1, 1) := dk_4 (dk_at dksX2_init_0 13 rfl rfl)
theorem dX2_init_14 : decode cX2_init 14 = .ok (.invokespecial 5, 3) := dk_183 0 5 (dk_at dksX2_init_0 14 rfl rfl)
theorem dX2_init_17 : decode cX2_init 17 = .ok (.invokestatic 9, 3) := dk_184 0 9 (dk_at dksX2_init_0 17 rfl rfl)
theorem dX2_init_20 : decode cX2_init 20 = .ok (.invokespecial 15, 3) := dk_183 0 15 (dk_at dksX2_init_0 20 rfl rfl)
theorem dX2_init_23 : decode cX2_init 23 = .ok (.return_, 1) := dk_177 (dk_at dksX2_init_0 23 rfl rfl)
abbrev cX2_init_2 : ByteArray := prog_21_method_2_code
def yX2_init_2 : MethodName := ⟨RX2, "<init>", "(Ljava/util/List;)V"⟩
def dkwX2_init_2_3 : List UInt8 := [181, 0, 57, 42, 16, 30, 181, 0, 60, 42, 43, 181, 0, 63, 177]
abbrev dktX2_init_2_3 : List UInt8 := dkwX2_init_2_3 ++ []
def dkwX2_init_2_2 : List UInt8 := [183, 0, 44, 181, 0, 45, 42, 16, 16, 188, 6, 181, 0, 49, 42, 6, 181, 0, 53, 42, 16, 21]
abbrev dktX2_init_2_2 : List UInt8 := dkwX2_init_2_2 ++ dktX2_init_2_3
def dkwX2_init_2_1 : List UInt8 := [183, 0, 27, 181, 0, 32, 42, 187, 0, 35, 89, 183, 0, 37, 181, 0, 38, 42, 187, 0, 42, 89]
abbrev dktX2_init_2_1 : List UInt8 := dkwX2_init_2_1 ++ dktX2_init_2_2
def dkwX2_init_2_0 : List UInt8 := [42, 183, 0, 20, 42, 187, 0, 25, 89, 16, 20, 183, 0, 27, 181, 0, 28, 42, 187, 0, 25, 89, 7]
abbrev dktX2_init_2_0 : List UInt8 := dkwX2_init_2_0 ++ dktX2_init_2_1
theorem dksX2_init_2_0 : cX2_init_2.data.toList.drop 0 = dktX2_init_2_0 := by decide +kernel
theorem dksX2_init_2_1 : cX2_init_2.data.toList.drop 23 = dktX2_init_2_1 := dk_seg dksX2_init_2_0 23 rfl rfl
theorem dksX2_init_2_2 : cX2_init_2.data.toList.drop 45 = dktX2_init_2_2 := dk_seg dksX2_init_2_1 22 rfl rfl
theorem dksX2_init_2_3 : cX2_init_2.data.toList.drop 67 = dktX2_init_2_3 := dk_seg dksX2_init_2_2 22 rfl rfl
theorem dX2_init_2_0 : decode cX2_init_2 0 = .ok (.aload_n 0, 1) := dk_42 (dk_at dksX2_init_2_0 0 rfl rfl)
theorem dX2_init_2_1 : decode cX2_init_2 1 = .ok (.invokespecial 20, 3) := dk_183 0 20 (dk_at dksX2_init_2_0 1 rfl rfl)
theorem dX2_init_2_4 : decode cX2_init_2 4 = .ok (.aload_n 0, 1) := dk_42 (dk_at dksX2_init_2_0 4 rfl rfl)
theorem dX2_init_2_5 : decode cX2_init_2 5 = .ok (.new 25, 3) := dk_187 0 25 (dk_at dksX2_init_2_0 5 rfl rfl)
theorem dX2_init_2_8 : decode cX2_init_2 8 = .ok (.dup, 1) := dk_89 (dk_at dksX2_init_2_0 8 rfl rfl)
theorem dX2_init_2_9 : decode cX2_init_2 9 = .ok (.bipush 20, 2) := dk_16 20 (dk_at dksX2_init_2_0 9 rfl rfl)
theorem dX2_init_2_11 : decode cX2_init_2 11 = .ok (.invokespecial 27, 3) := dk_183 0 27 (dk_at dksX2_init_2_0 11 rfl rfl)
theorem dX2_init_2_14 : decode cX2_init_2 14 = .ok (.putfield 28, 3) := dk_181 0 28 (dk_at dksX2_init_2_0 14 rfl rfl)
theorem dX2_init_2_17 : decode cX2_init_2 17 = .ok (.aload_n 0, 1) := dk_42 (dk_at dksX2_init_2_0 17 rfl rfl)
theorem dX2_init_2_18 : decode cX2_init_2 18 = .ok (.new 25, 3) := dk_187 0 25 (dk_at dksX2_init_2_0 18 rfl rfl)
theorem dX2_init_2_21 : decode cX2_init_2 21 = .ok (.dup, 1) := dk_89 (dk_at dksX2_init_2_0 21 rfl rfl)
theorem dX2_init_2_22 : decode cX2_init_2 22 = .ok (.iconst 4, 1) := dk_7 (dk_at dksX2_init_2_0 22 rfl rfl)
theorem dX2_init_2_23 : decode cX2_init_2 23 = .ok (.invokespecial 27, 3) := dk_183 0 27 (dk_at dksX2_init_2_1 0 rfl rfl)
theorem dX2_init_2_26 : decode cX2_init_2 26 = .ok (.putfield 32, 3) := dk_181 0 32 (dk_at dksX2_init_2_1 3 rfl rfl)
theorem dX2_init_2_29 : decode cX2_init_2 29 = .ok (.aload_n 0, 1) := dk_42 (dk_at dksX2_init_2_1 6 rfl rfl)
theorem dX2_init_2_30 : decode cX2_init_2 30 = .ok (.new 35, 3) := dk_187 0 35 (dk_at dksX2_init_2_1 7 rfl rfl)
theorem dX2_init_2_33 : decode cX2_init_2 33 = .ok (.dup, 1) := dk_89 (dk_at dksX2_init_2_1 10 rfl rfl)
theorem dX2_init_2_34 : decode cX2_init_2 34 = .ok (.invokespecial 37, 3) := dk_183 0 37 (dk_at dksX2_init_2_1 11 rfl rfl)
theorem dX2_init_2_37 : decode cX2_init_2 37 = .ok (.putfield 38, 3) := dk_181 0 38 (dk_at dksX2_init_2_1 14 rfl rfl)
theorem dX2_init_2_40 : decode cX2_init_2 40 = .ok (.aload_n 0, 1) := dk_42 (dk_at dksX2_init_2_1 17 rfl rfl)
theorem dX2_init_2_41 : decode cX2_init_2 41 = .ok (.new 42, 3) := dk_187 0 42 (dk_at dksX2_init_2_1 18 rfl rfl)
theorem dX2_init_2_44 : decode cX2_init_2 44 = .ok (.dup, 1) := dk_89 (dk_at dksX2_init_2_1 21 rfl rfl)
theorem dX2_init_2_45 : decode cX2_init_2 45 = .ok (.invokespecial 44, 3) := dk_183 0 44 (dk_at dksX2_init_2_2 0 rfl rfl)
theorem dX2_init_2_48 : decode cX2_init_2 48 = .ok (.putfield 45, 3) := dk_181 0 45 (dk_at dksX2_init_2_2 3 rfl rfl)
theorem dX2_init_2_51 : decode cX2_init_2 51 = .ok (.aload_n 0, 1) := dk_42 (dk_at dksX2_init_2_2 6 rfl rfl)
theorem dX2_init_2_52 : decode cX2_init_2 52 = .ok (.bipush 16, 2) := dk_16 16 (dk_at dksX2_init_2_2 7 rfl rfl)
theorem dX2_init_2_54 : decode cX2_init_2 54 = .ok (.newarray .float, 2) := dk_188_6 (dk_at dksX2_init_2_2 9 rfl rfl)
theorem dX2_init_2_56 : decode cX2_init_2 56 = .ok (.putfield 49, 3) := dk_181 0 49 (dk_at dksX2_init_2_2 11 rfl rfl)
theorem dX2_init_2_59 : decode cX2_init_2 59 = .ok (.aload_n 0, 1) := dk_42 (dk_at dksX2_init_2_2 14 rfl rfl)
theorem dX2_init_2_60 : decode cX2_init_2 60 = .ok (.iconst 3, 1) := dk_6 (dk_at dksX2_init_2_2 15 rfl rfl)
theorem dX2_init_2_61 : decode cX2_init_2 61 = .ok (.putfield 53, 3) := dk_181 0 53 (dk_at dksX2_init_2_2 16 rfl rfl)
theorem dX2_init_2_64 : decode cX2_init_2 64 = .ok (.aload_n 0, 1) := dk_42 (dk_at dksX2_init_2_2 19 rfl rfl)
theorem dX2_init_2_65 : decode cX2_init_2 65 = .ok (.bipush 21, 2) := dk_16 21 (dk_at dksX2_init_2_2 20 rfl rfl)
theorem dX2_init_2_67 : decode cX2_init_2 67 = .ok (.putfield 57, 3) := dk_181 0 57 (dk_at dksX2_init_2_3 0 rfl rfl)
theorem dX2_init_2_70 : decode cX2_init_2 70 = .ok (.aload_n 0, 1) := dk_42 (dk_at dksX2_init_2_3 3 rfl rfl)
theorem dX2_init_2_71 : decode cX2_init_2 71 = .ok (.bipush 30, 2) := dk_16 30 (dk_at dksX2_init_2_3 4 rfl rfl)
theorem dX2_init_2_73 : decode cX2_init_2 73 = .ok (.putfield 60, 3) := dk_181 0 60 (dk_at dksX2_init_2_3 6 rfl rfl)
theorem dX2_init_2_76 : decode cX2_init_2 76 = .ok (.aload_n 0, 1) := dk_42 (dk_at dksX2_init_2_3 9 rfl rfl)
theorem dX2_init_2_77 : decode cX2_init_2 77 = .ok (.aload_n 1, 1) := dk_43 (dk_at dksX2_init_2_3 10 rfl rfl)
theorem dX2_init_2_78 : decode cX2_init_2 78 = .ok (.putfield 63, 3) := dk_181 0 63 (dk_at dksX2_init_2_3 11 rfl rfl)
theorem dX2_init_2_81 : decode cX2_init_2 81 = .ok (.return_, 1) := dk_177 (dk_at dksX2_init_2_3 14 rfl rfl)
abbrev cX2_out : ByteArray := prog_21_method_20_code
def yX2_out : MethodName := ⟨RX2, "out", "()I"⟩
def dkwX2_out_0 : List UInt8 := [42, 42, 4, 182, 0, 201, 42, 3, 182, 0, 201, 182, 0, 203, 172]
abbrev dktX2_out_0 : List UInt8 := dkwX2_out_0 ++ []
theorem dksX2_out_0 : cX2_out.data.toList.drop 0 = dktX2_out_0 := by decide +kernel
theorem dX2_out_0 : decode cX2_out 0 = .ok (.aload_n 0, 1) := dk_42 (dk_at dksX2_out_0 0 rfl rfl)
theorem dX2_out_1 : decode cX2_out 1 = .ok (.aload_n 0, 1) := dk_42 (dk_at dksX2_out_0 1 rfl rfl)
theorem dX2_out_2 : decode cX2_out 2 = .ok (.iconst 1, 1) := dk_4 (dk_at dksX2_out_0 2 rfl rfl)
theorem dX2_out_3 : decode cX2_out 3 = .ok (.invokevirtual 201, 3) := dk_182 0 201 (dk_at dksX2_out_0 3 rfl rfl)
theorem dX2_out_6 : decode cX2_out 6 = .ok (.aload_n 0, 1) := dk_42 (dk_at dksX2_out_0 6 rfl rfl)
theorem dX2_out_7 : decode cX2_out 7 = .ok (.iconst 0, 1) := dk_3 (dk_at dksX2_out_0 7 rfl rfl)
theorem dX2_out_8 : decode cX2_out 8 = .ok (.invokevirtual 201, 3) := dk_182 0 201 (dk_at dksX2_out_0 8 rfl rfl)
theorem dX2_out_11 : decode cX2_out 11 = .ok (.invokevirtual 203, 3) := dk_182 0 203 (dk_at dksX2_out_0 11 rfl rfl)
theorem dX2_out_14 : decode cX2_out 14 = .ok (.ireturn, 1) := dk_172 (dk_at dksX2_out_0 14 rfl rfl)
abbrev cX2_at : ByteArray := prog_21_method_9_code
def yX2_at : MethodName := ⟨RX2, "at", "(I)LCrumblingWall$Place;"⟩
def dkwX2_at_0 : List UInt8 := [42, 42, 27, 182, 0, 148, 180, 0, 152, 182, 0, 155, 176]
abbrev dktX2_at_0 : List UInt8 := dkwX2_at_0 ++ []
theorem dksX2_at_0 : cX2_at.data.toList.drop 0 = dktX2_at_0 := by decide +kernel
theorem dX2_at_0 : decode cX2_at 0 = .ok (.aload_n 0, 1) := dk_42 (dk_at dksX2_at_0 0 rfl rfl)
theorem dX2_at_1 : decode cX2_at 1 = .ok (.aload_n 0, 1) := dk_42 (dk_at dksX2_at_0 1 rfl rfl)
theorem dX2_at_2 : decode cX2_at 2 = .ok (.iload_n 1, 1) := dk_27 (dk_at dksX2_at_0 2 rfl rfl)
theorem dX2_at_3 : decode cX2_at 3 = .ok (.invokevirtual 148, 3) := dk_182 0 148 (dk_at dksX2_at_0 3 rfl rfl)
theorem dX2_at_6 : decode cX2_at 6 = .ok (.getfield 152, 3) := dk_180 0 152 (dk_at dksX2_at_0 6 rfl rfl)
theorem dX2_at_9 : decode cX2_at 9 = .ok (.invokevirtual 155, 3) := dk_182 0 155 (dk_at dksX2_at_0 9 rfl rfl)
theorem dX2_at_12 : decode cX2_at 12 = .ok (.areturn, 1) := dk_176 (dk_at dksX2_at_0 12 rfl rfl)
abbrev cX2_climber : ByteArray := prog_21_method_8_code
def yX2_climber : MethodName := ⟨RX2, "climber", "(I)LCrumblingWall$Climber;"⟩
def dkwX2_climber_0 : List UInt8 := [42, 180, 0, 63, 27, 185, 0, 67, 2, 0, 192, 0, 3, 176]
abbrev dktX2_climber_0 : List UInt8 := dkwX2_climber_0 ++ []
theorem dksX2_climber_0 : cX2_climber.data.toList.drop 0 = dktX2_climber_0 := by decide +kernel
theorem dX2_climber_0 : decode cX2_climber 0 = .ok (.aload_n 0, 1) := dk_42 (dk_at dksX2_climber_0 0 rfl rfl)
theorem dX2_climber_1 : decode cX2_climber 1 = .ok (.getfield 63, 3) := dk_180 0 63 (dk_at dksX2_climber_0 1 rfl rfl)
theorem dX2_climber_4 : decode cX2_climber 4 = .ok (.iload_n 1, 1) := dk_27 (dk_at dksX2_climber_0 4 rfl rfl)
theorem dX2_climber_5 : decode cX2_climber 5 = .ok (.invokeinterface 67 2, 5) := by decide +kernel
theorem dX2_climber_10 : decode cX2_climber 10 = .ok (.checkcast 3, 3) := dk_192 0 3 (dk_at dksX2_climber_0 10 rfl rfl)
theorem dX2_climber_13 : decode cX2_climber 13 = .ok (.areturn, 1) := dk_176 (dk_at dksX2_climber_0 13 rfl rfl)
abbrev cX2_place : ByteArray := prog_21_method_7_code
def yX2_place : MethodName := ⟨RX2, "place", "(I)LCrumblingWall$Place;"⟩
def dkwX2_place_0 : List UInt8 := [27, 2, 160, 0, 10, 42, 180, 0, 45, 167, 0, 14, 42, 180, 0, 28, 27, 182, 0, 79, 192, 0, 146, 176]
abbrev dktX2_place_0 : List UInt8 := dkwX2_place_0 ++ []
theorem dksX2_place_0 : cX2_place.data.toList.drop 0 = dktX2_place_0 := by decide +kernel
theorem dX2_place_0 : decode cX2_place 0 = .ok (.iload_n 1, 1) := dk_27 (dk_at dksX2_place_0 0 rfl rfl)
theorem dX2_place_1 : decode cX2_place 1 = .ok (.iconst (-1), 1) := dk_2 (dk_at dksX2_place_0 1 rfl rfl)
theorem dX2_place_2 : decode cX2_place 2 = .ok (.if_icmp .ne 10, 3) := dk_160 0 10 (dk_at dksX2_place_0 2 rfl rfl)
theorem dX2_place_5 : decode cX2_place 5 = .ok (.aload_n 0, 1) := dk_42 (dk_at dksX2_place_0 5 rfl rfl)
theorem dX2_place_6 : decode cX2_place 6 = .ok (.getfield 45, 3) := dk_180 0 45 (dk_at dksX2_place_0 6 rfl rfl)
theorem dX2_place_9 : decode cX2_place 9 = .ok (.goto 14, 3) := dk_167 0 14 (dk_at dksX2_place_0 9 rfl rfl)
theorem dX2_place_12 : decode cX2_place 12 = .ok (.aload_n 0, 1) := dk_42 (dk_at dksX2_place_0 12 rfl rfl)
theorem dX2_place_13 : decode cX2_place 13 = .ok (.getfield 28, 3) := dk_180 0 28 (dk_at dksX2_place_0 13 rfl rfl)
theorem dX2_place_16 : decode cX2_place 16 = .ok (.iload_n 1, 1) := dk_27 (dk_at dksX2_place_0 16 rfl rfl)
theorem dX2_place_17 : decode cX2_place 17 = .ok (.invokevirtual 79, 3) := dk_182 0 79 (dk_at dksX2_place_0 17 rfl rfl)
theorem dX2_place_20 : decode cX2_place 20 = .ok (.checkcast 146, 3) := dk_192 0 146 (dk_at dksX2_place_0 20 rfl rfl)
theorem dX2_place_23 : decode cX2_place 23 = .ok (.areturn, 1) := dk_176 (dk_at dksX2_place_0 23 rfl rfl)
abbrev cX2_out_2 : ByteArray := prog_21_method_19_code
def yX2_out_2 : MethodName := ⟨RX2, "out", "(LCrumblingWall$Place;LCrumblingWall$Place;)I"⟩
def dkwX2_out_2_3 : List UInt8 := [172]
abbrev dktX2_out_2_3 : List UInt8 := dkwX2_out_2_3 ++ []
def dkwX2_out_2_2 : List UInt8 := [185, 0, 200, 2, 0, 96, 54, 4, 25, 6, 78, 167, 255, 211, 21, 4, 45, 44, 185, 0, 200, 2, 0, 96]
abbrev dktX2_out_2_2 : List UInt8 := dkwX2_out_2_2 ++ dktX2_out_2_3
def dkwX2_out_2_1 : List UInt8 := [42, 25, 5, 185, 0, 104, 1, 0, 192, 0, 108, 182, 0, 197, 182, 0, 155, 58, 6, 21, 4, 45, 25, 6]
abbrev dktX2_out_2_1 : List UInt8 := dkwX2_out_2_1 ++ dktX2_out_2_2
def dkwX2_out_2_0 : List UInt8 := [43, 78, 3, 54, 4, 42, 180, 0, 38, 182, 0, 94, 58, 5, 25, 5, 185, 0, 98, 1, 0, 153, 0, 41]
abbrev dktX2_out_2_0 : List UInt8 := dkwX2_out_2_0 ++ dktX2_out_2_1
theorem dksX2_out_2_0 : cX2_out_2.data.toList.drop 0 = dktX2_out_2_0 := by decide +kernel
theorem dksX2_out_2_1 : cX2_out_2.data.toList.drop 24 = dktX2_out_2_1 := dk_seg dksX2_out_2_0 24 rfl rfl
theorem dksX2_out_2_2 : cX2_out_2.data.toList.drop 48 = dktX2_out_2_2 := dk_seg dksX2_out_2_1 24 rfl rfl
theorem dksX2_out_2_3 : cX2_out_2.data.toList.drop 72 = dktX2_out_2_3 := dk_seg dksX2_out_2_2 24 rfl rfl
theorem dX2_out_2_0 : decode cX2_out_2 0 = .ok (.aload_n 1, 1) := dk_43 (dk_at dksX2_out_2_0 0 rfl rfl)
theorem dX2_out_2_1 : decode cX2_out_2 1 = .ok (.astore_n 3, 1) := dk_78 (dk_at dksX2_out_2_0 1 rfl rfl)
theorem dX2_out_2_2 : decode cX2_out_2 2 = .ok (.iconst 0, 1) := dk_3 (dk_at dksX2_out_2_0 2 rfl rfl)
theorem dX2_out_2_3 : decode cX2_out_2 3 = .ok (.istore 4, 2) := dk_54 4 (dk_at dksX2_out_2_0 3 rfl rfl)
theorem dX2_out_2_5 : decode cX2_out_2 5 = .ok (.aload_n 0, 1) := dk_42 (dk_at dksX2_out_2_0 5 rfl rfl)
theorem dX2_out_2_6 : decode cX2_out_2 6 = .ok (.getfield 38, 3) := dk_180 0 38 (dk_at dksX2_out_2_0 6 rfl rfl)
theorem dX2_out_2_9 : decode cX2_out_2 9 = .ok (.invokevirtual 94, 3) := dk_182 0 94 (dk_at dksX2_out_2_0 9 rfl rfl)
theorem dX2_out_2_12 : decode cX2_out_2 12 = .ok (.astore 5, 2) := dk_58 5 (dk_at dksX2_out_2_0 12 rfl rfl)
theorem dX2_out_2_14 : decode cX2_out_2 14 = .ok (.aload 5, 2) := dk_25 5 (dk_at dksX2_out_2_0 14 rfl rfl)
theorem dX2_out_2_16 : decode cX2_out_2 16 = .ok (.invokeinterface 98 1, 5) := by decide +kernel
theorem dX2_out_2_21 : decode cX2_out_2 21 = .ok (.ifCond .eq 41, 3) := dk_153 0 41 (dk_at dksX2_out_2_0 21 rfl rfl)
theorem dX2_out_2_24 : decode cX2_out_2 24 = .ok (.aload_n 0, 1) := dk_42 (dk_at dksX2_out_2_1 0 rfl rfl)
theorem dX2_out_2_25 : decode cX2_out_2 25 = .ok (.aload 5, 2) := dk_25 5 (dk_at dksX2_out_2_1 1 rfl rfl)
theorem dX2_out_2_27 : decode cX2_out_2 27 = .ok (.invokeinterface 104 1, 5) := by decide +kernel
theorem dX2_out_2_32 : decode cX2_out_2 32 = .ok (.checkcast 108, 3) := dk_192 0 108 (dk_at dksX2_out_2_1 8 rfl rfl)
theorem dX2_out_2_35 : decode cX2_out_2 35 = .ok (.invokevirtual 197, 3) := dk_182 0 197 (dk_at dksX2_out_2_1 11 rfl rfl)
theorem dX2_out_2_38 : decode cX2_out_2 38 = .ok (.invokevirtual 155, 3) := dk_182 0 155 (dk_at dksX2_out_2_1 14 rfl rfl)
theorem dX2_out_2_41 : decode cX2_out_2 41 = .ok (.astore 6, 2) := dk_58 6 (dk_at dksX2_out_2_1 17 rfl rfl)
theorem dX2_out_2_43 : decode cX2_out_2 43 = .ok (.iload 4, 2) := dk_21 4 (dk_at dksX2_out_2_1 19 rfl rfl)
theorem dX2_out_2_45 : decode cX2_out_2 45 = .ok (.aload_n 3, 1) := dk_45 (dk_at dksX2_out_2_1 21 rfl rfl)
theorem dX2_out_2_46 : decode cX2_out_2 46 = .ok (.aload 6, 2) := dk_25 6 (dk_at dksX2_out_2_1 22 rfl rfl)
theorem dX2_out_2_48 : decode cX2_out_2 48 = .ok (.invokeinterface 200 2, 5) := by decide +kernel
theorem dX2_out_2_53 : decode cX2_out_2 53 = .ok (.iadd, 1) := dk_96 (dk_at dksX2_out_2_2 5 rfl rfl)
theorem dX2_out_2_54 : decode cX2_out_2 54 = .ok (.istore 4, 2) := dk_54 4 (dk_at dksX2_out_2_2 6 rfl rfl)
theorem dX2_out_2_56 : decode cX2_out_2 56 = .ok (.aload 6, 2) := dk_25 6 (dk_at dksX2_out_2_2 8 rfl rfl)
theorem dX2_out_2_58 : decode cX2_out_2 58 = .ok (.astore_n 3, 1) := dk_78 (dk_at dksX2_out_2_2 10 rfl rfl)
theorem dX2_out_2_59 : decode cX2_out_2 59 = .ok (.goto (-45), 3) := dk_167 255 211 (dk_at dksX2_out_2_2 11 rfl rfl)
theorem dX2_out_2_62 : decode cX2_out_2 62 = .ok (.iload 4, 2) := dk_21 4 (dk_at dksX2_out_2_2 14 rfl rfl)
theorem dX2_out_2_64 : decode cX2_out_2 64 = .ok (.aload_n 3, 1) := dk_45 (dk_at dksX2_out_2_2 16 rfl rfl)
theorem dX2_out_2_65 : decode cX2_out_2 65 = .ok (.aload_n 2, 1) := dk_44 (dk_at dksX2_out_2_2 17 rfl rfl)
theorem dX2_out_2_66 : decode cX2_out_2 66 = .ok (.invokeinterface 200 2, 5) := by decide +kernel
theorem dX2_out_2_71 : decode cX2_out_2 71 = .ok (.iadd, 1) := dk_96 (dk_at dksX2_out_2_2 23 rfl rfl)
theorem dX2_out_2_72 : decode cX2_out_2 72 = .ok (.ireturn, 1) := dk_172 (dk_at dksX2_out_2_3 0 rfl rfl)
abbrev cX2_outAgain : ByteArray := prog_21_method_21_code
def yX2_outAgain : MethodName := ⟨RX2, "outAgain", "()I"⟩
def dkwX2_outAgain_4 : List UInt8 := [185, 0, 210, 2, 0, 96, 28, 96, 45, 42, 4, 182, 0, 201, 185, 0, 213, 2, 0, 96, 172]
abbrev dktX2_outAgain_4 : List UInt8 := dkwX2_outAgain_4 ++ []
def dkwX2_outAgain_3 : List UInt8 := [185, 0, 213, 2, 0, 96, 61, 25, 5, 78, 167, 255, 202, 27, 45, 42, 4, 182, 0, 201]
abbrev dktX2_outAgain_3 : List UInt8 := dkwX2_outAgain_3 ++ dktX2_outAgain_4
def dkwX2_outAgain_2 : List UInt8 := [182, 0, 155, 58, 5, 27, 45, 25, 5, 185, 0, 210, 2, 0, 96, 60, 28, 45, 25, 5]
abbrev dktX2_outAgain_2 : List UInt8 := dkwX2_outAgain_2 ++ dktX2_outAgain_3
def dkwX2_outAgain_1 : List UInt8 := [185, 0, 98, 1, 0, 153, 0, 50, 42, 25, 4, 185, 0, 104, 1, 0, 192, 0, 108, 182, 0, 197]
abbrev dktX2_outAgain_1 : List UInt8 := dkwX2_outAgain_1 ++ dktX2_outAgain_2
def dkwX2_outAgain_0 : List UInt8 := [3, 60, 3, 61, 42, 3, 182, 0, 201, 78, 42, 180, 0, 38, 182, 0, 207, 58, 4, 25, 4]
abbrev dktX2_outAgain_0 : List UInt8 := dkwX2_outAgain_0 ++ dktX2_outAgain_1
theorem dksX2_outAgain_0 : cX2_outAgain.data.toList.drop 0 = dktX2_outAgain_0 := by decide +kernel
theorem dksX2_outAgain_1 : cX2_outAgain.data.toList.drop 21 = dktX2_outAgain_1 := dk_seg dksX2_outAgain_0 21 rfl rfl
theorem dksX2_outAgain_2 : cX2_outAgain.data.toList.drop 43 = dktX2_outAgain_2 := dk_seg dksX2_outAgain_1 22 rfl rfl
theorem dksX2_outAgain_3 : cX2_outAgain.data.toList.drop 63 = dktX2_outAgain_3 := dk_seg dksX2_outAgain_2 20 rfl rfl
theorem dksX2_outAgain_4 : cX2_outAgain.data.toList.drop 83 = dktX2_outAgain_4 := dk_seg dksX2_outAgain_3 20 rfl rfl
theorem dX2_outAgain_0 : decode cX2_outAgain 0 = .ok (.iconst 0, 1) := dk_3 (dk_at dksX2_outAgain_0 0 rfl rfl)
theorem dX2_outAgain_1 : decode cX2_outAgain 1 = .ok (.istore_n 1, 1) := dk_60 (dk_at dksX2_outAgain_0 1 rfl rfl)
theorem dX2_outAgain_2 : decode cX2_outAgain 2 = .ok (.iconst 0, 1) := dk_3 (dk_at dksX2_outAgain_0 2 rfl rfl)
theorem dX2_outAgain_3 : decode cX2_outAgain 3 = .ok (.istore_n 2, 1) := dk_61 (dk_at dksX2_outAgain_0 3 rfl rfl)
theorem dX2_outAgain_4 : decode cX2_outAgain 4 = .ok (.aload_n 0, 1) := dk_42 (dk_at dksX2_outAgain_0 4 rfl rfl)
theorem dX2_outAgain_5 : decode cX2_outAgain 5 = .ok (.iconst 0, 1) := dk_3 (dk_at dksX2_outAgain_0 5 rfl rfl)
theorem dX2_outAgain_6 : decode cX2_outAgain 6 = .ok (.invokevirtual 201, 3) := dk_182 0 201 (dk_at dksX2_outAgain_0 6 rfl rfl)
theorem dX2_outAgain_9 : decode cX2_outAgain 9 = .ok (.astore_n 3, 1) := dk_78 (dk_at dksX2_outAgain_0 9 rfl rfl)
theorem dX2_outAgain_10 : decode cX2_outAgain 10 = .ok (.aload_n 0, 1) := dk_42 (dk_at dksX2_outAgain_0 10 rfl rfl)
theorem dX2_outAgain_11 : decode cX2_outAgain 11 = .ok (.getfield 38, 3) := dk_180 0 38 (dk_at dksX2_outAgain_0 11 rfl rfl)
theorem dX2_outAgain_14 : decode cX2_outAgain 14 = .ok (.invokevirtual 207, 3) := dk_182 0 207 (dk_at dksX2_outAgain_0 14 rfl rfl)
theorem dX2_outAgain_17 : decode cX2_outAgain 17 = .ok (.astore 4, 2) := dk_58 4 (dk_at dksX2_outAgain_0 17 rfl rfl)
theorem dX2_outAgain_19 : decode cX2_outAgain 19 = .ok (.aload 4, 2) := dk_25 4 (dk_at dksX2_outAgain_0 19 rfl rfl)
theorem dX2_outAgain_21 : decode cX2_outAgain 21 = .ok (.invokeinterface 98 1, 5) := by decide +kernel
theorem dX2_outAgain_26 : decode cX2_outAgain 26 = .ok (.ifCond .eq 50, 3) := dk_153 0 50 (dk_at dksX2_outAgain_1 5 rfl rfl)
theorem dX2_outAgain_29 : decode cX2_outAgain 29 = .ok (.aload_n 0, 1) := dk_42 (dk_at dksX2_outAgain_1 8 rfl rfl)
theorem dX2_outAgain_30 : decode cX2_outAgain 30 = .ok (.aload 4, 2) := dk_25 4 (dk_at dksX2_outAgain_1 9 rfl rfl)
theorem dX2_outAgain_32 : decode cX2_outAgain 32 = .ok (.invokeinterface 104 1, 5) := by decide +kernel
theorem dX2_outAgain_37 : decode cX2_outAgain 37 = .ok (.checkcast 108, 3) := dk_192 0 108 (dk_at dksX2_outAgain_1 16 rfl rfl)
theorem dX2_outAgain_40 : decode cX2_outAgain 40 = .ok (.invokevirtual 197, 3) := dk_182 0 197 (dk_at dksX2_outAgain_1 19 rfl rfl)
theorem dX2_outAgain_43 : decode cX2_outAgain 43 = .ok (.invokevirtual 155, 3) := dk_182 0 155 (dk_at dksX2_outAgain_2 0 rfl rfl)
theorem dX2_outAgain_46 : decode cX2_outAgain 46 = .ok (.astore 5, 2) := dk_58 5 (dk_at dksX2_outAgain_2 3 rfl rfl)
theorem dX2_outAgain_48 : decode cX2_outAgain 48 = .ok (.iload_n 1, 1) := dk_27 (dk_at dksX2_outAgain_2 5 rfl rfl)
theorem dX2_outAgain_49 : decode cX2_outAgain 49 = .ok (.aload_n 3, 1) := dk_45 (dk_at dksX2_outAgain_2 6 rfl rfl)
theorem dX2_outAgain_50 : decode cX2_outAgain 50 = .ok (.aload 5, 2) := dk_25 5 (dk_at dksX2_outAgain_2 7 rfl rfl)
theorem dX2_outAgain_52 : decode cX2_outAgain 52 = .ok (.invokeinterface 210 2, 5) := by decide +kernel
theorem dX2_outAgain_57 : decode cX2_outAgain 57 = .ok (.iadd, 1) := dk_96 (dk_at dksX2_outAgain_2 14 rfl rfl)
theorem dX2_outAgain_58 : decode cX2_outAgain 58 = .ok (.istore_n 1, 1) := dk_60 (dk_at dksX2_outAgain_2 15 rfl rfl)
theorem dX2_outAgain_59 : decode cX2_outAgain 59 = .ok (.iload_n 2, 1) := dk_28 (dk_at dksX2_outAgain_2 16 rfl rfl)
theorem dX2_outAgain_60 : decode cX2_outAgain 60 = .ok (.aload_n 3, 1) := dk_45 (dk_at dksX2_outAgain_2 17 rfl rfl)
theorem dX2_outAgain_61 : decode cX2_outAgain 61 = .ok (.aload 5, 2) := dk_25 5 (dk_at dksX2_outAgain_2 18 rfl rfl)
theorem dX2_outAgain_63 : decode cX2_outAgain 63 = .ok (.invokeinterface 213 2, 5) := by decide +kernel
theorem dX2_outAgain_68 : decode cX2_outAgain 68 = .ok (.iadd, 1) := dk_96 (dk_at dksX2_outAgain_3 5 rfl rfl)
theorem dX2_outAgain_69 : decode cX2_outAgain 69 = .ok (.istore_n 2, 1) := dk_61 (dk_at dksX2_outAgain_3 6 rfl rfl)
theorem dX2_outAgain_70 : decode cX2_outAgain 70 = .ok (.aload 5, 2) := dk_25 5 (dk_at dksX2_outAgain_3 7 rfl rfl)
theorem dX2_outAgain_72 : decode cX2_outAgain 72 = .ok (.astore_n 3, 1) := dk_78 (dk_at dksX2_outAgain_3 9 rfl rfl)
theorem dX2_outAgain_73 : decode cX2_outAgain 73 = .ok (.goto (-54), 3) := dk_167 255 202 (dk_at dksX2_outAgain_3 10 rfl rfl)
theorem dX2_outAgain_76 : decode cX2_outAgain 76 = .ok (.iload_n 1, 1) := dk_27 (dk_at dksX2_outAgain_3 13 rfl rfl)
theorem dX2_outAgain_77 : decode cX2_outAgain 77 = .ok (.aload_n 3, 1) := dk_45 (dk_at dksX2_outAgain_3 14 rfl rfl)
theorem dX2_outAgain_78 : decode cX2_outAgain 78 = .ok (.aload_n 0, 1) := dk_42 (dk_at dksX2_outAgain_3 15 rfl rfl)
theorem dX2_outAgain_79 : decode cX2_outAgain 79 = .ok (.iconst 1, 1) := dk_4 (dk_at dksX2_outAgain_3 16 rfl rfl)
theorem dX2_outAgain_80 : decode cX2_outAgain 80 = .ok (.invokevirtual 201, 3) := dk_182 0 201 (dk_at dksX2_outAgain_3 17 rfl rfl)
theorem dX2_outAgain_83 : decode cX2_outAgain 83 = .ok (.invokeinterface 210 2, 5) := by decide +kernel
theorem dX2_outAgain_88 : decode cX2_outAgain 88 = .ok (.iadd, 1) := dk_96 (dk_at dksX2_outAgain_4 5 rfl rfl)
theorem dX2_outAgain_89 : decode cX2_outAgain 89 = .ok (.iload_n 2, 1) := dk_28 (dk_at dksX2_outAgain_4 6 rfl rfl)
theorem dX2_outAgain_90 : decode cX2_outAgain 90 = .ok (.iadd, 1) := dk_96 (dk_at dksX2_outAgain_4 7 rfl rfl)
theorem dX2_outAgain_91 : decode cX2_outAgain 91 = .ok (.aload_n 3, 1) := dk_45 (dk_at dksX2_outAgain_4 8 rfl rfl)
theorem dX2_outAgain_92 : decode cX2_outAgain 92 = .ok (.aload_n 0, 1) := dk_42 (dk_at dksX2_outAgain_4 9 rfl rfl)
theorem dX2_outAgain_93 : decode cX2_outAgain 93 = .ok (.iconst 1, 1) := dk_4 (dk_at dksX2_outAgain_4 10 rfl rfl)
theorem dX2_outAgain_94 : decode cX2_outAgain 94 = .ok (.invokevirtual 201, 3) := dk_182 0 201 (dk_at dksX2_outAgain_4 11 rfl rfl)
theorem dX2_outAgain_97 : decode cX2_outAgain 97 = .ok (.invokeinterface 213 2, 5) := by decide +kernel
theorem dX2_outAgain_102 : decode cX2_outAgain 102 = .ok (.iadd, 1) := dk_96 (dk_at dksX2_outAgain_4 19 rfl rfl)
theorem dX2_outAgain_103 : decode cX2_outAgain 103 = .ok (.ireturn, 1) := dk_172 (dk_at dksX2_outAgain_4 20 rfl rfl)
abbrev cX2_isHold : ByteArray := prog_21_method_4_code
def yX2_isHold : MethodName := ⟨RX2, "isHold", "(I)Z"⟩
def dkwX2_isHold_0 : List UInt8 := [27, 3, 42, 180, 0, 28, 182, 0, 75, 4, 100, 184, 0, 138, 172]
abbrev dktX2_isHold_0 : List UInt8 := dkwX2_isHold_0 ++ []
theorem dksX2_isHold_0 : cX2_isHold.data.toList.drop 0 = dktX2_isHold_0 := by decide +kernel
theorem dX2_isHold_0 : decode cX2_isHold 0 = .ok (.iload_n 1, 1) := dk_27 (dk_at dksX2_isHold_0 0 rfl rfl)
theorem dX2_isHold_1 : decode cX2_isHold 1 = .ok (.iconst 0, 1) := dk_3 (dk_at dksX2_isHold_0 1 rfl rfl)
theorem dX2_isHold_2 : decode cX2_isHold 2 = .ok (.aload_n 0, 1) := dk_42 (dk_at dksX2_isHold_0 2 rfl rfl)
theorem dX2_isHold_3 : decode cX2_isHold 3 = .ok (.getfield 28, 3) := dk_180 0 28 (dk_at dksX2_isHold_0 3 rfl rfl)
theorem dX2_isHold_6 : decode cX2_isHold 6 = .ok (.invokevirtual 75, 3) := dk_182 0 75 (dk_at dksX2_isHold_0 6 rfl rfl)
theorem dX2_isHold_9 : decode cX2_isHold 9 = .ok (.iconst 1, 1) := dk_4 (dk_at dksX2_isHold_0 9 rfl rfl)
theorem dX2_isHold_10 : decode cX2_isHold 10 = .ok (.isub, 1) := dk_100 (dk_at dksX2_isHold_0 10 rfl rfl)
theorem dX2_isHold_11 : decode cX2_isHold 11 = .ok (.invokestatic 138, 3) := dk_184 0 138 (dk_at dksX2_isHold_0 11 rfl rfl)
theorem dX2_isHold_14 : decode cX2_isHold 14 = .ok (.ireturn, 1) := dk_172 (dk_at dksX2_isHold_0 14 rfl rfl)
abbrev cX2_copy : ByteArray := prog_21_method_3_code
def yX2_copy : MethodName := ⟨RX2, "copy", "()LCrumblingWall$Wall;"⟩
def dkwX2_copy_10 : List UInt8 := [181, 0, 132, 43, 42, 180, 0, 135, 181, 0, 135, 43, 176]
abbrev dktX2_copy_10 : List UInt8 := dkwX2_copy_10 ++ []
def dkwX2_copy_9 : List UInt8 := [181, 0, 123, 43, 42, 180, 0, 126, 181, 0, 126, 43, 42, 180, 0, 129, 181, 0, 129, 43, 42, 180, 0, 132]
abbrev dktX2_copy_9 : List UInt8 := dkwX2_copy_9 ++ dktX2_copy_10
def dkwX2_copy_8 : List UInt8 := [181, 0, 53, 43, 42, 180, 0, 57, 181, 0, 57, 43, 42, 180, 0, 60, 181, 0, 60, 43, 42, 180, 0, 123]
abbrev dktX2_copy_8 : List UInt8 := dkwX2_copy_8 ++ dktX2_copy_9
def dkwX2_copy_7 : List UInt8 := [43, 180, 0, 49, 3, 16, 16, 184, 0, 114, 43, 42, 180, 0, 120, 181, 0, 120, 43, 42, 180, 0, 53]
abbrev dktX2_copy_7 : List UInt8 := dkwX2_copy_7 ++ dktX2_copy_8
def dkwX2_copy_6 : List UInt8 := [43, 180, 0, 38, 44, 185, 0, 104, 1, 0, 192, 0, 108, 182, 0, 110, 167, 255, 231, 42, 180, 0, 49, 3]
abbrev dktX2_copy_6 : List UInt8 := dkwX2_copy_6 ++ dktX2_copy_7
def dkwX2_copy_5 : List UInt8 := [87, 132, 2, 1, 167, 255, 220, 42, 180, 0, 38, 182, 0, 94, 77, 44, 185, 0, 98, 1, 0, 153, 0, 22]
abbrev dktX2_copy_5 : List UInt8 := dkwX2_copy_5 ++ dktX2_copy_6
def dkwX2_copy_4 : List UInt8 := [162, 0, 31, 43, 180, 0, 32, 42, 180, 0, 32, 28, 182, 0, 79, 192, 0, 89, 182, 0, 91, 182, 0, 85]
abbrev dktX2_copy_4 : List UInt8 := dkwX2_copy_4 ++ dktX2_copy_5
def dkwX2_copy_3 : List UInt8 := [182, 0, 82, 182, 0, 85, 87, 132, 2, 1, 167, 255, 220, 3, 61, 28, 42, 180, 0, 32, 182, 0, 75]
abbrev dktX2_copy_3 : List UInt8 := dkwX2_copy_3 ++ dktX2_copy_4
def dkwX2_copy_2 : List UInt8 := [180, 0, 28, 182, 0, 75, 162, 0, 31, 43, 180, 0, 28, 42, 180, 0, 28, 28, 182, 0, 79, 192, 0, 80]
abbrev dktX2_copy_2 : List UInt8 := dkwX2_copy_2 ++ dktX2_copy_3
def dkwX2_copy_1 : List UInt8 := [4, 185, 0, 67, 2, 0, 192, 0, 3, 182, 0, 71, 184, 0, 9, 183, 0, 15, 76, 3, 61, 28, 42]
abbrev dktX2_copy_1 : List UInt8 := dkwX2_copy_1 ++ dktX2_copy_2
def dkwX2_copy_0 : List UInt8 := [187, 0, 16, 89, 42, 180, 0, 63, 3, 185, 0, 67, 2, 0, 192, 0, 3, 182, 0, 71, 42, 180, 0, 63]
abbrev dktX2_copy_0 : List UInt8 := dkwX2_copy_0 ++ dktX2_copy_1
theorem dksX2_copy_0 : cX2_copy.data.toList.drop 0 = dktX2_copy_0 := by decide +kernel
theorem dksX2_copy_1 : cX2_copy.data.toList.drop 24 = dktX2_copy_1 := dk_seg dksX2_copy_0 24 rfl rfl
theorem dksX2_copy_2 : cX2_copy.data.toList.drop 47 = dktX2_copy_2 := dk_seg dksX2_copy_1 23 rfl rfl
theorem dksX2_copy_3 : cX2_copy.data.toList.drop 71 = dktX2_copy_3 := dk_seg dksX2_copy_2 24 rfl rfl
theorem dksX2_copy_4 : cX2_copy.data.toList.drop 94 = dktX2_copy_4 := dk_seg dksX2_copy_3 23 rfl rfl
theorem dksX2_copy_5 : cX2_copy.data.toList.drop 118 = dktX2_copy_5 := dk_seg dksX2_copy_4 24 rfl rfl
theorem dksX2_copy_6 : cX2_copy.data.toList.drop 142 = dktX2_copy_6 := dk_seg dksX2_copy_5 24 rfl rfl
theorem dksX2_copy_7 : cX2_copy.data.toList.drop 166 = dktX2_copy_7 := dk_seg dksX2_copy_6 24 rfl rfl
theorem dksX2_copy_8 : cX2_copy.data.toList.drop 189 = dktX2_copy_8 := dk_seg dksX2_copy_7 23 rfl rfl
theorem dksX2_copy_9 : cX2_copy.data.toList.drop 213 = dktX2_copy_9 := dk_seg dksX2_copy_8 24 rfl rfl
theorem dksX2_copy_10 : cX2_copy.data.toList.drop 237 = dktX2_copy_10 := dk_seg dksX2_copy_9 24 rfl rfl
theorem dX2_copy_0 : decode cX2_copy 0 = .ok (.new 16, 3) := dk_187 0 16 (dk_at dksX2_copy_0 0 rfl rfl)
theorem dX2_copy_3 : decode cX2_copy 3 = .ok (.dup, 1) := dk_89 (dk_at dksX2_copy_0 3 rfl rfl)
theorem dX2_copy_4 : decode cX2_copy 4 = .ok (.aload_n 0, 1) := dk_42 (dk_at dksX2_copy_0 4 rfl rfl)
theorem dX2_copy_5 : decode cX2_copy 5 = .ok (.getfield 63, 3) := dk_180 0 63 (dk_at dksX2_copy_0 5 rfl rfl)
theorem dX2_copy_8 : decode cX2_copy 8 = .ok (.iconst 0, 1) := dk_3 (dk_at dksX2_copy_0 8 rfl rfl)
theorem dX2_copy_9 : decode cX2_copy 9 = .ok (.invokeinterface 67 2, 5) := by decide +kernel
theorem dX2_copy_14 : decode cX2_copy 14 = .ok (.checkcast 3, 3) := dk_192 0 3 (dk_at dksX2_copy_0 14 rfl rfl)
theorem dX2_copy_17 : decode cX2_copy 17 = .ok (.invokevirtual 71, 3) := dk_182 0 71 (dk_at dksX2_copy_0 17 rfl rfl)
theorem dX2_copy_20 : decode cX2_copy 20 = .ok (.aload_n 0, 1) := dk_42 (dk_at dksX2_copy_0 20 rfl rfl)
theorem dX2_copy_21 : decode cX2_copy 21 = .ok (.getfield 63, 3) := dk_180 0 63 (dk_at dksX2_copy_0 21 rfl rfl)
theorem dX2_copy_24 : decode cX2_copy 24 = .ok (.iconst 1, 1) := dk_4 (dk_at dksX2_copy_1 0 rfl rfl)
theorem dX2_copy_25 : decode cX2_copy 25 = .ok (.invokeinterface 67 2, 5) := by decide +kernel
theorem dX2_copy_30 : decode cX2_copy 30 = .ok (.checkcast 3, 3) := dk_192 0 3 (dk_at dksX2_copy_1 6 rfl rfl)
theorem dX2_copy_33 : decode cX2_copy 33 = .ok (.invokevirtual 71, 3) := dk_182 0 71 (dk_at dksX2_copy_1 9 rfl rfl)
theorem dX2_copy_36 : decode cX2_copy 36 = .ok (.invokestatic 9, 3) := dk_184 0 9 (dk_at dksX2_copy_1 12 rfl rfl)
theorem dX2_copy_39 : decode cX2_copy 39 = .ok (.invokespecial 15, 3) := dk_183 0 15 (dk_at dksX2_copy_1 15 rfl rfl)
theorem dX2_copy_42 : decode cX2_copy 42 = .ok (.astore_n 1, 1) := dk_76 (dk_at dksX2_copy_1 18 rfl rfl)
theorem dX2_copy_43 : decode cX2_copy 43 = .ok (.iconst 0, 1) := dk_3 (dk_at dksX2_copy_1 19 rfl rfl)
theorem dX2_copy_44 : decode cX2_copy 44 = .ok (.istore_n 2, 1) := dk_61 (dk_at dksX2_copy_1 20 rfl rfl)
theorem dX2_copy_45 : decode cX2_copy 45 = .ok (.iload_n 2, 1) := dk_28 (dk_at dksX2_copy_1 21 rfl rfl)
theorem dX2_copy_46 : decode cX2_copy 46 = .ok (.aload_n 0, 1) := dk_42 (dk_at dksX2_copy_1 22 rfl rfl)
theorem dX2_copy_47 : decode cX2_copy 47 = .ok (.getfield 28, 3) := dk_180 0 28 (dk_at dksX2_copy_2 0 rfl rfl)
theorem dX2_copy_50 : decode cX2_copy 50 = .ok (.invokevirtual 75, 3) := dk_182 0 75 (dk_at dksX2_copy_2 3 rfl rfl)
theorem dX2_copy_53 : decode cX2_copy 53 = .ok (.if_icmp .ge 31, 3) := dk_162 0 31 (dk_at dksX2_copy_2 6 rfl rfl)
theorem dX2_copy_56 : decode cX2_copy 56 = .ok (.aload_n 1, 1) := dk_43 (dk_at dksX2_copy_2 9 rfl rfl)
theorem dX2_copy_57 : decode cX2_copy 57 = .ok (.getfield 28, 3) := dk_180 0 28 (dk_at dksX2_copy_2 10 rfl rfl)
theorem dX2_copy_60 : decode cX2_copy 60 = .ok (.aload_n 0, 1) := dk_42 (dk_at dksX2_copy_2 13 rfl rfl)
theorem dX2_copy_61 : decode cX2_copy 61 = .ok (.getfield 28, 3) := dk_180 0 28 (dk_at dksX2_copy_2 14 rfl rfl)
theorem dX2_copy_64 : decode cX2_copy 64 = .ok (.iload_n 2, 1) := dk_28 (dk_at dksX2_copy_2 17 rfl rfl)
theorem dX2_copy_65 : decode cX2_copy 65 = .ok (.invokevirtual 79, 3) := dk_182 0 79 (dk_at dksX2_copy_2 18 rfl rfl)
theorem dX2_copy_68 : decode cX2_copy 68 = .ok (.checkcast 80, 3) := dk_192 0 80 (dk_at dksX2_copy_2 21 rfl rfl)
theorem dX2_copy_71 : decode cX2_copy 71 = .ok (.invokevirtual 82, 3) := dk_182 0 82 (dk_at dksX2_copy_3 0 rfl rfl)
theorem dX2_copy_74 : decode cX2_copy 74 = .ok (.invokevirtual 85, 3) := dk_182 0 85 (dk_at dksX2_copy_3 3 rfl rfl)
theorem dX2_copy_77 : decode cX2_copy 77 = .ok (.pop, 1) := dk_87 (dk_at dksX2_copy_3 6 rfl rfl)
theorem dX2_copy_78 : decode cX2_copy 78 = .ok (.iinc 2 1, 3) := dk_132 2 1 (dk_at dksX2_copy_3 7 rfl rfl)
theorem dX2_copy_81 : decode cX2_copy 81 = .ok (.goto (-36), 3) := dk_167 255 220 (dk_at dksX2_copy_3 10 rfl rfl)
theorem dX2_copy_84 : decode cX2_copy 84 = .ok (.iconst 0, 1) := dk_3 (dk_at dksX2_copy_3 13 rfl rfl)
theorem dX2_copy_85 : decode cX2_copy 85 = .ok (.istore_n 2, 1) := dk_61 (dk_at dksX2_copy_3 14 rfl rfl)
theorem dX2_copy_86 : decode cX2_copy 86 = .ok (.iload_n 2, 1) := dk_28 (dk_at dksX2_copy_3 15 rfl rfl)
theorem dX2_copy_87 : decode cX2_copy 87 = .ok (.aload_n 0, 1) := dk_42 (dk_at dksX2_copy_3 16 rfl rfl)
theorem dX2_copy_88 : decode cX2_copy 88 = .ok (.getfield 32, 3) := dk_180 0 32 (dk_at dksX2_copy_3 17 rfl rfl)
theorem dX2_copy_91 : decode cX2_copy 91 = .ok (.invokevirtual 75, 3) := dk_182 0 75 (dk_at dksX2_copy_3 20 rfl rfl)
theorem dX2_copy_94 : decode cX2_copy 94 = .ok (.if_icmp .ge 31, 3) := dk_162 0 31 (dk_at dksX2_copy_4 0 rfl rfl)
theorem dX2_copy_97 : decode cX2_copy 97 = .ok (.aload_n 1, 1) := dk_43 (dk_at dksX2_copy_4 3 rfl rfl)
theorem dX2_copy_98 : decode cX2_copy 98 = .ok (.getfield 32, 3) := dk_180 0 32 (dk_at dksX2_copy_4 4 rfl rfl)
theorem dX2_copy_101 : decode cX2_copy 101 = .ok (.aload_n 0, 1) := dk_42 (dk_at dksX2_copy_4 7 rfl rfl)
theorem dX2_copy_102 : decode cX2_copy 102 = .ok (.getfield 32, 3) := dk_180 0 32 (dk_at dksX2_copy_4 8 rfl rfl)
theorem dX2_copy_105 : decode cX2_copy 105 = .ok (.iload_n 2, 1) := dk_28 (dk_at dksX2_copy_4 11 rfl rfl)
theorem dX2_copy_106 : decode cX2_copy 106 = .ok (.invokevirtual 79, 3) := dk_182 0 79 (dk_at dksX2_copy_4 12 rfl rfl)
theorem dX2_copy_109 : decode cX2_copy 109 = .ok (.checkcast 89, 3) := dk_192 0 89 (dk_at dksX2_copy_4 15 rfl rfl)
theorem dX2_copy_112 : decode cX2_copy 112 = .ok (.invokevirtual 91, 3) := dk_182 0 91 (dk_at dksX2_copy_4 18 rfl rfl)
theorem dX2_copy_115 : decode cX2_copy 115 = .ok (.invokevirtual 85, 3) := dk_182 0 85 (dk_at dksX2_copy_4 21 rfl rfl)
theorem dX2_copy_118 : decode cX2_copy 118 = .ok (.pop, 1) := dk_87 (dk_at dksX2_copy_5 0 rfl rfl)
theorem dX2_copy_119 : decode cX2_copy 119 = .ok (.iinc 2 1, 3) := dk_132 2 1 (dk_at dksX2_copy_5 1 rfl rfl)
theorem dX2_copy_122 : decode cX2_copy 122 = .ok (.goto (-36), 3) := dk_167 255 220 (dk_at dksX2_copy_5 4 rfl rfl)
theorem dX2_copy_125 : decode cX2_copy 125 = .ok (.aload_n 0, 1) := dk_42 (dk_at dksX2_copy_5 7 rfl rfl)
theorem dX2_copy_126 : decode cX2_copy 126 = .ok (.getfield 38, 3) := dk_180 0 38 (dk_at dksX2_copy_5 8 rfl rfl)
theorem dX2_copy_129 : decode cX2_copy 129 = .ok (.invokevirtual 94, 3) := dk_182 0 94 (dk_at dksX2_copy_5 11 rfl rfl)
theorem dX2_copy_132 : decode cX2_copy 132 = .ok (.astore_n 2, 1) := dk_77 (dk_at dksX2_copy_5 14 rfl rfl)
theorem dX2_copy_133 : decode cX2_copy 133 = .ok (.aload_n 2, 1) := dk_44 (dk_at dksX2_copy_5 15 rfl rfl)
theorem dX2_copy_134 : decode cX2_copy 134 = .ok (.invokeinterface 98 1, 5) := by decide +kernel
theorem dX2_copy_139 : decode cX2_copy 139 = .ok (.ifCond .eq 22, 3) := dk_153 0 22 (dk_at dksX2_copy_5 21 rfl rfl)
theorem dX2_copy_142 : decode cX2_copy 142 = .ok (.aload_n 1, 1) := dk_43 (dk_at dksX2_copy_6 0 rfl rfl)
theorem dX2_copy_143 : decode cX2_copy 143 = .ok (.getfield 38, 3) := dk_180 0 38 (dk_at dksX2_copy_6 1 rfl rfl)
theorem dX2_copy_146 : decode cX2_copy 146 = .ok (.aload_n 2, 1) := dk_44 (dk_at dksX2_copy_6 4 rfl rfl)
theorem dX2_copy_147 : decode cX2_copy 147 = .ok (.invokeinterface 104 1, 5) := by decide +kernel
theorem dX2_copy_152 : decode cX2_copy 152 = .ok (.checkcast 108, 3) := dk_192 0 108 (dk_at dksX2_copy_6 10 rfl rfl)
theorem dX2_copy_155 : decode cX2_copy 155 = .ok (.invokevirtual 110, 3) := dk_182 0 110 (dk_at dksX2_copy_6 13 rfl rfl)
theorem dX2_copy_158 : decode cX2_copy 158 = .ok (.goto (-25), 3) := dk_167 255 231 (dk_at dksX2_copy_6 16 rfl rfl)
theorem dX2_copy_161 : decode cX2_copy 161 = .ok (.aload_n 0, 1) := dk_42 (dk_at dksX2_copy_6 19 rfl rfl)
theorem dX2_copy_162 : decode cX2_copy 162 = .ok (.getfield 49, 3) := dk_180 0 49 (dk_at dksX2_copy_6 20 rfl rfl)
theorem dX2_copy_165 : decode cX2_copy 165 = .ok (.iconst 0, 1) := dk_3 (dk_at dksX2_copy_6 23 rfl rfl)
theorem dX2_copy_166 : decode cX2_copy 166 = .ok (.aload_n 1, 1) := dk_43 (dk_at dksX2_copy_7 0 rfl rfl)
theorem dX2_copy_167 : decode cX2_copy 167 = .ok (.getfield 49, 3) := dk_180 0 49 (dk_at dksX2_copy_7 1 rfl rfl)
theorem dX2_copy_170 : decode cX2_copy 170 = .ok (.iconst 0, 1) := dk_3 (dk_at dksX2_copy_7 4 rfl rfl)
theorem dX2_copy_171 : decode cX2_copy 171 = .ok (.bipush 16, 2) := dk_16 16 (dk_at dksX2_copy_7 5 rfl rfl)
theorem dX2_copy_173 : decode cX2_copy 173 = .ok (.invokestatic 114, 3) := dk_184 0 114 (dk_at dksX2_copy_7 7 rfl rfl)
theorem dX2_copy_176 : decode cX2_copy 176 = .ok (.aload_n 1, 1) := dk_43 (dk_at dksX2_copy_7 10 rfl rfl)
theorem dX2_copy_177 : decode cX2_copy 177 = .ok (.aload_n 0, 1) := dk_42 (dk_at dksX2_copy_7 11 rfl rfl)
theorem dX2_copy_178 : decode cX2_copy 178 = .ok (.getfield 120, 3) := dk_180 0 120 (dk_at dksX2_copy_7 12 rfl rfl)
theorem dX2_copy_181 : decode cX2_copy 181 = .ok (.putfield 120, 3) := dk_181 0 120 (dk_at dksX2_copy_7 15 rfl rfl)
theorem dX2_copy_184 : decode cX2_copy 184 = .ok (.aload_n 1, 1) := dk_43 (dk_at dksX2_copy_7 18 rfl rfl)
theorem dX2_copy_185 : decode cX2_copy 185 = .ok (.aload_n 0, 1) := dk_42 (dk_at dksX2_copy_7 19 rfl rfl)
theorem dX2_copy_186 : decode cX2_copy 186 = .ok (.getfield 53, 3) := dk_180 0 53 (dk_at dksX2_copy_7 20 rfl rfl)
theorem dX2_copy_189 : decode cX2_copy 189 = .ok (.putfield 53, 3) := dk_181 0 53 (dk_at dksX2_copy_8 0 rfl rfl)
theorem dX2_copy_192 : decode cX2_copy 192 = .ok (.aload_n 1, 1) := dk_43 (dk_at dksX2_copy_8 3 rfl rfl)
theorem dX2_copy_193 : decode cX2_copy 193 = .ok (.aload_n 0, 1) := dk_42 (dk_at dksX2_copy_8 4 rfl rfl)
theorem dX2_copy_194 : decode cX2_copy 194 = .ok (.getfield 57, 3) := dk_180 0 57 (dk_at dksX2_copy_8 5 rfl rfl)
theorem dX2_copy_197 : decode cX2_copy 197 = .ok (.putfield 57, 3) := dk_181 0 57 (dk_at dksX2_copy_8 8 rfl rfl)
theorem dX2_copy_200 : decode cX2_copy 200 = .ok (.aload_n 1, 1) := dk_43 (dk_at dksX2_copy_8 11 rfl rfl)
theorem dX2_copy_201 : decode cX2_copy 201 = .ok (.aload_n 0, 1) := dk_42 (dk_at dksX2_copy_8 12 rfl rfl)
theorem dX2_copy_202 : decode cX2_copy 202 = .ok (.getfield 60, 3) := dk_180 0 60 (dk_at dksX2_copy_8 13 rfl rfl)
theorem dX2_copy_205 : decode cX2_copy 205 = .ok (.putfield 60, 3) := dk_181 0 60 (dk_at dksX2_copy_8 16 rfl rfl)
theorem dX2_copy_208 : decode cX2_copy 208 = .ok (.aload_n 1, 1) := dk_43 (dk_at dksX2_copy_8 19 rfl rfl)
theorem dX2_copy_209 : decode cX2_copy 209 = .ok (.aload_n 0, 1) := dk_42 (dk_at dksX2_copy_8 20 rfl rfl)
theorem dX2_copy_210 : decode cX2_copy 210 = .ok (.getfield 123, 3) := dk_180 0 123 (dk_at dksX2_copy_8 21 rfl rfl)
theorem dX2_copy_213 : decode cX2_copy 213 = .ok (.putfield 123, 3) := dk_181 0 123 (dk_at dksX2_copy_9 0 rfl rfl)
theorem dX2_copy_216 : decode cX2_copy 216 = .ok (.aload_n 1, 1) := dk_43 (dk_at dksX2_copy_9 3 rfl rfl)
theorem dX2_copy_217 : decode cX2_copy 217 = .ok (.aload_n 0, 1) := dk_42 (dk_at dksX2_copy_9 4 rfl rfl)
theorem dX2_copy_218 : decode cX2_copy 218 = .ok (.getfield 126, 3) := dk_180 0 126 (dk_at dksX2_copy_9 5 rfl rfl)
theorem dX2_copy_221 : decode cX2_copy 221 = .ok (.putfield 126, 3) := dk_181 0 126 (dk_at dksX2_copy_9 8 rfl rfl)
theorem dX2_copy_224 : decode cX2_copy 224 = .ok (.aload_n 1, 1) := dk_43 (dk_at dksX2_copy_9 11 rfl rfl)
theorem dX2_copy_225 : decode cX2_copy 225 = .ok (.aload_n 0, 1) := dk_42 (dk_at dksX2_copy_9 12 rfl rfl)
theorem dX2_copy_226 : decode cX2_copy 226 = .ok (.getfield 129, 3) := dk_180 0 129 (dk_at dksX2_copy_9 13 rfl rfl)
theorem dX2_copy_229 : decode cX2_copy 229 = .ok (.putfield 129, 3) := dk_181 0 129 (dk_at dksX2_copy_9 16 rfl rfl)
theorem dX2_copy_232 : decode cX2_copy 232 = .ok (.aload_n 1, 1) := dk_43 (dk_at dksX2_copy_9 19 rfl rfl)
theorem dX2_copy_233 : decode cX2_copy 233 = .ok (.aload_n 0, 1) := dk_42 (dk_at dksX2_copy_9 20 rfl rfl)
theorem dX2_copy_234 : decode cX2_copy 234 = .ok (.getfield 132, 3) := dk_180 0 132 (dk_at dksX2_copy_9 21 rfl rfl)
theorem dX2_copy_237 : decode cX2_copy 237 = .ok (.putfield 132, 3) := dk_181 0 132 (dk_at dksX2_copy_10 0 rfl rfl)
theorem dX2_copy_240 : decode cX2_copy 240 = .ok (.aload_n 1, 1) := dk_43 (dk_at dksX2_copy_10 3 rfl rfl)
theorem dX2_copy_241 : decode cX2_copy 241 = .ok (.aload_n 0, 1) := dk_42 (dk_at dksX2_copy_10 4 rfl rfl)
theorem dX2_copy_242 : decode cX2_copy 242 = .ok (.getfield 135, 3) := dk_180 0 135 (dk_at dksX2_copy_10 5 rfl rfl)
theorem dX2_copy_245 : decode cX2_copy 245 = .ok (.putfield 135, 3) := dk_181 0 135 (dk_at dksX2_copy_10 8 rfl rfl)
theorem dX2_copy_248 : decode cX2_copy 248 = .ok (.aload_n 1, 1) := dk_43 (dk_at dksX2_copy_10 11 rfl rfl)
theorem dX2_copy_249 : decode cX2_copy 249 = .ok (.areturn, 1) := dk_176 (dk_at dksX2_copy_10 12 rfl rfl)
abbrev cX2_holdAt : ByteArray := prog_21_method_10_code
def yX2_holdAt : MethodName := ⟨RX2, "holdAt", "(II)I"⟩
def dkwX2_holdAt_2 : List UInt8 := [160, 0, 5, 29, 172, 132, 3, 1, 167, 255, 204, 2, 172]
abbrev dktX2_holdAt_2 : List UInt8 := dkwX2_holdAt_2 ++ []
def dkwX2_holdAt_1 : List UInt8 := [182, 0, 159, 27, 160, 0, 23, 42, 180, 0, 28, 29, 182, 0, 79, 192, 0, 80, 182, 0, 162, 28]
abbrev dktX2_holdAt_1 : List UInt8 := dkwX2_holdAt_1 ++ dktX2_holdAt_2
def dkwX2_holdAt_0 : List UInt8 := [3, 62, 29, 42, 180, 0, 28, 182, 0, 75, 162, 0, 47, 42, 180, 0, 28, 29, 182, 0, 79, 192, 0, 80]
abbrev dktX2_holdAt_0 : List UInt8 := dkwX2_holdAt_0 ++ dktX2_holdAt_1
theorem dksX2_holdAt_0 : cX2_holdAt.data.toList.drop 0 = dktX2_holdAt_0 := by decide +kernel
theorem dksX2_holdAt_1 : cX2_holdAt.data.toList.drop 24 = dktX2_holdAt_1 := dk_seg dksX2_holdAt_0 24 rfl rfl
theorem dksX2_holdAt_2 : cX2_holdAt.data.toList.drop 46 = dktX2_holdAt_2 := dk_seg dksX2_holdAt_1 22 rfl rfl
theorem dX2_holdAt_0 : decode cX2_holdAt 0 = .ok (.iconst 0, 1) := dk_3 (dk_at dksX2_holdAt_0 0 rfl rfl)
theorem dX2_holdAt_1 : decode cX2_holdAt 1 = .ok (.istore_n 3, 1) := dk_62 (dk_at dksX2_holdAt_0 1 rfl rfl)
theorem dX2_holdAt_2 : decode cX2_holdAt 2 = .ok (.iload_n 3, 1) := dk_29 (dk_at dksX2_holdAt_0 2 rfl rfl)
theorem dX2_holdAt_3 : decode cX2_holdAt 3 = .ok (.aload_n 0, 1) := dk_42 (dk_at dksX2_holdAt_0 3 rfl rfl)
theorem dX2_holdAt_4 : decode cX2_holdAt 4 = .ok (.getfield 28, 3) := dk_180 0 28 (dk_at dksX2_holdAt_0 4 rfl rfl)
theorem dX2_holdAt_7 : decode cX2_holdAt 7 = .ok (.invokevirtual 75, 3) := dk_182 0 75 (dk_at dksX2_holdAt_0 7 rfl rfl)
theorem dX2_holdAt_10 : decode cX2_holdAt 10 = .ok (.if_icmp .ge 47, 3) := dk_162 0 47 (dk_at dksX2_holdAt_0 10 rfl rfl)
theorem dX2_holdAt_13 : decode cX2_holdAt 13 = .ok (.aload_n 0, 1) := dk_42 (dk_at dksX2_holdAt_0 13 rfl rfl)
theorem dX2_holdAt_14 : decode cX2_holdAt 14 = .ok (.getfield 28, 3) := dk_180 0 28 (dk_at dksX2_holdAt_0 14 rfl rfl)
theorem dX2_holdAt_17 : decode cX2_holdAt 17 = .ok (.iload_n 3, 1) := dk_29 (dk_at dksX2_holdAt_0 17 rfl rfl)
theorem dX2_holdAt_18 : decode cX2_holdAt 18 = .ok (.invokevirtual 79, 3) := dk_182 0 79 (dk_at dksX2_holdAt_0 18 rfl rfl)
theorem dX2_holdAt_21 : decode cX2_holdAt 21 = .ok (.checkcast 80, 3) := dk_192 0 80 (dk_at dksX2_holdAt_0 21 rfl rfl)
theorem dX2_holdAt_24 : decode cX2_holdAt 24 = .ok (.invokevirtual 159, 3) := dk_182 0 159 (dk_at dksX2_holdAt_1 0 rfl rfl)
theorem dX2_holdAt_27 : decode cX2_holdAt 27 = .ok (.iload_n 1, 1) := dk_27 (dk_at dksX2_holdAt_1 3 rfl rfl)
theorem dX2_holdAt_28 : decode cX2_holdAt 28 = .ok (.if_icmp .ne 23, 3) := dk_160 0 23 (dk_at dksX2_holdAt_1 4 rfl rfl)
theorem dX2_holdAt_31 : decode cX2_holdAt 31 = .ok (.aload_n 0, 1) := dk_42 (dk_at dksX2_holdAt_1 7 rfl rfl)
theorem dX2_holdAt_32 : decode cX2_holdAt 32 = .ok (.getfield 28, 3) := dk_180 0 28 (dk_at dksX2_holdAt_1 8 rfl rfl)
theorem dX2_holdAt_35 : decode cX2_holdAt 35 = .ok (.iload_n 3, 1) := dk_29 (dk_at dksX2_holdAt_1 11 rfl rfl)
theorem dX2_holdAt_36 : decode cX2_holdAt 36 = .ok (.invokevirtual 79, 3) := dk_182 0 79 (dk_at dksX2_holdAt_1 12 rfl rfl)
theorem dX2_holdAt_39 : decode cX2_holdAt 39 = .ok (.checkcast 80, 3) := dk_192 0 80 (dk_at dksX2_holdAt_1 15 rfl rfl)
theorem dX2_holdAt_42 : decode cX2_holdAt 42 = .ok (.invokevirtual 162, 3) := dk_182 0 162 (dk_at dksX2_holdAt_1 18 rfl rfl)
theorem dX2_holdAt_45 : decode cX2_holdAt 45 = .ok (.iload_n 2, 1) := dk_28 (dk_at dksX2_holdAt_1 21 rfl rfl)
theorem dX2_holdAt_46 : decode cX2_holdAt 46 = .ok (.if_icmp .ne 5, 3) := dk_160 0 5 (dk_at dksX2_holdAt_2 0 rfl rfl)
theorem dX2_holdAt_49 : decode cX2_holdAt 49 = .ok (.iload_n 3, 1) := dk_29 (dk_at dksX2_holdAt_2 3 rfl rfl)
theorem dX2_holdAt_50 : decode cX2_holdAt 50 = .ok (.ireturn, 1) := dk_172 (dk_at dksX2_holdAt_2 4 rfl rfl)
theorem dX2_holdAt_51 : decode cX2_holdAt 51 = .ok (.iinc 3 1, 3) := dk_132 3 1 (dk_at dksX2_holdAt_2 5 rfl rfl)
theorem dX2_holdAt_54 : decode cX2_holdAt 54 = .ok (.goto (-52), 3) := dk_167 255 204 (dk_at dksX2_holdAt_2 8 rfl rfl)
theorem dX2_holdAt_57 : decode cX2_holdAt 57 = .ok (.iconst (-1), 1) := dk_2 (dk_at dksX2_holdAt_2 11 rfl rfl)
theorem dX2_holdAt_58 : decode cX2_holdAt 58 = .ok (.ireturn, 1) := dk_172 (dk_at dksX2_holdAt_2 12 rfl rfl)
abbrev cX2_isBright : ByteArray := prog_21_method_12_code
def yX2_isBright : MethodName := ⟨RX2, "isBright", "(LCrumblingWall$Hold;)Z"⟩
def dkwX2_isBright_3 : List UInt8 := [180, 0, 184, 163, 0, 7, 4, 167, 0, 4, 3, 61, 132, 3, 1, 167, 255, 189, 28, 172]
abbrev dktX2_isBright_3 : List UInt8 := dkwX2_isBright_3 ++ []
def dkwX2_isBright_2 : List UInt8 := [25, 4, 180, 0, 172, 153, 0, 29, 43, 42, 42, 25, 4, 182, 0, 176, 182, 0, 155, 182, 0, 180, 25, 4]
abbrev dktX2_isBright_2 : List UInt8 := dkwX2_isBright_2 ++ dktX2_isBright_3
def dkwX2_isBright_1 : List UInt8 := [182, 0, 75, 162, 0, 62, 28, 154, 0, 58, 42, 180, 0, 32, 29, 182, 0, 79, 192, 0, 89, 58, 4]
abbrev dktX2_isBright_1 : List UInt8 := dkwX2_isBright_1 ++ dktX2_isBright_2
def dkwX2_isBright_0 : List UInt8 := [43, 182, 0, 162, 42, 180, 0, 57, 162, 0, 7, 4, 167, 0, 4, 3, 61, 3, 62, 29, 42, 180, 0, 32]
abbrev dktX2_isBright_0 : List UInt8 := dkwX2_isBright_0 ++ dktX2_isBright_1
theorem dksX2_isBright_0 : cX2_isBright.data.toList.drop 0 = dktX2_isBright_0 := by decide +kernel
theorem dksX2_isBright_1 : cX2_isBright.data.toList.drop 24 = dktX2_isBright_1 := dk_seg dksX2_isBright_0 24 rfl rfl
theorem dksX2_isBright_2 : cX2_isBright.data.toList.drop 47 = dktX2_isBright_2 := dk_seg dksX2_isBright_1 23 rfl rfl
theorem dksX2_isBright_3 : cX2_isBright.data.toList.drop 71 = dktX2_isBright_3 := dk_seg dksX2_isBright_2 24 rfl rfl
theorem dX2_isBright_0 : decode cX2_isBright 0 = .ok (.aload_n 1, 1) := dk_43 (dk_at dksX2_isBright_0 0 rfl rfl)
theorem dX2_isBright_1 : decode cX2_isBright 1 = .ok (.invokevirtual 162, 3) := dk_182 0 162 (dk_at dksX2_isBright_0 1 rfl rfl)
theorem dX2_isBright_4 : decode cX2_isBright 4 = .ok (.aload_n 0, 1) := dk_42 (dk_at dksX2_isBright_0 4 rfl rfl)
theorem dX2_isBright_5 : decode cX2_isBright 5 = .ok (.getfield 57, 3) := dk_180 0 57 (dk_at dksX2_isBright_0 5 rfl rfl)
theorem dX2_isBright_8 : decode cX2_isBright 8 = .ok (.if_icmp .ge 7, 3) := dk_162 0 7 (dk_at dksX2_isBright_0 8 rfl rfl)
theorem dX2_isBright_11 : decode cX2_isBright 11 = .ok (.iconst 1, 1) := dk_4 (dk_at dksX2_isBright_0 11 rfl rfl)
theorem dX2_isBright_12 : decode cX2_isBright 12 = .ok (.goto 4, 3) := dk_167 0 4 (dk_at dksX2_isBright_0 12 rfl rfl)
theorem dX2_isBright_15 : decode cX2_isBright 15 = .ok (.iconst 0, 1) := dk_3 (dk_at dksX2_isBright_0 15 rfl rfl)
theorem dX2_isBright_16 : decode cX2_isBright 16 = .ok (.istore_n 2, 1) := dk_61 (dk_at dksX2_isBright_0 16 rfl rfl)
theorem dX2_isBright_17 : decode cX2_isBright 17 = .ok (.iconst 0, 1) := dk_3 (dk_at dksX2_isBright_0 17 rfl rfl)
theorem dX2_isBright_18 : decode cX2_isBright 18 = .ok (.istore_n 3, 1) := dk_62 (dk_at dksX2_isBright_0 18 rfl rfl)
theorem dX2_isBright_19 : decode cX2_isBright 19 = .ok (.iload_n 3, 1) := dk_29 (dk_at dksX2_isBright_0 19 rfl rfl)
theorem dX2_isBright_20 : decode cX2_isBright 20 = .ok (.aload_n 0, 1) := dk_42 (dk_at dksX2_isBright_0 20 rfl rfl)
theorem dX2_isBright_21 : decode cX2_isBright 21 = .ok (.getfield 32, 3) := dk_180 0 32 (dk_at dksX2_isBright_0 21 rfl rfl)
theorem dX2_isBright_24 : decode cX2_isBright 24 = .ok (.invokevirtual 75, 3) := dk_182 0 75 (dk_at dksX2_isBright_1 0 rfl rfl)
theorem dX2_isBright_27 : decode cX2_isBright 27 = .ok (.if_icmp .ge 62, 3) := dk_162 0 62 (dk_at dksX2_isBright_1 3 rfl rfl)
theorem dX2_isBright_30 : decode cX2_isBright 30 = .ok (.iload_n 2, 1) := dk_28 (dk_at dksX2_isBright_1 6 rfl rfl)
theorem dX2_isBright_31 : decode cX2_isBright 31 = .ok (.ifCond .ne 58, 3) := dk_154 0 58 (dk_at dksX2_isBright_1 7 rfl rfl)
theorem dX2_isBright_34 : decode cX2_isBright 34 = .ok (.aload_n 0, 1) := dk_42 (dk_at dksX2_isBright_1 10 rfl rfl)
theorem dX2_isBright_35 : decode cX2_isBright 35 = .ok (.getfield 32, 3) := dk_180 0 32 (dk_at dksX2_isBright_1 11 rfl rfl)
theorem dX2_isBright_38 : decode cX2_isBright 38 = .ok (.iload_n 3, 1) := dk_29 (dk_at dksX2_isBright_1 14 rfl rfl)
theorem dX2_isBright_39 : decode cX2_isBright 39 = .ok (.invokevirtual 79, 3) := dk_182 0 79 (dk_at dksX2_isBright_1 15 rfl rfl)
theorem dX2_isBright_42 : decode cX2_isBright 42 = .ok (.checkcast 89, 3) := dk_192 0 89 (dk_at dksX2_isBright_1 18 rfl rfl)
theorem dX2_isBright_45 : decode cX2_isBright 45 = .ok (.astore 4, 2) := dk_58 4 (dk_at dksX2_isBright_1 21 rfl rfl)
theorem dX2_isBright_47 : decode cX2_isBright 47 = .ok (.aload 4, 2) := dk_25 4 (dk_at dksX2_isBright_2 0 rfl rfl)
theorem dX2_isBright_49 : decode cX2_isBright 49 = .ok (.getfield 172, 3) := dk_180 0 172 (dk_at dksX2_isBright_2 2 rfl rfl)
theorem dX2_isBright_52 : decode cX2_isBright 52 = .ok (.ifCond .eq 29, 3) := dk_153 0 29 (dk_at dksX2_isBright_2 5 rfl rfl)
theorem dX2_isBright_55 : decode cX2_isBright 55 = .ok (.aload_n 1, 1) := dk_43 (dk_at dksX2_isBright_2 8 rfl rfl)
theorem dX2_isBright_56 : decode cX2_isBright 56 = .ok (.aload_n 0, 1) := dk_42 (dk_at dksX2_isBright_2 9 rfl rfl)
theorem dX2_isBright_57 : decode cX2_isBright 57 = .ok (.aload_n 0, 1) := dk_42 (dk_at dksX2_isBright_2 10 rfl rfl)
theorem dX2_isBright_58 : decode cX2_isBright 58 = .ok (.aload 4, 2) := dk_25 4 (dk_at dksX2_isBright_2 11 rfl rfl)
theorem dX2_isBright_60 : decode cX2_isBright 60 = .ok (.invokevirtual 176, 3) := dk_182 0 176 (dk_at dksX2_isBright_2 13 rfl rfl)
theorem dX2_isBright_63 : decode cX2_isBright 63 = .ok (.invokevirtual 155, 3) := dk_182 0 155 (dk_at dksX2_isBright_2 16 rfl rfl)
theorem dX2_isBright_66 : decode cX2_isBright 66 = .ok (.invokevirtual 180, 3) := dk_182 0 180 (dk_at dksX2_isBright_2 19 rfl rfl)
theorem dX2_isBright_69 : decode cX2_isBright 69 = .ok (.aload 4, 2) := dk_25 4 (dk_at dksX2_isBright_2 22 rfl rfl)
theorem dX2_isBright_71 : decode cX2_isBright 71 = .ok (.getfield 184, 3) := dk_180 0 184 (dk_at dksX2_isBright_3 0 rfl rfl)
theorem dX2_isBright_74 : decode cX2_isBright 74 = .ok (.if_icmp .gt 7, 3) := dk_163 0 7 (dk_at dksX2_isBright_3 3 rfl rfl)
theorem dX2_isBright_77 : decode cX2_isBright 77 = .ok (.iconst 1, 1) := dk_4 (dk_at dksX2_isBright_3 6 rfl rfl)
theorem dX2_isBright_78 : decode cX2_isBright 78 = .ok (.goto 4, 3) := dk_167 0 4 (dk_at dksX2_isBright_3 7 rfl rfl)
theorem dX2_isBright_81 : decode cX2_isBright 81 = .ok (.iconst 0, 1) := dk_3 (dk_at dksX2_isBright_3 10 rfl rfl)
theorem dX2_isBright_82 : decode cX2_isBright 82 = .ok (.istore_n 2, 1) := dk_61 (dk_at dksX2_isBright_3 11 rfl rfl)
theorem dX2_isBright_83 : decode cX2_isBright 83 = .ok (.iinc 3 1, 3) := dk_132 3 1 (dk_at dksX2_isBright_3 12 rfl rfl)
theorem dX2_isBright_86 : decode cX2_isBright 86 = .ok (.goto (-67), 3) := dk_167 255 189 (dk_at dksX2_isBright_3 15 rfl rfl)
theorem dX2_isBright_89 : decode cX2_isBright 89 = .ok (.iload_n 2, 1) := dk_28 (dk_at dksX2_isBright_3 18 rfl rfl)
theorem dX2_isBright_90 : decode cX2_isBright 90 = .ok (.ireturn, 1) := dk_172 (dk_at dksX2_isBright_3 19 rfl rfl)
abbrev cX2_placeOf : ByteArray := prog_21_method_11_code
def yX2_placeOf : MethodName := ⟨RX2, "placeOf", "(LCrumblingWall$Lamp;)I"⟩
def dkwX2_placeOf_1 : List UInt8 := [180, 0, 171, 172]
abbrev dktX2_placeOf_1 : List UInt8 := dkwX2_placeOf_1 ++ []
def dkwX2_placeOf_0 : List UInt8 := [43, 182, 0, 165, 153, 0, 17, 42, 43, 180, 0, 168, 182, 0, 148, 180, 0, 152, 167, 0, 7, 43]
abbrev dktX2_placeOf_0 : List UInt8 := dkwX2_placeOf_0 ++ dktX2_placeOf_1
theorem dksX2_placeOf_0 : cX2_placeOf.data.toList.drop 0 = dktX2_placeOf_0 := by decide +kernel
theorem dksX2_placeOf_1 : cX2_placeOf.data.toList.drop 22 = dktX2_placeOf_1 := dk_seg dksX2_placeOf_0 22 rfl rfl
theorem dX2_placeOf_0 : decode cX2_placeOf 0 = .ok (.aload_n 1, 1) := dk_43 (dk_at dksX2_placeOf_0 0 rfl rfl)
theorem dX2_placeOf_1 : decode cX2_placeOf 1 = .ok (.invokevirtual 165, 3) := dk_182 0 165 (dk_at dksX2_placeOf_0 1 rfl rfl)
theorem dX2_placeOf_4 : decode cX2_placeOf 4 = .ok (.ifCond .eq 17, 3) := dk_153 0 17 (dk_at dksX2_placeOf_0 4 rfl rfl)
theorem dX2_placeOf_7 : decode cX2_placeOf 7 = .ok (.aload_n 0, 1) := dk_42 (dk_at dksX2_placeOf_0 7 rfl rfl)
theorem dX2_placeOf_8 : decode cX2_placeOf 8 = .ok (.aload_n 1, 1) := dk_43 (dk_at dksX2_placeOf_0 8 rfl rfl)
theorem dX2_placeOf_9 : decode cX2_placeOf 9 = .ok (.getfield 168, 3) := dk_180 0 168 (dk_at dksX2_placeOf_0 9 rfl rfl)
theorem dX2_placeOf_12 : decode cX2_placeOf 12 = .ok (.invokevirtual 148, 3) := dk_182 0 148 (dk_at dksX2_placeOf_0 12 rfl rfl)
theorem dX2_placeOf_15 : decode cX2_placeOf 15 = .ok (.getfield 152, 3) := dk_180 0 152 (dk_at dksX2_placeOf_0 15 rfl rfl)
theorem dX2_placeOf_18 : decode cX2_placeOf 18 = .ok (.goto 7, 3) := dk_167 0 7 (dk_at dksX2_placeOf_0 18 rfl rfl)
theorem dX2_placeOf_21 : decode cX2_placeOf 21 = .ok (.aload_n 1, 1) := dk_43 (dk_at dksX2_placeOf_0 21 rfl rfl)
theorem dX2_placeOf_22 : decode cX2_placeOf 22 = .ok (.getfield 171, 3) := dk_180 0 171 (dk_at dksX2_placeOf_1 0 rfl rfl)
theorem dX2_placeOf_25 : decode cX2_placeOf 25 = .ok (.ireturn, 1) := dk_172 (dk_at dksX2_placeOf_1 3 rfl rfl)
abbrev cX2_thereAt : ByteArray := prog_21_method_16_code
def yX2_thereAt : MethodName := ⟨RX2, "thereAt", "(I)I"⟩
def dkwX2_thereAt_1 : List UInt8 := [180, 0, 152, 27, 160, 0, 7, 5, 167, 0, 4, 3, 96, 172]
abbrev dktX2_thereAt_1 : List UInt8 := dkwX2_thereAt_1 ++ []
def dkwX2_thereAt_0 : List UInt8 := [42, 3, 182, 0, 148, 180, 0, 152, 27, 160, 0, 7, 4, 167, 0, 4, 3, 42, 4, 182, 0, 148]
abbrev dktX2_thereAt_0 : List UInt8 := dkwX2_thereAt_0 ++ dktX2_thereAt_1
theorem dksX2_thereAt_0 : cX2_thereAt.data.toList.drop 0 = dktX2_thereAt_0 := by decide +kernel
theorem dksX2_thereAt_1 : cX2_thereAt.data.toList.drop 22 = dktX2_thereAt_1 := dk_seg dksX2_thereAt_0 22 rfl rfl
theorem dX2_thereAt_0 : decode cX2_thereAt 0 = .ok (.aload_n 0, 1) := dk_42 (dk_at dksX2_thereAt_0 0 rfl rfl)
theorem dX2_thereAt_1 : decode cX2_thereAt 1 = .ok (.iconst 0, 1) := dk_3 (dk_at dksX2_thereAt_0 1 rfl rfl)
theorem dX2_thereAt_2 : decode cX2_thereAt 2 = .ok (.invokevirtual 148, 3) := dk_182 0 148 (dk_at dksX2_thereAt_0 2 rfl rfl)
theorem dX2_thereAt_5 : decode cX2_thereAt 5 = .ok (.getfield 152, 3) := dk_180 0 152 (dk_at dksX2_thereAt_0 5 rfl rfl)
theorem dX2_thereAt_8 : decode cX2_thereAt 8 = .ok (.iload_n 1, 1) := dk_27 (dk_at dksX2_thereAt_0 8 rfl rfl)
theorem dX2_thereAt_9 : decode cX2_thereAt 9 = .ok (.if_icmp .ne 7, 3) := dk_160 0 7 (dk_at dksX2_thereAt_0 9 rfl rfl)
theorem dX2_thereAt_12 : decode cX2_thereAt 12 = .ok (.iconst 1, 1) := dk_4 (dk_at dksX2_thereAt_0 12 rfl rfl)
theorem dX2_thereAt_13 : decode cX2_thereAt 13 = .ok (.goto 4, 3) := dk_167 0 4 (dk_at dksX2_thereAt_0 13 rfl rfl)
theorem dX2_thereAt_16 : decode cX2_thereAt 16 = .ok (.iconst 0, 1) := dk_3 (dk_at dksX2_thereAt_0 16 rfl rfl)
theorem dX2_thereAt_17 : decode cX2_thereAt 17 = .ok (.aload_n 0, 1) := dk_42 (dk_at dksX2_thereAt_0 17 rfl rfl)
theorem dX2_thereAt_18 : decode cX2_thereAt 18 = .ok (.iconst 1, 1) := dk_4 (dk_at dksX2_thereAt_0 18 rfl rfl)
theorem dX2_thereAt_19 : decode cX2_thereAt 19 = .ok (.invokevirtual 148, 3) := dk_182 0 148 (dk_at dksX2_thereAt_0 19 rfl rfl)
theorem dX2_thereAt_22 : decode cX2_thereAt 22 = .ok (.getfield 152, 3) := dk_180 0 152 (dk_at dksX2_thereAt_1 0 rfl rfl)
theorem dX2_thereAt_25 : decode cX2_thereAt 25 = .ok (.iload_n 1, 1) := dk_27 (dk_at dksX2_thereAt_1 3 rfl rfl)
theorem dX2_thereAt_26 : decode cX2_thereAt 26 = .ok (.if_icmp .ne 7, 3) := dk_160 0 7 (dk_at dksX2_thereAt_1 4 rfl rfl)
theorem dX2_thereAt_29 : decode cX2_thereAt 29 = .ok (.iconst 2, 1) := dk_5 (dk_at dksX2_thereAt_1 7 rfl rfl)
theorem dX2_thereAt_30 : decode cX2_thereAt 30 = .ok (.goto 4, 3) := dk_167 0 4 (dk_at dksX2_thereAt_1 8 rfl rfl)
theorem dX2_thereAt_33 : decode cX2_thereAt 33 = .ok (.iconst 0, 1) := dk_3 (dk_at dksX2_thereAt_1 11 rfl rfl)
theorem dX2_thereAt_34 : decode cX2_thereAt 34 = .ok (.iadd, 1) := dk_96 (dk_at dksX2_thereAt_1 12 rfl rfl)
theorem dX2_thereAt_35 : decode cX2_thereAt 35 = .ok (.ireturn, 1) := dk_172 (dk_at dksX2_thereAt_1 13 rfl rfl)
abbrev cX2_lyingAt : ByteArray := prog_21_method_15_code
def yX2_lyingAt : MethodName := ⟨RX2, "lyingAt", "(I)I"⟩
def dkwX2_lyingAt_2 : List UInt8 := [160, 0, 9, 4, 29, 120, 167, 0, 4, 3, 128, 61, 132, 3, 1, 167, 255, 197, 28, 172]
abbrev dktX2_lyingAt_2 : List UInt8 := dkwX2_lyingAt_2 ++ []
def dkwX2_lyingAt_1 : List UInt8 := [192, 0, 89, 182, 0, 165, 154, 0, 27, 42, 180, 0, 32, 29, 182, 0, 79, 192, 0, 89, 180, 0, 171, 27]
abbrev dktX2_lyingAt_1 : List UInt8 := dkwX2_lyingAt_1 ++ dktX2_lyingAt_2
def dkwX2_lyingAt_0 : List UInt8 := [3, 61, 3, 62, 29, 42, 180, 0, 32, 182, 0, 75, 162, 0, 54, 28, 42, 180, 0, 32, 29, 182, 0, 79]
abbrev dktX2_lyingAt_0 : List UInt8 := dkwX2_lyingAt_0 ++ dktX2_lyingAt_1
theorem dksX2_lyingAt_0 : cX2_lyingAt.data.toList.drop 0 = dktX2_lyingAt_0 := by decide +kernel
theorem dksX2_lyingAt_1 : cX2_lyingAt.data.toList.drop 24 = dktX2_lyingAt_1 := dk_seg dksX2_lyingAt_0 24 rfl rfl
theorem dksX2_lyingAt_2 : cX2_lyingAt.data.toList.drop 48 = dktX2_lyingAt_2 := dk_seg dksX2_lyingAt_1 24 rfl rfl
theorem dX2_lyingAt_0 : decode cX2_lyingAt 0 = .ok (.iconst 0, 1) := dk_3 (dk_at dksX2_lyingAt_0 0 rfl rfl)
theorem dX2_lyingAt_1 : decode cX2_lyingAt 1 = .ok (.istore_n 2, 1) := dk_61 (dk_at dksX2_lyingAt_0 1 rfl rfl)
theorem dX2_lyingAt_2 : decode cX2_lyingAt 2 = .ok (.iconst 0, 1) := dk_3 (dk_at dksX2_lyingAt_0 2 rfl rfl)
theorem dX2_lyingAt_3 : decode cX2_lyingAt 3 = .ok (.istore_n 3, 1) := dk_62 (dk_at dksX2_lyingAt_0 3 rfl rfl)
theorem dX2_lyingAt_4 : decode cX2_lyingAt 4 = .ok (.iload_n 3, 1) := dk_29 (dk_at dksX2_lyingAt_0 4 rfl rfl)
theorem dX2_lyingAt_5 : decode cX2_lyingAt 5 = .ok (.aload_n 0, 1) := dk_42 (dk_at dksX2_lyingAt_0 5 rfl rfl)
theorem dX2_lyingAt_6 : decode cX2_lyingAt 6 = .ok (.getfield 32, 3) := dk_180 0 32 (dk_at dksX2_lyingAt_0 6 rfl rfl)
theorem dX2_lyingAt_9 : decode cX2_lyingAt 9 = .ok (.invokevirtual 75, 3) := dk_182 0 75 (dk_at dksX2_lyingAt_0 9 rfl rfl)
theorem dX2_lyingAt_12 : decode cX2_lyingAt 12 = .ok (.if_icmp .ge 54, 3) := dk_162 0 54 (dk_at dksX2_lyingAt_0 12 rfl rfl)
theorem dX2_lyingAt_15 : decode cX2_lyingAt 15 = .ok (.iload_n 2, 1) := dk_28 (dk_at dksX2_lyingAt_0 15 rfl rfl)
theorem dX2_lyingAt_16 : decode cX2_lyingAt 16 = .ok (.aload_n 0, 1) := dk_42 (dk_at dksX2_lyingAt_0 16 rfl rfl)
theorem dX2_lyingAt_17 : decode cX2_lyingAt 17 = .ok (.getfield 32, 3) := dk_180 0 32 (dk_at dksX2_lyingAt_0 17 rfl rfl)
theorem dX2_lyingAt_20 : decode cX2_lyingAt 20 = .ok (.iload_n 3, 1) := dk_29 (dk_at dksX2_lyingAt_0 20 rfl rfl)
theorem dX2_lyingAt_21 : decode cX2_lyingAt 21 = .ok (.invokevirtual 79, 3) := dk_182 0 79 (dk_at dksX2_lyingAt_0 21 rfl rfl)
theorem dX2_lyingAt_24 : decode cX2_lyingAt 24 = .ok (.checkcast 89, 3) := dk_192 0 89 (dk_at dksX2_lyingAt_1 0 rfl rfl)
theorem dX2_lyingAt_27 : decode cX2_lyingAt 27 = .ok (.invokevirtual 165, 3) := dk_182 0 165 (dk_at dksX2_lyingAt_1 3 rfl rfl)
theorem dX2_lyingAt_30 : decode cX2_lyingAt 30 = .ok (.ifCond .ne 27, 3) := dk_154 0 27 (dk_at dksX2_lyingAt_1 6 rfl rfl)
theorem dX2_lyingAt_33 : decode cX2_lyingAt 33 = .ok (.aload_n 0, 1) := dk_42 (dk_at dksX2_lyingAt_1 9 rfl rfl)
theorem dX2_lyingAt_34 : decode cX2_lyingAt 34 = .ok (.getfield 32, 3) := dk_180 0 32 (dk_at dksX2_lyingAt_1 10 rfl rfl)
theorem dX2_lyingAt_37 : decode cX2_lyingAt 37 = .ok (.iload_n 3, 1) := dk_29 (dk_at dksX2_lyingAt_1 13 rfl rfl)
theorem dX2_lyingAt_38 : decode cX2_lyingAt 38 = .ok (.invokevirtual 79, 3) := dk_182 0 79 (dk_at dksX2_lyingAt_1 14 rfl rfl)
theorem dX2_lyingAt_41 : decode cX2_lyingAt 41 = .ok (.checkcast 89, 3) := dk_192 0 89 (dk_at dksX2_lyingAt_1 17 rfl rfl)
theorem dX2_lyingAt_44 : decode cX2_lyingAt 44 = .ok (.getfield 171, 3) := dk_180 0 171 (dk_at dksX2_lyingAt_1 20 rfl rfl)
theorem dX2_lyingAt_47 : decode cX2_lyingAt 47 = .ok (.iload_n 1, 1) := dk_27 (dk_at dksX2_lyingAt_1 23 rfl rfl)
theorem dX2_lyingAt_48 : decode cX2_lyingAt 48 = .ok (.if_icmp .ne 9, 3) := dk_160 0 9 (dk_at dksX2_lyingAt_2 0 rfl rfl)
theorem dX2_lyingAt_51 : decode cX2_lyingAt 51 = .ok (.iconst 1, 1) := dk_4 (dk_at dksX2_lyingAt_2 3 rfl rfl)
theorem dX2_lyingAt_52 : decode cX2_lyingAt 52 = .ok (.iload_n 3, 1) := dk_29 (dk_at dksX2_lyingAt_2 4 rfl rfl)
theorem dX2_lyingAt_53 : decode cX2_lyingAt 53 = .ok (.ishl, 1) := dk_120 (dk_at dksX2_lyingAt_2 5 rfl rfl)
theorem dX2_lyingAt_54 : decode cX2_lyingAt 54 = .ok (.goto 4, 3) := dk_167 0 4 (dk_at dksX2_lyingAt_2 6 rfl rfl)
theorem dX2_lyingAt_57 : decode cX2_lyingAt 57 = .ok (.iconst 0, 1) := dk_3 (dk_at dksX2_lyingAt_2 9 rfl rfl)
theorem dX2_lyingAt_58 : decode cX2_lyingAt 58 = .ok (.ior, 1) := dk_128 (dk_at dksX2_lyingAt_2 10 rfl rfl)
theorem dX2_lyingAt_59 : decode cX2_lyingAt 59 = .ok (.istore_n 2, 1) := dk_61 (dk_at dksX2_lyingAt_2 11 rfl rfl)
theorem dX2_lyingAt_60 : decode cX2_lyingAt 60 = .ok (.iinc 3 1, 3) := dk_132 3 1 (dk_at dksX2_lyingAt_2 12 rfl rfl)
theorem dX2_lyingAt_63 : decode cX2_lyingAt 63 = .ok (.goto (-59), 3) := dk_167 255 197 (dk_at dksX2_lyingAt_2 15 rfl rfl)
theorem dX2_lyingAt_66 : decode cX2_lyingAt 66 = .ok (.iload_n 2, 1) := dk_28 (dk_at dksX2_lyingAt_2 18 rfl rfl)
theorem dX2_lyingAt_67 : decode cX2_lyingAt 67 = .ok (.ireturn, 1) := dk_172 (dk_at dksX2_lyingAt_2 19 rfl rfl)
abbrev cX2_anchorsAt : ByteArray := prog_21_method_24_code
def yX2_anchorsAt : MethodName := ⟨RX2, "anchorsAt", "(I)I"⟩
def dkwX2_anchorsAt_2 : List UInt8 := [3, 96, 61, 167, 255, 219, 28, 172]
abbrev dktX2_anchorsAt_2 : List UInt8 := dkwX2_anchorsAt_2 ++ []
def dkwX2_anchorsAt_1 : List UInt8 := [185, 0, 104, 1, 0, 192, 0, 108, 182, 0, 197, 54, 4, 28, 21, 4, 27, 160, 0, 7, 4, 167, 0, 4]
abbrev dktX2_anchorsAt_1 : List UInt8 := dkwX2_anchorsAt_1 ++ dktX2_anchorsAt_2
def dkwX2_anchorsAt_0 : List UInt8 := [3, 61, 42, 180, 0, 38, 182, 0, 94, 78, 45, 185, 0, 98, 1, 0, 153, 0, 34, 45]
abbrev dktX2_anchorsAt_0 : List UInt8 := dkwX2_anchorsAt_0 ++ dktX2_anchorsAt_1
theorem dksX2_anchorsAt_0 : cX2_anchorsAt.data.toList.drop 0 = dktX2_anchorsAt_0 := by decide +kernel
theorem dksX2_anchorsAt_1 : cX2_anchorsAt.data.toList.drop 20 = dktX2_anchorsAt_1 := dk_seg dksX2_anchorsAt_0 20 rfl rfl
theorem dksX2_anchorsAt_2 : cX2_anchorsAt.data.toList.drop 44 = dktX2_anchorsAt_2 := dk_seg dksX2_anchorsAt_1 24 rfl rfl
theorem dX2_anchorsAt_0 : decode cX2_anchorsAt 0 = .ok (.iconst 0, 1) := dk_3 (dk_at dksX2_anchorsAt_0 0 rfl rfl)
theorem dX2_anchorsAt_1 : decode cX2_anchorsAt 1 = .ok (.istore_n 2, 1) := dk_61 (dk_at dksX2_anchorsAt_0 1 rfl rfl)
theorem dX2_anchorsAt_2 : decode cX2_anchorsAt 2 = .ok (.aload_n 0, 1) := dk_42 (dk_at dksX2_anchorsAt_0 2 rfl rfl)
theorem dX2_anchorsAt_3 : decode cX2_anchorsAt 3 = .ok (.getfield 38, 3) := dk_180 0 38 (dk_at dksX2_anchorsAt_0 3 rfl rfl)
theorem dX2_anchorsAt_6 : decode cX2_anchorsAt 6 = .ok (.invokevirtual 94, 3) := dk_182 0 94 (dk_at dksX2_anchorsAt_0 6 rfl rfl)
theorem dX2_anchorsAt_9 : decode cX2_anchorsAt 9 = .ok (.astore_n 3, 1) := dk_78 (dk_at dksX2_anchorsAt_0 9 rfl rfl)
theorem dX2_anchorsAt_10 : decode cX2_anchorsAt 10 = .ok (.aload_n 3, 1) := dk_45 (dk_at dksX2_anchorsAt_0 10 rfl rfl)
theorem dX2_anchorsAt_11 : decode cX2_anchorsAt 11 = .ok (.invokeinterface 98 1, 5) := by decide +kernel
theorem dX2_anchorsAt_16 : decode cX2_anchorsAt 16 = .ok (.ifCond .eq 34, 3) := dk_153 0 34 (dk_at dksX2_anchorsAt_0 16 rfl rfl)
theorem dX2_anchorsAt_19 : decode cX2_anchorsAt 19 = .ok (.aload_n 3, 1) := dk_45 (dk_at dksX2_anchorsAt_0 19 rfl rfl)
theorem dX2_anchorsAt_20 : decode cX2_anchorsAt 20 = .ok (.invokeinterface 104 1, 5) := by decide +kernel
theorem dX2_anchorsAt_25 : decode cX2_anchorsAt 25 = .ok (.checkcast 108, 3) := dk_192 0 108 (dk_at dksX2_anchorsAt_1 5 rfl rfl)
theorem dX2_anchorsAt_28 : decode cX2_anchorsAt 28 = .ok (.invokevirtual 197, 3) := dk_182 0 197 (dk_at dksX2_anchorsAt_1 8 rfl rfl)
theorem dX2_anchorsAt_31 : decode cX2_anchorsAt 31 = .ok (.istore 4, 2) := dk_54 4 (dk_at dksX2_anchorsAt_1 11 rfl rfl)
theorem dX2_anchorsAt_33 : decode cX2_anchorsAt 33 = .ok (.iload_n 2, 1) := dk_28 (dk_at dksX2_anchorsAt_1 13 rfl rfl)
theorem dX2_anchorsAt_34 : decode cX2_anchorsAt 34 = .ok (.iload 4, 2) := dk_21 4 (dk_at dksX2_anchorsAt_1 14 rfl rfl)
theorem dX2_anchorsAt_36 : decode cX2_anchorsAt 36 = .ok (.iload_n 1, 1) := dk_27 (dk_at dksX2_anchorsAt_1 16 rfl rfl)
theorem dX2_anchorsAt_37 : decode cX2_anchorsAt 37 = .ok (.if_icmp .ne 7, 3) := dk_160 0 7 (dk_at dksX2_anchorsAt_1 17 rfl rfl)
theorem dX2_anchorsAt_40 : decode cX2_anchorsAt 40 = .ok (.iconst 1, 1) := dk_4 (dk_at dksX2_anchorsAt_1 20 rfl rfl)
theorem dX2_anchorsAt_41 : decode cX2_anchorsAt 41 = .ok (.goto 4, 3) := dk_167 0 4 (dk_at dksX2_anchorsAt_1 21 rfl rfl)
theorem dX2_anchorsAt_44 : decode cX2_anchorsAt 44 = .ok (.iconst 0, 1) := dk_3 (dk_at dksX2_anchorsAt_2 0 rfl rfl)
theorem dX2_anchorsAt_45 : decode cX2_anchorsAt 45 = .ok (.iadd, 1) := dk_96 (dk_at dksX2_anchorsAt_2 1 rfl rfl)
theorem dX2_anchorsAt_46 : decode cX2_anchorsAt 46 = .ok (.istore_n 2, 1) := dk_61 (dk_at dksX2_anchorsAt_2 2 rfl rfl)
theorem dX2_anchorsAt_47 : decode cX2_anchorsAt 47 = .ok (.goto (-37), 3) := dk_167 255 219 (dk_at dksX2_anchorsAt_2 3 rfl rfl)
theorem dX2_anchorsAt_50 : decode cX2_anchorsAt 50 = .ok (.iload_n 2, 1) := dk_28 (dk_at dksX2_anchorsAt_2 6 rfl rfl)
theorem dX2_anchorsAt_51 : decode cX2_anchorsAt 51 = .ok (.ireturn, 1) := dk_172 (dk_at dksX2_anchorsAt_2 7 rfl rfl)
abbrev cX2_isPlace : ByteArray := prog_21_method_5_code
def yX2_isPlace : MethodName := ⟨RX2, "isPlace", "(I)Z"⟩
def dkwX2_isPlace_0 : List UInt8 := [27, 2, 159, 0, 11, 42, 27, 182, 0, 142, 153, 0, 7, 4, 167, 0, 4, 3, 172]
abbrev dktX2_isPlace_0 : List UInt8 := dkwX2_isPlace_0 ++ []
theorem dksX2_isPlace_0 : cX2_isPlace.data.toList.drop 0 = dktX2_isPlace_0 := by decide +kernel
theorem dX2_isPlace_0 : decode cX2_isPlace 0 = .ok (.iload_n 1, 1) := dk_27 (dk_at dksX2_isPlace_0 0 rfl rfl)
theorem dX2_isPlace_1 : decode cX2_isPlace 1 = .ok (.iconst (-1), 1) := dk_2 (dk_at dksX2_isPlace_0 1 rfl rfl)
theorem dX2_isPlace_2 : decode cX2_isPlace 2 = .ok (.if_icmp .eq 11, 3) := dk_159 0 11 (dk_at dksX2_isPlace_0 2 rfl rfl)
theorem dX2_isPlace_5 : decode cX2_isPlace 5 = .ok (.aload_n 0, 1) := dk_42 (dk_at dksX2_isPlace_0 5 rfl rfl)
theorem dX2_isPlace_6 : decode cX2_isPlace 6 = .ok (.iload_n 1, 1) := dk_27 (dk_at dksX2_isPlace_0 6 rfl rfl)
theorem dX2_isPlace_7 : decode cX2_isPlace 7 = .ok (.invokevirtual 142, 3) := dk_182 0 142 (dk_at dksX2_isPlace_0 7 rfl rfl)
theorem dX2_isPlace_10 : decode cX2_isPlace 10 = .ok (.ifCond .eq 7, 3) := dk_153 0 7 (dk_at dksX2_isPlace_0 10 rfl rfl)
theorem dX2_isPlace_13 : decode cX2_isPlace 13 = .ok (.iconst 1, 1) := dk_4 (dk_at dksX2_isPlace_0 13 rfl rfl)
theorem dX2_isPlace_14 : decode cX2_isPlace 14 = .ok (.goto 4, 3) := dk_167 0 4 (dk_at dksX2_isPlace_0 14 rfl rfl)
theorem dX2_isPlace_17 : decode cX2_isPlace 17 = .ok (.iconst 0, 1) := dk_3 (dk_at dksX2_isPlace_0 17 rfl rfl)
theorem dX2_isPlace_18 : decode cX2_isPlace 18 = .ok (.ireturn, 1) := dk_172 (dk_at dksX2_isPlace_0 18 rfl rfl)
abbrev cX2_isLamp : ByteArray := prog_21_method_6_code
def yX2_isLamp : MethodName := ⟨RX2, "isLamp", "(I)Z"⟩
def dkwX2_isLamp_0 : List UInt8 := [27, 3, 42, 180, 0, 32, 182, 0, 75, 4, 100, 184, 0, 138, 172]
abbrev dktX2_isLamp_0 : List UInt8 := dkwX2_isLamp_0 ++ []
theorem dksX2_isLamp_0 : cX2_isLamp.data.toList.drop 0 = dktX2_isLamp_0 := by decide +kernel
theorem dX2_isLamp_0 : decode cX2_isLamp 0 = .ok (.iload_n 1, 1) := dk_27 (dk_at dksX2_isLamp_0 0 rfl rfl)
theorem dX2_isLamp_1 : decode cX2_isLamp 1 = .ok (.iconst 0, 1) := dk_3 (dk_at dksX2_isLamp_0 1 rfl rfl)
theorem dX2_isLamp_2 : decode cX2_isLamp 2 = .ok (.aload_n 0, 1) := dk_42 (dk_at dksX2_isLamp_0 2 rfl rfl)
theorem dX2_isLamp_3 : decode cX2_isLamp 3 = .ok (.getfield 32, 3) := dk_180 0 32 (dk_at dksX2_isLamp_0 3 rfl rfl)
theorem dX2_isLamp_6 : decode cX2_isLamp 6 = .ok (.invokevirtual 75, 3) := dk_182 0 75 (dk_at dksX2_isLamp_0 6 rfl rfl)
theorem dX2_isLamp_9 : decode cX2_isLamp 9 = .ok (.iconst 1, 1) := dk_4 (dk_at dksX2_isLamp_0 9 rfl rfl)
theorem dX2_isLamp_10 : decode cX2_isLamp 10 = .ok (.isub, 1) := dk_100 (dk_at dksX2_isLamp_0 10 rfl rfl)
theorem dX2_isLamp_11 : decode cX2_isLamp 11 = .ok (.invokestatic 138, 3) := dk_184 0 138 (dk_at dksX2_isLamp_0 11 rfl rfl)
theorem dX2_isLamp_14 : decode cX2_isLamp 14 = .ok (.ireturn, 1) := dk_172 (dk_at dksX2_isLamp_0 14 rfl rfl)
abbrev cX2_carriedBy : ByteArray := prog_21_method_14_code
def yX2_carriedBy : MethodName := ⟨RX2, "carriedBy", "(I)I"⟩
def dkwX2_carriedBy_2 : List UInt8 := [167, 255, 214, 28, 172]
abbrev dktX2_carriedBy_2 : List UInt8 := dkwX2_carriedBy_2 ++ []
def dkwX2_carriedBy_1 : List UInt8 := [192, 0, 89, 180, 0, 168, 27, 160, 0, 9, 4, 29, 120, 167, 0, 4, 3, 128, 61, 132, 3, 1]
abbrev dktX2_carriedBy_1 : List UInt8 := dkwX2_carriedBy_1 ++ dktX2_carriedBy_2
def dkwX2_carriedBy_0 : List UInt8 := [3, 61, 3, 62, 29, 42, 180, 0, 32, 182, 0, 75, 162, 0, 37, 28, 42, 180, 0, 32, 29, 182, 0, 79]
abbrev dktX2_carriedBy_0 : List UInt8 := dkwX2_carriedBy_0 ++ dktX2_carriedBy_1
theorem dksX2_carriedBy_0 : cX2_carriedBy.data.toList.drop 0 = dktX2_carriedBy_0 := by decide +kernel
theorem dksX2_carriedBy_1 : cX2_carriedBy.data.toList.drop 24 = dktX2_carriedBy_1 := dk_seg dksX2_carriedBy_0 24 rfl rfl
theorem dksX2_carriedBy_2 : cX2_carriedBy.data.toList.drop 46 = dktX2_carriedBy_2 := dk_seg dksX2_carriedBy_1 22 rfl rfl
theorem dX2_carriedBy_0 : decode cX2_carriedBy 0 = .ok (.iconst 0, 1) := dk_3 (dk_at dksX2_carriedBy_0 0 rfl rfl)
theorem dX2_carriedBy_1 : decode cX2_carriedBy 1 = .ok (.istore_n 2, 1) := dk_61 (dk_at dksX2_carriedBy_0 1 rfl rfl)
theorem dX2_carriedBy_2 : decode cX2_carriedBy 2 = .ok (.iconst 0, 1) := dk_3 (dk_at dksX2_carriedBy_0 2 rfl rfl)
theorem dX2_carriedBy_3 : decode cX2_carriedBy 3 = .ok (.istore_n 3, 1) := dk_62 (dk_at dksX2_carriedBy_0 3 rfl rfl)
theorem dX2_carriedBy_4 : decode cX2_carriedBy 4 = .ok (.iload_n 3, 1) := dk_29 (dk_at dksX2_carriedBy_0 4 rfl rfl)
theorem dX2_carriedBy_5 : decode cX2_carriedBy 5 = .ok (.aload_n 0, 1) := dk_42 (dk_at dksX2_carriedBy_0 5 rfl rfl)
theorem dX2_carriedBy_6 : decode cX2_carriedBy 6 = .ok (.getfield 32, 3) := dk_180 0 32 (dk_at dksX2_carriedBy_0 6 rfl rfl)
theorem dX2_carriedBy_9 : decode cX2_carriedBy 9 = .ok (.invokevirtual 75, 3) := dk_182 0 75 (dk_at dksX2_carriedBy_0 9 rfl rfl)
theorem dX2_carriedBy_12 : decode cX2_carriedBy 12 = .ok (.if_icmp .ge 37, 3) := dk_162 0 37 (dk_at dksX2_carriedBy_0 12 rfl rfl)
theorem dX2_carriedBy_15 : decode cX2_carriedBy 15 = .ok (.iload_n 2, 1) := dk_28 (dk_at dksX2_carriedBy_0 15 rfl rfl)
theorem dX2_carriedBy_16 : decode cX2_carriedBy 16 = .ok (.aload_n 0, 1) := dk_42 (dk_at dksX2_carriedBy_0 16 rfl rfl)
theorem dX2_carriedBy_17 : decode cX2_carriedBy 17 = .ok (.getfield 32, 3) := dk_180 0 32 (dk_at dksX2_carriedBy_0 17 rfl rfl)
theorem dX2_carriedBy_20 : decode cX2_carriedBy 20 = .ok (.iload_n 3, 1) := dk_29 (dk_at dksX2_carriedBy_0 20 rfl rfl)
theorem dX2_carriedBy_21 : decode cX2_carriedBy 21 = .ok (.invokevirtual 79, 3) := dk_182 0 79 (dk_at dksX2_carriedBy_0 21 rfl rfl)
theorem dX2_carriedBy_24 : decode cX2_carriedBy 24 = .ok (.checkcast 89, 3) := dk_192 0 89 (dk_at dksX2_carriedBy_1 0 rfl rfl)
theorem dX2_carriedBy_27 : decode cX2_carriedBy 27 = .ok (.getfield 168, 3) := dk_180 0 168 (dk_at dksX2_carriedBy_1 3 rfl rfl)
theorem dX2_carriedBy_30 : decode cX2_carriedBy 30 = .ok (.iload_n 1, 1) := dk_27 (dk_at dksX2_carriedBy_1 6 rfl rfl)
theorem dX2_carriedBy_31 : decode cX2_carriedBy 31 = .ok (.if_icmp .ne 9, 3) := dk_160 0 9 (dk_at dksX2_carriedBy_1 7 rfl rfl)
theorem dX2_carriedBy_34 : decode cX2_carriedBy 34 = .ok (.iconst 1, 1) := dk_4 (dk_at dksX2_carriedBy_1 10 rfl rfl)
theorem dX2_carriedBy_35 : decode cX2_carriedBy 35 = .ok (.iload_n 3, 1) := dk_29 (dk_at dksX2_carriedBy_1 11 rfl rfl)
theorem dX2_carriedBy_36 : decode cX2_carriedBy 36 = .ok (.ishl, 1) := dk_120 (dk_at dksX2_carriedBy_1 12 rfl rfl)
theorem dX2_carriedBy_37 : decode cX2_carriedBy 37 = .ok (.goto 4, 3) := dk_167 0 4 (dk_at dksX2_carriedBy_1 13 rfl rfl)
theorem dX2_carriedBy_40 : decode cX2_carriedBy 40 = .ok (.iconst 0, 1) := dk_3 (dk_at dksX2_carriedBy_1 16 rfl rfl)
theorem dX2_carriedBy_41 : decode cX2_carriedBy 41 = .ok (.ior, 1) := dk_128 (dk_at dksX2_carriedBy_1 17 rfl rfl)
theorem dX2_carriedBy_42 : decode cX2_carriedBy 42 = .ok (.istore_n 2, 1) := dk_61 (dk_at dksX2_carriedBy_1 18 rfl rfl)
theorem dX2_carriedBy_43 : decode cX2_carriedBy 43 = .ok (.iinc 3 1, 3) := dk_132 3 1 (dk_at dksX2_carriedBy_1 19 rfl rfl)
theorem dX2_carriedBy_46 : decode cX2_carriedBy 46 = .ok (.goto (-42), 3) := dk_167 255 214 (dk_at dksX2_carriedBy_2 0 rfl rfl)
theorem dX2_carriedBy_49 : decode cX2_carriedBy 49 = .ok (.iload_n 2, 1) := dk_28 (dk_at dksX2_carriedBy_2 3 rfl rfl)
theorem dX2_carriedBy_50 : decode cX2_carriedBy 50 = .ok (.ireturn, 1) := dk_172 (dk_at dksX2_carriedBy_2 4 rfl rfl)
abbrev cX2_isSecure : ByteArray := prog_21_method_17_code
def yX2_isSecure : MethodName := ⟨RX2, "isSecure", "(I)Z"⟩
def dkwX2_isSecure_2 : List UInt8 := [172]
abbrev dktX2_isSecure_2 : List UInt8 := dkwX2_isSecure_2 ++ []
def dkwX2_isSecure_1 : List UInt8 := [180, 0, 28, 44, 180, 0, 152, 182, 0, 79, 192, 0, 80, 182, 0, 187, 154, 0, 7, 4, 167, 0, 4, 3]
abbrev dktX2_isSecure_1 : List UInt8 := dkwX2_isSecure_1 ++ dktX2_isSecure_2
def dkwX2_isSecure_0 : List UInt8 := [42, 27, 182, 0, 148, 77, 44, 180, 0, 194, 154, 0, 35, 44, 180, 0, 152, 2, 159, 0, 23, 42]
abbrev dktX2_isSecure_0 : List UInt8 := dkwX2_isSecure_0 ++ dktX2_isSecure_1
theorem dksX2_isSecure_0 : cX2_isSecure.data.toList.drop 0 = dktX2_isSecure_0 := by decide +kernel
theorem dksX2_isSecure_1 : cX2_isSecure.data.toList.drop 22 = dktX2_isSecure_1 := dk_seg dksX2_isSecure_0 22 rfl rfl
theorem dksX2_isSecure_2 : cX2_isSecure.data.toList.drop 46 = dktX2_isSecure_2 := dk_seg dksX2_isSecure_1 24 rfl rfl
theorem dX2_isSecure_0 : decode cX2_isSecure 0 = .ok (.aload_n 0, 1) := dk_42 (dk_at dksX2_isSecure_0 0 rfl rfl)
theorem dX2_isSecure_1 : decode cX2_isSecure 1 = .ok (.iload_n 1, 1) := dk_27 (dk_at dksX2_isSecure_0 1 rfl rfl)
theorem dX2_isSecure_2 : decode cX2_isSecure 2 = .ok (.invokevirtual 148, 3) := dk_182 0 148 (dk_at dksX2_isSecure_0 2 rfl rfl)
theorem dX2_isSecure_5 : decode cX2_isSecure 5 = .ok (.astore_n 2, 1) := dk_77 (dk_at dksX2_isSecure_0 5 rfl rfl)
theorem dX2_isSecure_6 : decode cX2_isSecure 6 = .ok (.aload_n 2, 1) := dk_44 (dk_at dksX2_isSecure_0 6 rfl rfl)
theorem dX2_isSecure_7 : decode cX2_isSecure 7 = .ok (.getfield 194, 3) := dk_180 0 194 (dk_at dksX2_isSecure_0 7 rfl rfl)
theorem dX2_isSecure_10 : decode cX2_isSecure 10 = .ok (.ifCond .ne 35, 3) := dk_154 0 35 (dk_at dksX2_isSecure_0 10 rfl rfl)
theorem dX2_isSecure_13 : decode cX2_isSecure 13 = .ok (.aload_n 2, 1) := dk_44 (dk_at dksX2_isSecure_0 13 rfl rfl)
theorem dX2_isSecure_14 : decode cX2_isSecure 14 = .ok (.getfield 152, 3) := dk_180 0 152 (dk_at dksX2_isSecure_0 14 rfl rfl)
theorem dX2_isSecure_17 : decode cX2_isSecure 17 = .ok (.iconst (-1), 1) := dk_2 (dk_at dksX2_isSecure_0 17 rfl rfl)
theorem dX2_isSecure_18 : decode cX2_isSecure 18 = .ok (.if_icmp .eq 23, 3) := dk_159 0 23 (dk_at dksX2_isSecure_0 18 rfl rfl)
theorem dX2_isSecure_21 : decode cX2_isSecure 21 = .ok (.aload_n 0, 1) := dk_42 (dk_at dksX2_isSecure_0 21 rfl rfl)
theorem dX2_isSecure_22 : decode cX2_isSecure 22 = .ok (.getfield 28, 3) := dk_180 0 28 (dk_at dksX2_isSecure_1 0 rfl rfl)
theorem dX2_isSecure_25 : decode cX2_isSecure 25 = .ok (.aload_n 2, 1) := dk_44 (dk_at dksX2_isSecure_1 3 rfl rfl)
theorem dX2_isSecure_26 : decode cX2_isSecure 26 = .ok (.getfield 152, 3) := dk_180 0 152 (dk_at dksX2_isSecure_1 4 rfl rfl)
theorem dX2_isSecure_29 : decode cX2_isSecure 29 = .ok (.invokevirtual 79, 3) := dk_182 0 79 (dk_at dksX2_isSecure_1 7 rfl rfl)
theorem dX2_isSecure_32 : decode cX2_isSecure 32 = .ok (.checkcast 80, 3) := dk_192 0 80 (dk_at dksX2_isSecure_1 10 rfl rfl)
theorem dX2_isSecure_35 : decode cX2_isSecure 35 = .ok (.invokevirtual 187, 3) := dk_182 0 187 (dk_at dksX2_isSecure_1 13 rfl rfl)
theorem dX2_isSecure_38 : decode cX2_isSecure 38 = .ok (.ifCond .ne 7, 3) := dk_154 0 7 (dk_at dksX2_isSecure_1 16 rfl rfl)
theorem dX2_isSecure_41 : decode cX2_isSecure 41 = .ok (.iconst 1, 1) := dk_4 (dk_at dksX2_isSecure_1 19 rfl rfl)
theorem dX2_isSecure_42 : decode cX2_isSecure 42 = .ok (.goto 4, 3) := dk_167 0 4 (dk_at dksX2_isSecure_1 20 rfl rfl)
theorem dX2_isSecure_45 : decode cX2_isSecure 45 = .ok (.iconst 0, 1) := dk_3 (dk_at dksX2_isSecure_1 23 rfl rfl)
theorem dX2_isSecure_46 : decode cX2_isSecure 46 = .ok (.ireturn, 1) := dk_172 (dk_at dksX2_isSecure_2 0 rfl rfl)
abbrev cX2_moves : ByteArray := prog_21_method_29_code
def yX2_moves : MethodName := ⟨RX2, "moves", "(II)I"⟩
def dkwX2_moves_5 : List UInt8 := [182, 1, 24, 45, 180, 0, 194, 172]
abbrev dktX2_moves_5 : List UInt8 := dkwX2_moves_5 ++ []
def dkwX2_moves_4 : List UInt8 := [4, 167, 0, 4, 3, 96, 182, 1, 18, 25, 4, 182, 0, 187, 153, 0, 8, 42, 28, 182, 1, 21, 42]
abbrev dktX2_moves_4 : List UInt8 := dkwX2_moves_4 ++ dktX2_moves_5
def dkwX2_moves_3 : List UInt8 := [192, 0, 80, 58, 4, 25, 4, 25, 4, 182, 1, 15, 42, 27, 182, 0, 246, 184, 0, 250, 5, 160, 0, 7]
abbrev dktX2_moves_3 : List UInt8 := dkwX2_moves_3 ++ dktX2_moves_4
def dkwX2_moves_2 : List UInt8 := [89, 180, 0, 126, 4, 96, 181, 0, 126, 28, 2, 159, 0, 57, 42, 180, 0, 28, 28, 182, 0, 79]
abbrev dktX2_moves_2 : List UInt8 := dkwX2_moves_2 ++ dktX2_moves_3
def dkwX2_moves_1 : List UInt8 := [42, 28, 182, 0, 155, 185, 0, 200, 2, 0, 182, 0, 254, 100, 181, 1, 2, 45, 28, 3, 182, 1, 12, 42]
abbrev dktX2_moves_1 : List UInt8 := dkwX2_moves_1 ++ dktX2_moves_2
def dkwX2_moves_0 : List UInt8 := [42, 27, 28, 182, 1, 8, 42, 27, 182, 0, 148, 78, 45, 89, 180, 1, 2, 42, 27, 42, 27, 182, 0, 201]
abbrev dktX2_moves_0 : List UInt8 := dkwX2_moves_0 ++ dktX2_moves_1
theorem dksX2_moves_0 : cX2_moves.data.toList.drop 0 = dktX2_moves_0 := by decide +kernel
theorem dksX2_moves_1 : cX2_moves.data.toList.drop 24 = dktX2_moves_1 := dk_seg dksX2_moves_0 24 rfl rfl
theorem dksX2_moves_2 : cX2_moves.data.toList.drop 48 = dktX2_moves_2 := dk_seg dksX2_moves_1 24 rfl rfl
theorem dksX2_moves_3 : cX2_moves.data.toList.drop 70 = dktX2_moves_3 := dk_seg dksX2_moves_2 22 rfl rfl
theorem dksX2_moves_4 : cX2_moves.data.toList.drop 94 = dktX2_moves_4 := dk_seg dksX2_moves_3 24 rfl rfl
theorem dksX2_moves_5 : cX2_moves.data.toList.drop 117 = dktX2_moves_5 := dk_seg dksX2_moves_4 23 rfl rfl
theorem dX2_moves_0 : decode cX2_moves 0 = .ok (.aload_n 0, 1) := dk_42 (dk_at dksX2_moves_0 0 rfl rfl)
theorem dX2_moves_1 : decode cX2_moves 1 = .ok (.iload_n 1, 1) := dk_27 (dk_at dksX2_moves_0 1 rfl rfl)
theorem dX2_moves_2 : decode cX2_moves 2 = .ok (.iload_n 2, 1) := dk_28 (dk_at dksX2_moves_0 2 rfl rfl)
theorem dX2_moves_3 : decode cX2_moves 3 = .ok (.invokevirtual 264, 3) := dk_182 1 8 (dk_at dksX2_moves_0 3 rfl rfl)
theorem dX2_moves_6 : decode cX2_moves 6 = .ok (.aload_n 0, 1) := dk_42 (dk_at dksX2_moves_0 6 rfl rfl)
theorem dX2_moves_7 : decode cX2_moves 7 = .ok (.iload_n 1, 1) := dk_27 (dk_at dksX2_moves_0 7 rfl rfl)
theorem dX2_moves_8 : decode cX2_moves 8 = .ok (.invokevirtual 148, 3) := dk_182 0 148 (dk_at dksX2_moves_0 8 rfl rfl)
theorem dX2_moves_11 : decode cX2_moves 11 = .ok (.astore_n 3, 1) := dk_78 (dk_at dksX2_moves_0 11 rfl rfl)
theorem dX2_moves_12 : decode cX2_moves 12 = .ok (.aload_n 3, 1) := dk_45 (dk_at dksX2_moves_0 12 rfl rfl)
theorem dX2_moves_13 : decode cX2_moves 13 = .ok (.dup, 1) := dk_89 (dk_at dksX2_moves_0 13 rfl rfl)
theorem dX2_moves_14 : decode cX2_moves 14 = .ok (.getfield 258, 3) := dk_180 1 2 (dk_at dksX2_moves_0 14 rfl rfl)
theorem dX2_moves_17 : decode cX2_moves 17 = .ok (.aload_n 0, 1) := dk_42 (dk_at dksX2_moves_0 17 rfl rfl)
theorem dX2_moves_18 : decode cX2_moves 18 = .ok (.iload_n 1, 1) := dk_27 (dk_at dksX2_moves_0 18 rfl rfl)
theorem dX2_moves_19 : decode cX2_moves 19 = .ok (.aload_n 0, 1) := dk_42 (dk_at dksX2_moves_0 19 rfl rfl)
theorem dX2_moves_20 : decode cX2_moves 20 = .ok (.iload_n 1, 1) := dk_27 (dk_at dksX2_moves_0 20 rfl rfl)
theorem dX2_moves_21 : decode cX2_moves 21 = .ok (.invokevirtual 201, 3) := dk_182 0 201 (dk_at dksX2_moves_0 21 rfl rfl)
theorem dX2_moves_24 : decode cX2_moves 24 = .ok (.aload_n 0, 1) := dk_42 (dk_at dksX2_moves_1 0 rfl rfl)
theorem dX2_moves_25 : decode cX2_moves 25 = .ok (.iload_n 2, 1) := dk_28 (dk_at dksX2_moves_1 1 rfl rfl)
theorem dX2_moves_26 : decode cX2_moves 26 = .ok (.invokevirtual 155, 3) := dk_182 0 155 (dk_at dksX2_moves_1 2 rfl rfl)
theorem dX2_moves_29 : decode cX2_moves 29 = .ok (.invokeinterface 200 2, 5) := by decide +kernel
theorem dX2_moves_34 : decode cX2_moves 34 = .ok (.invokevirtual 254, 3) := dk_182 0 254 (dk_at dksX2_moves_1 10 rfl rfl)
theorem dX2_moves_37 : decode cX2_moves 37 = .ok (.isub, 1) := dk_100 (dk_at dksX2_moves_1 13 rfl rfl)
theorem dX2_moves_38 : decode cX2_moves 38 = .ok (.putfield 258, 3) := dk_181 1 2 (dk_at dksX2_moves_1 14 rfl rfl)
theorem dX2_moves_41 : decode cX2_moves 41 = .ok (.aload_n 3, 1) := dk_45 (dk_at dksX2_moves_1 17 rfl rfl)
theorem dX2_moves_42 : decode cX2_moves 42 = .ok (.iload_n 2, 1) := dk_28 (dk_at dksX2_moves_1 18 rfl rfl)
theorem dX2_moves_43 : decode cX2_moves 43 = .ok (.iconst 0, 1) := dk_3 (dk_at dksX2_moves_1 19 rfl rfl)
theorem dX2_moves_44 : decode cX2_moves 44 = .ok (.invokevirtual 268, 3) := dk_182 1 12 (dk_at dksX2_moves_1 20 rfl rfl)
theorem dX2_moves_47 : decode cX2_moves 47 = .ok (.aload_n 0, 1) := dk_42 (dk_at dksX2_moves_1 23 rfl rfl)
theorem dX2_moves_48 : decode cX2_moves 48 = .ok (.dup, 1) := dk_89 (dk_at dksX2_moves_2 0 rfl rfl)
theorem dX2_moves_49 : decode cX2_moves 49 = .ok (.getfield 126, 3) := dk_180 0 126 (dk_at dksX2_moves_2 1 rfl rfl)
theorem dX2_moves_52 : decode cX2_moves 52 = .ok (.iconst 1, 1) := dk_4 (dk_at dksX2_moves_2 4 rfl rfl)
theorem dX2_moves_53 : decode cX2_moves 53 = .ok (.iadd, 1) := dk_96 (dk_at dksX2_moves_2 5 rfl rfl)
theorem dX2_moves_54 : decode cX2_moves 54 = .ok (.putfield 126, 3) := dk_181 0 126 (dk_at dksX2_moves_2 6 rfl rfl)
theorem dX2_moves_57 : decode cX2_moves 57 = .ok (.iload_n 2, 1) := dk_28 (dk_at dksX2_moves_2 9 rfl rfl)
theorem dX2_moves_58 : decode cX2_moves 58 = .ok (.iconst (-1), 1) := dk_2 (dk_at dksX2_moves_2 10 rfl rfl)
theorem dX2_moves_59 : decode cX2_moves 59 = .ok (.if_icmp .eq 57, 3) := dk_159 0 57 (dk_at dksX2_moves_2 11 rfl rfl)
theorem dX2_moves_62 : decode cX2_moves 62 = .ok (.aload_n 0, 1) := dk_42 (dk_at dksX2_moves_2 14 rfl rfl)
theorem dX2_moves_63 : decode cX2_moves 63 = .ok (.getfield 28, 3) := dk_180 0 28 (dk_at dksX2_moves_2 15 rfl rfl)
theorem dX2_moves_66 : decode cX2_moves 66 = .ok (.iload_n 2, 1) := dk_28 (dk_at dksX2_moves_2 18 rfl rfl)
theorem dX2_moves_67 : decode cX2_moves 67 = .ok (.invokevirtual 79, 3) := dk_182 0 79 (dk_at dksX2_moves_2 19 rfl rfl)
theorem dX2_moves_70 : decode cX2_moves 70 = .ok (.checkcast 80, 3) := dk_192 0 80 (dk_at dksX2_moves_3 0 rfl rfl)
theorem dX2_moves_73 : decode cX2_moves 73 = .ok (.astore 4, 2) := dk_58 4 (dk_at dksX2_moves_3 3 rfl rfl)
theorem dX2_moves_75 : decode cX2_moves 75 = .ok (.aload 4, 2) := dk_25 4 (dk_at dksX2_moves_3 5 rfl rfl)
theorem dX2_moves_77 : decode cX2_moves 77 = .ok (.aload 4, 2) := dk_25 4 (dk_at dksX2_moves_3 7 rfl rfl)
theorem dX2_moves_79 : decode cX2_moves 79 = .ok (.invokevirtual 271, 3) := dk_182 1 15 (dk_at dksX2_moves_3 9 rfl rfl)
theorem dX2_moves_82 : decode cX2_moves 82 = .ok (.aload_n 0, 1) := dk_42 (dk_at dksX2_moves_3 12 rfl rfl)
theorem dX2_moves_83 : decode cX2_moves 83 = .ok (.iload_n 1, 1) := dk_27 (dk_at dksX2_moves_3 13 rfl rfl)
theorem dX2_moves_84 : decode cX2_moves 84 = .ok (.invokevirtual 246, 3) := dk_182 0 246 (dk_at dksX2_moves_3 14 rfl rfl)
theorem dX2_moves_87 : decode cX2_moves 87 = .ok (.invokestatic 250, 3) := dk_184 0 250 (dk_at dksX2_moves_3 17 rfl rfl)
theorem dX2_moves_90 : decode cX2_moves 90 = .ok (.iconst 2, 1) := dk_5 (dk_at dksX2_moves_3 20 rfl rfl)
theorem dX2_moves_91 : decode cX2_moves 91 = .ok (.if_icmp .ne 7, 3) := dk_160 0 7 (dk_at dksX2_moves_3 21 rfl rfl)
theorem dX2_moves_94 : decode cX2_moves 94 = .ok (.iconst 1, 1) := dk_4 (dk_at dksX2_moves_4 0 rfl rfl)
theorem dX2_moves_95 : decode cX2_moves 95 = .ok (.goto 4, 3) := dk_167 0 4 (dk_at dksX2_moves_4 1 rfl rfl)
theorem dX2_moves_98 : decode cX2_moves 98 = .ok (.iconst 0, 1) := dk_3 (dk_at dksX2_moves_4 4 rfl rfl)
theorem dX2_moves_99 : decode cX2_moves 99 = .ok (.iadd, 1) := dk_96 (dk_at dksX2_moves_4 5 rfl rfl)
theorem dX2_moves_100 : decode cX2_moves 100 = .ok (.invokevirtual 274, 3) := dk_182 1 18 (dk_at dksX2_moves_4 6 rfl rfl)
theorem dX2_moves_103 : decode cX2_moves 103 = .ok (.aload 4, 2) := dk_25 4 (dk_at dksX2_moves_4 9 rfl rfl)
theorem dX2_moves_105 : decode cX2_moves 105 = .ok (.invokevirtual 187, 3) := dk_182 0 187 (dk_at dksX2_moves_4 11 rfl rfl)
theorem dX2_moves_108 : decode cX2_moves 108 = .ok (.ifCond .eq 8, 3) := dk_153 0 8 (dk_at dksX2_moves_4 14 rfl rfl)
theorem dX2_moves_111 : decode cX2_moves 111 = .ok (.aload_n 0, 1) := dk_42 (dk_at dksX2_moves_4 17 rfl rfl)
theorem dX2_moves_112 : decode cX2_moves 112 = .ok (.iload_n 2, 1) := dk_28 (dk_at dksX2_moves_4 18 rfl rfl)
theorem dX2_moves_113 : decode cX2_moves 113 = .ok (.invokevirtual 277, 3) := dk_182 1 21 (dk_at dksX2_moves_4 19 rfl rfl)
theorem dX2_moves_116 : decode cX2_moves 116 = .ok (.aload_n 0, 1) := dk_42 (dk_at dksX2_moves_4 22 rfl rfl)
theorem dX2_moves_117 : decode cX2_moves 117 = .ok (.invokevirtual 280, 3) := dk_182 1 24 (dk_at dksX2_moves_5 0 rfl rfl)
theorem dX2_moves_120 : decode cX2_moves 120 = .ok (.aload_n 3, 1) := dk_45 (dk_at dksX2_moves_5 3 rfl rfl)
theorem dX2_moves_121 : decode cX2_moves 121 = .ok (.getfield 194, 3) := dk_180 0 194 (dk_at dksX2_moves_5 4 rfl rfl)
theorem dX2_moves_124 : decode cX2_moves 124 = .ok (.ireturn, 1) := dk_172 (dk_at dksX2_moves_5 7 rfl rfl)
abbrev cX2_checkMove : ByteArray := prog_21_method_28_code
def yX2_checkMove : MethodName := ⟨RX2, "checkMove", "(II)V"⟩
def dkwX2_checkMove_10 : List UInt8 := [21, 7, 42, 180, 0, 60, 164, 0, 7, 4, 167, 0, 4, 3, 16, 8, 21, 7, 184, 0, 222, 177]
abbrev dktX2_checkMove_10 : List UInt8 := dkwX2_checkMove_10 ++ []
def dkwX2_checkMove_9 : List UInt8 := [167, 0, 4, 3, 16, 7, 21, 6, 184, 0, 222, 42, 27, 42, 28, 182, 0, 155, 182, 1, 4, 54, 7]
abbrev dktX2_checkMove_9 : List UInt8 := dkwX2_checkMove_9 ++ dktX2_checkMove_10
def dkwX2_checkMove_8 : List UInt8 := [184, 0, 222, 42, 27, 21, 5, 182, 0, 254, 54, 6, 45, 180, 1, 2, 21, 6, 162, 0, 7, 4]
abbrev dktX2_checkMove_8 : List UInt8 := dkwX2_checkMove_8 ++ dktX2_checkMove_9
def dkwX2_checkMove_7 : List UInt8 := [4, 27, 100, 182, 0, 148, 180, 0, 152, 28, 160, 0, 7, 4, 167, 0, 4, 3, 16, 6, 4, 27, 100]
abbrev dktX2_checkMove_7 : List UInt8 := dkwX2_checkMove_7 ++ dktX2_checkMove_8
def dkwX2_checkMove_6 : List UInt8 := [167, 0, 4, 3, 8, 42, 28, 182, 0, 155, 185, 0, 253, 1, 0, 184, 0, 222, 21, 4, 154, 0, 21, 42]
abbrev dktX2_checkMove_6 : List UInt8 := dkwX2_checkMove_6 ++ dktX2_checkMove_7
def dkwX2_checkMove_5 : List UInt8 := [154, 0, 25, 42, 42, 180, 0, 28, 28, 182, 0, 79, 192, 0, 80, 182, 0, 190, 154, 0, 7, 4]
abbrev dktX2_checkMove_5 : List UInt8 := dkwX2_checkMove_5 ++ dktX2_checkMove_6
def dkwX2_checkMove_4 : List UInt8 := [54, 5, 21, 5, 42, 180, 0, 53, 164, 0, 7, 4, 167, 0, 4, 3, 7, 21, 5, 184, 0, 222, 21, 4]
abbrev dktX2_checkMove_4 : List UInt8 := dkwX2_checkMove_4 ++ dktX2_checkMove_5
def dkwX2_checkMove_3 : List UInt8 := [167, 0, 4, 3, 6, 28, 184, 0, 222, 42, 27, 182, 0, 201, 42, 28, 182, 0, 155, 185, 0, 200, 2, 0]
abbrev dktX2_checkMove_3 : List UInt8 := dkwX2_checkMove_3 ++ dktX2_checkMove_4
def dkwX2_checkMove_2 : List UInt8 := [153, 0, 7, 4, 167, 0, 4, 3, 5, 28, 184, 0, 222, 45, 180, 0, 152, 28, 160, 0, 7, 4]
abbrev dktX2_checkMove_2 : List UInt8 := dkwX2_checkMove_2 ++ dktX2_checkMove_3
def dkwX2_checkMove_1 : List UInt8 := [184, 0, 222, 21, 4, 154, 0, 24, 42, 180, 0, 28, 28, 182, 0, 79, 192, 0, 80, 182, 0, 187]
abbrev dktX2_checkMove_1 : List UInt8 := dkwX2_checkMove_1 ++ dktX2_checkMove_2
def dkwX2_checkMove_0 : List UInt8 := [42, 27, 182, 0, 148, 78, 28, 2, 160, 0, 7, 4, 167, 0, 4, 3, 54, 4, 45, 182, 0, 219, 4, 3]
abbrev dktX2_checkMove_0 : List UInt8 := dkwX2_checkMove_0 ++ dktX2_checkMove_1
theorem dksX2_checkMove_0 : cX2_checkMove.data.toList.drop 0 = dktX2_checkMove_0 := by decide +kernel
theorem dksX2_checkMove_1 : cX2_checkMove.data.toList.drop 24 = dktX2_checkMove_1 := dk_seg dksX2_checkMove_0 24 rfl rfl
theorem dksX2_checkMove_2 : cX2_checkMove.data.toList.drop 46 = dktX2_checkMove_2 := dk_seg dksX2_checkMove_1 22 rfl rfl
theorem dksX2_checkMove_3 : cX2_checkMove.data.toList.drop 68 = dktX2_checkMove_3 := dk_seg dksX2_checkMove_2 22 rfl rfl
theorem dksX2_checkMove_4 : cX2_checkMove.data.toList.drop 92 = dktX2_checkMove_4 := dk_seg dksX2_checkMove_3 24 rfl rfl
theorem dksX2_checkMove_5 : cX2_checkMove.data.toList.drop 116 = dktX2_checkMove_5 := dk_seg dksX2_checkMove_4 24 rfl rfl
theorem dksX2_checkMove_6 : cX2_checkMove.data.toList.drop 138 = dktX2_checkMove_6 := dk_seg dksX2_checkMove_5 22 rfl rfl
theorem dksX2_checkMove_7 : cX2_checkMove.data.toList.drop 162 = dktX2_checkMove_7 := dk_seg dksX2_checkMove_6 24 rfl rfl
theorem dksX2_checkMove_8 : cX2_checkMove.data.toList.drop 185 = dktX2_checkMove_8 := dk_seg dksX2_checkMove_7 23 rfl rfl
theorem dksX2_checkMove_9 : cX2_checkMove.data.toList.drop 207 = dktX2_checkMove_9 := dk_seg dksX2_checkMove_8 22 rfl rfl
theorem dksX2_checkMove_10 : cX2_checkMove.data.toList.drop 230 = dktX2_checkMove_10 := dk_seg dksX2_checkMove_9 23 rfl rfl
theorem dX2_checkMove_0 : decode cX2_checkMove 0 = .ok (.aload_n 0, 1) := dk_42 (dk_at dksX2_checkMove_0 0 rfl rfl)
theorem dX2_checkMove_1 : decode cX2_checkMove 1 = .ok (.iload_n 1, 1) := dk_27 (dk_at dksX2_checkMove_0 1 rfl rfl)
theorem dX2_checkMove_2 : decode cX2_checkMove 2 = .ok (.invokevirtual 148, 3) := dk_182 0 148 (dk_at dksX2_checkMove_0 2 rfl rfl)
theorem dX2_checkMove_5 : decode cX2_checkMove 5 = .ok (.astore_n 3, 1) := dk_78 (dk_at dksX2_checkMove_0 5 rfl rfl)
theorem dX2_checkMove_6 : decode cX2_checkMove 6 = .ok (.iload_n 2, 1) := dk_28 (dk_at dksX2_checkMove_0 6 rfl rfl)
theorem dX2_checkMove_7 : decode cX2_checkMove 7 = .ok (.iconst (-1), 1) := dk_2 (dk_at dksX2_checkMove_0 7 rfl rfl)
theorem dX2_checkMove_8 : decode cX2_checkMove 8 = .ok (.if_icmp .ne 7, 3) := dk_160 0 7 (dk_at dksX2_checkMove_0 8 rfl rfl)
theorem dX2_checkMove_11 : decode cX2_checkMove 11 = .ok (.iconst 1, 1) := dk_4 (dk_at dksX2_checkMove_0 11 rfl rfl)
theorem dX2_checkMove_12 : decode cX2_checkMove 12 = .ok (.goto 4, 3) := dk_167 0 4 (dk_at dksX2_checkMove_0 12 rfl rfl)
theorem dX2_checkMove_15 : decode cX2_checkMove 15 = .ok (.iconst 0, 1) := dk_3 (dk_at dksX2_checkMove_0 15 rfl rfl)
theorem dX2_checkMove_16 : decode cX2_checkMove 16 = .ok (.istore 4, 2) := dk_54 4 (dk_at dksX2_checkMove_0 16 rfl rfl)
theorem dX2_checkMove_18 : decode cX2_checkMove 18 = .ok (.aload_n 3, 1) := dk_45 (dk_at dksX2_checkMove_0 18 rfl rfl)
theorem dX2_checkMove_19 : decode cX2_checkMove 19 = .ok (.invokevirtual 219, 3) := dk_182 0 219 (dk_at dksX2_checkMove_0 19 rfl rfl)
theorem dX2_checkMove_22 : decode cX2_checkMove 22 = .ok (.iconst 1, 1) := dk_4 (dk_at dksX2_checkMove_0 22 rfl rfl)
theorem dX2_checkMove_23 : decode cX2_checkMove 23 = .ok (.iconst 0, 1) := dk_3 (dk_at dksX2_checkMove_0 23 rfl rfl)
theorem dX2_checkMove_24 : decode cX2_checkMove 24 = .ok (.invokestatic 222, 3) := dk_184 0 222 (dk_at dksX2_checkMove_1 0 rfl rfl)
theorem dX2_checkMove_27 : decode cX2_checkMove 27 = .ok (.iload 4, 2) := dk_21 4 (dk_at dksX2_checkMove_1 3 rfl rfl)
theorem dX2_checkMove_29 : decode cX2_checkMove 29 = .ok (.ifCond .ne 24, 3) := dk_154 0 24 (dk_at dksX2_checkMove_1 5 rfl rfl)
theorem dX2_checkMove_32 : decode cX2_checkMove 32 = .ok (.aload_n 0, 1) := dk_42 (dk_at dksX2_checkMove_1 8 rfl rfl)
theorem dX2_checkMove_33 : decode cX2_checkMove 33 = .ok (.getfield 28, 3) := dk_180 0 28 (dk_at dksX2_checkMove_1 9 rfl rfl)
theorem dX2_checkMove_36 : decode cX2_checkMove 36 = .ok (.iload_n 2, 1) := dk_28 (dk_at dksX2_checkMove_1 12 rfl rfl)
theorem dX2_checkMove_37 : decode cX2_checkMove 37 = .ok (.invokevirtual 79, 3) := dk_182 0 79 (dk_at dksX2_checkMove_1 13 rfl rfl)
theorem dX2_checkMove_40 : decode cX2_checkMove 40 = .ok (.checkcast 80, 3) := dk_192 0 80 (dk_at dksX2_checkMove_1 16 rfl rfl)
theorem dX2_checkMove_43 : decode cX2_checkMove 43 = .ok (.invokevirtual 187, 3) := dk_182 0 187 (dk_at dksX2_checkMove_1 19 rfl rfl)
theorem dX2_checkMove_46 : decode cX2_checkMove 46 = .ok (.ifCond .eq 7, 3) := dk_153 0 7 (dk_at dksX2_checkMove_2 0 rfl rfl)
theorem dX2_checkMove_49 : decode cX2_checkMove 49 = .ok (.iconst 1, 1) := dk_4 (dk_at dksX2_checkMove_2 3 rfl rfl)
theorem dX2_checkMove_50 : decode cX2_checkMove 50 = .ok (.goto 4, 3) := dk_167 0 4 (dk_at dksX2_checkMove_2 4 rfl rfl)
theorem dX2_checkMove_53 : decode cX2_checkMove 53 = .ok (.iconst 0, 1) := dk_3 (dk_at dksX2_checkMove_2 7 rfl rfl)
theorem dX2_checkMove_54 : decode cX2_checkMove 54 = .ok (.iconst 2, 1) := dk_5 (dk_at dksX2_checkMove_2 8 rfl rfl)
theorem dX2_checkMove_55 : decode cX2_checkMove 55 = .ok (.iload_n 2, 1) := dk_28 (dk_at dksX2_checkMove_2 9 rfl rfl)
theorem dX2_checkMove_56 : decode cX2_checkMove 56 = .ok (.invokestatic 222, 3) := dk_184 0 222 (dk_at dksX2_checkMove_2 10 rfl rfl)
theorem dX2_checkMove_59 : decode cX2_checkMove 59 = .ok (.aload_n 3, 1) := dk_45 (dk_at dksX2_checkMove_2 13 rfl rfl)
theorem dX2_checkMove_60 : decode cX2_checkMove 60 = .ok (.getfield 152, 3) := dk_180 0 152 (dk_at dksX2_checkMove_2 14 rfl rfl)
theorem dX2_checkMove_63 : decode cX2_checkMove 63 = .ok (.iload_n 2, 1) := dk_28 (dk_at dksX2_checkMove_2 17 rfl rfl)
theorem dX2_checkMove_64 : decode cX2_checkMove 64 = .ok (.if_icmp .ne 7, 3) := dk_160 0 7 (dk_at dksX2_checkMove_2 18 rfl rfl)
theorem dX2_checkMove_67 : decode cX2_checkMove 67 = .ok (.iconst 1, 1) := dk_4 (dk_at dksX2_checkMove_2 21 rfl rfl)
theorem dX2_checkMove_68 : decode cX2_checkMove 68 = .ok (.goto 4, 3) := dk_167 0 4 (dk_at dksX2_checkMove_3 0 rfl rfl)
theorem dX2_checkMove_71 : decode cX2_checkMove 71 = .ok (.iconst 0, 1) := dk_3 (dk_at dksX2_checkMove_3 3 rfl rfl)
theorem dX2_checkMove_72 : decode cX2_checkMove 72 = .ok (.iconst 3, 1) := dk_6 (dk_at dksX2_checkMove_3 4 rfl rfl)
theorem dX2_checkMove_73 : decode cX2_checkMove 73 = .ok (.iload_n 2, 1) := dk_28 (dk_at dksX2_checkMove_3 5 rfl rfl)
theorem dX2_checkMove_74 : decode cX2_checkMove 74 = .ok (.invokestatic 222, 3) := dk_184 0 222 (dk_at dksX2_checkMove_3 6 rfl rfl)
theorem dX2_checkMove_77 : decode cX2_checkMove 77 = .ok (.aload_n 0, 1) := dk_42 (dk_at dksX2_checkMove_3 9 rfl rfl)
theorem dX2_checkMove_78 : decode cX2_checkMove 78 = .ok (.iload_n 1, 1) := dk_27 (dk_at dksX2_checkMove_3 10 rfl rfl)
theorem dX2_checkMove_79 : decode cX2_checkMove 79 = .ok (.invokevirtual 201, 3) := dk_182 0 201 (dk_at dksX2_checkMove_3 11 rfl rfl)
theorem dX2_checkMove_82 : decode cX2_checkMove 82 = .ok (.aload_n 0, 1) := dk_42 (dk_at dksX2_checkMove_3 14 rfl rfl)
theorem dX2_checkMove_83 : decode cX2_checkMove 83 = .ok (.iload_n 2, 1) := dk_28 (dk_at dksX2_checkMove_3 15 rfl rfl)
theorem dX2_checkMove_84 : decode cX2_checkMove 84 = .ok (.invokevirtual 155, 3) := dk_182 0 155 (dk_at dksX2_checkMove_3 16 rfl rfl)
theorem dX2_checkMove_87 : decode cX2_checkMove 87 = .ok (.invokeinterface 200 2, 5) := by decide +kernel
theorem dX2_checkMove_92 : decode cX2_checkMove 92 = .ok (.istore 5, 2) := dk_54 5 (dk_at dksX2_checkMove_4 0 rfl rfl)
theorem dX2_checkMove_94 : decode cX2_checkMove 94 = .ok (.iload 5, 2) := dk_21 5 (dk_at dksX2_checkMove_4 2 rfl rfl)
theorem dX2_checkMove_96 : decode cX2_checkMove 96 = .ok (.aload_n 0, 1) := dk_42 (dk_at dksX2_checkMove_4 4 rfl rfl)
theorem dX2_checkMove_97 : decode cX2_checkMove 97 = .ok (.getfield 53, 3) := dk_180 0 53 (dk_at dksX2_checkMove_4 5 rfl rfl)
theorem dX2_checkMove_100 : decode cX2_checkMove 100 = .ok (.if_icmp .le 7, 3) := dk_164 0 7 (dk_at dksX2_checkMove_4 8 rfl rfl)
theorem dX2_checkMove_103 : decode cX2_checkMove 103 = .ok (.iconst 1, 1) := dk_4 (dk_at dksX2_checkMove_4 11 rfl rfl)
theorem dX2_checkMove_104 : decode cX2_checkMove 104 = .ok (.goto 4, 3) := dk_167 0 4 (dk_at dksX2_checkMove_4 12 rfl rfl)
theorem dX2_checkMove_107 : decode cX2_checkMove 107 = .ok (.iconst 0, 1) := dk_3 (dk_at dksX2_checkMove_4 15 rfl rfl)
theorem dX2_checkMove_108 : decode cX2_checkMove 108 = .ok (.iconst 4, 1) := dk_7 (dk_at dksX2_checkMove_4 16 rfl rfl)
theorem dX2_checkMove_109 : decode cX2_checkMove 109 = .ok (.iload 5, 2) := dk_21 5 (dk_at dksX2_checkMove_4 17 rfl rfl)
theorem dX2_checkMove_111 : decode cX2_checkMove 111 = .ok (.invokestatic 222, 3) := dk_184 0 222 (dk_at dksX2_checkMove_4 19 rfl rfl)
theorem dX2_checkMove_114 : decode cX2_checkMove 114 = .ok (.iload 4, 2) := dk_21 4 (dk_at dksX2_checkMove_4 22 rfl rfl)
theorem dX2_checkMove_116 : decode cX2_checkMove 116 = .ok (.ifCond .ne 25, 3) := dk_154 0 25 (dk_at dksX2_checkMove_5 0 rfl rfl)
theorem dX2_checkMove_119 : decode cX2_checkMove 119 = .ok (.aload_n 0, 1) := dk_42 (dk_at dksX2_checkMove_5 3 rfl rfl)
theorem dX2_checkMove_120 : decode cX2_checkMove 120 = .ok (.aload_n 0, 1) := dk_42 (dk_at dksX2_checkMove_5 4 rfl rfl)
theorem dX2_checkMove_121 : decode cX2_checkMove 121 = .ok (.getfield 28, 3) := dk_180 0 28 (dk_at dksX2_checkMove_5 5 rfl rfl)
theorem dX2_checkMove_124 : decode cX2_checkMove 124 = .ok (.iload_n 2, 1) := dk_28 (dk_at dksX2_checkMove_5 8 rfl rfl)
theorem dX2_checkMove_125 : decode cX2_checkMove 125 = .ok (.invokevirtual 79, 3) := dk_182 0 79 (dk_at dksX2_checkMove_5 9 rfl rfl)
theorem dX2_checkMove_128 : decode cX2_checkMove 128 = .ok (.checkcast 80, 3) := dk_192 0 80 (dk_at dksX2_checkMove_5 12 rfl rfl)
theorem dX2_checkMove_131 : decode cX2_checkMove 131 = .ok (.invokevirtual 190, 3) := dk_182 0 190 (dk_at dksX2_checkMove_5 15 rfl rfl)
theorem dX2_checkMove_134 : decode cX2_checkMove 134 = .ok (.ifCond .ne 7, 3) := dk_154 0 7 (dk_at dksX2_checkMove_5 18 rfl rfl)
theorem dX2_checkMove_137 : decode cX2_checkMove 137 = .ok (.iconst 1, 1) := dk_4 (dk_at dksX2_checkMove_5 21 rfl rfl)
theorem dX2_checkMove_138 : decode cX2_checkMove 138 = .ok (.goto 4, 3) := dk_167 0 4 (dk_at dksX2_checkMove_6 0 rfl rfl)
theorem dX2_checkMove_141 : decode cX2_checkMove 141 = .ok (.iconst 0, 1) := dk_3 (dk_at dksX2_checkMove_6 3 rfl rfl)
theorem dX2_checkMove_142 : decode cX2_checkMove 142 = .ok (.iconst 5, 1) := dk_8 (dk_at dksX2_checkMove_6 4 rfl rfl)
theorem dX2_checkMove_143 : decode cX2_checkMove 143 = .ok (.aload_n 0, 1) := dk_42 (dk_at dksX2_checkMove_6 5 rfl rfl)
theorem dX2_checkMove_144 : decode cX2_checkMove 144 = .ok (.iload_n 2, 1) := dk_28 (dk_at dksX2_checkMove_6 6 rfl rfl)
theorem dX2_checkMove_145 : decode cX2_checkMove 145 = .ok (.invokevirtual 155, 3) := dk_182 0 155 (dk_at dksX2_checkMove_6 7 rfl rfl)
theorem dX2_checkMove_148 : decode cX2_checkMove 148 = .ok (.invokeinterface 253 1, 5) := by decide +kernel
theorem dX2_checkMove_153 : decode cX2_checkMove 153 = .ok (.invokestatic 222, 3) := dk_184 0 222 (dk_at dksX2_checkMove_6 15 rfl rfl)
theorem dX2_checkMove_156 : decode cX2_checkMove 156 = .ok (.iload 4, 2) := dk_21 4 (dk_at dksX2_checkMove_6 18 rfl rfl)
theorem dX2_checkMove_158 : decode cX2_checkMove 158 = .ok (.ifCond .ne 21, 3) := dk_154 0 21 (dk_at dksX2_checkMove_6 20 rfl rfl)
theorem dX2_checkMove_161 : decode cX2_checkMove 161 = .ok (.aload_n 0, 1) := dk_42 (dk_at dksX2_checkMove_6 23 rfl rfl)
theorem dX2_checkMove_162 : decode cX2_checkMove 162 = .ok (.iconst 1, 1) := dk_4 (dk_at dksX2_checkMove_7 0 rfl rfl)
theorem dX2_checkMove_163 : decode cX2_checkMove 163 = .ok (.iload_n 1, 1) := dk_27 (dk_at dksX2_checkMove_7 1 rfl rfl)
theorem dX2_checkMove_164 : decode cX2_checkMove 164 = .ok (.isub, 1) := dk_100 (dk_at dksX2_checkMove_7 2 rfl rfl)
theorem dX2_checkMove_165 : decode cX2_checkMove 165 = .ok (.invokevirtual 148, 3) := dk_182 0 148 (dk_at dksX2_checkMove_7 3 rfl rfl)
theorem dX2_checkMove_168 : decode cX2_checkMove 168 = .ok (.getfield 152, 3) := dk_180 0 152 (dk_at dksX2_checkMove_7 6 rfl rfl)
theorem dX2_checkMove_171 : decode cX2_checkMove 171 = .ok (.iload_n 2, 1) := dk_28 (dk_at dksX2_checkMove_7 9 rfl rfl)
theorem dX2_checkMove_172 : decode cX2_checkMove 172 = .ok (.if_icmp .ne 7, 3) := dk_160 0 7 (dk_at dksX2_checkMove_7 10 rfl rfl)
theorem dX2_checkMove_175 : decode cX2_checkMove 175 = .ok (.iconst 1, 1) := dk_4 (dk_at dksX2_checkMove_7 13 rfl rfl)
theorem dX2_checkMove_176 : decode cX2_checkMove 176 = .ok (.goto 4, 3) := dk_167 0 4 (dk_at dksX2_checkMove_7 14 rfl rfl)
theorem dX2_checkMove_179 : decode cX2_checkMove 179 = .ok (.iconst 0, 1) := dk_3 (dk_at dksX2_checkMove_7 17 rfl rfl)
theorem dX2_checkMove_180 : decode cX2_checkMove 180 = .ok (.bipush 6, 2) := dk_16 6 (dk_at dksX2_checkMove_7 18 rfl rfl)
theorem dX2_checkMove_182 : decode cX2_checkMove 182 = .ok (.iconst 1, 1) := dk_4 (dk_at dksX2_checkMove_7 20 rfl rfl)
theorem dX2_checkMove_183 : decode cX2_checkMove 183 = .ok (.iload_n 1, 1) := dk_27 (dk_at dksX2_checkMove_7 21 rfl rfl)
theorem dX2_checkMove_184 : decode cX2_checkMove 184 = .ok (.isub, 1) := dk_100 (dk_at dksX2_checkMove_7 22 rfl rfl)
theorem dX2_checkMove_185 : decode cX2_checkMove 185 = .ok (.invokestatic 222, 3) := dk_184 0 222 (dk_at dksX2_checkMove_8 0 rfl rfl)
theorem dX2_checkMove_188 : decode cX2_checkMove 188 = .ok (.aload_n 0, 1) := dk_42 (dk_at dksX2_checkMove_8 3 rfl rfl)
theorem dX2_checkMove_189 : decode cX2_checkMove 189 = .ok (.iload_n 1, 1) := dk_27 (dk_at dksX2_checkMove_8 4 rfl rfl)
theorem dX2_checkMove_190 : decode cX2_checkMove 190 = .ok (.iload 5, 2) := dk_21 5 (dk_at dksX2_checkMove_8 5 rfl rfl)
theorem dX2_checkMove_192 : decode cX2_checkMove 192 = .ok (.invokevirtual 254, 3) := dk_182 0 254 (dk_at dksX2_checkMove_8 7 rfl rfl)
theorem dX2_checkMove_195 : decode cX2_checkMove 195 = .ok (.istore 6, 2) := dk_54 6 (dk_at dksX2_checkMove_8 10 rfl rfl)
theorem dX2_checkMove_197 : decode cX2_checkMove 197 = .ok (.aload_n 3, 1) := dk_45 (dk_at dksX2_checkMove_8 12 rfl rfl)
theorem dX2_checkMove_198 : decode cX2_checkMove 198 = .ok (.getfield 258, 3) := dk_180 1 2 (dk_at dksX2_checkMove_8 13 rfl rfl)
theorem dX2_checkMove_201 : decode cX2_checkMove 201 = .ok (.iload 6, 2) := dk_21 6 (dk_at dksX2_checkMove_8 16 rfl rfl)
theorem dX2_checkMove_203 : decode cX2_checkMove 203 = .ok (.if_icmp .ge 7, 3) := dk_162 0 7 (dk_at dksX2_checkMove_8 18 rfl rfl)
theorem dX2_checkMove_206 : decode cX2_checkMove 206 = .ok (.iconst 1, 1) := dk_4 (dk_at dksX2_checkMove_8 21 rfl rfl)
theorem dX2_checkMove_207 : decode cX2_checkMove 207 = .ok (.goto 4, 3) := dk_167 0 4 (dk_at dksX2_checkMove_9 0 rfl rfl)
theorem dX2_checkMove_210 : decode cX2_checkMove 210 = .ok (.iconst 0, 1) := dk_3 (dk_at dksX2_checkMove_9 3 rfl rfl)
theorem dX2_checkMove_211 : decode cX2_checkMove 211 = .ok (.bipush 7, 2) := dk_16 7 (dk_at dksX2_checkMove_9 4 rfl rfl)
theorem dX2_checkMove_213 : decode cX2_checkMove 213 = .ok (.iload 6, 2) := dk_21 6 (dk_at dksX2_checkMove_9 6 rfl rfl)
theorem dX2_checkMove_215 : decode cX2_checkMove 215 = .ok (.invokestatic 222, 3) := dk_184 0 222 (dk_at dksX2_checkMove_9 8 rfl rfl)
theorem dX2_checkMove_218 : decode cX2_checkMove 218 = .ok (.aload_n 0, 1) := dk_42 (dk_at dksX2_checkMove_9 11 rfl rfl)
theorem dX2_checkMove_219 : decode cX2_checkMove 219 = .ok (.iload_n 1, 1) := dk_27 (dk_at dksX2_checkMove_9 12 rfl rfl)
theorem dX2_checkMove_220 : decode cX2_checkMove 220 = .ok (.aload_n 0, 1) := dk_42 (dk_at dksX2_checkMove_9 13 rfl rfl)
theorem dX2_checkMove_221 : decode cX2_checkMove 221 = .ok (.iload_n 2, 1) := dk_28 (dk_at dksX2_checkMove_9 14 rfl rfl)
theorem dX2_checkMove_222 : decode cX2_checkMove 222 = .ok (.invokevirtual 155, 3) := dk_182 0 155 (dk_at dksX2_checkMove_9 15 rfl rfl)
theorem dX2_checkMove_225 : decode cX2_checkMove 225 = .ok (.invokevirtual 260, 3) := dk_182 1 4 (dk_at dksX2_checkMove_9 18 rfl rfl)
theorem dX2_checkMove_228 : decode cX2_checkMove 228 = .ok (.istore 7, 2) := dk_54 7 (dk_at dksX2_checkMove_9 21 rfl rfl)
theorem dX2_checkMove_230 : decode cX2_checkMove 230 = .ok (.iload 7, 2) := dk_21 7 (dk_at dksX2_checkMove_10 0 rfl rfl)
theorem dX2_checkMove_232 : decode cX2_checkMove 232 = .ok (.aload_n 0, 1) := dk_42 (dk_at dksX2_checkMove_10 2 rfl rfl)
theorem dX2_checkMove_233 : decode cX2_checkMove 233 = .ok (.getfield 60, 3) := dk_180 0 60 (dk_at dksX2_checkMove_10 3 rfl rfl)
theorem dX2_checkMove_236 : decode cX2_checkMove 236 = .ok (.if_icmp .le 7, 3) := dk_164 0 7 (dk_at dksX2_checkMove_10 6 rfl rfl)
theorem dX2_checkMove_239 : decode cX2_checkMove 239 = .ok (.iconst 1, 1) := dk_4 (dk_at dksX2_checkMove_10 9 rfl rfl)
theorem dX2_checkMove_240 : decode cX2_checkMove 240 = .ok (.goto 4, 3) := dk_167 0 4 (dk_at dksX2_checkMove_10 10 rfl rfl)
theorem dX2_checkMove_243 : decode cX2_checkMove 243 = .ok (.iconst 0, 1) := dk_3 (dk_at dksX2_checkMove_10 13 rfl rfl)
theorem dX2_checkMove_244 : decode cX2_checkMove 244 = .ok (.bipush 8, 2) := dk_16 8 (dk_at dksX2_checkMove_10 14 rfl rfl)
theorem dX2_checkMove_246 : decode cX2_checkMove 246 = .ok (.iload 7, 2) := dk_21 7 (dk_at dksX2_checkMove_10 16 rfl rfl)
theorem dX2_checkMove_248 : decode cX2_checkMove 248 = .ok (.invokestatic 222, 3) := dk_184 0 222 (dk_at dksX2_checkMove_10 18 rfl rfl)
theorem dX2_checkMove_251 : decode cX2_checkMove 251 = .ok (.return_, 1) := dk_177 (dk_at dksX2_checkMove_10 21 rfl rfl)
abbrev cX2_grip : ByteArray := prog_21_method_27_code
def yX2_grip : MethodName := ⟨RX2, "grip", "(II)I"⟩
def dkwX2_grip_0 : List UInt8 := [28, 42, 27, 182, 0, 246, 184, 0, 250, 96, 172]
abbrev dktX2_grip_0 : List UInt8 := dkwX2_grip_0 ++ []
theorem dksX2_grip_0 : cX2_grip.data.toList.drop 0 = dktX2_grip_0 := by decide +kernel
theorem dX2_grip_0 : decode cX2_grip 0 = .ok (.iload_n 2, 1) := dk_28 (dk_at dksX2_grip_0 0 rfl rfl)
theorem dX2_grip_1 : decode cX2_grip 1 = .ok (.aload_n 0, 1) := dk_42 (dk_at dksX2_grip_0 1 rfl rfl)
theorem dX2_grip_2 : decode cX2_grip 2 = .ok (.iload_n 1, 1) := dk_27 (dk_at dksX2_grip_0 2 rfl rfl)
theorem dX2_grip_3 : decode cX2_grip 3 = .ok (.invokevirtual 246, 3) := dk_182 0 246 (dk_at dksX2_grip_0 3 rfl rfl)
theorem dX2_grip_6 : decode cX2_grip 6 = .ok (.invokestatic 250, 3) := dk_184 0 250 (dk_at dksX2_grip_0 6 rfl rfl)
theorem dX2_grip_9 : decode cX2_grip 9 = .ok (.iadd, 1) := dk_96 (dk_at dksX2_grip_0 9 rfl rfl)
theorem dX2_grip_10 : decode cX2_grip 10 = .ok (.ireturn, 1) := dk_172 (dk_at dksX2_grip_0 10 rfl rfl)
abbrev cX2_outWith : ByteArray := prog_21_method_22_code
def yX2_outWith : MethodName := ⟨RX2, "outWith", "(ILCrumblingWall$Place;)I"⟩
def dkwX2_outWith_1 : List UInt8 := [182, 0, 203, 172]
abbrev dktX2_outWith_1 : List UInt8 := dkwX2_outWith_1 ++ []
def dkwX2_outWith_0 : List UInt8 := [27, 154, 0, 16, 42, 42, 4, 182, 0, 201, 44, 182, 0, 203, 167, 0, 13, 42, 44, 42, 3, 182, 0, 201]
abbrev dktX2_outWith_0 : List UInt8 := dkwX2_outWith_0 ++ dktX2_outWith_1
theorem dksX2_outWith_0 : cX2_outWith.data.toList.drop 0 = dktX2_outWith_0 := by decide +kernel
theorem dksX2_outWith_1 : cX2_outWith.data.toList.drop 24 = dktX2_outWith_1 := dk_seg dksX2_outWith_0 24 rfl rfl
theorem dX2_outWith_0 : decode cX2_outWith 0 = .ok (.iload_n 1, 1) := dk_27 (dk_at dksX2_outWith_0 0 rfl rfl)
theorem dX2_outWith_1 : decode cX2_outWith 1 = .ok (.ifCond .ne 16, 3) := dk_154 0 16 (dk_at dksX2_outWith_0 1 rfl rfl)
theorem dX2_outWith_4 : decode cX2_outWith 4 = .ok (.aload_n 0, 1) := dk_42 (dk_at dksX2_outWith_0 4 rfl rfl)
theorem dX2_outWith_5 : decode cX2_outWith 5 = .ok (.aload_n 0, 1) := dk_42 (dk_at dksX2_outWith_0 5 rfl rfl)
theorem dX2_outWith_6 : decode cX2_outWith 6 = .ok (.iconst 1, 1) := dk_4 (dk_at dksX2_outWith_0 6 rfl rfl)
theorem dX2_outWith_7 : decode cX2_outWith 7 = .ok (.invokevirtual 201, 3) := dk_182 0 201 (dk_at dksX2_outWith_0 7 rfl rfl)
theorem dX2_outWith_10 : decode cX2_outWith 10 = .ok (.aload_n 2, 1) := dk_44 (dk_at dksX2_outWith_0 10 rfl rfl)
theorem dX2_outWith_11 : decode cX2_outWith 11 = .ok (.invokevirtual 203, 3) := dk_182 0 203 (dk_at dksX2_outWith_0 11 rfl rfl)
theorem dX2_outWith_14 : decode cX2_outWith 14 = .ok (.goto 13, 3) := dk_167 0 13 (dk_at dksX2_outWith_0 14 rfl rfl)
theorem dX2_outWith_17 : decode cX2_outWith 17 = .ok (.aload_n 0, 1) := dk_42 (dk_at dksX2_outWith_0 17 rfl rfl)
theorem dX2_outWith_18 : decode cX2_outWith 18 = .ok (.aload_n 2, 1) := dk_44 (dk_at dksX2_outWith_0 18 rfl rfl)
theorem dX2_outWith_19 : decode cX2_outWith 19 = .ok (.aload_n 0, 1) := dk_42 (dk_at dksX2_outWith_0 19 rfl rfl)
theorem dX2_outWith_20 : decode cX2_outWith 20 = .ok (.iconst 0, 1) := dk_3 (dk_at dksX2_outWith_0 20 rfl rfl)
theorem dX2_outWith_21 : decode cX2_outWith 21 = .ok (.invokevirtual 201, 3) := dk_182 0 201 (dk_at dksX2_outWith_0 21 rfl rfl)
theorem dX2_outWith_24 : decode cX2_outWith 24 = .ok (.invokevirtual 203, 3) := dk_182 0 203 (dk_at dksX2_outWith_1 0 rfl rfl)
theorem dX2_outWith_27 : decode cX2_outWith 27 = .ok (.ireturn, 1) := dk_172 (dk_at dksX2_outWith_1 3 rfl rfl)
abbrev cX2_crumbles : ByteArray := prog_21_method_33_code
def yX2_crumbles : MethodName := ⟨RX2, "crumbles", "(I)V"⟩
def dkwX2_crumbles_6 : List UInt8 := [132, 4, 1, 167, 255, 226, 167, 255, 124, 177]
abbrev dktX2_crumbles_6 : List UInt8 := dkwX2_crumbles_6 ++ []
def dkwX2_crumbles_5 : List UInt8 := [163, 0, 30, 42, 21, 4, 182, 0, 148, 180, 0, 152, 29, 160, 0, 11, 42, 21, 4, 29, 44, 182, 1, 51]
abbrev dktX2_crumbles_5 : List UInt8 := dkwX2_crumbles_5 ++ dktX2_crumbles_6
def dkwX2_crumbles_4 : List UInt8 := [21, 4, 182, 0, 79, 192, 0, 89, 182, 1, 48, 132, 4, 1, 167, 255, 189, 3, 54, 4, 21, 4, 4]
abbrev dktX2_crumbles_4 : List UInt8 := dkwX2_crumbles_4 ++ dktX2_crumbles_5
def dkwX2_crumbles_3 : List UInt8 := [42, 180, 0, 32, 21, 4, 182, 0, 79, 192, 0, 89, 180, 0, 171, 29, 160, 0, 18, 42, 180, 0, 32]
abbrev dktX2_crumbles_3 : List UInt8 := dkwX2_crumbles_3 ++ dktX2_crumbles_4
def dkwX2_crumbles_2 : List UInt8 := [182, 0, 75, 162, 0, 61, 42, 180, 0, 32, 21, 4, 182, 0, 79, 192, 0, 89, 182, 0, 165, 154, 0, 37]
abbrev dktX2_crumbles_2 : List UInt8 := dkwX2_crumbles_2 ++ dktX2_crumbles_3
def dkwX2_crumbles_1 : List UInt8 := [182, 1, 44, 192, 0, 108, 182, 0, 197, 62, 42, 29, 182, 1, 45, 3, 54, 4, 21, 4, 42, 180, 0, 32]
abbrev dktX2_crumbles_1 : List UInt8 := dkwX2_crumbles_1 ++ dktX2_crumbles_2
def dkwX2_crumbles_0 : List UInt8 := [187, 1, 39, 89, 183, 1, 41, 77, 44, 27, 184, 0, 236, 182, 1, 42, 44, 182, 1, 43, 154, 0, 131, 44]
abbrev dktX2_crumbles_0 : List UInt8 := dkwX2_crumbles_0 ++ dktX2_crumbles_1
theorem dksX2_crumbles_0 : cX2_crumbles.data.toList.drop 0 = dktX2_crumbles_0 := by decide +kernel
theorem dksX2_crumbles_1 : cX2_crumbles.data.toList.drop 24 = dktX2_crumbles_1 := dk_seg dksX2_crumbles_0 24 rfl rfl
theorem dksX2_crumbles_2 : cX2_crumbles.data.toList.drop 48 = dktX2_crumbles_2 := dk_seg dksX2_crumbles_1 24 rfl rfl
theorem dksX2_crumbles_3 : cX2_crumbles.data.toList.drop 72 = dktX2_crumbles_3 := dk_seg dksX2_crumbles_2 24 rfl rfl
theorem dksX2_crumbles_4 : cX2_crumbles.data.toList.drop 95 = dktX2_crumbles_4 := dk_seg dksX2_crumbles_3 23 rfl rfl
theorem dksX2_crumbles_5 : cX2_crumbles.data.toList.drop 118 = dktX2_crumbles_5 := dk_seg dksX2_crumbles_4 23 rfl rfl
theorem dksX2_crumbles_6 : cX2_crumbles.data.toList.drop 142 = dktX2_crumbles_6 := dk_seg dksX2_crumbles_5 24 rfl rfl
theorem dX2_crumbles_0 : decode cX2_crumbles 0 = .ok (.new 295, 3) := dk_187 1 39 (dk_at dksX2_crumbles_0 0 rfl rfl)
theorem dX2_crumbles_3 : decode cX2_crumbles 3 = .ok (.dup, 1) := dk_89 (dk_at dksX2_crumbles_0 3 rfl rfl)
theorem dX2_crumbles_4 : decode cX2_crumbles 4 = .ok (.invokespecial 297, 3) := dk_183 1 41 (dk_at dksX2_crumbles_0 4 rfl rfl)
theorem dX2_crumbles_7 : decode cX2_crumbles 7 = .ok (.astore_n 2, 1) := dk_77 (dk_at dksX2_crumbles_0 7 rfl rfl)
theorem dX2_crumbles_8 : decode cX2_crumbles 8 = .ok (.aload_n 2, 1) := dk_44 (dk_at dksX2_crumbles_0 8 rfl rfl)
theorem dX2_crumbles_9 : decode cX2_crumbles 9 = .ok (.iload_n 1, 1) := dk_27 (dk_at dksX2_crumbles_0 9 rfl rfl)
theorem dX2_crumbles_10 : decode cX2_crumbles 10 = .ok (.invokestatic 236, 3) := dk_184 0 236 (dk_at dksX2_crumbles_0 10 rfl rfl)
theorem dX2_crumbles_13 : decode cX2_crumbles 13 = .ok (.invokevirtual 298, 3) := dk_182 1 42 (dk_at dksX2_crumbles_0 13 rfl rfl)
theorem dX2_crumbles_16 : decode cX2_crumbles 16 = .ok (.aload_n 2, 1) := dk_44 (dk_at dksX2_crumbles_0 16 rfl rfl)
theorem dX2_crumbles_17 : decode cX2_crumbles 17 = .ok (.invokevirtual 299, 3) := dk_182 1 43 (dk_at dksX2_crumbles_0 17 rfl rfl)
theorem dX2_crumbles_20 : decode cX2_crumbles 20 = .ok (.ifCond .ne 131, 3) := dk_154 0 131 (dk_at dksX2_crumbles_0 20 rfl rfl)
theorem dX2_crumbles_23 : decode cX2_crumbles 23 = .ok (.aload_n 2, 1) := dk_44 (dk_at dksX2_crumbles_0 23 rfl rfl)
theorem dX2_crumbles_24 : decode cX2_crumbles 24 = .ok (.invokevirtual 300, 3) := dk_182 1 44 (dk_at dksX2_crumbles_1 0 rfl rfl)
theorem dX2_crumbles_27 : decode cX2_crumbles 27 = .ok (.checkcast 108, 3) := dk_192 0 108 (dk_at dksX2_crumbles_1 3 rfl rfl)
theorem dX2_crumbles_30 : decode cX2_crumbles 30 = .ok (.invokevirtual 197, 3) := dk_182 0 197 (dk_at dksX2_crumbles_1 6 rfl rfl)
theorem dX2_crumbles_33 : decode cX2_crumbles 33 = .ok (.istore_n 3, 1) := dk_62 (dk_at dksX2_crumbles_1 9 rfl rfl)
theorem dX2_crumbles_34 : decode cX2_crumbles 34 = .ok (.aload_n 0, 1) := dk_42 (dk_at dksX2_crumbles_1 10 rfl rfl)
theorem dX2_crumbles_35 : decode cX2_crumbles 35 = .ok (.iload_n 3, 1) := dk_29 (dk_at dksX2_crumbles_1 11 rfl rfl)
theorem dX2_crumbles_36 : decode cX2_crumbles 36 = .ok (.invokevirtual 301, 3) := dk_182 1 45 (dk_at dksX2_crumbles_1 12 rfl rfl)
theorem dX2_crumbles_39 : decode cX2_crumbles 39 = .ok (.iconst 0, 1) := dk_3 (dk_at dksX2_crumbles_1 15 rfl rfl)
theorem dX2_crumbles_40 : decode cX2_crumbles 40 = .ok (.istore 4, 2) := dk_54 4 (dk_at dksX2_crumbles_1 16 rfl rfl)
theorem dX2_crumbles_42 : decode cX2_crumbles 42 = .ok (.iload 4, 2) := dk_21 4 (dk_at dksX2_crumbles_1 18 rfl rfl)
theorem dX2_crumbles_44 : decode cX2_crumbles 44 = .ok (.aload_n 0, 1) := dk_42 (dk_at dksX2_crumbles_1 20 rfl rfl)
theorem dX2_crumbles_45 : decode cX2_crumbles 45 = .ok (.getfield 32, 3) := dk_180 0 32 (dk_at dksX2_crumbles_1 21 rfl rfl)
theorem dX2_crumbles_48 : decode cX2_crumbles 48 = .ok (.invokevirtual 75, 3) := dk_182 0 75 (dk_at dksX2_crumbles_2 0 rfl rfl)
theorem dX2_crumbles_51 : decode cX2_crumbles 51 = .ok (.if_icmp .ge 61, 3) := dk_162 0 61 (dk_at dksX2_crumbles_2 3 rfl rfl)
theorem dX2_crumbles_54 : decode cX2_crumbles 54 = .ok (.aload_n 0, 1) := dk_42 (dk_at dksX2_crumbles_2 6 rfl rfl)
theorem dX2_crumbles_55 : decode cX2_crumbles 55 = .ok (.getfield 32, 3) := dk_180 0 32 (dk_at dksX2_crumbles_2 7 rfl rfl)
theorem dX2_crumbles_58 : decode cX2_crumbles 58 = .ok (.iload 4, 2) := dk_21 4 (dk_at dksX2_crumbles_2 10 rfl rfl)
theorem dX2_crumbles_60 : decode cX2_crumbles 60 = .ok (.invokevirtual 79, 3) := dk_182 0 79 (dk_at dksX2_crumbles_2 12 rfl rfl)
theorem dX2_crumbles_63 : decode cX2_crumbles 63 = .ok (.checkcast 89, 3) := dk_192 0 89 (dk_at dksX2_crumbles_2 15 rfl rfl)
theorem dX2_crumbles_66 : decode cX2_crumbles 66 = .ok (.invokevirtual 165, 3) := dk_182 0 165 (dk_at dksX2_crumbles_2 18 rfl rfl)
theorem dX2_crumbles_69 : decode cX2_crumbles 69 = .ok (.ifCond .ne 37, 3) := dk_154 0 37 (dk_at dksX2_crumbles_2 21 rfl rfl)
theorem dX2_crumbles_72 : decode cX2_crumbles 72 = .ok (.aload_n 0, 1) := dk_42 (dk_at dksX2_crumbles_3 0 rfl rfl)
theorem dX2_crumbles_73 : decode cX2_crumbles 73 = .ok (.getfield 32, 3) := dk_180 0 32 (dk_at dksX2_crumbles_3 1 rfl rfl)
theorem dX2_crumbles_76 : decode cX2_crumbles 76 = .ok (.iload 4, 2) := dk_21 4 (dk_at dksX2_crumbles_3 4 rfl rfl)
theorem dX2_crumbles_78 : decode cX2_crumbles 78 = .ok (.invokevirtual 79, 3) := dk_182 0 79 (dk_at dksX2_crumbles_3 6 rfl rfl)
theorem dX2_crumbles_81 : decode cX2_crumbles 81 = .ok (.checkcast 89, 3) := dk_192 0 89 (dk_at dksX2_crumbles_3 9 rfl rfl)
theorem dX2_crumbles_84 : decode cX2_crumbles 84 = .ok (.getfield 171, 3) := dk_180 0 171 (dk_at dksX2_crumbles_3 12 rfl rfl)
theorem dX2_crumbles_87 : decode cX2_crumbles 87 = .ok (.iload_n 3, 1) := dk_29 (dk_at dksX2_crumbles_3 15 rfl rfl)
theorem dX2_crumbles_88 : decode cX2_crumbles 88 = .ok (.if_icmp .ne 18, 3) := dk_160 0 18 (dk_at dksX2_crumbles_3 16 rfl rfl)
theorem dX2_crumbles_91 : decode cX2_crumbles 91 = .ok (.aload_n 0, 1) := dk_42 (dk_at dksX2_crumbles_3 19 rfl rfl)
theorem dX2_crumbles_92 : decode cX2_crumbles 92 = .ok (.getfield 32, 3) := dk_180 0 32 (dk_at dksX2_crumbles_3 20 rfl rfl)
theorem dX2_crumbles_95 : decode cX2_crumbles 95 = .ok (.iload 4, 2) := dk_21 4 (dk_at dksX2_crumbles_4 0 rfl rfl)
theorem dX2_crumbles_97 : decode cX2_crumbles 97 = .ok (.invokevirtual 79, 3) := dk_182 0 79 (dk_at dksX2_crumbles_4 2 rfl rfl)
theorem dX2_crumbles_100 : decode cX2_crumbles 100 = .ok (.checkcast 89, 3) := dk_192 0 89 (dk_at dksX2_crumbles_4 5 rfl rfl)
theorem dX2_crumbles_103 : decode cX2_crumbles 103 = .ok (.invokevirtual 304, 3) := dk_182 1 48 (dk_at dksX2_crumbles_4 8 rfl rfl)
theorem dX2_crumbles_106 : decode cX2_crumbles 106 = .ok (.iinc 4 1, 3) := dk_132 4 1 (dk_at dksX2_crumbles_4 11 rfl rfl)
theorem dX2_crumbles_109 : decode cX2_crumbles 109 = .ok (.goto (-67), 3) := dk_167 255 189 (dk_at dksX2_crumbles_4 14 rfl rfl)
theorem dX2_crumbles_112 : decode cX2_crumbles 112 = .ok (.iconst 0, 1) := dk_3 (dk_at dksX2_crumbles_4 17 rfl rfl)
theorem dX2_crumbles_113 : decode cX2_crumbles 113 = .ok (.istore 4, 2) := dk_54 4 (dk_at dksX2_crumbles_4 18 rfl rfl)
theorem dX2_crumbles_115 : decode cX2_crumbles 115 = .ok (.iload 4, 2) := dk_21 4 (dk_at dksX2_crumbles_4 20 rfl rfl)
theorem dX2_crumbles_117 : decode cX2_crumbles 117 = .ok (.iconst 1, 1) := dk_4 (dk_at dksX2_crumbles_4 22 rfl rfl)
theorem dX2_crumbles_118 : decode cX2_crumbles 118 = .ok (.if_icmp .gt 30, 3) := dk_163 0 30 (dk_at dksX2_crumbles_5 0 rfl rfl)
theorem dX2_crumbles_121 : decode cX2_crumbles 121 = .ok (.aload_n 0, 1) := dk_42 (dk_at dksX2_crumbles_5 3 rfl rfl)
theorem dX2_crumbles_122 : decode cX2_crumbles 122 = .ok (.iload 4, 2) := dk_21 4 (dk_at dksX2_crumbles_5 4 rfl rfl)
theorem dX2_crumbles_124 : decode cX2_crumbles 124 = .ok (.invokevirtual 148, 3) := dk_182 0 148 (dk_at dksX2_crumbles_5 6 rfl rfl)
theorem dX2_crumbles_127 : decode cX2_crumbles 127 = .ok (.getfield 152, 3) := dk_180 0 152 (dk_at dksX2_crumbles_5 9 rfl rfl)
theorem dX2_crumbles_130 : decode cX2_crumbles 130 = .ok (.iload_n 3, 1) := dk_29 (dk_at dksX2_crumbles_5 12 rfl rfl)
theorem dX2_crumbles_131 : decode cX2_crumbles 131 = .ok (.if_icmp .ne 11, 3) := dk_160 0 11 (dk_at dksX2_crumbles_5 13 rfl rfl)
theorem dX2_crumbles_134 : decode cX2_crumbles 134 = .ok (.aload_n 0, 1) := dk_42 (dk_at dksX2_crumbles_5 16 rfl rfl)
theorem dX2_crumbles_135 : decode cX2_crumbles 135 = .ok (.iload 4, 2) := dk_21 4 (dk_at dksX2_crumbles_5 17 rfl rfl)
theorem dX2_crumbles_137 : decode cX2_crumbles 137 = .ok (.iload_n 3, 1) := dk_29 (dk_at dksX2_crumbles_5 19 rfl rfl)
theorem dX2_crumbles_138 : decode cX2_crumbles 138 = .ok (.aload_n 2, 1) := dk_44 (dk_at dksX2_crumbles_5 20 rfl rfl)
theorem dX2_crumbles_139 : decode cX2_crumbles 139 = .ok (.invokevirtual 307, 3) := dk_182 1 51 (dk_at dksX2_crumbles_5 21 rfl rfl)
theorem dX2_crumbles_142 : decode cX2_crumbles 142 = .ok (.iinc 4 1, 3) := dk_132 4 1 (dk_at dksX2_crumbles_6 0 rfl rfl)
theorem dX2_crumbles_145 : decode cX2_crumbles 145 = .ok (.goto (-30), 3) := dk_167 255 226 (dk_at dksX2_crumbles_6 3 rfl rfl)
theorem dX2_crumbles_148 : decode cX2_crumbles 148 = .ok (.goto (-132), 3) := dk_167 255 124 (dk_at dksX2_crumbles_6 6 rfl rfl)
theorem dX2_crumbles_151 : decode cX2_crumbles 151 = .ok (.return_, 1) := dk_177 (dk_at dksX2_crumbles_6 9 rfl rfl)
abbrev cX2_takesOut : ByteArray := prog_21_method_23_code
def yX2_takesOut : MethodName := ⟨RX2, "takesOut", "(I)V"⟩
def dkwX2_takesOut_1 : List UInt8 := [192, 0, 108, 182, 0, 197, 62, 29, 27, 160, 0, 9, 44, 185, 0, 216, 1, 0, 167, 255, 223, 177]
abbrev dktX2_takesOut_1 : List UInt8 := dkwX2_takesOut_1 ++ []
def dkwX2_takesOut_0 : List UInt8 := [42, 180, 0, 38, 182, 0, 94, 77, 44, 185, 0, 98, 1, 0, 153, 0, 30, 44, 185, 0, 104, 1, 0]
abbrev dktX2_takesOut_0 : List UInt8 := dkwX2_takesOut_0 ++ dktX2_takesOut_1
theorem dksX2_takesOut_0 : cX2_takesOut.data.toList.drop 0 = dktX2_takesOut_0 := by decide +kernel
theorem dksX2_takesOut_1 : cX2_takesOut.data.toList.drop 23 = dktX2_takesOut_1 := dk_seg dksX2_takesOut_0 23 rfl rfl
theorem dX2_takesOut_0 : decode cX2_takesOut 0 = .ok (.aload_n 0, 1) := dk_42 (dk_at dksX2_takesOut_0 0 rfl rfl)
theorem dX2_takesOut_1 : decode cX2_takesOut 1 = .ok (.getfield 38, 3) := dk_180 0 38 (dk_at dksX2_takesOut_0 1 rfl rfl)
theorem dX2_takesOut_4 : decode cX2_takesOut 4 = .ok (.invokevirtual 94, 3) := dk_182 0 94 (dk_at dksX2_takesOut_0 4 rfl rfl)
theorem dX2_takesOut_7 : decode cX2_takesOut 7 = .ok (.astore_n 2, 1) := dk_77 (dk_at dksX2_takesOut_0 7 rfl rfl)
theorem dX2_takesOut_8 : decode cX2_takesOut 8 = .ok (.aload_n 2, 1) := dk_44 (dk_at dksX2_takesOut_0 8 rfl rfl)
theorem dX2_takesOut_9 : decode cX2_takesOut 9 = .ok (.invokeinterface 98 1, 5) := by decide +kernel
theorem dX2_takesOut_14 : decode cX2_takesOut 14 = .ok (.ifCond .eq 30, 3) := dk_153 0 30 (dk_at dksX2_takesOut_0 14 rfl rfl)
theorem dX2_takesOut_17 : decode cX2_takesOut 17 = .ok (.aload_n 2, 1) := dk_44 (dk_at dksX2_takesOut_0 17 rfl rfl)
theorem dX2_takesOut_18 : decode cX2_takesOut 18 = .ok (.invokeinterface 104 1, 5) := by decide +kernel
theorem dX2_takesOut_23 : decode cX2_takesOut 23 = .ok (.checkcast 108, 3) := dk_192 0 108 (dk_at dksX2_takesOut_1 0 rfl rfl)
theorem dX2_takesOut_26 : decode cX2_takesOut 26 = .ok (.invokevirtual 197, 3) := dk_182 0 197 (dk_at dksX2_takesOut_1 3 rfl rfl)
theorem dX2_takesOut_29 : decode cX2_takesOut 29 = .ok (.istore_n 3, 1) := dk_62 (dk_at dksX2_takesOut_1 6 rfl rfl)
theorem dX2_takesOut_30 : decode cX2_takesOut 30 = .ok (.iload_n 3, 1) := dk_29 (dk_at dksX2_takesOut_1 7 rfl rfl)
theorem dX2_takesOut_31 : decode cX2_takesOut 31 = .ok (.iload_n 1, 1) := dk_27 (dk_at dksX2_takesOut_1 8 rfl rfl)
theorem dX2_takesOut_32 : decode cX2_takesOut 32 = .ok (.if_icmp .ne 9, 3) := dk_160 0 9 (dk_at dksX2_takesOut_1 9 rfl rfl)
theorem dX2_takesOut_35 : decode cX2_takesOut 35 = .ok (.aload_n 2, 1) := dk_44 (dk_at dksX2_takesOut_1 12 rfl rfl)
theorem dX2_takesOut_36 : decode cX2_takesOut 36 = .ok (.invokeinterface 216 1, 5) := by decide +kernel
theorem dX2_takesOut_41 : decode cX2_takesOut 41 = .ok (.goto (-33), 3) := dk_167 255 223 (dk_at dksX2_takesOut_1 18 rfl rfl)
theorem dX2_takesOut_44 : decode cX2_takesOut 44 = .ok (.return_, 1) := dk_177 (dk_at dksX2_takesOut_1 21 rfl rfl)
abbrev cX2_falls : ByteArray := prog_21_method_34_code
def yX2_falls : MethodName := ⟨RX2, "falls", "(IILjava/util/ArrayDeque;)V"⟩
def dkwX2_falls_5 : List UInt8 := [132, 5, 1, 167, 255, 207, 177]
abbrev dktX2_falls_5 : List UInt8 := dkwX2_falls_5 ++ []
def dkwX2_falls_4 : List UInt8 := [180, 0, 168, 27, 160, 0, 18, 42, 180, 0, 32, 21, 5, 182, 0, 79, 192, 0, 89, 182, 1, 48]
abbrev dktX2_falls_4 : List UInt8 := dkwX2_falls_4 ++ dktX2_falls_5
def dkwX2_falls_3 : List UInt8 := [21, 5, 42, 180, 0, 32, 182, 0, 75, 162, 0, 43, 42, 180, 0, 32, 21, 5, 182, 0, 79, 192, 0, 89]
abbrev dktX2_falls_3 : List UInt8 := dkwX2_falls_3 ++ dktX2_falls_4
def dkwX2_falls_2 : List UInt8 := [177, 42, 27, 182, 0, 148, 2, 5, 182, 1, 12, 42, 89, 180, 0, 135, 4, 96, 181, 0, 135, 3, 54, 5]
abbrev dktX2_falls_2 : List UInt8 := dkwX2_falls_2 ++ dktX2_falls_3
def dkwX2_falls_1 : List UInt8 := [159, 0, 25, 42, 27, 182, 0, 148, 21, 4, 4, 182, 1, 12, 42, 89, 180, 0, 132, 4, 96, 181, 0, 132]
abbrev dktX2_falls_1 : List UInt8 := dkwX2_falls_1 ++ dktX2_falls_2
def dkwX2_falls_0 : List UInt8 := [27, 154, 0, 12, 42, 28, 45, 182, 1, 55, 167, 0, 7, 42, 182, 1, 59, 54, 4, 21, 4, 2]
abbrev dktX2_falls_0 : List UInt8 := dkwX2_falls_0 ++ dktX2_falls_1
theorem dksX2_falls_0 : cX2_falls.data.toList.drop 0 = dktX2_falls_0 := by decide +kernel
theorem dksX2_falls_1 : cX2_falls.data.toList.drop 22 = dktX2_falls_1 := dk_seg dksX2_falls_0 22 rfl rfl
theorem dksX2_falls_2 : cX2_falls.data.toList.drop 46 = dktX2_falls_2 := dk_seg dksX2_falls_1 24 rfl rfl
theorem dksX2_falls_3 : cX2_falls.data.toList.drop 70 = dktX2_falls_3 := dk_seg dksX2_falls_2 24 rfl rfl
theorem dksX2_falls_4 : cX2_falls.data.toList.drop 94 = dktX2_falls_4 := dk_seg dksX2_falls_3 24 rfl rfl
theorem dksX2_falls_5 : cX2_falls.data.toList.drop 116 = dktX2_falls_5 := dk_seg dksX2_falls_4 22 rfl rfl
theorem dX2_falls_0 : decode cX2_falls 0 = .ok (.iload_n 1, 1) := dk_27 (dk_at dksX2_falls_0 0 rfl rfl)
theorem dX2_falls_1 : decode cX2_falls 1 = .ok (.ifCond .ne 12, 3) := dk_154 0 12 (dk_at dksX2_falls_0 1 rfl rfl)
theorem dX2_falls_4 : decode cX2_falls 4 = .ok (.aload_n 0, 1) := dk_42 (dk_at dksX2_falls_0 4 rfl rfl)
theorem dX2_falls_5 : decode cX2_falls 5 = .ok (.iload_n 2, 1) := dk_28 (dk_at dksX2_falls_0 5 rfl rfl)
theorem dX2_falls_6 : decode cX2_falls 6 = .ok (.aload_n 3, 1) := dk_45 (dk_at dksX2_falls_0 6 rfl rfl)
theorem dX2_falls_7 : decode cX2_falls 7 = .ok (.invokevirtual 311, 3) := dk_182 1 55 (dk_at dksX2_falls_0 7 rfl rfl)
theorem dX2_falls_10 : decode cX2_falls 10 = .ok (.goto 7, 3) := dk_167 0 7 (dk_at dksX2_falls_0 10 rfl rfl)
theorem dX2_falls_13 : decode cX2_falls 13 = .ok (.aload_n 0, 1) := dk_42 (dk_at dksX2_falls_0 13 rfl rfl)
theorem dX2_falls_14 : decode cX2_falls 14 = .ok (.invokevirtual 315, 3) := dk_182 1 59 (dk_at dksX2_falls_0 14 rfl rfl)
theorem dX2_falls_17 : decode cX2_falls 17 = .ok (.istore 4, 2) := dk_54 4 (dk_at dksX2_falls_0 17 rfl rfl)
theorem dX2_falls_19 : decode cX2_falls 19 = .ok (.iload 4, 2) := dk_21 4 (dk_at dksX2_falls_0 19 rfl rfl)
theorem dX2_falls_21 : decode cX2_falls 21 = .ok (.iconst (-1), 1) := dk_2 (dk_at dksX2_falls_0 21 rfl rfl)
theorem dX2_falls_22 : decode cX2_falls 22 = .ok (.if_icmp .eq 25, 3) := dk_159 0 25 (dk_at dksX2_falls_1 0 rfl rfl)
theorem dX2_falls_25 : decode cX2_falls 25 = .ok (.aload_n 0, 1) := dk_42 (dk_at dksX2_falls_1 3 rfl rfl)
theorem dX2_falls_26 : decode cX2_falls 26 = .ok (.iload_n 1, 1) := dk_27 (dk_at dksX2_falls_1 4 rfl rfl)
theorem dX2_falls_27 : decode cX2_falls 27 = .ok (.invokevirtual 148, 3) := dk_182 0 148 (dk_at dksX2_falls_1 5 rfl rfl)
theorem dX2_falls_30 : decode cX2_falls 30 = .ok (.iload 4, 2) := dk_21 4 (dk_at dksX2_falls_1 8 rfl rfl)
theorem dX2_falls_32 : decode cX2_falls 32 = .ok (.iconst 1, 1) := dk_4 (dk_at dksX2_falls_1 10 rfl rfl)
theorem dX2_falls_33 : decode cX2_falls 33 = .ok (.invokevirtual 268, 3) := dk_182 1 12 (dk_at dksX2_falls_1 11 rfl rfl)
theorem dX2_falls_36 : decode cX2_falls 36 = .ok (.aload_n 0, 1) := dk_42 (dk_at dksX2_falls_1 14 rfl rfl)
theorem dX2_falls_37 : decode cX2_falls 37 = .ok (.dup, 1) := dk_89 (dk_at dksX2_falls_1 15 rfl rfl)
theorem dX2_falls_38 : decode cX2_falls 38 = .ok (.getfield 132, 3) := dk_180 0 132 (dk_at dksX2_falls_1 16 rfl rfl)
theorem dX2_falls_41 : decode cX2_falls 41 = .ok (.iconst 1, 1) := dk_4 (dk_at dksX2_falls_1 19 rfl rfl)
theorem dX2_falls_42 : decode cX2_falls 42 = .ok (.iadd, 1) := dk_96 (dk_at dksX2_falls_1 20 rfl rfl)
theorem dX2_falls_43 : decode cX2_falls 43 = .ok (.putfield 132, 3) := dk_181 0 132 (dk_at dksX2_falls_1 21 rfl rfl)
theorem dX2_falls_46 : decode cX2_falls 46 = .ok (.return_, 1) := dk_177 (dk_at dksX2_falls_2 0 rfl rfl)
theorem dX2_falls_47 : decode cX2_falls 47 = .ok (.aload_n 0, 1) := dk_42 (dk_at dksX2_falls_2 1 rfl rfl)
theorem dX2_falls_48 : decode cX2_falls 48 = .ok (.iload_n 1, 1) := dk_27 (dk_at dksX2_falls_2 2 rfl rfl)
theorem dX2_falls_49 : decode cX2_falls 49 = .ok (.invokevirtual 148, 3) := dk_182 0 148 (dk_at dksX2_falls_2 3 rfl rfl)
theorem dX2_falls_52 : decode cX2_falls 52 = .ok (.iconst (-1), 1) := dk_2 (dk_at dksX2_falls_2 6 rfl rfl)
theorem dX2_falls_53 : decode cX2_falls 53 = .ok (.iconst 2, 1) := dk_5 (dk_at dksX2_falls_2 7 rfl rfl)
theorem dX2_falls_54 : decode cX2_falls 54 = .ok (.invokevirtual 268, 3) := dk_182 1 12 (dk_at dksX2_falls_2 8 rfl rfl)
theorem dX2_falls_57 : decode cX2_falls 57 = .ok (.aload_n 0, 1) := dk_42 (dk_at dksX2_falls_2 11 rfl rfl)
theorem dX2_falls_58 : decode cX2_falls 58 = .ok (.dup, 1) := dk_89 (dk_at dksX2_falls_2 12 rfl rfl)
theorem dX2_falls_59 : decode cX2_falls 59 = .ok (.getfield 135, 3) := dk_180 0 135 (dk_at dksX2_falls_2 13 rfl rfl)
theorem dX2_falls_62 : decode cX2_falls 62 = .ok (.iconst 1, 1) := dk_4 (dk_at dksX2_falls_2 16 rfl rfl)
theorem dX2_falls_63 : decode cX2_falls 63 = .ok (.iadd, 1) := dk_96 (dk_at dksX2_falls_2 17 rfl rfl)
theorem dX2_falls_64 : decode cX2_falls 64 = .ok (.putfield 135, 3) := dk_181 0 135 (dk_at dksX2_falls_2 18 rfl rfl)
theorem dX2_falls_67 : decode cX2_falls 67 = .ok (.iconst 0, 1) := dk_3 (dk_at dksX2_falls_2 21 rfl rfl)
theorem dX2_falls_68 : decode cX2_falls 68 = .ok (.istore 5, 2) := dk_54 5 (dk_at dksX2_falls_2 22 rfl rfl)
theorem dX2_falls_70 : decode cX2_falls 70 = .ok (.iload 5, 2) := dk_21 5 (dk_at dksX2_falls_3 0 rfl rfl)
theorem dX2_falls_72 : decode cX2_falls 72 = .ok (.aload_n 0, 1) := dk_42 (dk_at dksX2_falls_3 2 rfl rfl)
theorem dX2_falls_73 : decode cX2_falls 73 = .ok (.getfield 32, 3) := dk_180 0 32 (dk_at dksX2_falls_3 3 rfl rfl)
theorem dX2_falls_76 : decode cX2_falls 76 = .ok (.invokevirtual 75, 3) := dk_182 0 75 (dk_at dksX2_falls_3 6 rfl rfl)
theorem dX2_falls_79 : decode cX2_falls 79 = .ok (.if_icmp .ge 43, 3) := dk_162 0 43 (dk_at dksX2_falls_3 9 rfl rfl)
theorem dX2_falls_82 : decode cX2_falls 82 = .ok (.aload_n 0, 1) := dk_42 (dk_at dksX2_falls_3 12 rfl rfl)
theorem dX2_falls_83 : decode cX2_falls 83 = .ok (.getfield 32, 3) := dk_180 0 32 (dk_at dksX2_falls_3 13 rfl rfl)
theorem dX2_falls_86 : decode cX2_falls 86 = .ok (.iload 5, 2) := dk_21 5 (dk_at dksX2_falls_3 16 rfl rfl)
theorem dX2_falls_88 : decode cX2_falls 88 = .ok (.invokevirtual 79, 3) := dk_182 0 79 (dk_at dksX2_falls_3 18 rfl rfl)
theorem dX2_falls_91 : decode cX2_falls 91 = .ok (.checkcast 89, 3) := dk_192 0 89 (dk_at dksX2_falls_3 21 rfl rfl)
theorem dX2_falls_94 : decode cX2_falls 94 = .ok (.getfield 168, 3) := dk_180 0 168 (dk_at dksX2_falls_4 0 rfl rfl)
theorem dX2_falls_97 : decode cX2_falls 97 = .ok (.iload_n 1, 1) := dk_27 (dk_at dksX2_falls_4 3 rfl rfl)
theorem dX2_falls_98 : decode cX2_falls 98 = .ok (.if_icmp .ne 18, 3) := dk_160 0 18 (dk_at dksX2_falls_4 4 rfl rfl)
theorem dX2_falls_101 : decode cX2_falls 101 = .ok (.aload_n 0, 1) := dk_42 (dk_at dksX2_falls_4 7 rfl rfl)
theorem dX2_falls_102 : decode cX2_falls 102 = .ok (.getfield 32, 3) := dk_180 0 32 (dk_at dksX2_falls_4 8 rfl rfl)
theorem dX2_falls_105 : decode cX2_falls 105 = .ok (.iload 5, 2) := dk_21 5 (dk_at dksX2_falls_4 11 rfl rfl)
theorem dX2_falls_107 : decode cX2_falls 107 = .ok (.invokevirtual 79, 3) := dk_182 0 79 (dk_at dksX2_falls_4 13 rfl rfl)
theorem dX2_falls_110 : decode cX2_falls 110 = .ok (.checkcast 89, 3) := dk_192 0 89 (dk_at dksX2_falls_4 16 rfl rfl)
theorem dX2_falls_113 : decode cX2_falls 113 = .ok (.invokevirtual 304, 3) := dk_182 1 48 (dk_at dksX2_falls_4 19 rfl rfl)
theorem dX2_falls_116 : decode cX2_falls 116 = .ok (.iinc 5 1, 3) := dk_132 5 1 (dk_at dksX2_falls_5 0 rfl rfl)
theorem dX2_falls_119 : decode cX2_falls 119 = .ok (.goto (-49), 3) := dk_167 255 207 (dk_at dksX2_falls_5 3 rfl rfl)
theorem dX2_falls_122 : decode cX2_falls 122 = .ok (.return_, 1) := dk_177 (dk_at dksX2_falls_5 6 rfl rfl)
abbrev cX2_catchesLeader : ByteArray := prog_21_method_36_code
def yX2_catchesLeader : MethodName := ⟨RX2, "catchesLeader", "(ILjava/util/ArrayDeque;)I"⟩
def dkwX2_catchesLeader_6 : List UInt8 := [29, 184, 0, 236, 182, 1, 42, 167, 255, 110, 2, 172]
abbrev dktX2_catchesLeader_6 : List UInt8 := dkwX2_catchesLeader_6 ++ []
def dkwX2_catchesLeader_5 : List UInt8 := [19, 1, 69, 106, 139, 182, 1, 18, 25, 4, 182, 0, 187, 154, 0, 5, 29, 172, 42, 29, 182, 1, 45, 44]
abbrev dktX2_catchesLeader_5 : List UInt8 := dkwX2_catchesLeader_5 ++ dktX2_catchesLeader_6
def dkwX2_catchesLeader_4 : List UInt8 := [11, 167, 0, 10, 21, 5, 134, 21, 6, 134, 110, 56, 7, 42, 23, 7, 182, 1, 65, 25, 4, 23, 7]
abbrev dktX2_catchesLeader_4 : List UInt8 := dkwX2_catchesLeader_4 ++ dktX2_catchesLeader_5
def dkwX2_catchesLeader_3 : List UInt8 := [182, 0, 201, 42, 180, 0, 28, 27, 182, 0, 79, 192, 0, 146, 182, 0, 203, 54, 6, 21, 6, 154, 0, 7]
abbrev dktX2_catchesLeader_3 : List UInt8 := dkwX2_catchesLeader_3 ++ dktX2_catchesLeader_4
def dkwX2_catchesLeader_2 : List UInt8 := [25, 4, 42, 180, 0, 28, 27, 182, 0, 79, 192, 0, 146, 182, 0, 180, 104, 54, 5, 42, 42, 4]
abbrev dktX2_catchesLeader_2 : List UInt8 := dkwX2_catchesLeader_2 ++ dktX2_catchesLeader_3
def dkwX2_catchesLeader_1 : List UInt8 := [182, 0, 232, 192, 0, 108, 182, 0, 197, 62, 42, 180, 0, 28, 29, 182, 0, 79, 192, 0, 80, 58, 4, 5]
abbrev dktX2_catchesLeader_1 : List UInt8 := dkwX2_catchesLeader_1 ++ dktX2_catchesLeader_2
def dkwX2_catchesLeader_0 : List UInt8 := [42, 180, 0, 38, 182, 0, 229, 154, 0, 142, 42, 4, 182, 1, 62, 153, 0, 134, 42, 180, 0, 38]
abbrev dktX2_catchesLeader_0 : List UInt8 := dkwX2_catchesLeader_0 ++ dktX2_catchesLeader_1
theorem dksX2_catchesLeader_0 : cX2_catchesLeader.data.toList.drop 0 = dktX2_catchesLeader_0 := by decide +kernel
theorem dksX2_catchesLeader_1 : cX2_catchesLeader.data.toList.drop 22 = dktX2_catchesLeader_1 := dk_seg dksX2_catchesLeader_0 22 rfl rfl
theorem dksX2_catchesLeader_2 : cX2_catchesLeader.data.toList.drop 46 = dktX2_catchesLeader_2 := dk_seg dksX2_catchesLeader_1 24 rfl rfl
theorem dksX2_catchesLeader_3 : cX2_catchesLeader.data.toList.drop 68 = dktX2_catchesLeader_3 := dk_seg dksX2_catchesLeader_2 22 rfl rfl
theorem dksX2_catchesLeader_4 : cX2_catchesLeader.data.toList.drop 92 = dktX2_catchesLeader_4 := dk_seg dksX2_catchesLeader_3 24 rfl rfl
theorem dksX2_catchesLeader_5 : cX2_catchesLeader.data.toList.drop 115 = dktX2_catchesLeader_5 := dk_seg dksX2_catchesLeader_4 23 rfl rfl
theorem dksX2_catchesLeader_6 : cX2_catchesLeader.data.toList.drop 139 = dktX2_catchesLeader_6 := dk_seg dksX2_catchesLeader_5 24 rfl rfl
theorem dX2_catchesLeader_0 : decode cX2_catchesLeader 0 = .ok (.aload_n 0, 1) := dk_42 (dk_at dksX2_catchesLeader_0 0 rfl rfl)
theorem dX2_catchesLeader_1 : decode cX2_catchesLeader 1 = .ok (.getfield 38, 3) := dk_180 0 38 (dk_at dksX2_catchesLeader_0 1 rfl rfl)
theorem dX2_catchesLeader_4 : decode cX2_catchesLeader 4 = .ok (.invokevirtual 229, 3) := dk_182 0 229 (dk_at dksX2_catchesLeader_0 4 rfl rfl)
theorem dX2_catchesLeader_7 : decode cX2_catchesLeader 7 = .ok (.ifCond .ne 142, 3) := dk_154 0 142 (dk_at dksX2_catchesLeader_0 7 rfl rfl)
theorem dX2_catchesLeader_10 : decode cX2_catchesLeader 10 = .ok (.aload_n 0, 1) := dk_42 (dk_at dksX2_catchesLeader_0 10 rfl rfl)
theorem dX2_catchesLeader_11 : decode cX2_catchesLeader 11 = .ok (.iconst 1, 1) := dk_4 (dk_at dksX2_catchesLeader_0 11 rfl rfl)
theorem dX2_catchesLeader_12 : decode cX2_catchesLeader 12 = .ok (.invokevirtual 318, 3) := dk_182 1 62 (dk_at dksX2_catchesLeader_0 12 rfl rfl)
theorem dX2_catchesLeader_15 : decode cX2_catchesLeader 15 = .ok (.ifCond .eq 134, 3) := dk_153 0 134 (dk_at dksX2_catchesLeader_0 15 rfl rfl)
theorem dX2_catchesLeader_18 : decode cX2_catchesLeader 18 = .ok (.aload_n 0, 1) := dk_42 (dk_at dksX2_catchesLeader_0 18 rfl rfl)
theorem dX2_catchesLeader_19 : decode cX2_catchesLeader 19 = .ok (.getfield 38, 3) := dk_180 0 38 (dk_at dksX2_catchesLeader_0 19 rfl rfl)
theorem dX2_catchesLeader_22 : decode cX2_catchesLeader 22 = .ok (.invokevirtual 232, 3) := dk_182 0 232 (dk_at dksX2_catchesLeader_1 0 rfl rfl)
theorem dX2_catchesLeader_25 : decode cX2_catchesLeader 25 = .ok (.checkcast 108, 3) := dk_192 0 108 (dk_at dksX2_catchesLeader_1 3 rfl rfl)
theorem dX2_catchesLeader_28 : decode cX2_catchesLeader 28 = .ok (.invokevirtual 197, 3) := dk_182 0 197 (dk_at dksX2_catchesLeader_1 6 rfl rfl)
theorem dX2_catchesLeader_31 : decode cX2_catchesLeader 31 = .ok (.istore_n 3, 1) := dk_62 (dk_at dksX2_catchesLeader_1 9 rfl rfl)
theorem dX2_catchesLeader_32 : decode cX2_catchesLeader 32 = .ok (.aload_n 0, 1) := dk_42 (dk_at dksX2_catchesLeader_1 10 rfl rfl)
theorem dX2_catchesLeader_33 : decode cX2_catchesLeader 33 = .ok (.getfield 28, 3) := dk_180 0 28 (dk_at dksX2_catchesLeader_1 11 rfl rfl)
theorem dX2_catchesLeader_36 : decode cX2_catchesLeader 36 = .ok (.iload_n 3, 1) := dk_29 (dk_at dksX2_catchesLeader_1 14 rfl rfl)
theorem dX2_catchesLeader_37 : decode cX2_catchesLeader 37 = .ok (.invokevirtual 79, 3) := dk_182 0 79 (dk_at dksX2_catchesLeader_1 15 rfl rfl)
theorem dX2_catchesLeader_40 : decode cX2_catchesLeader 40 = .ok (.checkcast 80, 3) := dk_192 0 80 (dk_at dksX2_catchesLeader_1 18 rfl rfl)
theorem dX2_catchesLeader_43 : decode cX2_catchesLeader 43 = .ok (.astore 4, 2) := dk_58 4 (dk_at dksX2_catchesLeader_1 21 rfl rfl)
theorem dX2_catchesLeader_45 : decode cX2_catchesLeader 45 = .ok (.iconst 2, 1) := dk_5 (dk_at dksX2_catchesLeader_1 23 rfl rfl)
theorem dX2_catchesLeader_46 : decode cX2_catchesLeader 46 = .ok (.aload 4, 2) := dk_25 4 (dk_at dksX2_catchesLeader_2 0 rfl rfl)
theorem dX2_catchesLeader_48 : decode cX2_catchesLeader 48 = .ok (.aload_n 0, 1) := dk_42 (dk_at dksX2_catchesLeader_2 2 rfl rfl)
theorem dX2_catchesLeader_49 : decode cX2_catchesLeader 49 = .ok (.getfield 28, 3) := dk_180 0 28 (dk_at dksX2_catchesLeader_2 3 rfl rfl)
theorem dX2_catchesLeader_52 : decode cX2_catchesLeader 52 = .ok (.iload_n 1, 1) := dk_27 (dk_at dksX2_catchesLeader_2 6 rfl rfl)
theorem dX2_catchesLeader_53 : decode cX2_catchesLeader 53 = .ok (.invokevirtual 79, 3) := dk_182 0 79 (dk_at dksX2_catchesLeader_2 7 rfl rfl)
theorem dX2_catchesLeader_56 : decode cX2_catchesLeader 56 = .ok (.checkcast 146, 3) := dk_192 0 146 (dk_at dksX2_catchesLeader_2 10 rfl rfl)
theorem dX2_catchesLeader_59 : decode cX2_catchesLeader 59 = .ok (.invokevirtual 180, 3) := dk_182 0 180 (dk_at dksX2_catchesLeader_2 13 rfl rfl)
theorem dX2_catchesLeader_62 : decode cX2_catchesLeader 62 = .ok (.imul, 1) := dk_104 (dk_at dksX2_catchesLeader_2 16 rfl rfl)
theorem dX2_catchesLeader_63 : decode cX2_catchesLeader 63 = .ok (.istore 5, 2) := dk_54 5 (dk_at dksX2_catchesLeader_2 17 rfl rfl)
theorem dX2_catchesLeader_65 : decode cX2_catchesLeader 65 = .ok (.aload_n 0, 1) := dk_42 (dk_at dksX2_catchesLeader_2 19 rfl rfl)
theorem dX2_catchesLeader_66 : decode cX2_catchesLeader 66 = .ok (.aload_n 0, 1) := dk_42 (dk_at dksX2_catchesLeader_2 20 rfl rfl)
theorem dX2_catchesLeader_67 : decode cX2_catchesLeader 67 = .ok (.iconst 1, 1) := dk_4 (dk_at dksX2_catchesLeader_2 21 rfl rfl)
theorem dX2_catchesLeader_68 : decode cX2_catchesLeader 68 = .ok (.invokevirtual 201, 3) := dk_182 0 201 (dk_at dksX2_catchesLeader_3 0 rfl rfl)
theorem dX2_catchesLeader_71 : decode cX2_catchesLeader 71 = .ok (.aload_n 0, 1) := dk_42 (dk_at dksX2_catchesLeader_3 3 rfl rfl)
theorem dX2_catchesLeader_72 : decode cX2_catchesLeader 72 = .ok (.getfield 28, 3) := dk_180 0 28 (dk_at dksX2_catchesLeader_3 4 rfl rfl)
theorem dX2_catchesLeader_75 : decode cX2_catchesLeader 75 = .ok (.iload_n 1, 1) := dk_27 (dk_at dksX2_catchesLeader_3 7 rfl rfl)
theorem dX2_catchesLeader_76 : decode cX2_catchesLeader 76 = .ok (.invokevirtual 79, 3) := dk_182 0 79 (dk_at dksX2_catchesLeader_3 8 rfl rfl)
theorem dX2_catchesLeader_79 : decode cX2_catchesLeader 79 = .ok (.checkcast 146, 3) := dk_192 0 146 (dk_at dksX2_catchesLeader_3 11 rfl rfl)
theorem dX2_catchesLeader_82 : decode cX2_catchesLeader 82 = .ok (.invokevirtual 203, 3) := dk_182 0 203 (dk_at dksX2_catchesLeader_3 14 rfl rfl)
theorem dX2_catchesLeader_85 : decode cX2_catchesLeader 85 = .ok (.istore 6, 2) := dk_54 6 (dk_at dksX2_catchesLeader_3 17 rfl rfl)
theorem dX2_catchesLeader_87 : decode cX2_catchesLeader 87 = .ok (.iload 6, 2) := dk_21 6 (dk_at dksX2_catchesLeader_3 19 rfl rfl)
theorem dX2_catchesLeader_89 : decode cX2_catchesLeader 89 = .ok (.ifCond .ne 7, 3) := dk_154 0 7 (dk_at dksX2_catchesLeader_3 21 rfl rfl)
theorem dX2_catchesLeader_92 : decode cX2_catchesLeader 92 = .ok (.fconst 0, 1) := dk_11 (dk_at dksX2_catchesLeader_4 0 rfl rfl)
theorem dX2_catchesLeader_93 : decode cX2_catchesLeader 93 = .ok (.goto 10, 3) := dk_167 0 10 (dk_at dksX2_catchesLeader_4 1 rfl rfl)
theorem dX2_catchesLeader_96 : decode cX2_catchesLeader 96 = .ok (.iload 5, 2) := dk_21 5 (dk_at dksX2_catchesLeader_4 4 rfl rfl)
theorem dX2_catchesLeader_98 : decode cX2_catchesLeader 98 = .ok (.i2f, 1) := dk_134 (dk_at dksX2_catchesLeader_4 6 rfl rfl)
theorem dX2_catchesLeader_99 : decode cX2_catchesLeader 99 = .ok (.iload 6, 2) := dk_21 6 (dk_at dksX2_catchesLeader_4 7 rfl rfl)
theorem dX2_catchesLeader_101 : decode cX2_catchesLeader 101 = .ok (.i2f, 1) := dk_134 (dk_at dksX2_catchesLeader_4 9 rfl rfl)
theorem dX2_catchesLeader_102 : decode cX2_catchesLeader 102 = .ok (.fdiv, 1) := dk_110 (dk_at dksX2_catchesLeader_4 10 rfl rfl)
theorem dX2_catchesLeader_103 : decode cX2_catchesLeader 103 = .ok (.fstore 7, 2) := dk_56 7 (dk_at dksX2_catchesLeader_4 11 rfl rfl)
theorem dX2_catchesLeader_105 : decode cX2_catchesLeader 105 = .ok (.aload_n 0, 1) := dk_42 (dk_at dksX2_catchesLeader_4 13 rfl rfl)
theorem dX2_catchesLeader_106 : decode cX2_catchesLeader 106 = .ok (.fload 7, 2) := dk_23 7 (dk_at dksX2_catchesLeader_4 14 rfl rfl)
theorem dX2_catchesLeader_108 : decode cX2_catchesLeader 108 = .ok (.invokevirtual 321, 3) := dk_182 1 65 (dk_at dksX2_catchesLeader_4 16 rfl rfl)
theorem dX2_catchesLeader_111 : decode cX2_catchesLeader 111 = .ok (.aload 4, 2) := dk_25 4 (dk_at dksX2_catchesLeader_4 19 rfl rfl)
theorem dX2_catchesLeader_113 : decode cX2_catchesLeader 113 = .ok (.fload 7, 2) := dk_23 7 (dk_at dksX2_catchesLeader_4 21 rfl rfl)
theorem dX2_catchesLeader_115 : decode cX2_catchesLeader 115 = .ok (.ldc_w 325, 3) := dk_19 1 69 (dk_at dksX2_catchesLeader_5 0 rfl rfl)
theorem dX2_catchesLeader_118 : decode cX2_catchesLeader 118 = .ok (.fmul, 1) := dk_106 (dk_at dksX2_catchesLeader_5 3 rfl rfl)
theorem dX2_catchesLeader_119 : decode cX2_catchesLeader 119 = .ok (.f2i, 1) := dk_139 (dk_at dksX2_catchesLeader_5 4 rfl rfl)
theorem dX2_catchesLeader_120 : decode cX2_catchesLeader 120 = .ok (.invokevirtual 274, 3) := dk_182 1 18 (dk_at dksX2_catchesLeader_5 5 rfl rfl)
theorem dX2_catchesLeader_123 : decode cX2_catchesLeader 123 = .ok (.aload 4, 2) := dk_25 4 (dk_at dksX2_catchesLeader_5 8 rfl rfl)
theorem dX2_catchesLeader_125 : decode cX2_catchesLeader 125 = .ok (.invokevirtual 187, 3) := dk_182 0 187 (dk_at dksX2_catchesLeader_5 10 rfl rfl)
theorem dX2_catchesLeader_128 : decode cX2_catchesLeader 128 = .ok (.ifCond .ne 5, 3) := dk_154 0 5 (dk_at dksX2_catchesLeader_5 13 rfl rfl)
theorem dX2_catchesLeader_131 : decode cX2_catchesLeader 131 = .ok (.iload_n 3, 1) := dk_29 (dk_at dksX2_catchesLeader_5 16 rfl rfl)
theorem dX2_catchesLeader_132 : decode cX2_catchesLeader 132 = .ok (.ireturn, 1) := dk_172 (dk_at dksX2_catchesLeader_5 17 rfl rfl)
theorem dX2_catchesLeader_133 : decode cX2_catchesLeader 133 = .ok (.aload_n 0, 1) := dk_42 (dk_at dksX2_catchesLeader_5 18 rfl rfl)
theorem dX2_catchesLeader_134 : decode cX2_catchesLeader 134 = .ok (.iload_n 3, 1) := dk_29 (dk_at dksX2_catchesLeader_5 19 rfl rfl)
theorem dX2_catchesLeader_135 : decode cX2_catchesLeader 135 = .ok (.invokevirtual 301, 3) := dk_182 1 45 (dk_at dksX2_catchesLeader_5 20 rfl rfl)
theorem dX2_catchesLeader_138 : decode cX2_catchesLeader 138 = .ok (.aload_n 2, 1) := dk_44 (dk_at dksX2_catchesLeader_5 23 rfl rfl)
theorem dX2_catchesLeader_139 : decode cX2_catchesLeader 139 = .ok (.iload_n 3, 1) := dk_29 (dk_at dksX2_catchesLeader_6 0 rfl rfl)
theorem dX2_catchesLeader_140 : decode cX2_catchesLeader 140 = .ok (.invokestatic 236, 3) := dk_184 0 236 (dk_at dksX2_catchesLeader_6 1 rfl rfl)
theorem dX2_catchesLeader_143 : decode cX2_catchesLeader 143 = .ok (.invokevirtual 298, 3) := dk_182 1 42 (dk_at dksX2_catchesLeader_6 4 rfl rfl)
theorem dX2_catchesLeader_146 : decode cX2_catchesLeader 146 = .ok (.goto (-146), 3) := dk_167 255 110 (dk_at dksX2_catchesLeader_6 7 rfl rfl)
theorem dX2_catchesLeader_149 : decode cX2_catchesLeader 149 = .ok (.iconst (-1), 1) := dk_2 (dk_at dksX2_catchesLeader_6 10 rfl rfl)
theorem dX2_catchesLeader_150 : decode cX2_catchesLeader 150 = .ok (.ireturn, 1) := dk_172 (dk_at dksX2_catchesLeader_6 11 rfl rfl)
abbrev cX2_keeps : ByteArray := prog_21_method_37_code
def yX2_keeps : MethodName := ⟨RX2, "keeps", "(F)V"⟩
def dkwX2_keeps_2 : List UInt8 := [180, 0, 120, 4, 96, 181, 0, 120, 177]
abbrev dktX2_keeps_2 : List UInt8 := dkwX2_keeps_2 ++ []
def dkwX2_keeps_1 : List UInt8 := [42, 89, 180, 0, 120, 4, 100, 181, 0, 120, 42, 180, 0, 49, 42, 180, 0, 120, 35, 81, 42, 89]
abbrev dktX2_keeps_1 : List UInt8 := dkwX2_keeps_1 ++ dktX2_keeps_2
def dkwX2_keeps_0 : List UInt8 := [42, 180, 0, 120, 16, 16, 160, 0, 28, 42, 180, 0, 49, 4, 42, 180, 0, 49, 3, 16, 15, 184, 0, 114]
abbrev dktX2_keeps_0 : List UInt8 := dkwX2_keeps_0 ++ dktX2_keeps_1
theorem dksX2_keeps_0 : cX2_keeps.data.toList.drop 0 = dktX2_keeps_0 := by decide +kernel
theorem dksX2_keeps_1 : cX2_keeps.data.toList.drop 24 = dktX2_keeps_1 := dk_seg dksX2_keeps_0 24 rfl rfl
theorem dksX2_keeps_2 : cX2_keeps.data.toList.drop 46 = dktX2_keeps_2 := dk_seg dksX2_keeps_1 22 rfl rfl
theorem dX2_keeps_0 : decode cX2_keeps 0 = .ok (.aload_n 0, 1) := dk_42 (dk_at dksX2_keeps_0 0 rfl rfl)
theorem dX2_keeps_1 : decode cX2_keeps 1 = .ok (.getfield 120, 3) := dk_180 0 120 (dk_at dksX2_keeps_0 1 rfl rfl)
theorem dX2_keeps_4 : decode cX2_keeps 4 = .ok (.bipush 16, 2) := dk_16 16 (dk_at dksX2_keeps_0 4 rfl rfl)
theorem dX2_keeps_6 : decode cX2_keeps 6 = .ok (.if_icmp .ne 28, 3) := dk_160 0 28 (dk_at dksX2_keeps_0 6 rfl rfl)
theorem dX2_keeps_9 : decode cX2_keeps 9 = .ok (.aload_n 0, 1) := dk_42 (dk_at dksX2_keeps_0 9 rfl rfl)
theorem dX2_keeps_10 : decode cX2_keeps 10 = .ok (.getfield 49, 3) := dk_180 0 49 (dk_at dksX2_keeps_0 10 rfl rfl)
theorem dX2_keeps_13 : decode cX2_keeps 13 = .ok (.iconst 1, 1) := dk_4 (dk_at dksX2_keeps_0 13 rfl rfl)
theorem dX2_keeps_14 : decode cX2_keeps 14 = .ok (.aload_n 0, 1) := dk_42 (dk_at dksX2_keeps_0 14 rfl rfl)
theorem dX2_keeps_15 : decode cX2_keeps 15 = .ok (.getfield 49, 3) := dk_180 0 49 (dk_at dksX2_keeps_0 15 rfl rfl)
theorem dX2_keeps_18 : decode cX2_keeps 18 = .ok (.iconst 0, 1) := dk_3 (dk_at dksX2_keeps_0 18 rfl rfl)
theorem dX2_keeps_19 : decode cX2_keeps 19 = .ok (.bipush 15, 2) := dk_16 15 (dk_at dksX2_keeps_0 19 rfl rfl)
theorem dX2_keeps_21 : decode cX2_keeps 21 = .ok (.invokestatic 114, 3) := dk_184 0 114 (dk_at dksX2_keeps_0 21 rfl rfl)
theorem dX2_keeps_24 : decode cX2_keeps 24 = .ok (.aload_n 0, 1) := dk_42 (dk_at dksX2_keeps_1 0 rfl rfl)
theorem dX2_keeps_25 : decode cX2_keeps 25 = .ok (.dup, 1) := dk_89 (dk_at dksX2_keeps_1 1 rfl rfl)
theorem dX2_keeps_26 : decode cX2_keeps 26 = .ok (.getfield 120, 3) := dk_180 0 120 (dk_at dksX2_keeps_1 2 rfl rfl)
theorem dX2_keeps_29 : decode cX2_keeps 29 = .ok (.iconst 1, 1) := dk_4 (dk_at dksX2_keeps_1 5 rfl rfl)
theorem dX2_keeps_30 : decode cX2_keeps 30 = .ok (.isub, 1) := dk_100 (dk_at dksX2_keeps_1 6 rfl rfl)
theorem dX2_keeps_31 : decode cX2_keeps 31 = .ok (.putfield 120, 3) := dk_181 0 120 (dk_at dksX2_keeps_1 7 rfl rfl)
theorem dX2_keeps_34 : decode cX2_keeps 34 = .ok (.aload_n 0, 1) := dk_42 (dk_at dksX2_keeps_1 10 rfl rfl)
theorem dX2_keeps_35 : decode cX2_keeps 35 = .ok (.getfield 49, 3) := dk_180 0 49 (dk_at dksX2_keeps_1 11 rfl rfl)
theorem dX2_keeps_38 : decode cX2_keeps 38 = .ok (.aload_n 0, 1) := dk_42 (dk_at dksX2_keeps_1 14 rfl rfl)
theorem dX2_keeps_39 : decode cX2_keeps 39 = .ok (.getfield 120, 3) := dk_180 0 120 (dk_at dksX2_keeps_1 15 rfl rfl)
theorem dX2_keeps_42 : decode cX2_keeps 42 = .ok (.fload_n 1, 1) := dk_35 (dk_at dksX2_keeps_1 18 rfl rfl)
theorem dX2_keeps_43 : decode cX2_keeps 43 = .ok (.fastore, 1) := dk_81 (dk_at dksX2_keeps_1 19 rfl rfl)
theorem dX2_keeps_44 : decode cX2_keeps 44 = .ok (.aload_n 0, 1) := dk_42 (dk_at dksX2_keeps_1 20 rfl rfl)
theorem dX2_keeps_45 : decode cX2_keeps 45 = .ok (.dup, 1) := dk_89 (dk_at dksX2_keeps_1 21 rfl rfl)
theorem dX2_keeps_46 : decode cX2_keeps 46 = .ok (.getfield 120, 3) := dk_180 0 120 (dk_at dksX2_keeps_2 0 rfl rfl)
theorem dX2_keeps_49 : decode cX2_keeps 49 = .ok (.iconst 1, 1) := dk_4 (dk_at dksX2_keeps_2 3 rfl rfl)
theorem dX2_keeps_50 : decode cX2_keeps 50 = .ok (.iadd, 1) := dk_96 (dk_at dksX2_keeps_2 4 rfl rfl)
theorem dX2_keeps_51 : decode cX2_keeps 51 = .ok (.putfield 120, 3) := dk_181 0 120 (dk_at dksX2_keeps_2 5 rfl rfl)
theorem dX2_keeps_54 : decode cX2_keeps 54 = .ok (.return_, 1) := dk_177 (dk_at dksX2_keeps_2 8 rfl rfl)
abbrev cX2_catchesFollower : ByteArray := prog_21_method_35_code
def yX2_catchesFollower : MethodName := ⟨RX2, "catchesFollower", "()I"⟩
def dkwX2_catchesFollower_1 : List UInt8 := [182, 0, 240, 192, 0, 108, 182, 0, 197, 167, 0, 4, 2, 172]
abbrev dktX2_catchesFollower_1 : List UInt8 := dkwX2_catchesFollower_1 ++ []
def dkwX2_catchesFollower_0 : List UInt8 := [42, 3, 182, 1, 62, 153, 0, 29, 42, 180, 0, 38, 182, 0, 229, 154, 0, 19, 42, 180, 0, 38]
abbrev dktX2_catchesFollower_0 : List UInt8 := dkwX2_catchesFollower_0 ++ dktX2_catchesFollower_1
theorem dksX2_catchesFollower_0 : cX2_catchesFollower.data.toList.drop 0 = dktX2_catchesFollower_0 := by decide +kernel
theorem dksX2_catchesFollower_1 : cX2_catchesFollower.data.toList.drop 22 = dktX2_catchesFollower_1 := dk_seg dksX2_catchesFollower_0 22 rfl rfl
theorem dX2_catchesFollower_0 : decode cX2_catchesFollower 0 = .ok (.aload_n 0, 1) := dk_42 (dk_at dksX2_catchesFollower_0 0 rfl rfl)
theorem dX2_catchesFollower_1 : decode cX2_catchesFollower 1 = .ok (.iconst 0, 1) := dk_3 (dk_at dksX2_catchesFollower_0 1 rfl rfl)
theorem dX2_catchesFollower_2 : decode cX2_catchesFollower 2 = .ok (.invokevirtual 318, 3) := dk_182 1 62 (dk_at dksX2_catchesFollower_0 2 rfl rfl)
theorem dX2_catchesFollower_5 : decode cX2_catchesFollower 5 = .ok (.ifCond .eq 29, 3) := dk_153 0 29 (dk_at dksX2_catchesFollower_0 5 rfl rfl)
theorem dX2_catchesFollower_8 : decode cX2_catchesFollower 8 = .ok (.aload_n 0, 1) := dk_42 (dk_at dksX2_catchesFollower_0 8 rfl rfl)
theorem dX2_catchesFollower_9 : decode cX2_catchesFollower 9 = .ok (.getfield 38, 3) := dk_180 0 38 (dk_at dksX2_catchesFollower_0 9 rfl rfl)
theorem dX2_catchesFollower_12 : decode cX2_catchesFollower 12 = .ok (.invokevirtual 229, 3) := dk_182 0 229 (dk_at dksX2_catchesFollower_0 12 rfl rfl)
theorem dX2_catchesFollower_15 : decode cX2_catchesFollower 15 = .ok (.ifCond .ne 19, 3) := dk_154 0 19 (dk_at dksX2_catchesFollower_0 15 rfl rfl)
theorem dX2_catchesFollower_18 : decode cX2_catchesFollower 18 = .ok (.aload_n 0, 1) := dk_42 (dk_at dksX2_catchesFollower_0 18 rfl rfl)
theorem dX2_catchesFollower_19 : decode cX2_catchesFollower 19 = .ok (.getfield 38, 3) := dk_180 0 38 (dk_at dksX2_catchesFollower_0 19 rfl rfl)
theorem dX2_catchesFollower_22 : decode cX2_catchesFollower 22 = .ok (.invokevirtual 240, 3) := dk_182 0 240 (dk_at dksX2_catchesFollower_1 0 rfl rfl)
theorem dX2_catchesFollower_25 : decode cX2_catchesFollower 25 = .ok (.checkcast 108, 3) := dk_192 0 108 (dk_at dksX2_catchesFollower_1 3 rfl rfl)
theorem dX2_catchesFollower_28 : decode cX2_catchesFollower 28 = .ok (.invokevirtual 197, 3) := dk_182 0 197 (dk_at dksX2_catchesFollower_1 6 rfl rfl)
theorem dX2_catchesFollower_31 : decode cX2_catchesFollower 31 = .ok (.goto 4, 3) := dk_167 0 4 (dk_at dksX2_catchesFollower_1 9 rfl rfl)
theorem dX2_catchesFollower_34 : decode cX2_catchesFollower 34 = .ok (.iconst (-1), 1) := dk_2 (dk_at dksX2_catchesFollower_1 12 rfl rfl)
theorem dX2_catchesFollower_35 : decode cX2_catchesFollower 35 = .ok (.ireturn, 1) := dk_172 (dk_at dksX2_catchesFollower_1 13 rfl rfl)
abbrev cX2_minute : ByteArray := prog_21_method_32_code
def yX2_minute : MethodName := ⟨RX2, "minute", "()V"⟩
def dkwX2_minute_1 : List UInt8 := [180, 0, 32, 27, 182, 0, 79, 192, 0, 89, 182, 1, 36, 132, 1, 1, 167, 255, 228, 177]
abbrev dktX2_minute_1 : List UInt8 := dkwX2_minute_1 ++ []
def dkwX2_minute_0 : List UInt8 := [42, 89, 180, 0, 123, 4, 96, 181, 0, 123, 3, 60, 27, 42, 180, 0, 32, 182, 0, 75, 162, 0, 23, 42]
abbrev dktX2_minute_0 : List UInt8 := dkwX2_minute_0 ++ dktX2_minute_1
theorem dksX2_minute_0 : cX2_minute.data.toList.drop 0 = dktX2_minute_0 := by decide +kernel
theorem dksX2_minute_1 : cX2_minute.data.toList.drop 24 = dktX2_minute_1 := dk_seg dksX2_minute_0 24 rfl rfl
theorem dX2_minute_0 : decode cX2_minute 0 = .ok (.aload_n 0, 1) := dk_42 (dk_at dksX2_minute_0 0 rfl rfl)
theorem dX2_minute_1 : decode cX2_minute 1 = .ok (.dup, 1) := dk_89 (dk_at dksX2_minute_0 1 rfl rfl)
theorem dX2_minute_2 : decode cX2_minute 2 = .ok (.getfield 123, 3) := dk_180 0 123 (dk_at dksX2_minute_0 2 rfl rfl)
theorem dX2_minute_5 : decode cX2_minute 5 = .ok (.iconst 1, 1) := dk_4 (dk_at dksX2_minute_0 5 rfl rfl)
theorem dX2_minute_6 : decode cX2_minute 6 = .ok (.iadd, 1) := dk_96 (dk_at dksX2_minute_0 6 rfl rfl)
theorem dX2_minute_7 : decode cX2_minute 7 = .ok (.putfield 123, 3) := dk_181 0 123 (dk_at dksX2_minute_0 7 rfl rfl)
theorem dX2_minute_10 : decode cX2_minute 10 = .ok (.iconst 0, 1) := dk_3 (dk_at dksX2_minute_0 10 rfl rfl)
theorem dX2_minute_11 : decode cX2_minute 11 = .ok (.istore_n 1, 1) := dk_60 (dk_at dksX2_minute_0 11 rfl rfl)
theorem dX2_minute_12 : decode cX2_minute 12 = .ok (.iload_n 1, 1) := dk_27 (dk_at dksX2_minute_0 12 rfl rfl)
theorem dX2_minute_13 : decode cX2_minute 13 = .ok (.aload_n 0, 1) := dk_42 (dk_at dksX2_minute_0 13 rfl rfl)
theorem dX2_minute_14 : decode cX2_minute 14 = .ok (.getfield 32, 3) := dk_180 0 32 (dk_at dksX2_minute_0 14 rfl rfl)
theorem dX2_minute_17 : decode cX2_minute 17 = .ok (.invokevirtual 75, 3) := dk_182 0 75 (dk_at dksX2_minute_0 17 rfl rfl)
theorem dX2_minute_20 : decode cX2_minute 20 = .ok (.if_icmp .ge 23, 3) := dk_162 0 23 (dk_at dksX2_minute_0 20 rfl rfl)
theorem dX2_minute_23 : decode cX2_minute 23 = .ok (.aload_n 0, 1) := dk_42 (dk_at dksX2_minute_0 23 rfl rfl)
theorem dX2_minute_24 : decode cX2_minute 24 = .ok (.getfield 32, 3) := dk_180 0 32 (dk_at dksX2_minute_1 0 rfl rfl)
theorem dX2_minute_27 : decode cX2_minute 27 = .ok (.iload_n 1, 1) := dk_27 (dk_at dksX2_minute_1 3 rfl rfl)
theorem dX2_minute_28 : decode cX2_minute 28 = .ok (.invokevirtual 79, 3) := dk_182 0 79 (dk_at dksX2_minute_1 4 rfl rfl)
theorem dX2_minute_31 : decode cX2_minute 31 = .ok (.checkcast 89, 3) := dk_192 0 89 (dk_at dksX2_minute_1 7 rfl rfl)
theorem dX2_minute_34 : decode cX2_minute 34 = .ok (.invokevirtual 292, 3) := dk_182 1 36 (dk_at dksX2_minute_1 10 rfl rfl)
theorem dX2_minute_37 : decode cX2_minute 37 = .ok (.iinc 1 1, 3) := dk_132 1 1 (dk_at dksX2_minute_1 13 rfl rfl)
theorem dX2_minute_40 : decode cX2_minute 40 = .ok (.goto (-28), 3) := dk_167 255 228 (dk_at dksX2_minute_1 16 rfl rfl)
theorem dX2_minute_43 : decode cX2_minute 43 = .ok (.return_, 1) := dk_177 (dk_at dksX2_minute_1 19 rfl rfl)
abbrev cX2_rests : ByteArray := prog_21_method_31_code
def yX2_rests : MethodName := ⟨RX2, "rests", "(I)I"⟩
def dkwX2_rests_2 : List UInt8 := [181, 0, 129, 42, 182, 1, 24, 44, 180, 1, 2, 172]
abbrev dktX2_rests_2 : List UInt8 := dkwX2_rests_2 ++ []
def dkwX2_rests_1 : List UInt8 := [184, 0, 222, 44, 42, 44, 180, 0, 152, 182, 1, 30, 182, 1, 33, 42, 89, 180, 0, 129, 4, 96]
abbrev dktX2_rests_1 : List UInt8 := dkwX2_rests_1 ++ dktX2_rests_2
def dkwX2_rests_0 : List UInt8 := [42, 27, 182, 0, 148, 77, 44, 182, 0, 219, 4, 3, 184, 0, 222, 44, 182, 0, 226, 16, 9, 3]
abbrev dktX2_rests_0 : List UInt8 := dkwX2_rests_0 ++ dktX2_rests_1
theorem dksX2_rests_0 : cX2_rests.data.toList.drop 0 = dktX2_rests_0 := by decide +kernel
theorem dksX2_rests_1 : cX2_rests.data.toList.drop 22 = dktX2_rests_1 := dk_seg dksX2_rests_0 22 rfl rfl
theorem dksX2_rests_2 : cX2_rests.data.toList.drop 44 = dktX2_rests_2 := dk_seg dksX2_rests_1 22 rfl rfl
theorem dX2_rests_0 : decode cX2_rests 0 = .ok (.aload_n 0, 1) := dk_42 (dk_at dksX2_rests_0 0 rfl rfl)
theorem dX2_rests_1 : decode cX2_rests 1 = .ok (.iload_n 1, 1) := dk_27 (dk_at dksX2_rests_0 1 rfl rfl)
theorem dX2_rests_2 : decode cX2_rests 2 = .ok (.invokevirtual 148, 3) := dk_182 0 148 (dk_at dksX2_rests_0 2 rfl rfl)
theorem dX2_rests_5 : decode cX2_rests 5 = .ok (.astore_n 2, 1) := dk_77 (dk_at dksX2_rests_0 5 rfl rfl)
theorem dX2_rests_6 : decode cX2_rests 6 = .ok (.aload_n 2, 1) := dk_44 (dk_at dksX2_rests_0 6 rfl rfl)
theorem dX2_rests_7 : decode cX2_rests 7 = .ok (.invokevirtual 219, 3) := dk_182 0 219 (dk_at dksX2_rests_0 7 rfl rfl)
theorem dX2_rests_10 : decode cX2_rests 10 = .ok (.iconst 1, 1) := dk_4 (dk_at dksX2_rests_0 10 rfl rfl)
theorem dX2_rests_11 : decode cX2_rests 11 = .ok (.iconst 0, 1) := dk_3 (dk_at dksX2_rests_0 11 rfl rfl)
theorem dX2_rests_12 : decode cX2_rests 12 = .ok (.invokestatic 222, 3) := dk_184 0 222 (dk_at dksX2_rests_0 12 rfl rfl)
theorem dX2_rests_15 : decode cX2_rests 15 = .ok (.aload_n 2, 1) := dk_44 (dk_at dksX2_rests_0 15 rfl rfl)
theorem dX2_rests_16 : decode cX2_rests 16 = .ok (.invokevirtual 226, 3) := dk_182 0 226 (dk_at dksX2_rests_0 16 rfl rfl)
theorem dX2_rests_19 : decode cX2_rests 19 = .ok (.bipush 9, 2) := dk_16 9 (dk_at dksX2_rests_0 19 rfl rfl)
theorem dX2_rests_21 : decode cX2_rests 21 = .ok (.iconst 0, 1) := dk_3 (dk_at dksX2_rests_0 21 rfl rfl)
theorem dX2_rests_22 : decode cX2_rests 22 = .ok (.invokestatic 222, 3) := dk_184 0 222 (dk_at dksX2_rests_1 0 rfl rfl)
theorem dX2_rests_25 : decode cX2_rests 25 = .ok (.aload_n 2, 1) := dk_44 (dk_at dksX2_rests_1 3 rfl rfl)
theorem dX2_rests_26 : decode cX2_rests 26 = .ok (.aload_n 0, 1) := dk_42 (dk_at dksX2_rests_1 4 rfl rfl)
theorem dX2_rests_27 : decode cX2_rests 27 = .ok (.aload_n 2, 1) := dk_44 (dk_at dksX2_rests_1 5 rfl rfl)
theorem dX2_rests_28 : decode cX2_rests 28 = .ok (.getfield 152, 3) := dk_180 0 152 (dk_at dksX2_rests_1 6 rfl rfl)
theorem dX2_rests_31 : decode cX2_rests 31 = .ok (.invokevirtual 286, 3) := dk_182 1 30 (dk_at dksX2_rests_1 9 rfl rfl)
theorem dX2_rests_34 : decode cX2_rests 34 = .ok (.invokevirtual 289, 3) := dk_182 1 33 (dk_at dksX2_rests_1 12 rfl rfl)
theorem dX2_rests_37 : decode cX2_rests 37 = .ok (.aload_n 0, 1) := dk_42 (dk_at dksX2_rests_1 15 rfl rfl)
theorem dX2_rests_38 : decode cX2_rests 38 = .ok (.dup, 1) := dk_89 (dk_at dksX2_rests_1 16 rfl rfl)
theorem dX2_rests_39 : decode cX2_rests 39 = .ok (.getfield 129, 3) := dk_180 0 129 (dk_at dksX2_rests_1 17 rfl rfl)
theorem dX2_rests_42 : decode cX2_rests 42 = .ok (.iconst 1, 1) := dk_4 (dk_at dksX2_rests_1 20 rfl rfl)
theorem dX2_rests_43 : decode cX2_rests 43 = .ok (.iadd, 1) := dk_96 (dk_at dksX2_rests_1 21 rfl rfl)
theorem dX2_rests_44 : decode cX2_rests 44 = .ok (.putfield 129, 3) := dk_181 0 129 (dk_at dksX2_rests_2 0 rfl rfl)
theorem dX2_rests_47 : decode cX2_rests 47 = .ok (.aload_n 0, 1) := dk_42 (dk_at dksX2_rests_2 3 rfl rfl)
theorem dX2_rests_48 : decode cX2_rests 48 = .ok (.invokevirtual 280, 3) := dk_182 1 24 (dk_at dksX2_rests_2 4 rfl rfl)
theorem dX2_rests_51 : decode cX2_rests 51 = .ok (.aload_n 2, 1) := dk_44 (dk_at dksX2_rests_2 7 rfl rfl)
theorem dX2_rests_52 : decode cX2_rests 52 = .ok (.getfield 258, 3) := dk_180 1 2 (dk_at dksX2_rests_2 8 rfl rfl)
theorem dX2_rests_55 : decode cX2_rests 55 = .ok (.ireturn, 1) := dk_172 (dk_at dksX2_rests_2 11 rfl rfl)
abbrev cX2_restAt : ByteArray := prog_21_method_30_code
def yX2_restAt : MethodName := ⟨RX2, "restAt", "(I)I"⟩
def dkwX2_restAt_1 : List UInt8 := [172]
abbrev dktX2_restAt_1 : List UInt8 := dkwX2_restAt_1 ++ []
def dkwX2_restAt_0 : List UInt8 := [27, 2, 160, 0, 8, 16, 20, 167, 0, 17, 42, 180, 0, 28, 27, 182, 0, 79, 192, 0, 80, 182, 1, 27]
abbrev dktX2_restAt_0 : List UInt8 := dkwX2_restAt_0 ++ dktX2_restAt_1
theorem dksX2_restAt_0 : cX2_restAt.data.toList.drop 0 = dktX2_restAt_0 := by decide +kernel
theorem dksX2_restAt_1 : cX2_restAt.data.toList.drop 24 = dktX2_restAt_1 := dk_seg dksX2_restAt_0 24 rfl rfl
theorem dX2_restAt_0 : decode cX2_restAt 0 = .ok (.iload_n 1, 1) := dk_27 (dk_at dksX2_restAt_0 0 rfl rfl)
theorem dX2_restAt_1 : decode cX2_restAt 1 = .ok (.iconst (-1), 1) := dk_2 (dk_at dksX2_restAt_0 1 rfl rfl)
theorem dX2_restAt_2 : decode cX2_restAt 2 = .ok (.if_icmp .ne 8, 3) := dk_160 0 8 (dk_at dksX2_restAt_0 2 rfl rfl)
theorem dX2_restAt_5 : decode cX2_restAt 5 = .ok (.bipush 20, 2) := dk_16 20 (dk_at dksX2_restAt_0 5 rfl rfl)
theorem dX2_restAt_7 : decode cX2_restAt 7 = .ok (.goto 17, 3) := dk_167 0 17 (dk_at dksX2_restAt_0 7 rfl rfl)
theorem dX2_restAt_10 : decode cX2_restAt 10 = .ok (.aload_n 0, 1) := dk_42 (dk_at dksX2_restAt_0 10 rfl rfl)
theorem dX2_restAt_11 : decode cX2_restAt 11 = .ok (.getfield 28, 3) := dk_180 0 28 (dk_at dksX2_restAt_0 11 rfl rfl)
theorem dX2_restAt_14 : decode cX2_restAt 14 = .ok (.iload_n 1, 1) := dk_27 (dk_at dksX2_restAt_0 14 rfl rfl)
theorem dX2_restAt_15 : decode cX2_restAt 15 = .ok (.invokevirtual 79, 3) := dk_182 0 79 (dk_at dksX2_restAt_0 15 rfl rfl)
theorem dX2_restAt_18 : decode cX2_restAt 18 = .ok (.checkcast 80, 3) := dk_192 0 80 (dk_at dksX2_restAt_0 18 rfl rfl)
theorem dX2_restAt_21 : decode cX2_restAt 21 = .ok (.invokevirtual 283, 3) := dk_182 1 27 (dk_at dksX2_restAt_0 21 rfl rfl)
theorem dX2_restAt_24 : decode cX2_restAt 24 = .ok (.ireturn, 1) := dk_172 (dk_at dksX2_restAt_1 0 rfl rfl)
abbrev cX2_isOpen : ByteArray := prog_21_method_13_code
def yX2_isOpen : MethodName := ⟨RX2, "isOpen", "(I)Z"⟩
def dkwX2_isOpen_1 : List UInt8 := [180, 0, 28, 27, 182, 0, 79, 192, 0, 80, 182, 0, 190, 153, 0, 7, 4, 167, 0, 4, 3, 172]
abbrev dktX2_isOpen_1 : List UInt8 := dkwX2_isOpen_1 ++ []
def dkwX2_isOpen_0 : List UInt8 := [27, 2, 159, 0, 38, 42, 180, 0, 28, 27, 182, 0, 79, 192, 0, 80, 182, 0, 187, 154, 0, 25, 42, 42]
abbrev dktX2_isOpen_0 : List UInt8 := dkwX2_isOpen_0 ++ dktX2_isOpen_1
theorem dksX2_isOpen_0 : cX2_isOpen.data.toList.drop 0 = dktX2_isOpen_0 := by decide +kernel
theorem dksX2_isOpen_1 : cX2_isOpen.data.toList.drop 24 = dktX2_isOpen_1 := dk_seg dksX2_isOpen_0 24 rfl rfl
theorem dX2_isOpen_0 : decode cX2_isOpen 0 = .ok (.iload_n 1, 1) := dk_27 (dk_at dksX2_isOpen_0 0 rfl rfl)
theorem dX2_isOpen_1 : decode cX2_isOpen 1 = .ok (.iconst (-1), 1) := dk_2 (dk_at dksX2_isOpen_0 1 rfl rfl)
theorem dX2_isOpen_2 : decode cX2_isOpen 2 = .ok (.if_icmp .eq 38, 3) := dk_159 0 38 (dk_at dksX2_isOpen_0 2 rfl rfl)
theorem dX2_isOpen_5 : decode cX2_isOpen 5 = .ok (.aload_n 0, 1) := dk_42 (dk_at dksX2_isOpen_0 5 rfl rfl)
theorem dX2_isOpen_6 : decode cX2_isOpen 6 = .ok (.getfield 28, 3) := dk_180 0 28 (dk_at dksX2_isOpen_0 6 rfl rfl)
theorem dX2_isOpen_9 : decode cX2_isOpen 9 = .ok (.iload_n 1, 1) := dk_27 (dk_at dksX2_isOpen_0 9 rfl rfl)
theorem dX2_isOpen_10 : decode cX2_isOpen 10 = .ok (.invokevirtual 79, 3) := dk_182 0 79 (dk_at dksX2_isOpen_0 10 rfl rfl)
theorem dX2_isOpen_13 : decode cX2_isOpen 13 = .ok (.checkcast 80, 3) := dk_192 0 80 (dk_at dksX2_isOpen_0 13 rfl rfl)
theorem dX2_isOpen_16 : decode cX2_isOpen 16 = .ok (.invokevirtual 187, 3) := dk_182 0 187 (dk_at dksX2_isOpen_0 16 rfl rfl)
theorem dX2_isOpen_19 : decode cX2_isOpen 19 = .ok (.ifCond .ne 25, 3) := dk_154 0 25 (dk_at dksX2_isOpen_0 19 rfl rfl)
theorem dX2_isOpen_22 : decode cX2_isOpen 22 = .ok (.aload_n 0, 1) := dk_42 (dk_at dksX2_isOpen_0 22 rfl rfl)
theorem dX2_isOpen_23 : decode cX2_isOpen 23 = .ok (.aload_n 0, 1) := dk_42 (dk_at dksX2_isOpen_0 23 rfl rfl)
theorem dX2_isOpen_24 : decode cX2_isOpen 24 = .ok (.getfield 28, 3) := dk_180 0 28 (dk_at dksX2_isOpen_1 0 rfl rfl)
theorem dX2_isOpen_27 : decode cX2_isOpen 27 = .ok (.iload_n 1, 1) := dk_27 (dk_at dksX2_isOpen_1 3 rfl rfl)
theorem dX2_isOpen_28 : decode cX2_isOpen 28 = .ok (.invokevirtual 79, 3) := dk_182 0 79 (dk_at dksX2_isOpen_1 4 rfl rfl)
theorem dX2_isOpen_31 : decode cX2_isOpen 31 = .ok (.checkcast 80, 3) := dk_192 0 80 (dk_at dksX2_isOpen_1 7 rfl rfl)
theorem dX2_isOpen_34 : decode cX2_isOpen 34 = .ok (.invokevirtual 190, 3) := dk_182 0 190 (dk_at dksX2_isOpen_1 10 rfl rfl)
theorem dX2_isOpen_37 : decode cX2_isOpen 37 = .ok (.ifCond .eq 7, 3) := dk_153 0 7 (dk_at dksX2_isOpen_1 13 rfl rfl)
theorem dX2_isOpen_40 : decode cX2_isOpen 40 = .ok (.iconst 1, 1) := dk_4 (dk_at dksX2_isOpen_1 16 rfl rfl)
theorem dX2_isOpen_41 : decode cX2_isOpen 41 = .ok (.goto 4, 3) := dk_167 0 4 (dk_at dksX2_isOpen_1 17 rfl rfl)
theorem dX2_isOpen_44 : decode cX2_isOpen 44 = .ok (.iconst 0, 1) := dk_3 (dk_at dksX2_isOpen_1 20 rfl rfl)
theorem dX2_isOpen_45 : decode cX2_isOpen 45 = .ok (.ireturn, 1) := dk_172 (dk_at dksX2_isOpen_1 21 rfl rfl)
abbrev cX2_clip : ByteArray := prog_21_method_25_code
def yX2_clip : MethodName := ⟨RX2, "clip", "()I"⟩
def dkwX2_clip_5 : List UInt8 := [180, 0, 152, 184, 0, 236, 182, 0, 110, 42, 180, 0, 38, 182, 0, 235, 172]
abbrev dktX2_clip_5 : List UInt8 := dkwX2_clip_5 ++ []
def dkwX2_clip_4 : List UInt8 := [182, 0, 235, 16, 8, 160, 0, 7, 4, 167, 0, 4, 3, 16, 12, 3, 184, 0, 222, 42, 180, 0, 38, 43]
abbrev dktX2_clip_4 : List UInt8 := dkwX2_clip_4 ++ dktX2_clip_5
def dkwX2_clip_3 : List UInt8 := [180, 0, 152, 160, 0, 7, 4, 167, 0, 4, 3, 16, 11, 43, 180, 0, 152, 184, 0, 222, 42, 180, 0, 38]
abbrev dktX2_clip_3 : List UInt8 := dkwX2_clip_3 ++ dktX2_clip_4
def dkwX2_clip_2 : List UInt8 := [180, 0, 38, 182, 0, 229, 154, 0, 27, 42, 180, 0, 38, 182, 0, 232, 192, 0, 108, 182, 0, 197, 43]
abbrev dktX2_clip_2 : List UInt8 := dkwX2_clip_2 ++ dktX2_clip_3
def dkwX2_clip_1 : List UInt8 := [184, 0, 222, 43, 180, 0, 152, 2, 160, 0, 7, 4, 167, 0, 4, 3, 16, 10, 3, 184, 0, 222, 42]
abbrev dktX2_clip_1 : List UInt8 := dkwX2_clip_1 ++ dktX2_clip_2
def dkwX2_clip_0 : List UInt8 := [42, 3, 182, 0, 148, 76, 43, 182, 0, 219, 4, 3, 184, 0, 222, 43, 182, 0, 226, 16, 9, 3]
abbrev dktX2_clip_0 : List UInt8 := dkwX2_clip_0 ++ dktX2_clip_1
theorem dksX2_clip_0 : cX2_clip.data.toList.drop 0 = dktX2_clip_0 := by decide +kernel
theorem dksX2_clip_1 : cX2_clip.data.toList.drop 22 = dktX2_clip_1 := dk_seg dksX2_clip_0 22 rfl rfl
theorem dksX2_clip_2 : cX2_clip.data.toList.drop 45 = dktX2_clip_2 := dk_seg dksX2_clip_1 23 rfl rfl
theorem dksX2_clip_3 : cX2_clip.data.toList.drop 68 = dktX2_clip_3 := dk_seg dksX2_clip_2 23 rfl rfl
theorem dksX2_clip_4 : cX2_clip.data.toList.drop 92 = dktX2_clip_4 := dk_seg dksX2_clip_3 24 rfl rfl
theorem dksX2_clip_5 : cX2_clip.data.toList.drop 116 = dktX2_clip_5 := dk_seg dksX2_clip_4 24 rfl rfl
theorem dX2_clip_0 : decode cX2_clip 0 = .ok (.aload_n 0, 1) := dk_42 (dk_at dksX2_clip_0 0 rfl rfl)
theorem dX2_clip_1 : decode cX2_clip 1 = .ok (.iconst 0, 1) := dk_3 (dk_at dksX2_clip_0 1 rfl rfl)
theorem dX2_clip_2 : decode cX2_clip 2 = .ok (.invokevirtual 148, 3) := dk_182 0 148 (dk_at dksX2_clip_0 2 rfl rfl)
theorem dX2_clip_5 : decode cX2_clip 5 = .ok (.astore_n 1, 1) := dk_76 (dk_at dksX2_clip_0 5 rfl rfl)
theorem dX2_clip_6 : decode cX2_clip 6 = .ok (.aload_n 1, 1) := dk_43 (dk_at dksX2_clip_0 6 rfl rfl)
theorem dX2_clip_7 : decode cX2_clip 7 = .ok (.invokevirtual 219, 3) := dk_182 0 219 (dk_at dksX2_clip_0 7 rfl rfl)
theorem dX2_clip_10 : decode cX2_clip 10 = .ok (.iconst 1, 1) := dk_4 (dk_at dksX2_clip_0 10 rfl rfl)
theorem dX2_clip_11 : decode cX2_clip 11 = .ok (.iconst 0, 1) := dk_3 (dk_at dksX2_clip_0 11 rfl rfl)
theorem dX2_clip_12 : decode cX2_clip 12 = .ok (.invokestatic 222, 3) := dk_184 0 222 (dk_at dksX2_clip_0 12 rfl rfl)
theorem dX2_clip_15 : decode cX2_clip 15 = .ok (.aload_n 1, 1) := dk_43 (dk_at dksX2_clip_0 15 rfl rfl)
theorem dX2_clip_16 : decode cX2_clip 16 = .ok (.invokevirtual 226, 3) := dk_182 0 226 (dk_at dksX2_clip_0 16 rfl rfl)
theorem dX2_clip_19 : decode cX2_clip 19 = .ok (.bipush 9, 2) := dk_16 9 (dk_at dksX2_clip_0 19 rfl rfl)
theorem dX2_clip_21 : decode cX2_clip 21 = .ok (.iconst 0, 1) := dk_3 (dk_at dksX2_clip_0 21 rfl rfl)
theorem dX2_clip_22 : decode cX2_clip 22 = .ok (.invokestatic 222, 3) := dk_184 0 222 (dk_at dksX2_clip_1 0 rfl rfl)
theorem dX2_clip_25 : decode cX2_clip 25 = .ok (.aload_n 1, 1) := dk_43 (dk_at dksX2_clip_1 3 rfl rfl)
theorem dX2_clip_26 : decode cX2_clip 26 = .ok (.getfield 152, 3) := dk_180 0 152 (dk_at dksX2_clip_1 4 rfl rfl)
theorem dX2_clip_29 : decode cX2_clip 29 = .ok (.iconst (-1), 1) := dk_2 (dk_at dksX2_clip_1 7 rfl rfl)
theorem dX2_clip_30 : decode cX2_clip 30 = .ok (.if_icmp .ne 7, 3) := dk_160 0 7 (dk_at dksX2_clip_1 8 rfl rfl)
theorem dX2_clip_33 : decode cX2_clip 33 = .ok (.iconst 1, 1) := dk_4 (dk_at dksX2_clip_1 11 rfl rfl)
theorem dX2_clip_34 : decode cX2_clip 34 = .ok (.goto 4, 3) := dk_167 0 4 (dk_at dksX2_clip_1 12 rfl rfl)
theorem dX2_clip_37 : decode cX2_clip 37 = .ok (.iconst 0, 1) := dk_3 (dk_at dksX2_clip_1 15 rfl rfl)
theorem dX2_clip_38 : decode cX2_clip 38 = .ok (.bipush 10, 2) := dk_16 10 (dk_at dksX2_clip_1 16 rfl rfl)
theorem dX2_clip_40 : decode cX2_clip 40 = .ok (.iconst 0, 1) := dk_3 (dk_at dksX2_clip_1 18 rfl rfl)
theorem dX2_clip_41 : decode cX2_clip 41 = .ok (.invokestatic 222, 3) := dk_184 0 222 (dk_at dksX2_clip_1 19 rfl rfl)
theorem dX2_clip_44 : decode cX2_clip 44 = .ok (.aload_n 0, 1) := dk_42 (dk_at dksX2_clip_1 22 rfl rfl)
theorem dX2_clip_45 : decode cX2_clip 45 = .ok (.getfield 38, 3) := dk_180 0 38 (dk_at dksX2_clip_2 0 rfl rfl)
theorem dX2_clip_48 : decode cX2_clip 48 = .ok (.invokevirtual 229, 3) := dk_182 0 229 (dk_at dksX2_clip_2 3 rfl rfl)
theorem dX2_clip_51 : decode cX2_clip 51 = .ok (.ifCond .ne 27, 3) := dk_154 0 27 (dk_at dksX2_clip_2 6 rfl rfl)
theorem dX2_clip_54 : decode cX2_clip 54 = .ok (.aload_n 0, 1) := dk_42 (dk_at dksX2_clip_2 9 rfl rfl)
theorem dX2_clip_55 : decode cX2_clip 55 = .ok (.getfield 38, 3) := dk_180 0 38 (dk_at dksX2_clip_2 10 rfl rfl)
theorem dX2_clip_58 : decode cX2_clip 58 = .ok (.invokevirtual 232, 3) := dk_182 0 232 (dk_at dksX2_clip_2 13 rfl rfl)
theorem dX2_clip_61 : decode cX2_clip 61 = .ok (.checkcast 108, 3) := dk_192 0 108 (dk_at dksX2_clip_2 16 rfl rfl)
theorem dX2_clip_64 : decode cX2_clip 64 = .ok (.invokevirtual 197, 3) := dk_182 0 197 (dk_at dksX2_clip_2 19 rfl rfl)
theorem dX2_clip_67 : decode cX2_clip 67 = .ok (.aload_n 1, 1) := dk_43 (dk_at dksX2_clip_2 22 rfl rfl)
theorem dX2_clip_68 : decode cX2_clip 68 = .ok (.getfield 152, 3) := dk_180 0 152 (dk_at dksX2_clip_3 0 rfl rfl)
theorem dX2_clip_71 : decode cX2_clip 71 = .ok (.if_icmp .ne 7, 3) := dk_160 0 7 (dk_at dksX2_clip_3 3 rfl rfl)
theorem dX2_clip_74 : decode cX2_clip 74 = .ok (.iconst 1, 1) := dk_4 (dk_at dksX2_clip_3 6 rfl rfl)
theorem dX2_clip_75 : decode cX2_clip 75 = .ok (.goto 4, 3) := dk_167 0 4 (dk_at dksX2_clip_3 7 rfl rfl)
theorem dX2_clip_78 : decode cX2_clip 78 = .ok (.iconst 0, 1) := dk_3 (dk_at dksX2_clip_3 10 rfl rfl)
theorem dX2_clip_79 : decode cX2_clip 79 = .ok (.bipush 11, 2) := dk_16 11 (dk_at dksX2_clip_3 11 rfl rfl)
theorem dX2_clip_81 : decode cX2_clip 81 = .ok (.aload_n 1, 1) := dk_43 (dk_at dksX2_clip_3 13 rfl rfl)
theorem dX2_clip_82 : decode cX2_clip 82 = .ok (.getfield 152, 3) := dk_180 0 152 (dk_at dksX2_clip_3 14 rfl rfl)
theorem dX2_clip_85 : decode cX2_clip 85 = .ok (.invokestatic 222, 3) := dk_184 0 222 (dk_at dksX2_clip_3 17 rfl rfl)
theorem dX2_clip_88 : decode cX2_clip 88 = .ok (.aload_n 0, 1) := dk_42 (dk_at dksX2_clip_3 20 rfl rfl)
theorem dX2_clip_89 : decode cX2_clip 89 = .ok (.getfield 38, 3) := dk_180 0 38 (dk_at dksX2_clip_3 21 rfl rfl)
theorem dX2_clip_92 : decode cX2_clip 92 = .ok (.invokevirtual 235, 3) := dk_182 0 235 (dk_at dksX2_clip_4 0 rfl rfl)
theorem dX2_clip_95 : decode cX2_clip 95 = .ok (.bipush 8, 2) := dk_16 8 (dk_at dksX2_clip_4 3 rfl rfl)
theorem dX2_clip_97 : decode cX2_clip 97 = .ok (.if_icmp .ne 7, 3) := dk_160 0 7 (dk_at dksX2_clip_4 5 rfl rfl)
theorem dX2_clip_100 : decode cX2_clip 100 = .ok (.iconst 1, 1) := dk_4 (dk_at dksX2_clip_4 8 rfl rfl)
theorem dX2_clip_101 : decode cX2_clip 101 = .ok (.goto 4, 3) := dk_167 0 4 (dk_at dksX2_clip_4 9 rfl rfl)
theorem dX2_clip_104 : decode cX2_clip 104 = .ok (.iconst 0, 1) := dk_3 (dk_at dksX2_clip_4 12 rfl rfl)
theorem dX2_clip_105 : decode cX2_clip 105 = .ok (.bipush 12, 2) := dk_16 12 (dk_at dksX2_clip_4 13 rfl rfl)
theorem dX2_clip_107 : decode cX2_clip 107 = .ok (.iconst 0, 1) := dk_3 (dk_at dksX2_clip_4 15 rfl rfl)
theorem dX2_clip_108 : decode cX2_clip 108 = .ok (.invokestatic 222, 3) := dk_184 0 222 (dk_at dksX2_clip_4 16 rfl rfl)
theorem dX2_clip_111 : decode cX2_clip 111 = .ok (.aload_n 0, 1) := dk_42 (dk_at dksX2_clip_4 19 rfl rfl)
theorem dX2_clip_112 : decode cX2_clip 112 = .ok (.getfield 38, 3) := dk_180 0 38 (dk_at dksX2_clip_4 20 rfl rfl)
theorem dX2_clip_115 : decode cX2_clip 115 = .ok (.aload_n 1, 1) := dk_43 (dk_at dksX2_clip_4 23 rfl rfl)
theorem dX2_clip_116 : decode cX2_clip 116 = .ok (.getfield 152, 3) := dk_180 0 152 (dk_at dksX2_clip_5 0 rfl rfl)
theorem dX2_clip_119 : decode cX2_clip 119 = .ok (.invokestatic 236, 3) := dk_184 0 236 (dk_at dksX2_clip_5 3 rfl rfl)
theorem dX2_clip_122 : decode cX2_clip 122 = .ok (.invokevirtual 110, 3) := dk_182 0 110 (dk_at dksX2_clip_5 6 rfl rfl)
theorem dX2_clip_125 : decode cX2_clip 125 = .ok (.aload_n 0, 1) := dk_42 (dk_at dksX2_clip_5 9 rfl rfl)
theorem dX2_clip_126 : decode cX2_clip 126 = .ok (.getfield 38, 3) := dk_180 0 38 (dk_at dksX2_clip_5 10 rfl rfl)
theorem dX2_clip_129 : decode cX2_clip 129 = .ok (.invokevirtual 235, 3) := dk_182 0 235 (dk_at dksX2_clip_5 13 rfl rfl)
theorem dX2_clip_132 : decode cX2_clip 132 = .ok (.ireturn, 1) := dk_172 (dk_at dksX2_clip_5 16 rfl rfl)
abbrev cX2_unclip : ByteArray := prog_21_method_26_code
def yX2_unclip : MethodName := ⟨RX2, "unclip", "()I"⟩
def dkwX2_unclip_4 : List UInt8 := [182, 0, 243, 192, 0, 108, 182, 0, 197, 61, 42, 180, 0, 38, 182, 0, 235, 172]
abbrev dktX2_unclip_4 : List UInt8 := dkwX2_unclip_4 ++ []
def dkwX2_unclip_3 : List UInt8 := [180, 0, 152, 159, 0, 7, 4, 167, 0, 4, 3, 16, 11, 43, 180, 0, 152, 184, 0, 222, 42, 180, 0, 38]
abbrev dktX2_unclip_3 : List UInt8 := dkwX2_unclip_3 ++ dktX2_unclip_4
def dkwX2_unclip_2 : List UInt8 := [180, 0, 38, 182, 0, 229, 154, 0, 23, 42, 180, 0, 38, 182, 0, 240, 192, 0, 108, 182, 0, 197, 43]
abbrev dktX2_unclip_2 : List UInt8 := dkwX2_unclip_2 ++ dktX2_unclip_3
def dkwX2_unclip_1 : List UInt8 := [184, 0, 222, 43, 180, 0, 152, 2, 160, 0, 7, 4, 167, 0, 4, 3, 16, 10, 3, 184, 0, 222, 42]
abbrev dktX2_unclip_1 : List UInt8 := dkwX2_unclip_1 ++ dktX2_unclip_2
def dkwX2_unclip_0 : List UInt8 := [42, 4, 182, 0, 148, 76, 43, 182, 0, 219, 4, 3, 184, 0, 222, 43, 182, 0, 226, 16, 9, 3]
abbrev dktX2_unclip_0 : List UInt8 := dkwX2_unclip_0 ++ dktX2_unclip_1
theorem dksX2_unclip_0 : cX2_unclip.data.toList.drop 0 = dktX2_unclip_0 := by decide +kernel
theorem dksX2_unclip_1 : cX2_unclip.data.toList.drop 22 = dktX2_unclip_1 := dk_seg dksX2_unclip_0 22 rfl rfl
theorem dksX2_unclip_2 : cX2_unclip.data.toList.drop 45 = dktX2_unclip_2 := dk_seg dksX2_unclip_1 23 rfl rfl
theorem dksX2_unclip_3 : cX2_unclip.data.toList.drop 68 = dktX2_unclip_3 := dk_seg dksX2_unclip_2 23 rfl rfl
theorem dksX2_unclip_4 : cX2_unclip.data.toList.drop 92 = dktX2_unclip_4 := dk_seg dksX2_unclip_3 24 rfl rfl
theorem dX2_unclip_0 : decode cX2_unclip 0 = .ok (.aload_n 0, 1) := dk_42 (dk_at dksX2_unclip_0 0 rfl rfl)
theorem dX2_unclip_1 : decode cX2_unclip 1 = .ok (.iconst 1, 1) := dk_4 (dk_at dksX2_unclip_0 1 rfl rfl)
theorem dX2_unclip_2 : decode cX2_unclip 2 = .ok (.invokevirtual 148, 3) := dk_182 0 148 (dk_at dksX2_unclip_0 2 rfl rfl)
theorem dX2_unclip_5 : decode cX2_unclip 5 = .ok (.astore_n 1, 1) := dk_76 (dk_at dksX2_unclip_0 5 rfl rfl)
theorem dX2_unclip_6 : decode cX2_unclip 6 = .ok (.aload_n 1, 1) := dk_43 (dk_at dksX2_unclip_0 6 rfl rfl)
theorem dX2_unclip_7 : decode cX2_unclip 7 = .ok (.invokevirtual 219, 3) := dk_182 0 219 (dk_at dksX2_unclip_0 7 rfl rfl)
theorem dX2_unclip_10 : decode cX2_unclip 10 = .ok (.iconst 1, 1) := dk_4 (dk_at dksX2_unclip_0 10 rfl rfl)
theorem dX2_unclip_11 : decode cX2_unclip 11 = .ok (.iconst 0, 1) := dk_3 (dk_at dksX2_unclip_0 11 rfl rfl)
theorem dX2_unclip_12 : decode cX2_unclip 12 = .ok (.invokestatic 222, 3) := dk_184 0 222 (dk_at dksX2_unclip_0 12 rfl rfl)
theorem dX2_unclip_15 : decode cX2_unclip 15 = .ok (.aload_n 1, 1) := dk_43 (dk_at dksX2_unclip_0 15 rfl rfl)
theorem dX2_unclip_16 : decode cX2_unclip 16 = .ok (.invokevirtual 226, 3) := dk_182 0 226 (dk_at dksX2_unclip_0 16 rfl rfl)
theorem dX2_unclip_19 : decode cX2_unclip 19 = .ok (.bipush 9, 2) := dk_16 9 (dk_at dksX2_unclip_0 19 rfl rfl)
theorem dX2_unclip_21 : decode cX2_unclip 21 = .ok (.iconst 0, 1) := dk_3 (dk_at dksX2_unclip_0 21 rfl rfl)
theorem dX2_unclip_22 : decode cX2_unclip 22 = .ok (.invokestatic 222, 3) := dk_184 0 222 (dk_at dksX2_unclip_1 0 rfl rfl)
theorem dX2_unclip_25 : decode cX2_unclip 25 = .ok (.aload_n 1, 1) := dk_43 (dk_at dksX2_unclip_1 3 rfl rfl)
theorem dX2_unclip_26 : decode cX2_unclip 26 = .ok (.getfield 152, 3) := dk_180 0 152 (dk_at dksX2_unclip_1 4 rfl rfl)
theorem dX2_unclip_29 : decode cX2_unclip 29 = .ok (.iconst (-1), 1) := dk_2 (dk_at dksX2_unclip_1 7 rfl rfl)
theorem dX2_unclip_30 : decode cX2_unclip 30 = .ok (.if_icmp .ne 7, 3) := dk_160 0 7 (dk_at dksX2_unclip_1 8 rfl rfl)
theorem dX2_unclip_33 : decode cX2_unclip 33 = .ok (.iconst 1, 1) := dk_4 (dk_at dksX2_unclip_1 11 rfl rfl)
theorem dX2_unclip_34 : decode cX2_unclip 34 = .ok (.goto 4, 3) := dk_167 0 4 (dk_at dksX2_unclip_1 12 rfl rfl)
theorem dX2_unclip_37 : decode cX2_unclip 37 = .ok (.iconst 0, 1) := dk_3 (dk_at dksX2_unclip_1 15 rfl rfl)
theorem dX2_unclip_38 : decode cX2_unclip 38 = .ok (.bipush 10, 2) := dk_16 10 (dk_at dksX2_unclip_1 16 rfl rfl)
theorem dX2_unclip_40 : decode cX2_unclip 40 = .ok (.iconst 0, 1) := dk_3 (dk_at dksX2_unclip_1 18 rfl rfl)
theorem dX2_unclip_41 : decode cX2_unclip 41 = .ok (.invokestatic 222, 3) := dk_184 0 222 (dk_at dksX2_unclip_1 19 rfl rfl)
theorem dX2_unclip_44 : decode cX2_unclip 44 = .ok (.aload_n 0, 1) := dk_42 (dk_at dksX2_unclip_1 22 rfl rfl)
theorem dX2_unclip_45 : decode cX2_unclip 45 = .ok (.getfield 38, 3) := dk_180 0 38 (dk_at dksX2_unclip_2 0 rfl rfl)
theorem dX2_unclip_48 : decode cX2_unclip 48 = .ok (.invokevirtual 229, 3) := dk_182 0 229 (dk_at dksX2_unclip_2 3 rfl rfl)
theorem dX2_unclip_51 : decode cX2_unclip 51 = .ok (.ifCond .ne 23, 3) := dk_154 0 23 (dk_at dksX2_unclip_2 6 rfl rfl)
theorem dX2_unclip_54 : decode cX2_unclip 54 = .ok (.aload_n 0, 1) := dk_42 (dk_at dksX2_unclip_2 9 rfl rfl)
theorem dX2_unclip_55 : decode cX2_unclip 55 = .ok (.getfield 38, 3) := dk_180 0 38 (dk_at dksX2_unclip_2 10 rfl rfl)
theorem dX2_unclip_58 : decode cX2_unclip 58 = .ok (.invokevirtual 240, 3) := dk_182 0 240 (dk_at dksX2_unclip_2 13 rfl rfl)
theorem dX2_unclip_61 : decode cX2_unclip 61 = .ok (.checkcast 108, 3) := dk_192 0 108 (dk_at dksX2_unclip_2 16 rfl rfl)
theorem dX2_unclip_64 : decode cX2_unclip 64 = .ok (.invokevirtual 197, 3) := dk_182 0 197 (dk_at dksX2_unclip_2 19 rfl rfl)
theorem dX2_unclip_67 : decode cX2_unclip 67 = .ok (.aload_n 1, 1) := dk_43 (dk_at dksX2_unclip_2 22 rfl rfl)
theorem dX2_unclip_68 : decode cX2_unclip 68 = .ok (.getfield 152, 3) := dk_180 0 152 (dk_at dksX2_unclip_3 0 rfl rfl)
theorem dX2_unclip_71 : decode cX2_unclip 71 = .ok (.if_icmp .eq 7, 3) := dk_159 0 7 (dk_at dksX2_unclip_3 3 rfl rfl)
theorem dX2_unclip_74 : decode cX2_unclip 74 = .ok (.iconst 1, 1) := dk_4 (dk_at dksX2_unclip_3 6 rfl rfl)
theorem dX2_unclip_75 : decode cX2_unclip 75 = .ok (.goto 4, 3) := dk_167 0 4 (dk_at dksX2_unclip_3 7 rfl rfl)
theorem dX2_unclip_78 : decode cX2_unclip 78 = .ok (.iconst 0, 1) := dk_3 (dk_at dksX2_unclip_3 10 rfl rfl)
theorem dX2_unclip_79 : decode cX2_unclip 79 = .ok (.bipush 11, 2) := dk_16 11 (dk_at dksX2_unclip_3 11 rfl rfl)
theorem dX2_unclip_81 : decode cX2_unclip 81 = .ok (.aload_n 1, 1) := dk_43 (dk_at dksX2_unclip_3 13 rfl rfl)
theorem dX2_unclip_82 : decode cX2_unclip 82 = .ok (.getfield 152, 3) := dk_180 0 152 (dk_at dksX2_unclip_3 14 rfl rfl)
theorem dX2_unclip_85 : decode cX2_unclip 85 = .ok (.invokestatic 222, 3) := dk_184 0 222 (dk_at dksX2_unclip_3 17 rfl rfl)
theorem dX2_unclip_88 : decode cX2_unclip 88 = .ok (.aload_n 0, 1) := dk_42 (dk_at dksX2_unclip_3 20 rfl rfl)
theorem dX2_unclip_89 : decode cX2_unclip 89 = .ok (.getfield 38, 3) := dk_180 0 38 (dk_at dksX2_unclip_3 21 rfl rfl)
theorem dX2_unclip_92 : decode cX2_unclip 92 = .ok (.invokevirtual 243, 3) := dk_182 0 243 (dk_at dksX2_unclip_4 0 rfl rfl)
theorem dX2_unclip_95 : decode cX2_unclip 95 = .ok (.checkcast 108, 3) := dk_192 0 108 (dk_at dksX2_unclip_4 3 rfl rfl)
theorem dX2_unclip_98 : decode cX2_unclip 98 = .ok (.invokevirtual 197, 3) := dk_182 0 197 (dk_at dksX2_unclip_4 6 rfl rfl)
theorem dX2_unclip_101 : decode cX2_unclip 101 = .ok (.istore_n 2, 1) := dk_61 (dk_at dksX2_unclip_4 9 rfl rfl)
theorem dX2_unclip_102 : decode cX2_unclip 102 = .ok (.aload_n 0, 1) := dk_42 (dk_at dksX2_unclip_4 10 rfl rfl)
theorem dX2_unclip_103 : decode cX2_unclip 103 = .ok (.getfield 38, 3) := dk_180 0 38 (dk_at dksX2_unclip_4 11 rfl rfl)
theorem dX2_unclip_106 : decode cX2_unclip 106 = .ok (.invokevirtual 235, 3) := dk_182 0 235 (dk_at dksX2_unclip_4 14 rfl rfl)
theorem dX2_unclip_109 : decode cX2_unclip 109 = .ok (.ireturn, 1) := dk_172 (dk_at dksX2_unclip_4 17 rfl rfl)
abbrev cX2_takes : ByteArray := prog_21_method_40_code
def yX2_takes : MethodName := ⟨RX2, "takes", "(II)I"⟩
def dkwX2_takes_3 : List UInt8 := [181, 0, 168, 42, 27, 182, 0, 246, 184, 0, 250, 172]
abbrev dktX2_takes_3 : List UInt8 := dkwX2_takes_3 ++ []
def dkwX2_takes_2 : List UInt8 := [27, 182, 0, 246, 184, 0, 250, 5, 160, 0, 7, 4, 167, 0, 4, 3, 16, 14, 3, 184, 0, 222, 45, 27]
abbrev dktX2_takes_2 : List UInt8 := dkwX2_takes_2 ++ dktX2_takes_3
def dkwX2_takes_1 : List UInt8 := [184, 0, 222, 42, 27, 45, 182, 1, 70, 154, 0, 7, 4, 167, 0, 4, 3, 16, 13, 28, 184, 0, 222, 42]
abbrev dktX2_takes_1 : List UInt8 := dkwX2_takes_1 ++ dktX2_takes_2
def dkwX2_takes_0 : List UInt8 := [42, 180, 0, 32, 28, 182, 0, 79, 192, 0, 89, 78, 42, 27, 182, 0, 148, 182, 0, 219, 4, 3]
abbrev dktX2_takes_0 : List UInt8 := dkwX2_takes_0 ++ dktX2_takes_1
theorem dksX2_takes_0 : cX2_takes.data.toList.drop 0 = dktX2_takes_0 := by decide +kernel
theorem dksX2_takes_1 : cX2_takes.data.toList.drop 22 = dktX2_takes_1 := dk_seg dksX2_takes_0 22 rfl rfl
theorem dksX2_takes_2 : cX2_takes.data.toList.drop 46 = dktX2_takes_2 := dk_seg dksX2_takes_1 24 rfl rfl
theorem dksX2_takes_3 : cX2_takes.data.toList.drop 70 = dktX2_takes_3 := dk_seg dksX2_takes_2 24 rfl rfl
theorem dX2_takes_0 : decode cX2_takes 0 = .ok (.aload_n 0, 1) := dk_42 (dk_at dksX2_takes_0 0 rfl rfl)
theorem dX2_takes_1 : decode cX2_takes 1 = .ok (.getfield 32, 3) := dk_180 0 32 (dk_at dksX2_takes_0 1 rfl rfl)
theorem dX2_takes_4 : decode cX2_takes 4 = .ok (.iload_n 2, 1) := dk_28 (dk_at dksX2_takes_0 4 rfl rfl)
theorem dX2_takes_5 : decode cX2_takes 5 = .ok (.invokevirtual 79, 3) := dk_182 0 79 (dk_at dksX2_takes_0 5 rfl rfl)
theorem dX2_takes_8 : decode cX2_takes 8 = .ok (.checkcast 89, 3) := dk_192 0 89 (dk_at dksX2_takes_0 8 rfl rfl)
theorem dX2_takes_11 : decode cX2_takes 11 = .ok (.astore_n 3, 1) := dk_78 (dk_at dksX2_takes_0 11 rfl rfl)
theorem dX2_takes_12 : decode cX2_takes 12 = .ok (.aload_n 0, 1) := dk_42 (dk_at dksX2_takes_0 12 rfl rfl)
theorem dX2_takes_13 : decode cX2_takes 13 = .ok (.iload_n 1, 1) := dk_27 (dk_at dksX2_takes_0 13 rfl rfl)
theorem dX2_takes_14 : decode cX2_takes 14 = .ok (.invokevirtual 148, 3) := dk_182 0 148 (dk_at dksX2_takes_0 14 rfl rfl)
theorem dX2_takes_17 : decode cX2_takes 17 = .ok (.invokevirtual 219, 3) := dk_182 0 219 (dk_at dksX2_takes_0 17 rfl rfl)
theorem dX2_takes_20 : decode cX2_takes 20 = .ok (.iconst 1, 1) := dk_4 (dk_at dksX2_takes_0 20 rfl rfl)
theorem dX2_takes_21 : decode cX2_takes 21 = .ok (.iconst 0, 1) := dk_3 (dk_at dksX2_takes_0 21 rfl rfl)
theorem dX2_takes_22 : decode cX2_takes 22 = .ok (.invokestatic 222, 3) := dk_184 0 222 (dk_at dksX2_takes_1 0 rfl rfl)
theorem dX2_takes_25 : decode cX2_takes 25 = .ok (.aload_n 0, 1) := dk_42 (dk_at dksX2_takes_1 3 rfl rfl)
theorem dX2_takes_26 : decode cX2_takes 26 = .ok (.iload_n 1, 1) := dk_27 (dk_at dksX2_takes_1 4 rfl rfl)
theorem dX2_takes_27 : decode cX2_takes 27 = .ok (.aload_n 3, 1) := dk_45 (dk_at dksX2_takes_1 5 rfl rfl)
theorem dX2_takes_28 : decode cX2_takes 28 = .ok (.invokevirtual 326, 3) := dk_182 1 70 (dk_at dksX2_takes_1 6 rfl rfl)
theorem dX2_takes_31 : decode cX2_takes 31 = .ok (.ifCond .ne 7, 3) := dk_154 0 7 (dk_at dksX2_takes_1 9 rfl rfl)
theorem dX2_takes_34 : decode cX2_takes 34 = .ok (.iconst 1, 1) := dk_4 (dk_at dksX2_takes_1 12 rfl rfl)
theorem dX2_takes_35 : decode cX2_takes 35 = .ok (.goto 4, 3) := dk_167 0 4 (dk_at dksX2_takes_1 13 rfl rfl)
theorem dX2_takes_38 : decode cX2_takes 38 = .ok (.iconst 0, 1) := dk_3 (dk_at dksX2_takes_1 16 rfl rfl)
theorem dX2_takes_39 : decode cX2_takes 39 = .ok (.bipush 13, 2) := dk_16 13 (dk_at dksX2_takes_1 17 rfl rfl)
theorem dX2_takes_41 : decode cX2_takes 41 = .ok (.iload_n 2, 1) := dk_28 (dk_at dksX2_takes_1 19 rfl rfl)
theorem dX2_takes_42 : decode cX2_takes 42 = .ok (.invokestatic 222, 3) := dk_184 0 222 (dk_at dksX2_takes_1 20 rfl rfl)
theorem dX2_takes_45 : decode cX2_takes 45 = .ok (.aload_n 0, 1) := dk_42 (dk_at dksX2_takes_1 23 rfl rfl)
theorem dX2_takes_46 : decode cX2_takes 46 = .ok (.iload_n 1, 1) := dk_27 (dk_at dksX2_takes_2 0 rfl rfl)
theorem dX2_takes_47 : decode cX2_takes 47 = .ok (.invokevirtual 246, 3) := dk_182 0 246 (dk_at dksX2_takes_2 1 rfl rfl)
theorem dX2_takes_50 : decode cX2_takes 50 = .ok (.invokestatic 250, 3) := dk_184 0 250 (dk_at dksX2_takes_2 4 rfl rfl)
theorem dX2_takes_53 : decode cX2_takes 53 = .ok (.iconst 2, 1) := dk_5 (dk_at dksX2_takes_2 7 rfl rfl)
theorem dX2_takes_54 : decode cX2_takes 54 = .ok (.if_icmp .ne 7, 3) := dk_160 0 7 (dk_at dksX2_takes_2 8 rfl rfl)
theorem dX2_takes_57 : decode cX2_takes 57 = .ok (.iconst 1, 1) := dk_4 (dk_at dksX2_takes_2 11 rfl rfl)
theorem dX2_takes_58 : decode cX2_takes 58 = .ok (.goto 4, 3) := dk_167 0 4 (dk_at dksX2_takes_2 12 rfl rfl)
theorem dX2_takes_61 : decode cX2_takes 61 = .ok (.iconst 0, 1) := dk_3 (dk_at dksX2_takes_2 15 rfl rfl)
theorem dX2_takes_62 : decode cX2_takes 62 = .ok (.bipush 14, 2) := dk_16 14 (dk_at dksX2_takes_2 16 rfl rfl)
theorem dX2_takes_64 : decode cX2_takes 64 = .ok (.iconst 0, 1) := dk_3 (dk_at dksX2_takes_2 18 rfl rfl)
theorem dX2_takes_65 : decode cX2_takes 65 = .ok (.invokestatic 222, 3) := dk_184 0 222 (dk_at dksX2_takes_2 19 rfl rfl)
theorem dX2_takes_68 : decode cX2_takes 68 = .ok (.aload_n 3, 1) := dk_45 (dk_at dksX2_takes_2 22 rfl rfl)
theorem dX2_takes_69 : decode cX2_takes 69 = .ok (.iload_n 1, 1) := dk_27 (dk_at dksX2_takes_2 23 rfl rfl)
theorem dX2_takes_70 : decode cX2_takes 70 = .ok (.putfield 168, 3) := dk_181 0 168 (dk_at dksX2_takes_3 0 rfl rfl)
theorem dX2_takes_73 : decode cX2_takes 73 = .ok (.aload_n 0, 1) := dk_42 (dk_at dksX2_takes_3 3 rfl rfl)
theorem dX2_takes_74 : decode cX2_takes 74 = .ok (.iload_n 1, 1) := dk_27 (dk_at dksX2_takes_3 4 rfl rfl)
theorem dX2_takes_75 : decode cX2_takes 75 = .ok (.invokevirtual 246, 3) := dk_182 0 246 (dk_at dksX2_takes_3 5 rfl rfl)
theorem dX2_takes_78 : decode cX2_takes 78 = .ok (.invokestatic 250, 3) := dk_184 0 250 (dk_at dksX2_takes_3 8 rfl rfl)
theorem dX2_takes_81 : decode cX2_takes 81 = .ok (.ireturn, 1) := dk_172 (dk_at dksX2_takes_3 11 rfl rfl)
abbrev cX2_liesWith : ByteArray := prog_21_method_39_code
def yX2_liesWith : MethodName := ⟨RX2, "liesWith", "(ILCrumblingWall$Lamp;)Z"⟩
def dkwX2_liesWith_1 : List UInt8 := [167, 0, 4, 3, 172]
abbrev dktX2_liesWith_1 : List UInt8 := dkwX2_liesWith_1 ++ []
def dkwX2_liesWith_0 : List UInt8 := [44, 182, 0, 165, 154, 0, 22, 44, 180, 0, 171, 42, 27, 182, 0, 148, 180, 0, 152, 160, 0, 7, 4]
abbrev dktX2_liesWith_0 : List UInt8 := dkwX2_liesWith_0 ++ dktX2_liesWith_1
theorem dksX2_liesWith_0 : cX2_liesWith.data.toList.drop 0 = dktX2_liesWith_0 := by decide +kernel
theorem dksX2_liesWith_1 : cX2_liesWith.data.toList.drop 23 = dktX2_liesWith_1 := dk_seg dksX2_liesWith_0 23 rfl rfl
theorem dX2_liesWith_0 : decode cX2_liesWith 0 = .ok (.aload_n 2, 1) := dk_44 (dk_at dksX2_liesWith_0 0 rfl rfl)
theorem dX2_liesWith_1 : decode cX2_liesWith 1 = .ok (.invokevirtual 165, 3) := dk_182 0 165 (dk_at dksX2_liesWith_0 1 rfl rfl)
theorem dX2_liesWith_4 : decode cX2_liesWith 4 = .ok (.ifCond .ne 22, 3) := dk_154 0 22 (dk_at dksX2_liesWith_0 4 rfl rfl)
theorem dX2_liesWith_7 : decode cX2_liesWith 7 = .ok (.aload_n 2, 1) := dk_44 (dk_at dksX2_liesWith_0 7 rfl rfl)
theorem dX2_liesWith_8 : decode cX2_liesWith 8 = .ok (.getfield 171, 3) := dk_180 0 171 (dk_at dksX2_liesWith_0 8 rfl rfl)
theorem dX2_liesWith_11 : decode cX2_liesWith 11 = .ok (.aload_n 0, 1) := dk_42 (dk_at dksX2_liesWith_0 11 rfl rfl)
theorem dX2_liesWith_12 : decode cX2_liesWith 12 = .ok (.iload_n 1, 1) := dk_27 (dk_at dksX2_liesWith_0 12 rfl rfl)
theorem dX2_liesWith_13 : decode cX2_liesWith 13 = .ok (.invokevirtual 148, 3) := dk_182 0 148 (dk_at dksX2_liesWith_0 13 rfl rfl)
theorem dX2_liesWith_16 : decode cX2_liesWith 16 = .ok (.getfield 152, 3) := dk_180 0 152 (dk_at dksX2_liesWith_0 16 rfl rfl)
theorem dX2_liesWith_19 : decode cX2_liesWith 19 = .ok (.if_icmp .ne 7, 3) := dk_160 0 7 (dk_at dksX2_liesWith_0 19 rfl rfl)
theorem dX2_liesWith_22 : decode cX2_liesWith 22 = .ok (.iconst 1, 1) := dk_4 (dk_at dksX2_liesWith_0 22 rfl rfl)
theorem dX2_liesWith_23 : decode cX2_liesWith 23 = .ok (.goto 4, 3) := dk_167 0 4 (dk_at dksX2_liesWith_1 0 rfl rfl)
theorem dX2_liesWith_26 : decode cX2_liesWith 26 = .ok (.iconst 0, 1) := dk_3 (dk_at dksX2_liesWith_1 3 rfl rfl)
theorem dX2_liesWith_27 : decode cX2_liesWith 27 = .ok (.ireturn, 1) := dk_172 (dk_at dksX2_liesWith_1 4 rfl rfl)
abbrev cX2_puts : ByteArray := prog_21_method_41_code
def yX2_puts : MethodName := ⟨RX2, "puts", "(II)I"⟩
def dkwX2_puts_3 : List UInt8 := [182, 0, 148, 180, 0, 152, 181, 0, 171, 42, 27, 182, 0, 246, 184, 0, 250, 172]
abbrev dktX2_puts_3 : List UInt8 := dkwX2_puts_3 ++ []
def dkwX2_puts_2 : List UInt8 := [154, 0, 7, 4, 167, 0, 4, 3, 16, 13, 28, 184, 0, 222, 45, 2, 181, 0, 168, 45, 42, 27]
abbrev dktX2_puts_2 : List UInt8 := dkwX2_puts_2 ++ dktX2_puts_3
def dkwX2_puts_1 : List UInt8 := [184, 0, 222, 42, 27, 182, 0, 148, 182, 0, 226, 16, 9, 3, 184, 0, 222, 42, 27, 45, 182, 1, 74]
abbrev dktX2_puts_1 : List UInt8 := dkwX2_puts_1 ++ dktX2_puts_2
def dkwX2_puts_0 : List UInt8 := [42, 180, 0, 32, 28, 182, 0, 79, 192, 0, 89, 78, 42, 27, 182, 0, 148, 182, 0, 219, 4, 3]
abbrev dktX2_puts_0 : List UInt8 := dkwX2_puts_0 ++ dktX2_puts_1
theorem dksX2_puts_0 : cX2_puts.data.toList.drop 0 = dktX2_puts_0 := by decide +kernel
theorem dksX2_puts_1 : cX2_puts.data.toList.drop 22 = dktX2_puts_1 := dk_seg dksX2_puts_0 22 rfl rfl
theorem dksX2_puts_2 : cX2_puts.data.toList.drop 45 = dktX2_puts_2 := dk_seg dksX2_puts_1 23 rfl rfl
theorem dksX2_puts_3 : cX2_puts.data.toList.drop 67 = dktX2_puts_3 := dk_seg dksX2_puts_2 22 rfl rfl
theorem dX2_puts_0 : decode cX2_puts 0 = .ok (.aload_n 0, 1) := dk_42 (dk_at dksX2_puts_0 0 rfl rfl)
theorem dX2_puts_1 : decode cX2_puts 1 = .ok (.getfield 32, 3) := dk_180 0 32 (dk_at dksX2_puts_0 1 rfl rfl)
theorem dX2_puts_4 : decode cX2_puts 4 = .ok (.iload_n 2, 1) := dk_28 (dk_at dksX2_puts_0 4 rfl rfl)
theorem dX2_puts_5 : decode cX2_puts 5 = .ok (.invokevirtual 79, 3) := dk_182 0 79 (dk_at dksX2_puts_0 5 rfl rfl)
theorem dX2_puts_8 : decode cX2_puts 8 = .ok (.checkcast 89, 3) := dk_192 0 89 (dk_at dksX2_puts_0 8 rfl rfl)
theorem dX2_puts_11 : decode cX2_puts 11 = .ok (.astore_n 3, 1) := dk_78 (dk_at dksX2_puts_0 11 rfl rfl)
theorem dX2_puts_12 : decode cX2_puts 12 = .ok (.aload_n 0, 1) := dk_42 (dk_at dksX2_puts_0 12 rfl rfl)
theorem dX2_puts_13 : decode cX2_puts 13 = .ok (.iload_n 1, 1) := dk_27 (dk_at dksX2_puts_0 13 rfl rfl)
theorem dX2_puts_14 : decode cX2_puts 14 = .ok (.invokevirtual 148, 3) := dk_182 0 148 (dk_at dksX2_puts_0 14 rfl rfl)
theorem dX2_puts_17 : decode cX2_puts 17 = .ok (.invokevirtual 219, 3) := dk_182 0 219 (dk_at dksX2_puts_0 17 rfl rfl)
theorem dX2_puts_20 : decode cX2_puts 20 = .ok (.iconst 1, 1) := dk_4 (dk_at dksX2_puts_0 20 rfl rfl)
theorem dX2_puts_21 : decode cX2_puts 21 = .ok (.iconst 0, 1) := dk_3 (dk_at dksX2_puts_0 21 rfl rfl)
theorem dX2_puts_22 : decode cX2_puts 22 = .ok (.invokestatic 222, 3) := dk_184 0 222 (dk_at dksX2_puts_1 0 rfl rfl)
theorem dX2_puts_25 : decode cX2_puts 25 = .ok (.aload_n 0, 1) := dk_42 (dk_at dksX2_puts_1 3 rfl rfl)
theorem dX2_puts_26 : decode cX2_puts 26 = .ok (.iload_n 1, 1) := dk_27 (dk_at dksX2_puts_1 4 rfl rfl)
theorem dX2_puts_27 : decode cX2_puts 27 = .ok (.invokevirtual 148, 3) := dk_182 0 148 (dk_at dksX2_puts_1 5 rfl rfl)
theorem dX2_puts_30 : decode cX2_puts 30 = .ok (.invokevirtual 226, 3) := dk_182 0 226 (dk_at dksX2_puts_1 8 rfl rfl)
theorem dX2_puts_33 : decode cX2_puts 33 = .ok (.bipush 9, 2) := dk_16 9 (dk_at dksX2_puts_1 11 rfl rfl)
theorem dX2_puts_35 : decode cX2_puts 35 = .ok (.iconst 0, 1) := dk_3 (dk_at dksX2_puts_1 13 rfl rfl)
theorem dX2_puts_36 : decode cX2_puts 36 = .ok (.invokestatic 222, 3) := dk_184 0 222 (dk_at dksX2_puts_1 14 rfl rfl)
theorem dX2_puts_39 : decode cX2_puts 39 = .ok (.aload_n 0, 1) := dk_42 (dk_at dksX2_puts_1 17 rfl rfl)
theorem dX2_puts_40 : decode cX2_puts 40 = .ok (.iload_n 1, 1) := dk_27 (dk_at dksX2_puts_1 18 rfl rfl)
theorem dX2_puts_41 : decode cX2_puts 41 = .ok (.aload_n 3, 1) := dk_45 (dk_at dksX2_puts_1 19 rfl rfl)
theorem dX2_puts_42 : decode cX2_puts 42 = .ok (.invokevirtual 330, 3) := dk_182 1 74 (dk_at dksX2_puts_1 20 rfl rfl)
theorem dX2_puts_45 : decode cX2_puts 45 = .ok (.ifCond .ne 7, 3) := dk_154 0 7 (dk_at dksX2_puts_2 0 rfl rfl)
theorem dX2_puts_48 : decode cX2_puts 48 = .ok (.iconst 1, 1) := dk_4 (dk_at dksX2_puts_2 3 rfl rfl)
theorem dX2_puts_49 : decode cX2_puts 49 = .ok (.goto 4, 3) := dk_167 0 4 (dk_at dksX2_puts_2 4 rfl rfl)
theorem dX2_puts_52 : decode cX2_puts 52 = .ok (.iconst 0, 1) := dk_3 (dk_at dksX2_puts_2 7 rfl rfl)
theorem dX2_puts_53 : decode cX2_puts 53 = .ok (.bipush 13, 2) := dk_16 13 (dk_at dksX2_puts_2 8 rfl rfl)
theorem dX2_puts_55 : decode cX2_puts 55 = .ok (.iload_n 2, 1) := dk_28 (dk_at dksX2_puts_2 10 rfl rfl)
theorem dX2_puts_56 : decode cX2_puts 56 = .ok (.invokestatic 222, 3) := dk_184 0 222 (dk_at dksX2_puts_2 11 rfl rfl)
theorem dX2_puts_59 : decode cX2_puts 59 = .ok (.aload_n 3, 1) := dk_45 (dk_at dksX2_puts_2 14 rfl rfl)
theorem dX2_puts_60 : decode cX2_puts 60 = .ok (.iconst (-1), 1) := dk_2 (dk_at dksX2_puts_2 15 rfl rfl)
theorem dX2_puts_61 : decode cX2_puts 61 = .ok (.putfield 168, 3) := dk_181 0 168 (dk_at dksX2_puts_2 16 rfl rfl)
theorem dX2_puts_64 : decode cX2_puts 64 = .ok (.aload_n 3, 1) := dk_45 (dk_at dksX2_puts_2 19 rfl rfl)
theorem dX2_puts_65 : decode cX2_puts 65 = .ok (.aload_n 0, 1) := dk_42 (dk_at dksX2_puts_2 20 rfl rfl)
theorem dX2_puts_66 : decode cX2_puts 66 = .ok (.iload_n 1, 1) := dk_27 (dk_at dksX2_puts_2 21 rfl rfl)
theorem dX2_puts_67 : decode cX2_puts 67 = .ok (.invokevirtual 148, 3) := dk_182 0 148 (dk_at dksX2_puts_3 0 rfl rfl)
theorem dX2_puts_70 : decode cX2_puts 70 = .ok (.getfield 152, 3) := dk_180 0 152 (dk_at dksX2_puts_3 3 rfl rfl)
theorem dX2_puts_73 : decode cX2_puts 73 = .ok (.putfield 171, 3) := dk_181 0 171 (dk_at dksX2_puts_3 6 rfl rfl)
theorem dX2_puts_76 : decode cX2_puts 76 = .ok (.aload_n 0, 1) := dk_42 (dk_at dksX2_puts_3 9 rfl rfl)
theorem dX2_puts_77 : decode cX2_puts 77 = .ok (.iload_n 1, 1) := dk_27 (dk_at dksX2_puts_3 10 rfl rfl)
theorem dX2_puts_78 : decode cX2_puts 78 = .ok (.invokevirtual 246, 3) := dk_182 0 246 (dk_at dksX2_puts_3 11 rfl rfl)
theorem dX2_puts_81 : decode cX2_puts 81 = .ok (.invokestatic 250, 3) := dk_184 0 250 (dk_at dksX2_puts_3 14 rfl rfl)
theorem dX2_puts_84 : decode cX2_puts 84 = .ok (.ireturn, 1) := dk_172 (dk_at dksX2_puts_3 17 rfl rfl)
abbrev cX2_isCarriedBy : ByteArray := prog_21_method_38_code
def yX2_isCarriedBy : MethodName := ⟨RX2, "isCarriedBy", "(ILCrumblingWall$Lamp;)Z"⟩
def dkwX2_isCarriedBy_0 : List UInt8 := [44, 180, 0, 168, 27, 160, 0, 7, 4, 167, 0, 4, 3, 172]
abbrev dktX2_isCarriedBy_0 : List UInt8 := dkwX2_isCarriedBy_0 ++ []
theorem dksX2_isCarriedBy_0 : cX2_isCarriedBy.data.toList.drop 0 = dktX2_isCarriedBy_0 := by decide +kernel
theorem dX2_isCarriedBy_0 : decode cX2_isCarriedBy 0 = .ok (.aload_n 2, 1) := dk_44 (dk_at dksX2_isCarriedBy_0 0 rfl rfl)
theorem dX2_isCarriedBy_1 : decode cX2_isCarriedBy 1 = .ok (.getfield 168, 3) := dk_180 0 168 (dk_at dksX2_isCarriedBy_0 1 rfl rfl)
theorem dX2_isCarriedBy_4 : decode cX2_isCarriedBy 4 = .ok (.iload_n 1, 1) := dk_27 (dk_at dksX2_isCarriedBy_0 4 rfl rfl)
theorem dX2_isCarriedBy_5 : decode cX2_isCarriedBy 5 = .ok (.if_icmp .ne 7, 3) := dk_160 0 7 (dk_at dksX2_isCarriedBy_0 5 rfl rfl)
theorem dX2_isCarriedBy_8 : decode cX2_isCarriedBy 8 = .ok (.iconst 1, 1) := dk_4 (dk_at dksX2_isCarriedBy_0 8 rfl rfl)
theorem dX2_isCarriedBy_9 : decode cX2_isCarriedBy 9 = .ok (.goto 4, 3) := dk_167 0 4 (dk_at dksX2_isCarriedBy_0 9 rfl rfl)
theorem dX2_isCarriedBy_12 : decode cX2_isCarriedBy 12 = .ok (.iconst 0, 1) := dk_3 (dk_at dksX2_isCarriedBy_0 12 rfl rfl)
theorem dX2_isCarriedBy_13 : decode cX2_isCarriedBy 13 = .ok (.ireturn, 1) := dk_172 (dk_at dksX2_isCarriedBy_0 13 rfl rfl)
abbrev cX2_lights : ByteArray := prog_21_method_42_code
def yX2_lights : MethodName := ⟨RX2, "lights", "(II)I"⟩
def dkwX2_lights_4 : List UInt8 := [181, 0, 172, 45, 180, 0, 172, 153, 0, 7, 4, 167, 0, 4, 3, 172]
abbrev dktX2_lights_4 : List UInt8 := dkwX2_lights_4 ++ []
def dkwX2_lights_3 : List UInt8 := [4, 167, 0, 4, 3, 16, 15, 3, 184, 0, 222, 45, 45, 180, 0, 172, 154, 0, 7, 4, 167, 0, 4, 3]
abbrev dktX2_lights_3 : List UInt8 := dkwX2_lights_3 ++ dktX2_lights_4
def dkwX2_lights_2 : List UInt8 := [167, 0, 4, 3, 16, 13, 28, 184, 0, 222, 45, 180, 0, 172, 154, 0, 14, 45, 180, 1, 77, 154, 0, 7]
abbrev dktX2_lights_2 : List UInt8 := dkwX2_lights_2 ++ dktX2_lights_3
def dkwX2_lights_1 : List UInt8 := [184, 0, 222, 42, 27, 45, 182, 1, 74, 154, 0, 16, 42, 27, 45, 182, 1, 70, 154, 0, 7, 4]
abbrev dktX2_lights_1 : List UInt8 := dkwX2_lights_1 ++ dktX2_lights_2
def dkwX2_lights_0 : List UInt8 := [42, 180, 0, 32, 28, 182, 0, 79, 192, 0, 89, 78, 42, 27, 182, 0, 148, 182, 0, 219, 4, 3]
abbrev dktX2_lights_0 : List UInt8 := dkwX2_lights_0 ++ dktX2_lights_1
theorem dksX2_lights_0 : cX2_lights.data.toList.drop 0 = dktX2_lights_0 := by decide +kernel
theorem dksX2_lights_1 : cX2_lights.data.toList.drop 22 = dktX2_lights_1 := dk_seg dksX2_lights_0 22 rfl rfl
theorem dksX2_lights_2 : cX2_lights.data.toList.drop 44 = dktX2_lights_2 := dk_seg dksX2_lights_1 22 rfl rfl
theorem dksX2_lights_3 : cX2_lights.data.toList.drop 68 = dktX2_lights_3 := dk_seg dksX2_lights_2 24 rfl rfl
theorem dksX2_lights_4 : cX2_lights.data.toList.drop 92 = dktX2_lights_4 := dk_seg dksX2_lights_3 24 rfl rfl
theorem dX2_lights_0 : decode cX2_lights 0 = .ok (.aload_n 0, 1) := dk_42 (dk_at dksX2_lights_0 0 rfl rfl)
theorem dX2_lights_1 : decode cX2_lights 1 = .ok (.getfield 32, 3) := dk_180 0 32 (dk_at dksX2_lights_0 1 rfl rfl)
theorem dX2_lights_4 : decode cX2_lights 4 = .ok (.iload_n 2, 1) := dk_28 (dk_at dksX2_lights_0 4 rfl rfl)
theorem dX2_lights_5 : decode cX2_lights 5 = .ok (.invokevirtual 79, 3) := dk_182 0 79 (dk_at dksX2_lights_0 5 rfl rfl)
theorem dX2_lights_8 : decode cX2_lights 8 = .ok (.checkcast 89, 3) := dk_192 0 89 (dk_at dksX2_lights_0 8 rfl rfl)
theorem dX2_lights_11 : decode cX2_lights 11 = .ok (.astore_n 3, 1) := dk_78 (dk_at dksX2_lights_0 11 rfl rfl)
theorem dX2_lights_12 : decode cX2_lights 12 = .ok (.aload_n 0, 1) := dk_42 (dk_at dksX2_lights_0 12 rfl rfl)
theorem dX2_lights_13 : decode cX2_lights 13 = .ok (.iload_n 1, 1) := dk_27 (dk_at dksX2_lights_0 13 rfl rfl)
theorem dX2_lights_14 : decode cX2_lights 14 = .ok (.invokevirtual 148, 3) := dk_182 0 148 (dk_at dksX2_lights_0 14 rfl rfl)
theorem dX2_lights_17 : decode cX2_lights 17 = .ok (.invokevirtual 219, 3) := dk_182 0 219 (dk_at dksX2_lights_0 17 rfl rfl)
theorem dX2_lights_20 : decode cX2_lights 20 = .ok (.iconst 1, 1) := dk_4 (dk_at dksX2_lights_0 20 rfl rfl)
theorem dX2_lights_21 : decode cX2_lights 21 = .ok (.iconst 0, 1) := dk_3 (dk_at dksX2_lights_0 21 rfl rfl)
theorem dX2_lights_22 : decode cX2_lights 22 = .ok (.invokestatic 222, 3) := dk_184 0 222 (dk_at dksX2_lights_1 0 rfl rfl)
theorem dX2_lights_25 : decode cX2_lights 25 = .ok (.aload_n 0, 1) := dk_42 (dk_at dksX2_lights_1 3 rfl rfl)
theorem dX2_lights_26 : decode cX2_lights 26 = .ok (.iload_n 1, 1) := dk_27 (dk_at dksX2_lights_1 4 rfl rfl)
theorem dX2_lights_27 : decode cX2_lights 27 = .ok (.aload_n 3, 1) := dk_45 (dk_at dksX2_lights_1 5 rfl rfl)
theorem dX2_lights_28 : decode cX2_lights 28 = .ok (.invokevirtual 330, 3) := dk_182 1 74 (dk_at dksX2_lights_1 6 rfl rfl)
theorem dX2_lights_31 : decode cX2_lights 31 = .ok (.ifCond .ne 16, 3) := dk_154 0 16 (dk_at dksX2_lights_1 9 rfl rfl)
theorem dX2_lights_34 : decode cX2_lights 34 = .ok (.aload_n 0, 1) := dk_42 (dk_at dksX2_lights_1 12 rfl rfl)
theorem dX2_lights_35 : decode cX2_lights 35 = .ok (.iload_n 1, 1) := dk_27 (dk_at dksX2_lights_1 13 rfl rfl)
theorem dX2_lights_36 : decode cX2_lights 36 = .ok (.aload_n 3, 1) := dk_45 (dk_at dksX2_lights_1 14 rfl rfl)
theorem dX2_lights_37 : decode cX2_lights 37 = .ok (.invokevirtual 326, 3) := dk_182 1 70 (dk_at dksX2_lights_1 15 rfl rfl)
theorem dX2_lights_40 : decode cX2_lights 40 = .ok (.ifCond .ne 7, 3) := dk_154 0 7 (dk_at dksX2_lights_1 18 rfl rfl)
theorem dX2_lights_43 : decode cX2_lights 43 = .ok (.iconst 1, 1) := dk_4 (dk_at dksX2_lights_1 21 rfl rfl)
theorem dX2_lights_44 : decode cX2_lights 44 = .ok (.goto 4, 3) := dk_167 0 4 (dk_at dksX2_lights_2 0 rfl rfl)
theorem dX2_lights_47 : decode cX2_lights 47 = .ok (.iconst 0, 1) := dk_3 (dk_at dksX2_lights_2 3 rfl rfl)
theorem dX2_lights_48 : decode cX2_lights 48 = .ok (.bipush 13, 2) := dk_16 13 (dk_at dksX2_lights_2 4 rfl rfl)
theorem dX2_lights_50 : decode cX2_lights 50 = .ok (.iload_n 2, 1) := dk_28 (dk_at dksX2_lights_2 6 rfl rfl)
theorem dX2_lights_51 : decode cX2_lights 51 = .ok (.invokestatic 222, 3) := dk_184 0 222 (dk_at dksX2_lights_2 7 rfl rfl)
theorem dX2_lights_54 : decode cX2_lights 54 = .ok (.aload_n 3, 1) := dk_45 (dk_at dksX2_lights_2 10 rfl rfl)
theorem dX2_lights_55 : decode cX2_lights 55 = .ok (.getfield 172, 3) := dk_180 0 172 (dk_at dksX2_lights_2 11 rfl rfl)
theorem dX2_lights_58 : decode cX2_lights 58 = .ok (.ifCond .ne 14, 3) := dk_154 0 14 (dk_at dksX2_lights_2 14 rfl rfl)
theorem dX2_lights_61 : decode cX2_lights 61 = .ok (.aload_n 3, 1) := dk_45 (dk_at dksX2_lights_2 17 rfl rfl)
theorem dX2_lights_62 : decode cX2_lights 62 = .ok (.getfield 333, 3) := dk_180 1 77 (dk_at dksX2_lights_2 18 rfl rfl)
theorem dX2_lights_65 : decode cX2_lights 65 = .ok (.ifCond .ne 7, 3) := dk_154 0 7 (dk_at dksX2_lights_2 21 rfl rfl)
theorem dX2_lights_68 : decode cX2_lights 68 = .ok (.iconst 1, 1) := dk_4 (dk_at dksX2_lights_3 0 rfl rfl)
theorem dX2_lights_69 : decode cX2_lights 69 = .ok (.goto 4, 3) := dk_167 0 4 (dk_at dksX2_lights_3 1 rfl rfl)
theorem dX2_lights_72 : decode cX2_lights 72 = .ok (.iconst 0, 1) := dk_3 (dk_at dksX2_lights_3 4 rfl rfl)
theorem dX2_lights_73 : decode cX2_lights 73 = .ok (.bipush 15, 2) := dk_16 15 (dk_at dksX2_lights_3 5 rfl rfl)
theorem dX2_lights_75 : decode cX2_lights 75 = .ok (.iconst 0, 1) := dk_3 (dk_at dksX2_lights_3 7 rfl rfl)
theorem dX2_lights_76 : decode cX2_lights 76 = .ok (.invokestatic 222, 3) := dk_184 0 222 (dk_at dksX2_lights_3 8 rfl rfl)
theorem dX2_lights_79 : decode cX2_lights 79 = .ok (.aload_n 3, 1) := dk_45 (dk_at dksX2_lights_3 11 rfl rfl)
theorem dX2_lights_80 : decode cX2_lights 80 = .ok (.aload_n 3, 1) := dk_45 (dk_at dksX2_lights_3 12 rfl rfl)
theorem dX2_lights_81 : decode cX2_lights 81 = .ok (.getfield 172, 3) := dk_180 0 172 (dk_at dksX2_lights_3 13 rfl rfl)
theorem dX2_lights_84 : decode cX2_lights 84 = .ok (.ifCond .ne 7, 3) := dk_154 0 7 (dk_at dksX2_lights_3 16 rfl rfl)
theorem dX2_lights_87 : decode cX2_lights 87 = .ok (.iconst 1, 1) := dk_4 (dk_at dksX2_lights_3 19 rfl rfl)
theorem dX2_lights_88 : decode cX2_lights 88 = .ok (.goto 4, 3) := dk_167 0 4 (dk_at dksX2_lights_3 20 rfl rfl)
theorem dX2_lights_91 : decode cX2_lights 91 = .ok (.iconst 0, 1) := dk_3 (dk_at dksX2_lights_3 23 rfl rfl)
theorem dX2_lights_92 : decode cX2_lights 92 = .ok (.putfield 172, 3) := dk_181 0 172 (dk_at dksX2_lights_4 0 rfl rfl)
theorem dX2_lights_95 : decode cX2_lights 95 = .ok (.aload_n 3, 1) := dk_45 (dk_at dksX2_lights_4 3 rfl rfl)
theorem dX2_lights_96 : decode cX2_lights 96 = .ok (.getfield 172, 3) := dk_180 0 172 (dk_at dksX2_lights_4 4 rfl rfl)
theorem dX2_lights_99 : decode cX2_lights 99 = .ok (.ifCond .eq 7, 3) := dk_153 0 7 (dk_at dksX2_lights_4 7 rfl rfl)
theorem dX2_lights_102 : decode cX2_lights 102 = .ok (.iconst 1, 1) := dk_4 (dk_at dksX2_lights_4 10 rfl rfl)
theorem dX2_lights_103 : decode cX2_lights 103 = .ok (.goto 4, 3) := dk_167 0 4 (dk_at dksX2_lights_4 11 rfl rfl)
theorem dX2_lights_106 : decode cX2_lights 106 = .ok (.iconst 0, 1) := dk_3 (dk_at dksX2_lights_4 14 rfl rfl)
theorem dX2_lights_107 : decode cX2_lights 107 = .ok (.ireturn, 1) := dk_172 (dk_at dksX2_lights_4 15 rfl rfl)
abbrev cX2_isWorse : ByteArray := prog_21_method_18_code
def yX2_isWorse : MethodName := ⟨RX2, "isWorse", "(II)Z"⟩
def dkwX2_isWorse_1 : List UInt8 := [167, 0, 4, 3, 172]
abbrev dktX2_isWorse_1 : List UInt8 := dkwX2_isWorse_1 ++ []
def dkwX2_isWorse_0 : List UInt8 := [42, 27, 182, 0, 148, 180, 0, 194, 153, 0, 19, 42, 27, 182, 0, 148, 180, 0, 194, 28, 159, 0, 7, 4]
abbrev dktX2_isWorse_0 : List UInt8 := dkwX2_isWorse_0 ++ dktX2_isWorse_1
theorem dksX2_isWorse_0 : cX2_isWorse.data.toList.drop 0 = dktX2_isWorse_0 := by decide +kernel
theorem dksX2_isWorse_1 : cX2_isWorse.data.toList.drop 24 = dktX2_isWorse_1 := dk_seg dksX2_isWorse_0 24 rfl rfl
theorem dX2_isWorse_0 : decode cX2_isWorse 0 = .ok (.aload_n 0, 1) := dk_42 (dk_at dksX2_isWorse_0 0 rfl rfl)
theorem dX2_isWorse_1 : decode cX2_isWorse 1 = .ok (.iload_n 1, 1) := dk_27 (dk_at dksX2_isWorse_0 1 rfl rfl)
theorem dX2_isWorse_2 : decode cX2_isWorse 2 = .ok (.invokevirtual 148, 3) := dk_182 0 148 (dk_at dksX2_isWorse_0 2 rfl rfl)
theorem dX2_isWorse_5 : decode cX2_isWorse 5 = .ok (.getfield 194, 3) := dk_180 0 194 (dk_at dksX2_isWorse_0 5 rfl rfl)
theorem dX2_isWorse_8 : decode cX2_isWorse 8 = .ok (.ifCond .eq 19, 3) := dk_153 0 19 (dk_at dksX2_isWorse_0 8 rfl rfl)
theorem dX2_isWorse_11 : decode cX2_isWorse 11 = .ok (.aload_n 0, 1) := dk_42 (dk_at dksX2_isWorse_0 11 rfl rfl)
theorem dX2_isWorse_12 : decode cX2_isWorse 12 = .ok (.iload_n 1, 1) := dk_27 (dk_at dksX2_isWorse_0 12 rfl rfl)
theorem dX2_isWorse_13 : decode cX2_isWorse 13 = .ok (.invokevirtual 148, 3) := dk_182 0 148 (dk_at dksX2_isWorse_0 13 rfl rfl)
theorem dX2_isWorse_16 : decode cX2_isWorse 16 = .ok (.getfield 194, 3) := dk_180 0 194 (dk_at dksX2_isWorse_0 16 rfl rfl)
theorem dX2_isWorse_19 : decode cX2_isWorse 19 = .ok (.iload_n 2, 1) := dk_28 (dk_at dksX2_isWorse_0 19 rfl rfl)
theorem dX2_isWorse_20 : decode cX2_isWorse 20 = .ok (.if_icmp .eq 7, 3) := dk_159 0 7 (dk_at dksX2_isWorse_0 20 rfl rfl)
theorem dX2_isWorse_23 : decode cX2_isWorse 23 = .ok (.iconst 1, 1) := dk_4 (dk_at dksX2_isWorse_0 23 rfl rfl)
theorem dX2_isWorse_24 : decode cX2_isWorse 24 = .ok (.goto 4, 3) := dk_167 0 4 (dk_at dksX2_isWorse_1 0 rfl rfl)
theorem dX2_isWorse_27 : decode cX2_isWorse 27 = .ok (.iconst 0, 1) := dk_3 (dk_at dksX2_isWorse_1 3 rfl rfl)
theorem dX2_isWorse_28 : decode cX2_isWorse 28 = .ok (.ireturn, 1) := dk_172 (dk_at dksX2_isWorse_1 4 rfl rfl)
theorem q121 : (Jvm.Cond.initialized "CrumblingWall$Wall") ∈ lw_all := lw_g (lw_at lw_m1 2 rfl) rfl
theorem q200 : (Jvm.Cond.instantiable "CrumblingWall$Wall" (15 : Nat)) ∈ lw_all := lw_g (lw_at lw_m1 81 rfl) rfl
theorem q202 : (Jvm.Cond.instanceMethod ({ cls := "CrumblingWall$Wall", name := "<init>", desc := "()V" } : Jvm.MethodName)) ∈ lw_all := lw_g (lw_at lw_m1 83 rfl) rfl
theorem q203 : (Jvm.Cond.code ({ cls := "CrumblingWall$Wall", name := "<init>", desc := "()V" } : Jvm.MethodName) prog_21_method_1_code (1 : Nat) (Option.none : Option Jvm.ClassFile.FieldType)) ∈ lw_all := lw_g (lw_at lw_m1 84 rfl) rfl
theorem q204 : (Jvm.Cond.classLink "CrumblingWall$Wall" (3 : Nat) "CrumblingWall$Climber") ∈ lw_all := lw_g (lw_at lw_m1 85 rfl) rfl
theorem q206 : (Jvm.Cond.methodLink "CrumblingWall$Wall" (5 : Nat) ({ cls := "CrumblingWall$Climber", name := "<init>", desc := "(I)V" } : Jvm.MethodName)) ∈ lw_all := lw_g (lw_at lw_m1 87 rfl) rfl
theorem q212 : (Jvm.Cond.fieldLinkNest "CrumblingWall$Wall" (152 : Nat) "CrumblingWall$Climber" "at" "I" "CrumblingWall") ∈ lw_tbl := lw_at lw_m1 93 rfl
theorem q215 : (Jvm.Cond.fieldLinkNest "CrumblingWall$Wall" (194 : Nat) "CrumblingWall$Climber" "state" "I" "CrumblingWall") ∈ lw_tbl := lw_at lw_m1 96 rfl
theorem q219 : (Jvm.Cond.fieldLinkNest "CrumblingWall$Wall" (258 : Nat) "CrumblingWall$Climber" "grip" "I" "CrumblingWall") ∈ lw_tbl := lw_at lw_m1 100 rfl
theorem q229 : (Jvm.Cond.methodLink "CrumblingWall$Wall" (9 : Nat) ({ cls := "java/util/List", name := "of", desc := "(Ljava/lang/Object;Ljava/lang/Object;)Ljava/util/List;" } : Jvm.MethodName)) ∈ lw_all := lw_g (lw_at lw_m1 110 rfl) rfl
theorem q257 : (Jvm.Cond.methodLink "CrumblingWall$Wall" (15 : Nat) ({ cls := "CrumblingWall$Wall", name := "<init>", desc := "(Ljava/util/List;)V" } : Jvm.MethodName)) ∈ lw_all := lw_g (lw_at lw_m1 138 rfl) rfl
theorem q258 : (Jvm.Cond.instanceMethod ({ cls := "CrumblingWall$Wall", name := "<init>", desc := "(Ljava/util/List;)V" } : Jvm.MethodName)) ∈ lw_all := lw_g (lw_at lw_m1 139 rfl) rfl
theorem q259 : (Jvm.Cond.code ({ cls := "CrumblingWall$Wall", name := "<init>", desc := "(Ljava/util/List;)V" } : Jvm.MethodName) prog_21_method_2_code (2 : Nat) (Option.none : Option Jvm.ClassFile.FieldType)) ∈ lw_all := lw_g (lw_at lw_m1 140 rfl) rfl
theorem q260 : (Jvm.Cond.methodLink "CrumblingWall$Wall" (20 : Nat) ({ cls := "java/lang/Object", name := "<init>", desc := "()V" } : Jvm.MethodName)) ∈ lw_all := lw_g (lw_at lw_m1 141 rfl) rfl
theorem q261 : (Jvm.Cond.classLink "CrumblingWall$Wall" (25 : Nat) "java/util/ArrayList") ∈ lw_all := lw_g (lw_at lw_m1 142 rfl) rfl
theorem q263 : (Jvm.Cond.methodLink "CrumblingWall$Wall" (27 : Nat) ({ cls := "java/util/ArrayList", name := "<init>", desc := "(I)V" } : Jvm.MethodName)) ∈ lw_all := lw_g (lw_at lw_m1 144 rfl) rfl
theorem q614 : (Jvm.Cond.classLink "CrumblingWall$Wall" (35 : Nat) "java/util/LinkedList") ∈ lw_all := lw_g (lw_at lw_m3 15 rfl) rfl
theorem q616 : (Jvm.Cond.methodLink "CrumblingWall$Wall" (37 : Nat) ({ cls := "java/util/LinkedList", name := "<init>", desc := "()V" } : Jvm.MethodName)) ∈ lw_all := lw_g (lw_at lw_m3 17 rfl) rfl
theorem q636 : (Jvm.Cond.classLink "CrumblingWall$Wall" (42 : Nat) "CrumblingWall$Ground") ∈ lw_all := lw_g (lw_at lw_m3 37 rfl) rfl
theorem q638 : (Jvm.Cond.methodLinkNest "CrumblingWall$Wall" (44 : Nat) ({ cls := "CrumblingWall$Ground", name := "<init>", desc := "()V" } : Jvm.MethodName) "CrumblingWall") ∈ lw_tbl := lw_at lw_m3 39 rfl
theorem q643 : (Jvm.Cond.fieldLink "CrumblingWall$Wall" (28 : Nat) "CrumblingWall$Wall" "holds" "Ljava/util/ArrayList;") ∈ lw_all := lw_g (lw_at lw_m3 44 rfl) rfl
theorem q646 : (Jvm.Cond.fieldLink "CrumblingWall$Wall" (32 : Nat) "CrumblingWall$Wall" "lamps" "Ljava/util/ArrayList;") ∈ lw_all := lw_g (lw_at lw_m3 47 rfl) rfl
theorem q648 : (Jvm.Cond.fieldLink "CrumblingWall$Wall" (38 : Nat) "CrumblingWall$Wall" "anchors" "Ljava/util/LinkedList;") ∈ lw_all := lw_g (lw_at lw_m3 49 rfl) rfl
theorem q650 : (Jvm.Cond.fieldLink "CrumblingWall$Wall" (63 : Nat) "CrumblingWall$Wall" "climbers" "Ljava/util/List;") ∈ lw_all := lw_g (lw_at lw_m3 51 rfl) rfl
theorem q651 : (Jvm.Cond.fieldLink "CrumblingWall$Wall" (45 : Nat) "CrumblingWall$Wall" "ground" "LCrumblingWall$Ground;") ∈ lw_all := lw_g (lw_at lw_m3 52 rfl) rfl
theorem q652 : (Jvm.Cond.fieldLink "CrumblingWall$Wall" (49 : Nat) "CrumblingWall$Wall" "forces" "[F") ∈ lw_all := lw_g (lw_at lw_m3 53 rfl) rfl
theorem q654 : (Jvm.Cond.fieldLink "CrumblingWall$Wall" (120 : Nat) "CrumblingWall$Wall" "forced" "I") ∈ lw_all := lw_g (lw_at lw_m3 55 rfl) rfl
theorem q656 : (Jvm.Cond.fieldLink "CrumblingWall$Wall" (53 : Nat) "CrumblingWall$Wall" "reach" "I") ∈ lw_all := lw_g (lw_at lw_m3 57 rfl) rfl
theorem q658 : (Jvm.Cond.fieldLink "CrumblingWall$Wall" (57 : Nat) "CrumblingWall$Wall" "dusk" "I") ∈ lw_all := lw_g (lw_at lw_m3 59 rfl) rfl
theorem q660 : (Jvm.Cond.fieldLink "CrumblingWall$Wall" (60 : Nat) "CrumblingWall$Wall" "length" "I") ∈ lw_all := lw_g (lw_at lw_m3 61 rfl) rfl
theorem q662 : (Jvm.Cond.fieldLink "CrumblingWall$Wall" (123 : Nat) "CrumblingWall$Wall" "minutes" "I") ∈ lw_all := lw_g (lw_at lw_m3 63 rfl) rfl
theorem q664 : (Jvm.Cond.fieldLink "CrumblingWall$Wall" (126 : Nat) "CrumblingWall$Wall" "moved" "I") ∈ lw_all := lw_g (lw_at lw_m3 65 rfl) rfl
theorem q666 : (Jvm.Cond.fieldLink "CrumblingWall$Wall" (129 : Nat) "CrumblingWall$Wall" "rested" "I") ∈ lw_all := lw_g (lw_at lw_m3 67 rfl) rfl
theorem q668 : (Jvm.Cond.fieldLink "CrumblingWall$Wall" (132 : Nat) "CrumblingWall$Wall" "hung" "I") ∈ lw_all := lw_g (lw_at lw_m3 69 rfl) rfl
theorem q670 : (Jvm.Cond.fieldLink "CrumblingWall$Wall" (135 : Nat) "CrumblingWall$Wall" "fallen" "I") ∈ lw_all := lw_g (lw_at lw_m3 71 rfl) rfl
theorem q672 : (Jvm.Cond.laysFinal "CrumblingWall$Wall" "CrumblingWall$Wall" "holds" "Ljava/util/ArrayList;") ∈ lw_all := lw_g (lw_at lw_m3 73 rfl) rfl
theorem q673 : (Jvm.Cond.soleField "CrumblingWall$Wall" "holds") ∈ lw_all := lw_g (lw_at lw_m3 74 rfl) rfl
theorem q674 : (Jvm.Cond.laysFinal "CrumblingWall$Wall" "CrumblingWall$Wall" "lamps" "Ljava/util/ArrayList;") ∈ lw_all := lw_g (lw_at lw_m3 75 rfl) rfl
theorem q675 : (Jvm.Cond.soleField "CrumblingWall$Wall" "lamps") ∈ lw_all := lw_g (lw_at lw_m3 76 rfl) rfl
theorem q676 : (Jvm.Cond.laysFinal "CrumblingWall$Wall" "CrumblingWall$Wall" "anchors" "Ljava/util/LinkedList;") ∈ lw_all := lw_g (lw_at lw_m3 77 rfl) rfl
theorem q677 : (Jvm.Cond.soleField "CrumblingWall$Wall" "anchors") ∈ lw_all := lw_g (lw_at lw_m3 78 rfl) rfl
theorem q678 : (Jvm.Cond.laysFinal "CrumblingWall$Wall" "CrumblingWall$Wall" "climbers" "Ljava/util/List;") ∈ lw_all := lw_g (lw_at lw_m3 79 rfl) rfl
theorem q679 : (Jvm.Cond.soleField "CrumblingWall$Wall" "climbers") ∈ lw_all := lw_g (lw_at lw_m3 80 rfl) rfl
theorem q680 : (Jvm.Cond.laysFinal "CrumblingWall$Wall" "CrumblingWall$Wall" "ground" "LCrumblingWall$Ground;") ∈ lw_all := lw_g (lw_at lw_m3 81 rfl) rfl
theorem q681 : (Jvm.Cond.soleField "CrumblingWall$Wall" "ground") ∈ lw_all := lw_g (lw_at lw_m3 82 rfl) rfl
theorem q682 : (Jvm.Cond.laysFinal "CrumblingWall$Wall" "CrumblingWall$Wall" "forces" "[F") ∈ lw_all := lw_g (lw_at lw_m3 83 rfl) rfl
theorem q683 : (Jvm.Cond.soleField "CrumblingWall$Wall" "forces") ∈ lw_all := lw_g (lw_at lw_m3 84 rfl) rfl
theorem q684 : (Jvm.Cond.lays "CrumblingWall$Wall" "CrumblingWall$Wall" "forced" "I") ∈ lw_all := lw_g (lw_at lw_m3 85 rfl) rfl
theorem q685 : (Jvm.Cond.soleField "CrumblingWall$Wall" "forced") ∈ lw_all := lw_g (lw_at lw_m3 86 rfl) rfl
theorem q686 : (Jvm.Cond.lays "CrumblingWall$Wall" "CrumblingWall$Wall" "reach" "I") ∈ lw_all := lw_g (lw_at lw_m3 87 rfl) rfl
theorem q687 : (Jvm.Cond.soleField "CrumblingWall$Wall" "reach") ∈ lw_all := lw_g (lw_at lw_m3 88 rfl) rfl
theorem q688 : (Jvm.Cond.lays "CrumblingWall$Wall" "CrumblingWall$Wall" "dusk" "I") ∈ lw_all := lw_g (lw_at lw_m3 89 rfl) rfl
theorem q689 : (Jvm.Cond.soleField "CrumblingWall$Wall" "dusk") ∈ lw_all := lw_g (lw_at lw_m3 90 rfl) rfl
theorem q690 : (Jvm.Cond.lays "CrumblingWall$Wall" "CrumblingWall$Wall" "length" "I") ∈ lw_all := lw_g (lw_at lw_m3 91 rfl) rfl
theorem q691 : (Jvm.Cond.soleField "CrumblingWall$Wall" "length") ∈ lw_all := lw_g (lw_at lw_m3 92 rfl) rfl
theorem q692 : (Jvm.Cond.lays "CrumblingWall$Wall" "CrumblingWall$Wall" "minutes" "I") ∈ lw_all := lw_g (lw_at lw_m3 93 rfl) rfl
theorem q693 : (Jvm.Cond.soleField "CrumblingWall$Wall" "minutes") ∈ lw_all := lw_g (lw_at lw_m3 94 rfl) rfl
theorem q694 : (Jvm.Cond.lays "CrumblingWall$Wall" "CrumblingWall$Wall" "moved" "I") ∈ lw_all := lw_g (lw_at lw_m3 95 rfl) rfl
theorem q695 : (Jvm.Cond.soleField "CrumblingWall$Wall" "moved") ∈ lw_all := lw_g (lw_at lw_m3 96 rfl) rfl
theorem q696 : (Jvm.Cond.lays "CrumblingWall$Wall" "CrumblingWall$Wall" "rested" "I") ∈ lw_all := lw_g (lw_at lw_m3 97 rfl) rfl
theorem q697 : (Jvm.Cond.soleField "CrumblingWall$Wall" "rested") ∈ lw_all := lw_g (lw_at lw_m3 98 rfl) rfl
theorem q698 : (Jvm.Cond.lays "CrumblingWall$Wall" "CrumblingWall$Wall" "hung" "I") ∈ lw_all := lw_g (lw_at lw_m3 99 rfl) rfl
theorem q699 : (Jvm.Cond.soleField "CrumblingWall$Wall" "hung") ∈ lw_all := lw_g (lw_at lw_m3 100 rfl) rfl
theorem q700 : (Jvm.Cond.lays "CrumblingWall$Wall" "CrumblingWall$Wall" "fallen" "I") ∈ lw_all := lw_g (lw_at lw_m3 101 rfl) rfl
theorem q701 : (Jvm.Cond.soleField "CrumblingWall$Wall" "fallen") ∈ lw_all := lw_g (lw_at lw_m3 102 rfl) rfl
theorem q702 : (Jvm.Cond.superclass "CrumblingWall$Wall" "java/lang/Object") ∈ lw_all := lw_g (lw_at lw_m3 103 rfl) rfl
theorem q775 : (Jvm.Cond.instanceMethod ({ cls := "CrumblingWall$Wall", name := "out", desc := "()I" } : Jvm.MethodName)) ∈ lw_all := lw_g (lw_at lw_m3 176 rfl) rfl
theorem q776 : (Jvm.Cond.selects "CrumblingWall$Wall" ({ cls := "CrumblingWall$Wall", name := "out", desc := "()I" } : Jvm.MethodName) ({ cls := "CrumblingWall$Wall", name := "out", desc := "()I" } : Jvm.MethodName)) ∈ lw_all := lw_g (lw_at lw_m3 177 rfl) rfl
theorem q777 : (Jvm.Cond.code ({ cls := "CrumblingWall$Wall", name := "out", desc := "()I" } : Jvm.MethodName) prog_21_method_20_code (1 : Nat) (Option.some Jvm.ClassFile.FieldType.int)) ∈ lw_all := lw_g (lw_at lw_m3 178 rfl) rfl
theorem q778 : (Jvm.Cond.methodLink "CrumblingWall$Wall" (201 : Nat) ({ cls := "CrumblingWall$Wall", name := "at", desc := "(I)LCrumblingWall$Place;" } : Jvm.MethodName)) ∈ lw_all := lw_g (lw_at lw_m3 179 rfl) rfl
theorem q779 : (Jvm.Cond.instanceMethod ({ cls := "CrumblingWall$Wall", name := "at", desc := "(I)LCrumblingWall$Place;" } : Jvm.MethodName)) ∈ lw_all := lw_g (lw_at lw_m3 180 rfl) rfl
theorem q780 : (Jvm.Cond.selects "CrumblingWall$Wall" ({ cls := "CrumblingWall$Wall", name := "at", desc := "(I)LCrumblingWall$Place;" } : Jvm.MethodName) ({ cls := "CrumblingWall$Wall", name := "at", desc := "(I)LCrumblingWall$Place;" } : Jvm.MethodName)) ∈ lw_all := lw_g (lw_at lw_m3 181 rfl) rfl
theorem q781 : (Jvm.Cond.code ({ cls := "CrumblingWall$Wall", name := "at", desc := "(I)LCrumblingWall$Place;" } : Jvm.MethodName) prog_21_method_9_code (2 : Nat) (Option.some (Jvm.ClassFile.FieldType.object "CrumblingWall$Place"))) ∈ lw_all := lw_g (lw_at lw_m3 182 rfl) rfl
theorem q782 : (Jvm.Cond.methodLink "CrumblingWall$Wall" (148 : Nat) ({ cls := "CrumblingWall$Wall", name := "climber", desc := "(I)LCrumblingWall$Climber;" } : Jvm.MethodName)) ∈ lw_all := lw_g (lw_at lw_m3 183 rfl) rfl
theorem q783 : (Jvm.Cond.instanceMethod ({ cls := "CrumblingWall$Wall", name := "climber", desc := "(I)LCrumblingWall$Climber;" } : Jvm.MethodName)) ∈ lw_all := lw_g (lw_at lw_m3 184 rfl) rfl
theorem q784 : (Jvm.Cond.selects "CrumblingWall$Wall" ({ cls := "CrumblingWall$Wall", name := "climber", desc := "(I)LCrumblingWall$Climber;" } : Jvm.MethodName) ({ cls := "CrumblingWall$Wall", name := "climber", desc := "(I)LCrumblingWall$Climber;" } : Jvm.MethodName)) ∈ lw_all := lw_g (lw_at lw_m3 185 rfl) rfl
theorem q785 : (Jvm.Cond.code ({ cls := "CrumblingWall$Wall", name := "climber", desc := "(I)LCrumblingWall$Climber;" } : Jvm.MethodName) prog_21_method_8_code (2 : Nat) (Option.some (Jvm.ClassFile.FieldType.object "CrumblingWall$Climber"))) ∈ lw_all := lw_g (lw_at lw_m3 186 rfl) rfl
theorem q786 : (Jvm.Cond.interfaceEntry "CrumblingWall$Wall" (67 : Nat)) ∈ lw_tbl := lw_at lw_m3 187 rfl
theorem q787 : (Jvm.Cond.methodLink "CrumblingWall$Wall" (67 : Nat) ({ cls := "java/util/List", name := "get", desc := "(I)Ljava/lang/Object;" } : Jvm.MethodName)) ∈ lw_all := lw_g (lw_at lw_m3 188 rfl) rfl
theorem q879 : (Jvm.Cond.methodLink "CrumblingWall$Wall" (155 : Nat) ({ cls := "CrumblingWall$Wall", name := "place", desc := "(I)LCrumblingWall$Place;" } : Jvm.MethodName)) ∈ lw_all := lw_g (lw_at lw_m4 40 rfl) rfl
theorem q880 : (Jvm.Cond.instanceMethod ({ cls := "CrumblingWall$Wall", name := "place", desc := "(I)LCrumblingWall$Place;" } : Jvm.MethodName)) ∈ lw_all := lw_g (lw_at lw_m4 41 rfl) rfl
theorem q881 : (Jvm.Cond.selects "CrumblingWall$Wall" ({ cls := "CrumblingWall$Wall", name := "place", desc := "(I)LCrumblingWall$Place;" } : Jvm.MethodName) ({ cls := "CrumblingWall$Wall", name := "place", desc := "(I)LCrumblingWall$Place;" } : Jvm.MethodName)) ∈ lw_all := lw_g (lw_at lw_m4 42 rfl) rfl
theorem q882 : (Jvm.Cond.code ({ cls := "CrumblingWall$Wall", name := "place", desc := "(I)LCrumblingWall$Place;" } : Jvm.MethodName) prog_21_method_7_code (2 : Nat) (Option.some (Jvm.ClassFile.FieldType.object "CrumblingWall$Place"))) ∈ lw_all := lw_g (lw_at lw_m4 43 rfl) rfl
theorem q883 : (Jvm.Cond.methodLink "CrumblingWall$Wall" (79 : Nat) ({ cls := "java/util/ArrayList", name := "get", desc := "(I)Ljava/lang/Object;" } : Jvm.MethodName)) ∈ lw_all := lw_g (lw_at lw_m4 44 rfl) rfl
theorem q884 : (Jvm.Cond.classLink "CrumblingWall$Wall" (146 : Nat) "CrumblingWall$Place") ∈ lw_all := lw_g (lw_at lw_m4 45 rfl) rfl
theorem q885 : (Jvm.Cond.methodLink "CrumblingWall$Wall" (203 : Nat) ({ cls := "CrumblingWall$Wall", name := "out", desc := "(LCrumblingWall$Place;LCrumblingWall$Place;)I" } : Jvm.MethodName)) ∈ lw_all := lw_g (lw_at lw_m4 46 rfl) rfl
theorem q886 : (Jvm.Cond.privateMethod ({ cls := "CrumblingWall$Wall", name := "out", desc := "(LCrumblingWall$Place;LCrumblingWall$Place;)I" } : Jvm.MethodName)) ∈ lw_tbl := lw_at lw_m4 47 rfl
theorem q887 : (Jvm.Cond.instanceMethod ({ cls := "CrumblingWall$Wall", name := "out", desc := "(LCrumblingWall$Place;LCrumblingWall$Place;)I" } : Jvm.MethodName)) ∈ lw_all := lw_g (lw_at lw_m4 48 rfl) rfl
theorem q888 : (Jvm.Cond.code ({ cls := "CrumblingWall$Wall", name := "out", desc := "(LCrumblingWall$Place;LCrumblingWall$Place;)I" } : Jvm.MethodName) prog_21_method_19_code (7 : Nat) (Option.some Jvm.ClassFile.FieldType.int)) ∈ lw_all := lw_g (lw_at lw_m4 49 rfl) rfl
theorem q889 : (Jvm.Cond.methodLink "CrumblingWall$Wall" (94 : Nat) ({ cls := "java/util/LinkedList", name := "iterator", desc := "()Ljava/util/Iterator;" } : Jvm.MethodName)) ∈ lw_all := lw_g (lw_at lw_m4 50 rfl) rfl
theorem q981 : (Jvm.Cond.interfaceEntry "CrumblingWall$Wall" (98 : Nat)) ∈ lw_tbl := lw_at lw_m4 142 rfl
theorem q982 : (Jvm.Cond.methodLink "CrumblingWall$Wall" (98 : Nat) ({ cls := "java/util/Iterator", name := "hasNext", desc := "()Z" } : Jvm.MethodName)) ∈ lw_all := lw_g (lw_at lw_m4 143 rfl) rfl
theorem q1019 : (Jvm.Cond.interfaceEntry "CrumblingWall$Wall" (104 : Nat)) ∈ lw_tbl := lw_at lw_m4 180 rfl
theorem q1020 : (Jvm.Cond.methodLink "CrumblingWall$Wall" (104 : Nat) ({ cls := "java/util/Iterator", name := "next", desc := "()Ljava/lang/Object;" } : Jvm.MethodName)) ∈ lw_all := lw_g (lw_at lw_m4 181 rfl) rfl
theorem q1093 : (Jvm.Cond.selects "CrumblingWall$Wall" ({ cls := "java/lang/Object", name := "getClass", desc := "()Ljava/lang/Class;" } : Jvm.MethodName) ({ cls := "java/lang/Object", name := "getClass", desc := "()Ljava/lang/Class;" } : Jvm.MethodName)) ∈ lw_all := lw_g (lw_at lw_m5 14 rfl) rfl
theorem q1200 : (Jvm.Cond.classLink "CrumblingWall$Wall" (108 : Nat) "java/lang/Integer") ∈ lw_all := lw_g (lw_at lw_m5 121 rfl) rfl
theorem q1201 : (Jvm.Cond.methodLink "CrumblingWall$Wall" (197 : Nat) ({ cls := "java/lang/Integer", name := "intValue", desc := "()I" } : Jvm.MethodName)) ∈ lw_all := lw_g (lw_at lw_m5 122 rfl) rfl
theorem q1205 : (Jvm.Cond.interfaceEntry "CrumblingWall$Wall" (200 : Nat)) ∈ lw_tbl := lw_at lw_m5 126 rfl
theorem q1206 : (Jvm.Cond.methodLink "CrumblingWall$Wall" (200 : Nat) ({ cls := "CrumblingWall$Place", name := "distance", desc := "(LCrumblingWall$Place;)I" } : Jvm.MethodName)) ∈ lw_all := lw_g (lw_at lw_m5 127 rfl) rfl
theorem q1299 : (Jvm.Cond.instanceMethod ({ cls := "CrumblingWall$Wall", name := "outAgain", desc := "()I" } : Jvm.MethodName)) ∈ lw_all := lw_g (lw_at lw_m5 220 rfl) rfl
theorem q1300 : (Jvm.Cond.selects "CrumblingWall$Wall" ({ cls := "CrumblingWall$Wall", name := "outAgain", desc := "()I" } : Jvm.MethodName) ({ cls := "CrumblingWall$Wall", name := "outAgain", desc := "()I" } : Jvm.MethodName)) ∈ lw_all := lw_g (lw_at lw_m5 221 rfl) rfl
theorem q1301 : (Jvm.Cond.code ({ cls := "CrumblingWall$Wall", name := "outAgain", desc := "()I" } : Jvm.MethodName) prog_21_method_21_code (6 : Nat) (Option.some Jvm.ClassFile.FieldType.int)) ∈ lw_all := lw_g (lw_at lw_m5 222 rfl) rfl
theorem q1302 : (Jvm.Cond.methodLink "CrumblingWall$Wall" (207 : Nat) ({ cls := "java/util/LinkedList", name := "descendingIterator", desc := "()Ljava/util/Iterator;" } : Jvm.MethodName)) ∈ lw_all := lw_g (lw_at lw_m5 223 rfl) rfl
theorem q1322 : (Jvm.Cond.interfaceEntry "CrumblingWall$Wall" (210 : Nat)) ∈ lw_tbl := lw_at lw_m6 3 rfl
theorem q1323 : (Jvm.Cond.methodLink "CrumblingWall$Wall" (210 : Nat) ({ cls := "CrumblingWall$Place", name := "aside", desc := "(LCrumblingWall$Place;)I" } : Jvm.MethodName)) ∈ lw_all := lw_g (lw_at lw_m6 4 rfl) rfl
theorem q1340 : (Jvm.Cond.interfaceEntry "CrumblingWall$Wall" (213 : Nat)) ∈ lw_tbl := lw_at lw_m6 21 rfl
theorem q1341 : (Jvm.Cond.methodLink "CrumblingWall$Wall" (213 : Nat) ({ cls := "CrumblingWall$Place", name := "upOrDown", desc := "(LCrumblingWall$Place;)I" } : Jvm.MethodName)) ∈ lw_all := lw_g (lw_at lw_m6 22 rfl) rfl
theorem q1350 : (Jvm.Cond.instanceMethod ({ cls := "CrumblingWall$Wall", name := "isHold", desc := "(I)Z" } : Jvm.MethodName)) ∈ lw_all := lw_g (lw_at lw_m6 31 rfl) rfl
theorem q1351 : (Jvm.Cond.selects "CrumblingWall$Wall" ({ cls := "CrumblingWall$Wall", name := "isHold", desc := "(I)Z" } : Jvm.MethodName) ({ cls := "CrumblingWall$Wall", name := "isHold", desc := "(I)Z" } : Jvm.MethodName)) ∈ lw_all := lw_g (lw_at lw_m6 32 rfl) rfl
theorem q1352 : (Jvm.Cond.code ({ cls := "CrumblingWall$Wall", name := "isHold", desc := "(I)Z" } : Jvm.MethodName) prog_21_method_4_code (2 : Nat) (Option.some Jvm.ClassFile.FieldType.boolean)) ∈ lw_all := lw_g (lw_at lw_m6 33 rfl) rfl
theorem q1353 : (Jvm.Cond.methodLink "CrumblingWall$Wall" (75 : Nat) ({ cls := "java/util/ArrayList", name := "size", desc := "()I" } : Jvm.MethodName)) ∈ lw_all := lw_g (lw_at lw_m6 34 rfl) rfl
theorem q1354 : (Jvm.Cond.methodLinkNest "CrumblingWall$Wall" (138 : Nat) ({ cls := "CrumblingWall", name := "isIn", desc := "(III)Z" } : Jvm.MethodName) "CrumblingWall") ∈ lw_tbl := lw_at lw_m6 35 rfl
theorem q1379 : (Jvm.Cond.instanceMethod ({ cls := "CrumblingWall$Wall", name := "copy", desc := "()LCrumblingWall$Wall;" } : Jvm.MethodName)) ∈ lw_all := lw_g (lw_at lw_m6 60 rfl) rfl
theorem q1380 : (Jvm.Cond.selects "CrumblingWall$Wall" ({ cls := "CrumblingWall$Wall", name := "copy", desc := "()LCrumblingWall$Wall;" } : Jvm.MethodName) ({ cls := "CrumblingWall$Wall", name := "copy", desc := "()LCrumblingWall$Wall;" } : Jvm.MethodName)) ∈ lw_all := lw_g (lw_at lw_m6 61 rfl) rfl
theorem q1381 : (Jvm.Cond.code ({ cls := "CrumblingWall$Wall", name := "copy", desc := "()LCrumblingWall$Wall;" } : Jvm.MethodName) prog_21_method_3_code (3 : Nat) (Option.some (Jvm.ClassFile.FieldType.object "CrumblingWall$Wall"))) ∈ lw_all := lw_g (lw_at lw_m6 62 rfl) rfl
theorem q1382 : (Jvm.Cond.classLink "CrumblingWall$Wall" (16 : Nat) "CrumblingWall$Wall") ∈ lw_all := lw_g (lw_at lw_m6 63 rfl) rfl
theorem q1383 : (Jvm.Cond.methodLink "CrumblingWall$Wall" (71 : Nat) ({ cls := "CrumblingWall$Climber", name := "copy", desc := "()LCrumblingWall$Climber;" } : Jvm.MethodName)) ∈ lw_all := lw_g (lw_at lw_m6 64 rfl) rfl
theorem q1389 : (Jvm.Cond.classLink "CrumblingWall$Wall" (80 : Nat) "CrumblingWall$Hold") ∈ lw_all := lw_g (lw_at lw_m6 70 rfl) rfl
theorem q1390 : (Jvm.Cond.methodLink "CrumblingWall$Wall" (82 : Nat) ({ cls := "CrumblingWall$Hold", name := "copy", desc := "()LCrumblingWall$Hold;" } : Jvm.MethodName)) ∈ lw_all := lw_g (lw_at lw_m6 71 rfl) rfl
theorem q1530 : (Jvm.Cond.methodLink "CrumblingWall$Wall" (85 : Nat) ({ cls := "java/util/ArrayList", name := "add", desc := "(Ljava/lang/Object;)Z" } : Jvm.MethodName)) ∈ lw_all := lw_g (lw_at lw_m6 211 rfl) rfl
theorem q1559 : (Jvm.Cond.classLink "CrumblingWall$Wall" (89 : Nat) "CrumblingWall$Lamp") ∈ lw_all := lw_g (lw_at lw_m7 0 rfl) rfl
theorem q1560 : (Jvm.Cond.methodLink "CrumblingWall$Wall" (91 : Nat) ({ cls := "CrumblingWall$Lamp", name := "copy", desc := "()LCrumblingWall$Lamp;" } : Jvm.MethodName)) ∈ lw_all := lw_g (lw_at lw_m7 1 rfl) rfl
theorem q1571 : (Jvm.Cond.fieldLinkNest "CrumblingWall$Wall" (184 : Nat) "CrumblingWall$Lamp" "radius" "I" "CrumblingWall") ∈ lw_tbl := lw_at lw_m7 12 rfl
theorem q1574 : (Jvm.Cond.fieldLinkNest "CrumblingWall$Wall" (171 : Nat) "CrumblingWall$Lamp" "at" "I" "CrumblingWall") ∈ lw_tbl := lw_at lw_m7 15 rfl
theorem q1576 : (Jvm.Cond.fieldLinkNest "CrumblingWall$Wall" (168 : Nat) "CrumblingWall$Lamp" "carrier" "I" "CrumblingWall") ∈ lw_tbl := lw_at lw_m7 17 rfl
theorem q1580 : (Jvm.Cond.fieldLinkNest "CrumblingWall$Wall" (333 : Nat) "CrumblingWall$Lamp" "oil" "I" "CrumblingWall") ∈ lw_tbl := lw_at lw_m7 21 rfl
theorem q1582 : (Jvm.Cond.fieldLinkNest "CrumblingWall$Wall" (172 : Nat) "CrumblingWall$Lamp" "isLit" "Z" "CrumblingWall") ∈ lw_tbl := lw_at lw_m7 23 rfl
theorem q1595 : (Jvm.Cond.methodLink "CrumblingWall$Wall" (110 : Nat) ({ cls := "java/util/LinkedList", name := "addLast", desc := "(Ljava/lang/Object;)V" } : Jvm.MethodName)) ∈ lw_all := lw_g (lw_at lw_m7 36 rfl) rfl
theorem q1625 : (Jvm.Cond.methodLink "CrumblingWall$Wall" (114 : Nat) ({ cls := "java/lang/System", name := "arraycopy", desc := "(Ljava/lang/Object;ILjava/lang/Object;II)V" } : Jvm.MethodName)) ∈ lw_all := lw_g (lw_at lw_m7 66 rfl) rfl
theorem q1665 : (Jvm.Cond.instanceMethod ({ cls := "CrumblingWall$Wall", name := "holdAt", desc := "(II)I" } : Jvm.MethodName)) ∈ lw_all := lw_g (lw_at lw_m7 106 rfl) rfl
theorem q1666 : (Jvm.Cond.selects "CrumblingWall$Wall" ({ cls := "CrumblingWall$Wall", name := "holdAt", desc := "(II)I" } : Jvm.MethodName) ({ cls := "CrumblingWall$Wall", name := "holdAt", desc := "(II)I" } : Jvm.MethodName)) ∈ lw_all := lw_g (lw_at lw_m7 107 rfl) rfl
theorem q1667 : (Jvm.Cond.code ({ cls := "CrumblingWall$Wall", name := "holdAt", desc := "(II)I" } : Jvm.MethodName) prog_21_method_10_code (4 : Nat) (Option.some Jvm.ClassFile.FieldType.int)) ∈ lw_all := lw_g (lw_at lw_m7 108 rfl) rfl
theorem q1668 : (Jvm.Cond.methodLink "CrumblingWall$Wall" (159 : Nat) ({ cls := "CrumblingWall$Hold", name := "column", desc := "()I" } : Jvm.MethodName)) ∈ lw_all := lw_g (lw_at lw_m7 109 rfl) rfl
theorem q1669 : (Jvm.Cond.methodLink "CrumblingWall$Wall" (162 : Nat) ({ cls := "CrumblingWall$Hold", name := "row", desc := "()I" } : Jvm.MethodName)) ∈ lw_all := lw_g (lw_at lw_m7 110 rfl) rfl
theorem q1851 : (Jvm.Cond.instanceMethod ({ cls := "CrumblingWall$Wall", name := "isBright", desc := "(LCrumblingWall$Hold;)Z" } : Jvm.MethodName)) ∈ lw_all := lw_g (lw_at lw_m8 52 rfl) rfl
theorem q1852 : (Jvm.Cond.selects "CrumblingWall$Wall" ({ cls := "CrumblingWall$Wall", name := "isBright", desc := "(LCrumblingWall$Hold;)Z" } : Jvm.MethodName) ({ cls := "CrumblingWall$Wall", name := "isBright", desc := "(LCrumblingWall$Hold;)Z" } : Jvm.MethodName)) ∈ lw_all := lw_g (lw_at lw_m8 53 rfl) rfl
theorem q1853 : (Jvm.Cond.code ({ cls := "CrumblingWall$Wall", name := "isBright", desc := "(LCrumblingWall$Hold;)Z" } : Jvm.MethodName) prog_21_method_12_code (5 : Nat) (Option.some Jvm.ClassFile.FieldType.boolean)) ∈ lw_all := lw_g (lw_at lw_m8 54 rfl) rfl
theorem q1854 : (Jvm.Cond.methodLink "CrumblingWall$Wall" (176 : Nat) ({ cls := "CrumblingWall$Wall", name := "placeOf", desc := "(LCrumblingWall$Lamp;)I" } : Jvm.MethodName)) ∈ lw_all := lw_g (lw_at lw_m8 55 rfl) rfl
theorem q1855 : (Jvm.Cond.privateMethod ({ cls := "CrumblingWall$Wall", name := "placeOf", desc := "(LCrumblingWall$Lamp;)I" } : Jvm.MethodName)) ∈ lw_tbl := lw_at lw_m8 56 rfl
theorem q1856 : (Jvm.Cond.instanceMethod ({ cls := "CrumblingWall$Wall", name := "placeOf", desc := "(LCrumblingWall$Lamp;)I" } : Jvm.MethodName)) ∈ lw_all := lw_g (lw_at lw_m8 57 rfl) rfl
theorem q1857 : (Jvm.Cond.code ({ cls := "CrumblingWall$Wall", name := "placeOf", desc := "(LCrumblingWall$Lamp;)I" } : Jvm.MethodName) prog_21_method_11_code (2 : Nat) (Option.some Jvm.ClassFile.FieldType.int)) ∈ lw_all := lw_g (lw_at lw_m8 58 rfl) rfl
theorem q1858 : (Jvm.Cond.methodLink "CrumblingWall$Wall" (165 : Nat) ({ cls := "CrumblingWall$Lamp", name := "isCarried", desc := "()Z" } : Jvm.MethodName)) ∈ lw_all := lw_g (lw_at lw_m8 59 rfl) rfl
theorem q1862 : (Jvm.Cond.methodLink "CrumblingWall$Wall" (180 : Nat) ({ cls := "CrumblingWall$Hold", name := "distance", desc := "(LCrumblingWall$Place;)I" } : Jvm.MethodName)) ∈ lw_all := lw_g (lw_at lw_m8 63 rfl) rfl
theorem q1864 : (Jvm.Cond.instanceMethod ({ cls := "CrumblingWall$Wall", name := "thereAt", desc := "(I)I" } : Jvm.MethodName)) ∈ lw_all := lw_g (lw_at lw_m8 65 rfl) rfl
theorem q1865 : (Jvm.Cond.selects "CrumblingWall$Wall" ({ cls := "CrumblingWall$Wall", name := "thereAt", desc := "(I)I" } : Jvm.MethodName) ({ cls := "CrumblingWall$Wall", name := "thereAt", desc := "(I)I" } : Jvm.MethodName)) ∈ lw_all := lw_g (lw_at lw_m8 66 rfl) rfl
theorem q1866 : (Jvm.Cond.code ({ cls := "CrumblingWall$Wall", name := "thereAt", desc := "(I)I" } : Jvm.MethodName) prog_21_method_16_code (2 : Nat) (Option.some Jvm.ClassFile.FieldType.int)) ∈ lw_all := lw_g (lw_at lw_m8 67 rfl) rfl
theorem q1868 : (Jvm.Cond.instanceMethod ({ cls := "CrumblingWall$Wall", name := "lyingAt", desc := "(I)I" } : Jvm.MethodName)) ∈ lw_all := lw_g (lw_at lw_m8 69 rfl) rfl
theorem q1869 : (Jvm.Cond.selects "CrumblingWall$Wall" ({ cls := "CrumblingWall$Wall", name := "lyingAt", desc := "(I)I" } : Jvm.MethodName) ({ cls := "CrumblingWall$Wall", name := "lyingAt", desc := "(I)I" } : Jvm.MethodName)) ∈ lw_all := lw_g (lw_at lw_m8 70 rfl) rfl
theorem q1870 : (Jvm.Cond.code ({ cls := "CrumblingWall$Wall", name := "lyingAt", desc := "(I)I" } : Jvm.MethodName) prog_21_method_15_code (4 : Nat) (Option.some Jvm.ClassFile.FieldType.int)) ∈ lw_all := lw_g (lw_at lw_m8 71 rfl) rfl
theorem q1872 : (Jvm.Cond.instanceMethod ({ cls := "CrumblingWall$Wall", name := "anchorsAt", desc := "(I)I" } : Jvm.MethodName)) ∈ lw_all := lw_g (lw_at lw_m8 73 rfl) rfl
theorem q1873 : (Jvm.Cond.selects "CrumblingWall$Wall" ({ cls := "CrumblingWall$Wall", name := "anchorsAt", desc := "(I)I" } : Jvm.MethodName) ({ cls := "CrumblingWall$Wall", name := "anchorsAt", desc := "(I)I" } : Jvm.MethodName)) ∈ lw_all := lw_g (lw_at lw_m8 74 rfl) rfl
theorem q1874 : (Jvm.Cond.code ({ cls := "CrumblingWall$Wall", name := "anchorsAt", desc := "(I)I" } : Jvm.MethodName) prog_21_method_24_code (5 : Nat) (Option.some Jvm.ClassFile.FieldType.int)) ∈ lw_all := lw_g (lw_at lw_m8 75 rfl) rfl
theorem q1883 : (Jvm.Cond.instanceMethod ({ cls := "CrumblingWall$Wall", name := "isPlace", desc := "(I)Z" } : Jvm.MethodName)) ∈ lw_all := lw_g (lw_at lw_m8 84 rfl) rfl
theorem q1884 : (Jvm.Cond.selects "CrumblingWall$Wall" ({ cls := "CrumblingWall$Wall", name := "isPlace", desc := "(I)Z" } : Jvm.MethodName) ({ cls := "CrumblingWall$Wall", name := "isPlace", desc := "(I)Z" } : Jvm.MethodName)) ∈ lw_all := lw_g (lw_at lw_m8 85 rfl) rfl
theorem q1885 : (Jvm.Cond.code ({ cls := "CrumblingWall$Wall", name := "isPlace", desc := "(I)Z" } : Jvm.MethodName) prog_21_method_5_code (2 : Nat) (Option.some Jvm.ClassFile.FieldType.boolean)) ∈ lw_all := lw_g (lw_at lw_m8 86 rfl) rfl
theorem q1886 : (Jvm.Cond.methodLink "CrumblingWall$Wall" (142 : Nat) ({ cls := "CrumblingWall$Wall", name := "isHold", desc := "(I)Z" } : Jvm.MethodName)) ∈ lw_all := lw_g (lw_at lw_m8 87 rfl) rfl
theorem q1897 : (Jvm.Cond.instanceMethod ({ cls := "CrumblingWall$Wall", name := "isLamp", desc := "(I)Z" } : Jvm.MethodName)) ∈ lw_all := lw_g (lw_at lw_m8 98 rfl) rfl
theorem q1898 : (Jvm.Cond.selects "CrumblingWall$Wall" ({ cls := "CrumblingWall$Wall", name := "isLamp", desc := "(I)Z" } : Jvm.MethodName) ({ cls := "CrumblingWall$Wall", name := "isLamp", desc := "(I)Z" } : Jvm.MethodName)) ∈ lw_all := lw_g (lw_at lw_m8 99 rfl) rfl
theorem q1899 : (Jvm.Cond.code ({ cls := "CrumblingWall$Wall", name := "isLamp", desc := "(I)Z" } : Jvm.MethodName) prog_21_method_6_code (2 : Nat) (Option.some Jvm.ClassFile.FieldType.boolean)) ∈ lw_all := lw_g (lw_at lw_m8 100 rfl) rfl
theorem q1913 : (Jvm.Cond.instanceMethod ({ cls := "CrumblingWall$Wall", name := "carriedBy", desc := "(I)I" } : Jvm.MethodName)) ∈ lw_all := lw_g (lw_at lw_m8 114 rfl) rfl
theorem q1914 : (Jvm.Cond.selects "CrumblingWall$Wall" ({ cls := "CrumblingWall$Wall", name := "carriedBy", desc := "(I)I" } : Jvm.MethodName) ({ cls := "CrumblingWall$Wall", name := "carriedBy", desc := "(I)I" } : Jvm.MethodName)) ∈ lw_all := lw_g (lw_at lw_m8 115 rfl) rfl
theorem q1915 : (Jvm.Cond.code ({ cls := "CrumblingWall$Wall", name := "carriedBy", desc := "(I)I" } : Jvm.MethodName) prog_21_method_14_code (4 : Nat) (Option.some Jvm.ClassFile.FieldType.int)) ∈ lw_all := lw_g (lw_at lw_m8 116 rfl) rfl
theorem q1917 : (Jvm.Cond.instanceMethod ({ cls := "CrumblingWall$Wall", name := "isSecure", desc := "(I)Z" } : Jvm.MethodName)) ∈ lw_all := lw_g (lw_at lw_m8 118 rfl) rfl
theorem q1918 : (Jvm.Cond.selects "CrumblingWall$Wall" ({ cls := "CrumblingWall$Wall", name := "isSecure", desc := "(I)Z" } : Jvm.MethodName) ({ cls := "CrumblingWall$Wall", name := "isSecure", desc := "(I)Z" } : Jvm.MethodName)) ∈ lw_all := lw_g (lw_at lw_m8 119 rfl) rfl
theorem q1919 : (Jvm.Cond.code ({ cls := "CrumblingWall$Wall", name := "isSecure", desc := "(I)Z" } : Jvm.MethodName) prog_21_method_17_code (3 : Nat) (Option.some Jvm.ClassFile.FieldType.boolean)) ∈ lw_all := lw_g (lw_at lw_m8 120 rfl) rfl
theorem q1920 : (Jvm.Cond.methodLink "CrumblingWall$Wall" (187 : Nat) ({ cls := "CrumblingWall$Hold", name := "hasCrumbled", desc := "()Z" } : Jvm.MethodName)) ∈ lw_all := lw_g (lw_at lw_m8 121 rfl) rfl
theorem q1929 : (Jvm.Cond.instanceMethod ({ cls := "CrumblingWall$Wall", name := "moves", desc := "(II)I" } : Jvm.MethodName)) ∈ lw_all := lw_g (lw_at lw_m8 130 rfl) rfl
theorem q1930 : (Jvm.Cond.selects "CrumblingWall$Wall" ({ cls := "CrumblingWall$Wall", name := "moves", desc := "(II)I" } : Jvm.MethodName) ({ cls := "CrumblingWall$Wall", name := "moves", desc := "(II)I" } : Jvm.MethodName)) ∈ lw_all := lw_g (lw_at lw_m8 131 rfl) rfl
theorem q1931 : (Jvm.Cond.code ({ cls := "CrumblingWall$Wall", name := "moves", desc := "(II)I" } : Jvm.MethodName) prog_21_method_29_code (5 : Nat) (Option.some Jvm.ClassFile.FieldType.int)) ∈ lw_all := lw_g (lw_at lw_m8 132 rfl) rfl
theorem q1932 : (Jvm.Cond.methodLink "CrumblingWall$Wall" (264 : Nat) ({ cls := "CrumblingWall$Wall", name := "checkMove", desc := "(II)V" } : Jvm.MethodName)) ∈ lw_all := lw_g (lw_at lw_m8 133 rfl) rfl
theorem q1933 : (Jvm.Cond.instanceMethod ({ cls := "CrumblingWall$Wall", name := "checkMove", desc := "(II)V" } : Jvm.MethodName)) ∈ lw_all := lw_g (lw_at lw_m8 134 rfl) rfl
theorem q1934 : (Jvm.Cond.selects "CrumblingWall$Wall" ({ cls := "CrumblingWall$Wall", name := "checkMove", desc := "(II)V" } : Jvm.MethodName) ({ cls := "CrumblingWall$Wall", name := "checkMove", desc := "(II)V" } : Jvm.MethodName)) ∈ lw_all := lw_g (lw_at lw_m8 135 rfl) rfl
theorem q1935 : (Jvm.Cond.code ({ cls := "CrumblingWall$Wall", name := "checkMove", desc := "(II)V" } : Jvm.MethodName) prog_21_method_28_code (8 : Nat) (Option.none : Option Jvm.ClassFile.FieldType)) ∈ lw_all := lw_g (lw_at lw_m8 136 rfl) rfl
theorem q1936 : (Jvm.Cond.methodLink "CrumblingWall$Wall" (219 : Nat) ({ cls := "CrumblingWall$Climber", name := "isHurt", desc := "()Z" } : Jvm.MethodName)) ∈ lw_all := lw_g (lw_at lw_m8 137 rfl) rfl
theorem q1940 : (Jvm.Cond.methodLinkNest "CrumblingWall$Wall" (222 : Nat) ({ cls := "CrumblingWall", name := "refuse", desc := "(ZII)V" } : Jvm.MethodName) "CrumblingWall") ∈ lw_tbl := lw_at lw_m8 141 rfl
theorem q1941 : (Jvm.Cond.methodLink "CrumblingWall$Wall" (190 : Nat) ({ cls := "CrumblingWall$Wall", name := "isBright", desc := "(LCrumblingWall$Hold;)Z" } : Jvm.MethodName)) ∈ lw_all := lw_g (lw_at lw_m8 142 rfl) rfl
theorem q1942 : (Jvm.Cond.interfaceEntry "CrumblingWall$Wall" (253 : Nat)) ∈ lw_tbl := lw_at lw_m8 143 rfl
theorem q1943 : (Jvm.Cond.methodLink "CrumblingWall$Wall" (253 : Nat) ({ cls := "CrumblingWall$Place", name := "row", desc := "()I" } : Jvm.MethodName)) ∈ lw_all := lw_g (lw_at lw_m8 144 rfl) rfl
theorem q1944 : (Jvm.Cond.methodLink "CrumblingWall$Wall" (254 : Nat) ({ cls := "CrumblingWall$Wall", name := "grip", desc := "(II)I" } : Jvm.MethodName)) ∈ lw_all := lw_g (lw_at lw_m8 145 rfl) rfl
theorem q1945 : (Jvm.Cond.privateMethod ({ cls := "CrumblingWall$Wall", name := "grip", desc := "(II)I" } : Jvm.MethodName)) ∈ lw_tbl := lw_at lw_m8 146 rfl
theorem q1946 : (Jvm.Cond.instanceMethod ({ cls := "CrumblingWall$Wall", name := "grip", desc := "(II)I" } : Jvm.MethodName)) ∈ lw_all := lw_g (lw_at lw_m8 147 rfl) rfl
theorem q1947 : (Jvm.Cond.code ({ cls := "CrumblingWall$Wall", name := "grip", desc := "(II)I" } : Jvm.MethodName) prog_21_method_27_code (3 : Nat) (Option.some Jvm.ClassFile.FieldType.int)) ∈ lw_all := lw_g (lw_at lw_m8 148 rfl) rfl
theorem q1948 : (Jvm.Cond.methodLink "CrumblingWall$Wall" (246 : Nat) ({ cls := "CrumblingWall$Wall", name := "carriedBy", desc := "(I)I" } : Jvm.MethodName)) ∈ lw_all := lw_g (lw_at lw_m8 149 rfl) rfl
theorem q1949 : (Jvm.Cond.methodLink "CrumblingWall$Wall" (250 : Nat) ({ cls := "java/lang/Integer", name := "bitCount", desc := "(I)I" } : Jvm.MethodName)) ∈ lw_all := lw_g (lw_at lw_m8 150 rfl) rfl
theorem q1955 : (Jvm.Cond.methodLink "CrumblingWall$Wall" (260 : Nat) ({ cls := "CrumblingWall$Wall", name := "outWith", desc := "(ILCrumblingWall$Place;)I" } : Jvm.MethodName)) ∈ lw_all := lw_g (lw_at lw_m8 156 rfl) rfl
theorem q1956 : (Jvm.Cond.privateMethod ({ cls := "CrumblingWall$Wall", name := "outWith", desc := "(ILCrumblingWall$Place;)I" } : Jvm.MethodName)) ∈ lw_tbl := lw_at lw_m8 157 rfl
theorem q1957 : (Jvm.Cond.instanceMethod ({ cls := "CrumblingWall$Wall", name := "outWith", desc := "(ILCrumblingWall$Place;)I" } : Jvm.MethodName)) ∈ lw_all := lw_g (lw_at lw_m8 158 rfl) rfl
theorem q1958 : (Jvm.Cond.code ({ cls := "CrumblingWall$Wall", name := "outWith", desc := "(ILCrumblingWall$Place;)I" } : Jvm.MethodName) prog_21_method_22_code (3 : Nat) (Option.some Jvm.ClassFile.FieldType.int)) ∈ lw_all := lw_g (lw_at lw_m8 159 rfl) rfl
theorem q1959 : (Jvm.Cond.methodLink "CrumblingWall$Wall" (268 : Nat) ({ cls := "CrumblingWall$Climber", name := "comes", desc := "(II)V" } : Jvm.MethodName)) ∈ lw_all := lw_g (lw_at lw_m8 160 rfl) rfl
theorem q1963 : (Jvm.Cond.methodLink "CrumblingWall$Wall" (271 : Nat) ({ cls := "CrumblingWall$Hold", name := "worn", desc := "()I" } : Jvm.MethodName)) ∈ lw_all := lw_g (lw_at lw_m8 164 rfl) rfl
theorem q1978 : (Jvm.Cond.methodLink "CrumblingWall$Wall" (274 : Nat) ({ cls := "CrumblingWall$Hold", name := "wears", desc := "(I)V" } : Jvm.MethodName)) ∈ lw_all := lw_g (lw_at lw_m8 179 rfl) rfl
theorem q1996 : (Jvm.Cond.methodLink "CrumblingWall$Wall" (277 : Nat) ({ cls := "CrumblingWall$Wall", name := "crumbles", desc := "(I)V" } : Jvm.MethodName)) ∈ lw_all := lw_g (lw_at lw_m8 197 rfl) rfl
theorem q1997 : (Jvm.Cond.privateMethod ({ cls := "CrumblingWall$Wall", name := "crumbles", desc := "(I)V" } : Jvm.MethodName)) ∈ lw_tbl := lw_at lw_m8 198 rfl
theorem q1998 : (Jvm.Cond.instanceMethod ({ cls := "CrumblingWall$Wall", name := "crumbles", desc := "(I)V" } : Jvm.MethodName)) ∈ lw_all := lw_g (lw_at lw_m8 199 rfl) rfl
theorem q1999 : (Jvm.Cond.code ({ cls := "CrumblingWall$Wall", name := "crumbles", desc := "(I)V" } : Jvm.MethodName) prog_21_method_33_code (5 : Nat) (Option.none : Option Jvm.ClassFile.FieldType)) ∈ lw_all := lw_g (lw_at lw_m8 200 rfl) rfl
theorem q2000 : (Jvm.Cond.classLink "CrumblingWall$Wall" (295 : Nat) "java/util/ArrayDeque") ∈ lw_all := lw_g (lw_at lw_m8 201 rfl) rfl
theorem q2001 : (Jvm.Cond.methodLink "CrumblingWall$Wall" (297 : Nat) ({ cls := "java/util/ArrayDeque", name := "<init>", desc := "()V" } : Jvm.MethodName)) ∈ lw_all := lw_g (lw_at lw_m8 202 rfl) rfl
theorem q2002 : (Jvm.Cond.methodLink "CrumblingWall$Wall" (236 : Nat) ({ cls := "java/lang/Integer", name := "valueOf", desc := "(I)Ljava/lang/Integer;" } : Jvm.MethodName)) ∈ lw_all := lw_g (lw_at lw_m8 203 rfl) rfl
theorem q2022 : (Jvm.Cond.methodLink "CrumblingWall$Wall" (298 : Nat) ({ cls := "java/util/ArrayDeque", name := "addLast", desc := "(Ljava/lang/Object;)V" } : Jvm.MethodName)) ∈ lw_all := lw_g (lw_at lw_m8 223 rfl) rfl
theorem q2023 : (Jvm.Cond.methodLink "CrumblingWall$Wall" (299 : Nat) ({ cls := "java/util/ArrayDeque", name := "isEmpty", desc := "()Z" } : Jvm.MethodName)) ∈ lw_all := lw_g (lw_at lw_m8 224 rfl) rfl
theorem q2027 : (Jvm.Cond.methodLink "CrumblingWall$Wall" (300 : Nat) ({ cls := "java/util/ArrayDeque", name := "removeFirst", desc := "()Ljava/lang/Object;" } : Jvm.MethodName)) ∈ lw_all := lw_g (lw_at lw_m8 228 rfl) rfl
theorem q2028 : (Jvm.Cond.methodLink "CrumblingWall$Wall" (301 : Nat) ({ cls := "CrumblingWall$Wall", name := "takesOut", desc := "(I)V" } : Jvm.MethodName)) ∈ lw_all := lw_g (lw_at lw_m8 229 rfl) rfl
theorem q2029 : (Jvm.Cond.privateMethod ({ cls := "CrumblingWall$Wall", name := "takesOut", desc := "(I)V" } : Jvm.MethodName)) ∈ lw_tbl := lw_at lw_m8 230 rfl
theorem q2030 : (Jvm.Cond.instanceMethod ({ cls := "CrumblingWall$Wall", name := "takesOut", desc := "(I)V" } : Jvm.MethodName)) ∈ lw_all := lw_g (lw_at lw_m8 231 rfl) rfl
theorem q2031 : (Jvm.Cond.code ({ cls := "CrumblingWall$Wall", name := "takesOut", desc := "(I)V" } : Jvm.MethodName) prog_21_method_23_code (4 : Nat) (Option.none : Option Jvm.ClassFile.FieldType)) ∈ lw_all := lw_g (lw_at lw_m8 232 rfl) rfl
theorem q2032 : (Jvm.Cond.interfaceEntry "CrumblingWall$Wall" (216 : Nat)) ∈ lw_tbl := lw_at lw_m8 233 rfl
theorem q2033 : (Jvm.Cond.methodLink "CrumblingWall$Wall" (216 : Nat) ({ cls := "java/util/Iterator", name := "remove", desc := "()V" } : Jvm.MethodName)) ∈ lw_all := lw_g (lw_at lw_m8 234 rfl) rfl
theorem q2102 : (Jvm.Cond.methodLink "CrumblingWall$Wall" (304 : Nat) ({ cls := "CrumblingWall$Lamp", name := "drops", desc := "()V" } : Jvm.MethodName)) ∈ lw_all := lw_g (lw_at lw_m9 63 rfl) rfl
theorem q2106 : (Jvm.Cond.methodLink "CrumblingWall$Wall" (307 : Nat) ({ cls := "CrumblingWall$Wall", name := "falls", desc := "(IILjava/util/ArrayDeque;)V" } : Jvm.MethodName)) ∈ lw_all := lw_g (lw_at lw_m9 67 rfl) rfl
theorem q2107 : (Jvm.Cond.privateMethod ({ cls := "CrumblingWall$Wall", name := "falls", desc := "(IILjava/util/ArrayDeque;)V" } : Jvm.MethodName)) ∈ lw_tbl := lw_at lw_m9 68 rfl
theorem q2108 : (Jvm.Cond.instanceMethod ({ cls := "CrumblingWall$Wall", name := "falls", desc := "(IILjava/util/ArrayDeque;)V" } : Jvm.MethodName)) ∈ lw_all := lw_g (lw_at lw_m9 69 rfl) rfl
theorem q2109 : (Jvm.Cond.code ({ cls := "CrumblingWall$Wall", name := "falls", desc := "(IILjava/util/ArrayDeque;)V" } : Jvm.MethodName) prog_21_method_34_code (6 : Nat) (Option.none : Option Jvm.ClassFile.FieldType)) ∈ lw_all := lw_g (lw_at lw_m9 70 rfl) rfl
theorem q2110 : (Jvm.Cond.methodLink "CrumblingWall$Wall" (311 : Nat) ({ cls := "CrumblingWall$Wall", name := "catchesLeader", desc := "(ILjava/util/ArrayDeque;)I" } : Jvm.MethodName)) ∈ lw_all := lw_g (lw_at lw_m9 71 rfl) rfl
theorem q2111 : (Jvm.Cond.privateMethod ({ cls := "CrumblingWall$Wall", name := "catchesLeader", desc := "(ILjava/util/ArrayDeque;)I" } : Jvm.MethodName)) ∈ lw_tbl := lw_at lw_m9 72 rfl
theorem q2112 : (Jvm.Cond.instanceMethod ({ cls := "CrumblingWall$Wall", name := "catchesLeader", desc := "(ILjava/util/ArrayDeque;)I" } : Jvm.MethodName)) ∈ lw_all := lw_g (lw_at lw_m9 73 rfl) rfl
theorem q2113 : (Jvm.Cond.code ({ cls := "CrumblingWall$Wall", name := "catchesLeader", desc := "(ILjava/util/ArrayDeque;)I" } : Jvm.MethodName) prog_21_method_36_code (8 : Nat) (Option.some Jvm.ClassFile.FieldType.int)) ∈ lw_all := lw_g (lw_at lw_m9 74 rfl) rfl
theorem q2114 : (Jvm.Cond.methodLink "CrumblingWall$Wall" (229 : Nat) ({ cls := "java/util/LinkedList", name := "isEmpty", desc := "()Z" } : Jvm.MethodName)) ∈ lw_all := lw_g (lw_at lw_m9 75 rfl) rfl
theorem q2121 : (Jvm.Cond.methodLink "CrumblingWall$Wall" (318 : Nat) ({ cls := "CrumblingWall$Wall", name := "isSecure", desc := "(I)Z" } : Jvm.MethodName)) ∈ lw_all := lw_g (lw_at lw_m9 82 rfl) rfl
theorem q2122 : (Jvm.Cond.methodLink "CrumblingWall$Wall" (232 : Nat) ({ cls := "java/util/LinkedList", name := "getLast", desc := "()Ljava/lang/Object;" } : Jvm.MethodName)) ∈ lw_all := lw_g (lw_at lw_m9 83 rfl) rfl
theorem q2128 : (Jvm.Cond.methodLink "CrumblingWall$Wall" (321 : Nat) ({ cls := "CrumblingWall$Wall", name := "keeps", desc := "(F)V" } : Jvm.MethodName)) ∈ lw_all := lw_g (lw_at lw_m9 89 rfl) rfl
theorem q2129 : (Jvm.Cond.privateMethod ({ cls := "CrumblingWall$Wall", name := "keeps", desc := "(F)V" } : Jvm.MethodName)) ∈ lw_tbl := lw_at lw_m9 90 rfl
theorem q2130 : (Jvm.Cond.instanceMethod ({ cls := "CrumblingWall$Wall", name := "keeps", desc := "(F)V" } : Jvm.MethodName)) ∈ lw_all := lw_g (lw_at lw_m9 91 rfl) rfl
theorem q2131 : (Jvm.Cond.code ({ cls := "CrumblingWall$Wall", name := "keeps", desc := "(F)V" } : Jvm.MethodName) prog_21_method_37_code (2 : Nat) (Option.none : Option Jvm.ClassFile.FieldType)) ∈ lw_all := lw_g (lw_at lw_m9 92 rfl) rfl
theorem q2132 : (Jvm.Cond.constantFloat "CrumblingWall$Wall" (325 : Nat) (1077936128 : UInt32)) ∈ lw_all := lw_g (lw_at lw_m9 93 rfl) rfl
theorem q2133 : (Jvm.Cond.methodLink "CrumblingWall$Wall" (315 : Nat) ({ cls := "CrumblingWall$Wall", name := "catchesFollower", desc := "()I" } : Jvm.MethodName)) ∈ lw_all := lw_g (lw_at lw_m9 94 rfl) rfl
theorem q2134 : (Jvm.Cond.privateMethod ({ cls := "CrumblingWall$Wall", name := "catchesFollower", desc := "()I" } : Jvm.MethodName)) ∈ lw_tbl := lw_at lw_m9 95 rfl
theorem q2135 : (Jvm.Cond.instanceMethod ({ cls := "CrumblingWall$Wall", name := "catchesFollower", desc := "()I" } : Jvm.MethodName)) ∈ lw_all := lw_g (lw_at lw_m9 96 rfl) rfl
theorem q2136 : (Jvm.Cond.code ({ cls := "CrumblingWall$Wall", name := "catchesFollower", desc := "()I" } : Jvm.MethodName) prog_21_method_35_code (1 : Nat) (Option.some Jvm.ClassFile.FieldType.int)) ∈ lw_all := lw_g (lw_at lw_m9 97 rfl) rfl
theorem q2137 : (Jvm.Cond.methodLink "CrumblingWall$Wall" (240 : Nat) ({ cls := "java/util/LinkedList", name := "getFirst", desc := "()Ljava/lang/Object;" } : Jvm.MethodName)) ∈ lw_all := lw_g (lw_at lw_m9 98 rfl) rfl
theorem q2141 : (Jvm.Cond.methodLink "CrumblingWall$Wall" (280 : Nat) ({ cls := "CrumblingWall$Wall", name := "minute", desc := "()V" } : Jvm.MethodName)) ∈ lw_all := lw_g (lw_at lw_m9 102 rfl) rfl
theorem q2142 : (Jvm.Cond.privateMethod ({ cls := "CrumblingWall$Wall", name := "minute", desc := "()V" } : Jvm.MethodName)) ∈ lw_tbl := lw_at lw_m9 103 rfl
theorem q2143 : (Jvm.Cond.instanceMethod ({ cls := "CrumblingWall$Wall", name := "minute", desc := "()V" } : Jvm.MethodName)) ∈ lw_all := lw_g (lw_at lw_m9 104 rfl) rfl
theorem q2144 : (Jvm.Cond.code ({ cls := "CrumblingWall$Wall", name := "minute", desc := "()V" } : Jvm.MethodName) prog_21_method_32_code (2 : Nat) (Option.none : Option Jvm.ClassFile.FieldType)) ∈ lw_all := lw_g (lw_at lw_m9 105 rfl) rfl
theorem q2145 : (Jvm.Cond.methodLink "CrumblingWall$Wall" (292 : Nat) ({ cls := "CrumblingWall$Lamp", name := "burns", desc := "()V" } : Jvm.MethodName)) ∈ lw_all := lw_g (lw_at lw_m9 106 rfl) rfl
theorem q2157 : (Jvm.Cond.instanceMethod ({ cls := "CrumblingWall$Wall", name := "rests", desc := "(I)I" } : Jvm.MethodName)) ∈ lw_all := lw_g (lw_at lw_m9 118 rfl) rfl
theorem q2158 : (Jvm.Cond.selects "CrumblingWall$Wall" ({ cls := "CrumblingWall$Wall", name := "rests", desc := "(I)I" } : Jvm.MethodName) ({ cls := "CrumblingWall$Wall", name := "rests", desc := "(I)I" } : Jvm.MethodName)) ∈ lw_all := lw_g (lw_at lw_m9 119 rfl) rfl
theorem q2159 : (Jvm.Cond.code ({ cls := "CrumblingWall$Wall", name := "rests", desc := "(I)I" } : Jvm.MethodName) prog_21_method_31_code (3 : Nat) (Option.some Jvm.ClassFile.FieldType.int)) ∈ lw_all := lw_g (lw_at lw_m9 120 rfl) rfl
theorem q2160 : (Jvm.Cond.methodLink "CrumblingWall$Wall" (226 : Nat) ({ cls := "CrumblingWall$Climber", name := "isHanging", desc := "()Z" } : Jvm.MethodName)) ∈ lw_all := lw_g (lw_at lw_m9 121 rfl) rfl
theorem q2164 : (Jvm.Cond.methodLink "CrumblingWall$Wall" (286 : Nat) ({ cls := "CrumblingWall$Wall", name := "restAt", desc := "(I)I" } : Jvm.MethodName)) ∈ lw_all := lw_g (lw_at lw_m9 125 rfl) rfl
theorem q2165 : (Jvm.Cond.privateMethod ({ cls := "CrumblingWall$Wall", name := "restAt", desc := "(I)I" } : Jvm.MethodName)) ∈ lw_tbl := lw_at lw_m9 126 rfl
theorem q2166 : (Jvm.Cond.instanceMethod ({ cls := "CrumblingWall$Wall", name := "restAt", desc := "(I)I" } : Jvm.MethodName)) ∈ lw_all := lw_g (lw_at lw_m9 127 rfl) rfl
theorem q2167 : (Jvm.Cond.code ({ cls := "CrumblingWall$Wall", name := "restAt", desc := "(I)I" } : Jvm.MethodName) prog_21_method_30_code (2 : Nat) (Option.some Jvm.ClassFile.FieldType.int)) ∈ lw_all := lw_g (lw_at lw_m9 128 rfl) rfl
theorem q2168 : (Jvm.Cond.methodLink "CrumblingWall$Wall" (283 : Nat) ({ cls := "CrumblingWall$Hold", name := "rest", desc := "()I" } : Jvm.MethodName)) ∈ lw_all := lw_g (lw_at lw_m9 129 rfl) rfl
theorem q2183 : (Jvm.Cond.methodLink "CrumblingWall$Wall" (289 : Nat) ({ cls := "CrumblingWall$Climber", name := "gains", desc := "(I)V" } : Jvm.MethodName)) ∈ lw_all := lw_g (lw_at lw_m9 144 rfl) rfl
theorem q2303 : (Jvm.Cond.instanceMethod ({ cls := "CrumblingWall$Wall", name := "isOpen", desc := "(I)Z" } : Jvm.MethodName)) ∈ lw_all := lw_g (lw_at lw_m10 24 rfl) rfl
theorem q2304 : (Jvm.Cond.selects "CrumblingWall$Wall" ({ cls := "CrumblingWall$Wall", name := "isOpen", desc := "(I)Z" } : Jvm.MethodName) ({ cls := "CrumblingWall$Wall", name := "isOpen", desc := "(I)Z" } : Jvm.MethodName)) ∈ lw_all := lw_g (lw_at lw_m10 25 rfl) rfl
theorem q2305 : (Jvm.Cond.code ({ cls := "CrumblingWall$Wall", name := "isOpen", desc := "(I)Z" } : Jvm.MethodName) prog_21_method_13_code (2 : Nat) (Option.some Jvm.ClassFile.FieldType.boolean)) ∈ lw_all := lw_g (lw_at lw_m10 26 rfl) rfl
theorem q2369 : (Jvm.Cond.instanceMethod ({ cls := "CrumblingWall$Wall", name := "clip", desc := "()I" } : Jvm.MethodName)) ∈ lw_all := lw_g (lw_at lw_m10 90 rfl) rfl
theorem q2370 : (Jvm.Cond.selects "CrumblingWall$Wall" ({ cls := "CrumblingWall$Wall", name := "clip", desc := "()I" } : Jvm.MethodName) ({ cls := "CrumblingWall$Wall", name := "clip", desc := "()I" } : Jvm.MethodName)) ∈ lw_all := lw_g (lw_at lw_m10 91 rfl) rfl
theorem q2371 : (Jvm.Cond.code ({ cls := "CrumblingWall$Wall", name := "clip", desc := "()I" } : Jvm.MethodName) prog_21_method_25_code (2 : Nat) (Option.some Jvm.ClassFile.FieldType.int)) ∈ lw_all := lw_g (lw_at lw_m10 92 rfl) rfl
theorem q2372 : (Jvm.Cond.methodLink "CrumblingWall$Wall" (235 : Nat) ({ cls := "java/util/LinkedList", name := "size", desc := "()I" } : Jvm.MethodName)) ∈ lw_all := lw_g (lw_at lw_m10 93 rfl) rfl
theorem q2381 : (Jvm.Cond.instanceMethod ({ cls := "CrumblingWall$Wall", name := "unclip", desc := "()I" } : Jvm.MethodName)) ∈ lw_all := lw_g (lw_at lw_m10 102 rfl) rfl
theorem q2382 : (Jvm.Cond.selects "CrumblingWall$Wall" ({ cls := "CrumblingWall$Wall", name := "unclip", desc := "()I" } : Jvm.MethodName) ({ cls := "CrumblingWall$Wall", name := "unclip", desc := "()I" } : Jvm.MethodName)) ∈ lw_all := lw_g (lw_at lw_m10 103 rfl) rfl
theorem q2383 : (Jvm.Cond.code ({ cls := "CrumblingWall$Wall", name := "unclip", desc := "()I" } : Jvm.MethodName) prog_21_method_26_code (3 : Nat) (Option.some Jvm.ClassFile.FieldType.int)) ∈ lw_all := lw_g (lw_at lw_m10 104 rfl) rfl
theorem q2384 : (Jvm.Cond.methodLink "CrumblingWall$Wall" (243 : Nat) ({ cls := "java/util/LinkedList", name := "removeFirst", desc := "()Ljava/lang/Object;" } : Jvm.MethodName)) ∈ lw_all := lw_g (lw_at lw_m10 105 rfl) rfl
theorem q2414 : (Jvm.Cond.instanceMethod ({ cls := "CrumblingWall$Wall", name := "takes", desc := "(II)I" } : Jvm.MethodName)) ∈ lw_all := lw_g (lw_at lw_m10 135 rfl) rfl
theorem q2415 : (Jvm.Cond.selects "CrumblingWall$Wall" ({ cls := "CrumblingWall$Wall", name := "takes", desc := "(II)I" } : Jvm.MethodName) ({ cls := "CrumblingWall$Wall", name := "takes", desc := "(II)I" } : Jvm.MethodName)) ∈ lw_all := lw_g (lw_at lw_m10 136 rfl) rfl
theorem q2416 : (Jvm.Cond.code ({ cls := "CrumblingWall$Wall", name := "takes", desc := "(II)I" } : Jvm.MethodName) prog_21_method_40_code (4 : Nat) (Option.some Jvm.ClassFile.FieldType.int)) ∈ lw_all := lw_g (lw_at lw_m10 137 rfl) rfl
theorem q2417 : (Jvm.Cond.methodLink "CrumblingWall$Wall" (326 : Nat) ({ cls := "CrumblingWall$Wall", name := "liesWith", desc := "(ILCrumblingWall$Lamp;)Z" } : Jvm.MethodName)) ∈ lw_all := lw_g (lw_at lw_m10 138 rfl) rfl
theorem q2418 : (Jvm.Cond.privateMethod ({ cls := "CrumblingWall$Wall", name := "liesWith", desc := "(ILCrumblingWall$Lamp;)Z" } : Jvm.MethodName)) ∈ lw_tbl := lw_at lw_m10 139 rfl
theorem q2419 : (Jvm.Cond.instanceMethod ({ cls := "CrumblingWall$Wall", name := "liesWith", desc := "(ILCrumblingWall$Lamp;)Z" } : Jvm.MethodName)) ∈ lw_all := lw_g (lw_at lw_m10 140 rfl) rfl
theorem q2420 : (Jvm.Cond.code ({ cls := "CrumblingWall$Wall", name := "liesWith", desc := "(ILCrumblingWall$Lamp;)Z" } : Jvm.MethodName) prog_21_method_39_code (3 : Nat) (Option.some Jvm.ClassFile.FieldType.boolean)) ∈ lw_all := lw_g (lw_at lw_m10 141 rfl) rfl
theorem q2429 : (Jvm.Cond.instanceMethod ({ cls := "CrumblingWall$Wall", name := "puts", desc := "(II)I" } : Jvm.MethodName)) ∈ lw_all := lw_g (lw_at lw_m10 150 rfl) rfl
theorem q2430 : (Jvm.Cond.selects "CrumblingWall$Wall" ({ cls := "CrumblingWall$Wall", name := "puts", desc := "(II)I" } : Jvm.MethodName) ({ cls := "CrumblingWall$Wall", name := "puts", desc := "(II)I" } : Jvm.MethodName)) ∈ lw_all := lw_g (lw_at lw_m10 151 rfl) rfl
theorem q2431 : (Jvm.Cond.code ({ cls := "CrumblingWall$Wall", name := "puts", desc := "(II)I" } : Jvm.MethodName) prog_21_method_41_code (4 : Nat) (Option.some Jvm.ClassFile.FieldType.int)) ∈ lw_all := lw_g (lw_at lw_m10 152 rfl) rfl
theorem q2432 : (Jvm.Cond.methodLink "CrumblingWall$Wall" (330 : Nat) ({ cls := "CrumblingWall$Wall", name := "isCarriedBy", desc := "(ILCrumblingWall$Lamp;)Z" } : Jvm.MethodName)) ∈ lw_all := lw_g (lw_at lw_m10 153 rfl) rfl
theorem q2433 : (Jvm.Cond.privateMethod ({ cls := "CrumblingWall$Wall", name := "isCarriedBy", desc := "(ILCrumblingWall$Lamp;)Z" } : Jvm.MethodName)) ∈ lw_tbl := lw_at lw_m10 154 rfl
theorem q2434 : (Jvm.Cond.instanceMethod ({ cls := "CrumblingWall$Wall", name := "isCarriedBy", desc := "(ILCrumblingWall$Lamp;)Z" } : Jvm.MethodName)) ∈ lw_all := lw_g (lw_at lw_m10 155 rfl) rfl
theorem q2435 : (Jvm.Cond.code ({ cls := "CrumblingWall$Wall", name := "isCarriedBy", desc := "(ILCrumblingWall$Lamp;)Z" } : Jvm.MethodName) prog_21_method_38_code (3 : Nat) (Option.some Jvm.ClassFile.FieldType.boolean)) ∈ lw_all := lw_g (lw_at lw_m10 156 rfl) rfl
theorem q2444 : (Jvm.Cond.instanceMethod ({ cls := "CrumblingWall$Wall", name := "lights", desc := "(II)I" } : Jvm.MethodName)) ∈ lw_all := lw_g (lw_at lw_m10 165 rfl) rfl
theorem q2445 : (Jvm.Cond.selects "CrumblingWall$Wall" ({ cls := "CrumblingWall$Wall", name := "lights", desc := "(II)I" } : Jvm.MethodName) ({ cls := "CrumblingWall$Wall", name := "lights", desc := "(II)I" } : Jvm.MethodName)) ∈ lw_all := lw_g (lw_at lw_m10 166 rfl) rfl
theorem q2446 : (Jvm.Cond.code ({ cls := "CrumblingWall$Wall", name := "lights", desc := "(II)I" } : Jvm.MethodName) prog_21_method_42_code (4 : Nat) (Option.some Jvm.ClassFile.FieldType.int)) ∈ lw_all := lw_g (lw_at lw_m10 167 rfl) rfl
theorem q2824 : (Jvm.Cond.instanceMethod ({ cls := "CrumblingWall$Wall", name := "isWorse", desc := "(II)Z" } : Jvm.MethodName)) ∈ lw_all := lw_g (lw_at lw_m12 65 rfl) rfl
theorem q2825 : (Jvm.Cond.selects "CrumblingWall$Wall" ({ cls := "CrumblingWall$Wall", name := "isWorse", desc := "(II)Z" } : Jvm.MethodName) ({ cls := "CrumblingWall$Wall", name := "isWorse", desc := "(II)Z" } : Jvm.MethodName)) ∈ lw_all := lw_g (lw_at lw_m12 66 rfl) rfl
theorem q2826 : (Jvm.Cond.code ({ cls := "CrumblingWall$Wall", name := "isWorse", desc := "(II)Z" } : Jvm.MethodName) prog_21_method_18_code (3 : Nat) (Option.some Jvm.ClassFile.FieldType.boolean)) ∈ lw_all := lw_g (lw_at lw_m12 67 rfl) rfl
theorem q3565 : (Jvm.Cond.castable "CrumblingWall$Wall" "java/lang/Object") ∈ lw_tbl := lw_at lw_m15 86 rfl
theorem in_X2 : ∀ w ∈ wsX20, w ∈ lw_all := lw_in wsX20 [672, 674, 676, 678, 680, 682, 684, 686, 688, 690, 692, 694, 696, 698, 700] (by decide +kernel) (by decide +kernel)
