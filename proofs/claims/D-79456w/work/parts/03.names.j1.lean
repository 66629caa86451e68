theorem q391 : (Jvm.Cond.sameMethod "[B" "java/lang/Object" "clone" "()Ljava/lang/Object;") ∈ lw_all := lw_g (lw_at lw_m2 32 rfl) rfl
set_option maxRecDepth 100000
theorem q394 : (Jvm.Cond.selects "[B" ({ cls := "[B", name := "clone", desc := "()Ljava/lang/Object;" } : Jvm.MethodName) ({ cls := "java/lang/Object", name := "clone", desc := "()Ljava/lang/Object;" } : Jvm.MethodName)) ∈ lw_all := lw_g (lw_at lw_m2 35 rfl) rfl
theorem q395 : (Jvm.Cond.castable "[B" "java/lang/Cloneable") ∈ lw_tbl := lw_at lw_m2 36 rfl
theorem q3607 : (Jvm.Cond.castable "[B" "java/lang/Object") ∈ lw_tbl := lw_at lw_m15 128 rfl
theorem q3618 : (Jvm.Cond.castable "[C" "java/lang/Object") ∈ lw_tbl := lw_at lw_m15 139 rfl
set_option maxRecDepth 100000
theorem q3619 : (Jvm.Cond.castable "[D" "java/lang/Object") ∈ lw_tbl := lw_at lw_m15 140 rfl
set_option maxRecDepth 100000
theorem q2473 : (Jvm.Cond.sameMethod "[F" "java/lang/Object" "clone" "()Ljava/lang/Object;") ∈ lw_all := lw_g (lw_at lw_m10 194 rfl) rfl
set_option maxRecDepth 100000
theorem q2474 : (Jvm.Cond.selects "[F" ({ cls := "[F", name := "clone", desc := "()Ljava/lang/Object;" } : Jvm.MethodName) ({ cls := "java/lang/Object", name := "clone", desc := "()Ljava/lang/Object;" } : Jvm.MethodName)) ∈ lw_all := lw_g (lw_at lw_m10 195 rfl) rfl
theorem q2475 : (Jvm.Cond.castable "[F" "java/lang/Cloneable") ∈ lw_tbl := lw_at lw_m10 196 rfl
theorem q3608 : (Jvm.Cond.castable "[F" "java/lang/Object") ∈ lw_tbl := lw_at lw_m15 129 rfl
theorem q3611 : (Jvm.Cond.castable "[I" "java/lang/Object") ∈ lw_tbl := lw_at lw_m15 132 rfl
set_option maxRecDepth 100000
theorem q2284 : (Jvm.Cond.sameMethod "[J" "java/lang/Object" "clone" "()Ljava/lang/Object;") ∈ lw_all := lw_g (lw_at lw_m10 5 rfl) rfl
set_option maxRecDepth 100000
theorem q2285 : (Jvm.Cond.selects "[J" ({ cls := "[J", name := "clone", desc := "()Ljava/lang/Object;" } : Jvm.MethodName) ({ cls := "java/lang/Object", name := "clone", desc := "()Ljava/lang/Object;" } : Jvm.MethodName)) ∈ lw_all := lw_g (lw_at lw_m10 6 rfl) rfl
theorem q2286 : (Jvm.Cond.castable "[J" "java/lang/Cloneable") ∈ lw_tbl := lw_at lw_m10 7 rfl
theorem q3612 : (Jvm.Cond.castable "[J" "java/lang/Object") ∈ lw_tbl := lw_at lw_m15 133 rfl
theorem q3616 : (Jvm.Cond.castable "[LCrumblingWall$Bolt;" "java/lang/Object") ∈ lw_tbl := lw_at lw_m15 137 rfl
set_option maxRecDepth 100000
theorem q3613 : (Jvm.Cond.castable "[LCrumblingWall$Edge;" "java/lang/Object") ∈ lw_tbl := lw_at lw_m15 134 rfl
set_option maxRecDepth 100000
theorem q3615 : (Jvm.Cond.castable "[LCrumblingWall$Flake;" "java/lang/Object") ∈ lw_tbl := lw_at lw_m15 136 rfl
set_option maxRecDepth 100000
theorem q3610 : (Jvm.Cond.castable "[LCrumblingWall$Hold;" "java/lang/Object") ∈ lw_tbl := lw_at lw_m15 131 rfl
set_option maxRecDepth 100000
theorem q3614 : (Jvm.Cond.castable "[LCrumblingWall$Pocket;" "java/lang/Object") ∈ lw_tbl := lw_at lw_m15 135 rfl
set_option maxRecDepth 100000
theorem q3603 : (Jvm.Cond.sameMethod "[Ljava/lang/Object;" "java/lang/Object" "getClass" "()Ljava/lang/Class;") ∈ lw_all := lw_g (lw_at lw_m15 124 rfl) rfl
set_option maxRecDepth 100000
theorem q3604 : (Jvm.Cond.selects "[Ljava/lang/Object;" ({ cls := "java/lang/Object", name := "getClass", desc := "()Ljava/lang/Class;" } : Jvm.MethodName) ({ cls := "java/lang/Object", name := "getClass", desc := "()Ljava/lang/Class;" } : Jvm.MethodName)) ∈ lw_all := lw_g (lw_at lw_m15 125 rfl) rfl
theorem q3606 : (Jvm.Cond.castable "[Ljava/lang/Object;" "java/lang/Object") ∈ lw_tbl := lw_at lw_m15 127 rfl
theorem q3617 : (Jvm.Cond.castable "[Z" "java/lang/Object") ∈ lw_tbl := lw_at lw_m15 138 rfl
set_option maxRecDepth 100000
theorem q3609 : (Jvm.Cond.castable "[[F" "java/lang/Object") ∈ lw_tbl := lw_at lw_m15 130 rfl
set_option maxRecDepth 100000
theorem q2606 : (Jvm.Cond.interfaceMethod "java/lang/CharSequence" "java/lang/CharSequence" "length" "()I") ∈ lw_tbl := lw_at lw_m11 87 rfl
set_option maxRecDepth 100000
theorem q2607 : (Jvm.Cond.declares ({ cls := "java/lang/CharSequence", name := "length", desc := "()I" } : Jvm.MethodName)) ∈ lw_tbl := lw_at lw_m11 88 rfl
theorem q2618 : (Jvm.Cond.interfaceMethod "java/lang/CharSequence" "java/lang/CharSequence" "charAt" "(I)C") ∈ lw_tbl := lw_at lw_m11 99 rfl
theorem q2619 : (Jvm.Cond.declares ({ cls := "java/lang/CharSequence", name := "charAt", desc := "(I)C" } : Jvm.MethodName)) ∈ lw_tbl := lw_at lw_m11 100 rfl
theorem q172 : (Jvm.Cond.initialized "java/lang/Integer$IntegerCache") ∈ lw_all := lw_g (lw_at lw_m1 53 rfl) rfl
set_option maxRecDepth 100000
theorem q2006 : (Jvm.Cond.laysStatic "java/lang/Integer$IntegerCache" "high" "I") ∈ lw_tbl := lw_at lw_m8 207 rfl
theorem q2008 : (Jvm.Cond.laysStatic "java/lang/Integer$IntegerCache" "cache" "[Ljava/lang/Integer;") ∈ lw_tbl := lw_at lw_m8 209 rfl
theorem q142 : (Jvm.Cond.initialized "java/lang/System") ∈ lw_all := lw_g (lw_at lw_m1 23 rfl) rfl
set_option maxRecDepth 100000
theorem q401 : (Jvm.Cond.static ({ cls := "java/lang/System", name := "arraycopy", desc := "(Ljava/lang/Object;ILjava/lang/Object;II)V" } : Jvm.MethodName)) ∈ lw_all := lw_g (lw_at lw_m2 42 rfl) rfl
theorem q402 : (Jvm.Cond.native ({ cls := "java/lang/System", name := "arraycopy", desc := "(Ljava/lang/Object;ILjava/lang/Object;II)V" } : Jvm.MethodName)) ∈ lw_all := lw_g (lw_at lw_m2 43 rfl) rfl
theorem q164 : (Jvm.Cond.initialized "java/util/AbstractList$ListItr") ∈ lw_all := lw_g (lw_at lw_m1 45 rfl) rfl
set_option maxRecDepth 100000
theorem q985 : (Jvm.Cond.castable "java/util/AbstractList$ListItr" "java/util/Iterator") ∈ lw_tbl := lw_at lw_m4 146 rfl
theorem q986 : (Jvm.Cond.selects "java/util/AbstractList$ListItr" ({ cls := "java/util/Iterator", name := "hasNext", desc := "()Z" } : Jvm.MethodName) ({ cls := "java/util/AbstractList$Itr", name := "hasNext", desc := "()Z" } : Jvm.MethodName)) ∈ lw_all := lw_g (lw_at lw_m4 147 rfl) rfl
theorem q987 : (Jvm.Cond.unhidden "java/util/AbstractList$ListItr" "hasNext" "()Z") ∈ lw_tbl := lw_at lw_m4 148 rfl
theorem q1023 : (Jvm.Cond.selects "java/util/AbstractList$ListItr" ({ cls := "java/util/Iterator", name := "next", desc := "()Ljava/lang/Object;" } : Jvm.MethodName) ({ cls := "java/util/AbstractList$Itr", name := "next", desc := "()Ljava/lang/Object;" } : Jvm.MethodName)) ∈ lw_all := lw_g (lw_at lw_m4 184 rfl) rfl
theorem q1024 : (Jvm.Cond.unhidden "java/util/AbstractList$ListItr" "next" "()Ljava/lang/Object;") ∈ lw_tbl := lw_at lw_m4 185 rfl
theorem q1031 : (Jvm.Cond.selects "java/util/AbstractList$ListItr" ({ cls := "java/util/AbstractList$Itr", name := "checkForComodification", desc := "()V" } : Jvm.MethodName) ({ cls := "java/util/AbstractList$Itr", name := "checkForComodification", desc := "()V" } : Jvm.MethodName)) ∈ lw_all := lw_g (lw_at lw_m4 192 rfl) rfl
theorem q1107 : (Jvm.Cond.selects "java/util/AbstractList$ListItr" ({ cls := "java/lang/Object", name := "getClass", desc := "()Ljava/lang/Class;" } : Jvm.MethodName) ({ cls := "java/lang/Object", name := "getClass", desc := "()Ljava/lang/Class;" } : Jvm.MethodName)) ∈ lw_all := lw_g (lw_at lw_m5 28 rfl) rfl
theorem q2036 : (Jvm.Cond.selects "java/util/AbstractList$ListItr" ({ cls := "java/util/Iterator", name := "remove", desc := "()V" } : Jvm.MethodName) ({ cls := "java/util/AbstractList$Itr", name := "remove", desc := "()V" } : Jvm.MethodName)) ∈ lw_all := lw_g (lw_at lw_m8 237 rfl) rfl
theorem q2037 : (Jvm.Cond.unhidden "java/util/AbstractList$ListItr" "remove" "()V") ∈ lw_tbl := lw_at lw_m8 238 rfl
theorem q3581 : (Jvm.Cond.castable "java/util/AbstractList$ListItr" "java/lang/Object") ∈ lw_tbl := lw_at lw_m15 102 rfl
theorem q3620 : (Jvm.Cond.fieldLink "java/util/AbstractList$ListItr" (1 : Nat) "java/util/AbstractList$ListItr" "this$0" "Ljava/util/AbstractList;") ∈ lw_all := lw_g (lw_at lw_m15 141 rfl) rfl
theorem q3625 : (Jvm.Cond.fieldLink "java/util/AbstractList$ListItr" (13 : Nat) "java/util/AbstractList$ListItr" "cursor" "I") ∈ lw_all := lw_g (lw_at lw_m15 146 rfl) rfl
theorem q3626 : (Jvm.Cond.sameField "java/util/AbstractList$ListItr" "java/util/AbstractList$Itr" "cursor" "I") ∈ lw_all := lw_g (lw_at lw_m15 147 rfl) rfl
theorem q155 : (Jvm.Cond.initialized "java/util/ImmutableCollections") ∈ lw_all := lw_g (lw_at lw_m1 36 rfl) rfl
set_option maxRecDepth 100000
theorem q813 : (Jvm.Cond.laysStatic "java/util/ImmutableCollections" "EMPTY" "Ljava/lang/Object;") ∈ lw_tbl := lw_at lw_m3 214 rfl
theorem q983 : (Jvm.Cond.interfaceMethod "java/util/Iterator" "java/util/Iterator" "hasNext" "()Z") ∈ lw_tbl := lw_at lw_m4 144 rfl
set_option maxRecDepth 100000
theorem q984 : (Jvm.Cond.declares ({ cls := "java/util/Iterator", name := "hasNext", desc := "()Z" } : Jvm.MethodName)) ∈ lw_tbl := lw_at lw_m4 145 rfl
theorem q1021 : (Jvm.Cond.interfaceMethod "java/util/Iterator" "java/util/Iterator" "next" "()Ljava/lang/Object;") ∈ lw_tbl := lw_at lw_m4 182 rfl
theorem q1022 : (Jvm.Cond.declares ({ cls := "java/util/Iterator", name := "next", desc := "()Ljava/lang/Object;" } : Jvm.MethodName)) ∈ lw_tbl := lw_at lw_m4 183 rfl
theorem q2034 : (Jvm.Cond.interfaceMethod "java/util/Iterator" "java/util/Iterator" "remove" "()V") ∈ lw_tbl := lw_at lw_m8 235 rfl
theorem q2035 : (Jvm.Cond.declares ({ cls := "java/util/Iterator", name := "remove", desc := "()V" } : Jvm.MethodName)) ∈ lw_tbl := lw_at lw_m8 236 rfl
theorem q271 : (Jvm.Cond.arrayOver (Jvm.ClassFile.FieldType.object "java/lang/Object")) ∈ lw_tbl := lw_at lw_m1 152 rfl
set_option maxRecDepth 100000
theorem q355 : (Jvm.Cond.arrayClass Jvm.ClassFile.FieldType.byte) ∈ lw_all := lw_g (lw_at lw_m1 236 rfl) rfl
theorem q703 : (Jvm.Cond.arrayClass Jvm.ClassFile.FieldType.float) ∈ lw_all := lw_g (lw_at lw_m3 104 rfl) rfl
theorem q722 : (Jvm.Cond.arrayOver (Jvm.ClassFile.FieldType.array Jvm.ClassFile.FieldType.float)) ∈ lw_tbl := lw_at lw_m3 123 rfl
theorem q724 : (Jvm.Cond.arrayOver (Jvm.ClassFile.FieldType.object "CrumblingWall$Hold")) ∈ lw_tbl := lw_at lw_m3 125 rfl
theorem q761 : (Jvm.Cond.arrayClass Jvm.ClassFile.FieldType.int) ∈ lw_all := lw_g (lw_at lw_m3 162 rfl) rfl
theorem q2241 : (Jvm.Cond.arrayClass Jvm.ClassFile.FieldType.long) ∈ lw_all := lw_g (lw_at lw_m9 202 rfl) rfl
theorem q2508 : (Jvm.Cond.arrayOver (Jvm.ClassFile.FieldType.object "CrumblingWall$Edge")) ∈ lw_tbl := lw_at lw_m10 229 rfl
theorem q2509 : (Jvm.Cond.arrayOver (Jvm.ClassFile.FieldType.object "CrumblingWall$Pocket")) ∈ lw_tbl := lw_at lw_m10 230 rfl
theorem q2510 : (Jvm.Cond.arrayOver (Jvm.ClassFile.FieldType.object "CrumblingWall$Flake")) ∈ lw_tbl := lw_at lw_m10 231 rfl
theorem q2511 : (Jvm.Cond.arrayOver (Jvm.ClassFile.FieldType.object "CrumblingWall$Bolt")) ∈ lw_tbl := lw_at lw_m10 232 rfl
theorem q3043 : (Jvm.Cond.arrayClass Jvm.ClassFile.FieldType.boolean) ∈ lw_all := lw_g (lw_at lw_m13 44 rfl) rfl
theorem q3044 : (Jvm.Cond.arrayClass Jvm.ClassFile.FieldType.char) ∈ lw_all := lw_g (lw_at lw_m13 45 rfl) rfl
theorem q3499 : (Jvm.Cond.arrayClass Jvm.ClassFile.FieldType.double) ∈ lw_all := lw_g (lw_at lw_m15 20 rfl) rfl
/-! java/util/List -/
set_option maxRecDepth 100000
def RJ0 : String := "java/util/List"
abbrev cJ0_of : ByteArray := prog_81_method_38_code
def yJ0_of : MethodName := ⟨RJ0, "of", "(Ljava/lang/Object;Ljava/lang/Object;)Ljava/util/List;"⟩
def dkwJ0_of_0 : List UInt8 := [187, 0, 96, 89, 42, 43, 183, 0, 100, 176]
abbrev dktJ0_of_0 : List UInt8 := dkwJ0_of_0 ++ []
theorem dksJ0_of_0 : cJ0_of.data.toList.drop 0 = dktJ0_of_0 := by decide +kernel
theorem dJ0_of_0 : decode cJ0_of 0 = .ok (.new 96, 3) := dk_187 0 96 (dk_at dksJ0_of_0 0 rfl rfl)
theorem dJ0_of_3 : decode cJ0_of 3 = .ok (.dup, 1) := dk_89 (dk_at dksJ0_of_0 3 rfl rfl)
theorem dJ0_of_4 : decode cJ0_of 4 = .ok (.aload_n 0, 1) := dk_42 (dk_at dksJ0_of_0 4 rfl rfl)
theorem dJ0_of_5 : decode cJ0_of 5 = .ok (.aload_n 1, 1) := dk_43 (dk_at dksJ0_of_0 5 rfl rfl)
theorem dJ0_of_6 : decode cJ0_of 6 = .ok (.invokespecial 100, 3) := dk_183 0 100 (dk_at dksJ0_of_0 6 rfl rfl)
theorem dJ0_of_9 : decode cJ0_of 9 = .ok (.areturn, 1) := dk_176 (dk_at dksJ0_of_0 9 rfl rfl)
theorem q123 : (Jvm.Cond.initialized "java/util/List") ∈ lw_all := lw_g (lw_at lw_m1 4 rfl) rfl
theorem q230 : (Jvm.Cond.static ({ cls := "java/util/List", name := "of", desc := "(Ljava/lang/Object;Ljava/lang/Object;)Ljava/util/List;" } : Jvm.MethodName)) ∈ lw_all := lw_g (lw_at lw_m1 111 rfl) rfl
theorem q231 : (Jvm.Cond.code ({ cls := "java/util/List", name := "of", desc := "(Ljava/lang/Object;Ljava/lang/Object;)Ljava/util/List;" } : Jvm.MethodName) prog_81_method_38_code (2 : Nat) (Option.some (Jvm.ClassFile.FieldType.object "java/util/List"))) ∈ lw_all := lw_g (lw_at lw_m1 112 rfl) rfl
theorem q232 : (Jvm.Cond.classLink "java/util/List" (96 : Nat) "java/util/ImmutableCollections$List12") ∈ lw_all := lw_g (lw_at lw_m1 113 rfl) rfl
theorem q234 : (Jvm.Cond.methodLink "java/util/List" (100 : Nat) ({ cls := "java/util/ImmutableCollections$List12", name := "<init>", desc := "(Ljava/lang/Object;Ljava/lang/Object;)V" } : Jvm.MethodName)) ∈ lw_all := lw_g (lw_at lw_m1 115 rfl) rfl
theorem q788 : (Jvm.Cond.interfaceMethod "java/util/List" "java/util/List" "get" "(I)Ljava/lang/Object;") ∈ lw_tbl := lw_at lw_m3 189 rfl
theorem q789 : (Jvm.Cond.declares ({ cls := "java/util/List", name := "get", desc := "(I)Ljava/lang/Object;" } : Jvm.MethodName)) ∈ lw_tbl := lw_at lw_m3 190 rfl
/-! java/util/AbstractCollection -/
set_option maxRecDepth 100000
def RJ1 : String := "java/util/AbstractCollection"
abbrev cJ1_init : ByteArray := prog_56_method_1_code
def yJ1_init : MethodName := ⟨RJ1, "<init>", "()V"⟩
theorem dJ1_init_0 : decode cJ1_init 0 = .ok (.aload_n 0, 1) := by decide +kernel
theorem dJ1_init_1 : decode cJ1_init 1 = .ok (.invokespecial 1, 3) := by decide +kernel
theorem dJ1_init_4 : decode cJ1_init 4 = .ok (.return_, 1) := by decide +kernel
abbrev cJ1_isEmpty : ByteArray := prog_56_method_4_code
def yJ1_isEmpty : MethodName := ⟨RJ1, "isEmpty", "()Z"⟩
def dkwJ1_isEmpty_0 : List UInt8 := [42, 182, 0, 7, 154, 0, 7, 4, 167, 0, 4, 3, 172]
abbrev dktJ1_isEmpty_0 : List UInt8 := dkwJ1_isEmpty_0 ++ []
theorem dksJ1_isEmpty_0 : cJ1_isEmpty.data.toList.drop 0 = dktJ1_isEmpty_0 := by decide +kernel
theorem dJ1_isEmpty_0 : decode cJ1_isEmpty 0 = .ok (.aload_n 0, 1) := dk_42 (dk_at dksJ1_isEmpty_0 0 rfl rfl)
theorem dJ1_isEmpty_1 : decode cJ1_isEmpty 1 = .ok (.invokevirtual 7, 3) := dk_182 0 7 (dk_at dksJ1_isEmpty_0 1 rfl rfl)
theorem dJ1_isEmpty_4 : decode cJ1_isEmpty 4 = .ok (.ifCond .ne 7, 3) := dk_154 0 7 (dk_at dksJ1_isEmpty_0 4 rfl rfl)
theorem dJ1_isEmpty_7 : decode cJ1_isEmpty 7 = .ok (.iconst 1, 1) := dk_4 (dk_at dksJ1_isEmpty_0 7 rfl rfl)
theorem dJ1_isEmpty_8 : decode cJ1_isEmpty 8 = .ok (.goto 4, 3) := dk_167 0 4 (dk_at dksJ1_isEmpty_0 8 rfl rfl)
theorem dJ1_isEmpty_11 : decode cJ1_isEmpty 11 = .ok (.iconst 0, 1) := dk_3 (dk_at dksJ1_isEmpty_0 11 rfl rfl)
theorem dJ1_isEmpty_12 : decode cJ1_isEmpty 12 = .ok (.ireturn, 1) := dk_172 (dk_at dksJ1_isEmpty_0 12 rfl rfl)
theorem q124 : (Jvm.Cond.initialized "java/util/AbstractCollection") ∈ lw_all := lw_g (lw_at lw_m1 5 rfl) rfl
theorem q244 : (Jvm.Cond.instanceMethod ({ cls := "java/util/AbstractCollection", name := "<init>", desc := "()V" } : Jvm.MethodName)) ∈ lw_all := lw_g (lw_at lw_m1 125 rfl) rfl
theorem q245 : (Jvm.Cond.code ({ cls := "java/util/AbstractCollection", name := "<init>", desc := "()V" } : Jvm.MethodName) prog_56_method_1_code (1 : Nat) (Option.none : Option Jvm.ClassFile.FieldType)) ∈ lw_all := lw_g (lw_at lw_m1 126 rfl) rfl
theorem q246 : (Jvm.Cond.methodLink "java/util/AbstractCollection" (1 : Nat) ({ cls := "java/lang/Object", name := "<init>", desc := "()V" } : Jvm.MethodName)) ∈ lw_all := lw_g (lw_at lw_m1 127 rfl) rfl
theorem q837 : (Jvm.Cond.declares ({ cls := "java/util/AbstractCollection", name := "size", desc := "()I" } : Jvm.MethodName)) ∈ lw_tbl := lw_at lw_m3 238 rfl
theorem q2116 : (Jvm.Cond.declares ({ cls := "java/util/AbstractCollection", name := "isEmpty", desc := "()Z" } : Jvm.MethodName)) ∈ lw_tbl := lw_at lw_m9 77 rfl
theorem q2118 : (Jvm.Cond.instanceMethod ({ cls := "java/util/AbstractCollection", name := "isEmpty", desc := "()Z" } : Jvm.MethodName)) ∈ lw_all := lw_g (lw_at lw_m9 79 rfl) rfl
theorem q2119 : (Jvm.Cond.code ({ cls := "java/util/AbstractCollection", name := "isEmpty", desc := "()Z" } : Jvm.MethodName) prog_56_method_4_code (1 : Nat) (Option.some Jvm.ClassFile.FieldType.boolean)) ∈ lw_all := lw_g (lw_at lw_m9 80 rfl) rfl
theorem q2120 : (Jvm.Cond.methodLink "java/util/AbstractCollection" (7 : Nat) ({ cls := "java/util/AbstractCollection", name := "size", desc := "()I" } : Jvm.MethodName)) ∈ lw_all := lw_g (lw_at lw_m9 81 rfl) rfl
theorem q3538 : (Jvm.Cond.sameMethod "java/util/AbstractCollection" "java/util/AbstractCollection" "size" "()I") ∈ lw_all := lw_g (lw_at lw_m15 59 rfl) rfl
/-! java/util/ImmutableCollections$AbstractImmutableCollection -/
set_option maxRecDepth 100000
def RJ2 : String := "java/util/ImmutableCollections$AbstractImmutableCollection"
abbrev cJ2_init : ByteArray := prog_71_method_1_code
def yJ2_init : MethodName := ⟨RJ2, "<init>", "()V"⟩
theorem dJ2_init_0 : decode cJ2_init 0 = .ok (.aload_n 0, 1) := by decide +kernel
theorem dJ2_init_1 : decode cJ2_init 1 = .ok (.invokespecial 1, 3) := by decide +kernel
theorem dJ2_init_4 : decode cJ2_init 4 = .ok (.return_, 1) := by decide +kernel
theorem q125 : (Jvm.Cond.initialized "java/util/ImmutableCollections$AbstractImmutableCollection") ∈ lw_all := lw_g (lw_at lw_m1 6 rfl) rfl
theorem q241 : (Jvm.Cond.instanceMethod ({ cls := "java/util/ImmutableCollections$AbstractImmutableCollection", name := "<init>", desc := "()V" } : Jvm.MethodName)) ∈ lw_all := lw_g (lw_at lw_m1 122 rfl) rfl
theorem q242 : (Jvm.Cond.code ({ cls := "java/util/ImmutableCollections$AbstractImmutableCollection", name := "<init>", desc := "()V" } : Jvm.MethodName) prog_71_method_1_code (1 : Nat) (Option.none : Option Jvm.ClassFile.FieldType)) ∈ lw_all := lw_g (lw_at lw_m1 123 rfl) rfl
theorem q243 : (Jvm.Cond.methodLink "java/util/ImmutableCollections$AbstractImmutableCollection" (1 : Nat) ({ cls := "java/util/AbstractCollection", name := "<init>", desc := "()V" } : Jvm.MethodName)) ∈ lw_all := lw_g (lw_at lw_m1 124 rfl) rfl
/-! java/util/ImmutableCollections$AbstractImmutableList -/
set_option maxRecDepth 100000
def RJ3 : String := "java/util/ImmutableCollections$AbstractImmutableList"
abbrev cJ3_init : ByteArray := prog_72_method_1_code
def yJ3_init : MethodName := ⟨RJ3, "<init>", "()V"⟩
theorem dJ3_init_0 : decode cJ3_init 0 = .ok (.aload_n 0, 1) := by decide +kernel
theorem dJ3_init_1 : decode cJ3_init 1 = .ok (.invokespecial 1, 3) := by decide +kernel
theorem dJ3_init_4 : decode cJ3_init 4 = .ok (.return_, 1) := by decide +kernel
abbrev cJ3_outOfBounds : ByteArray := prog_72_method_17_code
def yJ3_outOfBounds : MethodName := ⟨RJ3, "outOfBounds", "(I)Ljava/lang/IndexOutOfBoundsException;"⟩
def dkwJ3_outOfBounds_1 : List UInt8 := [182, 0, 36, 42, 182, 0, 13, 182, 0, 40, 182, 0, 43, 183, 0, 47, 176]
abbrev dktJ3_outOfBounds_1 : List UInt8 := dkwJ3_outOfBounds_1 ++ []
def dkwJ3_outOfBounds_0 : List UInt8 := [187, 0, 29, 89, 187, 0, 31, 89, 183, 0, 33, 18, 116, 182, 0, 36, 27, 182, 0, 40, 18, 118]
abbrev dktJ3_outOfBounds_0 : List UInt8 := dkwJ3_outOfBounds_0 ++ dktJ3_outOfBounds_1
theorem dksJ3_outOfBounds_0 : cJ3_outOfBounds.data.toList.drop 0 = dktJ3_outOfBounds_0 := by decide +kernel
theorem dksJ3_outOfBounds_1 : cJ3_outOfBounds.data.toList.drop 22 = dktJ3_outOfBounds_1 := dk_seg dksJ3_outOfBounds_0 22 rfl rfl
theorem dJ3_outOfBounds_0 : decode cJ3_outOfBounds 0 = .ok (.new 29, 3) := dk_187 0 29 (dk_at dksJ3_outOfBounds_0 0 rfl rfl)
theorem dJ3_outOfBounds_3 : decode cJ3_outOfBounds 3 = .ok (.dup, 1) := dk_89 (dk_at dksJ3_outOfBounds_0 3 rfl rfl)
theorem dJ3_outOfBounds_4 : decode cJ3_outOfBounds 4 = .ok (.new 31, 3) := dk_187 0 31 (dk_at dksJ3_outOfBounds_0 4 rfl rfl)
theorem dJ3_outOfBounds_7 : decode cJ3_outOfBounds 7 = .ok (.dup, 1) := dk_89 (dk_at dksJ3_outOfBounds_0 7 rfl rfl)
theorem dJ3_outOfBounds_8 : decode cJ3_outOfBounds 8 = .ok (.invokespecial 33, 3) := dk_183 0 33 (dk_at dksJ3_outOfBounds_0 8 rfl rfl)
theorem dJ3_outOfBounds_11 : decode cJ3_outOfBounds 11 = .ok (.ldc 116, 2) := dk_18 116 (dk_at dksJ3_outOfBounds_0 11 rfl rfl)
theorem dJ3_outOfBounds_13 : decode cJ3_outOfBounds 13 = .ok (.invokevirtual 36, 3) := dk_182 0 36 (dk_at dksJ3_outOfBounds_0 13 rfl rfl)
theorem dJ3_outOfBounds_16 : decode cJ3_outOfBounds 16 = .ok (.iload_n 1, 1) := dk_27 (dk_at dksJ3_outOfBounds_0 16 rfl rfl)
theorem dJ3_outOfBounds_17 : decode cJ3_outOfBounds 17 = .ok (.invokevirtual 40, 3) := dk_182 0 40 (dk_at dksJ3_outOfBounds_0 17 rfl rfl)
theorem dJ3_outOfBounds_20 : decode cJ3_outOfBounds 20 = .ok (.ldc 118, 2) := dk_18 118 (dk_at dksJ3_outOfBounds_0 20 rfl rfl)
theorem dJ3_outOfBounds_22 : decode cJ3_outOfBounds 22 = .ok (.invokevirtual 36, 3) := dk_182 0 36 (dk_at dksJ3_outOfBounds_1 0 rfl rfl)
theorem dJ3_outOfBounds_25 : decode cJ3_outOfBounds 25 = .ok (.aload_n 0, 1) := dk_42 (dk_at dksJ3_outOfBounds_1 3 rfl rfl)
theorem dJ3_outOfBounds_26 : decode cJ3_outOfBounds 26 = .ok (.invokevirtual 13, 3) := dk_182 0 13 (dk_at dksJ3_outOfBounds_1 4 rfl rfl)
theorem dJ3_outOfBounds_29 : decode cJ3_outOfBounds 29 = .ok (.invokevirtual 40, 3) := dk_182 0 40 (dk_at dksJ3_outOfBounds_1 7 rfl rfl)
theorem dJ3_outOfBounds_32 : decode cJ3_outOfBounds 32 = .ok (.invokevirtual 43, 3) := dk_182 0 43 (dk_at dksJ3_outOfBounds_1 10 rfl rfl)
theorem dJ3_outOfBounds_35 : decode cJ3_outOfBounds 35 = .ok (.invokespecial 47, 3) := dk_183 0 47 (dk_at dksJ3_outOfBounds_1 13 rfl rfl)
theorem dJ3_outOfBounds_38 : decode cJ3_outOfBounds 38 = .ok (.areturn, 1) := dk_176 (dk_at dksJ3_outOfBounds_1 16 rfl rfl)
theorem q126 : (Jvm.Cond.initialized "java/util/ImmutableCollections$AbstractImmutableList") ∈ lw_all := lw_g (lw_at lw_m1 7 rfl) rfl
theorem q238 : (Jvm.Cond.instanceMethod ({ cls := "java/util/ImmutableCollections$AbstractImmutableList", name := "<init>", desc := "()V" } : Jvm.MethodName)) ∈ lw_all := lw_g (lw_at lw_m1 119 rfl) rfl
theorem q239 : (Jvm.Cond.code ({ cls := "java/util/ImmutableCollections$AbstractImmutableList", name := "<init>", desc := "()V" } : Jvm.MethodName) prog_72_method_1_code (1 : Nat) (Option.none : Option Jvm.ClassFile.FieldType)) ∈ lw_all := lw_g (lw_at lw_m1 120 rfl) rfl
theorem q240 : (Jvm.Cond.methodLink "java/util/ImmutableCollections$AbstractImmutableList" (1 : Nat) ({ cls := "java/util/ImmutableCollections$AbstractImmutableCollection", name := "<init>", desc := "()V" } : Jvm.MethodName)) ∈ lw_all := lw_g (lw_at lw_m1 121 rfl) rfl
theorem q816 : (Jvm.Cond.declares ({ cls := "java/util/ImmutableCollections$AbstractImmutableList", name := "outOfBounds", desc := "(I)Ljava/lang/IndexOutOfBoundsException;" } : Jvm.MethodName)) ∈ lw_tbl := lw_at lw_m3 217 rfl
theorem q818 : (Jvm.Cond.instanceMethod ({ cls := "java/util/ImmutableCollections$AbstractImmutableList", name := "outOfBounds", desc := "(I)Ljava/lang/IndexOutOfBoundsException;" } : Jvm.MethodName)) ∈ lw_all := lw_g (lw_at lw_m3 219 rfl) rfl
theorem q819 : (Jvm.Cond.code ({ cls := "java/util/ImmutableCollections$AbstractImmutableList", name := "outOfBounds", desc := "(I)Ljava/lang/IndexOutOfBoundsException;" } : Jvm.MethodName) prog_72_method_17_code (2 : Nat) (Option.some (Jvm.ClassFile.FieldType.object "java/lang/IndexOutOfBoundsException"))) ∈ lw_all := lw_g (lw_at lw_m3 220 rfl) rfl
theorem q820 : (Jvm.Cond.classLink "java/util/ImmutableCollections$AbstractImmutableList" (29 : Nat) "java/lang/IndexOutOfBoundsException") ∈ lw_all := lw_g (lw_at lw_m3 221 rfl) rfl
theorem q829 : (Jvm.Cond.classLink "java/util/ImmutableCollections$AbstractImmutableList" (31 : Nat) "java/lang/StringBuilder") ∈ lw_all := lw_g (lw_at lw_m3 230 rfl) rfl
theorem q830 : (Jvm.Cond.methodLink "java/util/ImmutableCollections$AbstractImmutableList" (33 : Nat) ({ cls := "java/lang/StringBuilder", name := "<init>", desc := "()V" } : Jvm.MethodName)) ∈ lw_all := lw_g (lw_at lw_m3 231 rfl) rfl
theorem q831 : (Jvm.Cond.stringRef "java/util/ImmutableCollections$AbstractImmutableList" (116 : Nat) "Index: ") ∈ lw_tbl := lw_at lw_m3 232 rfl
theorem q832 : (Jvm.Cond.methodLink "java/util/ImmutableCollections$AbstractImmutableList" (36 : Nat) ({ cls := "java/lang/StringBuilder", name := "append", desc := "(Ljava/lang/String;)Ljava/lang/StringBuilder;" } : Jvm.MethodName)) ∈ lw_all := lw_g (lw_at lw_m3 233 rfl) rfl
theorem q833 : (Jvm.Cond.methodLink "java/util/ImmutableCollections$AbstractImmutableList" (40 : Nat) ({ cls := "java/lang/StringBuilder", name := "append", desc := "(I)Ljava/lang/StringBuilder;" } : Jvm.MethodName)) ∈ lw_all := lw_g (lw_at lw_m3 234 rfl) rfl
theorem q834 : (Jvm.Cond.stringRef "java/util/ImmutableCollections$AbstractImmutableList" (118 : Nat) " Size: ") ∈ lw_tbl := lw_at lw_m3 235 rfl
theorem q835 : (Jvm.Cond.methodLink "java/util/ImmutableCollections$AbstractImmutableList" (13 : Nat) ({ cls := "java/util/ImmutableCollections$AbstractImmutableList", name := "size", desc := "()I" } : Jvm.MethodName)) ∈ lw_all := lw_g (lw_at lw_m3 236 rfl) rfl
theorem q836 : (Jvm.Cond.sameMethod "java/util/ImmutableCollections$AbstractImmutableList" "java/util/AbstractCollection" "size" "()I") ∈ lw_all := lw_g (lw_at lw_m3 237 rfl) rfl
theorem q841 : (Jvm.Cond.methodLink "java/util/ImmutableCollections$AbstractImmutableList" (43 : Nat) ({ cls := "java/lang/StringBuilder", name := "toString", desc := "()Ljava/lang/String;" } : Jvm.MethodName)) ∈ lw_all := lw_g (lw_at lw_m4 2 rfl) rfl
theorem q842 : (Jvm.Cond.methodLink "java/util/ImmutableCollections$AbstractImmutableList" (47 : Nat) ({ cls := "java/lang/IndexOutOfBoundsException", name := "<init>", desc := "(Ljava/lang/String;)V" } : Jvm.MethodName)) ∈ lw_all := lw_g (lw_at lw_m4 3 rfl) rfl
/-! java/util/ImmutableCollections$List12 -/
set_option maxRecDepth 100000
def RJ4 : String := "java/util/ImmutableCollections$List12"
def TJ4 : u_T := fun k => match k with
  | 0 => ("java/util/ImmutableCollections$List12", "e0", "Ljava/lang/Object;", true)
  | _ => ("java/util/ImmutableCollections$List12", "e1", "Ljava/lang/Object;", true)
def tyJ4 : Nat → FieldType := fun k => match k with
  | 0 => .object "java/lang/Object"
  | _ => .object "java/lang/Object"
abbrev wsJ40 : List Cond := u_ws RJ4 TJ4 2
theorem nmJ4 : ∀ a, a < 2 → ∀ b, b < 2 → a ≠ b → (TJ4 a).2.1 ≠ (TJ4 b).2.1 := by decide +kernel
theorem tyJ4_ok : ∀ k, k < 2 → parseFieldDescriptor (TJ4 k).2.2.1 = some (tyJ4 k) := by decide +kernel
abbrev cJ4_init : ByteArray := prog_73_method_2_code
def yJ4_init : MethodName := ⟨RJ4, "<init>", "(Ljava/lang/Object;Ljava/lang/Object;)V"⟩
def dkwJ4_init_0 : List UInt8 := [42, 183, 0, 1, 42, 43, 184, 0, 7, 181, 0, 13, 42, 44, 184, 0, 7, 181, 0, 24, 177]
abbrev dktJ4_init_0 : List UInt8 := dkwJ4_init_0 ++ []
theorem dksJ4_init_0 : cJ4_init.data.toList.drop 0 = dktJ4_init_0 := by decide +kernel
theorem dJ4_init_0 : decode cJ4_init 0 = .ok (.aload_n 0, 1) := dk_42 (dk_at dksJ4_init_0 0 rfl rfl)
theorem dJ4_init_1 : decode cJ4_init 1 = .ok (.invokespecial 1, 3) := dk_183 0 1 (dk_at dksJ4_init_0 1 rfl rfl)
theorem dJ4_init_4 : decode cJ4_init 4 = .ok (.aload_n 0, 1) := dk_42 (dk_at dksJ4_init_0 4 rfl rfl)
theorem dJ4_init_5 : decode cJ4_init 5 = .ok (.aload_n 1, 1) := dk_43 (dk_at dksJ4_init_0 5 rfl rfl)
theorem dJ4_init_6 : decode cJ4_init 6 = .ok (.invokestatic 7, 3) := dk_184 0 7 (dk_at dksJ4_init_0 6 rfl rfl)
theorem dJ4_init_9 : decode cJ4_init 9 = .ok (.putfield 13, 3) := dk_181 0 13 (dk_at dksJ4_init_0 9 rfl rfl)
theorem dJ4_init_12 : decode cJ4_init 12 = .ok (.aload_n 0, 1) := dk_42 (dk_at dksJ4_init_0 12 rfl rfl)
theorem dJ4_init_13 : decode cJ4_init 13 = .ok (.aload_n 2, 1) := dk_44 (dk_at dksJ4_init_0 13 rfl rfl)
theorem dJ4_init_14 : decode cJ4_init 14 = .ok (.invokestatic 7, 3) := dk_184 0 7 (dk_at dksJ4_init_0 14 rfl rfl)
theorem dJ4_init_17 : decode cJ4_init 17 = .ok (.putfield 24, 3) := dk_181 0 24 (dk_at dksJ4_init_0 17 rfl rfl)
theorem dJ4_init_20 : decode cJ4_init 20 = .ok (.return_, 1) := dk_177 (dk_at dksJ4_init_0 20 rfl rfl)
abbrev cJ4_get : ByteArray := prog_73_method_5_code
def yJ4_get : MethodName := ⟨RJ4, "get", "(I)Ljava/lang/Object;"⟩
def dkwJ4_get_1 : List UInt8 := [42, 180, 0, 24, 176, 42, 27, 182, 0, 27, 191]
abbrev dktJ4_get_1 : List UInt8 := dkwJ4_get_1 ++ []
def dkwJ4_get_0 : List UInt8 := [27, 154, 0, 8, 42, 180, 0, 13, 176, 27, 4, 160, 0, 18, 42, 180, 0, 24, 178, 0, 19, 165, 0, 8]
abbrev dktJ4_get_0 : List UInt8 := dkwJ4_get_0 ++ dktJ4_get_1
theorem dksJ4_get_0 : cJ4_get.data.toList.drop 0 = dktJ4_get_0 := by decide +kernel
theorem dksJ4_get_1 : cJ4_get.data.toList.drop 24 = dktJ4_get_1 := dk_seg dksJ4_get_0 24 rfl rfl
theorem dJ4_get_0 : decode cJ4_get 0 = .ok (.iload_n 1, 1) := dk_27 (dk_at dksJ4_get_0 0 rfl rfl)
theorem dJ4_get_1 : decode cJ4_get 1 = .ok (.ifCond .ne 8, 3) := dk_154 0 8 (dk_at dksJ4_get_0 1 rfl rfl)
theorem dJ4_get_4 : decode cJ4_get 4 = .ok (.aload_n 0, 1) := dk_42 (dk_at dksJ4_get_0 4 rfl rfl)
theorem dJ4_get_5 : decode cJ4_get 5 = .ok (.getfield 13, 3) := dk_180 0 13 (dk_at dksJ4_get_0 5 rfl rfl)
theorem dJ4_get_8 : decode cJ4_get 8 = .ok (.areturn, 1) := dk_176 (dk_at dksJ4_get_0 8 rfl rfl)
theorem dJ4_get_9 : decode cJ4_get 9 = .ok (.iload_n 1, 1) := dk_27 (dk_at dksJ4_get_0 9 rfl rfl)
theorem dJ4_get_10 : decode cJ4_get 10 = .ok (.iconst 1, 1) := dk_4 (dk_at dksJ4_get_0 10 rfl rfl)
theorem dJ4_get_11 : decode cJ4_get 11 = .ok (.if_icmp .ne 18, 3) := dk_160 0 18 (dk_at dksJ4_get_0 11 rfl rfl)
theorem dJ4_get_14 : decode cJ4_get 14 = .ok (.aload_n 0, 1) := dk_42 (dk_at dksJ4_get_0 14 rfl rfl)
theorem dJ4_get_15 : decode cJ4_get 15 = .ok (.getfield 24, 3) := dk_180 0 24 (dk_at dksJ4_get_0 15 rfl rfl)
theorem dJ4_get_18 : decode cJ4_get 18 = .ok (.getstatic 19, 3) := dk_178 0 19 (dk_at dksJ4_get_0 18 rfl rfl)
theorem dJ4_get_21 : decode cJ4_get 21 = .ok (.if_acmp .eq 8, 3) := dk_165 0 8 (dk_at dksJ4_get_0 21 rfl rfl)
theorem dJ4_get_24 : decode cJ4_get 24 = .ok (.aload_n 0, 1) := dk_42 (dk_at dksJ4_get_1 0 rfl rfl)
theorem dJ4_get_25 : decode cJ4_get 25 = .ok (.getfield 24, 3) := dk_180 0 24 (dk_at dksJ4_get_1 1 rfl rfl)
theorem dJ4_get_28 : decode cJ4_get 28 = .ok (.areturn, 1) := dk_176 (dk_at dksJ4_get_1 4 rfl rfl)
theorem dJ4_get_29 : decode cJ4_get 29 = .ok (.aload_n 0, 1) := dk_42 (dk_at dksJ4_get_1 5 rfl rfl)
theorem dJ4_get_30 : decode cJ4_get 30 = .ok (.iload_n 1, 1) := dk_27 (dk_at dksJ4_get_1 6 rfl rfl)
theorem dJ4_get_31 : decode cJ4_get 31 = .ok (.invokevirtual 27, 3) := dk_182 0 27 (dk_at dksJ4_get_1 7 rfl rfl)
theorem dJ4_get_34 : decode cJ4_get 34 = .ok (.athrow, 1) := dk_191 (dk_at dksJ4_get_1 10 rfl rfl)
abbrev cJ4_size : ByteArray := prog_73_method_3_code
def yJ4_size : MethodName := ⟨RJ4, "size", "()I"⟩
def dkwJ4_size_0 : List UInt8 := [42, 180, 0, 24, 178, 0, 19, 165, 0, 7, 5, 167, 0, 4, 4, 172]
abbrev dktJ4_size_0 : List UInt8 := dkwJ4_size_0 ++ []
theorem dksJ4_size_0 : cJ4_size.data.toList.drop 0 = dktJ4_size_0 := by decide +kernel
theorem dJ4_size_0 : decode cJ4_size 0 = .ok (.aload_n 0, 1) := dk_42 (dk_at dksJ4_size_0 0 rfl rfl)
theorem dJ4_size_1 : decode cJ4_size 1 = .ok (.getfield 24, 3) := dk_180 0 24 (dk_at dksJ4_size_0 1 rfl rfl)
theorem dJ4_size_4 : decode cJ4_size 4 = .ok (.getstatic 19, 3) := dk_178 0 19 (dk_at dksJ4_size_0 4 rfl rfl)
theorem dJ4_size_7 : decode cJ4_size 7 = .ok (.if_acmp .eq 7, 3) := dk_165 0 7 (dk_at dksJ4_size_0 7 rfl rfl)
theorem dJ4_size_10 : decode cJ4_size 10 = .ok (.iconst 2, 1) := dk_5 (dk_at dksJ4_size_0 10 rfl rfl)
theorem dJ4_size_11 : decode cJ4_size 11 = .ok (.goto 4, 3) := dk_167 0 4 (dk_at dksJ4_size_0 11 rfl rfl)
theorem dJ4_size_14 : decode cJ4_size 14 = .ok (.iconst 1, 1) := dk_4 (dk_at dksJ4_size_0 14 rfl rfl)
theorem dJ4_size_15 : decode cJ4_size 15 = .ok (.ireturn, 1) := dk_172 (dk_at dksJ4_size_0 15 rfl rfl)
theorem q127 : (Jvm.Cond.initialized "java/util/ImmutableCollections$List12") ∈ lw_all := lw_g (lw_at lw_m1 8 rfl) rfl
theorem q233 : (Jvm.Cond.instantiable "java/util/ImmutableCollections$List12" (2 : Nat)) ∈ lw_all := lw_g (lw_at lw_m1 114 rfl) rfl
theorem q235 : (Jvm.Cond.instanceMethod ({ cls := "java/util/ImmutableCollections$List12", name := "<init>", desc := "(Ljava/lang/Object;Ljava/lang/Object;)V" } : Jvm.MethodName)) ∈ lw_all := lw_g (lw_at lw_m1 116 rfl) rfl
theorem q236 : (Jvm.Cond.code ({ cls := "java/util/ImmutableCollections$List12", name := "<init>", desc := "(Ljava/lang/Object;Ljava/lang/Object;)V" } : Jvm.MethodName) prog_73_method_2_code (3 : Nat) (Option.none : Option Jvm.ClassFile.FieldType)) ∈ lw_all := lw_g (lw_at lw_m1 117 rfl) rfl
theorem q237 : (Jvm.Cond.methodLink "java/util/ImmutableCollections$List12" (1 : Nat) ({ cls := "java/util/ImmutableCollections$AbstractImmutableList", name := "<init>", desc := "()V" } : Jvm.MethodName)) ∈ lw_all := lw_g (lw_at lw_m1 118 rfl) rfl
theorem q247 : (Jvm.Cond.methodLink "java/util/ImmutableCollections$List12" (7 : Nat) ({ cls := "java/util/Objects", name := "requireNonNull", desc := "(Ljava/lang/Object;)Ljava/lang/Object;" } : Jvm.MethodName)) ∈ lw_all := lw_g (lw_at lw_m1 128 rfl) rfl
theorem q250 : (Jvm.Cond.fieldLink "java/util/ImmutableCollections$List12" (13 : Nat) "java/util/ImmutableCollections$List12" "e0" "Ljava/lang/Object;") ∈ lw_all := lw_g (lw_at lw_m1 131 rfl) rfl
theorem q251 : (Jvm.Cond.fieldLink "java/util/ImmutableCollections$List12" (24 : Nat) "java/util/ImmutableCollections$List12" "e1" "Ljava/lang/Object;") ∈ lw_all := lw_g (lw_at lw_m1 132 rfl) rfl
theorem q252 : (Jvm.Cond.laysFinal "java/util/ImmutableCollections$List12" "java/util/ImmutableCollections$List12" "e0" "Ljava/lang/Object;") ∈ lw_all := lw_g (lw_at lw_m1 133 rfl) rfl
theorem q253 : (Jvm.Cond.soleField "java/util/ImmutableCollections$List12" "e0") ∈ lw_all := lw_g (lw_at lw_m1 134 rfl) rfl
theorem q254 : (Jvm.Cond.laysFinal "java/util/ImmutableCollections$List12" "java/util/ImmutableCollections$List12" "e1" "Ljava/lang/Object;") ∈ lw_all := lw_g (lw_at lw_m1 135 rfl) rfl
theorem q255 : (Jvm.Cond.soleField "java/util/ImmutableCollections$List12" "e1") ∈ lw_all := lw_g (lw_at lw_m1 136 rfl) rfl
theorem q256 : (Jvm.Cond.superclass "java/util/ImmutableCollections$List12" "java/util/ImmutableCollections$AbstractImmutableList") ∈ lw_all := lw_g (lw_at lw_m1 137 rfl) rfl
theorem q806 : (Jvm.Cond.castable "java/util/ImmutableCollections$List12" "java/util/List") ∈ lw_tbl := lw_at lw_m3 207 rfl
theorem q807 : (Jvm.Cond.selects "java/util/ImmutableCollections$List12" ({ cls := "java/util/List", name := "get", desc := "(I)Ljava/lang/Object;" } : Jvm.MethodName) ({ cls := "java/util/ImmutableCollections$List12", name := "get", desc := "(I)Ljava/lang/Object;" } : Jvm.MethodName)) ∈ lw_all := lw_g (lw_at lw_m3 208 rfl) rfl
theorem q808 : (Jvm.Cond.unhidden "java/util/ImmutableCollections$List12" "get" "(I)Ljava/lang/Object;") ∈ lw_tbl := lw_at lw_m3 209 rfl
theorem q809 : (Jvm.Cond.instanceMethod ({ cls := "java/util/ImmutableCollections$List12", name := "get", desc := "(I)Ljava/lang/Object;" } : Jvm.MethodName)) ∈ lw_all := lw_g (lw_at lw_m3 210 rfl) rfl
theorem q810 : (Jvm.Cond.publicMethod ({ cls := "java/util/ImmutableCollections$List12", name := "get", desc := "(I)Ljava/lang/Object;" } : Jvm.MethodName)) ∈ lw_tbl := lw_at lw_m3 211 rfl
theorem q811 : (Jvm.Cond.code ({ cls := "java/util/ImmutableCollections$List12", name := "get", desc := "(I)Ljava/lang/Object;" } : Jvm.MethodName) prog_73_method_5_code (2 : Nat) (Option.some (Jvm.ClassFile.FieldType.object "java/lang/Object"))) ∈ lw_all := lw_g (lw_at lw_m3 212 rfl) rfl
theorem q812 : (Jvm.Cond.fieldLinkNest "java/util/ImmutableCollections$List12" (19 : Nat) "java/util/ImmutableCollections" "EMPTY" "Ljava/lang/Object;" "java/util/ImmutableCollections") ∈ lw_tbl := lw_at lw_m3 213 rfl
theorem q814 : (Jvm.Cond.methodLink "java/util/ImmutableCollections$List12" (27 : Nat) ({ cls := "java/util/ImmutableCollections$List12", name := "outOfBounds", desc := "(I)Ljava/lang/IndexOutOfBoundsException;" } : Jvm.MethodName)) ∈ lw_all := lw_g (lw_at lw_m3 215 rfl) rfl
theorem q815 : (Jvm.Cond.sameMethod "java/util/ImmutableCollections$List12" "java/util/ImmutableCollections$AbstractImmutableList" "outOfBounds" "(I)Ljava/lang/IndexOutOfBoundsException;") ∈ lw_all := lw_g (lw_at lw_m3 216 rfl) rfl
theorem q817 : (Jvm.Cond.selects "java/util/ImmutableCollections$List12" ({ cls := "java/util/ImmutableCollections$List12", name := "outOfBounds", desc := "(I)Ljava/lang/IndexOutOfBoundsException;" } : Jvm.MethodName) ({ cls := "java/util/ImmutableCollections$AbstractImmutableList", name := "outOfBounds", desc := "(I)Ljava/lang/IndexOutOfBoundsException;" } : Jvm.MethodName)) ∈ lw_all := lw_g (lw_at lw_m3 218 rfl) rfl
theorem q838 : (Jvm.Cond.selects "java/util/ImmutableCollections$List12" ({ cls := "java/util/ImmutableCollections$AbstractImmutableList", name := "size", desc := "()I" } : Jvm.MethodName) ({ cls := "java/util/ImmutableCollections$List12", name := "size", desc := "()I" } : Jvm.MethodName)) ∈ lw_all := lw_g (lw_at lw_m3 239 rfl) rfl
theorem q839 : (Jvm.Cond.instanceMethod ({ cls := "java/util/ImmutableCollections$List12", name := "size", desc := "()I" } : Jvm.MethodName)) ∈ lw_all := lw_g (lw_at lw_m4 0 rfl) rfl
theorem q840 : (Jvm.Cond.code ({ cls := "java/util/ImmutableCollections$List12", name := "size", desc := "()I" } : Jvm.MethodName) prog_73_method_3_code (1 : Nat) (Option.some Jvm.ClassFile.FieldType.int)) ∈ lw_all := lw_g (lw_at lw_m4 1 rfl) rfl
theorem q1113 : (Jvm.Cond.selects "java/util/ImmutableCollections$List12" ({ cls := "java/lang/Object", name := "getClass", desc := "()Ljava/lang/Class;" } : Jvm.MethodName) ({ cls := "java/lang/Object", name := "getClass", desc := "()Ljava/lang/Class;" } : Jvm.MethodName)) ∈ lw_all := lw_g (lw_at lw_m5 34 rfl) rfl
theorem q3541 : (Jvm.Cond.selects "java/util/ImmutableCollections$List12" ({ cls := "java/util/AbstractCollection", name := "size", desc := "()I" } : Jvm.MethodName) ({ cls := "java/util/ImmutableCollections$List12", name := "size", desc := "()I" } : Jvm.MethodName)) ∈ lw_all := lw_g (lw_at lw_m15 62 rfl) rfl
theorem q3567 : (Jvm.Cond.castable "java/util/ImmutableCollections$List12" "java/lang/Object") ∈ lw_tbl := lw_at lw_m15 88 rfl
theorem in_J4 : ∀ w ∈ wsJ40, w ∈ lw_all := lw_in wsJ40 [252, 254] (by decide +kernel) (by decide +kernel)
/-! java/util/Objects -/
set_option maxRecDepth 100000
def RJ5 : String := "java/util/Objects"
abbrev cJ5_requireNonNull : ByteArray := prog_84_method_10_code
def yJ5_requireNonNull : MethodName := ⟨RJ5, "requireNonNull", "(Ljava/lang/Object;)Ljava/lang/Object;"⟩
def dkwJ5_requireNonNull_0 : List UInt8 := [42, 199, 0, 11, 187, 0, 84, 89, 183, 0, 86, 191, 42, 176]
abbrev dktJ5_requireNonNull_0 : List UInt8 := dkwJ5_requireNonNull_0 ++ []
theorem dksJ5_requireNonNull_0 : cJ5_requireNonNull.data.toList.drop 0 = dktJ5_requireNonNull_0 := by decide +kernel
theorem dJ5_requireNonNull_0 : decode cJ5_requireNonNull 0 = .ok (.aload_n 0, 1) := dk_42 (dk_at dksJ5_requireNonNull_0 0 rfl rfl)
theorem dJ5_requireNonNull_1 : decode cJ5_requireNonNull 1 = .ok (.ifnonnull 11, 3) := dk_199 0 11 (dk_at dksJ5_requireNonNull_0 1 rfl rfl)
theorem dJ5_requireNonNull_4 : decode cJ5_requireNonNull 4 = .ok (.new 84, 3) := dk_187 0 84 (dk_at dksJ5_requireNonNull_0 4 rfl rfl)
theorem dJ5_requireNonNull_7 : decode cJ5_requireNonNull 7 = .ok (.dup, 1) := dk_89 (dk_at dksJ5_requireNonNull_0 7 rfl rfl)
theorem dJ5_requireNonNull_8 : decode cJ5_requireNonNull 8 = .ok (.invokespecial 86, 3) := dk_183 0 86 (dk_at dksJ5_requireNonNull_0 8 rfl rfl)
theorem dJ5_requireNonNull_11 : decode cJ5_requireNonNull 11 = .ok (.athrow, 1) := dk_191 (dk_at dksJ5_requireNonNull_0 11 rfl rfl)
theorem dJ5_requireNonNull_12 : decode cJ5_requireNonNull 12 = .ok (.aload_n 0, 1) := dk_42 (dk_at dksJ5_requireNonNull_0 12 rfl rfl)
theorem dJ5_requireNonNull_13 : decode cJ5_requireNonNull 13 = .ok (.areturn, 1) := dk_176 (dk_at dksJ5_requireNonNull_0 13 rfl rfl)
abbrev cJ5_checkIndex : ByteArray := prog_84_method_17_code
def yJ5_checkIndex : MethodName := ⟨RJ5, "checkIndex", "(II)I"⟩
def dkwJ5_checkIndex_0 : List UInt8 := [26, 27, 1, 184, 0, 105, 172]
abbrev dktJ5_checkIndex_0 : List UInt8 := dkwJ5_checkIndex_0 ++ []
theorem dksJ5_checkIndex_0 : cJ5_checkIndex.data.toList.drop 0 = dktJ5_checkIndex_0 := by decide +kernel
theorem dJ5_checkIndex_0 : decode cJ5_checkIndex 0 = .ok (.iload_n 0, 1) := dk_26 (dk_at dksJ5_checkIndex_0 0 rfl rfl)
theorem dJ5_checkIndex_1 : decode cJ5_checkIndex 1 = .ok (.iload_n 1, 1) := dk_27 (dk_at dksJ5_checkIndex_0 1 rfl rfl)
theorem dJ5_checkIndex_2 : decode cJ5_checkIndex 2 = .ok (.aconst_null, 1) := dk_1 (dk_at dksJ5_checkIndex_0 2 rfl rfl)
theorem dJ5_checkIndex_3 : decode cJ5_checkIndex 3 = .ok (.invokestatic 105, 3) := dk_184 0 105 (dk_at dksJ5_checkIndex_0 3 rfl rfl)
theorem dJ5_checkIndex_6 : decode cJ5_checkIndex 6 = .ok (.ireturn, 1) := dk_172 (dk_at dksJ5_checkIndex_0 6 rfl rfl)
theorem q128 : (Jvm.Cond.initialized "java/util/Objects") ∈ lw_all := lw_g (lw_at lw_m1 9 rfl) rfl
theorem q248 : (Jvm.Cond.static ({ cls := "java/util/Objects", name := "requireNonNull", desc := "(Ljava/lang/Object;)Ljava/lang/Object;" } : Jvm.MethodName)) ∈ lw_all := lw_g (lw_at lw_m1 129 rfl) rfl
theorem q249 : (Jvm.Cond.code ({ cls := "java/util/Objects", name := "requireNonNull", desc := "(Ljava/lang/Object;)Ljava/lang/Object;" } : Jvm.MethodName) prog_84_method_10_code (1 : Nat) (Option.some (Jvm.ClassFile.FieldType.object "java/lang/Object"))) ∈ lw_all := lw_g (lw_at lw_m1 130 rfl) rfl
theorem q797 : (Jvm.Cond.static ({ cls := "java/util/Objects", name := "checkIndex", desc := "(II)I" } : Jvm.MethodName)) ∈ lw_all := lw_g (lw_at lw_m3 198 rfl) rfl
theorem q798 : (Jvm.Cond.code ({ cls := "java/util/Objects", name := "checkIndex", desc := "(II)I" } : Jvm.MethodName) prog_84_method_17_code (2 : Nat) (Option.some Jvm.ClassFile.FieldType.int)) ∈ lw_all := lw_g (lw_at lw_m3 199 rfl) rfl
theorem q799 : (Jvm.Cond.methodLink "java/util/Objects" (105 : Nat) ({ cls := "jdk/internal/util/Preconditions", name := "checkIndex", desc := "(IILjava/util/function/BiFunction;)I" } : Jvm.MethodName)) ∈ lw_all := lw_g (lw_at lw_m3 200 rfl) rfl
/-! java/util/AbstractList -/
set_option maxRecDepth 100000
def RJ6 : String := "java/util/AbstractList"
abbrev cJ6_init : ByteArray := prog_57_method_1_code
def yJ6_init : MethodName := ⟨RJ6, "<init>", "()V"⟩
def dkwJ6_init_0 : List UInt8 := [42, 183, 0, 1, 42, 3, 181, 0, 7, 177]
abbrev dktJ6_init_0 : List UInt8 := dkwJ6_init_0 ++ []
theorem dksJ6_init_0 : cJ6_init.data.toList.drop 0 = dktJ6_init_0 := by decide +kernel
theorem dJ6_init_0 : decode cJ6_init 0 = .ok (.aload_n 0, 1) := dk_42 (dk_at dksJ6_init_0 0 rfl rfl)
theorem dJ6_init_1 : decode cJ6_init 1 = .ok (.invokespecial 1, 3) := dk_183 0 1 (dk_at dksJ6_init_0 1 rfl rfl)
theorem dJ6_init_4 : decode cJ6_init 4 = .ok (.aload_n 0, 1) := dk_42 (dk_at dksJ6_init_0 4 rfl rfl)
theorem dJ6_init_5 : decode cJ6_init 5 = .ok (.iconst 0, 1) := dk_3 (dk_at dksJ6_init_0 5 rfl rfl)
theorem dJ6_init_6 : decode cJ6_init 6 = .ok (.putfield 7, 3) := dk_181 0 7 (dk_at dksJ6_init_0 6 rfl rfl)
theorem dJ6_init_9 : decode cJ6_init 9 = .ok (.return_, 1) := dk_177 (dk_at dksJ6_init_0 9 rfl rfl)
abbrev cJ6_listIterator : ByteArray := prog_57_method_12_code
def yJ6_listIterator : MethodName := ⟨RJ6, "listIterator", "()Ljava/util/ListIterator;"⟩
def dkwJ6_listIterator_0 : List UInt8 := [42, 3, 182, 0, 47, 176]
abbrev dktJ6_listIterator_0 : List UInt8 := dkwJ6_listIterator_0 ++ []
theorem dksJ6_listIterator_0 : cJ6_listIterator.data.toList.drop 0 = dktJ6_listIterator_0 := by decide +kernel
theorem dJ6_listIterator_0 : decode cJ6_listIterator 0 = .ok (.aload_n 0, 1) := dk_42 (dk_at dksJ6_listIterator_0 0 rfl rfl)
theorem dJ6_listIterator_1 : decode cJ6_listIterator 1 = .ok (.iconst 0, 1) := dk_3 (dk_at dksJ6_listIterator_0 1 rfl rfl)
theorem dJ6_listIterator_2 : decode cJ6_listIterator 2 = .ok (.invokevirtual 47, 3) := dk_182 0 47 (dk_at dksJ6_listIterator_0 2 rfl rfl)
theorem dJ6_listIterator_5 : decode cJ6_listIterator 5 = .ok (.areturn, 1) := dk_176 (dk_at dksJ6_listIterator_0 5 rfl rfl)
theorem q129 : (Jvm.Cond.initialized "java/util/AbstractList") ∈ lw_all := lw_g (lw_at lw_m1 10 rfl) rfl
theorem q267 : (Jvm.Cond.instanceMethod ({ cls := "java/util/AbstractList", name := "<init>", desc := "()V" } : Jvm.MethodName)) ∈ lw_all := lw_g (lw_at lw_m1 148 rfl) rfl
theorem q268 : (Jvm.Cond.code ({ cls := "java/util/AbstractList", name := "<init>", desc := "()V" } : Jvm.MethodName) prog_57_method_1_code (1 : Nat) (Option.none : Option Jvm.ClassFile.FieldType)) ∈ lw_all := lw_g (lw_at lw_m1 149 rfl) rfl
theorem q269 : (Jvm.Cond.methodLink "java/util/AbstractList" (1 : Nat) ({ cls := "java/util/AbstractCollection", name := "<init>", desc := "()V" } : Jvm.MethodName)) ∈ lw_all := lw_g (lw_at lw_m1 150 rfl) rfl
theorem q599 : (Jvm.Cond.fieldLink "java/util/AbstractList" (7 : Nat) "java/util/AbstractList" "modCount" "I") ∈ lw_all := lw_g (lw_at lw_m3 0 rfl) rfl
theorem q612 : (Jvm.Cond.soleField "java/util/AbstractList" "modCount") ∈ lw_all := lw_g (lw_at lw_m3 13 rfl) rfl
theorem q897 : (Jvm.Cond.declares ({ cls := "java/util/AbstractList", name := "listIterator", desc := "()Ljava/util/ListIterator;" } : Jvm.MethodName)) ∈ lw_tbl := lw_at lw_m4 58 rfl
theorem q899 : (Jvm.Cond.instanceMethod ({ cls := "java/util/AbstractList", name := "listIterator", desc := "()Ljava/util/ListIterator;" } : Jvm.MethodName)) ∈ lw_all := lw_g (lw_at lw_m4 60 rfl) rfl
theorem q900 : (Jvm.Cond.code ({ cls := "java/util/AbstractList", name := "listIterator", desc := "()Ljava/util/ListIterator;" } : Jvm.MethodName) prog_57_method_12_code (1 : Nat) (Option.some (Jvm.ClassFile.FieldType.object "java/util/ListIterator"))) ∈ lw_all := lw_g (lw_at lw_m4 61 rfl) rfl
theorem q901 : (Jvm.Cond.methodLink "java/util/AbstractList" (47 : Nat) ({ cls := "java/util/AbstractList", name := "listIterator", desc := "(I)Ljava/util/ListIterator;" } : Jvm.MethodName)) ∈ lw_all := lw_g (lw_at lw_m4 62 rfl) rfl
theorem q902 : (Jvm.Cond.instanceMethod ({ cls := "java/util/AbstractList", name := "listIterator", desc := "(I)Ljava/util/ListIterator;" } : Jvm.MethodName)) ∈ lw_all := lw_g (lw_at lw_m4 63 rfl) rfl
theorem q903 : (Jvm.Cond.sameMethod "java/util/AbstractList" "java/util/AbstractList" "listIterator" "(I)Ljava/util/ListIterator;") ∈ lw_all := lw_g (lw_at lw_m4 64 rfl) rfl
theorem q980 : (Jvm.Cond.declares ({ cls := "java/util/AbstractList", name := "listIterator", desc := "(I)Ljava/util/ListIterator;" } : Jvm.MethodName)) ∈ lw_tbl := lw_at lw_m4 141 rfl
theorem q992 : (Jvm.Cond.sameMethod "java/util/AbstractList" "java/util/AbstractCollection" "size" "()I") ∈ lw_all := lw_g (lw_at lw_m4 153 rfl) rfl
theorem q1034 : (Jvm.Cond.declares ({ cls := "java/util/AbstractList", name := "get", desc := "(I)Ljava/lang/Object;" } : Jvm.MethodName)) ∈ lw_tbl := lw_at lw_m4 195 rfl
theorem q1035 : (Jvm.Cond.sameMethod "java/util/AbstractList" "java/util/AbstractList" "get" "(I)Ljava/lang/Object;") ∈ lw_all := lw_g (lw_at lw_m4 196 rfl) rfl
theorem q2044 : (Jvm.Cond.instanceMethod ({ cls := "java/util/AbstractList", name := "remove", desc := "(I)Ljava/lang/Object;" } : Jvm.MethodName)) ∈ lw_all := lw_g (lw_at lw_m9 5 rfl) rfl
theorem q2045 : (Jvm.Cond.sameMethod "java/util/AbstractList" "java/util/AbstractList" "remove" "(I)Ljava/lang/Object;") ∈ lw_all := lw_g (lw_at lw_m9 6 rfl) rfl
theorem q2061 : (Jvm.Cond.declares ({ cls := "java/util/AbstractList", name := "remove", desc := "(I)Ljava/lang/Object;" } : Jvm.MethodName)) ∈ lw_tbl := lw_at lw_m9 22 rfl
/-! java/util/ArrayList -/
set_option maxRecDepth 100000
def RJ7 : String := "java/util/ArrayList"
def TJ7 : u_T := fun k => match k with
  | 0 => ("java/util/AbstractList", "modCount", "I", false)
  | 1 => ("java/util/ArrayList", "elementData", "[Ljava/lang/Object;", false)
  | _ => ("java/util/ArrayList", "size", "I", false)
def tyJ7 : Nat → FieldType := fun k => match k with
  | 0 => .int
  | 1 => .array (.object "java/lang/Object")
  | _ => .int
abbrev wsJ70 : List Cond := u_ws RJ7 TJ7 3
theorem nmJ7 : ∀ a, a < 3 → ∀ b, b < 3 → a ≠ b → (TJ7 a).2.1 ≠ (TJ7 b).2.1 := by decide +kernel
theorem tyJ7_ok : ∀ k, k < 3 → parseFieldDescriptor (TJ7 k).2.2.1 = some (tyJ7 k) := by decide +kernel
abbrev cJ7_init : ByteArray := prog_62_method_1_code
def yJ7_init : MethodName := ⟨RJ7, "<init>", "(I)V"⟩
def dkwJ7_init_2 : List UInt8 := [182, 0, 25, 27, 182, 0, 29, 182, 0, 32, 183, 0, 36, 191, 177]
abbrev dktJ7_init_2 : List UInt8 := dkwJ7_init_2 ++ []
def dkwJ7_init_1 : List UInt8 := [178, 0, 15, 181, 0, 9, 167, 0, 30, 187, 0, 18, 89, 187, 0, 20, 89, 183, 0, 22, 18, 23]
abbrev dktJ7_init_1 : List UInt8 := dkwJ7_init_1 ++ dktJ7_init_2
def dkwJ7_init_0 : List UInt8 := [42, 183, 0, 1, 27, 158, 0, 14, 42, 27, 189, 0, 7, 181, 0, 9, 167, 0, 44, 27, 154, 0, 13, 42]
abbrev dktJ7_init_0 : List UInt8 := dkwJ7_init_0 ++ dktJ7_init_1
theorem dksJ7_init_0 : cJ7_init.data.toList.drop 0 = dktJ7_init_0 := by decide +kernel
theorem dksJ7_init_1 : cJ7_init.data.toList.drop 24 = dktJ7_init_1 := dk_seg dksJ7_init_0 24 rfl rfl
theorem dksJ7_init_2 : cJ7_init.data.toList.drop 46 = dktJ7_init_2 := dk_seg dksJ7_init_1 22 rfl rfl
theorem dJ7_init_0 : decode cJ7_init 0 = .ok (.aload_n 0, 1) := dk_42 (dk_at dksJ7_init_0 0 rfl rfl)
theorem dJ7_init_1 : decode cJ7_init 1 = .ok (.invokespecial 1, 3) := dk_183 0 1 (dk_at dksJ7_init_0 1 rfl rfl)
theorem dJ7_init_4 : decode cJ7_init 4 = .ok (.iload_n 1, 1) := dk_27 (dk_at dksJ7_init_0 4 rfl rfl)
theorem dJ7_init_5 : decode cJ7_init 5 = .ok (.ifCond .le 14, 3) := dk_158 0 14 (dk_at dksJ7_init_0 5 rfl rfl)
theorem dJ7_init_8 : decode cJ7_init 8 = .ok (.aload_n 0, 1) := dk_42 (dk_at dksJ7_init_0 8 rfl rfl)
theorem dJ7_init_9 : decode cJ7_init 9 = .ok (.iload_n 1, 1) := dk_27 (dk_at dksJ7_init_0 9 rfl rfl)
theorem dJ7_init_10 : decode cJ7_init 10 = .ok (.anewarray 7, 3) := dk_189 0 7 (dk_at dksJ7_init_0 10 rfl rfl)
theorem dJ7_init_13 : decode cJ7_init 13 = .ok (.putfield 9, 3) := dk_181 0 9 (dk_at dksJ7_init_0 13 rfl rfl)
theorem dJ7_init_16 : decode cJ7_init 16 = .ok (.goto 44, 3) := dk_167 0 44 (dk_at dksJ7_init_0 16 rfl rfl)
theorem dJ7_init_19 : decode cJ7_init 19 = .ok (.iload_n 1, 1) := dk_27 (dk_at dksJ7_init_0 19 rfl rfl)
theorem dJ7_init_20 : decode cJ7_init 20 = .ok (.ifCond .ne 13, 3) := dk_154 0 13 (dk_at dksJ7_init_0 20 rfl rfl)
theorem dJ7_init_23 : decode cJ7_init 23 = .ok (.aload_n 0, 1) := dk_42 (dk_at dksJ7_init_0 23 rfl rfl)
theorem dJ7_init_24 : decode cJ7_init 24 = .ok (.getstatic 15, 3) := dk_178 0 15 (dk_at dksJ7_init_1 0 rfl rfl)
theorem dJ7_init_27 : decode cJ7_init 27 = .ok (.putfield 9, 3) := dk_181 0 9 (dk_at dksJ7_init_1 3 rfl rfl)
theorem dJ7_init_30 : decode cJ7_init 30 = .ok (.goto 30, 3) := dk_167 0 30 (dk_at dksJ7_init_1 6 rfl rfl)
theorem dJ7_init_33 : decode cJ7_init 33 = .ok (.new 18, 3) := dk_187 0 18 (dk_at dksJ7_init_1 9 rfl rfl)
theorem dJ7_init_36 : decode cJ7_init 36 = .ok (.dup, 1) := dk_89 (dk_at dksJ7_init_1 12 rfl rfl)
theorem dJ7_init_37 : decode cJ7_init 37 = .ok (.new 20, 3) := dk_187 0 20 (dk_at dksJ7_init_1 13 rfl rfl)
theorem dJ7_init_40 : decode cJ7_init 40 = .ok (.dup, 1) := dk_89 (dk_at dksJ7_init_1 16 rfl rfl)
theorem dJ7_init_41 : decode cJ7_init 41 = .ok (.invokespecial 22, 3) := dk_183 0 22 (dk_at dksJ7_init_1 17 rfl rfl)
theorem dJ7_init_44 : decode cJ7_init 44 = .ok (.ldc 23, 2) := dk_18 23 (dk_at dksJ7_init_1 20 rfl rfl)
theorem dJ7_init_46 : decode cJ7_init 46 = .ok (.invokevirtual 25, 3) := dk_182 0 25 (dk_at dksJ7_init_2 0 rfl rfl)
theorem dJ7_init_49 : decode cJ7_init 49 = .ok (.iload_n 1, 1) := dk_27 (dk_at dksJ7_init_2 3 rfl rfl)
theorem dJ7_init_50 : decode cJ7_init 50 = .ok (.invokevirtual 29, 3) := dk_182 0 29 (dk_at dksJ7_init_2 4 rfl rfl)
theorem dJ7_init_53 : decode cJ7_init 53 = .ok (.invokevirtual 32, 3) := dk_182 0 32 (dk_at dksJ7_init_2 7 rfl rfl)
theorem dJ7_init_56 : decode cJ7_init 56 = .ok (.invokespecial 36, 3) := dk_183 0 36 (dk_at dksJ7_init_2 10 rfl rfl)
theorem dJ7_init_59 : decode cJ7_init 59 = .ok (.athrow, 1) := dk_191 (dk_at dksJ7_init_2 13 rfl rfl)
theorem dJ7_init_60 : decode cJ7_init 60 = .ok (.return_, 1) := dk_177 (dk_at dksJ7_init_2 14 rfl rfl)
abbrev cJ7_get : ByteArray := prog_62_method_20_code
def yJ7_get : MethodName := ⟨RJ7, "get", "(I)Ljava/lang/Object;"⟩
def dkwJ7_get_0 : List UInt8 := [27, 42, 180, 0, 48, 184, 0, 118, 87, 42, 27, 182, 0, 123, 176]
abbrev dktJ7_get_0 : List UInt8 := dkwJ7_get_0 ++ []
theorem dksJ7_get_0 : cJ7_get.data.toList.drop 0 = dktJ7_get_0 := by decide +kernel
theorem dJ7_get_0 : decode cJ7_get 0 = .ok (.iload_n 1, 1) := dk_27 (dk_at dksJ7_get_0 0 rfl rfl)
theorem dJ7_get_1 : decode cJ7_get 1 = .ok (.aload_n 0, 1) := dk_42 (dk_at dksJ7_get_0 1 rfl rfl)
theorem dJ7_get_2 : decode cJ7_get 2 = .ok (.getfield 48, 3) := dk_180 0 48 (dk_at dksJ7_get_0 2 rfl rfl)
theorem dJ7_get_5 : decode cJ7_get 5 = .ok (.invokestatic 118, 3) := dk_184 0 118 (dk_at dksJ7_get_0 5 rfl rfl)
theorem dJ7_get_8 : decode cJ7_get 8 = .ok (.pop, 1) := dk_87 (dk_at dksJ7_get_0 8 rfl rfl)
theorem dJ7_get_9 : decode cJ7_get 9 = .ok (.aload_n 0, 1) := dk_42 (dk_at dksJ7_get_0 9 rfl rfl)
theorem dJ7_get_10 : decode cJ7_get 10 = .ok (.iload_n 1, 1) := dk_27 (dk_at dksJ7_get_0 10 rfl rfl)
theorem dJ7_get_11 : decode cJ7_get 11 = .ok (.invokevirtual 123, 3) := dk_182 0 123 (dk_at dksJ7_get_0 11 rfl rfl)
theorem dJ7_get_14 : decode cJ7_get 14 = .ok (.areturn, 1) := dk_176 (dk_at dksJ7_get_0 14 rfl rfl)
abbrev cJ7_elementData : ByteArray := prog_62_method_18_code
def yJ7_elementData : MethodName := ⟨RJ7, "elementData", "(I)Ljava/lang/Object;"⟩
def dkwJ7_elementData_0 : List UInt8 := [42, 180, 0, 9, 27, 50, 176]
abbrev dktJ7_elementData_0 : List UInt8 := dkwJ7_elementData_0 ++ []
theorem dksJ7_elementData_0 : cJ7_elementData.data.toList.drop 0 = dktJ7_elementData_0 := by decide +kernel
theorem dJ7_elementData_0 : decode cJ7_elementData 0 = .ok (.aload_n 0, 1) := dk_42 (dk_at dksJ7_elementData_0 0 rfl rfl)
theorem dJ7_elementData_1 : decode cJ7_elementData 1 = .ok (.getfield 9, 3) := dk_180 0 9 (dk_at dksJ7_elementData_0 1 rfl rfl)
theorem dJ7_elementData_4 : decode cJ7_elementData 4 = .ok (.iload_n 1, 1) := dk_27 (dk_at dksJ7_elementData_0 4 rfl rfl)
theorem dJ7_elementData_5 : decode cJ7_elementData 5 = .ok (.aaload, 1) := dk_50 (dk_at dksJ7_elementData_0 5 rfl rfl)
theorem dJ7_elementData_6 : decode cJ7_elementData 6 = .ok (.areturn, 1) := dk_176 (dk_at dksJ7_elementData_0 6 rfl rfl)
abbrev cJ7_listIterator : ByteArray := prog_62_method_53_code
def yJ7_listIterator : MethodName := ⟨RJ7, "listIterator", "(I)Ljava/util/ListIterator;"⟩
def dkwJ7_listIterator_0 : List UInt8 := [42, 27, 182, 0, 135, 187, 1, 6, 89, 42, 27, 183, 1, 8, 176]
abbrev dktJ7_listIterator_0 : List UInt8 := dkwJ7_listIterator_0 ++ []
theorem dksJ7_listIterator_0 : cJ7_listIterator.data.toList.drop 0 = dktJ7_listIterator_0 := by decide +kernel
theorem dJ7_listIterator_0 : decode cJ7_listIterator 0 = .ok (.aload_n 0, 1) := dk_42 (dk_at dksJ7_listIterator_0 0 rfl rfl)
theorem dJ7_listIterator_1 : decode cJ7_listIterator 1 = .ok (.iload_n 1, 1) := dk_27 (dk_at dksJ7_listIterator_0 1 rfl rfl)
theorem dJ7_listIterator_2 : decode cJ7_listIterator 2 = .ok (.invokevirtual 135, 3) := dk_182 0 135 (dk_at dksJ7_listIterator_0 2 rfl rfl)
theorem dJ7_listIterator_5 : decode cJ7_listIterator 5 = .ok (.new 262, 3) := dk_187 1 6 (dk_at dksJ7_listIterator_0 5 rfl rfl)
theorem dJ7_listIterator_8 : decode cJ7_listIterator 8 = .ok (.dup, 1) := dk_89 (dk_at dksJ7_listIterator_0 8 rfl rfl)
theorem dJ7_listIterator_9 : decode cJ7_listIterator 9 = .ok (.aload_n 0, 1) := dk_42 (dk_at dksJ7_listIterator_0 9 rfl rfl)
theorem dJ7_listIterator_10 : decode cJ7_listIterator 10 = .ok (.iload_n 1, 1) := dk_27 (dk_at dksJ7_listIterator_0 10 rfl rfl)
theorem dJ7_listIterator_11 : decode cJ7_listIterator 11 = .ok (.invokespecial 264, 3) := dk_183 1 8 (dk_at dksJ7_listIterator_0 11 rfl rfl)
theorem dJ7_listIterator_14 : decode cJ7_listIterator 14 = .ok (.areturn, 1) := dk_176 (dk_at dksJ7_listIterator_0 14 rfl rfl)
abbrev cJ7_rangeCheckForAdd : ByteArray := prog_62_method_45_code
def yJ7_rangeCheckForAdd : MethodName := ⟨RJ7, "rangeCheckForAdd", "(I)V"⟩
def dkwJ7_rangeCheckForAdd_1 : List UInt8 := [191, 177]
abbrev dktJ7_rangeCheckForAdd_1 : List UInt8 := dkwJ7_rangeCheckForAdd_1 ++ []
def dkwJ7_rangeCheckForAdd_0 : List UInt8 := [27, 42, 180, 0, 48, 163, 0, 7, 27, 156, 0, 16, 187, 0, 187, 89, 42, 27, 182, 0, 198, 183, 0, 193]
abbrev dktJ7_rangeCheckForAdd_0 : List UInt8 := dkwJ7_rangeCheckForAdd_0 ++ dktJ7_rangeCheckForAdd_1
theorem dksJ7_rangeCheckForAdd_0 : cJ7_rangeCheckForAdd.data.toList.drop 0 = dktJ7_rangeCheckForAdd_0 := by decide +kernel
theorem dksJ7_rangeCheckForAdd_1 : cJ7_rangeCheckForAdd.data.toList.drop 24 = dktJ7_rangeCheckForAdd_1 := dk_seg dksJ7_rangeCheckForAdd_0 24 rfl rfl
theorem dJ7_rangeCheckForAdd_0 : decode cJ7_rangeCheckForAdd 0 = .ok (.iload_n 1, 1) := dk_27 (dk_at dksJ7_rangeCheckForAdd_0 0 rfl rfl)
theorem dJ7_rangeCheckForAdd_1 : decode cJ7_rangeCheckForAdd 1 = .ok (.aload_n 0, 1) := dk_42 (dk_at dksJ7_rangeCheckForAdd_0 1 rfl rfl)
theorem dJ7_rangeCheckForAdd_2 : decode cJ7_rangeCheckForAdd 2 = .ok (.getfield 48, 3) := dk_180 0 48 (dk_at dksJ7_rangeCheckForAdd_0 2 rfl rfl)
theorem dJ7_rangeCheckForAdd_5 : decode cJ7_rangeCheckForAdd 5 = .ok (.if_icmp .gt 7, 3) := dk_163 0 7 (dk_at dksJ7_rangeCheckForAdd_0 5 rfl rfl)
theorem dJ7_rangeCheckForAdd_8 : decode cJ7_rangeCheckForAdd 8 = .ok (.iload_n 1, 1) := dk_27 (dk_at dksJ7_rangeCheckForAdd_0 8 rfl rfl)
theorem dJ7_rangeCheckForAdd_9 : decode cJ7_rangeCheckForAdd 9 = .ok (.ifCond .ge 16, 3) := dk_156 0 16 (dk_at dksJ7_rangeCheckForAdd_0 9 rfl rfl)
theorem dJ7_rangeCheckForAdd_12 : decode cJ7_rangeCheckForAdd 12 = .ok (.new 187, 3) := dk_187 0 187 (dk_at dksJ7_rangeCheckForAdd_0 12 rfl rfl)
theorem dJ7_rangeCheckForAdd_15 : decode cJ7_rangeCheckForAdd 15 = .ok (.dup, 1) := dk_89 (dk_at dksJ7_rangeCheckForAdd_0 15 rfl rfl)
theorem dJ7_rangeCheckForAdd_16 : decode cJ7_rangeCheckForAdd 16 = .ok (.aload_n 0, 1) := dk_42 (dk_at dksJ7_rangeCheckForAdd_0 16 rfl rfl)
theorem dJ7_rangeCheckForAdd_17 : decode cJ7_rangeCheckForAdd 17 = .ok (.iload_n 1, 1) := dk_27 (dk_at dksJ7_rangeCheckForAdd_0 17 rfl rfl)
theorem dJ7_rangeCheckForAdd_18 : decode cJ7_rangeCheckForAdd 18 = .ok (.invokevirtual 198, 3) := dk_182 0 198 (dk_at dksJ7_rangeCheckForAdd_0 18 rfl rfl)
theorem dJ7_rangeCheckForAdd_21 : decode cJ7_rangeCheckForAdd 21 = .ok (.invokespecial 193, 3) := dk_183 0 193 (dk_at dksJ7_rangeCheckForAdd_0 21 rfl rfl)
theorem dJ7_rangeCheckForAdd_24 : decode cJ7_rangeCheckForAdd 24 = .ok (.athrow, 1) := dk_191 (dk_at dksJ7_rangeCheckForAdd_1 0 rfl rfl)
theorem dJ7_rangeCheckForAdd_25 : decode cJ7_rangeCheckForAdd 25 = .ok (.return_, 1) := dk_177 (dk_at dksJ7_rangeCheckForAdd_1 1 rfl rfl)
abbrev cJ7_outOfBoundsMsg : ByteArray := prog_62_method_46_code
def yJ7_outOfBoundsMsg : MethodName := ⟨RJ7, "outOfBoundsMsg", "(I)Ljava/lang/String;"⟩
def dkwJ7_outOfBoundsMsg_1 : List UInt8 := [180, 0, 48, 182, 0, 29, 182, 0, 32, 176]
abbrev dktJ7_outOfBoundsMsg_1 : List UInt8 := dkwJ7_outOfBoundsMsg_1 ++ []
def dkwJ7_outOfBoundsMsg_0 : List UInt8 := [187, 0, 20, 89, 183, 0, 22, 18, 201, 182, 0, 25, 27, 182, 0, 29, 18, 203, 182, 0, 25, 42]
abbrev dktJ7_outOfBoundsMsg_0 : List UInt8 := dkwJ7_outOfBoundsMsg_0 ++ dktJ7_outOfBoundsMsg_1
theorem dksJ7_outOfBoundsMsg_0 : cJ7_outOfBoundsMsg.data.toList.drop 0 = dktJ7_outOfBoundsMsg_0 := by decide +kernel
theorem dksJ7_outOfBoundsMsg_1 : cJ7_outOfBoundsMsg.data.toList.drop 22 = dktJ7_outOfBoundsMsg_1 := dk_seg dksJ7_outOfBoundsMsg_0 22 rfl rfl
theorem dJ7_outOfBoundsMsg_0 : decode cJ7_outOfBoundsMsg 0 = .ok (.new 20, 3) := dk_187 0 20 (dk_at dksJ7_outOfBoundsMsg_0 0 rfl rfl)
theorem dJ7_outOfBoundsMsg_3 : decode cJ7_outOfBoundsMsg 3 = .ok (.dup, 1) := dk_89 (dk_at dksJ7_outOfBoundsMsg_0 3 rfl rfl)
theorem dJ7_outOfBoundsMsg_4 : decode cJ7_outOfBoundsMsg 4 = .ok (.invokespecial 22, 3) := dk_183 0 22 (dk_at dksJ7_outOfBoundsMsg_0 4 rfl rfl)
theorem dJ7_outOfBoundsMsg_7 : decode cJ7_outOfBoundsMsg 7 = .ok (.ldc 201, 2) := dk_18 201 (dk_at dksJ7_outOfBoundsMsg_0 7 rfl rfl)
theorem dJ7_outOfBoundsMsg_9 : decode cJ7_outOfBoundsMsg 9 = .ok (.invokevirtual 25, 3) := dk_182 0 25 (dk_at dksJ7_outOfBoundsMsg_0 9 rfl rfl)
theorem dJ7_outOfBoundsMsg_12 : decode cJ7_outOfBoundsMsg 12 = .ok (.iload_n 1, 1) := dk_27 (dk_at dksJ7_outOfBoundsMsg_0 12 rfl rfl)
theorem dJ7_outOfBoundsMsg_13 : decode cJ7_outOfBoundsMsg 13 = .ok (.invokevirtual 29, 3) := dk_182 0 29 (dk_at dksJ7_outOfBoundsMsg_0 13 rfl rfl)
theorem dJ7_outOfBoundsMsg_16 : decode cJ7_outOfBoundsMsg 16 = .ok (.ldc 203, 2) := dk_18 203 (dk_at dksJ7_outOfBoundsMsg_0 16 rfl rfl)
theorem dJ7_outOfBoundsMsg_18 : decode cJ7_outOfBoundsMsg 18 = .ok (.invokevirtual 25, 3) := dk_182 0 25 (dk_at dksJ7_outOfBoundsMsg_0 18 rfl rfl)
theorem dJ7_outOfBoundsMsg_21 : decode cJ7_outOfBoundsMsg 21 = .ok (.aload_n 0, 1) := dk_42 (dk_at dksJ7_outOfBoundsMsg_0 21 rfl rfl)
theorem dJ7_outOfBoundsMsg_22 : decode cJ7_outOfBoundsMsg 22 = .ok (.getfield 48, 3) := dk_180 0 48 (dk_at dksJ7_outOfBoundsMsg_1 0 rfl rfl)
theorem dJ7_outOfBoundsMsg_25 : decode cJ7_outOfBoundsMsg 25 = .ok (.invokevirtual 29, 3) := dk_182 0 29 (dk_at dksJ7_outOfBoundsMsg_1 3 rfl rfl)
theorem dJ7_outOfBoundsMsg_28 : decode cJ7_outOfBoundsMsg 28 = .ok (.invokevirtual 32, 3) := dk_182 0 32 (dk_at dksJ7_outOfBoundsMsg_1 6 rfl rfl)
theorem dJ7_outOfBoundsMsg_31 : decode cJ7_outOfBoundsMsg 31 = .ok (.areturn, 1) := dk_176 (dk_at dksJ7_outOfBoundsMsg_1 9 rfl rfl)
abbrev cJ7_size : ByteArray := prog_62_method_8_code
def yJ7_size : MethodName := ⟨RJ7, "size", "()I"⟩
theorem dJ7_size_0 : decode cJ7_size 0 = .ok (.aload_n 0, 1) := by decide +kernel
theorem dJ7_size_1 : decode cJ7_size 1 = .ok (.getfield 48, 3) := by decide +kernel
theorem dJ7_size_4 : decode cJ7_size 4 = .ok (.ireturn, 1) := by decide +kernel
abbrev cJ7_add : ByteArray := prog_62_method_25_code
def yJ7_add : MethodName := ⟨RJ7, "add", "(Ljava/lang/Object;)Z"⟩
def dkwJ7_add_1 : List UInt8 := [172]
abbrev dktJ7_add_1 : List UInt8 := dkwJ7_add_1 ++ []
def dkwJ7_add_0 : List UInt8 := [42, 89, 180, 0, 63, 4, 96, 181, 0, 63, 42, 43, 42, 180, 0, 9, 42, 180, 0, 48, 182, 0, 131, 4]
abbrev dktJ7_add_0 : List UInt8 := dkwJ7_add_0 ++ dktJ7_add_1
theorem dksJ7_add_0 : cJ7_add.data.toList.drop 0 = dktJ7_add_0 := by decide +kernel
theorem dksJ7_add_1 : cJ7_add.data.toList.drop 24 = dktJ7_add_1 := dk_seg dksJ7_add_0 24 rfl rfl
theorem dJ7_add_0 : decode cJ7_add 0 = .ok (.aload_n 0, 1) := dk_42 (dk_at dksJ7_add_0 0 rfl rfl)
theorem dJ7_add_1 : decode cJ7_add 1 = .ok (.dup, 1) := dk_89 (dk_at dksJ7_add_0 1 rfl rfl)
theorem dJ7_add_2 : decode cJ7_add 2 = .ok (.getfield 63, 3) := dk_180 0 63 (dk_at dksJ7_add_0 2 rfl rfl)
theorem dJ7_add_5 : decode cJ7_add 5 = .ok (.iconst 1, 1) := dk_4 (dk_at dksJ7_add_0 5 rfl rfl)
theorem dJ7_add_6 : decode cJ7_add 6 = .ok (.iadd, 1) := dk_96 (dk_at dksJ7_add_0 6 rfl rfl)
theorem dJ7_add_7 : decode cJ7_add 7 = .ok (.putfield 63, 3) := dk_181 0 63 (dk_at dksJ7_add_0 7 rfl rfl)
theorem dJ7_add_10 : decode cJ7_add 10 = .ok (.aload_n 0, 1) := dk_42 (dk_at dksJ7_add_0 10 rfl rfl)
theorem dJ7_add_11 : decode cJ7_add 11 = .ok (.aload_n 1, 1) := dk_43 (dk_at dksJ7_add_0 11 rfl rfl)
theorem dJ7_add_12 : decode cJ7_add 12 = .ok (.aload_n 0, 1) := dk_42 (dk_at dksJ7_add_0 12 rfl rfl)
theorem dJ7_add_13 : decode cJ7_add 13 = .ok (.getfield 9, 3) := dk_180 0 9 (dk_at dksJ7_add_0 13 rfl rfl)
theorem dJ7_add_16 : decode cJ7_add 16 = .ok (.aload_n 0, 1) := dk_42 (dk_at dksJ7_add_0 16 rfl rfl)
theorem dJ7_add_17 : decode cJ7_add 17 = .ok (.getfield 48, 3) := dk_180 0 48 (dk_at dksJ7_add_0 17 rfl rfl)
theorem dJ7_add_20 : decode cJ7_add 20 = .ok (.invokevirtual 131, 3) := dk_182 0 131 (dk_at dksJ7_add_0 20 rfl rfl)
theorem dJ7_add_23 : decode cJ7_add 23 = .ok (.iconst 1, 1) := dk_4 (dk_at dksJ7_add_0 23 rfl rfl)
theorem dJ7_add_24 : decode cJ7_add 24 = .ok (.ireturn, 1) := dk_172 (dk_at dksJ7_add_1 0 rfl rfl)
abbrev cJ7_add_2 : ByteArray := prog_62_method_24_code
def yJ7_add_2 : MethodName := ⟨RJ7, "add", "(Ljava/lang/Object;[Ljava/lang/Object;I)V"⟩
def dkwJ7_add_2_0 : List UInt8 := [29, 44, 190, 160, 0, 8, 42, 182, 0, 129, 77, 44, 29, 43, 83, 42, 29, 4, 96, 181, 0, 48, 177]
abbrev dktJ7_add_2_0 : List UInt8 := dkwJ7_add_2_0 ++ []
theorem dksJ7_add_2_0 : cJ7_add_2.data.toList.drop 0 = dktJ7_add_2_0 := by decide +kernel
theorem dJ7_add_2_0 : decode cJ7_add_2 0 = .ok (.iload_n 3, 1) := dk_29 (dk_at dksJ7_add_2_0 0 rfl rfl)
theorem dJ7_add_2_1 : decode cJ7_add_2 1 = .ok (.aload_n 2, 1) := dk_44 (dk_at dksJ7_add_2_0 1 rfl rfl)
theorem dJ7_add_2_2 : decode cJ7_add_2 2 = .ok (.arraylength, 1) := dk_190 (dk_at dksJ7_add_2_0 2 rfl rfl)
theorem dJ7_add_2_3 : decode cJ7_add_2 3 = .ok (.if_icmp .ne 8, 3) := dk_160 0 8 (dk_at dksJ7_add_2_0 3 rfl rfl)
theorem dJ7_add_2_6 : decode cJ7_add_2 6 = .ok (.aload_n 0, 1) := dk_42 (dk_at dksJ7_add_2_0 6 rfl rfl)
theorem dJ7_add_2_7 : decode cJ7_add_2 7 = .ok (.invokevirtual 129, 3) := dk_182 0 129 (dk_at dksJ7_add_2_0 7 rfl rfl)
theorem dJ7_add_2_10 : decode cJ7_add_2 10 = .ok (.astore_n 2, 1) := dk_77 (dk_at dksJ7_add_2_0 10 rfl rfl)
theorem dJ7_add_2_11 : decode cJ7_add_2 11 = .ok (.aload_n 2, 1) := dk_44 (dk_at dksJ7_add_2_0 11 rfl rfl)
theorem dJ7_add_2_12 : decode cJ7_add_2 12 = .ok (.iload_n 3, 1) := dk_29 (dk_at dksJ7_add_2_0 12 rfl rfl)
theorem dJ7_add_2_13 : decode cJ7_add_2 13 = .ok (.aload_n 1, 1) := dk_43 (dk_at dksJ7_add_2_0 13 rfl rfl)
theorem dJ7_add_2_14 : decode cJ7_add_2 14 = .ok (.aastore, 1) := dk_83 (dk_at dksJ7_add_2_0 14 rfl rfl)
theorem dJ7_add_2_15 : decode cJ7_add_2 15 = .ok (.aload_n 0, 1) := dk_42 (dk_at dksJ7_add_2_0 15 rfl rfl)
theorem dJ7_add_2_16 : decode cJ7_add_2 16 = .ok (.iload_n 3, 1) := dk_29 (dk_at dksJ7_add_2_0 16 rfl rfl)
theorem dJ7_add_2_17 : decode cJ7_add_2 17 = .ok (.iconst 1, 1) := dk_4 (dk_at dksJ7_add_2_0 17 rfl rfl)
theorem dJ7_add_2_18 : decode cJ7_add_2 18 = .ok (.iadd, 1) := dk_96 (dk_at dksJ7_add_2_0 18 rfl rfl)
theorem dJ7_add_2_19 : decode cJ7_add_2 19 = .ok (.putfield 48, 3) := dk_181 0 48 (dk_at dksJ7_add_2_0 19 rfl rfl)
theorem dJ7_add_2_22 : decode cJ7_add_2 22 = .ok (.return_, 1) := dk_177 (dk_at dksJ7_add_2_0 22 rfl rfl)
abbrev cJ7_grow : ByteArray := prog_62_method_7_code
def yJ7_grow : MethodName := ⟨RJ7, "grow", "()[Ljava/lang/Object;"⟩
def dkwJ7_grow_0 : List UInt8 := [42, 42, 180, 0, 48, 4, 96, 182, 0, 69, 176]
abbrev dktJ7_grow_0 : List UInt8 := dkwJ7_grow_0 ++ []
theorem dksJ7_grow_0 : cJ7_grow.data.toList.drop 0 = dktJ7_grow_0 := by decide +kernel
theorem dJ7_grow_0 : decode cJ7_grow 0 = .ok (.aload_n 0, 1) := dk_42 (dk_at dksJ7_grow_0 0 rfl rfl)
theorem dJ7_grow_1 : decode cJ7_grow 1 = .ok (.aload_n 0, 1) := dk_42 (dk_at dksJ7_grow_0 1 rfl rfl)
theorem dJ7_grow_2 : decode cJ7_grow 2 = .ok (.getfield 48, 3) := dk_180 0 48 (dk_at dksJ7_grow_0 2 rfl rfl)
theorem dJ7_grow_5 : decode cJ7_grow 5 = .ok (.iconst 1, 1) := dk_4 (dk_at dksJ7_grow_0 5 rfl rfl)
theorem dJ7_grow_6 : decode cJ7_grow 6 = .ok (.iadd, 1) := dk_96 (dk_at dksJ7_grow_0 6 rfl rfl)
theorem dJ7_grow_7 : decode cJ7_grow 7 = .ok (.invokevirtual 69, 3) := dk_182 0 69 (dk_at dksJ7_grow_0 7 rfl rfl)
theorem dJ7_grow_10 : decode cJ7_grow 10 = .ok (.areturn, 1) := dk_176 (dk_at dksJ7_grow_0 10 rfl rfl)
abbrev cJ7_grow_2 : ByteArray := prog_62_method_6_code
def yJ7_grow_2 : MethodName := ⟨RJ7, "grow", "(I)[Ljava/lang/Object;"⟩
def dkwJ7_grow_2_2 : List UInt8 := [27, 184, 0, 79, 189, 0, 7, 90, 181, 0, 9, 176]
abbrev dktJ7_grow_2_2 : List UInt8 := dkwJ7_grow_2_2 ++ []
def dkwJ7_grow_2_1 : List UInt8 := [28, 4, 122, 184, 0, 73, 62, 42, 42, 180, 0, 9, 29, 184, 0, 66, 90, 181, 0, 9, 176, 42, 16, 10]
abbrev dktJ7_grow_2_1 : List UInt8 := dkwJ7_grow_2_1 ++ dktJ7_grow_2_2
def dkwJ7_grow_2_0 : List UInt8 := [42, 180, 0, 9, 190, 61, 28, 157, 0, 13, 42, 180, 0, 9, 178, 0, 39, 165, 0, 28, 28, 27, 28, 100]
abbrev dktJ7_grow_2_0 : List UInt8 := dkwJ7_grow_2_0 ++ dktJ7_grow_2_1
theorem dksJ7_grow_2_0 : cJ7_grow_2.data.toList.drop 0 = dktJ7_grow_2_0 := by decide +kernel
theorem dksJ7_grow_2_1 : cJ7_grow_2.data.toList.drop 24 = dktJ7_grow_2_1 := dk_seg dksJ7_grow_2_0 24 rfl rfl
theorem dksJ7_grow_2_2 : cJ7_grow_2.data.toList.drop 48 = dktJ7_grow_2_2 := dk_seg dksJ7_grow_2_1 24 rfl rfl
theorem dJ7_grow_2_0 : decode cJ7_grow_2 0 = .ok (.aload_n 0, 1) := dk_42 (dk_at dksJ7_grow_2_0 0 rfl rfl)
theorem dJ7_grow_2_1 : decode cJ7_grow_2 1 = .ok (.getfield 9, 3) := dk_180 0 9 (dk_at dksJ7_grow_2_0 1 rfl rfl)
theorem dJ7_grow_2_4 : decode cJ7_grow_2 4 = .ok (.arraylength, 1) := dk_190 (dk_at dksJ7_grow_2_0 4 rfl rfl)
theorem dJ7_grow_2_5 : decode cJ7_grow_2 5 = .ok (.istore_n 2, 1) := dk_61 (dk_at dksJ7_grow_2_0 5 rfl rfl)
theorem dJ7_grow_2_6 : decode cJ7_grow_2 6 = .ok (.iload_n 2, 1) := dk_28 (dk_at dksJ7_grow_2_0 6 rfl rfl)
theorem dJ7_grow_2_7 : decode cJ7_grow_2 7 = .ok (.ifCond .gt 13, 3) := dk_157 0 13 (dk_at dksJ7_grow_2_0 7 rfl rfl)
theorem dJ7_grow_2_10 : decode cJ7_grow_2 10 = .ok (.aload_n 0, 1) := dk_42 (dk_at dksJ7_grow_2_0 10 rfl rfl)
theorem dJ7_grow_2_11 : decode cJ7_grow_2 11 = .ok (.getfield 9, 3) := dk_180 0 9 (dk_at dksJ7_grow_2_0 11 rfl rfl)
theorem dJ7_grow_2_14 : decode cJ7_grow_2 14 = .ok (.getstatic 39, 3) := dk_178 0 39 (dk_at dksJ7_grow_2_0 14 rfl rfl)
theorem dJ7_grow_2_17 : decode cJ7_grow_2 17 = .ok (.if_acmp .eq 28, 3) := dk_165 0 28 (dk_at dksJ7_grow_2_0 17 rfl rfl)
theorem dJ7_grow_2_20 : decode cJ7_grow_2 20 = .ok (.iload_n 2, 1) := dk_28 (dk_at dksJ7_grow_2_0 20 rfl rfl)
theorem dJ7_grow_2_21 : decode cJ7_grow_2 21 = .ok (.iload_n 1, 1) := dk_27 (dk_at dksJ7_grow_2_0 21 rfl rfl)
theorem dJ7_grow_2_22 : decode cJ7_grow_2 22 = .ok (.iload_n 2, 1) := dk_28 (dk_at dksJ7_grow_2_0 22 rfl rfl)
theorem dJ7_grow_2_23 : decode cJ7_grow_2 23 = .ok (.isub, 1) := dk_100 (dk_at dksJ7_grow_2_0 23 rfl rfl)
theorem dJ7_grow_2_24 : decode cJ7_grow_2 24 = .ok (.iload_n 2, 1) := dk_28 (dk_at dksJ7_grow_2_1 0 rfl rfl)
theorem dJ7_grow_2_25 : decode cJ7_grow_2 25 = .ok (.iconst 1, 1) := dk_4 (dk_at dksJ7_grow_2_1 1 rfl rfl)
theorem dJ7_grow_2_26 : decode cJ7_grow_2 26 = .ok (.ishr, 1) := dk_122 (dk_at dksJ7_grow_2_1 2 rfl rfl)
theorem dJ7_grow_2_27 : decode cJ7_grow_2 27 = .ok (.invokestatic 73, 3) := dk_184 0 73 (dk_at dksJ7_grow_2_1 3 rfl rfl)
theorem dJ7_grow_2_30 : decode cJ7_grow_2 30 = .ok (.istore_n 3, 1) := dk_62 (dk_at dksJ7_grow_2_1 6 rfl rfl)
theorem dJ7_grow_2_31 : decode cJ7_grow_2 31 = .ok (.aload_n 0, 1) := dk_42 (dk_at dksJ7_grow_2_1 7 rfl rfl)
theorem dJ7_grow_2_32 : decode cJ7_grow_2 32 = .ok (.aload_n 0, 1) := dk_42 (dk_at dksJ7_grow_2_1 8 rfl rfl)
theorem dJ7_grow_2_33 : decode cJ7_grow_2 33 = .ok (.getfield 9, 3) := dk_180 0 9 (dk_at dksJ7_grow_2_1 9 rfl rfl)
theorem dJ7_grow_2_36 : decode cJ7_grow_2 36 = .ok (.iload_n 3, 1) := dk_29 (dk_at dksJ7_grow_2_1 12 rfl rfl)
theorem dJ7_grow_2_37 : decode cJ7_grow_2 37 = .ok (.invokestatic 66, 3) := dk_184 0 66 (dk_at dksJ7_grow_2_1 13 rfl rfl)
theorem dJ7_grow_2_40 : decode cJ7_grow_2 40 = .ok (.dup_x1, 1) := dk_90 (dk_at dksJ7_grow_2_1 16 rfl rfl)
theorem dJ7_grow_2_41 : decode cJ7_grow_2 41 = .ok (.putfield 9, 3) := dk_181 0 9 (dk_at dksJ7_grow_2_1 17 rfl rfl)
theorem dJ7_grow_2_44 : decode cJ7_grow_2 44 = .ok (.areturn, 1) := dk_176 (dk_at dksJ7_grow_2_1 20 rfl rfl)
theorem dJ7_grow_2_45 : decode cJ7_grow_2 45 = .ok (.aload_n 0, 1) := dk_42 (dk_at dksJ7_grow_2_1 21 rfl rfl)
theorem dJ7_grow_2_46 : decode cJ7_grow_2 46 = .ok (.bipush 10, 2) := dk_16 10 (dk_at dksJ7_grow_2_1 22 rfl rfl)
theorem dJ7_grow_2_48 : decode cJ7_grow_2 48 = .ok (.iload_n 1, 1) := dk_27 (dk_at dksJ7_grow_2_2 0 rfl rfl)
theorem dJ7_grow_2_49 : decode cJ7_grow_2 49 = .ok (.invokestatic 79, 3) := dk_184 0 79 (dk_at dksJ7_grow_2_2 1 rfl rfl)
theorem dJ7_grow_2_52 : decode cJ7_grow_2 52 = .ok (.anewarray 7, 3) := dk_189 0 7 (dk_at dksJ7_grow_2_2 4 rfl rfl)
theorem dJ7_grow_2_55 : decode cJ7_grow_2 55 = .ok (.dup_x1, 1) := dk_90 (dk_at dksJ7_grow_2_2 7 rfl rfl)
theorem dJ7_grow_2_56 : decode cJ7_grow_2 56 = .ok (.putfield 9, 3) := dk_181 0 9 (dk_at dksJ7_grow_2_2 8 rfl rfl)
theorem dJ7_grow_2_59 : decode cJ7_grow_2 59 = .ok (.areturn, 1) := dk_176 (dk_at dksJ7_grow_2_2 11 rfl rfl)
abbrev cJ7_remove : ByteArray := prog_62_method_29_code
def yJ7_remove : MethodName := ⟨RJ7, "remove", "(I)Ljava/lang/Object;"⟩
def dkwJ7_remove_1 : List UInt8 := [45, 176]
abbrev dktJ7_remove_1 : List UInt8 := dkwJ7_remove_1 ++ []
def dkwJ7_remove_0 : List UInt8 := [27, 42, 180, 0, 48, 184, 0, 118, 87, 42, 180, 0, 9, 77, 44, 27, 50, 78, 42, 44, 27, 182, 0, 144]
abbrev dktJ7_remove_0 : List UInt8 := dkwJ7_remove_0 ++ dktJ7_remove_1
theorem dksJ7_remove_0 : cJ7_remove.data.toList.drop 0 = dktJ7_remove_0 := by decide +kernel
theorem dksJ7_remove_1 : cJ7_remove.data.toList.drop 24 = dktJ7_remove_1 := dk_seg dksJ7_remove_0 24 rfl rfl
theorem dJ7_remove_0 : decode cJ7_remove 0 = .ok (.iload_n 1, 1) := dk_27 (dk_at dksJ7_remove_0 0 rfl rfl)
theorem dJ7_remove_1 : decode cJ7_remove 1 = .ok (.aload_n 0, 1) := dk_42 (dk_at dksJ7_remove_0 1 rfl rfl)
theorem dJ7_remove_2 : decode cJ7_remove 2 = .ok (.getfield 48, 3) := dk_180 0 48 (dk_at dksJ7_remove_0 2 rfl rfl)
theorem dJ7_remove_5 : decode cJ7_remove 5 = .ok (.invokestatic 118, 3) := dk_184 0 118 (dk_at dksJ7_remove_0 5 rfl rfl)
theorem dJ7_remove_8 : decode cJ7_remove 8 = .ok (.pop, 1) := dk_87 (dk_at dksJ7_remove_0 8 rfl rfl)
theorem dJ7_remove_9 : decode cJ7_remove 9 = .ok (.aload_n 0, 1) := dk_42 (dk_at dksJ7_remove_0 9 rfl rfl)
theorem dJ7_remove_10 : decode cJ7_remove 10 = .ok (.getfield 9, 3) := dk_180 0 9 (dk_at dksJ7_remove_0 10 rfl rfl)
theorem dJ7_remove_13 : decode cJ7_remove 13 = .ok (.astore_n 2, 1) := dk_77 (dk_at dksJ7_remove_0 13 rfl rfl)
theorem dJ7_remove_14 : decode cJ7_remove 14 = .ok (.aload_n 2, 1) := dk_44 (dk_at dksJ7_remove_0 14 rfl rfl)
theorem dJ7_remove_15 : decode cJ7_remove 15 = .ok (.iload_n 1, 1) := dk_27 (dk_at dksJ7_remove_0 15 rfl rfl)
theorem dJ7_remove_16 : decode cJ7_remove 16 = .ok (.aaload, 1) := dk_50 (dk_at dksJ7_remove_0 16 rfl rfl)
theorem dJ7_remove_17 : decode cJ7_remove 17 = .ok (.astore_n 3, 1) := dk_78 (dk_at dksJ7_remove_0 17 rfl rfl)
theorem dJ7_remove_18 : decode cJ7_remove 18 = .ok (.aload_n 0, 1) := dk_42 (dk_at dksJ7_remove_0 18 rfl rfl)
theorem dJ7_remove_19 : decode cJ7_remove 19 = .ok (.aload_n 2, 1) := dk_44 (dk_at dksJ7_remove_0 19 rfl rfl)
theorem dJ7_remove_20 : decode cJ7_remove 20 = .ok (.iload_n 1, 1) := dk_27 (dk_at dksJ7_remove_0 20 rfl rfl)
theorem dJ7_remove_21 : decode cJ7_remove 21 = .ok (.invokevirtual 144, 3) := dk_182 0 144 (dk_at dksJ7_remove_0 21 rfl rfl)
theorem dJ7_remove_24 : decode cJ7_remove 24 = .ok (.aload_n 3, 1) := dk_45 (dk_at dksJ7_remove_1 0 rfl rfl)
theorem dJ7_remove_25 : decode cJ7_remove 25 = .ok (.areturn, 1) := dk_176 (dk_at dksJ7_remove_1 1 rfl rfl)
abbrev cJ7_fastRemove : ByteArray := prog_62_method_39_code
def yJ7_fastRemove : MethodName := ⟨RJ7, "fastRemove", "([Ljava/lang/Object;I)V"⟩
def dkwJ7_fastRemove_1 : List UInt8 := [4, 96, 43, 28, 29, 28, 100, 184, 0, 112, 43, 42, 29, 90, 181, 0, 48, 1, 83, 177]
abbrev dktJ7_fastRemove_1 : List UInt8 := dkwJ7_fastRemove_1 ++ []
def dkwJ7_fastRemove_0 : List UInt8 := [42, 89, 180, 0, 63, 4, 96, 181, 0, 63, 42, 180, 0, 48, 4, 100, 89, 62, 28, 164, 0, 15, 43, 28]
abbrev dktJ7_fastRemove_0 : List UInt8 := dkwJ7_fastRemove_0 ++ dktJ7_fastRemove_1
theorem dksJ7_fastRemove_0 : cJ7_fastRemove.data.toList.drop 0 = dktJ7_fastRemove_0 := by decide +kernel
theorem dksJ7_fastRemove_1 : cJ7_fastRemove.data.toList.drop 24 = dktJ7_fastRemove_1 := dk_seg dksJ7_fastRemove_0 24 rfl rfl
theorem dJ7_fastRemove_0 : decode cJ7_fastRemove 0 = .ok (.aload_n 0, 1) := dk_42 (dk_at dksJ7_fastRemove_0 0 rfl rfl)
theorem dJ7_fastRemove_1 : decode cJ7_fastRemove 1 = .ok (.dup, 1) := dk_89 (dk_at dksJ7_fastRemove_0 1 rfl rfl)
theorem dJ7_fastRemove_2 : decode cJ7_fastRemove 2 = .ok (.getfield 63, 3) := dk_180 0 63 (dk_at dksJ7_fastRemove_0 2 rfl rfl)
theorem dJ7_fastRemove_5 : decode cJ7_fastRemove 5 = .ok (.iconst 1, 1) := dk_4 (dk_at dksJ7_fastRemove_0 5 rfl rfl)
theorem dJ7_fastRemove_6 : decode cJ7_fastRemove 6 = .ok (.iadd, 1) := dk_96 (dk_at dksJ7_fastRemove_0 6 rfl rfl)
theorem dJ7_fastRemove_7 : decode cJ7_fastRemove 7 = .ok (.putfield 63, 3) := dk_181 0 63 (dk_at dksJ7_fastRemove_0 7 rfl rfl)
theorem dJ7_fastRemove_10 : decode cJ7_fastRemove 10 = .ok (.aload_n 0, 1) := dk_42 (dk_at dksJ7_fastRemove_0 10 rfl rfl)
theorem dJ7_fastRemove_11 : decode cJ7_fastRemove 11 = .ok (.getfield 48, 3) := dk_180 0 48 (dk_at dksJ7_fastRemove_0 11 rfl rfl)
theorem dJ7_fastRemove_14 : decode cJ7_fastRemove 14 = .ok (.iconst 1, 1) := dk_4 (dk_at dksJ7_fastRemove_0 14 rfl rfl)
theorem dJ7_fastRemove_15 : decode cJ7_fastRemove 15 = .ok (.isub, 1) := dk_100 (dk_at dksJ7_fastRemove_0 15 rfl rfl)
theorem dJ7_fastRemove_16 : decode cJ7_fastRemove 16 = .ok (.dup, 1) := dk_89 (dk_at dksJ7_fastRemove_0 16 rfl rfl)
theorem dJ7_fastRemove_17 : decode cJ7_fastRemove 17 = .ok (.istore_n 3, 1) := dk_62 (dk_at dksJ7_fastRemove_0 17 rfl rfl)
theorem dJ7_fastRemove_18 : decode cJ7_fastRemove 18 = .ok (.iload_n 2, 1) := dk_28 (dk_at dksJ7_fastRemove_0 18 rfl rfl)
theorem dJ7_fastRemove_19 : decode cJ7_fastRemove 19 = .ok (.if_icmp .le 15, 3) := dk_164 0 15 (dk_at dksJ7_fastRemove_0 19 rfl rfl)
theorem dJ7_fastRemove_22 : decode cJ7_fastRemove 22 = .ok (.aload_n 1, 1) := dk_43 (dk_at dksJ7_fastRemove_0 22 rfl rfl)
theorem dJ7_fastRemove_23 : decode cJ7_fastRemove 23 = .ok (.iload_n 2, 1) := dk_28 (dk_at dksJ7_fastRemove_0 23 rfl rfl)
theorem dJ7_fastRemove_24 : decode cJ7_fastRemove 24 = .ok (.iconst 1, 1) := dk_4 (dk_at dksJ7_fastRemove_1 0 rfl rfl)
theorem dJ7_fastRemove_25 : decode cJ7_fastRemove 25 = .ok (.iadd, 1) := dk_96 (dk_at dksJ7_fastRemove_1 1 rfl rfl)
theorem dJ7_fastRemove_26 : decode cJ7_fastRemove 26 = .ok (.aload_n 1, 1) := dk_43 (dk_at dksJ7_fastRemove_1 2 rfl rfl)
theorem dJ7_fastRemove_27 : decode cJ7_fastRemove 27 = .ok (.iload_n 2, 1) := dk_28 (dk_at dksJ7_fastRemove_1 3 rfl rfl)
theorem dJ7_fastRemove_28 : decode cJ7_fastRemove 28 = .ok (.iload_n 3, 1) := dk_29 (dk_at dksJ7_fastRemove_1 4 rfl rfl)
theorem dJ7_fastRemove_29 : decode cJ7_fastRemove 29 = .ok (.iload_n 2, 1) := dk_28 (dk_at dksJ7_fastRemove_1 5 rfl rfl)
theorem dJ7_fastRemove_30 : decode cJ7_fastRemove 30 = .ok (.isub, 1) := dk_100 (dk_at dksJ7_fastRemove_1 6 rfl rfl)
theorem dJ7_fastRemove_31 : decode cJ7_fastRemove 31 = .ok (.invokestatic 112, 3) := dk_184 0 112 (dk_at dksJ7_fastRemove_1 7 rfl rfl)
theorem dJ7_fastRemove_34 : decode cJ7_fastRemove 34 = .ok (.aload_n 1, 1) := dk_43 (dk_at dksJ7_fastRemove_1 10 rfl rfl)
theorem dJ7_fastRemove_35 : decode cJ7_fastRemove 35 = .ok (.aload_n 0, 1) := dk_42 (dk_at dksJ7_fastRemove_1 11 rfl rfl)
theorem dJ7_fastRemove_36 : decode cJ7_fastRemove 36 = .ok (.iload_n 3, 1) := dk_29 (dk_at dksJ7_fastRemove_1 12 rfl rfl)
theorem dJ7_fastRemove_37 : decode cJ7_fastRemove 37 = .ok (.dup_x1, 1) := dk_90 (dk_at dksJ7_fastRemove_1 13 rfl rfl)
theorem dJ7_fastRemove_38 : decode cJ7_fastRemove 38 = .ok (.putfield 48, 3) := dk_181 0 48 (dk_at dksJ7_fastRemove_1 14 rfl rfl)
theorem dJ7_fastRemove_41 : decode cJ7_fastRemove 41 = .ok (.aconst_null, 1) := dk_1 (dk_at dksJ7_fastRemove_1 17 rfl rfl)
theorem dJ7_fastRemove_42 : decode cJ7_fastRemove 42 = .ok (.aastore, 1) := dk_83 (dk_at dksJ7_fastRemove_1 18 rfl rfl)
theorem dJ7_fastRemove_43 : decode cJ7_fastRemove 43 = .ok (.return_, 1) := dk_177 (dk_at dksJ7_fastRemove_1 19 rfl rfl)
theorem q130 : (Jvm.Cond.initialized "java/util/ArrayList") ∈ lw_all := lw_g (lw_at lw_m1 11 rfl) rfl
theorem q262 : (Jvm.Cond.instantiable "java/util/ArrayList" (3 : Nat)) ∈ lw_all := lw_g (lw_at lw_m1 143 rfl) rfl
theorem q264 : (Jvm.Cond.instanceMethod ({ cls := "java/util/ArrayList", name := "<init>", desc := "(I)V" } : Jvm.MethodName)) ∈ lw_all := lw_g (lw_at lw_m1 145 rfl) rfl
theorem q265 : (Jvm.Cond.code ({ cls := "java/util/ArrayList", name := "<init>", desc := "(I)V" } : Jvm.MethodName) prog_62_method_1_code (2 : Nat) (Option.none : Option Jvm.ClassFile.FieldType)) ∈ lw_all := lw_g (lw_at lw_m1 146 rfl) rfl
theorem q266 : (Jvm.Cond.methodLink "java/util/ArrayList" (1 : Nat) ({ cls := "java/util/AbstractList", name := "<init>", desc := "()V" } : Jvm.MethodName)) ∈ lw_all := lw_g (lw_at lw_m1 147 rfl) rfl
theorem q270 : (Jvm.Cond.classLink "java/util/ArrayList" (7 : Nat) "java/lang/Object") ∈ lw_all := lw_g (lw_at lw_m1 151 rfl) rfl
theorem q272 : (Jvm.Cond.fieldLink "java/util/ArrayList" (15 : Nat) "java/util/ArrayList" "EMPTY_ELEMENTDATA" "[Ljava/lang/Object;") ∈ lw_all := lw_g (lw_at lw_m1 153 rfl) rfl
theorem q273 : (Jvm.Cond.laysStatic "java/util/ArrayList" "EMPTY_ELEMENTDATA" "[Ljava/lang/Object;") ∈ lw_tbl := lw_at lw_m1 154 rfl
theorem q274 : (Jvm.Cond.classLink "java/util/ArrayList" (18 : Nat) "java/lang/IllegalArgumentException") ∈ lw_all := lw_g (lw_at lw_m1 155 rfl) rfl
theorem q323 : (Jvm.Cond.classLink "java/util/ArrayList" (20 : Nat) "java/lang/StringBuilder") ∈ lw_all := lw_g (lw_at lw_m1 204 rfl) rfl
theorem q325 : (Jvm.Cond.methodLink "java/util/ArrayList" (22 : Nat) ({ cls := "java/lang/StringBuilder", name := "<init>", desc := "()V" } : Jvm.MethodName)) ∈ lw_all := lw_g (lw_at lw_m1 206 rfl) rfl
theorem q356 : (Jvm.Cond.stringRef "java/util/ArrayList" (23 : Nat) "Illegal Capacity: ") ∈ lw_tbl := lw_at lw_m1 237 rfl
theorem q357 : (Jvm.Cond.methodLink "java/util/ArrayList" (25 : Nat) ({ cls := "java/lang/StringBuilder", name := "append", desc := "(Ljava/lang/String;)Ljava/lang/StringBuilder;" } : Jvm.MethodName)) ∈ lw_all := lw_g (lw_at lw_m1 238 rfl) rfl
theorem q477 : (Jvm.Cond.methodLink "java/util/ArrayList" (29 : Nat) ({ cls := "java/lang/StringBuilder", name := "append", desc := "(I)Ljava/lang/StringBuilder;" } : Jvm.MethodName)) ∈ lw_all := lw_g (lw_at lw_m2 118 rfl) rfl
theorem q502 : (Jvm.Cond.methodLink "java/util/ArrayList" (32 : Nat) ({ cls := "java/lang/StringBuilder", name := "toString", desc := "()Ljava/lang/String;" } : Jvm.MethodName)) ∈ lw_all := lw_g (lw_at lw_m2 143 rfl) rfl
theorem q594 : (Jvm.Cond.methodLink "java/util/ArrayList" (36 : Nat) ({ cls := "java/lang/IllegalArgumentException", name := "<init>", desc := "(Ljava/lang/String;)V" } : Jvm.MethodName)) ∈ lw_all := lw_g (lw_at lw_m2 235 rfl) rfl
theorem q595 : (Jvm.Cond.fieldLink "java/util/ArrayList" (9 : Nat) "java/util/ArrayList" "elementData" "[Ljava/lang/Object;") ∈ lw_all := lw_g (lw_at lw_m2 236 rfl) rfl
theorem q598 : (Jvm.Cond.fieldLink "java/util/ArrayList" (48 : Nat) "java/util/ArrayList" "size" "I") ∈ lw_all := lw_g (lw_at lw_m2 239 rfl) rfl
theorem q603 : (Jvm.Cond.sameField "java/util/ArrayList" "java/util/AbstractList" "modCount" "I") ∈ lw_all := lw_g (lw_at lw_m3 4 rfl) rfl
theorem q606 : (Jvm.Cond.fieldLink "java/util/ArrayList" (63 : Nat) "java/util/ArrayList" "modCount" "I") ∈ lw_all := lw_g (lw_at lw_m3 7 rfl) rfl
theorem q607 : (Jvm.Cond.lays "java/util/ArrayList" "java/util/ArrayList" "elementData" "[Ljava/lang/Object;") ∈ lw_all := lw_g (lw_at lw_m3 8 rfl) rfl
theorem q608 : (Jvm.Cond.soleField "java/util/ArrayList" "elementData") ∈ lw_all := lw_g (lw_at lw_m3 9 rfl) rfl
theorem q609 : (Jvm.Cond.lays "java/util/ArrayList" "java/util/ArrayList" "size" "I") ∈ lw_all := lw_g (lw_at lw_m3 10 rfl) rfl
theorem q610 : (Jvm.Cond.soleField "java/util/ArrayList" "size") ∈ lw_all := lw_g (lw_at lw_m3 11 rfl) rfl
theorem q611 : (Jvm.Cond.lays "java/util/ArrayList" "java/util/AbstractList" "modCount" "I") ∈ lw_all := lw_g (lw_at lw_m3 12 rfl) rfl
theorem q613 : (Jvm.Cond.superclass "java/util/ArrayList" "java/util/AbstractList") ∈ lw_all := lw_g (lw_at lw_m3 14 rfl) rfl
theorem q790 : (Jvm.Cond.castable "java/util/ArrayList" "java/util/List") ∈ lw_tbl := lw_at lw_m3 191 rfl
theorem q791 : (Jvm.Cond.selects "java/util/ArrayList" ({ cls := "java/util/List", name := "get", desc := "(I)Ljava/lang/Object;" } : Jvm.MethodName) ({ cls := "java/util/ArrayList", name := "get", desc := "(I)Ljava/lang/Object;" } : Jvm.MethodName)) ∈ lw_all := lw_g (lw_at lw_m3 192 rfl) rfl
theorem q792 : (Jvm.Cond.unhidden "java/util/ArrayList" "get" "(I)Ljava/lang/Object;") ∈ lw_tbl := lw_at lw_m3 193 rfl
theorem q793 : (Jvm.Cond.instanceMethod ({ cls := "java/util/ArrayList", name := "get", desc := "(I)Ljava/lang/Object;" } : Jvm.MethodName)) ∈ lw_all := lw_g (lw_at lw_m3 194 rfl) rfl
theorem q794 : (Jvm.Cond.publicMethod ({ cls := "java/util/ArrayList", name := "get", desc := "(I)Ljava/lang/Object;" } : Jvm.MethodName)) ∈ lw_tbl := lw_at lw_m3 195 rfl
theorem q795 : (Jvm.Cond.code ({ cls := "java/util/ArrayList", name := "get", desc := "(I)Ljava/lang/Object;" } : Jvm.MethodName) prog_62_method_20_code (2 : Nat) (Option.some (Jvm.ClassFile.FieldType.object "java/lang/Object"))) ∈ lw_all := lw_g (lw_at lw_m3 196 rfl) rfl
theorem q796 : (Jvm.Cond.methodLink "java/util/ArrayList" (118 : Nat) ({ cls := "java/util/Objects", name := "checkIndex", desc := "(II)I" } : Jvm.MethodName)) ∈ lw_all := lw_g (lw_at lw_m3 197 rfl) rfl
theorem q802 : (Jvm.Cond.methodLink "java/util/ArrayList" (123 : Nat) ({ cls := "java/util/ArrayList", name := "elementData", desc := "(I)Ljava/lang/Object;" } : Jvm.MethodName)) ∈ lw_all := lw_g (lw_at lw_m3 203 rfl) rfl
theorem q803 : (Jvm.Cond.instanceMethod ({ cls := "java/util/ArrayList", name := "elementData", desc := "(I)Ljava/lang/Object;" } : Jvm.MethodName)) ∈ lw_all := lw_g (lw_at lw_m3 204 rfl) rfl
theorem q804 : (Jvm.Cond.selects "java/util/ArrayList" ({ cls := "java/util/ArrayList", name := "elementData", desc := "(I)Ljava/lang/Object;" } : Jvm.MethodName) ({ cls := "java/util/ArrayList", name := "elementData", desc := "(I)Ljava/lang/Object;" } : Jvm.MethodName)) ∈ lw_all := lw_g (lw_at lw_m3 205 rfl) rfl
theorem q805 : (Jvm.Cond.code ({ cls := "java/util/ArrayList", name := "elementData", desc := "(I)Ljava/lang/Object;" } : Jvm.MethodName) prog_62_method_18_code (2 : Nat) (Option.some (Jvm.ClassFile.FieldType.object "java/lang/Object"))) ∈ lw_all := lw_g (lw_at lw_m3 206 rfl) rfl
theorem q904 : (Jvm.Cond.selects "java/util/ArrayList" ({ cls := "java/util/AbstractList", name := "listIterator", desc := "(I)Ljava/util/ListIterator;" } : Jvm.MethodName) ({ cls := "java/util/ArrayList", name := "listIterator", desc := "(I)Ljava/util/ListIterator;" } : Jvm.MethodName)) ∈ lw_all := lw_g (lw_at lw_m4 65 rfl) rfl
theorem q905 : (Jvm.Cond.instanceMethod ({ cls := "java/util/ArrayList", name := "listIterator", desc := "(I)Ljava/util/ListIterator;" } : Jvm.MethodName)) ∈ lw_all := lw_g (lw_at lw_m4 66 rfl) rfl
theorem q906 : (Jvm.Cond.code ({ cls := "java/util/ArrayList", name := "listIterator", desc := "(I)Ljava/util/ListIterator;" } : Jvm.MethodName) prog_62_method_53_code (2 : Nat) (Option.some (Jvm.ClassFile.FieldType.object "java/util/ListIterator"))) ∈ lw_all := lw_g (lw_at lw_m4 67 rfl) rfl
theorem q907 : (Jvm.Cond.methodLink "java/util/ArrayList" (135 : Nat) ({ cls := "java/util/ArrayList", name := "rangeCheckForAdd", desc := "(I)V" } : Jvm.MethodName)) ∈ lw_all := lw_g (lw_at lw_m4 68 rfl) rfl
theorem q908 : (Jvm.Cond.privateMethod ({ cls := "java/util/ArrayList", name := "rangeCheckForAdd", desc := "(I)V" } : Jvm.MethodName)) ∈ lw_tbl := lw_at lw_m4 69 rfl
theorem q909 : (Jvm.Cond.instanceMethod ({ cls := "java/util/ArrayList", name := "rangeCheckForAdd", desc := "(I)V" } : Jvm.MethodName)) ∈ lw_all := lw_g (lw_at lw_m4 70 rfl) rfl
theorem q910 : (Jvm.Cond.code ({ cls := "java/util/ArrayList", name := "rangeCheckForAdd", desc := "(I)V" } : Jvm.MethodName) prog_62_method_45_code (2 : Nat) (Option.none : Option Jvm.ClassFile.FieldType)) ∈ lw_all := lw_g (lw_at lw_m4 71 rfl) rfl
theorem q911 : (Jvm.Cond.classLink "java/util/ArrayList" (187 : Nat) "java/lang/IndexOutOfBoundsException") ∈ lw_all := lw_g (lw_at lw_m4 72 rfl) rfl
theorem q912 : (Jvm.Cond.methodLink "java/util/ArrayList" (198 : Nat) ({ cls := "java/util/ArrayList", name := "outOfBoundsMsg", desc := "(I)Ljava/lang/String;" } : Jvm.MethodName)) ∈ lw_all := lw_g (lw_at lw_m4 73 rfl) rfl
theorem q913 : (Jvm.Cond.privateMethod ({ cls := "java/util/ArrayList", name := "outOfBoundsMsg", desc := "(I)Ljava/lang/String;" } : Jvm.MethodName)) ∈ lw_tbl := lw_at lw_m4 74 rfl
theorem q914 : (Jvm.Cond.instanceMethod ({ cls := "java/util/ArrayList", name := "outOfBoundsMsg", desc := "(I)Ljava/lang/String;" } : Jvm.MethodName)) ∈ lw_all := lw_g (lw_at lw_m4 75 rfl) rfl
theorem q915 : (Jvm.Cond.code ({ cls := "java/util/ArrayList", name := "outOfBoundsMsg", desc := "(I)Ljava/lang/String;" } : Jvm.MethodName) prog_62_method_46_code (2 : Nat) (Option.some (Jvm.ClassFile.FieldType.object "java/lang/String"))) ∈ lw_all := lw_g (lw_at lw_m4 76 rfl) rfl
theorem q916 : (Jvm.Cond.stringRef "java/util/ArrayList" (201 : Nat) "Index: ") ∈ lw_tbl := lw_at lw_m4 77 rfl
theorem q917 : (Jvm.Cond.stringRef "java/util/ArrayList" (203 : Nat) ", Size: ") ∈ lw_tbl := lw_at lw_m4 78 rfl
theorem q918 : (Jvm.Cond.methodLink "java/util/ArrayList" (193 : Nat) ({ cls := "java/lang/IndexOutOfBoundsException", name := "<init>", desc := "(Ljava/lang/String;)V" } : Jvm.MethodName)) ∈ lw_all := lw_g (lw_at lw_m4 79 rfl) rfl
theorem q919 : (Jvm.Cond.classLink "java/util/ArrayList" (262 : Nat) "java/util/ArrayList$ListItr") ∈ lw_all := lw_g (lw_at lw_m4 80 rfl) rfl
theorem q921 : (Jvm.Cond.methodLink "java/util/ArrayList" (264 : Nat) ({ cls := "java/util/ArrayList$ListItr", name := "<init>", desc := "(Ljava/util/ArrayList;I)V" } : Jvm.MethodName)) ∈ lw_all := lw_g (lw_at lw_m4 82 rfl) rfl
theorem q993 : (Jvm.Cond.selects "java/util/ArrayList" ({ cls := "java/util/AbstractList", name := "size", desc := "()I" } : Jvm.MethodName) ({ cls := "java/util/ArrayList", name := "size", desc := "()I" } : Jvm.MethodName)) ∈ lw_all := lw_g (lw_at lw_m4 154 rfl) rfl
theorem q994 : (Jvm.Cond.instanceMethod ({ cls := "java/util/ArrayList", name := "size", desc := "()I" } : Jvm.MethodName)) ∈ lw_all := lw_g (lw_at lw_m4 155 rfl) rfl
theorem q995 : (Jvm.Cond.code ({ cls := "java/util/ArrayList", name := "size", desc := "()I" } : Jvm.MethodName) prog_62_method_8_code (1 : Nat) (Option.some Jvm.ClassFile.FieldType.int)) ∈ lw_all := lw_g (lw_at lw_m4 156 rfl) rfl
theorem q1036 : (Jvm.Cond.selects "java/util/ArrayList" ({ cls := "java/util/AbstractList", name := "get", desc := "(I)Ljava/lang/Object;" } : Jvm.MethodName) ({ cls := "java/util/ArrayList", name := "get", desc := "(I)Ljava/lang/Object;" } : Jvm.MethodName)) ∈ lw_all := lw_g (lw_at lw_m4 197 rfl) rfl
theorem q1109 : (Jvm.Cond.selects "java/util/ArrayList" ({ cls := "java/lang/Object", name := "getClass", desc := "()Ljava/lang/Class;" } : Jvm.MethodName) ({ cls := "java/lang/Object", name := "getClass", desc := "()Ljava/lang/Class;" } : Jvm.MethodName)) ∈ lw_all := lw_g (lw_at lw_m5 30 rfl) rfl
theorem q1531 : (Jvm.Cond.instanceMethod ({ cls := "java/util/ArrayList", name := "add", desc := "(Ljava/lang/Object;)Z" } : Jvm.MethodName)) ∈ lw_all := lw_g (lw_at lw_m6 212 rfl) rfl
theorem q1532 : (Jvm.Cond.selects "java/util/ArrayList" ({ cls := "java/util/ArrayList", name := "add", desc := "(Ljava/lang/Object;)Z" } : Jvm.MethodName) ({ cls := "java/util/ArrayList", name := "add", desc := "(Ljava/lang/Object;)Z" } : Jvm.MethodName)) ∈ lw_all := lw_g (lw_at lw_m6 213 rfl) rfl
theorem q1533 : (Jvm.Cond.code ({ cls := "java/util/ArrayList", name := "add", desc := "(Ljava/lang/Object;)Z" } : Jvm.MethodName) prog_62_method_25_code (2 : Nat) (Option.some Jvm.ClassFile.FieldType.boolean)) ∈ lw_all := lw_g (lw_at lw_m6 214 rfl) rfl
theorem q1534 : (Jvm.Cond.methodLink "java/util/ArrayList" (131 : Nat) ({ cls := "java/util/ArrayList", name := "add", desc := "(Ljava/lang/Object;[Ljava/lang/Object;I)V" } : Jvm.MethodName)) ∈ lw_all := lw_g (lw_at lw_m6 215 rfl) rfl
theorem q1535 : (Jvm.Cond.privateMethod ({ cls := "java/util/ArrayList", name := "add", desc := "(Ljava/lang/Object;[Ljava/lang/Object;I)V" } : Jvm.MethodName)) ∈ lw_tbl := lw_at lw_m6 216 rfl
theorem q1536 : (Jvm.Cond.instanceMethod ({ cls := "java/util/ArrayList", name := "add", desc := "(Ljava/lang/Object;[Ljava/lang/Object;I)V" } : Jvm.MethodName)) ∈ lw_all := lw_g (lw_at lw_m6 217 rfl) rfl
theorem q1537 : (Jvm.Cond.code ({ cls := "java/util/ArrayList", name := "add", desc := "(Ljava/lang/Object;[Ljava/lang/Object;I)V" } : Jvm.MethodName) prog_62_method_24_code (4 : Nat) (Option.none : Option Jvm.ClassFile.FieldType)) ∈ lw_all := lw_g (lw_at lw_m6 218 rfl) rfl
theorem q1538 : (Jvm.Cond.methodLink "java/util/ArrayList" (129 : Nat) ({ cls := "java/util/ArrayList", name := "grow", desc := "()[Ljava/lang/Object;" } : Jvm.MethodName)) ∈ lw_all := lw_g (lw_at lw_m6 219 rfl) rfl
theorem q1539 : (Jvm.Cond.privateMethod ({ cls := "java/util/ArrayList", name := "grow", desc := "()[Ljava/lang/Object;" } : Jvm.MethodName)) ∈ lw_tbl := lw_at lw_m6 220 rfl
theorem q1540 : (Jvm.Cond.instanceMethod ({ cls := "java/util/ArrayList", name := "grow", desc := "()[Ljava/lang/Object;" } : Jvm.MethodName)) ∈ lw_all := lw_g (lw_at lw_m6 221 rfl) rfl
theorem q1541 : (Jvm.Cond.code ({ cls := "java/util/ArrayList", name := "grow", desc := "()[Ljava/lang/Object;" } : Jvm.MethodName) prog_62_method_7_code (1 : Nat) (Option.some (Jvm.ClassFile.FieldType.array (Jvm.ClassFile.FieldType.object "java/lang/Object")))) ∈ lw_all := lw_g (lw_at lw_m6 222 rfl) rfl
theorem q1542 : (Jvm.Cond.methodLink "java/util/ArrayList" (69 : Nat) ({ cls := "java/util/ArrayList", name := "grow", desc := "(I)[Ljava/lang/Object;" } : Jvm.MethodName)) ∈ lw_all := lw_g (lw_at lw_m6 223 rfl) rfl
theorem q1543 : (Jvm.Cond.privateMethod ({ cls := "java/util/ArrayList", name := "grow", desc := "(I)[Ljava/lang/Object;" } : Jvm.MethodName)) ∈ lw_tbl := lw_at lw_m6 224 rfl
theorem q1544 : (Jvm.Cond.instanceMethod ({ cls := "java/util/ArrayList", name := "grow", desc := "(I)[Ljava/lang/Object;" } : Jvm.MethodName)) ∈ lw_all := lw_g (lw_at lw_m6 225 rfl) rfl
theorem q1545 : (Jvm.Cond.code ({ cls := "java/util/ArrayList", name := "grow", desc := "(I)[Ljava/lang/Object;" } : Jvm.MethodName) prog_62_method_6_code (4 : Nat) (Option.some (Jvm.ClassFile.FieldType.array (Jvm.ClassFile.FieldType.object "java/lang/Object")))) ∈ lw_all := lw_g (lw_at lw_m6 226 rfl) rfl
theorem q1546 : (Jvm.Cond.fieldLink "java/util/ArrayList" (39 : Nat) "java/util/ArrayList" "DEFAULTCAPACITY_EMPTY_ELEMENTDATA" "[Ljava/lang/Object;") ∈ lw_all := lw_g (lw_at lw_m6 227 rfl) rfl
theorem q1547 : (Jvm.Cond.laysStatic "java/util/ArrayList" "DEFAULTCAPACITY_EMPTY_ELEMENTDATA" "[Ljava/lang/Object;") ∈ lw_tbl := lw_at lw_m6 228 rfl
theorem q1548 : (Jvm.Cond.methodLink "java/util/ArrayList" (73 : Nat) ({ cls := "jdk/internal/util/ArraysSupport", name := "newLength", desc := "(III)I" } : Jvm.MethodName)) ∈ lw_all := lw_g (lw_at lw_m6 229 rfl) rfl
theorem q1549 : (Jvm.Cond.methodLink "java/util/ArrayList" (66 : Nat) ({ cls := "java/util/Arrays", name := "copyOf", desc := "([Ljava/lang/Object;I)[Ljava/lang/Object;" } : Jvm.MethodName)) ∈ lw_all := lw_g (lw_at lw_m6 230 rfl) rfl
theorem q1558 : (Jvm.Cond.methodLink "java/util/ArrayList" (79 : Nat) ({ cls := "java/lang/Math", name := "max", desc := "(II)I" } : Jvm.MethodName)) ∈ lw_all := lw_g (lw_at lw_m6 239 rfl) rfl
theorem q2046 : (Jvm.Cond.selects "java/util/ArrayList" ({ cls := "java/util/AbstractList", name := "remove", desc := "(I)Ljava/lang/Object;" } : Jvm.MethodName) ({ cls := "java/util/ArrayList", name := "remove", desc := "(I)Ljava/lang/Object;" } : Jvm.MethodName)) ∈ lw_all := lw_g (lw_at lw_m9 7 rfl) rfl
theorem q2047 : (Jvm.Cond.instanceMethod ({ cls := "java/util/ArrayList", name := "remove", desc := "(I)Ljava/lang/Object;" } : Jvm.MethodName)) ∈ lw_all := lw_g (lw_at lw_m9 8 rfl) rfl
theorem q2048 : (Jvm.Cond.code ({ cls := "java/util/ArrayList", name := "remove", desc := "(I)Ljava/lang/Object;" } : Jvm.MethodName) prog_62_method_29_code (4 : Nat) (Option.some (Jvm.ClassFile.FieldType.object "java/lang/Object"))) ∈ lw_all := lw_g (lw_at lw_m9 9 rfl) rfl
theorem q2049 : (Jvm.Cond.methodLink "java/util/ArrayList" (144 : Nat) ({ cls := "java/util/ArrayList", name := "fastRemove", desc := "([Ljava/lang/Object;I)V" } : Jvm.MethodName)) ∈ lw_all := lw_g (lw_at lw_m9 10 rfl) rfl
theorem q2050 : (Jvm.Cond.privateMethod ({ cls := "java/util/ArrayList", name := "fastRemove", desc := "([Ljava/lang/Object;I)V" } : Jvm.MethodName)) ∈ lw_tbl := lw_at lw_m9 11 rfl
theorem q2051 : (Jvm.Cond.instanceMethod ({ cls := "java/util/ArrayList", name := "fastRemove", desc := "([Ljava/lang/Object;I)V" } : Jvm.MethodName)) ∈ lw_all := lw_g (lw_at lw_m9 12 rfl) rfl
theorem q2052 : (Jvm.Cond.code ({ cls := "java/util/ArrayList", name := "fastRemove", desc := "([Ljava/lang/Object;I)V" } : Jvm.MethodName) prog_62_method_39_code (4 : Nat) (Option.none : Option Jvm.ClassFile.FieldType)) ∈ lw_all := lw_g (lw_at lw_m9 13 rfl) rfl
theorem q2053 : (Jvm.Cond.methodLink "java/util/ArrayList" (112 : Nat) ({ cls := "java/lang/System", name := "arraycopy", desc := "(Ljava/lang/Object;ILjava/lang/Object;II)V" } : Jvm.MethodName)) ∈ lw_all := lw_g (lw_at lw_m9 14 rfl) rfl
theorem q3509 : (Jvm.Cond.selects "java/util/ArrayList" ({ cls := "java/util/ArrayList", name := "get", desc := "(I)Ljava/lang/Object;" } : Jvm.MethodName) ({ cls := "java/util/ArrayList", name := "get", desc := "(I)Ljava/lang/Object;" } : Jvm.MethodName)) ∈ lw_all := lw_g (lw_at lw_m15 30 rfl) rfl
theorem q3516 : (Jvm.Cond.selects "java/util/ArrayList" ({ cls := "java/util/ArrayList", name := "size", desc := "()I" } : Jvm.MethodName) ({ cls := "java/util/ArrayList", name := "size", desc := "()I" } : Jvm.MethodName)) ∈ lw_all := lw_g (lw_at lw_m15 37 rfl) rfl
theorem q3537 : (Jvm.Cond.selects "java/util/ArrayList" ({ cls := "java/util/ArrayList", name := "remove", desc := "(I)Ljava/lang/Object;" } : Jvm.MethodName) ({ cls := "java/util/ArrayList", name := "remove", desc := "(I)Ljava/lang/Object;" } : Jvm.MethodName)) ∈ lw_all := lw_g (lw_at lw_m15 58 rfl) rfl
theorem q3540 : (Jvm.Cond.selects "java/util/ArrayList" ({ cls := "java/util/AbstractCollection", name := "size", desc := "()I" } : Jvm.MethodName) ({ cls := "java/util/ArrayList", name := "size", desc := "()I" } : Jvm.MethodName)) ∈ lw_all := lw_g (lw_at lw_m15 61 rfl) rfl
theorem q3568 : (Jvm.Cond.castable "java/util/ArrayList" "java/lang/Object") ∈ lw_tbl := lw_at lw_m15 89 rfl
theorem in_J7 : ∀ w ∈ wsJ70, w ∈ lw_all := lw_in wsJ70 [611, 607, 609] (by decide +kernel) (by decide +kernel)
/-! java/lang/Throwable -/
set_option maxRecDepth 100000
def RJ8 : String := "java/lang/Throwable"
def TJ8 : u_T := fun k => match k with
  | 0 => ("java/lang/Throwable", "cause", "Ljava/lang/Throwable;", false)
  | 1 => ("java/lang/Throwable", "stackTrace", "[Ljava/lang/StackTraceElement;", false)
  | 2 => ("java/lang/Throwable", "suppressedExceptions", "Ljava/util/List;", false)
  | 3 => ("java/lang/Throwable", "detailMessage", "Ljava/lang/String;", false)
  | _ => ("java/lang/Throwable", "backtrace", "Ljava/lang/Object;", false)
def tyJ8 : Nat → FieldType := fun k => match k with
  | 0 => .object "java/lang/Throwable"
  | 1 => .array (.object "java/lang/StackTraceElement")
  | 2 => .object "java/util/List"
  | 3 => .object "java/lang/String"
  | _ => .object "java/lang/Object"
abbrev wsJ80 : List Cond := u_ws RJ8 TJ8 5
theorem nmJ8 : ∀ a, a < 5 → ∀ b, b < 5 → a ≠ b → (TJ8 a).2.1 ≠ (TJ8 b).2.1 := by decide +kernel
theorem tyJ8_ok : ∀ k, k < 5 → parseFieldDescriptor (TJ8 k).2.2.1 = some (tyJ8 k) := by decide +kernel
abbrev cJ8_init : ByteArray := prog_52_method_1_code
def yJ8_init : MethodName := ⟨RJ8, "<init>", "()V"⟩
def dkwJ8_init_1 : List UInt8 := [182, 0, 27, 87, 177]
abbrev dktJ8_init_1 : List UInt8 := dkwJ8_init_1 ++ []
def dkwJ8_init_0 : List UInt8 := [42, 183, 0, 1, 42, 42, 181, 0, 7, 42, 178, 0, 13, 181, 0, 17, 42, 178, 0, 20, 181, 0, 24, 42]
abbrev dktJ8_init_0 : List UInt8 := dkwJ8_init_0 ++ dktJ8_init_1
theorem dksJ8_init_0 : cJ8_init.data.toList.drop 0 = dktJ8_init_0 := by decide +kernel
theorem dksJ8_init_1 : cJ8_init.data.toList.drop 24 = dktJ8_init_1 := dk_seg dksJ8_init_0 24 rfl rfl
theorem dJ8_init_0 : decode cJ8_init 0 = .ok (.aload_n 0, 1) := dk_42 (dk_at dksJ8_init_0 0 rfl rfl)
theorem dJ8_init_1 : decode cJ8_init 1 = .ok (.invokespecial 1, 3) := dk_183 0 1 (dk_at dksJ8_init_0 1 rfl rfl)
theorem dJ8_init_4 : decode cJ8_init 4 = .ok (.aload_n 0, 1) := dk_42 (dk_at dksJ8_init_0 4 rfl rfl)
theorem dJ8_init_5 : decode cJ8_init 5 = .ok (.aload_n 0, 1) := dk_42 (dk_at dksJ8_init_0 5 rfl rfl)
theorem dJ8_init_6 : decode cJ8_init 6 = .ok (.putfield 7, 3) := dk_181 0 7 (dk_at dksJ8_init_0 6 rfl rfl)
theorem dJ8_init_9 : decode cJ8_init 9 = .ok (.aload_n 0, 1) := dk_42 (dk_at dksJ8_init_0 9 rfl rfl)
theorem dJ8_init_10 : decode cJ8_init 10 = .ok (.getstatic 13, 3) := dk_178 0 13 (dk_at dksJ8_init_0 10 rfl rfl)
theorem dJ8_init_13 : decode cJ8_init 13 = .ok (.putfield 17, 3) := dk_181 0 17 (dk_at dksJ8_init_0 13 rfl rfl)
theorem dJ8_init_16 : decode cJ8_init 16 = .ok (.aload_n 0, 1) := dk_42 (dk_at dksJ8_init_0 16 rfl rfl)
theorem dJ8_init_17 : decode cJ8_init 17 = .ok (.getstatic 20, 3) := dk_178 0 20 (dk_at dksJ8_init_0 17 rfl rfl)
theorem dJ8_init_20 : decode cJ8_init 20 = .ok (.putfield 24, 3) := dk_181 0 24 (dk_at dksJ8_init_0 20 rfl rfl)
theorem dJ8_init_23 : decode cJ8_init 23 = .ok (.aload_n 0, 1) := dk_42 (dk_at dksJ8_init_0 23 rfl rfl)
theorem dJ8_init_24 : decode cJ8_init 24 = .ok (.invokevirtual 27, 3) := dk_182 0 27 (dk_at dksJ8_init_1 0 rfl rfl)
theorem dJ8_init_27 : decode cJ8_init 27 = .ok (.pop, 1) := dk_87 (dk_at dksJ8_init_1 3 rfl rfl)
theorem dJ8_init_28 : decode cJ8_init 28 = .ok (.return_, 1) := dk_177 (dk_at dksJ8_init_1 4 rfl rfl)
abbrev cJ8_init_2 : ByteArray := prog_52_method_2_code
def yJ8_init_2 : MethodName := ⟨RJ8, "<init>", "(Ljava/lang/String;)V"⟩
def dkwJ8_init_2_1 : List UInt8 := [182, 0, 27, 87, 42, 43, 181, 0, 31, 177]
abbrev dktJ8_init_2_1 : List UInt8 := dkwJ8_init_2_1 ++ []
def dkwJ8_init_2_0 : List UInt8 := [42, 183, 0, 1, 42, 42, 181, 0, 7, 42, 178, 0, 13, 181, 0, 17, 42, 178, 0, 20, 181, 0, 24, 42]
abbrev dktJ8_init_2_0 : List UInt8 := dkwJ8_init_2_0 ++ dktJ8_init_2_1
theorem dksJ8_init_2_0 : cJ8_init_2.data.toList.drop 0 = dktJ8_init_2_0 := by decide +kernel
theorem dksJ8_init_2_1 : cJ8_init_2.data.toList.drop 24 = dktJ8_init_2_1 := dk_seg dksJ8_init_2_0 24 rfl rfl
theorem dJ8_init_2_0 : decode cJ8_init_2 0 = .ok (.aload_n 0, 1) := dk_42 (dk_at dksJ8_init_2_0 0 rfl rfl)
theorem dJ8_init_2_1 : decode cJ8_init_2 1 = .ok (.invokespecial 1, 3) := dk_183 0 1 (dk_at dksJ8_init_2_0 1 rfl rfl)
theorem dJ8_init_2_4 : decode cJ8_init_2 4 = .ok (.aload_n 0, 1) := dk_42 (dk_at dksJ8_init_2_0 4 rfl rfl)
theorem dJ8_init_2_5 : decode cJ8_init_2 5 = .ok (.aload_n 0, 1) := dk_42 (dk_at dksJ8_init_2_0 5 rfl rfl)
theorem dJ8_init_2_6 : decode cJ8_init_2 6 = .ok (.putfield 7, 3) := dk_181 0 7 (dk_at dksJ8_init_2_0 6 rfl rfl)
theorem dJ8_init_2_9 : decode cJ8_init_2 9 = .ok (.aload_n 0, 1) := dk_42 (dk_at dksJ8_init_2_0 9 rfl rfl)
theorem dJ8_init_2_10 : decode cJ8_init_2 10 = .ok (.getstatic 13, 3) := dk_178 0 13 (dk_at dksJ8_init_2_0 10 rfl rfl)
theorem dJ8_init_2_13 : decode cJ8_init_2 13 = .ok (.putfield 17, 3) := dk_181 0 17 (dk_at dksJ8_init_2_0 13 rfl rfl)
theorem dJ8_init_2_16 : decode cJ8_init_2 16 = .ok (.aload_n 0, 1) := dk_42 (dk_at dksJ8_init_2_0 16 rfl rfl)
theorem dJ8_init_2_17 : decode cJ8_init_2 17 = .ok (.getstatic 20, 3) := dk_178 0 20 (dk_at dksJ8_init_2_0 17 rfl rfl)
theorem dJ8_init_2_20 : decode cJ8_init_2 20 = .ok (.putfield 24, 3) := dk_181 0 24 (dk_at dksJ8_init_2_0 20 rfl rfl)
theorem dJ8_init_2_23 : decode cJ8_init_2 23 = .ok (.aload_n 0, 1) := dk_42 (dk_at dksJ8_init_2_0 23 rfl rfl)
theorem dJ8_init_2_24 : decode cJ8_init_2 24 = .ok (.invokevirtual 27, 3) := dk_182 0 27 (dk_at dksJ8_init_2_1 0 rfl rfl)
theorem dJ8_init_2_27 : decode cJ8_init_2 27 = .ok (.pop, 1) := dk_87 (dk_at dksJ8_init_2_1 3 rfl rfl)
theorem dJ8_init_2_28 : decode cJ8_init_2 28 = .ok (.aload_n 0, 1) := dk_42 (dk_at dksJ8_init_2_1 4 rfl rfl)
theorem dJ8_init_2_29 : decode cJ8_init_2 29 = .ok (.aload_n 1, 1) := dk_43 (dk_at dksJ8_init_2_1 5 rfl rfl)
theorem dJ8_init_2_30 : decode cJ8_init_2 30 = .ok (.putfield 31, 3) := dk_181 0 31 (dk_at dksJ8_init_2_1 6 rfl rfl)
theorem dJ8_init_2_33 : decode cJ8_init_2 33 = .ok (.return_, 1) := dk_177 (dk_at dksJ8_init_2_1 9 rfl rfl)
abbrev cJ8_init_3 : ByteArray := prog_52_method_4_code
def yJ8_init_3 : MethodName := ⟨RJ8, "<init>", "(Ljava/lang/Throwable;)V"⟩
def dkwJ8_init_3_2 : List UInt8 := [181, 0, 7, 177]
abbrev dktJ8_init_3_2 : List UInt8 := dkwJ8_init_3_2 ++ []
def dkwJ8_init_3_1 : List UInt8 := [182, 0, 27, 87, 42, 43, 199, 0, 7, 1, 167, 0, 7, 43, 182, 0, 35, 181, 0, 31, 42, 43]
abbrev dktJ8_init_3_1 : List UInt8 := dkwJ8_init_3_1 ++ dktJ8_init_3_2
def dkwJ8_init_3_0 : List UInt8 := [42, 183, 0, 1, 42, 42, 181, 0, 7, 42, 178, 0, 13, 181, 0, 17, 42, 178, 0, 20, 181, 0, 24, 42]
abbrev dktJ8_init_3_0 : List UInt8 := dkwJ8_init_3_0 ++ dktJ8_init_3_1
theorem dksJ8_init_3_0 : cJ8_init_3.data.toList.drop 0 = dktJ8_init_3_0 := by decide +kernel
theorem dksJ8_init_3_1 : cJ8_init_3.data.toList.drop 24 = dktJ8_init_3_1 := dk_seg dksJ8_init_3_0 24 rfl rfl
theorem dksJ8_init_3_2 : cJ8_init_3.data.toList.drop 46 = dktJ8_init_3_2 := dk_seg dksJ8_init_3_1 22 rfl rfl
theorem dJ8_init_3_0 : decode cJ8_init_3 0 = .ok (.aload_n 0, 1) := dk_42 (dk_at dksJ8_init_3_0 0 rfl rfl)
theorem dJ8_init_3_1 : decode cJ8_init_3 1 = .ok (.invokespecial 1, 3) := dk_183 0 1 (dk_at dksJ8_init_3_0 1 rfl rfl)
theorem dJ8_init_3_4 : decode cJ8_init_3 4 = .ok (.aload_n 0, 1) := dk_42 (dk_at dksJ8_init_3_0 4 rfl rfl)
theorem dJ8_init_3_5 : decode cJ8_init_3 5 = .ok (.aload_n 0, 1) := dk_42 (dk_at dksJ8_init_3_0 5 rfl rfl)
theorem dJ8_init_3_6 : decode cJ8_init_3 6 = .ok (.putfield 7, 3) := dk_181 0 7 (dk_at dksJ8_init_3_0 6 rfl rfl)
theorem dJ8_init_3_9 : decode cJ8_init_3 9 = .ok (.aload_n 0, 1) := dk_42 (dk_at dksJ8_init_3_0 9 rfl rfl)
theorem dJ8_init_3_10 : decode cJ8_init_3 10 = .ok (.getstatic 13, 3) := dk_178 0 13 (dk_at dksJ8_init_3_0 10 rfl rfl)
theorem dJ8_init_3_13 : decode cJ8_init_3 13 = .ok (.putfield 17, 3) := dk_181 0 17 (dk_at dksJ8_init_3_0 13 rfl rfl)
theorem dJ8_init_3_16 : decode cJ8_init_3 16 = .ok (.aload_n 0, 1) := dk_42 (dk_at dksJ8_init_3_0 16 rfl rfl)
theorem dJ8_init_3_17 : decode cJ8_init_3 17 = .ok (.getstatic 20, 3) := dk_178 0 20 (dk_at dksJ8_init_3_0 17 rfl rfl)
theorem dJ8_init_3_20 : decode cJ8_init_3 20 = .ok (.putfield 24, 3) := dk_181 0 24 (dk_at dksJ8_init_3_0 20 rfl rfl)
theorem dJ8_init_3_23 : decode cJ8_init_3 23 = .ok (.aload_n 0, 1) := dk_42 (dk_at dksJ8_init_3_0 23 rfl rfl)
theorem dJ8_init_3_24 : decode cJ8_init_3 24 = .ok (.invokevirtual 27, 3) := dk_182 0 27 (dk_at dksJ8_init_3_1 0 rfl rfl)
theorem dJ8_init_3_27 : decode cJ8_init_3 27 = .ok (.pop, 1) := dk_87 (dk_at dksJ8_init_3_1 3 rfl rfl)
theorem dJ8_init_3_28 : decode cJ8_init_3 28 = .ok (.aload_n 0, 1) := dk_42 (dk_at dksJ8_init_3_1 4 rfl rfl)
theorem dJ8_init_3_29 : decode cJ8_init_3 29 = .ok (.aload_n 1, 1) := dk_43 (dk_at dksJ8_init_3_1 5 rfl rfl)
theorem dJ8_init_3_30 : decode cJ8_init_3 30 = .ok (.ifnonnull 7, 3) := dk_199 0 7 (dk_at dksJ8_init_3_1 6 rfl rfl)
theorem dJ8_init_3_33 : decode cJ8_init_3 33 = .ok (.aconst_null, 1) := dk_1 (dk_at dksJ8_init_3_1 9 rfl rfl)
theorem dJ8_init_3_34 : decode cJ8_init_3 34 = .ok (.goto 7, 3) := dk_167 0 7 (dk_at dksJ8_init_3_1 10 rfl rfl)
theorem dJ8_init_3_37 : decode cJ8_init_3 37 = .ok (.aload_n 1, 1) := dk_43 (dk_at dksJ8_init_3_1 13 rfl rfl)
theorem dJ8_init_3_38 : decode cJ8_init_3 38 = .ok (.invokevirtual 35, 3) := dk_182 0 35 (dk_at dksJ8_init_3_1 14 rfl rfl)
theorem dJ8_init_3_41 : decode cJ8_init_3 41 = .ok (.putfield 31, 3) := dk_181 0 31 (dk_at dksJ8_init_3_1 17 rfl rfl)
theorem dJ8_init_3_44 : decode cJ8_init_3 44 = .ok (.aload_n 0, 1) := dk_42 (dk_at dksJ8_init_3_1 20 rfl rfl)
theorem dJ8_init_3_45 : decode cJ8_init_3 45 = .ok (.aload_n 1, 1) := dk_43 (dk_at dksJ8_init_3_1 21 rfl rfl)
theorem dJ8_init_3_46 : decode cJ8_init_3 46 = .ok (.putfield 7, 3) := dk_181 0 7 (dk_at dksJ8_init_3_2 0 rfl rfl)
theorem dJ8_init_3_49 : decode cJ8_init_3 49 = .ok (.return_, 1) := dk_177 (dk_at dksJ8_init_3_2 3 rfl rfl)
abbrev cJ8_toString : ByteArray := prog_52_method_11_code
def yJ8_toString : MethodName := ⟨RJ8, "toString", "()Ljava/lang/String;"⟩
def dkwJ8_toString_1 : List UInt8 := [43, 182, 0, 49, 18, 81, 182, 0, 49, 44, 182, 0, 49, 182, 0, 60, 167, 0, 4, 43, 176]
abbrev dktJ8_toString_1 : List UInt8 := dkwJ8_toString_1 ++ []
def dkwJ8_toString_0 : List UInt8 := [42, 182, 0, 69, 182, 0, 73, 76, 42, 182, 0, 78, 77, 44, 198, 0, 29, 187, 0, 44, 89, 183, 0, 46]
abbrev dktJ8_toString_0 : List UInt8 := dkwJ8_toString_0 ++ dktJ8_toString_1
theorem dksJ8_toString_0 : cJ8_toString.data.toList.drop 0 = dktJ8_toString_0 := by decide +kernel
theorem dksJ8_toString_1 : cJ8_toString.data.toList.drop 24 = dktJ8_toString_1 := dk_seg dksJ8_toString_0 24 rfl rfl
theorem dJ8_toString_0 : decode cJ8_toString 0 = .ok (.aload_n 0, 1) := dk_42 (dk_at dksJ8_toString_0 0 rfl rfl)
theorem dJ8_toString_1 : decode cJ8_toString 1 = .ok (.invokevirtual 69, 3) := dk_182 0 69 (dk_at dksJ8_toString_0 1 rfl rfl)
theorem dJ8_toString_4 : decode cJ8_toString 4 = .ok (.invokevirtual 73, 3) := dk_182 0 73 (dk_at dksJ8_toString_0 4 rfl rfl)
theorem dJ8_toString_7 : decode cJ8_toString 7 = .ok (.astore_n 1, 1) := dk_76 (dk_at dksJ8_toString_0 7 rfl rfl)
theorem dJ8_toString_8 : decode cJ8_toString 8 = .ok (.aload_n 0, 1) := dk_42 (dk_at dksJ8_toString_0 8 rfl rfl)
theorem dJ8_toString_9 : decode cJ8_toString 9 = .ok (.invokevirtual 78, 3) := dk_182 0 78 (dk_at dksJ8_toString_0 9 rfl rfl)
theorem dJ8_toString_12 : decode cJ8_toString 12 = .ok (.astore_n 2, 1) := dk_77 (dk_at dksJ8_toString_0 12 rfl rfl)
theorem dJ8_toString_13 : decode cJ8_toString 13 = .ok (.aload_n 2, 1) := dk_44 (dk_at dksJ8_toString_0 13 rfl rfl)
theorem dJ8_toString_14 : decode cJ8_toString 14 = .ok (.ifnull 29, 3) := dk_198 0 29 (dk_at dksJ8_toString_0 14 rfl rfl)
theorem dJ8_toString_17 : decode cJ8_toString 17 = .ok (.new 44, 3) := dk_187 0 44 (dk_at dksJ8_toString_0 17 rfl rfl)
theorem dJ8_toString_20 : decode cJ8_toString 20 = .ok (.dup, 1) := dk_89 (dk_at dksJ8_toString_0 20 rfl rfl)
theorem dJ8_toString_21 : decode cJ8_toString 21 = .ok (.invokespecial 46, 3) := dk_183 0 46 (dk_at dksJ8_toString_0 21 rfl rfl)
theorem dJ8_toString_24 : decode cJ8_toString 24 = .ok (.aload_n 1, 1) := dk_43 (dk_at dksJ8_toString_1 0 rfl rfl)
theorem dJ8_toString_25 : decode cJ8_toString 25 = .ok (.invokevirtual 49, 3) := dk_182 0 49 (dk_at dksJ8_toString_1 1 rfl rfl)
theorem dJ8_toString_28 : decode cJ8_toString 28 = .ok (.ldc 81, 2) := dk_18 81 (dk_at dksJ8_toString_1 4 rfl rfl)
theorem dJ8_toString_30 : decode cJ8_toString 30 = .ok (.invokevirtual 49, 3) := dk_182 0 49 (dk_at dksJ8_toString_1 6 rfl rfl)
theorem dJ8_toString_33 : decode cJ8_toString 33 = .ok (.aload_n 2, 1) := dk_44 (dk_at dksJ8_toString_1 9 rfl rfl)
theorem dJ8_toString_34 : decode cJ8_toString 34 = .ok (.invokevirtual 49, 3) := dk_182 0 49 (dk_at dksJ8_toString_1 10 rfl rfl)
theorem dJ8_toString_37 : decode cJ8_toString 37 = .ok (.invokevirtual 60, 3) := dk_182 0 60 (dk_at dksJ8_toString_1 13 rfl rfl)
theorem dJ8_toString_40 : decode cJ8_toString 40 = .ok (.goto 4, 3) := dk_167 0 4 (dk_at dksJ8_toString_1 16 rfl rfl)
theorem dJ8_toString_43 : decode cJ8_toString 43 = .ok (.aload_n 1, 1) := dk_43 (dk_at dksJ8_toString_1 19 rfl rfl)
theorem dJ8_toString_44 : decode cJ8_toString 44 = .ok (.areturn, 1) := dk_176 (dk_at dksJ8_toString_1 20 rfl rfl)
abbrev cJ8_getLocalizedMessage : ByteArray := prog_52_method_7_code
def yJ8_getLocalizedMessage : MethodName := ⟨RJ8, "getLocalizedMessage", "()Ljava/lang/String;"⟩
theorem dJ8_getLocalizedMessage_0 : decode cJ8_getLocalizedMessage 0 = .ok (.aload_n 0, 1) := by decide +kernel
theorem dJ8_getLocalizedMessage_1 : decode cJ8_getLocalizedMessage 1 = .ok (.invokevirtual 39, 3) := by decide +kernel
theorem dJ8_getLocalizedMessage_4 : decode cJ8_getLocalizedMessage 4 = .ok (.areturn, 1) := by decide +kernel
abbrev cJ8_getMessage : ByteArray := prog_52_method_6_code
def yJ8_getMessage : MethodName := ⟨RJ8, "getMessage", "()Ljava/lang/String;"⟩
theorem dJ8_getMessage_0 : decode cJ8_getMessage 0 = .ok (.aload_n 0, 1) := by decide +kernel
theorem dJ8_getMessage_1 : decode cJ8_getMessage 1 = .ok (.getfield 31, 3) := by decide +kernel
theorem dJ8_getMessage_4 : decode cJ8_getMessage 4 = .ok (.areturn, 1) := by decide +kernel
abbrev cJ8_init_4 : ByteArray := prog_52_method_5_code
def yJ8_init_4 : MethodName := ⟨RJ8, "<init>", "(Ljava/lang/String;Ljava/lang/Throwable;ZZ)V"⟩
def dkwJ8_init_4_2 : List UInt8 := [44, 181, 0, 7, 29, 154, 0, 8, 42, 1, 181, 0, 24, 177]
abbrev dktJ8_init_4_2 : List UInt8 := dkwJ8_init_4_2 ++ []
def dkwJ8_init_4_1 : List UInt8 := [21, 4, 153, 0, 11, 42, 182, 0, 27, 87, 167, 0, 8, 42, 1, 181, 0, 17, 42, 43, 181, 0, 31, 42]
abbrev dktJ8_init_4_1 : List UInt8 := dkwJ8_init_4_1 ++ dktJ8_init_4_2
def dkwJ8_init_4_0 : List UInt8 := [42, 183, 0, 1, 42, 42, 181, 0, 7, 42, 178, 0, 13, 181, 0, 17, 42, 178, 0, 20, 181, 0, 24]
abbrev dktJ8_init_4_0 : List UInt8 := dkwJ8_init_4_0 ++ dktJ8_init_4_1
theorem dksJ8_init_4_0 : cJ8_init_4.data.toList.drop 0 = dktJ8_init_4_0 := by decide +kernel
theorem dksJ8_init_4_1 : cJ8_init_4.data.toList.drop 23 = dktJ8_init_4_1 := dk_seg dksJ8_init_4_0 23 rfl rfl
theorem dksJ8_init_4_2 : cJ8_init_4.data.toList.drop 47 = dktJ8_init_4_2 := dk_seg dksJ8_init_4_1 24 rfl rfl
theorem dJ8_init_4_0 : decode cJ8_init_4 0 = .ok (.aload_n 0, 1) := dk_42 (dk_at dksJ8_init_4_0 0 rfl rfl)
theorem dJ8_init_4_1 : decode cJ8_init_4 1 = .ok (.invokespecial 1, 3) := dk_183 0 1 (dk_at dksJ8_init_4_0 1 rfl rfl)
theorem dJ8_init_4_4 : decode cJ8_init_4 4 = .ok (.aload_n 0, 1) := dk_42 (dk_at dksJ8_init_4_0 4 rfl rfl)
theorem dJ8_init_4_5 : decode cJ8_init_4 5 = .ok (.aload_n 0, 1) := dk_42 (dk_at dksJ8_init_4_0 5 rfl rfl)
theorem dJ8_init_4_6 : decode cJ8_init_4 6 = .ok (.putfield 7, 3) := dk_181 0 7 (dk_at dksJ8_init_4_0 6 rfl rfl)
theorem dJ8_init_4_9 : decode cJ8_init_4 9 = .ok (.aload_n 0, 1) := dk_42 (dk_at dksJ8_init_4_0 9 rfl rfl)
theorem dJ8_init_4_10 : decode cJ8_init_4 10 = .ok (.getstatic 13, 3) := dk_178 0 13 (dk_at dksJ8_init_4_0 10 rfl rfl)
theorem dJ8_init_4_13 : decode cJ8_init_4 13 = .ok (.putfield 17, 3) := dk_181 0 17 (dk_at dksJ8_init_4_0 13 rfl rfl)
theorem dJ8_init_4_16 : decode cJ8_init_4 16 = .ok (.aload_n 0, 1) := dk_42 (dk_at dksJ8_init_4_0 16 rfl rfl)
theorem dJ8_init_4_17 : decode cJ8_init_4 17 = .ok (.getstatic 20, 3) := dk_178 0 20 (dk_at dksJ8_init_4_0 17 rfl rfl)
theorem dJ8_init_4_20 : decode cJ8_init_4 20 = .ok (.putfield 24, 3) := dk_181 0 24 (dk_at dksJ8_init_4_0 20 rfl rfl)
theorem dJ8_init_4_23 : decode cJ8_init_4 23 = .ok (.iload 4, 2) := dk_21 4 (dk_at dksJ8_init_4_1 0 rfl rfl)
theorem dJ8_init_4_25 : decode cJ8_init_4 25 = .ok (.ifCond .eq 11, 3) := dk_153 0 11 (dk_at dksJ8_init_4_1 2 rfl rfl)
theorem dJ8_init_4_28 : decode cJ8_init_4 28 = .ok (.aload_n 0, 1) := dk_42 (dk_at dksJ8_init_4_1 5 rfl rfl)
theorem dJ8_init_4_29 : decode cJ8_init_4 29 = .ok (.invokevirtual 27, 3) := dk_182 0 27 (dk_at dksJ8_init_4_1 6 rfl rfl)
theorem dJ8_init_4_32 : decode cJ8_init_4 32 = .ok (.pop, 1) := dk_87 (dk_at dksJ8_init_4_1 9 rfl rfl)
theorem dJ8_init_4_33 : decode cJ8_init_4 33 = .ok (.goto 8, 3) := dk_167 0 8 (dk_at dksJ8_init_4_1 10 rfl rfl)
theorem dJ8_init_4_36 : decode cJ8_init_4 36 = .ok (.aload_n 0, 1) := dk_42 (dk_at dksJ8_init_4_1 13 rfl rfl)
theorem dJ8_init_4_37 : decode cJ8_init_4 37 = .ok (.aconst_null, 1) := dk_1 (dk_at dksJ8_init_4_1 14 rfl rfl)
theorem dJ8_init_4_38 : decode cJ8_init_4 38 = .ok (.putfield 17, 3) := dk_181 0 17 (dk_at dksJ8_init_4_1 15 rfl rfl)
theorem dJ8_init_4_41 : decode cJ8_init_4 41 = .ok (.aload_n 0, 1) := dk_42 (dk_at dksJ8_init_4_1 18 rfl rfl)
theorem dJ8_init_4_42 : decode cJ8_init_4 42 = .ok (.aload_n 1, 1) := dk_43 (dk_at dksJ8_init_4_1 19 rfl rfl)
theorem dJ8_init_4_43 : decode cJ8_init_4 43 = .ok (.putfield 31, 3) := dk_181 0 31 (dk_at dksJ8_init_4_1 20 rfl rfl)
theorem dJ8_init_4_46 : decode cJ8_init_4 46 = .ok (.aload_n 0, 1) := dk_42 (dk_at dksJ8_init_4_1 23 rfl rfl)
theorem dJ8_init_4_47 : decode cJ8_init_4 47 = .ok (.aload_n 2, 1) := dk_44 (dk_at dksJ8_init_4_2 0 rfl rfl)
theorem dJ8_init_4_48 : decode cJ8_init_4 48 = .ok (.putfield 7, 3) := dk_181 0 7 (dk_at dksJ8_init_4_2 1 rfl rfl)
theorem dJ8_init_4_51 : decode cJ8_init_4 51 = .ok (.iload_n 3, 1) := dk_29 (dk_at dksJ8_init_4_2 4 rfl rfl)
theorem dJ8_init_4_52 : decode cJ8_init_4 52 = .ok (.ifCond .ne 8, 3) := dk_154 0 8 (dk_at dksJ8_init_4_2 5 rfl rfl)
theorem dJ8_init_4_55 : decode cJ8_init_4 55 = .ok (.aload_n 0, 1) := dk_42 (dk_at dksJ8_init_4_2 8 rfl rfl)
theorem dJ8_init_4_56 : decode cJ8_init_4 56 = .ok (.aconst_null, 1) := dk_1 (dk_at dksJ8_init_4_2 9 rfl rfl)
theorem dJ8_init_4_57 : decode cJ8_init_4 57 = .ok (.putfield 24, 3) := dk_181 0 24 (dk_at dksJ8_init_4_2 10 rfl rfl)
theorem dJ8_init_4_60 : decode cJ8_init_4 60 = .ok (.return_, 1) := dk_177 (dk_at dksJ8_init_4_2 13 rfl rfl)
theorem q131 : (Jvm.Cond.initialized "java/lang/Throwable") ∈ lw_all := lw_g (lw_at lw_m1 12 rfl) rfl
theorem q281 : (Jvm.Cond.declares ({ cls := "java/lang/Throwable", name := "<init>", desc := "()V" } : Jvm.MethodName)) ∈ lw_tbl := lw_at lw_m1 162 rfl
theorem q282 : (Jvm.Cond.declares ({ cls := "java/lang/Throwable", name := "<init>", desc := "(Ljava/lang/String;)V" } : Jvm.MethodName)) ∈ lw_tbl := lw_at lw_m1 163 rfl
theorem q286 : (Jvm.Cond.lays "java/lang/Throwable" "java/lang/Throwable" "cause" "Ljava/lang/Throwable;") ∈ lw_all := lw_g (lw_at lw_m1 167 rfl) rfl
theorem q288 : (Jvm.Cond.lays "java/lang/Throwable" "java/lang/Throwable" "stackTrace" "[Ljava/lang/StackTraceElement;") ∈ lw_all := lw_g (lw_at lw_m1 169 rfl) rfl
theorem q290 : (Jvm.Cond.lays "java/lang/Throwable" "java/lang/Throwable" "suppressedExceptions" "Ljava/util/List;") ∈ lw_all := lw_g (lw_at lw_m1 171 rfl) rfl
theorem q292 : (Jvm.Cond.lays "java/lang/Throwable" "java/lang/Throwable" "detailMessage" "Ljava/lang/String;") ∈ lw_all := lw_g (lw_at lw_m1 173 rfl) rfl
theorem q294 : (Jvm.Cond.lays "java/lang/Throwable" "java/lang/Throwable" "backtrace" "Ljava/lang/Object;") ∈ lw_all := lw_g (lw_at lw_m1 175 rfl) rfl
theorem q295 : (Jvm.Cond.fieldLink "java/lang/Throwable" (198 : Nat) "java/lang/Throwable" "backtrace" "Ljava/lang/Object;") ∈ lw_all := lw_g (lw_at lw_m1 176 rfl) rfl
theorem q296 : (Jvm.Cond.superclass "java/lang/Throwable" "java/lang/Object") ∈ lw_all := lw_g (lw_at lw_m1 177 rfl) rfl
theorem q297 : (Jvm.Cond.instanceMethod ({ cls := "java/lang/Throwable", name := "<init>", desc := "()V" } : Jvm.MethodName)) ∈ lw_all := lw_g (lw_at lw_m1 178 rfl) rfl
theorem q298 : (Jvm.Cond.code ({ cls := "java/lang/Throwable", name := "<init>", desc := "()V" } : Jvm.MethodName) prog_52_method_1_code (1 : Nat) (Option.none : Option Jvm.ClassFile.FieldType)) ∈ lw_all := lw_g (lw_at lw_m1 179 rfl) rfl
theorem q299 : (Jvm.Cond.methodLink "java/lang/Throwable" (1 : Nat) ({ cls := "java/lang/Object", name := "<init>", desc := "()V" } : Jvm.MethodName)) ∈ lw_all := lw_g (lw_at lw_m1 180 rfl) rfl
theorem q300 : (Jvm.Cond.fieldLink "java/lang/Throwable" (13 : Nat) "java/lang/Throwable" "UNASSIGNED_STACK" "[Ljava/lang/StackTraceElement;") ∈ lw_all := lw_g (lw_at lw_m1 181 rfl) rfl
theorem q301 : (Jvm.Cond.laysStatic "java/lang/Throwable" "UNASSIGNED_STACK" "[Ljava/lang/StackTraceElement;") ∈ lw_tbl := lw_at lw_m1 182 rfl
theorem q302 : (Jvm.Cond.fieldLink "java/lang/Throwable" (20 : Nat) "java/lang/Throwable" "SUPPRESSED_SENTINEL" "Ljava/util/List;") ∈ lw_all := lw_g (lw_at lw_m1 183 rfl) rfl
theorem q303 : (Jvm.Cond.laysStatic "java/lang/Throwable" "SUPPRESSED_SENTINEL" "Ljava/util/List;") ∈ lw_tbl := lw_at lw_m1 184 rfl
theorem q304 : (Jvm.Cond.methodLink "java/lang/Throwable" (27 : Nat) ({ cls := "java/lang/Throwable", name := "fillInStackTrace", desc := "()Ljava/lang/Throwable;" } : Jvm.MethodName)) ∈ lw_all := lw_g (lw_at lw_m1 185 rfl) rfl
theorem q305 : (Jvm.Cond.instanceMethod ({ cls := "java/lang/Throwable", name := "fillInStackTrace", desc := "()Ljava/lang/Throwable;" } : Jvm.MethodName)) ∈ lw_all := lw_g (lw_at lw_m1 186 rfl) rfl
theorem q306 : (Jvm.Cond.sameMethod "java/lang/Throwable" "java/lang/Throwable" "fillInStackTrace" "()Ljava/lang/Throwable;") ∈ lw_all := lw_g (lw_at lw_m1 187 rfl) rfl
theorem q317 : (Jvm.Cond.codeSync ({ cls := "java/lang/Throwable", name := "fillInStackTrace", desc := "()Ljava/lang/Throwable;" } : Jvm.MethodName) prog_52_method_18_code (1 : Nat) (Option.some (Jvm.ClassFile.FieldType.object "java/lang/Throwable"))) ∈ lw_all := lw_g (lw_at lw_m1 198 rfl) rfl
theorem q318 : (Jvm.Cond.methodLink "java/lang/Throwable" (202 : Nat) ({ cls := "java/lang/Throwable", name := "fillInStackTrace", desc := "(I)Ljava/lang/Throwable;" } : Jvm.MethodName)) ∈ lw_all := lw_g (lw_at lw_m1 199 rfl) rfl
theorem q319 : (Jvm.Cond.privateMethod ({ cls := "java/lang/Throwable", name := "fillInStackTrace", desc := "(I)Ljava/lang/Throwable;" } : Jvm.MethodName)) ∈ lw_tbl := lw_at lw_m1 200 rfl
theorem q320 : (Jvm.Cond.instanceMethod ({ cls := "java/lang/Throwable", name := "fillInStackTrace", desc := "(I)Ljava/lang/Throwable;" } : Jvm.MethodName)) ∈ lw_all := lw_g (lw_at lw_m1 201 rfl) rfl
theorem q321 : (Jvm.Cond.instantiable "java/lang/Throwable" (6 : Nat)) ∈ lw_all := lw_g (lw_at lw_m1 202 rfl) rfl
theorem q322 : (Jvm.Cond.native ({ cls := "java/lang/Throwable", name := "fillInStackTrace", desc := "(I)Ljava/lang/Throwable;" } : Jvm.MethodName)) ∈ lw_all := lw_g (lw_at lw_m1 203 rfl) rfl
theorem q555 : (Jvm.Cond.instanceMethod ({ cls := "java/lang/Throwable", name := "<init>", desc := "(Ljava/lang/String;)V" } : Jvm.MethodName)) ∈ lw_all := lw_g (lw_at lw_m2 196 rfl) rfl
theorem q556 : (Jvm.Cond.code ({ cls := "java/lang/Throwable", name := "<init>", desc := "(Ljava/lang/String;)V" } : Jvm.MethodName) prog_52_method_2_code (2 : Nat) (Option.none : Option Jvm.ClassFile.FieldType)) ∈ lw_all := lw_g (lw_at lw_m2 197 rfl) rfl
theorem q557 : (Jvm.Cond.fieldLink "java/lang/Throwable" (198 : Nat) "java/lang/Throwable" "backtrace" "Ljava/lang/Object;") ∈ lw_all := lw_g (lw_at lw_m2 198 rfl) rfl
theorem q558 : (Jvm.Cond.fieldLink "java/lang/Throwable" (31 : Nat) "java/lang/Throwable" "detailMessage" "Ljava/lang/String;") ∈ lw_all := lw_g (lw_at lw_m2 199 rfl) rfl
theorem q559 : (Jvm.Cond.fieldLink "java/lang/Throwable" (7 : Nat) "java/lang/Throwable" "cause" "Ljava/lang/Throwable;") ∈ lw_all := lw_g (lw_at lw_m2 200 rfl) rfl
theorem q560 : (Jvm.Cond.fieldLink "java/lang/Throwable" (17 : Nat) "java/lang/Throwable" "stackTrace" "[Ljava/lang/StackTraceElement;") ∈ lw_all := lw_g (lw_at lw_m2 201 rfl) rfl
theorem q561 : (Jvm.Cond.fieldLink "java/lang/Throwable" (24 : Nat) "java/lang/Throwable" "suppressedExceptions" "Ljava/util/List;") ∈ lw_all := lw_g (lw_at lw_m2 202 rfl) rfl
theorem q562 : (Jvm.Cond.soleField "java/lang/Throwable" "backtrace") ∈ lw_all := lw_g (lw_at lw_m2 203 rfl) rfl
theorem q563 : (Jvm.Cond.soleField "java/lang/Throwable" "detailMessage") ∈ lw_all := lw_g (lw_at lw_m2 204 rfl) rfl
theorem q564 : (Jvm.Cond.soleField "java/lang/Throwable" "cause") ∈ lw_all := lw_g (lw_at lw_m2 205 rfl) rfl
theorem q565 : (Jvm.Cond.soleField "java/lang/Throwable" "stackTrace") ∈ lw_all := lw_g (lw_at lw_m2 206 rfl) rfl
theorem q567 : (Jvm.Cond.soleField "java/lang/Throwable" "depth") ∈ lw_all := lw_g (lw_at lw_m2 208 rfl) rfl
theorem q568 : (Jvm.Cond.soleField "java/lang/Throwable" "suppressedExceptions") ∈ lw_all := lw_g (lw_at lw_m2 209 rfl) rfl
theorem q1057 : (Jvm.Cond.instanceMethod ({ cls := "java/lang/Throwable", name := "<init>", desc := "(Ljava/lang/Throwable;)V" } : Jvm.MethodName)) ∈ lw_all := lw_g (lw_at lw_m4 218 rfl) rfl
theorem q1058 : (Jvm.Cond.code ({ cls := "java/lang/Throwable", name := "<init>", desc := "(Ljava/lang/Throwable;)V" } : Jvm.MethodName) prog_52_method_4_code (2 : Nat) (Option.none : Option Jvm.ClassFile.FieldType)) ∈ lw_all := lw_g (lw_at lw_m4 219 rfl) rfl
theorem q1059 : (Jvm.Cond.methodLink "java/lang/Throwable" (35 : Nat) ({ cls := "java/lang/Throwable", name := "toString", desc := "()Ljava/lang/String;" } : Jvm.MethodName)) ∈ lw_all := lw_g (lw_at lw_m4 220 rfl) rfl
theorem q1060 : (Jvm.Cond.instanceMethod ({ cls := "java/lang/Throwable", name := "toString", desc := "()Ljava/lang/String;" } : Jvm.MethodName)) ∈ lw_all := lw_g (lw_at lw_m4 221 rfl) rfl
theorem q1061 : (Jvm.Cond.sameMethod "java/lang/Throwable" "java/lang/Throwable" "toString" "()Ljava/lang/String;") ∈ lw_all := lw_g (lw_at lw_m4 222 rfl) rfl
theorem q1073 : (Jvm.Cond.code ({ cls := "java/lang/Throwable", name := "toString", desc := "()Ljava/lang/String;" } : Jvm.MethodName) prog_52_method_11_code (3 : Nat) (Option.some (Jvm.ClassFile.FieldType.object "java/lang/String"))) ∈ lw_all := lw_g (lw_at lw_m4 234 rfl) rfl
theorem q1074 : (Jvm.Cond.methodLink "java/lang/Throwable" (69 : Nat) ({ cls := "java/lang/Object", name := "getClass", desc := "()Ljava/lang/Class;" } : Jvm.MethodName)) ∈ lw_all := lw_g (lw_at lw_m4 235 rfl) rfl
theorem q1120 : (Jvm.Cond.methodLink "java/lang/Throwable" (78 : Nat) ({ cls := "java/lang/Throwable", name := "getLocalizedMessage", desc := "()Ljava/lang/String;" } : Jvm.MethodName)) ∈ lw_all := lw_g (lw_at lw_m5 41 rfl) rfl
theorem q1121 : (Jvm.Cond.instanceMethod ({ cls := "java/lang/Throwable", name := "getLocalizedMessage", desc := "()Ljava/lang/String;" } : Jvm.MethodName)) ∈ lw_all := lw_g (lw_at lw_m5 42 rfl) rfl
theorem q1122 : (Jvm.Cond.sameMethod "java/lang/Throwable" "java/lang/Throwable" "getLocalizedMessage" "()Ljava/lang/String;") ∈ lw_all := lw_g (lw_at lw_m5 43 rfl) rfl
theorem q1134 : (Jvm.Cond.code ({ cls := "java/lang/Throwable", name := "getLocalizedMessage", desc := "()Ljava/lang/String;" } : Jvm.MethodName) prog_52_method_7_code (1 : Nat) (Option.some (Jvm.ClassFile.FieldType.object "java/lang/String"))) ∈ lw_all := lw_g (lw_at lw_m5 55 rfl) rfl
theorem q1135 : (Jvm.Cond.methodLink "java/lang/Throwable" (39 : Nat) ({ cls := "java/lang/Throwable", name := "getMessage", desc := "()Ljava/lang/String;" } : Jvm.MethodName)) ∈ lw_all := lw_g (lw_at lw_m5 56 rfl) rfl
theorem q1136 : (Jvm.Cond.instanceMethod ({ cls := "java/lang/Throwable", name := "getMessage", desc := "()Ljava/lang/String;" } : Jvm.MethodName)) ∈ lw_all := lw_g (lw_at lw_m5 57 rfl) rfl
theorem q1137 : (Jvm.Cond.sameMethod "java/lang/Throwable" "java/lang/Throwable" "getMessage" "()Ljava/lang/String;") ∈ lw_all := lw_g (lw_at lw_m5 58 rfl) rfl
theorem q1149 : (Jvm.Cond.code ({ cls := "java/lang/Throwable", name := "getMessage", desc := "()Ljava/lang/String;" } : Jvm.MethodName) prog_52_method_6_code (1 : Nat) (Option.some (Jvm.ClassFile.FieldType.object "java/lang/String"))) ∈ lw_all := lw_g (lw_at lw_m5 70 rfl) rfl
theorem q1150 : (Jvm.Cond.classLink "java/lang/Throwable" (44 : Nat) "java/lang/StringBuilder") ∈ lw_all := lw_g (lw_at lw_m5 71 rfl) rfl
theorem q1151 : (Jvm.Cond.methodLink "java/lang/Throwable" (46 : Nat) ({ cls := "java/lang/StringBuilder", name := "<init>", desc := "()V" } : Jvm.MethodName)) ∈ lw_all := lw_g (lw_at lw_m5 72 rfl) rfl
theorem q1152 : (Jvm.Cond.methodLink "java/lang/Throwable" (49 : Nat) ({ cls := "java/lang/StringBuilder", name := "append", desc := "(Ljava/lang/String;)Ljava/lang/StringBuilder;" } : Jvm.MethodName)) ∈ lw_all := lw_g (lw_at lw_m5 73 rfl) rfl
theorem q1153 : (Jvm.Cond.stringRef "java/lang/Throwable" (81 : Nat) ": ") ∈ lw_tbl := lw_at lw_m5 74 rfl
theorem q1154 : (Jvm.Cond.methodLink "java/lang/Throwable" (60 : Nat) ({ cls := "java/lang/StringBuilder", name := "toString", desc := "()Ljava/lang/String;" } : Jvm.MethodName)) ∈ lw_all := lw_g (lw_at lw_m5 75 rfl) rfl
theorem q1686 : (Jvm.Cond.instanceMethod ({ cls := "java/lang/Throwable", name := "<init>", desc := "(Ljava/lang/String;Ljava/lang/Throwable;ZZ)V" } : Jvm.MethodName)) ∈ lw_all := lw_g (lw_at lw_m7 127 rfl) rfl
theorem q1687 : (Jvm.Cond.code ({ cls := "java/lang/Throwable", name := "<init>", desc := "(Ljava/lang/String;Ljava/lang/Throwable;ZZ)V" } : Jvm.MethodName) prog_52_method_5_code (5 : Nat) (Option.none : Option Jvm.ClassFile.FieldType)) ∈ lw_all := lw_g (lw_at lw_m7 128 rfl) rfl
theorem q3500 : (Jvm.Cond.sameMethod "java/lang/Throwable" "java/lang/Throwable" "fillInStackTrace" "(I)Ljava/lang/Throwable;") ∈ lw_all := lw_g (lw_at lw_m15 21 rfl) rfl
theorem q3602 : (Jvm.Cond.castable "java/lang/Throwable" "java/lang/Object") ∈ lw_tbl := lw_at lw_m15 123 rfl
theorem in_J8 : ∀ w ∈ wsJ80, w ∈ lw_all := lw_in wsJ80 [286, 288, 290, 292, 294] (by decide +kernel) (by decide +kernel)
/-! java/lang/Exception -/
set_option maxRecDepth 100000
def RJ9 : String := "java/lang/Exception"
abbrev cJ9_init : ByteArray := prog_34_method_2_code
def yJ9_init : MethodName := ⟨RJ9, "<init>", "(Ljava/lang/String;)V"⟩
def dkwJ9_init_0 : List UInt8 := [42, 43, 183, 0, 7, 177]
abbrev dktJ9_init_0 : List UInt8 := dkwJ9_init_0 ++ []
theorem dksJ9_init_0 : cJ9_init.data.toList.drop 0 = dktJ9_init_0 := by decide +kernel
theorem dJ9_init_0 : decode cJ9_init 0 = .ok (.aload_n 0, 1) := dk_42 (dk_at dksJ9_init_0 0 rfl rfl)
theorem dJ9_init_1 : decode cJ9_init 1 = .ok (.aload_n 1, 1) := dk_43 (dk_at dksJ9_init_0 1 rfl rfl)
theorem dJ9_init_2 : decode cJ9_init 2 = .ok (.invokespecial 7, 3) := dk_183 0 7 (dk_at dksJ9_init_0 2 rfl rfl)
theorem dJ9_init_5 : decode cJ9_init 5 = .ok (.return_, 1) := dk_177 (dk_at dksJ9_init_0 5 rfl rfl)
abbrev cJ9_init_2 : ByteArray := prog_34_method_4_code
def yJ9_init_2 : MethodName := ⟨RJ9, "<init>", "(Ljava/lang/Throwable;)V"⟩
def dkwJ9_init_2_0 : List UInt8 := [42, 43, 183, 0, 13, 177]
abbrev dktJ9_init_2_0 : List UInt8 := dkwJ9_init_2_0 ++ []
theorem dksJ9_init_2_0 : cJ9_init_2.data.toList.drop 0 = dktJ9_init_2_0 := by decide +kernel
theorem dJ9_init_2_0 : decode cJ9_init_2 0 = .ok (.aload_n 0, 1) := dk_42 (dk_at dksJ9_init_2_0 0 rfl rfl)
theorem dJ9_init_2_1 : decode cJ9_init_2 1 = .ok (.aload_n 1, 1) := dk_43 (dk_at dksJ9_init_2_0 1 rfl rfl)
theorem dJ9_init_2_2 : decode cJ9_init_2 2 = .ok (.invokespecial 13, 3) := dk_183 0 13 (dk_at dksJ9_init_2_0 2 rfl rfl)
theorem dJ9_init_2_5 : decode cJ9_init_2 5 = .ok (.return_, 1) := dk_177 (dk_at dksJ9_init_2_0 5 rfl rfl)
abbrev cJ9_init_3 : ByteArray := prog_34_method_1_code
def yJ9_init_3 : MethodName := ⟨RJ9, "<init>", "()V"⟩
theorem dJ9_init_3_0 : decode cJ9_init_3 0 = .ok (.aload_n 0, 1) := by decide +kernel
theorem dJ9_init_3_1 : decode cJ9_init_3 1 = .ok (.invokespecial 1, 3) := by decide +kernel
theorem dJ9_init_3_4 : decode cJ9_init_3 4 = .ok (.return_, 1) := by decide +kernel
abbrev cJ9_init_4 : ByteArray := prog_34_method_5_code
def yJ9_init_4 : MethodName := ⟨RJ9, "<init>", "(Ljava/lang/String;Ljava/lang/Throwable;ZZ)V"⟩
def dkwJ9_init_4_0 : List UInt8 := [42, 43, 44, 29, 21, 4, 183, 0, 16, 177]
abbrev dktJ9_init_4_0 : List UInt8 := dkwJ9_init_4_0 ++ []
theorem dksJ9_init_4_0 : cJ9_init_4.data.toList.drop 0 = dktJ9_init_4_0 := by decide +kernel
theorem dJ9_init_4_0 : decode cJ9_init_4 0 = .ok (.aload_n 0, 1) := dk_42 (dk_at dksJ9_init_4_0 0 rfl rfl)
theorem dJ9_init_4_1 : decode cJ9_init_4 1 = .ok (.aload_n 1, 1) := dk_43 (dk_at dksJ9_init_4_0 1 rfl rfl)
theorem dJ9_init_4_2 : decode cJ9_init_4 2 = .ok (.aload_n 2, 1) := dk_44 (dk_at dksJ9_init_4_0 2 rfl rfl)
theorem dJ9_init_4_3 : decode cJ9_init_4 3 = .ok (.iload_n 3, 1) := dk_29 (dk_at dksJ9_init_4_0 3 rfl rfl)
theorem dJ9_init_4_4 : decode cJ9_init_4 4 = .ok (.iload 4, 2) := dk_21 4 (dk_at dksJ9_init_4_0 4 rfl rfl)
theorem dJ9_init_4_6 : decode cJ9_init_4 6 = .ok (.invokespecial 16, 3) := dk_183 0 16 (dk_at dksJ9_init_4_0 6 rfl rfl)
theorem dJ9_init_4_9 : decode cJ9_init_4 9 = .ok (.return_, 1) := dk_177 (dk_at dksJ9_init_4_0 9 rfl rfl)
theorem q132 : (Jvm.Cond.initialized "java/lang/Exception") ∈ lw_all := lw_g (lw_at lw_m1 13 rfl) rfl
theorem q279 : (Jvm.Cond.declares ({ cls := "java/lang/Exception", name := "<init>", desc := "()V" } : Jvm.MethodName)) ∈ lw_tbl := lw_at lw_m1 160 rfl
theorem q280 : (Jvm.Cond.declares ({ cls := "java/lang/Exception", name := "<init>", desc := "(Ljava/lang/String;)V" } : Jvm.MethodName)) ∈ lw_tbl := lw_at lw_m1 161 rfl
theorem q552 : (Jvm.Cond.instanceMethod ({ cls := "java/lang/Exception", name := "<init>", desc := "(Ljava/lang/String;)V" } : Jvm.MethodName)) ∈ lw_all := lw_g (lw_at lw_m2 193 rfl) rfl
theorem q553 : (Jvm.Cond.code ({ cls := "java/lang/Exception", name := "<init>", desc := "(Ljava/lang/String;)V" } : Jvm.MethodName) prog_34_method_2_code (2 : Nat) (Option.none : Option Jvm.ClassFile.FieldType)) ∈ lw_all := lw_g (lw_at lw_m2 194 rfl) rfl
theorem q554 : (Jvm.Cond.methodLink "java/lang/Exception" (7 : Nat) ({ cls := "java/lang/Throwable", name := "<init>", desc := "(Ljava/lang/String;)V" } : Jvm.MethodName)) ∈ lw_all := lw_g (lw_at lw_m2 195 rfl) rfl
theorem q1054 : (Jvm.Cond.instanceMethod ({ cls := "java/lang/Exception", name := "<init>", desc := "(Ljava/lang/Throwable;)V" } : Jvm.MethodName)) ∈ lw_all := lw_g (lw_at lw_m4 215 rfl) rfl
theorem q1055 : (Jvm.Cond.code ({ cls := "java/lang/Exception", name := "<init>", desc := "(Ljava/lang/Throwable;)V" } : Jvm.MethodName) prog_34_method_4_code (2 : Nat) (Option.none : Option Jvm.ClassFile.FieldType)) ∈ lw_all := lw_g (lw_at lw_m4 216 rfl) rfl
theorem q1056 : (Jvm.Cond.methodLink "java/lang/Exception" (13 : Nat) ({ cls := "java/lang/Throwable", name := "<init>", desc := "(Ljava/lang/Throwable;)V" } : Jvm.MethodName)) ∈ lw_all := lw_g (lw_at lw_m4 217 rfl) rfl
theorem q1175 : (Jvm.Cond.instanceMethod ({ cls := "java/lang/Exception", name := "<init>", desc := "()V" } : Jvm.MethodName)) ∈ lw_all := lw_g (lw_at lw_m5 96 rfl) rfl
theorem q1176 : (Jvm.Cond.code ({ cls := "java/lang/Exception", name := "<init>", desc := "()V" } : Jvm.MethodName) prog_34_method_1_code (1 : Nat) (Option.none : Option Jvm.ClassFile.FieldType)) ∈ lw_all := lw_g (lw_at lw_m5 97 rfl) rfl
theorem q1177 : (Jvm.Cond.methodLink "java/lang/Exception" (1 : Nat) ({ cls := "java/lang/Throwable", name := "<init>", desc := "()V" } : Jvm.MethodName)) ∈ lw_all := lw_g (lw_at lw_m5 98 rfl) rfl
theorem q1683 : (Jvm.Cond.instanceMethod ({ cls := "java/lang/Exception", name := "<init>", desc := "(Ljava/lang/String;Ljava/lang/Throwable;ZZ)V" } : Jvm.MethodName)) ∈ lw_all := lw_g (lw_at lw_m7 124 rfl) rfl
theorem q1684 : (Jvm.Cond.code ({ cls := "java/lang/Exception", name := "<init>", desc := "(Ljava/lang/String;Ljava/lang/Throwable;ZZ)V" } : Jvm.MethodName) prog_34_method_5_code (5 : Nat) (Option.none : Option Jvm.ClassFile.FieldType)) ∈ lw_all := lw_g (lw_at lw_m7 125 rfl) rfl
theorem q1685 : (Jvm.Cond.methodLink "java/lang/Exception" (16 : Nat) ({ cls := "java/lang/Throwable", name := "<init>", desc := "(Ljava/lang/String;Ljava/lang/Throwable;ZZ)V" } : Jvm.MethodName)) ∈ lw_all := lw_g (lw_at lw_m7 126 rfl) rfl
/-! java/lang/RuntimeException -/
set_option maxRecDepth 100000
def RJ10 : String := "java/lang/RuntimeException"
abbrev cJ10_init : ByteArray := prog_45_method_2_code
def yJ10_init : MethodName := ⟨RJ10, "<init>", "(Ljava/lang/String;)V"⟩
def dkwJ10_init_0 : List UInt8 := [42, 43, 183, 0, 7, 177]
abbrev dktJ10_init_0 : List UInt8 := dkwJ10_init_0 ++ []
theorem dksJ10_init_0 : cJ10_init.data.toList.drop 0 = dktJ10_init_0 := by decide +kernel
theorem dJ10_init_0 : decode cJ10_init 0 = .ok (.aload_n 0, 1) := dk_42 (dk_at dksJ10_init_0 0 rfl rfl)
theorem dJ10_init_1 : decode cJ10_init 1 = .ok (.aload_n 1, 1) := dk_43 (dk_at dksJ10_init_0 1 rfl rfl)
theorem dJ10_init_2 : decode cJ10_init 2 = .ok (.invokespecial 7, 3) := dk_183 0 7 (dk_at dksJ10_init_0 2 rfl rfl)
theorem dJ10_init_5 : decode cJ10_init 5 = .ok (.return_, 1) := dk_177 (dk_at dksJ10_init_0 5 rfl rfl)
abbrev cJ10_init_2 : ByteArray := prog_45_method_4_code
def yJ10_init_2 : MethodName := ⟨RJ10, "<init>", "(Ljava/lang/Throwable;)V"⟩
def dkwJ10_init_2_0 : List UInt8 := [42, 43, 183, 0, 13, 177]
abbrev dktJ10_init_2_0 : List UInt8 := dkwJ10_init_2_0 ++ []
theorem dksJ10_init_2_0 : cJ10_init_2.data.toList.drop 0 = dktJ10_init_2_0 := by decide +kernel
theorem dJ10_init_2_0 : decode cJ10_init_2 0 = .ok (.aload_n 0, 1) := dk_42 (dk_at dksJ10_init_2_0 0 rfl rfl)
theorem dJ10_init_2_1 : decode cJ10_init_2 1 = .ok (.aload_n 1, 1) := dk_43 (dk_at dksJ10_init_2_0 1 rfl rfl)
theorem dJ10_init_2_2 : decode cJ10_init_2 2 = .ok (.invokespecial 13, 3) := dk_183 0 13 (dk_at dksJ10_init_2_0 2 rfl rfl)
theorem dJ10_init_2_5 : decode cJ10_init_2 5 = .ok (.return_, 1) := dk_177 (dk_at dksJ10_init_2_0 5 rfl rfl)
abbrev cJ10_init_3 : ByteArray := prog_45_method_1_code
def yJ10_init_3 : MethodName := ⟨RJ10, "<init>", "()V"⟩
theorem dJ10_init_3_0 : decode cJ10_init_3 0 = .ok (.aload_n 0, 1) := by decide +kernel
theorem dJ10_init_3_1 : decode cJ10_init_3 1 = .ok (.invokespecial 1, 3) := by decide +kernel
theorem dJ10_init_3_4 : decode cJ10_init_3 4 = .ok (.return_, 1) := by decide +kernel
theorem q133 : (Jvm.Cond.initialized "java/lang/RuntimeException") ∈ lw_all := lw_g (lw_at lw_m1 14 rfl) rfl
theorem q277 : (Jvm.Cond.declares ({ cls := "java/lang/RuntimeException", name := "<init>", desc := "()V" } : Jvm.MethodName)) ∈ lw_tbl := lw_at lw_m1 158 rfl
theorem q278 : (Jvm.Cond.declares ({ cls := "java/lang/RuntimeException", name := "<init>", desc := "(Ljava/lang/String;)V" } : Jvm.MethodName)) ∈ lw_tbl := lw_at lw_m1 159 rfl
theorem q549 : (Jvm.Cond.instanceMethod ({ cls := "java/lang/RuntimeException", name := "<init>", desc := "(Ljava/lang/String;)V" } : Jvm.MethodName)) ∈ lw_all := lw_g (lw_at lw_m2 190 rfl) rfl
theorem q550 : (Jvm.Cond.code ({ cls := "java/lang/RuntimeException", name := "<init>", desc := "(Ljava/lang/String;)V" } : Jvm.MethodName) prog_45_method_2_code (2 : Nat) (Option.none : Option Jvm.ClassFile.FieldType)) ∈ lw_all := lw_g (lw_at lw_m2 191 rfl) rfl
theorem q551 : (Jvm.Cond.methodLink "java/lang/RuntimeException" (7 : Nat) ({ cls := "java/lang/Exception", name := "<init>", desc := "(Ljava/lang/String;)V" } : Jvm.MethodName)) ∈ lw_all := lw_g (lw_at lw_m2 192 rfl) rfl
theorem q1051 : (Jvm.Cond.instanceMethod ({ cls := "java/lang/RuntimeException", name := "<init>", desc := "(Ljava/lang/Throwable;)V" } : Jvm.MethodName)) ∈ lw_all := lw_g (lw_at lw_m4 212 rfl) rfl
theorem q1052 : (Jvm.Cond.code ({ cls := "java/lang/RuntimeException", name := "<init>", desc := "(Ljava/lang/Throwable;)V" } : Jvm.MethodName) prog_45_method_4_code (2 : Nat) (Option.none : Option Jvm.ClassFile.FieldType)) ∈ lw_all := lw_g (lw_at lw_m4 213 rfl) rfl
theorem q1053 : (Jvm.Cond.methodLink "java/lang/RuntimeException" (13 : Nat) ({ cls := "java/lang/Exception", name := "<init>", desc := "(Ljava/lang/Throwable;)V" } : Jvm.MethodName)) ∈ lw_all := lw_g (lw_at lw_m4 214 rfl) rfl
theorem q1172 : (Jvm.Cond.instanceMethod ({ cls := "java/lang/RuntimeException", name := "<init>", desc := "()V" } : Jvm.MethodName)) ∈ lw_all := lw_g (lw_at lw_m5 93 rfl) rfl
theorem q1173 : (Jvm.Cond.code ({ cls := "java/lang/RuntimeException", name := "<init>", desc := "()V" } : Jvm.MethodName) prog_45_method_1_code (1 : Nat) (Option.none : Option Jvm.ClassFile.FieldType)) ∈ lw_all := lw_g (lw_at lw_m5 94 rfl) rfl
theorem q1174 : (Jvm.Cond.methodLink "java/lang/RuntimeException" (1 : Nat) ({ cls := "java/lang/Exception", name := "<init>", desc := "()V" } : Jvm.MethodName)) ∈ lw_all := lw_g (lw_at lw_m5 95 rfl) rfl
/-! java/lang/IllegalArgumentException -/
set_option maxRecDepth 100000
def RJ11 : String := "java/lang/IllegalArgumentException"
def TJ11 : u_T := fun k => match k with
  | 0 => ("java/lang/Throwable", "cause", "Ljava/lang/Throwable;", false)
  | 1 => ("java/lang/Throwable", "stackTrace", "[Ljava/lang/StackTraceElement;", false)
  | 2 => ("java/lang/Throwable", "suppressedExceptions", "Ljava/util/List;", false)
  | 3 => ("java/lang/Throwable", "detailMessage", "Ljava/lang/String;", false)
  | 4 => ("java/lang/Throwable", "backtrace", "Ljava/lang/Object;", false)
  | _ => ("java/lang/Throwable", "depth", "I", false)
def tyJ11 : Nat → FieldType := fun k => match k with
  | 0 => .object "java/lang/Throwable"
  | 1 => .array (.object "java/lang/StackTraceElement")
  | 2 => .object "java/util/List"
  | 3 => .object "java/lang/String"
  | 4 => .object "java/lang/Object"
  | _ => .int
abbrev wsJ110 : List Cond := u_ws RJ11 TJ11 6
theorem nmJ11 : ∀ a, a < 6 → ∀ b, b < 6 → a ≠ b → (TJ11 a).2.1 ≠ (TJ11 b).2.1 := by decide +kernel
theorem tyJ11_ok : ∀ k, k < 6 → parseFieldDescriptor (TJ11 k).2.2.1 = some (tyJ11 k) := by decide +kernel
abbrev cJ11_init : ByteArray := prog_36_method_2_code
def yJ11_init : MethodName := ⟨RJ11, "<init>", "(Ljava/lang/String;)V"⟩
def dkwJ11_init_0 : List UInt8 := [42, 43, 183, 0, 7, 177]
abbrev dktJ11_init_0 : List UInt8 := dkwJ11_init_0 ++ []
theorem dksJ11_init_0 : cJ11_init.data.toList.drop 0 = dktJ11_init_0 := by decide +kernel
theorem dJ11_init_0 : decode cJ11_init 0 = .ok (.aload_n 0, 1) := dk_42 (dk_at dksJ11_init_0 0 rfl rfl)
theorem dJ11_init_1 : decode cJ11_init 1 = .ok (.aload_n 1, 1) := dk_43 (dk_at dksJ11_init_0 1 rfl rfl)
theorem dJ11_init_2 : decode cJ11_init 2 = .ok (.invokespecial 7, 3) := dk_183 0 7 (dk_at dksJ11_init_0 2 rfl rfl)
theorem dJ11_init_5 : decode cJ11_init 5 = .ok (.return_, 1) := dk_177 (dk_at dksJ11_init_0 5 rfl rfl)
abbrev cJ11_init_2 : ByteArray := prog_36_method_1_code
def yJ11_init_2 : MethodName := ⟨RJ11, "<init>", "()V"⟩
theorem dJ11_init_2_0 : decode cJ11_init_2 0 = .ok (.aload_n 0, 1) := by decide +kernel
theorem dJ11_init_2_1 : decode cJ11_init_2 1 = .ok (.invokespecial 1, 3) := by decide +kernel
theorem dJ11_init_2_4 : decode cJ11_init_2 4 = .ok (.return_, 1) := by decide +kernel
theorem q134 : (Jvm.Cond.initialized "java/lang/IllegalArgumentException") ∈ lw_all := lw_g (lw_at lw_m1 15 rfl) rfl
theorem q275 : (Jvm.Cond.instantiable "java/lang/IllegalArgumentException" (6 : Nat)) ∈ lw_all := lw_g (lw_at lw_m1 156 rfl) rfl
theorem q276 : (Jvm.Cond.castable "java/lang/IllegalArgumentException" "java/lang/IllegalArgumentException") ∈ lw_tbl := lw_at lw_m1 157 rfl
theorem q283 : (Jvm.Cond.selects "java/lang/IllegalArgumentException" ({ cls := "java/lang/Throwable", name := "fillInStackTrace", desc := "(I)Ljava/lang/Throwable;" } : Jvm.MethodName) ({ cls := "java/lang/Throwable", name := "fillInStackTrace", desc := "(I)Ljava/lang/Throwable;" } : Jvm.MethodName)) ∈ lw_all := lw_g (lw_at lw_m1 164 rfl) rfl
theorem q284 : (Jvm.Cond.selects "java/lang/IllegalArgumentException" ({ cls := "java/lang/Throwable", name := "fillInStackTrace", desc := "()Ljava/lang/Throwable;" } : Jvm.MethodName) ({ cls := "java/lang/Throwable", name := "fillInStackTrace", desc := "()Ljava/lang/Throwable;" } : Jvm.MethodName)) ∈ lw_all := lw_g (lw_at lw_m1 165 rfl) rfl
theorem q285 : (Jvm.Cond.lays "java/lang/IllegalArgumentException" "java/lang/Throwable" "cause" "Ljava/lang/Throwable;") ∈ lw_all := lw_g (lw_at lw_m1 166 rfl) rfl
theorem q287 : (Jvm.Cond.lays "java/lang/IllegalArgumentException" "java/lang/Throwable" "stackTrace" "[Ljava/lang/StackTraceElement;") ∈ lw_all := lw_g (lw_at lw_m1 168 rfl) rfl
theorem q289 : (Jvm.Cond.lays "java/lang/IllegalArgumentException" "java/lang/Throwable" "suppressedExceptions" "Ljava/util/List;") ∈ lw_all := lw_g (lw_at lw_m1 170 rfl) rfl
theorem q291 : (Jvm.Cond.lays "java/lang/IllegalArgumentException" "java/lang/Throwable" "detailMessage" "Ljava/lang/String;") ∈ lw_all := lw_g (lw_at lw_m1 172 rfl) rfl
theorem q293 : (Jvm.Cond.lays "java/lang/IllegalArgumentException" "java/lang/Throwable" "backtrace" "Ljava/lang/Object;") ∈ lw_all := lw_g (lw_at lw_m1 174 rfl) rfl
theorem q546 : (Jvm.Cond.instanceMethod ({ cls := "java/lang/IllegalArgumentException", name := "<init>", desc := "(Ljava/lang/String;)V" } : Jvm.MethodName)) ∈ lw_all := lw_g (lw_at lw_m2 187 rfl) rfl
theorem q547 : (Jvm.Cond.code ({ cls := "java/lang/IllegalArgumentException", name := "<init>", desc := "(Ljava/lang/String;)V" } : Jvm.MethodName) prog_36_method_2_code (2 : Nat) (Option.none : Option Jvm.ClassFile.FieldType)) ∈ lw_all := lw_g (lw_at lw_m2 188 rfl) rfl
theorem q548 : (Jvm.Cond.methodLink "java/lang/IllegalArgumentException" (7 : Nat) ({ cls := "java/lang/RuntimeException", name := "<init>", desc := "(Ljava/lang/String;)V" } : Jvm.MethodName)) ∈ lw_all := lw_g (lw_at lw_m2 189 rfl) rfl
theorem q566 : (Jvm.Cond.lays "java/lang/IllegalArgumentException" "java/lang/Throwable" "depth" "I") ∈ lw_all := lw_g (lw_at lw_m2 207 rfl) rfl
theorem q569 : (Jvm.Cond.superclass "java/lang/IllegalArgumentException" "java/lang/RuntimeException") ∈ lw_all := lw_g (lw_at lw_m2 210 rfl) rfl
theorem q1066 : (Jvm.Cond.selects "java/lang/IllegalArgumentException" ({ cls := "java/lang/Throwable", name := "toString", desc := "()Ljava/lang/String;" } : Jvm.MethodName) ({ cls := "java/lang/Throwable", name := "toString", desc := "()Ljava/lang/String;" } : Jvm.MethodName)) ∈ lw_all := lw_g (lw_at lw_m4 227 rfl) rfl
theorem q1099 : (Jvm.Cond.selects "java/lang/IllegalArgumentException" ({ cls := "java/lang/Object", name := "getClass", desc := "()Ljava/lang/Class;" } : Jvm.MethodName) ({ cls := "java/lang/Object", name := "getClass", desc := "()Ljava/lang/Class;" } : Jvm.MethodName)) ∈ lw_all := lw_g (lw_at lw_m5 20 rfl) rfl
theorem q1127 : (Jvm.Cond.selects "java/lang/IllegalArgumentException" ({ cls := "java/lang/Throwable", name := "getLocalizedMessage", desc := "()Ljava/lang/String;" } : Jvm.MethodName) ({ cls := "java/lang/Throwable", name := "getLocalizedMessage", desc := "()Ljava/lang/String;" } : Jvm.MethodName)) ∈ lw_all := lw_g (lw_at lw_m5 48 rfl) rfl
theorem q1142 : (Jvm.Cond.selects "java/lang/IllegalArgumentException" ({ cls := "java/lang/Throwable", name := "getMessage", desc := "()Ljava/lang/String;" } : Jvm.MethodName) ({ cls := "java/lang/Throwable", name := "getMessage", desc := "()Ljava/lang/String;" } : Jvm.MethodName)) ∈ lw_all := lw_g (lw_at lw_m5 63 rfl) rfl
theorem q1643 : (Jvm.Cond.instanceMethod ({ cls := "java/lang/IllegalArgumentException", name := "<init>", desc := "()V" } : Jvm.MethodName)) ∈ lw_all := lw_g (lw_at lw_m7 84 rfl) rfl
theorem q1644 : (Jvm.Cond.code ({ cls := "java/lang/IllegalArgumentException", name := "<init>", desc := "()V" } : Jvm.MethodName) prog_36_method_1_code (1 : Nat) (Option.none : Option Jvm.ClassFile.FieldType)) ∈ lw_all := lw_g (lw_at lw_m7 85 rfl) rfl
theorem q1645 : (Jvm.Cond.methodLink "java/lang/IllegalArgumentException" (1 : Nat) ({ cls := "java/lang/RuntimeException", name := "<init>", desc := "()V" } : Jvm.MethodName)) ∈ lw_all := lw_g (lw_at lw_m7 86 rfl) rfl
theorem q3569 : (Jvm.Cond.castable "java/lang/IllegalArgumentException" "java/lang/Object") ∈ lw_tbl := lw_at lw_m15 90 rfl
theorem in_J11 : ∀ w ∈ wsJ110, w ∈ lw_all := lw_in wsJ110 [285, 287, 289, 291, 293, 566] (by decide +kernel) (by decide +kernel)
/-! java/lang/AbstractStringBuilder -/
set_option maxRecDepth 100000
def RJ12 : String := "java/lang/AbstractStringBuilder"
abbrev cJ12_init : ByteArray := prog_27_method_2_code
def yJ12_init : MethodName := ⟨RJ12, "<init>", "(I)V"⟩
def dkwJ12_init_1 : List UInt8 := [167, 0, 16, 42, 27, 184, 0, 26, 181, 0, 15, 42, 4, 181, 0, 22, 177]
abbrev dktJ12_init_1 : List UInt8 := dkwJ12_init_1 ++ []
def dkwJ12_init_0 : List UInt8 := [42, 183, 0, 3, 178, 0, 18, 153, 0, 18, 42, 27, 188, 8, 181, 0, 15, 42, 3, 181, 0, 22]
abbrev dktJ12_init_0 : List UInt8 := dkwJ12_init_0 ++ dktJ12_init_1
theorem dksJ12_init_0 : cJ12_init.data.toList.drop 0 = dktJ12_init_0 := by decide +kernel
theorem dksJ12_init_1 : cJ12_init.data.toList.drop 22 = dktJ12_init_1 := dk_seg dksJ12_init_0 22 rfl rfl
theorem dJ12_init_0 : decode cJ12_init 0 = .ok (.aload_n 0, 1) := dk_42 (dk_at dksJ12_init_0 0 rfl rfl)
theorem dJ12_init_1 : decode cJ12_init 1 = .ok (.invokespecial 3, 3) := dk_183 0 3 (dk_at dksJ12_init_0 1 rfl rfl)
theorem dJ12_init_4 : decode cJ12_init 4 = .ok (.getstatic 18, 3) := dk_178 0 18 (dk_at dksJ12_init_0 4 rfl rfl)
theorem dJ12_init_7 : decode cJ12_init 7 = .ok (.ifCond .eq 18, 3) := dk_153 0 18 (dk_at dksJ12_init_0 7 rfl rfl)
theorem dJ12_init_10 : decode cJ12_init 10 = .ok (.aload_n 0, 1) := dk_42 (dk_at dksJ12_init_0 10 rfl rfl)
theorem dJ12_init_11 : decode cJ12_init 11 = .ok (.iload_n 1, 1) := dk_27 (dk_at dksJ12_init_0 11 rfl rfl)
theorem dJ12_init_12 : decode cJ12_init 12 = .ok (.newarray .byte, 2) := dk_188_8 (dk_at dksJ12_init_0 12 rfl rfl)
theorem dJ12_init_14 : decode cJ12_init 14 = .ok (.putfield 15, 3) := dk_181 0 15 (dk_at dksJ12_init_0 14 rfl rfl)
theorem dJ12_init_17 : decode cJ12_init 17 = .ok (.aload_n 0, 1) := dk_42 (dk_at dksJ12_init_0 17 rfl rfl)
theorem dJ12_init_18 : decode cJ12_init 18 = .ok (.iconst 0, 1) := dk_3 (dk_at dksJ12_init_0 18 rfl rfl)
theorem dJ12_init_19 : decode cJ12_init 19 = .ok (.putfield 22, 3) := dk_181 0 22 (dk_at dksJ12_init_0 19 rfl rfl)
theorem dJ12_init_22 : decode cJ12_init 22 = .ok (.goto 16, 3) := dk_167 0 16 (dk_at dksJ12_init_1 0 rfl rfl)
theorem dJ12_init_25 : decode cJ12_init 25 = .ok (.aload_n 0, 1) := dk_42 (dk_at dksJ12_init_1 3 rfl rfl)
theorem dJ12_init_26 : decode cJ12_init 26 = .ok (.iload_n 1, 1) := dk_27 (dk_at dksJ12_init_1 4 rfl rfl)
theorem dJ12_init_27 : decode cJ12_init 27 = .ok (.invokestatic 26, 3) := dk_184 0 26 (dk_at dksJ12_init_1 5 rfl rfl)
theorem dJ12_init_30 : decode cJ12_init 30 = .ok (.putfield 15, 3) := dk_181 0 15 (dk_at dksJ12_init_1 8 rfl rfl)
theorem dJ12_init_33 : decode cJ12_init 33 = .ok (.aload_n 0, 1) := dk_42 (dk_at dksJ12_init_1 11 rfl rfl)
theorem dJ12_init_34 : decode cJ12_init 34 = .ok (.iconst 1, 1) := dk_4 (dk_at dksJ12_init_1 12 rfl rfl)
theorem dJ12_init_35 : decode cJ12_init 35 = .ok (.putfield 22, 3) := dk_181 0 22 (dk_at dksJ12_init_1 13 rfl rfl)
theorem dJ12_init_38 : decode cJ12_init 38 = .ok (.return_, 1) := dk_177 (dk_at dksJ12_init_1 16 rfl rfl)
abbrev cJ12_append : ByteArray := prog_27_method_22_code
def yJ12_append : MethodName := ⟨RJ12, "append", "(Ljava/lang/String;)Ljava/lang/AbstractStringBuilder;"⟩
def dkwJ12_append_1 : List UInt8 := [42, 42, 180, 0, 79, 43, 182, 0, 208, 42, 89, 180, 0, 79, 28, 96, 181, 0, 79, 42, 176]
abbrev dktJ12_append_1 : List UInt8 := dkwJ12_append_1 ++ []
def dkwJ12_append_0 : List UInt8 := [43, 199, 0, 8, 42, 182, 0, 204, 176, 43, 182, 0, 32, 61, 42, 42, 180, 0, 79, 28, 96, 182, 0, 100]
abbrev dktJ12_append_0 : List UInt8 := dkwJ12_append_0 ++ dktJ12_append_1
theorem dksJ12_append_0 : cJ12_append.data.toList.drop 0 = dktJ12_append_0 := by decide +kernel
theorem dksJ12_append_1 : cJ12_append.data.toList.drop 24 = dktJ12_append_1 := dk_seg dksJ12_append_0 24 rfl rfl
theorem dJ12_append_0 : decode cJ12_append 0 = .ok (.aload_n 1, 1) := dk_43 (dk_at dksJ12_append_0 0 rfl rfl)
theorem dJ12_append_1 : decode cJ12_append 1 = .ok (.ifnonnull 8, 3) := dk_199 0 8 (dk_at dksJ12_append_0 1 rfl rfl)
theorem dJ12_append_4 : decode cJ12_append 4 = .ok (.aload_n 0, 1) := dk_42 (dk_at dksJ12_append_0 4 rfl rfl)
theorem dJ12_append_5 : decode cJ12_append 5 = .ok (.invokevirtual 204, 3) := dk_182 0 204 (dk_at dksJ12_append_0 5 rfl rfl)
theorem dJ12_append_8 : decode cJ12_append 8 = .ok (.areturn, 1) := dk_176 (dk_at dksJ12_append_0 8 rfl rfl)
theorem dJ12_append_9 : decode cJ12_append 9 = .ok (.aload_n 1, 1) := dk_43 (dk_at dksJ12_append_0 9 rfl rfl)
theorem dJ12_append_10 : decode cJ12_append 10 = .ok (.invokevirtual 32, 3) := dk_182 0 32 (dk_at dksJ12_append_0 10 rfl rfl)
theorem dJ12_append_13 : decode cJ12_append 13 = .ok (.istore_n 2, 1) := dk_61 (dk_at dksJ12_append_0 13 rfl rfl)
theorem dJ12_append_14 : decode cJ12_append 14 = .ok (.aload_n 0, 1) := dk_42 (dk_at dksJ12_append_0 14 rfl rfl)
theorem dJ12_append_15 : decode cJ12_append 15 = .ok (.aload_n 0, 1) := dk_42 (dk_at dksJ12_append_0 15 rfl rfl)
theorem dJ12_append_16 : decode cJ12_append 16 = .ok (.getfield 79, 3) := dk_180 0 79 (dk_at dksJ12_append_0 16 rfl rfl)
theorem dJ12_append_19 : decode cJ12_append 19 = .ok (.iload_n 2, 1) := dk_28 (dk_at dksJ12_append_0 19 rfl rfl)
theorem dJ12_append_20 : decode cJ12_append 20 = .ok (.iadd, 1) := dk_96 (dk_at dksJ12_append_0 20 rfl rfl)
theorem dJ12_append_21 : decode cJ12_append 21 = .ok (.invokevirtual 100, 3) := dk_182 0 100 (dk_at dksJ12_append_0 21 rfl rfl)
theorem dJ12_append_24 : decode cJ12_append 24 = .ok (.aload_n 0, 1) := dk_42 (dk_at dksJ12_append_1 0 rfl rfl)
theorem dJ12_append_25 : decode cJ12_append 25 = .ok (.aload_n 0, 1) := dk_42 (dk_at dksJ12_append_1 1 rfl rfl)
theorem dJ12_append_26 : decode cJ12_append 26 = .ok (.getfield 79, 3) := dk_180 0 79 (dk_at dksJ12_append_1 2 rfl rfl)
theorem dJ12_append_29 : decode cJ12_append 29 = .ok (.aload_n 1, 1) := dk_43 (dk_at dksJ12_append_1 5 rfl rfl)
theorem dJ12_append_30 : decode cJ12_append 30 = .ok (.invokevirtual 208, 3) := dk_182 0 208 (dk_at dksJ12_append_1 6 rfl rfl)
theorem dJ12_append_33 : decode cJ12_append 33 = .ok (.aload_n 0, 1) := dk_42 (dk_at dksJ12_append_1 9 rfl rfl)
theorem dJ12_append_34 : decode cJ12_append 34 = .ok (.dup, 1) := dk_89 (dk_at dksJ12_append_1 10 rfl rfl)
theorem dJ12_append_35 : decode cJ12_append 35 = .ok (.getfield 79, 3) := dk_180 0 79 (dk_at dksJ12_append_1 11 rfl rfl)
theorem dJ12_append_38 : decode cJ12_append 38 = .ok (.iload_n 2, 1) := dk_28 (dk_at dksJ12_append_1 14 rfl rfl)
theorem dJ12_append_39 : decode cJ12_append 39 = .ok (.iadd, 1) := dk_96 (dk_at dksJ12_append_1 15 rfl rfl)
theorem dJ12_append_40 : decode cJ12_append 40 = .ok (.putfield 79, 3) := dk_181 0 79 (dk_at dksJ12_append_1 16 rfl rfl)
theorem dJ12_append_43 : decode cJ12_append 43 = .ok (.aload_n 0, 1) := dk_42 (dk_at dksJ12_append_1 19 rfl rfl)
theorem dJ12_append_44 : decode cJ12_append 44 = .ok (.areturn, 1) := dk_176 (dk_at dksJ12_append_1 20 rfl rfl)
abbrev cJ12_appendNull : ByteArray := prog_27_method_26_code
def yJ12_appendNull : MethodName := ⟨RJ12, "appendNull", "()Ljava/lang/AbstractStringBuilder;"⟩
def dkwJ12_appendNull_3 : List UInt8 := [184, 0, 226, 60, 42, 27, 181, 0, 79, 42, 176]
abbrev dktJ12_appendNull_3 : List UInt8 := dkwJ12_appendNull_3 ++ []
def dkwJ12_appendNull_2 : List UInt8 := [16, 108, 84, 44, 27, 132, 1, 1, 16, 108, 84, 167, 0, 17, 44, 27, 16, 110, 16, 117, 16, 108, 16, 108]
abbrev dktJ12_appendNull_2 : List UInt8 := dkwJ12_appendNull_2 ++ dktJ12_appendNull_3
def dkwJ12_appendNull_1 : List UInt8 := [153, 0, 38, 44, 27, 132, 1, 1, 16, 110, 84, 44, 27, 132, 1, 1, 16, 117, 84, 44, 27, 132, 1, 1]
abbrev dktJ12_appendNull_1 : List UInt8 := dkwJ12_appendNull_1 ++ dktJ12_appendNull_2
def dkwJ12_appendNull_0 : List UInt8 := [42, 42, 180, 0, 79, 7, 96, 182, 0, 100, 42, 180, 0, 79, 60, 42, 180, 0, 15, 77, 42, 182, 0, 83]
abbrev dktJ12_appendNull_0 : List UInt8 := dkwJ12_appendNull_0 ++ dktJ12_appendNull_1
theorem dksJ12_appendNull_0 : cJ12_appendNull.data.toList.drop 0 = dktJ12_appendNull_0 := by decide +kernel
theorem dksJ12_appendNull_1 : cJ12_appendNull.data.toList.drop 24 = dktJ12_appendNull_1 := dk_seg dksJ12_appendNull_0 24 rfl rfl
theorem dksJ12_appendNull_2 : cJ12_appendNull.data.toList.drop 48 = dktJ12_appendNull_2 := dk_seg dksJ12_appendNull_1 24 rfl rfl
theorem dksJ12_appendNull_3 : cJ12_appendNull.data.toList.drop 72 = dktJ12_appendNull_3 := dk_seg dksJ12_appendNull_2 24 rfl rfl
theorem dJ12_appendNull_0 : decode cJ12_appendNull 0 = .ok (.aload_n 0, 1) := dk_42 (dk_at dksJ12_appendNull_0 0 rfl rfl)
theorem dJ12_appendNull_1 : decode cJ12_appendNull 1 = .ok (.aload_n 0, 1) := dk_42 (dk_at dksJ12_appendNull_0 1 rfl rfl)
theorem dJ12_appendNull_2 : decode cJ12_appendNull 2 = .ok (.getfield 79, 3) := dk_180 0 79 (dk_at dksJ12_appendNull_0 2 rfl rfl)
theorem dJ12_appendNull_5 : decode cJ12_appendNull 5 = .ok (.iconst 4, 1) := dk_7 (dk_at dksJ12_appendNull_0 5 rfl rfl)
theorem dJ12_appendNull_6 : decode cJ12_appendNull 6 = .ok (.iadd, 1) := dk_96 (dk_at dksJ12_appendNull_0 6 rfl rfl)
theorem dJ12_appendNull_7 : decode cJ12_appendNull 7 = .ok (.invokevirtual 100, 3) := dk_182 0 100 (dk_at dksJ12_appendNull_0 7 rfl rfl)
theorem dJ12_appendNull_10 : decode cJ12_appendNull 10 = .ok (.aload_n 0, 1) := dk_42 (dk_at dksJ12_appendNull_0 10 rfl rfl)
theorem dJ12_appendNull_11 : decode cJ12_appendNull 11 = .ok (.getfield 79, 3) := dk_180 0 79 (dk_at dksJ12_appendNull_0 11 rfl rfl)
theorem dJ12_appendNull_14 : decode cJ12_appendNull 14 = .ok (.istore_n 1, 1) := dk_60 (dk_at dksJ12_appendNull_0 14 rfl rfl)
theorem dJ12_appendNull_15 : decode cJ12_appendNull 15 = .ok (.aload_n 0, 1) := dk_42 (dk_at dksJ12_appendNull_0 15 rfl rfl)
theorem dJ12_appendNull_16 : decode cJ12_appendNull 16 = .ok (.getfield 15, 3) := dk_180 0 15 (dk_at dksJ12_appendNull_0 16 rfl rfl)
theorem dJ12_appendNull_19 : decode cJ12_appendNull 19 = .ok (.astore_n 2, 1) := dk_77 (dk_at dksJ12_appendNull_0 19 rfl rfl)
theorem dJ12_appendNull_20 : decode cJ12_appendNull 20 = .ok (.aload_n 0, 1) := dk_42 (dk_at dksJ12_appendNull_0 20 rfl rfl)
theorem dJ12_appendNull_21 : decode cJ12_appendNull 21 = .ok (.invokevirtual 83, 3) := dk_182 0 83 (dk_at dksJ12_appendNull_0 21 rfl rfl)
theorem dJ12_appendNull_24 : decode cJ12_appendNull 24 = .ok (.ifCond .eq 38, 3) := dk_153 0 38 (dk_at dksJ12_appendNull_1 0 rfl rfl)
theorem dJ12_appendNull_27 : decode cJ12_appendNull 27 = .ok (.aload_n 2, 1) := dk_44 (dk_at dksJ12_appendNull_1 3 rfl rfl)
theorem dJ12_appendNull_28 : decode cJ12_appendNull 28 = .ok (.iload_n 1, 1) := dk_27 (dk_at dksJ12_appendNull_1 4 rfl rfl)
theorem dJ12_appendNull_29 : decode cJ12_appendNull 29 = .ok (.iinc 1 1, 3) := dk_132 1 1 (dk_at dksJ12_appendNull_1 5 rfl rfl)
theorem dJ12_appendNull_32 : decode cJ12_appendNull 32 = .ok (.bipush 110, 2) := dk_16 110 (dk_at dksJ12_appendNull_1 8 rfl rfl)
theorem dJ12_appendNull_34 : decode cJ12_appendNull 34 = .ok (.bastore, 1) := dk_84 (dk_at dksJ12_appendNull_1 10 rfl rfl)
theorem dJ12_appendNull_35 : decode cJ12_appendNull 35 = .ok (.aload_n 2, 1) := dk_44 (dk_at dksJ12_appendNull_1 11 rfl rfl)
theorem dJ12_appendNull_36 : decode cJ12_appendNull 36 = .ok (.iload_n 1, 1) := dk_27 (dk_at dksJ12_appendNull_1 12 rfl rfl)
theorem dJ12_appendNull_37 : decode cJ12_appendNull 37 = .ok (.iinc 1 1, 3) := dk_132 1 1 (dk_at dksJ12_appendNull_1 13 rfl rfl)
theorem dJ12_appendNull_40 : decode cJ12_appendNull 40 = .ok (.bipush 117, 2) := dk_16 117 (dk_at dksJ12_appendNull_1 16 rfl rfl)
theorem dJ12_appendNull_42 : decode cJ12_appendNull 42 = .ok (.bastore, 1) := dk_84 (dk_at dksJ12_appendNull_1 18 rfl rfl)
theorem dJ12_appendNull_43 : decode cJ12_appendNull 43 = .ok (.aload_n 2, 1) := dk_44 (dk_at dksJ12_appendNull_1 19 rfl rfl)
theorem dJ12_appendNull_44 : decode cJ12_appendNull 44 = .ok (.iload_n 1, 1) := dk_27 (dk_at dksJ12_appendNull_1 20 rfl rfl)
theorem dJ12_appendNull_45 : decode cJ12_appendNull 45 = .ok (.iinc 1 1, 3) := dk_132 1 1 (dk_at dksJ12_appendNull_1 21 rfl rfl)
theorem dJ12_appendNull_48 : decode cJ12_appendNull 48 = .ok (.bipush 108, 2) := dk_16 108 (dk_at dksJ12_appendNull_2 0 rfl rfl)
theorem dJ12_appendNull_50 : decode cJ12_appendNull 50 = .ok (.bastore, 1) := dk_84 (dk_at dksJ12_appendNull_2 2 rfl rfl)
theorem dJ12_appendNull_51 : decode cJ12_appendNull 51 = .ok (.aload_n 2, 1) := dk_44 (dk_at dksJ12_appendNull_2 3 rfl rfl)
theorem dJ12_appendNull_52 : decode cJ12_appendNull 52 = .ok (.iload_n 1, 1) := dk_27 (dk_at dksJ12_appendNull_2 4 rfl rfl)
theorem dJ12_appendNull_53 : decode cJ12_appendNull 53 = .ok (.iinc 1 1, 3) := dk_132 1 1 (dk_at dksJ12_appendNull_2 5 rfl rfl)
theorem dJ12_appendNull_56 : decode cJ12_appendNull 56 = .ok (.bipush 108, 2) := dk_16 108 (dk_at dksJ12_appendNull_2 8 rfl rfl)
theorem dJ12_appendNull_58 : decode cJ12_appendNull 58 = .ok (.bastore, 1) := dk_84 (dk_at dksJ12_appendNull_2 10 rfl rfl)
theorem dJ12_appendNull_59 : decode cJ12_appendNull 59 = .ok (.goto 17, 3) := dk_167 0 17 (dk_at dksJ12_appendNull_2 11 rfl rfl)
theorem dJ12_appendNull_62 : decode cJ12_appendNull 62 = .ok (.aload_n 2, 1) := dk_44 (dk_at dksJ12_appendNull_2 14 rfl rfl)
theorem dJ12_appendNull_63 : decode cJ12_appendNull 63 = .ok (.iload_n 1, 1) := dk_27 (dk_at dksJ12_appendNull_2 15 rfl rfl)
theorem dJ12_appendNull_64 : decode cJ12_appendNull 64 = .ok (.bipush 110, 2) := dk_16 110 (dk_at dksJ12_appendNull_2 16 rfl rfl)
theorem dJ12_appendNull_66 : decode cJ12_appendNull 66 = .ok (.bipush 117, 2) := dk_16 117 (dk_at dksJ12_appendNull_2 18 rfl rfl)
theorem dJ12_appendNull_68 : decode cJ12_appendNull 68 = .ok (.bipush 108, 2) := dk_16 108 (dk_at dksJ12_appendNull_2 20 rfl rfl)
theorem dJ12_appendNull_70 : decode cJ12_appendNull 70 = .ok (.bipush 108, 2) := dk_16 108 (dk_at dksJ12_appendNull_2 22 rfl rfl)
theorem dJ12_appendNull_72 : decode cJ12_appendNull 72 = .ok (.invokestatic 226, 3) := dk_184 0 226 (dk_at dksJ12_appendNull_3 0 rfl rfl)
theorem dJ12_appendNull_75 : decode cJ12_appendNull 75 = .ok (.istore_n 1, 1) := dk_60 (dk_at dksJ12_appendNull_3 3 rfl rfl)
theorem dJ12_appendNull_76 : decode cJ12_appendNull 76 = .ok (.aload_n 0, 1) := dk_42 (dk_at dksJ12_appendNull_3 4 rfl rfl)
theorem dJ12_appendNull_77 : decode cJ12_appendNull 77 = .ok (.iload_n 1, 1) := dk_27 (dk_at dksJ12_appendNull_3 5 rfl rfl)
theorem dJ12_appendNull_78 : decode cJ12_appendNull 78 = .ok (.putfield 79, 3) := dk_181 0 79 (dk_at dksJ12_appendNull_3 6 rfl rfl)
theorem dJ12_appendNull_81 : decode cJ12_appendNull 81 = .ok (.aload_n 0, 1) := dk_42 (dk_at dksJ12_appendNull_3 9 rfl rfl)
theorem dJ12_appendNull_82 : decode cJ12_appendNull 82 = .ok (.areturn, 1) := dk_176 (dk_at dksJ12_appendNull_3 10 rfl rfl)
abbrev cJ12_ensureCapacityInternal : ByteArray := prog_27_method_9_code
def yJ12_ensureCapacityInternal : MethodName := ⟨RJ12, "ensureCapacityInternal", "(I)V"⟩
def dkwJ12_ensureCapacityInternal_1 : List UInt8 := [182, 0, 104, 42, 180, 0, 22, 120, 184, 0, 108, 181, 0, 15, 177]
abbrev dktJ12_ensureCapacityInternal_1 : List UInt8 := dkwJ12_ensureCapacityInternal_1 ++ []
def dkwJ12_ensureCapacityInternal_0 : List UInt8 := [42, 180, 0, 15, 190, 42, 180, 0, 22, 122, 61, 27, 28, 100, 158, 0, 24, 42, 42, 180, 0, 15, 42, 27]
abbrev dktJ12_ensureCapacityInternal_0 : List UInt8 := dkwJ12_ensureCapacityInternal_0 ++ dktJ12_ensureCapacityInternal_1
theorem dksJ12_ensureCapacityInternal_0 : cJ12_ensureCapacityInternal.data.toList.drop 0 = dktJ12_ensureCapacityInternal_0 := by decide +kernel
theorem dksJ12_ensureCapacityInternal_1 : cJ12_ensureCapacityInternal.data.toList.drop 24 = dktJ12_ensureCapacityInternal_1 := dk_seg dksJ12_ensureCapacityInternal_0 24 rfl rfl
theorem dJ12_ensureCapacityInternal_0 : decode cJ12_ensureCapacityInternal 0 = .ok (.aload_n 0, 1) := dk_42 (dk_at dksJ12_ensureCapacityInternal_0 0 rfl rfl)
theorem dJ12_ensureCapacityInternal_1 : decode cJ12_ensureCapacityInternal 1 = .ok (.getfield 15, 3) := dk_180 0 15 (dk_at dksJ12_ensureCapacityInternal_0 1 rfl rfl)
theorem dJ12_ensureCapacityInternal_4 : decode cJ12_ensureCapacityInternal 4 = .ok (.arraylength, 1) := dk_190 (dk_at dksJ12_ensureCapacityInternal_0 4 rfl rfl)
theorem dJ12_ensureCapacityInternal_5 : decode cJ12_ensureCapacityInternal 5 = .ok (.aload_n 0, 1) := dk_42 (dk_at dksJ12_ensureCapacityInternal_0 5 rfl rfl)
theorem dJ12_ensureCapacityInternal_6 : decode cJ12_ensureCapacityInternal 6 = .ok (.getfield 22, 3) := dk_180 0 22 (dk_at dksJ12_ensureCapacityInternal_0 6 rfl rfl)
theorem dJ12_ensureCapacityInternal_9 : decode cJ12_ensureCapacityInternal 9 = .ok (.ishr, 1) := dk_122 (dk_at dksJ12_ensureCapacityInternal_0 9 rfl rfl)
theorem dJ12_ensureCapacityInternal_10 : decode cJ12_ensureCapacityInternal 10 = .ok (.istore_n 2, 1) := dk_61 (dk_at dksJ12_ensureCapacityInternal_0 10 rfl rfl)
theorem dJ12_ensureCapacityInternal_11 : decode cJ12_ensureCapacityInternal 11 = .ok (.iload_n 1, 1) := dk_27 (dk_at dksJ12_ensureCapacityInternal_0 11 rfl rfl)
theorem dJ12_ensureCapacityInternal_12 : decode cJ12_ensureCapacityInternal 12 = .ok (.iload_n 2, 1) := dk_28 (dk_at dksJ12_ensureCapacityInternal_0 12 rfl rfl)
theorem dJ12_ensureCapacityInternal_13 : decode cJ12_ensureCapacityInternal 13 = .ok (.isub, 1) := dk_100 (dk_at dksJ12_ensureCapacityInternal_0 13 rfl rfl)
theorem dJ12_ensureCapacityInternal_14 : decode cJ12_ensureCapacityInternal 14 = .ok (.ifCond .le 24, 3) := dk_158 0 24 (dk_at dksJ12_ensureCapacityInternal_0 14 rfl rfl)
theorem dJ12_ensureCapacityInternal_17 : decode cJ12_ensureCapacityInternal 17 = .ok (.aload_n 0, 1) := dk_42 (dk_at dksJ12_ensureCapacityInternal_0 17 rfl rfl)
theorem dJ12_ensureCapacityInternal_18 : decode cJ12_ensureCapacityInternal 18 = .ok (.aload_n 0, 1) := dk_42 (dk_at dksJ12_ensureCapacityInternal_0 18 rfl rfl)
theorem dJ12_ensureCapacityInternal_19 : decode cJ12_ensureCapacityInternal 19 = .ok (.getfield 15, 3) := dk_180 0 15 (dk_at dksJ12_ensureCapacityInternal_0 19 rfl rfl)
theorem dJ12_ensureCapacityInternal_22 : decode cJ12_ensureCapacityInternal 22 = .ok (.aload_n 0, 1) := dk_42 (dk_at dksJ12_ensureCapacityInternal_0 22 rfl rfl)
theorem dJ12_ensureCapacityInternal_23 : decode cJ12_ensureCapacityInternal 23 = .ok (.iload_n 1, 1) := dk_27 (dk_at dksJ12_ensureCapacityInternal_0 23 rfl rfl)
theorem dJ12_ensureCapacityInternal_24 : decode cJ12_ensureCapacityInternal 24 = .ok (.invokevirtual 104, 3) := dk_182 0 104 (dk_at dksJ12_ensureCapacityInternal_1 0 rfl rfl)
theorem dJ12_ensureCapacityInternal_27 : decode cJ12_ensureCapacityInternal 27 = .ok (.aload_n 0, 1) := dk_42 (dk_at dksJ12_ensureCapacityInternal_1 3 rfl rfl)
theorem dJ12_ensureCapacityInternal_28 : decode cJ12_ensureCapacityInternal 28 = .ok (.getfield 22, 3) := dk_180 0 22 (dk_at dksJ12_ensureCapacityInternal_1 4 rfl rfl)
theorem dJ12_ensureCapacityInternal_31 : decode cJ12_ensureCapacityInternal 31 = .ok (.ishl, 1) := dk_120 (dk_at dksJ12_ensureCapacityInternal_1 7 rfl rfl)
theorem dJ12_ensureCapacityInternal_32 : decode cJ12_ensureCapacityInternal 32 = .ok (.invokestatic 108, 3) := dk_184 0 108 (dk_at dksJ12_ensureCapacityInternal_1 8 rfl rfl)
theorem dJ12_ensureCapacityInternal_35 : decode cJ12_ensureCapacityInternal 35 = .ok (.putfield 15, 3) := dk_181 0 15 (dk_at dksJ12_ensureCapacityInternal_1 11 rfl rfl)
theorem dJ12_ensureCapacityInternal_38 : decode cJ12_ensureCapacityInternal 38 = .ok (.return_, 1) := dk_177 (dk_at dksJ12_ensureCapacityInternal_1 14 rfl rfl)
abbrev cJ12_newCapacity : ByteArray := prog_27_method_10_code
def yJ12_newCapacity : MethodName := ⟨RJ12, "newCapacity", "(I)I"⟩
def dkwJ12_newCapacity_2 : List UInt8 := [183, 0, 124, 191, 21, 5, 42, 180, 0, 22, 122, 172]
abbrev dktJ12_newCapacity_2 : List UInt8 := dkwJ12_newCapacity_2 ++ []
def dkwJ12_newCapacity_1 : List UInt8 := [180, 0, 22, 120, 96, 184, 0, 114, 54, 5, 21, 5, 18, 39, 160, 0, 13, 187, 0, 120, 89, 18, 122]
abbrev dktJ12_newCapacity_1 : List UInt8 := dkwJ12_newCapacity_1 ++ dktJ12_newCapacity_2
def dkwJ12_newCapacity_0 : List UInt8 := [42, 180, 0, 15, 190, 61, 27, 42, 180, 0, 22, 120, 62, 29, 28, 100, 54, 4, 28, 21, 4, 28, 5, 42]
abbrev dktJ12_newCapacity_0 : List UInt8 := dkwJ12_newCapacity_0 ++ dktJ12_newCapacity_1
theorem dksJ12_newCapacity_0 : cJ12_newCapacity.data.toList.drop 0 = dktJ12_newCapacity_0 := by decide +kernel
theorem dksJ12_newCapacity_1 : cJ12_newCapacity.data.toList.drop 24 = dktJ12_newCapacity_1 := dk_seg dksJ12_newCapacity_0 24 rfl rfl
theorem dksJ12_newCapacity_2 : cJ12_newCapacity.data.toList.drop 47 = dktJ12_newCapacity_2 := dk_seg dksJ12_newCapacity_1 23 rfl rfl
theorem dJ12_newCapacity_0 : decode cJ12_newCapacity 0 = .ok (.aload_n 0, 1) := dk_42 (dk_at dksJ12_newCapacity_0 0 rfl rfl)
theorem dJ12_newCapacity_1 : decode cJ12_newCapacity 1 = .ok (.getfield 15, 3) := dk_180 0 15 (dk_at dksJ12_newCapacity_0 1 rfl rfl)
theorem dJ12_newCapacity_4 : decode cJ12_newCapacity 4 = .ok (.arraylength, 1) := dk_190 (dk_at dksJ12_newCapacity_0 4 rfl rfl)
theorem dJ12_newCapacity_5 : decode cJ12_newCapacity 5 = .ok (.istore_n 2, 1) := dk_61 (dk_at dksJ12_newCapacity_0 5 rfl rfl)
theorem dJ12_newCapacity_6 : decode cJ12_newCapacity 6 = .ok (.iload_n 1, 1) := dk_27 (dk_at dksJ12_newCapacity_0 6 rfl rfl)
theorem dJ12_newCapacity_7 : decode cJ12_newCapacity 7 = .ok (.aload_n 0, 1) := dk_42 (dk_at dksJ12_newCapacity_0 7 rfl rfl)
theorem dJ12_newCapacity_8 : decode cJ12_newCapacity 8 = .ok (.getfield 22, 3) := dk_180 0 22 (dk_at dksJ12_newCapacity_0 8 rfl rfl)
theorem dJ12_newCapacity_11 : decode cJ12_newCapacity 11 = .ok (.ishl, 1) := dk_120 (dk_at dksJ12_newCapacity_0 11 rfl rfl)
theorem dJ12_newCapacity_12 : decode cJ12_newCapacity 12 = .ok (.istore_n 3, 1) := dk_62 (dk_at dksJ12_newCapacity_0 12 rfl rfl)
theorem dJ12_newCapacity_13 : decode cJ12_newCapacity 13 = .ok (.iload_n 3, 1) := dk_29 (dk_at dksJ12_newCapacity_0 13 rfl rfl)
theorem dJ12_newCapacity_14 : decode cJ12_newCapacity 14 = .ok (.iload_n 2, 1) := dk_28 (dk_at dksJ12_newCapacity_0 14 rfl rfl)
theorem dJ12_newCapacity_15 : decode cJ12_newCapacity 15 = .ok (.isub, 1) := dk_100 (dk_at dksJ12_newCapacity_0 15 rfl rfl)
theorem dJ12_newCapacity_16 : decode cJ12_newCapacity 16 = .ok (.istore 4, 2) := dk_54 4 (dk_at dksJ12_newCapacity_0 16 rfl rfl)
theorem dJ12_newCapacity_18 : decode cJ12_newCapacity 18 = .ok (.iload_n 2, 1) := dk_28 (dk_at dksJ12_newCapacity_0 18 rfl rfl)
theorem dJ12_newCapacity_19 : decode cJ12_newCapacity 19 = .ok (.iload 4, 2) := dk_21 4 (dk_at dksJ12_newCapacity_0 19 rfl rfl)
theorem dJ12_newCapacity_21 : decode cJ12_newCapacity 21 = .ok (.iload_n 2, 1) := dk_28 (dk_at dksJ12_newCapacity_0 21 rfl rfl)
theorem dJ12_newCapacity_22 : decode cJ12_newCapacity 22 = .ok (.iconst 2, 1) := dk_5 (dk_at dksJ12_newCapacity_0 22 rfl rfl)
theorem dJ12_newCapacity_23 : decode cJ12_newCapacity 23 = .ok (.aload_n 0, 1) := dk_42 (dk_at dksJ12_newCapacity_0 23 rfl rfl)
theorem dJ12_newCapacity_24 : decode cJ12_newCapacity 24 = .ok (.getfield 22, 3) := dk_180 0 22 (dk_at dksJ12_newCapacity_1 0 rfl rfl)
theorem dJ12_newCapacity_27 : decode cJ12_newCapacity 27 = .ok (.ishl, 1) := dk_120 (dk_at dksJ12_newCapacity_1 3 rfl rfl)
theorem dJ12_newCapacity_28 : decode cJ12_newCapacity 28 = .ok (.iadd, 1) := dk_96 (dk_at dksJ12_newCapacity_1 4 rfl rfl)
theorem dJ12_newCapacity_29 : decode cJ12_newCapacity 29 = .ok (.invokestatic 114, 3) := dk_184 0 114 (dk_at dksJ12_newCapacity_1 5 rfl rfl)
theorem dJ12_newCapacity_32 : decode cJ12_newCapacity 32 = .ok (.istore 5, 2) := dk_54 5 (dk_at dksJ12_newCapacity_1 8 rfl rfl)
theorem dJ12_newCapacity_34 : decode cJ12_newCapacity 34 = .ok (.iload 5, 2) := dk_21 5 (dk_at dksJ12_newCapacity_1 10 rfl rfl)
theorem dJ12_newCapacity_36 : decode cJ12_newCapacity 36 = .ok (.ldc 39, 2) := dk_18 39 (dk_at dksJ12_newCapacity_1 12 rfl rfl)
theorem dJ12_newCapacity_38 : decode cJ12_newCapacity 38 = .ok (.if_icmp .ne 13, 3) := dk_160 0 13 (dk_at dksJ12_newCapacity_1 14 rfl rfl)
theorem dJ12_newCapacity_41 : decode cJ12_newCapacity 41 = .ok (.new 120, 3) := dk_187 0 120 (dk_at dksJ12_newCapacity_1 17 rfl rfl)
theorem dJ12_newCapacity_44 : decode cJ12_newCapacity 44 = .ok (.dup, 1) := dk_89 (dk_at dksJ12_newCapacity_1 20 rfl rfl)
theorem dJ12_newCapacity_45 : decode cJ12_newCapacity 45 = .ok (.ldc 122, 2) := dk_18 122 (dk_at dksJ12_newCapacity_1 21 rfl rfl)
theorem dJ12_newCapacity_47 : decode cJ12_newCapacity 47 = .ok (.invokespecial 124, 3) := dk_183 0 124 (dk_at dksJ12_newCapacity_2 0 rfl rfl)
theorem dJ12_newCapacity_50 : decode cJ12_newCapacity 50 = .ok (.athrow, 1) := dk_191 (dk_at dksJ12_newCapacity_2 3 rfl rfl)
theorem dJ12_newCapacity_51 : decode cJ12_newCapacity 51 = .ok (.iload 5, 2) := dk_21 5 (dk_at dksJ12_newCapacity_2 4 rfl rfl)
theorem dJ12_newCapacity_53 : decode cJ12_newCapacity 53 = .ok (.aload_n 0, 1) := dk_42 (dk_at dksJ12_newCapacity_2 6 rfl rfl)
theorem dJ12_newCapacity_54 : decode cJ12_newCapacity 54 = .ok (.getfield 22, 3) := dk_180 0 22 (dk_at dksJ12_newCapacity_2 7 rfl rfl)
theorem dJ12_newCapacity_57 : decode cJ12_newCapacity 57 = .ok (.ishr, 1) := dk_122 (dk_at dksJ12_newCapacity_2 10 rfl rfl)
theorem dJ12_newCapacity_58 : decode cJ12_newCapacity 58 = .ok (.ireturn, 1) := dk_172 (dk_at dksJ12_newCapacity_2 11 rfl rfl)
abbrev cJ12_isLatin1 : ByteArray := prog_27_method_68_code
def yJ12_isLatin1 : MethodName := ⟨RJ12, "isLatin1", "()Z"⟩
def dkwJ12_isLatin1_0 : List UInt8 := [178, 0, 18, 153, 0, 14, 42, 180, 0, 22, 154, 0, 7, 4, 167, 0, 4, 3, 172]
abbrev dktJ12_isLatin1_0 : List UInt8 := dkwJ12_isLatin1_0 ++ []
theorem dksJ12_isLatin1_0 : cJ12_isLatin1.data.toList.drop 0 = dktJ12_isLatin1_0 := by decide +kernel
theorem dJ12_isLatin1_0 : decode cJ12_isLatin1 0 = .ok (.getstatic 18, 3) := dk_178 0 18 (dk_at dksJ12_isLatin1_0 0 rfl rfl)
theorem dJ12_isLatin1_3 : decode cJ12_isLatin1 3 = .ok (.ifCond .eq 14, 3) := dk_153 0 14 (dk_at dksJ12_isLatin1_0 3 rfl rfl)
theorem dJ12_isLatin1_6 : decode cJ12_isLatin1 6 = .ok (.aload_n 0, 1) := dk_42 (dk_at dksJ12_isLatin1_0 6 rfl rfl)
theorem dJ12_isLatin1_7 : decode cJ12_isLatin1 7 = .ok (.getfield 22, 3) := dk_180 0 22 (dk_at dksJ12_isLatin1_0 7 rfl rfl)
theorem dJ12_isLatin1_10 : decode cJ12_isLatin1 10 = .ok (.ifCond .ne 7, 3) := dk_154 0 7 (dk_at dksJ12_isLatin1_0 10 rfl rfl)
theorem dJ12_isLatin1_13 : decode cJ12_isLatin1 13 = .ok (.iconst 1, 1) := dk_4 (dk_at dksJ12_isLatin1_0 13 rfl rfl)
theorem dJ12_isLatin1_14 : decode cJ12_isLatin1 14 = .ok (.goto 4, 3) := dk_167 0 4 (dk_at dksJ12_isLatin1_0 14 rfl rfl)
theorem dJ12_isLatin1_17 : decode cJ12_isLatin1 17 = .ok (.iconst 0, 1) := dk_3 (dk_at dksJ12_isLatin1_0 17 rfl rfl)
theorem dJ12_isLatin1_18 : decode cJ12_isLatin1 18 = .ok (.ireturn, 1) := dk_172 (dk_at dksJ12_isLatin1_0 18 rfl rfl)
abbrev cJ12_putStringAt : ByteArray := prog_27_method_73_code
def yJ12_putStringAt : MethodName := ⟨RJ12, "putStringAt", "(ILjava/lang/String;)V"⟩
def dkwJ12_putStringAt_0 : List UInt8 := [42, 44, 182, 1, 141, 44, 42, 180, 0, 15, 27, 42, 180, 0, 22, 182, 1, 143, 177]
abbrev dktJ12_putStringAt_0 : List UInt8 := dkwJ12_putStringAt_0 ++ []
theorem dksJ12_putStringAt_0 : cJ12_putStringAt.data.toList.drop 0 = dktJ12_putStringAt_0 := by decide +kernel
theorem dJ12_putStringAt_0 : decode cJ12_putStringAt 0 = .ok (.aload_n 0, 1) := dk_42 (dk_at dksJ12_putStringAt_0 0 rfl rfl)
theorem dJ12_putStringAt_1 : decode cJ12_putStringAt 1 = .ok (.aload_n 2, 1) := dk_44 (dk_at dksJ12_putStringAt_0 1 rfl rfl)
theorem dJ12_putStringAt_2 : decode cJ12_putStringAt 2 = .ok (.invokevirtual 397, 3) := dk_182 1 141 (dk_at dksJ12_putStringAt_0 2 rfl rfl)
theorem dJ12_putStringAt_5 : decode cJ12_putStringAt 5 = .ok (.aload_n 2, 1) := dk_44 (dk_at dksJ12_putStringAt_0 5 rfl rfl)
theorem dJ12_putStringAt_6 : decode cJ12_putStringAt 6 = .ok (.aload_n 0, 1) := dk_42 (dk_at dksJ12_putStringAt_0 6 rfl rfl)
theorem dJ12_putStringAt_7 : decode cJ12_putStringAt 7 = .ok (.getfield 15, 3) := dk_180 0 15 (dk_at dksJ12_putStringAt_0 7 rfl rfl)
theorem dJ12_putStringAt_10 : decode cJ12_putStringAt 10 = .ok (.iload_n 1, 1) := dk_27 (dk_at dksJ12_putStringAt_0 10 rfl rfl)
theorem dJ12_putStringAt_11 : decode cJ12_putStringAt 11 = .ok (.aload_n 0, 1) := dk_42 (dk_at dksJ12_putStringAt_0 11 rfl rfl)
theorem dJ12_putStringAt_12 : decode cJ12_putStringAt 12 = .ok (.getfield 22, 3) := dk_180 0 22 (dk_at dksJ12_putStringAt_0 12 rfl rfl)
theorem dJ12_putStringAt_15 : decode cJ12_putStringAt 15 = .ok (.invokevirtual 399, 3) := dk_182 1 143 (dk_at dksJ12_putStringAt_0 15 rfl rfl)
theorem dJ12_putStringAt_18 : decode cJ12_putStringAt 18 = .ok (.return_, 1) := dk_177 (dk_at dksJ12_putStringAt_0 18 rfl rfl)
abbrev cJ12_inflateIfNeededFor : ByteArray := prog_27_method_71_code
def yJ12_inflateIfNeededFor : MethodName := ⟨RJ12, "inflateIfNeededFor", "(Ljava/lang/String;)V"⟩
def dkwJ12_inflateIfNeededFor_0 : List UInt8 := [178, 0, 18, 153, 0, 18, 42, 180, 0, 22, 43, 182, 0, 40, 159, 0, 7, 42, 182, 0, 195, 177]
abbrev dktJ12_inflateIfNeededFor_0 : List UInt8 := dkwJ12_inflateIfNeededFor_0 ++ []
theorem dksJ12_inflateIfNeededFor_0 : cJ12_inflateIfNeededFor.data.toList.drop 0 = dktJ12_inflateIfNeededFor_0 := by decide +kernel
theorem dJ12_inflateIfNeededFor_0 : decode cJ12_inflateIfNeededFor 0 = .ok (.getstatic 18, 3) := dk_178 0 18 (dk_at dksJ12_inflateIfNeededFor_0 0 rfl rfl)
theorem dJ12_inflateIfNeededFor_3 : decode cJ12_inflateIfNeededFor 3 = .ok (.ifCond .eq 18, 3) := dk_153 0 18 (dk_at dksJ12_inflateIfNeededFor_0 3 rfl rfl)
theorem dJ12_inflateIfNeededFor_6 : decode cJ12_inflateIfNeededFor 6 = .ok (.aload_n 0, 1) := dk_42 (dk_at dksJ12_inflateIfNeededFor_0 6 rfl rfl)
theorem dJ12_inflateIfNeededFor_7 : decode cJ12_inflateIfNeededFor 7 = .ok (.getfield 22, 3) := dk_180 0 22 (dk_at dksJ12_inflateIfNeededFor_0 7 rfl rfl)
theorem dJ12_inflateIfNeededFor_10 : decode cJ12_inflateIfNeededFor 10 = .ok (.aload_n 1, 1) := dk_43 (dk_at dksJ12_inflateIfNeededFor_0 10 rfl rfl)
theorem dJ12_inflateIfNeededFor_11 : decode cJ12_inflateIfNeededFor 11 = .ok (.invokevirtual 40, 3) := dk_182 0 40 (dk_at dksJ12_inflateIfNeededFor_0 11 rfl rfl)
theorem dJ12_inflateIfNeededFor_14 : decode cJ12_inflateIfNeededFor 14 = .ok (.if_icmp .eq 7, 3) := dk_159 0 7 (dk_at dksJ12_inflateIfNeededFor_0 14 rfl rfl)
theorem dJ12_inflateIfNeededFor_17 : decode cJ12_inflateIfNeededFor 17 = .ok (.aload_n 0, 1) := dk_42 (dk_at dksJ12_inflateIfNeededFor_0 17 rfl rfl)
theorem dJ12_inflateIfNeededFor_18 : decode cJ12_inflateIfNeededFor 18 = .ok (.invokevirtual 195, 3) := dk_182 0 195 (dk_at dksJ12_inflateIfNeededFor_0 18 rfl rfl)
theorem dJ12_inflateIfNeededFor_21 : decode cJ12_inflateIfNeededFor 21 = .ok (.return_, 1) := dk_177 (dk_at dksJ12_inflateIfNeededFor_0 21 rfl rfl)
abbrev cJ12_inflate : ByteArray := prog_27_method_11_code
def yJ12_inflate : MethodName := ⟨RJ12, "inflate", "()V"⟩
def dkwJ12_inflate_1 : List UInt8 := [42, 180, 0, 79, 184, 0, 125, 42, 43, 181, 0, 15, 42, 4, 181, 0, 22, 177]
abbrev dktJ12_inflate_1 : List UInt8 := dkwJ12_inflate_1 ++ []
def dkwJ12_inflate_0 : List UInt8 := [42, 182, 0, 83, 154, 0, 4, 177, 42, 180, 0, 15, 190, 184, 0, 26, 76, 42, 180, 0, 15, 3, 43, 3]
abbrev dktJ12_inflate_0 : List UInt8 := dkwJ12_inflate_0 ++ dktJ12_inflate_1
theorem dksJ12_inflate_0 : cJ12_inflate.data.toList.drop 0 = dktJ12_inflate_0 := by decide +kernel
theorem dksJ12_inflate_1 : cJ12_inflate.data.toList.drop 24 = dktJ12_inflate_1 := dk_seg dksJ12_inflate_0 24 rfl rfl
theorem dJ12_inflate_0 : decode cJ12_inflate 0 = .ok (.aload_n 0, 1) := dk_42 (dk_at dksJ12_inflate_0 0 rfl rfl)
theorem dJ12_inflate_1 : decode cJ12_inflate 1 = .ok (.invokevirtual 83, 3) := dk_182 0 83 (dk_at dksJ12_inflate_0 1 rfl rfl)
theorem dJ12_inflate_4 : decode cJ12_inflate 4 = .ok (.ifCond .ne 4, 3) := dk_154 0 4 (dk_at dksJ12_inflate_0 4 rfl rfl)
theorem dJ12_inflate_7 : decode cJ12_inflate 7 = .ok (.return_, 1) := dk_177 (dk_at dksJ12_inflate_0 7 rfl rfl)
theorem dJ12_inflate_8 : decode cJ12_inflate 8 = .ok (.aload_n 0, 1) := dk_42 (dk_at dksJ12_inflate_0 8 rfl rfl)
theorem dJ12_inflate_9 : decode cJ12_inflate 9 = .ok (.getfield 15, 3) := dk_180 0 15 (dk_at dksJ12_inflate_0 9 rfl rfl)
theorem dJ12_inflate_12 : decode cJ12_inflate 12 = .ok (.arraylength, 1) := dk_190 (dk_at dksJ12_inflate_0 12 rfl rfl)
theorem dJ12_inflate_13 : decode cJ12_inflate 13 = .ok (.invokestatic 26, 3) := dk_184 0 26 (dk_at dksJ12_inflate_0 13 rfl rfl)
theorem dJ12_inflate_16 : decode cJ12_inflate 16 = .ok (.astore_n 1, 1) := dk_76 (dk_at dksJ12_inflate_0 16 rfl rfl)
theorem dJ12_inflate_17 : decode cJ12_inflate 17 = .ok (.aload_n 0, 1) := dk_42 (dk_at dksJ12_inflate_0 17 rfl rfl)
theorem dJ12_inflate_18 : decode cJ12_inflate 18 = .ok (.getfield 15, 3) := dk_180 0 15 (dk_at dksJ12_inflate_0 18 rfl rfl)
theorem dJ12_inflate_21 : decode cJ12_inflate 21 = .ok (.iconst 0, 1) := dk_3 (dk_at dksJ12_inflate_0 21 rfl rfl)
theorem dJ12_inflate_22 : decode cJ12_inflate 22 = .ok (.aload_n 1, 1) := dk_43 (dk_at dksJ12_inflate_0 22 rfl rfl)
theorem dJ12_inflate_23 : decode cJ12_inflate 23 = .ok (.iconst 0, 1) := dk_3 (dk_at dksJ12_inflate_0 23 rfl rfl)
theorem dJ12_inflate_24 : decode cJ12_inflate 24 = .ok (.aload_n 0, 1) := dk_42 (dk_at dksJ12_inflate_1 0 rfl rfl)
theorem dJ12_inflate_25 : decode cJ12_inflate 25 = .ok (.getfield 79, 3) := dk_180 0 79 (dk_at dksJ12_inflate_1 1 rfl rfl)
theorem dJ12_inflate_28 : decode cJ12_inflate 28 = .ok (.invokestatic 125, 3) := dk_184 0 125 (dk_at dksJ12_inflate_1 4 rfl rfl)
theorem dJ12_inflate_31 : decode cJ12_inflate 31 = .ok (.aload_n 0, 1) := dk_42 (dk_at dksJ12_inflate_1 7 rfl rfl)
theorem dJ12_inflate_32 : decode cJ12_inflate 32 = .ok (.aload_n 1, 1) := dk_43 (dk_at dksJ12_inflate_1 8 rfl rfl)
theorem dJ12_inflate_33 : decode cJ12_inflate 33 = .ok (.putfield 15, 3) := dk_181 0 15 (dk_at dksJ12_inflate_1 9 rfl rfl)
theorem dJ12_inflate_36 : decode cJ12_inflate 36 = .ok (.aload_n 0, 1) := dk_42 (dk_at dksJ12_inflate_1 12 rfl rfl)
theorem dJ12_inflate_37 : decode cJ12_inflate 37 = .ok (.iconst 1, 1) := dk_4 (dk_at dksJ12_inflate_1 13 rfl rfl)
theorem dJ12_inflate_38 : decode cJ12_inflate 38 = .ok (.putfield 22, 3) := dk_181 0 22 (dk_at dksJ12_inflate_1 14 rfl rfl)
theorem dJ12_inflate_41 : decode cJ12_inflate 41 = .ok (.return_, 1) := dk_177 (dk_at dksJ12_inflate_1 17 rfl rfl)
abbrev cJ12_append_2 : ByteArray := prog_27_method_32_code
def yJ12_append_2 : MethodName := ⟨RJ12, "append", "(I)Ljava/lang/AbstractStringBuilder;"⟩
def dkwJ12_append_2_2 : List UInt8 := [42, 29, 181, 0, 79, 42, 176]
abbrev dktJ12_append_2_2 : List UInt8 := dkwJ12_append_2_2 ++ []
def dkwJ12_append_2_1 : List UInt8 := [27, 29, 42, 180, 0, 15, 184, 0, 248, 87, 167, 0, 14, 27, 28, 29, 42, 180, 0, 15, 184, 0, 251, 87]
abbrev dktJ12_append_2_1 : List UInt8 := dkwJ12_append_2_1 ++ dktJ12_append_2_2
def dkwJ12_append_2_0 : List UInt8 := [42, 180, 0, 79, 61, 28, 27, 184, 0, 245, 96, 62, 42, 29, 182, 0, 100, 42, 182, 0, 83, 153, 0, 16]
abbrev dktJ12_append_2_0 : List UInt8 := dkwJ12_append_2_0 ++ dktJ12_append_2_1
theorem dksJ12_append_2_0 : cJ12_append_2.data.toList.drop 0 = dktJ12_append_2_0 := by decide +kernel
theorem dksJ12_append_2_1 : cJ12_append_2.data.toList.drop 24 = dktJ12_append_2_1 := dk_seg dksJ12_append_2_0 24 rfl rfl
theorem dksJ12_append_2_2 : cJ12_append_2.data.toList.drop 48 = dktJ12_append_2_2 := dk_seg dksJ12_append_2_1 24 rfl rfl
theorem dJ12_append_2_0 : decode cJ12_append_2 0 = .ok (.aload_n 0, 1) := dk_42 (dk_at dksJ12_append_2_0 0 rfl rfl)
theorem dJ12_append_2_1 : decode cJ12_append_2 1 = .ok (.getfield 79, 3) := dk_180 0 79 (dk_at dksJ12_append_2_0 1 rfl rfl)
theorem dJ12_append_2_4 : decode cJ12_append_2 4 = .ok (.istore_n 2, 1) := dk_61 (dk_at dksJ12_append_2_0 4 rfl rfl)
theorem dJ12_append_2_5 : decode cJ12_append_2 5 = .ok (.iload_n 2, 1) := dk_28 (dk_at dksJ12_append_2_0 5 rfl rfl)
theorem dJ12_append_2_6 : decode cJ12_append_2 6 = .ok (.iload_n 1, 1) := dk_27 (dk_at dksJ12_append_2_0 6 rfl rfl)
theorem dJ12_append_2_7 : decode cJ12_append_2 7 = .ok (.invokestatic 245, 3) := dk_184 0 245 (dk_at dksJ12_append_2_0 7 rfl rfl)
theorem dJ12_append_2_10 : decode cJ12_append_2 10 = .ok (.iadd, 1) := dk_96 (dk_at dksJ12_append_2_0 10 rfl rfl)
theorem dJ12_append_2_11 : decode cJ12_append_2 11 = .ok (.istore_n 3, 1) := dk_62 (dk_at dksJ12_append_2_0 11 rfl rfl)
theorem dJ12_append_2_12 : decode cJ12_append_2 12 = .ok (.aload_n 0, 1) := dk_42 (dk_at dksJ12_append_2_0 12 rfl rfl)
theorem dJ12_append_2_13 : decode cJ12_append_2 13 = .ok (.iload_n 3, 1) := dk_29 (dk_at dksJ12_append_2_0 13 rfl rfl)
theorem dJ12_append_2_14 : decode cJ12_append_2 14 = .ok (.invokevirtual 100, 3) := dk_182 0 100 (dk_at dksJ12_append_2_0 14 rfl rfl)
theorem dJ12_append_2_17 : decode cJ12_append_2 17 = .ok (.aload_n 0, 1) := dk_42 (dk_at dksJ12_append_2_0 17 rfl rfl)
theorem dJ12_append_2_18 : decode cJ12_append_2 18 = .ok (.invokevirtual 83, 3) := dk_182 0 83 (dk_at dksJ12_append_2_0 18 rfl rfl)
theorem dJ12_append_2_21 : decode cJ12_append_2 21 = .ok (.ifCond .eq 16, 3) := dk_153 0 16 (dk_at dksJ12_append_2_0 21 rfl rfl)
theorem dJ12_append_2_24 : decode cJ12_append_2 24 = .ok (.iload_n 1, 1) := dk_27 (dk_at dksJ12_append_2_1 0 rfl rfl)
theorem dJ12_append_2_25 : decode cJ12_append_2 25 = .ok (.iload_n 3, 1) := dk_29 (dk_at dksJ12_append_2_1 1 rfl rfl)
theorem dJ12_append_2_26 : decode cJ12_append_2 26 = .ok (.aload_n 0, 1) := dk_42 (dk_at dksJ12_append_2_1 2 rfl rfl)
theorem dJ12_append_2_27 : decode cJ12_append_2 27 = .ok (.getfield 15, 3) := dk_180 0 15 (dk_at dksJ12_append_2_1 3 rfl rfl)
theorem dJ12_append_2_30 : decode cJ12_append_2 30 = .ok (.invokestatic 248, 3) := dk_184 0 248 (dk_at dksJ12_append_2_1 6 rfl rfl)
theorem dJ12_append_2_33 : decode cJ12_append_2 33 = .ok (.pop, 1) := dk_87 (dk_at dksJ12_append_2_1 9 rfl rfl)
theorem dJ12_append_2_34 : decode cJ12_append_2 34 = .ok (.goto 14, 3) := dk_167 0 14 (dk_at dksJ12_append_2_1 10 rfl rfl)
theorem dJ12_append_2_37 : decode cJ12_append_2 37 = .ok (.iload_n 1, 1) := dk_27 (dk_at dksJ12_append_2_1 13 rfl rfl)
theorem dJ12_append_2_38 : decode cJ12_append_2 38 = .ok (.iload_n 2, 1) := dk_28 (dk_at dksJ12_append_2_1 14 rfl rfl)
theorem dJ12_append_2_39 : decode cJ12_append_2 39 = .ok (.iload_n 3, 1) := dk_29 (dk_at dksJ12_append_2_1 15 rfl rfl)
theorem dJ12_append_2_40 : decode cJ12_append_2 40 = .ok (.aload_n 0, 1) := dk_42 (dk_at dksJ12_append_2_1 16 rfl rfl)
theorem dJ12_append_2_41 : decode cJ12_append_2 41 = .ok (.getfield 15, 3) := dk_180 0 15 (dk_at dksJ12_append_2_1 17 rfl rfl)
theorem dJ12_append_2_44 : decode cJ12_append_2 44 = .ok (.invokestatic 251, 3) := dk_184 0 251 (dk_at dksJ12_append_2_1 20 rfl rfl)
theorem dJ12_append_2_47 : decode cJ12_append_2 47 = .ok (.pop, 1) := dk_87 (dk_at dksJ12_append_2_1 23 rfl rfl)
theorem dJ12_append_2_48 : decode cJ12_append_2 48 = .ok (.aload_n 0, 1) := dk_42 (dk_at dksJ12_append_2_2 0 rfl rfl)
theorem dJ12_append_2_49 : decode cJ12_append_2 49 = .ok (.iload_n 3, 1) := dk_29 (dk_at dksJ12_append_2_2 1 rfl rfl)
theorem dJ12_append_2_50 : decode cJ12_append_2 50 = .ok (.putfield 79, 3) := dk_181 0 79 (dk_at dksJ12_append_2_2 2 rfl rfl)
theorem dJ12_append_2_53 : decode cJ12_append_2 53 = .ok (.aload_n 0, 1) := dk_42 (dk_at dksJ12_append_2_2 5 rfl rfl)
theorem dJ12_append_2_54 : decode cJ12_append_2 54 = .ok (.areturn, 1) := dk_176 (dk_at dksJ12_append_2_2 6 rfl rfl)
abbrev cJ12_getValue : ByteArray := prog_27_method_64_code
def yJ12_getValue : MethodName := ⟨RJ12, "getValue", "()[B"⟩
theorem dJ12_getValue_0 : decode cJ12_getValue 0 = .ok (.aload_n 0, 1) := by decide +kernel
theorem dJ12_getValue_1 : decode cJ12_getValue 1 = .ok (.getfield 15, 3) := by decide +kernel
theorem dJ12_getValue_4 : decode cJ12_getValue 4 = .ok (.areturn, 1) := by decide +kernel
abbrev cJ12_length : ByteArray := prog_27_method_6_code
def yJ12_length : MethodName := ⟨RJ12, "length", "()I"⟩
theorem dJ12_length_0 : decode cJ12_length 0 = .ok (.aload_n 0, 1) := by decide +kernel
theorem dJ12_length_1 : decode cJ12_length 1 = .ok (.getfield 79, 3) := by decide +kernel
theorem dJ12_length_4 : decode cJ12_length 4 = .ok (.ireturn, 1) := by decide +kernel
abbrev cJ12_append_3 : ByteArray := prog_27_method_31_code
def yJ12_append_3 : MethodName := ⟨RJ12, "append", "(C)Ljava/lang/AbstractStringBuilder;"⟩
def dkwJ12_append_3_3 : List UInt8 := [181, 0, 79, 27, 184, 0, 197, 42, 176]
abbrev dktJ12_append_3_3 : List UInt8 := dkwJ12_append_3_3 ++ []
def dkwJ12_append_3_2 : List UInt8 := [182, 0, 83, 153, 0, 7, 42, 182, 0, 195, 42, 180, 0, 15, 42, 89, 180, 0, 79, 90, 4, 96]
abbrev dktJ12_append_3_2 : List UInt8 := dkwJ12_append_3_2 ++ dktJ12_append_3_3
def dkwJ12_append_3_1 : List UInt8 := [42, 180, 0, 15, 42, 89, 180, 0, 79, 90, 4, 96, 181, 0, 79, 27, 145, 84, 167, 0, 33, 42]
abbrev dktJ12_append_3_1 : List UInt8 := dkwJ12_append_3_1 ++ dktJ12_append_3_2
def dkwJ12_append_3_0 : List UInt8 := [42, 42, 180, 0, 79, 4, 96, 182, 0, 100, 42, 182, 0, 83, 153, 0, 31, 27, 184, 0, 191, 153, 0, 24]
abbrev dktJ12_append_3_0 : List UInt8 := dkwJ12_append_3_0 ++ dktJ12_append_3_1
theorem dksJ12_append_3_0 : cJ12_append_3.data.toList.drop 0 = dktJ12_append_3_0 := by decide +kernel
theorem dksJ12_append_3_1 : cJ12_append_3.data.toList.drop 24 = dktJ12_append_3_1 := dk_seg dksJ12_append_3_0 24 rfl rfl
theorem dksJ12_append_3_2 : cJ12_append_3.data.toList.drop 46 = dktJ12_append_3_2 := dk_seg dksJ12_append_3_1 22 rfl rfl
theorem dksJ12_append_3_3 : cJ12_append_3.data.toList.drop 68 = dktJ12_append_3_3 := dk_seg dksJ12_append_3_2 22 rfl rfl
theorem dJ12_append_3_0 : decode cJ12_append_3 0 = .ok (.aload_n 0, 1) := dk_42 (dk_at dksJ12_append_3_0 0 rfl rfl)
theorem dJ12_append_3_1 : decode cJ12_append_3 1 = .ok (.aload_n 0, 1) := dk_42 (dk_at dksJ12_append_3_0 1 rfl rfl)
theorem dJ12_append_3_2 : decode cJ12_append_3 2 = .ok (.getfield 79, 3) := dk_180 0 79 (dk_at dksJ12_append_3_0 2 rfl rfl)
theorem dJ12_append_3_5 : decode cJ12_append_3 5 = .ok (.iconst 1, 1) := dk_4 (dk_at dksJ12_append_3_0 5 rfl rfl)
theorem dJ12_append_3_6 : decode cJ12_append_3 6 = .ok (.iadd, 1) := dk_96 (dk_at dksJ12_append_3_0 6 rfl rfl)
theorem dJ12_append_3_7 : decode cJ12_append_3 7 = .ok (.invokevirtual 100, 3) := dk_182 0 100 (dk_at dksJ12_append_3_0 7 rfl rfl)
theorem dJ12_append_3_10 : decode cJ12_append_3 10 = .ok (.aload_n 0, 1) := dk_42 (dk_at dksJ12_append_3_0 10 rfl rfl)
theorem dJ12_append_3_11 : decode cJ12_append_3 11 = .ok (.invokevirtual 83, 3) := dk_182 0 83 (dk_at dksJ12_append_3_0 11 rfl rfl)
theorem dJ12_append_3_14 : decode cJ12_append_3 14 = .ok (.ifCond .eq 31, 3) := dk_153 0 31 (dk_at dksJ12_append_3_0 14 rfl rfl)
theorem dJ12_append_3_17 : decode cJ12_append_3 17 = .ok (.iload_n 1, 1) := dk_27 (dk_at dksJ12_append_3_0 17 rfl rfl)
theorem dJ12_append_3_18 : decode cJ12_append_3 18 = .ok (.invokestatic 191, 3) := dk_184 0 191 (dk_at dksJ12_append_3_0 18 rfl rfl)
theorem dJ12_append_3_21 : decode cJ12_append_3 21 = .ok (.ifCond .eq 24, 3) := dk_153 0 24 (dk_at dksJ12_append_3_0 21 rfl rfl)
theorem dJ12_append_3_24 : decode cJ12_append_3 24 = .ok (.aload_n 0, 1) := dk_42 (dk_at dksJ12_append_3_1 0 rfl rfl)
theorem dJ12_append_3_25 : decode cJ12_append_3 25 = .ok (.getfield 15, 3) := dk_180 0 15 (dk_at dksJ12_append_3_1 1 rfl rfl)
theorem dJ12_append_3_28 : decode cJ12_append_3 28 = .ok (.aload_n 0, 1) := dk_42 (dk_at dksJ12_append_3_1 4 rfl rfl)
theorem dJ12_append_3_29 : decode cJ12_append_3 29 = .ok (.dup, 1) := dk_89 (dk_at dksJ12_append_3_1 5 rfl rfl)
theorem dJ12_append_3_30 : decode cJ12_append_3 30 = .ok (.getfield 79, 3) := dk_180 0 79 (dk_at dksJ12_append_3_1 6 rfl rfl)
theorem dJ12_append_3_33 : decode cJ12_append_3 33 = .ok (.dup_x1, 1) := dk_90 (dk_at dksJ12_append_3_1 9 rfl rfl)
theorem dJ12_append_3_34 : decode cJ12_append_3 34 = .ok (.iconst 1, 1) := dk_4 (dk_at dksJ12_append_3_1 10 rfl rfl)
theorem dJ12_append_3_35 : decode cJ12_append_3 35 = .ok (.iadd, 1) := dk_96 (dk_at dksJ12_append_3_1 11 rfl rfl)
theorem dJ12_append_3_36 : decode cJ12_append_3 36 = .ok (.putfield 79, 3) := dk_181 0 79 (dk_at dksJ12_append_3_1 12 rfl rfl)
theorem dJ12_append_3_39 : decode cJ12_append_3 39 = .ok (.iload_n 1, 1) := dk_27 (dk_at dksJ12_append_3_1 15 rfl rfl)
theorem dJ12_append_3_40 : decode cJ12_append_3 40 = .ok (.i2b, 1) := dk_145 (dk_at dksJ12_append_3_1 16 rfl rfl)
theorem dJ12_append_3_41 : decode cJ12_append_3 41 = .ok (.bastore, 1) := dk_84 (dk_at dksJ12_append_3_1 17 rfl rfl)
theorem dJ12_append_3_42 : decode cJ12_append_3 42 = .ok (.goto 33, 3) := dk_167 0 33 (dk_at dksJ12_append_3_1 18 rfl rfl)
theorem dJ12_append_3_45 : decode cJ12_append_3 45 = .ok (.aload_n 0, 1) := dk_42 (dk_at dksJ12_append_3_1 21 rfl rfl)
theorem dJ12_append_3_46 : decode cJ12_append_3 46 = .ok (.invokevirtual 83, 3) := dk_182 0 83 (dk_at dksJ12_append_3_2 0 rfl rfl)
theorem dJ12_append_3_49 : decode cJ12_append_3 49 = .ok (.ifCond .eq 7, 3) := dk_153 0 7 (dk_at dksJ12_append_3_2 3 rfl rfl)
theorem dJ12_append_3_52 : decode cJ12_append_3 52 = .ok (.aload_n 0, 1) := dk_42 (dk_at dksJ12_append_3_2 6 rfl rfl)
theorem dJ12_append_3_53 : decode cJ12_append_3 53 = .ok (.invokevirtual 195, 3) := dk_182 0 195 (dk_at dksJ12_append_3_2 7 rfl rfl)
theorem dJ12_append_3_56 : decode cJ12_append_3 56 = .ok (.aload_n 0, 1) := dk_42 (dk_at dksJ12_append_3_2 10 rfl rfl)
theorem dJ12_append_3_57 : decode cJ12_append_3 57 = .ok (.getfield 15, 3) := dk_180 0 15 (dk_at dksJ12_append_3_2 11 rfl rfl)
theorem dJ12_append_3_60 : decode cJ12_append_3 60 = .ok (.aload_n 0, 1) := dk_42 (dk_at dksJ12_append_3_2 14 rfl rfl)
theorem dJ12_append_3_61 : decode cJ12_append_3 61 = .ok (.dup, 1) := dk_89 (dk_at dksJ12_append_3_2 15 rfl rfl)
theorem dJ12_append_3_62 : decode cJ12_append_3 62 = .ok (.getfield 79, 3) := dk_180 0 79 (dk_at dksJ12_append_3_2 16 rfl rfl)
theorem dJ12_append_3_65 : decode cJ12_append_3 65 = .ok (.dup_x1, 1) := dk_90 (dk_at dksJ12_append_3_2 19 rfl rfl)
theorem dJ12_append_3_66 : decode cJ12_append_3 66 = .ok (.iconst 1, 1) := dk_4 (dk_at dksJ12_append_3_2 20 rfl rfl)
theorem dJ12_append_3_67 : decode cJ12_append_3 67 = .ok (.iadd, 1) := dk_96 (dk_at dksJ12_append_3_2 21 rfl rfl)
theorem dJ12_append_3_68 : decode cJ12_append_3 68 = .ok (.putfield 79, 3) := dk_181 0 79 (dk_at dksJ12_append_3_3 0 rfl rfl)
theorem dJ12_append_3_71 : decode cJ12_append_3 71 = .ok (.iload_n 1, 1) := dk_27 (dk_at dksJ12_append_3_3 3 rfl rfl)
theorem dJ12_append_3_72 : decode cJ12_append_3 72 = .ok (.invokestatic 197, 3) := dk_184 0 197 (dk_at dksJ12_append_3_3 4 rfl rfl)
theorem dJ12_append_3_75 : decode cJ12_append_3 75 = .ok (.aload_n 0, 1) := dk_42 (dk_at dksJ12_append_3_3 7 rfl rfl)
theorem dJ12_append_3_76 : decode cJ12_append_3 76 = .ok (.areturn, 1) := dk_176 (dk_at dksJ12_append_3_3 8 rfl rfl)
abbrev cJ12_charAt : ByteArray := prog_27_method_14_code
def yJ12_charAt : MethodName := ⟨RJ12, "charAt", "(I)C"⟩
def dkwJ12_charAt_1 : List UInt8 := [21, 4, 184, 0, 144, 28, 154, 0, 12, 45, 27, 51, 17, 0, 255, 126, 146, 172, 45, 27, 184, 0, 148, 172]
abbrev dktJ12_charAt_1 : List UInt8 := dkwJ12_charAt_1 ++ []
def dkwJ12_charAt_0 : List UInt8 := [42, 180, 0, 22, 61, 42, 180, 0, 15, 78, 42, 180, 0, 79, 45, 190, 28, 122, 184, 0, 138, 54, 4, 27]
abbrev dktJ12_charAt_0 : List UInt8 := dkwJ12_charAt_0 ++ dktJ12_charAt_1
theorem dksJ12_charAt_0 : cJ12_charAt.data.toList.drop 0 = dktJ12_charAt_0 := by decide +kernel
theorem dksJ12_charAt_1 : cJ12_charAt.data.toList.drop 24 = dktJ12_charAt_1 := dk_seg dksJ12_charAt_0 24 rfl rfl
theorem dJ12_charAt_0 : decode cJ12_charAt 0 = .ok (.aload_n 0, 1) := dk_42 (dk_at dksJ12_charAt_0 0 rfl rfl)
theorem dJ12_charAt_1 : decode cJ12_charAt 1 = .ok (.getfield 22, 3) := dk_180 0 22 (dk_at dksJ12_charAt_0 1 rfl rfl)
theorem dJ12_charAt_4 : decode cJ12_charAt 4 = .ok (.istore_n 2, 1) := dk_61 (dk_at dksJ12_charAt_0 4 rfl rfl)
theorem dJ12_charAt_5 : decode cJ12_charAt 5 = .ok (.aload_n 0, 1) := dk_42 (dk_at dksJ12_charAt_0 5 rfl rfl)
theorem dJ12_charAt_6 : decode cJ12_charAt 6 = .ok (.getfield 15, 3) := dk_180 0 15 (dk_at dksJ12_charAt_0 6 rfl rfl)
theorem dJ12_charAt_9 : decode cJ12_charAt 9 = .ok (.astore_n 3, 1) := dk_78 (dk_at dksJ12_charAt_0 9 rfl rfl)
theorem dJ12_charAt_10 : decode cJ12_charAt 10 = .ok (.aload_n 0, 1) := dk_42 (dk_at dksJ12_charAt_0 10 rfl rfl)
theorem dJ12_charAt_11 : decode cJ12_charAt 11 = .ok (.getfield 79, 3) := dk_180 0 79 (dk_at dksJ12_charAt_0 11 rfl rfl)
theorem dJ12_charAt_14 : decode cJ12_charAt 14 = .ok (.aload_n 3, 1) := dk_45 (dk_at dksJ12_charAt_0 14 rfl rfl)
theorem dJ12_charAt_15 : decode cJ12_charAt 15 = .ok (.arraylength, 1) := dk_190 (dk_at dksJ12_charAt_0 15 rfl rfl)
theorem dJ12_charAt_16 : decode cJ12_charAt 16 = .ok (.iload_n 2, 1) := dk_28 (dk_at dksJ12_charAt_0 16 rfl rfl)
theorem dJ12_charAt_17 : decode cJ12_charAt 17 = .ok (.ishr, 1) := dk_122 (dk_at dksJ12_charAt_0 17 rfl rfl)
theorem dJ12_charAt_18 : decode cJ12_charAt 18 = .ok (.invokestatic 138, 3) := dk_184 0 138 (dk_at dksJ12_charAt_0 18 rfl rfl)
theorem dJ12_charAt_21 : decode cJ12_charAt 21 = .ok (.istore 4, 2) := dk_54 4 (dk_at dksJ12_charAt_0 21 rfl rfl)
theorem dJ12_charAt_23 : decode cJ12_charAt 23 = .ok (.iload_n 1, 1) := dk_27 (dk_at dksJ12_charAt_0 23 rfl rfl)
theorem dJ12_charAt_24 : decode cJ12_charAt 24 = .ok (.iload 4, 2) := dk_21 4 (dk_at dksJ12_charAt_1 0 rfl rfl)
theorem dJ12_charAt_26 : decode cJ12_charAt 26 = .ok (.invokestatic 144, 3) := dk_184 0 144 (dk_at dksJ12_charAt_1 2 rfl rfl)
theorem dJ12_charAt_29 : decode cJ12_charAt 29 = .ok (.iload_n 2, 1) := dk_28 (dk_at dksJ12_charAt_1 5 rfl rfl)
theorem dJ12_charAt_30 : decode cJ12_charAt 30 = .ok (.ifCond .ne 12, 3) := dk_154 0 12 (dk_at dksJ12_charAt_1 6 rfl rfl)
theorem dJ12_charAt_33 : decode cJ12_charAt 33 = .ok (.aload_n 3, 1) := dk_45 (dk_at dksJ12_charAt_1 9 rfl rfl)
theorem dJ12_charAt_34 : decode cJ12_charAt 34 = .ok (.iload_n 1, 1) := dk_27 (dk_at dksJ12_charAt_1 10 rfl rfl)
theorem dJ12_charAt_35 : decode cJ12_charAt 35 = .ok (.baload, 1) := dk_51 (dk_at dksJ12_charAt_1 11 rfl rfl)
theorem dJ12_charAt_36 : decode cJ12_charAt 36 = .ok (.sipush 255, 3) := dk_17 0 255 (dk_at dksJ12_charAt_1 12 rfl rfl)
theorem dJ12_charAt_39 : decode cJ12_charAt 39 = .ok (.iand, 1) := dk_126 (dk_at dksJ12_charAt_1 15 rfl rfl)
theorem dJ12_charAt_40 : decode cJ12_charAt 40 = .ok (.i2c, 1) := dk_146 (dk_at dksJ12_charAt_1 16 rfl rfl)
theorem dJ12_charAt_41 : decode cJ12_charAt 41 = .ok (.ireturn, 1) := dk_172 (dk_at dksJ12_charAt_1 17 rfl rfl)
theorem dJ12_charAt_42 : decode cJ12_charAt 42 = .ok (.aload_n 3, 1) := dk_45 (dk_at dksJ12_charAt_1 18 rfl rfl)
theorem dJ12_charAt_43 : decode cJ12_charAt 43 = .ok (.iload_n 1, 1) := dk_27 (dk_at dksJ12_charAt_1 19 rfl rfl)
theorem dJ12_charAt_44 : decode cJ12_charAt 44 = .ok (.invokestatic 148, 3) := dk_184 0 148 (dk_at dksJ12_charAt_1 20 rfl rfl)
theorem dJ12_charAt_47 : decode cJ12_charAt 47 = .ok (.ireturn, 1) := dk_172 (dk_at dksJ12_charAt_1 23 rfl rfl)
abbrev cJ12_setLength : ByteArray := prog_27_method_13_code
def yJ12_setLength : MethodName := ⟨RJ12, "setLength", "(I)V"⟩
def dkwJ12_setLength_3 : List UInt8 := [164, 0, 8, 42, 4, 181, 0, 73, 42, 27, 181, 0, 79, 177]
abbrev dktJ12_setLength_3 : List UInt8 := dkwJ12_setLength_3 ++ []
def dkwJ12_setLength_2 : List UInt8 := [167, 0, 31, 42, 180, 0, 15, 42, 180, 0, 79, 27, 184, 0, 137, 167, 0, 16, 42, 180, 0, 79, 27]
abbrev dktJ12_setLength_2 : List UInt8 := dkwJ12_setLength_2 ++ dktJ12_setLength_3
def dkwJ12_setLength_1 : List UInt8 := [162, 0, 40, 42, 182, 0, 83, 153, 0, 18, 42, 180, 0, 15, 42, 180, 0, 79, 27, 184, 0, 133]
abbrev dktJ12_setLength_1 : List UInt8 := dkwJ12_setLength_1 ++ dktJ12_setLength_2
def dkwJ12_setLength_0 : List UInt8 := [27, 156, 0, 12, 187, 0, 129, 89, 27, 183, 0, 131, 191, 42, 27, 182, 0, 100, 42, 180, 0, 79, 27]
abbrev dktJ12_setLength_0 : List UInt8 := dkwJ12_setLength_0 ++ dktJ12_setLength_1
theorem dksJ12_setLength_0 : cJ12_setLength.data.toList.drop 0 = dktJ12_setLength_0 := by decide +kernel
theorem dksJ12_setLength_1 : cJ12_setLength.data.toList.drop 23 = dktJ12_setLength_1 := dk_seg dksJ12_setLength_0 23 rfl rfl
theorem dksJ12_setLength_2 : cJ12_setLength.data.toList.drop 45 = dktJ12_setLength_2 := dk_seg dksJ12_setLength_1 22 rfl rfl
theorem dksJ12_setLength_3 : cJ12_setLength.data.toList.drop 68 = dktJ12_setLength_3 := dk_seg dksJ12_setLength_2 23 rfl rfl
theorem dJ12_setLength_0 : decode cJ12_setLength 0 = .ok (.iload_n 1, 1) := dk_27 (dk_at dksJ12_setLength_0 0 rfl rfl)
theorem dJ12_setLength_1 : decode cJ12_setLength 1 = .ok (.ifCond .ge 12, 3) := dk_156 0 12 (dk_at dksJ12_setLength_0 1 rfl rfl)
theorem dJ12_setLength_4 : decode cJ12_setLength 4 = .ok (.new 129, 3) := dk_187 0 129 (dk_at dksJ12_setLength_0 4 rfl rfl)
theorem dJ12_setLength_7 : decode cJ12_setLength 7 = .ok (.dup, 1) := dk_89 (dk_at dksJ12_setLength_0 7 rfl rfl)
theorem dJ12_setLength_8 : decode cJ12_setLength 8 = .ok (.iload_n 1, 1) := dk_27 (dk_at dksJ12_setLength_0 8 rfl rfl)
theorem dJ12_setLength_9 : decode cJ12_setLength 9 = .ok (.invokespecial 131, 3) := dk_183 0 131 (dk_at dksJ12_setLength_0 9 rfl rfl)
theorem dJ12_setLength_12 : decode cJ12_setLength 12 = .ok (.athrow, 1) := dk_191 (dk_at dksJ12_setLength_0 12 rfl rfl)
theorem dJ12_setLength_13 : decode cJ12_setLength 13 = .ok (.aload_n 0, 1) := dk_42 (dk_at dksJ12_setLength_0 13 rfl rfl)
theorem dJ12_setLength_14 : decode cJ12_setLength 14 = .ok (.iload_n 1, 1) := dk_27 (dk_at dksJ12_setLength_0 14 rfl rfl)
theorem dJ12_setLength_15 : decode cJ12_setLength 15 = .ok (.invokevirtual 100, 3) := dk_182 0 100 (dk_at dksJ12_setLength_0 15 rfl rfl)
theorem dJ12_setLength_18 : decode cJ12_setLength 18 = .ok (.aload_n 0, 1) := dk_42 (dk_at dksJ12_setLength_0 18 rfl rfl)
theorem dJ12_setLength_19 : decode cJ12_setLength 19 = .ok (.getfield 79, 3) := dk_180 0 79 (dk_at dksJ12_setLength_0 19 rfl rfl)
theorem dJ12_setLength_22 : decode cJ12_setLength 22 = .ok (.iload_n 1, 1) := dk_27 (dk_at dksJ12_setLength_0 22 rfl rfl)
theorem dJ12_setLength_23 : decode cJ12_setLength 23 = .ok (.if_icmp .ge 40, 3) := dk_162 0 40 (dk_at dksJ12_setLength_1 0 rfl rfl)
theorem dJ12_setLength_26 : decode cJ12_setLength 26 = .ok (.aload_n 0, 1) := dk_42 (dk_at dksJ12_setLength_1 3 rfl rfl)
theorem dJ12_setLength_27 : decode cJ12_setLength 27 = .ok (.invokevirtual 83, 3) := dk_182 0 83 (dk_at dksJ12_setLength_1 4 rfl rfl)
theorem dJ12_setLength_30 : decode cJ12_setLength 30 = .ok (.ifCond .eq 18, 3) := dk_153 0 18 (dk_at dksJ12_setLength_1 7 rfl rfl)
theorem dJ12_setLength_33 : decode cJ12_setLength 33 = .ok (.aload_n 0, 1) := dk_42 (dk_at dksJ12_setLength_1 10 rfl rfl)
theorem dJ12_setLength_34 : decode cJ12_setLength 34 = .ok (.getfield 15, 3) := dk_180 0 15 (dk_at dksJ12_setLength_1 11 rfl rfl)
theorem dJ12_setLength_37 : decode cJ12_setLength 37 = .ok (.aload_n 0, 1) := dk_42 (dk_at dksJ12_setLength_1 14 rfl rfl)
theorem dJ12_setLength_38 : decode cJ12_setLength 38 = .ok (.getfield 79, 3) := dk_180 0 79 (dk_at dksJ12_setLength_1 15 rfl rfl)
theorem dJ12_setLength_41 : decode cJ12_setLength 41 = .ok (.iload_n 1, 1) := dk_27 (dk_at dksJ12_setLength_1 18 rfl rfl)
theorem dJ12_setLength_42 : decode cJ12_setLength 42 = .ok (.invokestatic 133, 3) := dk_184 0 133 (dk_at dksJ12_setLength_1 19 rfl rfl)
theorem dJ12_setLength_45 : decode cJ12_setLength 45 = .ok (.goto 31, 3) := dk_167 0 31 (dk_at dksJ12_setLength_2 0 rfl rfl)
theorem dJ12_setLength_48 : decode cJ12_setLength 48 = .ok (.aload_n 0, 1) := dk_42 (dk_at dksJ12_setLength_2 3 rfl rfl)
theorem dJ12_setLength_49 : decode cJ12_setLength 49 = .ok (.getfield 15, 3) := dk_180 0 15 (dk_at dksJ12_setLength_2 4 rfl rfl)
theorem dJ12_setLength_52 : decode cJ12_setLength 52 = .ok (.aload_n 0, 1) := dk_42 (dk_at dksJ12_setLength_2 7 rfl rfl)
theorem dJ12_setLength_53 : decode cJ12_setLength 53 = .ok (.getfield 79, 3) := dk_180 0 79 (dk_at dksJ12_setLength_2 8 rfl rfl)
theorem dJ12_setLength_56 : decode cJ12_setLength 56 = .ok (.iload_n 1, 1) := dk_27 (dk_at dksJ12_setLength_2 11 rfl rfl)
theorem dJ12_setLength_57 : decode cJ12_setLength 57 = .ok (.invokestatic 137, 3) := dk_184 0 137 (dk_at dksJ12_setLength_2 12 rfl rfl)
theorem dJ12_setLength_60 : decode cJ12_setLength 60 = .ok (.goto 16, 3) := dk_167 0 16 (dk_at dksJ12_setLength_2 15 rfl rfl)
theorem dJ12_setLength_63 : decode cJ12_setLength 63 = .ok (.aload_n 0, 1) := dk_42 (dk_at dksJ12_setLength_2 18 rfl rfl)
theorem dJ12_setLength_64 : decode cJ12_setLength 64 = .ok (.getfield 79, 3) := dk_180 0 79 (dk_at dksJ12_setLength_2 19 rfl rfl)
theorem dJ12_setLength_67 : decode cJ12_setLength 67 = .ok (.iload_n 1, 1) := dk_27 (dk_at dksJ12_setLength_2 22 rfl rfl)
theorem dJ12_setLength_68 : decode cJ12_setLength 68 = .ok (.if_icmp .le 8, 3) := dk_164 0 8 (dk_at dksJ12_setLength_3 0 rfl rfl)
theorem dJ12_setLength_71 : decode cJ12_setLength 71 = .ok (.aload_n 0, 1) := dk_42 (dk_at dksJ12_setLength_3 3 rfl rfl)
theorem dJ12_setLength_72 : decode cJ12_setLength 72 = .ok (.iconst 1, 1) := dk_4 (dk_at dksJ12_setLength_3 4 rfl rfl)
theorem dJ12_setLength_73 : decode cJ12_setLength 73 = .ok (.putfield 73, 3) := dk_181 0 73 (dk_at dksJ12_setLength_3 5 rfl rfl)
theorem dJ12_setLength_76 : decode cJ12_setLength 76 = .ok (.aload_n 0, 1) := dk_42 (dk_at dksJ12_setLength_3 8 rfl rfl)
theorem dJ12_setLength_77 : decode cJ12_setLength 77 = .ok (.iload_n 1, 1) := dk_27 (dk_at dksJ12_setLength_3 9 rfl rfl)
theorem dJ12_setLength_78 : decode cJ12_setLength 78 = .ok (.putfield 79, 3) := dk_181 0 79 (dk_at dksJ12_setLength_3 10 rfl rfl)
theorem dJ12_setLength_81 : decode cJ12_setLength 81 = .ok (.return_, 1) := dk_177 (dk_at dksJ12_setLength_3 13 rfl rfl)
theorem q135 : (Jvm.Cond.initialized "java/lang/AbstractStringBuilder") ∈ lw_all := lw_g (lw_at lw_m1 16 rfl) rfl
theorem q329 : (Jvm.Cond.instanceMethod ({ cls := "java/lang/AbstractStringBuilder", name := "<init>", desc := "(I)V" } : Jvm.MethodName)) ∈ lw_all := lw_g (lw_at lw_m1 210 rfl) rfl
theorem q330 : (Jvm.Cond.code ({ cls := "java/lang/AbstractStringBuilder", name := "<init>", desc := "(I)V" } : Jvm.MethodName) prog_27_method_2_code (2 : Nat) (Option.none : Option Jvm.ClassFile.FieldType)) ∈ lw_all := lw_g (lw_at lw_m1 211 rfl) rfl
theorem q331 : (Jvm.Cond.methodLink "java/lang/AbstractStringBuilder" (3 : Nat) ({ cls := "java/lang/Object", name := "<init>", desc := "()V" } : Jvm.MethodName)) ∈ lw_all := lw_g (lw_at lw_m1 212 rfl) rfl
theorem q332 : (Jvm.Cond.fieldLink "java/lang/AbstractStringBuilder" (18 : Nat) "java/lang/String" "COMPACT_STRINGS" "Z") ∈ lw_all := lw_g (lw_at lw_m1 213 rfl) rfl
theorem q334 : (Jvm.Cond.methodLink "java/lang/AbstractStringBuilder" (26 : Nat) ({ cls := "java/lang/StringUTF16", name := "newBytesFor", desc := "(I)[B" } : Jvm.MethodName)) ∈ lw_all := lw_g (lw_at lw_m1 215 rfl) rfl
theorem q341 : (Jvm.Cond.fieldLink "java/lang/AbstractStringBuilder" (15 : Nat) "java/lang/AbstractStringBuilder" "value" "[B") ∈ lw_all := lw_g (lw_at lw_m1 222 rfl) rfl
theorem q342 : (Jvm.Cond.fieldLink "java/lang/AbstractStringBuilder" (22 : Nat) "java/lang/AbstractStringBuilder" "coder" "B") ∈ lw_all := lw_g (lw_at lw_m1 223 rfl) rfl
theorem q343 : (Jvm.Cond.fieldLink "java/lang/AbstractStringBuilder" (73 : Nat) "java/lang/AbstractStringBuilder" "maybeLatin1" "Z") ∈ lw_all := lw_g (lw_at lw_m1 224 rfl) rfl
theorem q345 : (Jvm.Cond.fieldLink "java/lang/AbstractStringBuilder" (79 : Nat) "java/lang/AbstractStringBuilder" "count" "I") ∈ lw_all := lw_g (lw_at lw_m1 226 rfl) rfl
theorem q347 : (Jvm.Cond.soleField "java/lang/AbstractStringBuilder" "value") ∈ lw_all := lw_g (lw_at lw_m1 228 rfl) rfl
theorem q349 : (Jvm.Cond.soleField "java/lang/AbstractStringBuilder" "coder") ∈ lw_all := lw_g (lw_at lw_m1 230 rfl) rfl
theorem q351 : (Jvm.Cond.soleField "java/lang/AbstractStringBuilder" "maybeLatin1") ∈ lw_all := lw_g (lw_at lw_m1 232 rfl) rfl
theorem q353 : (Jvm.Cond.soleField "java/lang/AbstractStringBuilder" "count") ∈ lw_all := lw_g (lw_at lw_m1 234 rfl) rfl
theorem q362 : (Jvm.Cond.instanceMethod ({ cls := "java/lang/AbstractStringBuilder", name := "append", desc := "(Ljava/lang/String;)Ljava/lang/AbstractStringBuilder;" } : Jvm.MethodName)) ∈ lw_all := lw_g (lw_at lw_m2 3 rfl) rfl
theorem q363 : (Jvm.Cond.code ({ cls := "java/lang/AbstractStringBuilder", name := "append", desc := "(Ljava/lang/String;)Ljava/lang/AbstractStringBuilder;" } : Jvm.MethodName) prog_27_method_22_code (3 : Nat) (Option.some (Jvm.ClassFile.FieldType.object "java/lang/AbstractStringBuilder"))) ∈ lw_all := lw_g (lw_at lw_m2 4 rfl) rfl
theorem q364 : (Jvm.Cond.methodLink "java/lang/AbstractStringBuilder" (204 : Nat) ({ cls := "java/lang/AbstractStringBuilder", name := "appendNull", desc := "()Ljava/lang/AbstractStringBuilder;" } : Jvm.MethodName)) ∈ lw_all := lw_g (lw_at lw_m2 5 rfl) rfl
theorem q365 : (Jvm.Cond.privateMethod ({ cls := "java/lang/AbstractStringBuilder", name := "appendNull", desc := "()Ljava/lang/AbstractStringBuilder;" } : Jvm.MethodName)) ∈ lw_tbl := lw_at lw_m2 6 rfl
theorem q366 : (Jvm.Cond.instanceMethod ({ cls := "java/lang/AbstractStringBuilder", name := "appendNull", desc := "()Ljava/lang/AbstractStringBuilder;" } : Jvm.MethodName)) ∈ lw_all := lw_g (lw_at lw_m2 7 rfl) rfl
theorem q367 : (Jvm.Cond.code ({ cls := "java/lang/AbstractStringBuilder", name := "appendNull", desc := "()Ljava/lang/AbstractStringBuilder;" } : Jvm.MethodName) prog_27_method_26_code (3 : Nat) (Option.some (Jvm.ClassFile.FieldType.object "java/lang/AbstractStringBuilder"))) ∈ lw_all := lw_g (lw_at lw_m2 8 rfl) rfl
theorem q368 : (Jvm.Cond.methodLink "java/lang/AbstractStringBuilder" (100 : Nat) ({ cls := "java/lang/AbstractStringBuilder", name := "ensureCapacityInternal", desc := "(I)V" } : Jvm.MethodName)) ∈ lw_all := lw_g (lw_at lw_m2 9 rfl) rfl
theorem q369 : (Jvm.Cond.privateMethod ({ cls := "java/lang/AbstractStringBuilder", name := "ensureCapacityInternal", desc := "(I)V" } : Jvm.MethodName)) ∈ lw_tbl := lw_at lw_m2 10 rfl
theorem q370 : (Jvm.Cond.instanceMethod ({ cls := "java/lang/AbstractStringBuilder", name := "ensureCapacityInternal", desc := "(I)V" } : Jvm.MethodName)) ∈ lw_all := lw_g (lw_at lw_m2 11 rfl) rfl
theorem q371 : (Jvm.Cond.code ({ cls := "java/lang/AbstractStringBuilder", name := "ensureCapacityInternal", desc := "(I)V" } : Jvm.MethodName) prog_27_method_9_code (3 : Nat) (Option.none : Option Jvm.ClassFile.FieldType)) ∈ lw_all := lw_g (lw_at lw_m2 12 rfl) rfl
theorem q372 : (Jvm.Cond.methodLink "java/lang/AbstractStringBuilder" (104 : Nat) ({ cls := "java/lang/AbstractStringBuilder", name := "newCapacity", desc := "(I)I" } : Jvm.MethodName)) ∈ lw_all := lw_g (lw_at lw_m2 13 rfl) rfl
theorem q373 : (Jvm.Cond.privateMethod ({ cls := "java/lang/AbstractStringBuilder", name := "newCapacity", desc := "(I)I" } : Jvm.MethodName)) ∈ lw_tbl := lw_at lw_m2 14 rfl
theorem q374 : (Jvm.Cond.instanceMethod ({ cls := "java/lang/AbstractStringBuilder", name := "newCapacity", desc := "(I)I" } : Jvm.MethodName)) ∈ lw_all := lw_g (lw_at lw_m2 15 rfl) rfl
theorem q375 : (Jvm.Cond.code ({ cls := "java/lang/AbstractStringBuilder", name := "newCapacity", desc := "(I)I" } : Jvm.MethodName) prog_27_method_10_code (6 : Nat) (Option.some Jvm.ClassFile.FieldType.int)) ∈ lw_all := lw_g (lw_at lw_m2 16 rfl) rfl
theorem q376 : (Jvm.Cond.methodLink "java/lang/AbstractStringBuilder" (114 : Nat) ({ cls := "jdk/internal/util/ArraysSupport", name := "newLength", desc := "(III)I" } : Jvm.MethodName)) ∈ lw_all := lw_g (lw_at lw_m2 17 rfl) rfl
theorem q386 : (Jvm.Cond.constant "java/lang/AbstractStringBuilder" (39 : Nat) (2147483647 : Int32)) ∈ lw_all := lw_g (lw_at lw_m2 27 rfl) rfl
theorem q387 : (Jvm.Cond.methodLink "java/lang/AbstractStringBuilder" (108 : Nat) ({ cls := "java/util/Arrays", name := "copyOf", desc := "([BI)[B" } : Jvm.MethodName)) ∈ lw_all := lw_g (lw_at lw_m2 28 rfl) rfl
theorem q403 : (Jvm.Cond.methodLink "java/lang/AbstractStringBuilder" (83 : Nat) ({ cls := "java/lang/AbstractStringBuilder", name := "isLatin1", desc := "()Z" } : Jvm.MethodName)) ∈ lw_all := lw_g (lw_at lw_m2 44 rfl) rfl
theorem q404 : (Jvm.Cond.instanceMethod ({ cls := "java/lang/AbstractStringBuilder", name := "isLatin1", desc := "()Z" } : Jvm.MethodName)) ∈ lw_all := lw_g (lw_at lw_m2 45 rfl) rfl
theorem q405 : (Jvm.Cond.sameMethod "java/lang/AbstractStringBuilder" "java/lang/AbstractStringBuilder" "isLatin1" "()Z") ∈ lw_all := lw_g (lw_at lw_m2 46 rfl) rfl
theorem q407 : (Jvm.Cond.code ({ cls := "java/lang/AbstractStringBuilder", name := "isLatin1", desc := "()Z" } : Jvm.MethodName) prog_27_method_68_code (1 : Nat) (Option.some Jvm.ClassFile.FieldType.boolean)) ∈ lw_all := lw_g (lw_at lw_m2 48 rfl) rfl
theorem q408 : (Jvm.Cond.methodLink "java/lang/AbstractStringBuilder" (226 : Nat) ({ cls := "java/lang/StringUTF16", name := "putCharsAt", desc := "([BICCCC)I" } : Jvm.MethodName)) ∈ lw_all := lw_g (lw_at lw_m2 49 rfl) rfl
theorem q434 : (Jvm.Cond.methodLink "java/lang/AbstractStringBuilder" (32 : Nat) ({ cls := "java/lang/String", name := "length", desc := "()I" } : Jvm.MethodName)) ∈ lw_all := lw_g (lw_at lw_m2 75 rfl) rfl
theorem q443 : (Jvm.Cond.methodLink "java/lang/AbstractStringBuilder" (208 : Nat) ({ cls := "java/lang/AbstractStringBuilder", name := "putStringAt", desc := "(ILjava/lang/String;)V" } : Jvm.MethodName)) ∈ lw_all := lw_g (lw_at lw_m2 84 rfl) rfl
theorem q444 : (Jvm.Cond.privateMethod ({ cls := "java/lang/AbstractStringBuilder", name := "putStringAt", desc := "(ILjava/lang/String;)V" } : Jvm.MethodName)) ∈ lw_tbl := lw_at lw_m2 85 rfl
theorem q445 : (Jvm.Cond.instanceMethod ({ cls := "java/lang/AbstractStringBuilder", name := "putStringAt", desc := "(ILjava/lang/String;)V" } : Jvm.MethodName)) ∈ lw_all := lw_g (lw_at lw_m2 86 rfl) rfl
theorem q446 : (Jvm.Cond.code ({ cls := "java/lang/AbstractStringBuilder", name := "putStringAt", desc := "(ILjava/lang/String;)V" } : Jvm.MethodName) prog_27_method_73_code (3 : Nat) (Option.none : Option Jvm.ClassFile.FieldType)) ∈ lw_all := lw_g (lw_at lw_m2 87 rfl) rfl
theorem q447 : (Jvm.Cond.methodLink "java/lang/AbstractStringBuilder" (397 : Nat) ({ cls := "java/lang/AbstractStringBuilder", name := "inflateIfNeededFor", desc := "(Ljava/lang/String;)V" } : Jvm.MethodName)) ∈ lw_all := lw_g (lw_at lw_m2 88 rfl) rfl
theorem q448 : (Jvm.Cond.privateMethod ({ cls := "java/lang/AbstractStringBuilder", name := "inflateIfNeededFor", desc := "(Ljava/lang/String;)V" } : Jvm.MethodName)) ∈ lw_tbl := lw_at lw_m2 89 rfl
theorem q449 : (Jvm.Cond.instanceMethod ({ cls := "java/lang/AbstractStringBuilder", name := "inflateIfNeededFor", desc := "(Ljava/lang/String;)V" } : Jvm.MethodName)) ∈ lw_all := lw_g (lw_at lw_m2 90 rfl) rfl
theorem q450 : (Jvm.Cond.code ({ cls := "java/lang/AbstractStringBuilder", name := "inflateIfNeededFor", desc := "(Ljava/lang/String;)V" } : Jvm.MethodName) prog_27_method_71_code (2 : Nat) (Option.none : Option Jvm.ClassFile.FieldType)) ∈ lw_all := lw_g (lw_at lw_m2 91 rfl) rfl
theorem q451 : (Jvm.Cond.methodLink "java/lang/AbstractStringBuilder" (40 : Nat) ({ cls := "java/lang/String", name := "coder", desc := "()B" } : Jvm.MethodName)) ∈ lw_all := lw_g (lw_at lw_m2 92 rfl) rfl
theorem q452 : (Jvm.Cond.methodLink "java/lang/AbstractStringBuilder" (195 : Nat) ({ cls := "java/lang/AbstractStringBuilder", name := "inflate", desc := "()V" } : Jvm.MethodName)) ∈ lw_all := lw_g (lw_at lw_m2 93 rfl) rfl
theorem q453 : (Jvm.Cond.privateMethod ({ cls := "java/lang/AbstractStringBuilder", name := "inflate", desc := "()V" } : Jvm.MethodName)) ∈ lw_tbl := lw_at lw_m2 94 rfl
theorem q454 : (Jvm.Cond.instanceMethod ({ cls := "java/lang/AbstractStringBuilder", name := "inflate", desc := "()V" } : Jvm.MethodName)) ∈ lw_all := lw_g (lw_at lw_m2 95 rfl) rfl
theorem q455 : (Jvm.Cond.code ({ cls := "java/lang/AbstractStringBuilder", name := "inflate", desc := "()V" } : Jvm.MethodName) prog_27_method_11_code (2 : Nat) (Option.none : Option Jvm.ClassFile.FieldType)) ∈ lw_all := lw_g (lw_at lw_m2 96 rfl) rfl
theorem q456 : (Jvm.Cond.methodLink "java/lang/AbstractStringBuilder" (125 : Nat) ({ cls := "java/lang/StringLatin1", name := "inflate", desc := "([BI[BII)V" } : Jvm.MethodName)) ∈ lw_all := lw_g (lw_at lw_m2 97 rfl) rfl
theorem q471 : (Jvm.Cond.methodLink "java/lang/AbstractStringBuilder" (399 : Nat) ({ cls := "java/lang/String", name := "getBytes", desc := "([BIB)V" } : Jvm.MethodName)) ∈ lw_all := lw_g (lw_at lw_m2 112 rfl) rfl
theorem q482 : (Jvm.Cond.instanceMethod ({ cls := "java/lang/AbstractStringBuilder", name := "append", desc := "(I)Ljava/lang/AbstractStringBuilder;" } : Jvm.MethodName)) ∈ lw_all := lw_g (lw_at lw_m2 123 rfl) rfl
theorem q483 : (Jvm.Cond.code ({ cls := "java/lang/AbstractStringBuilder", name := "append", desc := "(I)Ljava/lang/AbstractStringBuilder;" } : Jvm.MethodName) prog_27_method_32_code (4 : Nat) (Option.some (Jvm.ClassFile.FieldType.object "java/lang/AbstractStringBuilder"))) ∈ lw_all := lw_g (lw_at lw_m2 124 rfl) rfl
theorem q484 : (Jvm.Cond.methodLink "java/lang/AbstractStringBuilder" (245 : Nat) ({ cls := "java/lang/Integer", name := "stringSize", desc := "(I)I" } : Jvm.MethodName)) ∈ lw_all := lw_g (lw_at lw_m2 125 rfl) rfl
theorem q487 : (Jvm.Cond.methodLink "java/lang/AbstractStringBuilder" (248 : Nat) ({ cls := "java/lang/Integer", name := "getChars", desc := "(II[B)I" } : Jvm.MethodName)) ∈ lw_all := lw_g (lw_at lw_m2 128 rfl) rfl
theorem q494 : (Jvm.Cond.methodLink "java/lang/AbstractStringBuilder" (251 : Nat) ({ cls := "java/lang/StringUTF16", name := "getChars", desc := "(III[B)I" } : Jvm.MethodName)) ∈ lw_all := lw_g (lw_at lw_m2 135 rfl) rfl
theorem q516 : (Jvm.Cond.instanceMethod ({ cls := "java/lang/AbstractStringBuilder", name := "getValue", desc := "()[B" } : Jvm.MethodName)) ∈ lw_all := lw_g (lw_at lw_m2 157 rfl) rfl
theorem q517 : (Jvm.Cond.sameMethod "java/lang/AbstractStringBuilder" "java/lang/AbstractStringBuilder" "getValue" "()[B") ∈ lw_all := lw_g (lw_at lw_m2 158 rfl) rfl
theorem q519 : (Jvm.Cond.code ({ cls := "java/lang/AbstractStringBuilder", name := "getValue", desc := "()[B" } : Jvm.MethodName) prog_27_method_64_code (1 : Nat) (Option.some (Jvm.ClassFile.FieldType.array Jvm.ClassFile.FieldType.byte))) ∈ lw_all := lw_g (lw_at lw_m2 160 rfl) rfl
theorem q521 : (Jvm.Cond.instanceMethod ({ cls := "java/lang/AbstractStringBuilder", name := "length", desc := "()I" } : Jvm.MethodName)) ∈ lw_all := lw_g (lw_at lw_m2 162 rfl) rfl
theorem q522 : (Jvm.Cond.sameMethod "java/lang/AbstractStringBuilder" "java/lang/AbstractStringBuilder" "length" "()I") ∈ lw_all := lw_g (lw_at lw_m2 163 rfl) rfl
theorem q527 : (Jvm.Cond.code ({ cls := "java/lang/AbstractStringBuilder", name := "length", desc := "()I" } : Jvm.MethodName) prog_27_method_6_code (1 : Nat) (Option.some Jvm.ClassFile.FieldType.int)) ∈ lw_all := lw_g (lw_at lw_m2 168 rfl) rfl
theorem q2546 : (Jvm.Cond.instanceMethod ({ cls := "java/lang/AbstractStringBuilder", name := "append", desc := "(C)Ljava/lang/AbstractStringBuilder;" } : Jvm.MethodName)) ∈ lw_all := lw_g (lw_at lw_m11 27 rfl) rfl
theorem q2547 : (Jvm.Cond.code ({ cls := "java/lang/AbstractStringBuilder", name := "append", desc := "(C)Ljava/lang/AbstractStringBuilder;" } : Jvm.MethodName) prog_27_method_31_code (2 : Nat) (Option.some (Jvm.ClassFile.FieldType.object "java/lang/AbstractStringBuilder"))) ∈ lw_all := lw_g (lw_at lw_m11 28 rfl) rfl
theorem q2548 : (Jvm.Cond.methodLink "java/lang/AbstractStringBuilder" (191 : Nat) ({ cls := "java/lang/StringLatin1", name := "canEncode", desc := "(C)Z" } : Jvm.MethodName)) ∈ lw_all := lw_g (lw_at lw_m11 29 rfl) rfl
theorem q2551 : (Jvm.Cond.methodLink "java/lang/AbstractStringBuilder" (197 : Nat) ({ cls := "java/lang/StringUTF16", name := "putCharSB", desc := "([BII)V" } : Jvm.MethodName)) ∈ lw_all := lw_g (lw_at lw_m11 32 rfl) rfl
theorem q2642 : (Jvm.Cond.instanceMethod ({ cls := "java/lang/AbstractStringBuilder", name := "charAt", desc := "(I)C" } : Jvm.MethodName)) ∈ lw_all := lw_g (lw_at lw_m11 123 rfl) rfl
theorem q2643 : (Jvm.Cond.code ({ cls := "java/lang/AbstractStringBuilder", name := "charAt", desc := "(I)C" } : Jvm.MethodName) prog_27_method_14_code (5 : Nat) (Option.some Jvm.ClassFile.FieldType.char)) ∈ lw_all := lw_g (lw_at lw_m11 124 rfl) rfl
theorem q2644 : (Jvm.Cond.methodLink "java/lang/AbstractStringBuilder" (138 : Nat) ({ cls := "java/lang/Math", name := "min", desc := "(II)I" } : Jvm.MethodName)) ∈ lw_all := lw_g (lw_at lw_m11 125 rfl) rfl
theorem q2645 : (Jvm.Cond.methodLink "java/lang/AbstractStringBuilder" (144 : Nat) ({ cls := "java/lang/String", name := "checkIndex", desc := "(II)V" } : Jvm.MethodName)) ∈ lw_all := lw_g (lw_at lw_m11 126 rfl) rfl
theorem q2646 : (Jvm.Cond.methodLink "java/lang/AbstractStringBuilder" (148 : Nat) ({ cls := "java/lang/StringUTF16", name := "getChar", desc := "([BI)C" } : Jvm.MethodName)) ∈ lw_all := lw_g (lw_at lw_m11 127 rfl) rfl
theorem q2741 : (Jvm.Cond.instanceMethod ({ cls := "java/lang/AbstractStringBuilder", name := "setLength", desc := "(I)V" } : Jvm.MethodName)) ∈ lw_all := lw_g (lw_at lw_m11 222 rfl) rfl
theorem q2742 : (Jvm.Cond.code ({ cls := "java/lang/AbstractStringBuilder", name := "setLength", desc := "(I)V" } : Jvm.MethodName) prog_27_method_13_code (2 : Nat) (Option.none : Option Jvm.ClassFile.FieldType)) ∈ lw_all := lw_g (lw_at lw_m11 223 rfl) rfl
theorem q2743 : (Jvm.Cond.classLink "java/lang/AbstractStringBuilder" (129 : Nat) "java/lang/StringIndexOutOfBoundsException") ∈ lw_all := lw_g (lw_at lw_m11 224 rfl) rfl
theorem q2745 : (Jvm.Cond.methodLink "java/lang/AbstractStringBuilder" (131 : Nat) ({ cls := "java/lang/StringIndexOutOfBoundsException", name := "<init>", desc := "(I)V" } : Jvm.MethodName)) ∈ lw_all := lw_g (lw_at lw_m11 226 rfl) rfl
theorem q2762 : (Jvm.Cond.methodLink "java/lang/AbstractStringBuilder" (133 : Nat) ({ cls := "java/lang/StringLatin1", name := "fillNull", desc := "([BII)V" } : Jvm.MethodName)) ∈ lw_all := lw_g (lw_at lw_m12 3 rfl) rfl
theorem q2784 : (Jvm.Cond.methodLink "java/lang/AbstractStringBuilder" (137 : Nat) ({ cls := "java/lang/StringUTF16", name := "fillNull", desc := "([BII)V" } : Jvm.MethodName)) ∈ lw_all := lw_g (lw_at lw_m12 25 rfl) rfl
theorem q3501 : (Jvm.Cond.sameMethod "java/lang/AbstractStringBuilder" "java/lang/AbstractStringBuilder" "append" "(Ljava/lang/String;)Ljava/lang/AbstractStringBuilder;") ∈ lw_all := lw_g (lw_at lw_m15 22 rfl) rfl
theorem q3502 : (Jvm.Cond.sameMethod "java/lang/AbstractStringBuilder" "java/lang/AbstractStringBuilder" "appendNull" "()Ljava/lang/AbstractStringBuilder;") ∈ lw_all := lw_g (lw_at lw_m15 23 rfl) rfl
theorem q3503 : (Jvm.Cond.sameMethod "java/lang/AbstractStringBuilder" "java/lang/AbstractStringBuilder" "ensureCapacityInternal" "(I)V") ∈ lw_all := lw_g (lw_at lw_m15 24 rfl) rfl
theorem q3504 : (Jvm.Cond.sameMethod "java/lang/AbstractStringBuilder" "java/lang/AbstractStringBuilder" "newCapacity" "(I)I") ∈ lw_all := lw_g (lw_at lw_m15 25 rfl) rfl
theorem q3505 : (Jvm.Cond.sameMethod "java/lang/AbstractStringBuilder" "java/lang/AbstractStringBuilder" "putStringAt" "(ILjava/lang/String;)V") ∈ lw_all := lw_g (lw_at lw_m15 26 rfl) rfl
theorem q3506 : (Jvm.Cond.sameMethod "java/lang/AbstractStringBuilder" "java/lang/AbstractStringBuilder" "inflateIfNeededFor" "(Ljava/lang/String;)V") ∈ lw_all := lw_g (lw_at lw_m15 27 rfl) rfl
theorem q3507 : (Jvm.Cond.sameMethod "java/lang/AbstractStringBuilder" "java/lang/AbstractStringBuilder" "inflate" "()V") ∈ lw_all := lw_g (lw_at lw_m15 28 rfl) rfl
theorem q3508 : (Jvm.Cond.sameMethod "java/lang/AbstractStringBuilder" "java/lang/AbstractStringBuilder" "append" "(I)Ljava/lang/AbstractStringBuilder;") ∈ lw_all := lw_g (lw_at lw_m15 29 rfl) rfl
theorem q3545 : (Jvm.Cond.sameMethod "java/lang/AbstractStringBuilder" "java/lang/AbstractStringBuilder" "append" "(C)Ljava/lang/AbstractStringBuilder;") ∈ lw_all := lw_g (lw_at lw_m15 66 rfl) rfl
theorem q3546 : (Jvm.Cond.sameMethod "java/lang/AbstractStringBuilder" "java/lang/AbstractStringBuilder" "charAt" "(I)C") ∈ lw_all := lw_g (lw_at lw_m15 67 rfl) rfl
theorem q3547 : (Jvm.Cond.sameMethod "java/lang/AbstractStringBuilder" "java/lang/AbstractStringBuilder" "setLength" "(I)V") ∈ lw_all := lw_g (lw_at lw_m15 68 rfl) rfl
/-! java/lang/StringBuilder -/
set_option maxRecDepth 100000
def RJ13 : String := "java/lang/StringBuilder"
def TJ13 : u_T := fun k => match k with
  | 0 => ("java/lang/AbstractStringBuilder", "value", "[B", false)
  | 1 => ("java/lang/AbstractStringBuilder", "coder", "B", false)
  | 2 => ("java/lang/AbstractStringBuilder", "maybeLatin1", "Z", false)
  | _ => ("java/lang/AbstractStringBuilder", "count", "I", false)
def tyJ13 : Nat → FieldType := fun k => match k with
  | 0 => .array .byte
  | 1 => .byte
  | 2 => .boolean
  | _ => .int
abbrev wsJ130 : List Cond := u_ws RJ13 TJ13 4
theorem nmJ13 : ∀ a, a < 4 → ∀ b, b < 4 → a ≠ b → (TJ13 a).2.1 ≠ (TJ13 b).2.1 := by decide +kernel
theorem tyJ13_ok : ∀ k, k < 4 → parseFieldDescriptor (TJ13 k).2.2.1 = some (tyJ13 k) := by decide +kernel
abbrev cJ13_init : ByteArray := prog_47_method_1_code
def yJ13_init : MethodName := ⟨RJ13, "<init>", "()V"⟩
def dkwJ13_init_0 : List UInt8 := [42, 16, 16, 183, 0, 1, 177]
abbrev dktJ13_init_0 : List UInt8 := dkwJ13_init_0 ++ []
theorem dksJ13_init_0 : cJ13_init.data.toList.drop 0 = dktJ13_init_0 := by decide +kernel
theorem dJ13_init_0 : decode cJ13_init 0 = .ok (.aload_n 0, 1) := dk_42 (dk_at dksJ13_init_0 0 rfl rfl)
theorem dJ13_init_1 : decode cJ13_init 1 = .ok (.bipush 16, 2) := dk_16 16 (dk_at dksJ13_init_0 1 rfl rfl)
theorem dJ13_init_3 : decode cJ13_init 3 = .ok (.invokespecial 1, 3) := dk_183 0 1 (dk_at dksJ13_init_0 3 rfl rfl)
theorem dJ13_init_6 : decode cJ13_init 6 = .ok (.return_, 1) := dk_177 (dk_at dksJ13_init_0 6 rfl rfl)
abbrev cJ13_append : ByteArray := prog_47_method_7_code
def yJ13_append : MethodName := ⟨RJ13, "append", "(Ljava/lang/String;)Ljava/lang/StringBuilder;"⟩
def dkwJ13_append_0 : List UInt8 := [42, 43, 183, 0, 29, 87, 42, 176]
abbrev dktJ13_append_0 : List UInt8 := dkwJ13_append_0 ++ []
theorem dksJ13_append_0 : cJ13_append.data.toList.drop 0 = dktJ13_append_0 := by decide +kernel
theorem dJ13_append_0 : decode cJ13_append 0 = .ok (.aload_n 0, 1) := dk_42 (dk_at dksJ13_append_0 0 rfl rfl)
theorem dJ13_append_1 : decode cJ13_append 1 = .ok (.aload_n 1, 1) := dk_43 (dk_at dksJ13_append_0 1 rfl rfl)
theorem dJ13_append_2 : decode cJ13_append 2 = .ok (.invokespecial 29, 3) := dk_183 0 29 (dk_at dksJ13_append_0 2 rfl rfl)
theorem dJ13_append_5 : decode cJ13_append 5 = .ok (.pop, 1) := dk_87 (dk_at dksJ13_append_0 5 rfl rfl)
theorem dJ13_append_6 : decode cJ13_append 6 = .ok (.aload_n 0, 1) := dk_42 (dk_at dksJ13_append_0 6 rfl rfl)
theorem dJ13_append_7 : decode cJ13_append 7 = .ok (.areturn, 1) := dk_176 (dk_at dksJ13_append_0 7 rfl rfl)
abbrev cJ13_append_2 : ByteArray := prog_47_method_15_code
def yJ13_append_2 : MethodName := ⟨RJ13, "append", "(I)Ljava/lang/StringBuilder;"⟩
def dkwJ13_append_2_0 : List UInt8 := [42, 27, 183, 0, 53, 87, 42, 176]
abbrev dktJ13_append_2_0 : List UInt8 := dkwJ13_append_2_0 ++ []
theorem dksJ13_append_2_0 : cJ13_append_2.data.toList.drop 0 = dktJ13_append_2_0 := by decide +kernel
theorem dJ13_append_2_0 : decode cJ13_append_2 0 = .ok (.aload_n 0, 1) := dk_42 (dk_at dksJ13_append_2_0 0 rfl rfl)
theorem dJ13_append_2_1 : decode cJ13_append_2 1 = .ok (.iload_n 1, 1) := dk_27 (dk_at dksJ13_append_2_0 1 rfl rfl)
theorem dJ13_append_2_2 : decode cJ13_append_2 2 = .ok (.invokespecial 53, 3) := dk_183 0 53 (dk_at dksJ13_append_2_0 2 rfl rfl)
theorem dJ13_append_2_5 : decode cJ13_append_2 5 = .ok (.pop, 1) := dk_87 (dk_at dksJ13_append_2_0 5 rfl rfl)
theorem dJ13_append_2_6 : decode cJ13_append_2 6 = .ok (.aload_n 0, 1) := dk_42 (dk_at dksJ13_append_2_0 6 rfl rfl)
theorem dJ13_append_2_7 : decode cJ13_append_2 7 = .ok (.areturn, 1) := dk_176 (dk_at dksJ13_append_2_0 7 rfl rfl)
abbrev cJ13_toString : ByteArray := prog_47_method_42_code
def yJ13_toString : MethodName := ⟨RJ13, "toString", "()Ljava/lang/String;"⟩
def dkwJ13_toString_0 : List UInt8 := [187, 0, 18, 89, 42, 183, 0, 137, 176]
abbrev dktJ13_toString_0 : List UInt8 := dkwJ13_toString_0 ++ []
theorem dksJ13_toString_0 : cJ13_toString.data.toList.drop 0 = dktJ13_toString_0 := by decide +kernel
theorem dJ13_toString_0 : decode cJ13_toString 0 = .ok (.new 18, 3) := dk_187 0 18 (dk_at dksJ13_toString_0 0 rfl rfl)
theorem dJ13_toString_3 : decode cJ13_toString 3 = .ok (.dup, 1) := dk_89 (dk_at dksJ13_toString_0 3 rfl rfl)
theorem dJ13_toString_4 : decode cJ13_toString 4 = .ok (.aload_n 0, 1) := dk_42 (dk_at dksJ13_toString_0 4 rfl rfl)
theorem dJ13_toString_5 : decode cJ13_toString 5 = .ok (.invokespecial 137, 3) := dk_183 0 137 (dk_at dksJ13_toString_0 5 rfl rfl)
theorem dJ13_toString_8 : decode cJ13_toString 8 = .ok (.areturn, 1) := dk_176 (dk_at dksJ13_toString_0 8 rfl rfl)
abbrev cJ13_length : ByteArray := prog_47_method_93_code
def yJ13_length : MethodName := ⟨RJ13, "length", "()I"⟩
theorem dJ13_length_0 : decode cJ13_length 0 = .ok (.aload_n 0, 1) := by decide +kernel
theorem dJ13_length_1 : decode cJ13_length 1 = .ok (.invokespecial 343, 3) := by decide +kernel
theorem dJ13_length_4 : decode cJ13_length 4 = .ok (.ireturn, 1) := by decide +kernel
abbrev cJ13_append_3 : ByteArray := prog_47_method_14_code
def yJ13_append_3 : MethodName := ⟨RJ13, "append", "(C)Ljava/lang/StringBuilder;"⟩
def dkwJ13_append_3_0 : List UInt8 := [42, 27, 183, 0, 50, 87, 42, 176]
abbrev dktJ13_append_3_0 : List UInt8 := dkwJ13_append_3_0 ++ []
theorem dksJ13_append_3_0 : cJ13_append_3.data.toList.drop 0 = dktJ13_append_3_0 := by decide +kernel
theorem dJ13_append_3_0 : decode cJ13_append_3 0 = .ok (.aload_n 0, 1) := dk_42 (dk_at dksJ13_append_3_0 0 rfl rfl)
theorem dJ13_append_3_1 : decode cJ13_append_3 1 = .ok (.iload_n 1, 1) := dk_27 (dk_at dksJ13_append_3_0 1 rfl rfl)
theorem dJ13_append_3_2 : decode cJ13_append_3 2 = .ok (.invokespecial 50, 3) := dk_183 0 50 (dk_at dksJ13_append_3_0 2 rfl rfl)
theorem dJ13_append_3_5 : decode cJ13_append_3 5 = .ok (.pop, 1) := dk_87 (dk_at dksJ13_append_3_0 5 rfl rfl)
theorem dJ13_append_3_6 : decode cJ13_append_3 6 = .ok (.aload_n 0, 1) := dk_42 (dk_at dksJ13_append_3_0 6 rfl rfl)
theorem dJ13_append_3_7 : decode cJ13_append_3 7 = .ok (.areturn, 1) := dk_176 (dk_at dksJ13_append_3_0 7 rfl rfl)
abbrev cJ13_charAt : ByteArray := prog_47_method_88_code
def yJ13_charAt : MethodName := ⟨RJ13, "charAt", "(I)C"⟩
def dkwJ13_charAt_0 : List UInt8 := [42, 27, 183, 1, 73, 172]
abbrev dktJ13_charAt_0 : List UInt8 := dkwJ13_charAt_0 ++ []
theorem dksJ13_charAt_0 : cJ13_charAt.data.toList.drop 0 = dktJ13_charAt_0 := by decide +kernel
theorem dJ13_charAt_0 : decode cJ13_charAt 0 = .ok (.aload_n 0, 1) := dk_42 (dk_at dksJ13_charAt_0 0 rfl rfl)
theorem dJ13_charAt_1 : decode cJ13_charAt 1 = .ok (.iload_n 1, 1) := dk_27 (dk_at dksJ13_charAt_0 1 rfl rfl)
theorem dJ13_charAt_2 : decode cJ13_charAt 2 = .ok (.invokespecial 329, 3) := dk_183 1 73 (dk_at dksJ13_charAt_0 2 rfl rfl)
theorem dJ13_charAt_5 : decode cJ13_charAt 5 = .ok (.ireturn, 1) := dk_172 (dk_at dksJ13_charAt_0 5 rfl rfl)
abbrev cJ13_setLength : ByteArray := prog_47_method_89_code
def yJ13_setLength : MethodName := ⟨RJ13, "setLength", "(I)V"⟩
def dkwJ13_setLength_0 : List UInt8 := [42, 27, 183, 1, 77, 177]
abbrev dktJ13_setLength_0 : List UInt8 := dkwJ13_setLength_0 ++ []
theorem dksJ13_setLength_0 : cJ13_setLength.data.toList.drop 0 = dktJ13_setLength_0 := by decide +kernel
theorem dJ13_setLength_0 : decode cJ13_setLength 0 = .ok (.aload_n 0, 1) := dk_42 (dk_at dksJ13_setLength_0 0 rfl rfl)
theorem dJ13_setLength_1 : decode cJ13_setLength 1 = .ok (.iload_n 1, 1) := dk_27 (dk_at dksJ13_setLength_0 1 rfl rfl)
theorem dJ13_setLength_2 : decode cJ13_setLength 2 = .ok (.invokespecial 333, 3) := dk_183 1 77 (dk_at dksJ13_setLength_0 2 rfl rfl)
theorem dJ13_setLength_5 : decode cJ13_setLength 5 = .ok (.return_, 1) := dk_177 (dk_at dksJ13_setLength_0 5 rfl rfl)
theorem q136 : (Jvm.Cond.initialized "java/lang/StringBuilder") ∈ lw_all := lw_g (lw_at lw_m1 17 rfl) rfl
theorem q324 : (Jvm.Cond.instantiable "java/lang/StringBuilder" (4 : Nat)) ∈ lw_all := lw_g (lw_at lw_m1 205 rfl) rfl
theorem q326 : (Jvm.Cond.instanceMethod ({ cls := "java/lang/StringBuilder", name := "<init>", desc := "()V" } : Jvm.MethodName)) ∈ lw_all := lw_g (lw_at lw_m1 207 rfl) rfl
theorem q327 : (Jvm.Cond.code ({ cls := "java/lang/StringBuilder", name := "<init>", desc := "()V" } : Jvm.MethodName) prog_47_method_1_code (1 : Nat) (Option.none : Option Jvm.ClassFile.FieldType)) ∈ lw_all := lw_g (lw_at lw_m1 208 rfl) rfl
theorem q328 : (Jvm.Cond.methodLink "java/lang/StringBuilder" (1 : Nat) ({ cls := "java/lang/AbstractStringBuilder", name := "<init>", desc := "(I)V" } : Jvm.MethodName)) ∈ lw_all := lw_g (lw_at lw_m1 209 rfl) rfl
theorem q346 : (Jvm.Cond.lays "java/lang/StringBuilder" "java/lang/AbstractStringBuilder" "value" "[B") ∈ lw_all := lw_g (lw_at lw_m1 227 rfl) rfl
theorem q348 : (Jvm.Cond.lays "java/lang/StringBuilder" "java/lang/AbstractStringBuilder" "coder" "B") ∈ lw_all := lw_g (lw_at lw_m1 229 rfl) rfl
theorem q350 : (Jvm.Cond.lays "java/lang/StringBuilder" "java/lang/AbstractStringBuilder" "maybeLatin1" "Z") ∈ lw_all := lw_g (lw_at lw_m1 231 rfl) rfl
theorem q352 : (Jvm.Cond.lays "java/lang/StringBuilder" "java/lang/AbstractStringBuilder" "count" "I") ∈ lw_all := lw_g (lw_at lw_m1 233 rfl) rfl
theorem q354 : (Jvm.Cond.superclass "java/lang/StringBuilder" "java/lang/AbstractStringBuilder") ∈ lw_all := lw_g (lw_at lw_m1 235 rfl) rfl
theorem q358 : (Jvm.Cond.instanceMethod ({ cls := "java/lang/StringBuilder", name := "append", desc := "(Ljava/lang/String;)Ljava/lang/StringBuilder;" } : Jvm.MethodName)) ∈ lw_all := lw_g (lw_at lw_m1 239 rfl) rfl
theorem q359 : (Jvm.Cond.selects "java/lang/StringBuilder" ({ cls := "java/lang/StringBuilder", name := "append", desc := "(Ljava/lang/String;)Ljava/lang/StringBuilder;" } : Jvm.MethodName) ({ cls := "java/lang/StringBuilder", name := "append", desc := "(Ljava/lang/String;)Ljava/lang/StringBuilder;" } : Jvm.MethodName)) ∈ lw_all := lw_g (lw_at lw_m2 0 rfl) rfl
theorem q360 : (Jvm.Cond.code ({ cls := "java/lang/StringBuilder", name := "append", desc := "(Ljava/lang/String;)Ljava/lang/StringBuilder;" } : Jvm.MethodName) prog_47_method_7_code (2 : Nat) (Option.some (Jvm.ClassFile.FieldType.object "java/lang/StringBuilder"))) ∈ lw_all := lw_g (lw_at lw_m2 1 rfl) rfl
theorem q361 : (Jvm.Cond.methodLink "java/lang/StringBuilder" (29 : Nat) ({ cls := "java/lang/AbstractStringBuilder", name := "append", desc := "(Ljava/lang/String;)Ljava/lang/AbstractStringBuilder;" } : Jvm.MethodName)) ∈ lw_all := lw_g (lw_at lw_m2 2 rfl) rfl
theorem q406 : (Jvm.Cond.selects "java/lang/StringBuilder" ({ cls := "java/lang/AbstractStringBuilder", name := "isLatin1", desc := "()Z" } : Jvm.MethodName) ({ cls := "java/lang/AbstractStringBuilder", name := "isLatin1", desc := "()Z" } : Jvm.MethodName)) ∈ lw_all := lw_g (lw_at lw_m2 47 rfl) rfl
theorem q478 : (Jvm.Cond.instanceMethod ({ cls := "java/lang/StringBuilder", name := "append", desc := "(I)Ljava/lang/StringBuilder;" } : Jvm.MethodName)) ∈ lw_all := lw_g (lw_at lw_m2 119 rfl) rfl
theorem q479 : (Jvm.Cond.selects "java/lang/StringBuilder" ({ cls := "java/lang/StringBuilder", name := "append", desc := "(I)Ljava/lang/StringBuilder;" } : Jvm.MethodName) ({ cls := "java/lang/StringBuilder", name := "append", desc := "(I)Ljava/lang/StringBuilder;" } : Jvm.MethodName)) ∈ lw_all := lw_g (lw_at lw_m2 120 rfl) rfl
theorem q480 : (Jvm.Cond.code ({ cls := "java/lang/StringBuilder", name := "append", desc := "(I)Ljava/lang/StringBuilder;" } : Jvm.MethodName) prog_47_method_15_code (2 : Nat) (Option.some (Jvm.ClassFile.FieldType.object "java/lang/StringBuilder"))) ∈ lw_all := lw_g (lw_at lw_m2 121 rfl) rfl
theorem q481 : (Jvm.Cond.methodLink "java/lang/StringBuilder" (53 : Nat) ({ cls := "java/lang/AbstractStringBuilder", name := "append", desc := "(I)Ljava/lang/AbstractStringBuilder;" } : Jvm.MethodName)) ∈ lw_all := lw_g (lw_at lw_m2 122 rfl) rfl
theorem q503 : (Jvm.Cond.instanceMethod ({ cls := "java/lang/StringBuilder", name := "toString", desc := "()Ljava/lang/String;" } : Jvm.MethodName)) ∈ lw_all := lw_g (lw_at lw_m2 144 rfl) rfl
theorem q504 : (Jvm.Cond.selects "java/lang/StringBuilder" ({ cls := "java/lang/StringBuilder", name := "toString", desc := "()Ljava/lang/String;" } : Jvm.MethodName) ({ cls := "java/lang/StringBuilder", name := "toString", desc := "()Ljava/lang/String;" } : Jvm.MethodName)) ∈ lw_all := lw_g (lw_at lw_m2 145 rfl) rfl
theorem q505 : (Jvm.Cond.code ({ cls := "java/lang/StringBuilder", name := "toString", desc := "()Ljava/lang/String;" } : Jvm.MethodName) prog_47_method_42_code (1 : Nat) (Option.some (Jvm.ClassFile.FieldType.object "java/lang/String"))) ∈ lw_all := lw_g (lw_at lw_m2 146 rfl) rfl
theorem q506 : (Jvm.Cond.classLink "java/lang/StringBuilder" (18 : Nat) "java/lang/String") ∈ lw_all := lw_g (lw_at lw_m2 147 rfl) rfl
theorem q508 : (Jvm.Cond.methodLink "java/lang/StringBuilder" (137 : Nat) ({ cls := "java/lang/String", name := "<init>", desc := "(Ljava/lang/StringBuilder;)V" } : Jvm.MethodName)) ∈ lw_all := lw_g (lw_at lw_m2 149 rfl) rfl
theorem q518 : (Jvm.Cond.selects "java/lang/StringBuilder" ({ cls := "java/lang/AbstractStringBuilder", name := "getValue", desc := "()[B" } : Jvm.MethodName) ({ cls := "java/lang/AbstractStringBuilder", name := "getValue", desc := "()[B" } : Jvm.MethodName)) ∈ lw_all := lw_g (lw_at lw_m2 159 rfl) rfl
theorem q523 : (Jvm.Cond.selects "java/lang/StringBuilder" ({ cls := "java/lang/AbstractStringBuilder", name := "length", desc := "()I" } : Jvm.MethodName) ({ cls := "java/lang/StringBuilder", name := "length", desc := "()I" } : Jvm.MethodName)) ∈ lw_all := lw_g (lw_at lw_m2 164 rfl) rfl
theorem q524 : (Jvm.Cond.instanceMethod ({ cls := "java/lang/StringBuilder", name := "length", desc := "()I" } : Jvm.MethodName)) ∈ lw_all := lw_g (lw_at lw_m2 165 rfl) rfl
theorem q525 : (Jvm.Cond.code ({ cls := "java/lang/StringBuilder", name := "length", desc := "()I" } : Jvm.MethodName) prog_47_method_93_code (1 : Nat) (Option.some Jvm.ClassFile.FieldType.int)) ∈ lw_all := lw_g (lw_at lw_m2 166 rfl) rfl
theorem q526 : (Jvm.Cond.methodLink "java/lang/StringBuilder" (343 : Nat) ({ cls := "java/lang/AbstractStringBuilder", name := "length", desc := "()I" } : Jvm.MethodName)) ∈ lw_all := lw_g (lw_at lw_m2 167 rfl) rfl
theorem q1104 : (Jvm.Cond.selects "java/lang/StringBuilder" ({ cls := "java/lang/Object", name := "getClass", desc := "()Ljava/lang/Class;" } : Jvm.MethodName) ({ cls := "java/lang/Object", name := "getClass", desc := "()Ljava/lang/Class;" } : Jvm.MethodName)) ∈ lw_all := lw_g (lw_at lw_m5 25 rfl) rfl
theorem q2542 : (Jvm.Cond.instanceMethod ({ cls := "java/lang/StringBuilder", name := "append", desc := "(C)Ljava/lang/StringBuilder;" } : Jvm.MethodName)) ∈ lw_all := lw_g (lw_at lw_m11 23 rfl) rfl
theorem q2543 : (Jvm.Cond.selects "java/lang/StringBuilder" ({ cls := "java/lang/StringBuilder", name := "append", desc := "(C)Ljava/lang/StringBuilder;" } : Jvm.MethodName) ({ cls := "java/lang/StringBuilder", name := "append", desc := "(C)Ljava/lang/StringBuilder;" } : Jvm.MethodName)) ∈ lw_all := lw_g (lw_at lw_m11 24 rfl) rfl
theorem q2544 : (Jvm.Cond.code ({ cls := "java/lang/StringBuilder", name := "append", desc := "(C)Ljava/lang/StringBuilder;" } : Jvm.MethodName) prog_47_method_14_code (2 : Nat) (Option.some (Jvm.ClassFile.FieldType.object "java/lang/StringBuilder"))) ∈ lw_all := lw_g (lw_at lw_m11 25 rfl) rfl
theorem q2545 : (Jvm.Cond.methodLink "java/lang/StringBuilder" (50 : Nat) ({ cls := "java/lang/AbstractStringBuilder", name := "append", desc := "(C)Ljava/lang/AbstractStringBuilder;" } : Jvm.MethodName)) ∈ lw_all := lw_g (lw_at lw_m11 26 rfl) rfl
theorem q2612 : (Jvm.Cond.castable "java/lang/StringBuilder" "java/lang/CharSequence") ∈ lw_tbl := lw_at lw_m11 93 rfl
theorem q2613 : (Jvm.Cond.selects "java/lang/StringBuilder" ({ cls := "java/lang/CharSequence", name := "length", desc := "()I" } : Jvm.MethodName) ({ cls := "java/lang/StringBuilder", name := "length", desc := "()I" } : Jvm.MethodName)) ∈ lw_all := lw_g (lw_at lw_m11 94 rfl) rfl
theorem q2614 : (Jvm.Cond.unhidden "java/lang/StringBuilder" "length" "()I") ∈ lw_tbl := lw_at lw_m11 95 rfl
theorem q2615 : (Jvm.Cond.publicMethod ({ cls := "java/lang/StringBuilder", name := "length", desc := "()I" } : Jvm.MethodName)) ∈ lw_tbl := lw_at lw_m11 96 rfl
theorem q2636 : (Jvm.Cond.selects "java/lang/StringBuilder" ({ cls := "java/lang/CharSequence", name := "charAt", desc := "(I)C" } : Jvm.MethodName) ({ cls := "java/lang/StringBuilder", name := "charAt", desc := "(I)C" } : Jvm.MethodName)) ∈ lw_all := lw_g (lw_at lw_m11 117 rfl) rfl
theorem q2637 : (Jvm.Cond.unhidden "java/lang/StringBuilder" "charAt" "(I)C") ∈ lw_tbl := lw_at lw_m11 118 rfl
theorem q2638 : (Jvm.Cond.instanceMethod ({ cls := "java/lang/StringBuilder", name := "charAt", desc := "(I)C" } : Jvm.MethodName)) ∈ lw_all := lw_g (lw_at lw_m11 119 rfl) rfl
theorem q2639 : (Jvm.Cond.publicMethod ({ cls := "java/lang/StringBuilder", name := "charAt", desc := "(I)C" } : Jvm.MethodName)) ∈ lw_tbl := lw_at lw_m11 120 rfl
theorem q2640 : (Jvm.Cond.code ({ cls := "java/lang/StringBuilder", name := "charAt", desc := "(I)C" } : Jvm.MethodName) prog_47_method_88_code (2 : Nat) (Option.some Jvm.ClassFile.FieldType.char)) ∈ lw_all := lw_g (lw_at lw_m11 121 rfl) rfl
theorem q2641 : (Jvm.Cond.methodLink "java/lang/StringBuilder" (329 : Nat) ({ cls := "java/lang/AbstractStringBuilder", name := "charAt", desc := "(I)C" } : Jvm.MethodName)) ∈ lw_all := lw_g (lw_at lw_m11 122 rfl) rfl
theorem q2737 : (Jvm.Cond.instanceMethod ({ cls := "java/lang/StringBuilder", name := "setLength", desc := "(I)V" } : Jvm.MethodName)) ∈ lw_all := lw_g (lw_at lw_m11 218 rfl) rfl
theorem q2738 : (Jvm.Cond.selects "java/lang/StringBuilder" ({ cls := "java/lang/StringBuilder", name := "setLength", desc := "(I)V" } : Jvm.MethodName) ({ cls := "java/lang/StringBuilder", name := "setLength", desc := "(I)V" } : Jvm.MethodName)) ∈ lw_all := lw_g (lw_at lw_m11 219 rfl) rfl
theorem q2739 : (Jvm.Cond.code ({ cls := "java/lang/StringBuilder", name := "setLength", desc := "(I)V" } : Jvm.MethodName) prog_47_method_89_code (2 : Nat) (Option.none : Option Jvm.ClassFile.FieldType)) ∈ lw_all := lw_g (lw_at lw_m11 220 rfl) rfl
theorem q2740 : (Jvm.Cond.methodLink "java/lang/StringBuilder" (333 : Nat) ({ cls := "java/lang/AbstractStringBuilder", name := "setLength", desc := "(I)V" } : Jvm.MethodName)) ∈ lw_all := lw_g (lw_at lw_m11 221 rfl) rfl
theorem q3544 : (Jvm.Cond.selects "java/lang/StringBuilder" ({ cls := "java/lang/StringBuilder", name := "length", desc := "()I" } : Jvm.MethodName) ({ cls := "java/lang/StringBuilder", name := "length", desc := "()I" } : Jvm.MethodName)) ∈ lw_all := lw_g (lw_at lw_m15 65 rfl) rfl
theorem q3570 : (Jvm.Cond.castable "java/lang/StringBuilder" "java/lang/Object") ∈ lw_tbl := lw_at lw_m15 91 rfl
theorem in_J13 : ∀ w ∈ wsJ130, w ∈ lw_all := lw_in wsJ130 [346, 348, 350, 352] (by decide +kernel) (by decide +kernel)
/-! java/lang/String -/
set_option maxRecDepth 100000
def RJ14 : String := "java/lang/String"
def TJ14 : u_T := fun k => match k with
  | 0 => ("java/lang/String", "value", "[B", true)
  | 1 => ("java/lang/String", "coder", "B", true)
  | 2 => ("java/lang/String", "hash", "I", false)
  | _ => ("java/lang/String", "hashIsZero", "Z", false)
def tyJ14 : Nat → FieldType := fun k => match k with
  | 0 => .array .byte
  | 1 => .byte
  | 2 => .int
  | _ => .boolean
abbrev wsJ140 : List Cond := u_ws RJ14 TJ14 4
theorem nmJ14 : ∀ a, a < 4 → ∀ b, b < 4 → a ≠ b → (TJ14 a).2.1 ≠ (TJ14 b).2.1 := by decide +kernel
theorem tyJ14_ok : ∀ k, k < 4 → parseFieldDescriptor (TJ14 k).2.2.1 = some (tyJ14 k) := by decide +kernel
abbrev cJ14_checkBoundsBeginEnd : ByteArray := prog_46_method_158_code
def yJ14_checkBoundsBeginEnd : MethodName := ⟨RJ14, "checkBoundsBeginEnd", "(III)V"⟩
def dkwJ14_checkBoundsBeginEnd_0 : List UInt8 := [26, 27, 28, 178, 4, 29, 184, 4, 38, 87, 177]
abbrev dktJ14_checkBoundsBeginEnd_0 : List UInt8 := dkwJ14_checkBoundsBeginEnd_0 ++ []
theorem dksJ14_checkBoundsBeginEnd_0 : cJ14_checkBoundsBeginEnd.data.toList.drop 0 = dktJ14_checkBoundsBeginEnd_0 := by decide +kernel
theorem dJ14_checkBoundsBeginEnd_0 : decode cJ14_checkBoundsBeginEnd 0 = .ok (.iload_n 0, 1) := dk_26 (dk_at dksJ14_checkBoundsBeginEnd_0 0 rfl rfl)
theorem dJ14_checkBoundsBeginEnd_1 : decode cJ14_checkBoundsBeginEnd 1 = .ok (.iload_n 1, 1) := dk_27 (dk_at dksJ14_checkBoundsBeginEnd_0 1 rfl rfl)
theorem dJ14_checkBoundsBeginEnd_2 : decode cJ14_checkBoundsBeginEnd 2 = .ok (.iload_n 2, 1) := dk_28 (dk_at dksJ14_checkBoundsBeginEnd_0 2 rfl rfl)
theorem dJ14_checkBoundsBeginEnd_3 : decode cJ14_checkBoundsBeginEnd 3 = .ok (.getstatic 1053, 3) := dk_178 4 29 (dk_at dksJ14_checkBoundsBeginEnd_0 3 rfl rfl)
theorem dJ14_checkBoundsBeginEnd_6 : decode cJ14_checkBoundsBeginEnd 6 = .ok (.invokestatic 1062, 3) := dk_184 4 38 (dk_at dksJ14_checkBoundsBeginEnd_0 6 rfl rfl)
theorem dJ14_checkBoundsBeginEnd_9 : decode cJ14_checkBoundsBeginEnd 9 = .ok (.pop, 1) := dk_87 (dk_at dksJ14_checkBoundsBeginEnd_0 9 rfl rfl)
theorem dJ14_checkBoundsBeginEnd_10 : decode cJ14_checkBoundsBeginEnd 10 = .ok (.return_, 1) := dk_177 (dk_at dksJ14_checkBoundsBeginEnd_0 10 rfl rfl)
abbrev cJ14_length : ByteArray := prog_46_method_54_code
def yJ14_length : MethodName := ⟨RJ14, "length", "()I"⟩
def dkwJ14_length_0 : List UInt8 := [42, 180, 0, 9, 190, 42, 182, 1, 79, 122, 172]
abbrev dktJ14_length_0 : List UInt8 := dkwJ14_length_0 ++ []
theorem dksJ14_length_0 : cJ14_length.data.toList.drop 0 = dktJ14_length_0 := by decide +kernel
theorem dJ14_length_0 : decode cJ14_length 0 = .ok (.aload_n 0, 1) := dk_42 (dk_at dksJ14_length_0 0 rfl rfl)
theorem dJ14_length_1 : decode cJ14_length 1 = .ok (.getfield 9, 3) := dk_180 0 9 (dk_at dksJ14_length_0 1 rfl rfl)
theorem dJ14_length_4 : decode cJ14_length 4 = .ok (.arraylength, 1) := dk_190 (dk_at dksJ14_length_0 4 rfl rfl)
theorem dJ14_length_5 : decode cJ14_length 5 = .ok (.aload_n 0, 1) := dk_42 (dk_at dksJ14_length_0 5 rfl rfl)
theorem dJ14_length_6 : decode cJ14_length 6 = .ok (.invokevirtual 335, 3) := dk_182 1 79 (dk_at dksJ14_length_0 6 rfl rfl)
theorem dJ14_length_9 : decode cJ14_length 9 = .ok (.ishr, 1) := dk_122 (dk_at dksJ14_length_0 9 rfl rfl)
theorem dJ14_length_10 : decode cJ14_length 10 = .ok (.ireturn, 1) := dk_172 (dk_at dksJ14_length_0 10 rfl rfl)
abbrev cJ14_coder : ByteArray := prog_46_method_152_code
def yJ14_coder : MethodName := ⟨RJ14, "coder", "()B"⟩
def dkwJ14_coder_0 : List UInt8 := [178, 0, 38, 153, 0, 10, 42, 180, 0, 15, 167, 0, 4, 4, 172]
abbrev dktJ14_coder_0 : List UInt8 := dkwJ14_coder_0 ++ []
theorem dksJ14_coder_0 : cJ14_coder.data.toList.drop 0 = dktJ14_coder_0 := by decide +kernel
theorem dJ14_coder_0 : decode cJ14_coder 0 = .ok (.getstatic 38, 3) := dk_178 0 38 (dk_at dksJ14_coder_0 0 rfl rfl)
theorem dJ14_coder_3 : decode cJ14_coder 3 = .ok (.ifCond .eq 10, 3) := dk_153 0 10 (dk_at dksJ14_coder_0 3 rfl rfl)
theorem dJ14_coder_6 : decode cJ14_coder 6 = .ok (.aload_n 0, 1) := dk_42 (dk_at dksJ14_coder_0 6 rfl rfl)
theorem dJ14_coder_7 : decode cJ14_coder 7 = .ok (.getfield 15, 3) := dk_180 0 15 (dk_at dksJ14_coder_0 7 rfl rfl)
theorem dJ14_coder_10 : decode cJ14_coder 10 = .ok (.goto 4, 3) := dk_167 0 4 (dk_at dksJ14_coder_0 10 rfl rfl)
theorem dJ14_coder_13 : decode cJ14_coder 13 = .ok (.iconst 1, 1) := dk_4 (dk_at dksJ14_coder_0 13 rfl rfl)
theorem dJ14_coder_14 : decode cJ14_coder 14 = .ok (.ireturn, 1) := dk_172 (dk_at dksJ14_coder_0 14 rfl rfl)
abbrev cJ14_checkBoundsOffCount : ByteArray := prog_46_method_157_code
def yJ14_checkBoundsOffCount : MethodName := ⟨RJ14, "checkBoundsOffCount", "(III)I"⟩
def dkwJ14_checkBoundsOffCount_0 : List UInt8 := [26, 27, 28, 178, 4, 29, 184, 4, 41, 172]
abbrev dktJ14_checkBoundsOffCount_0 : List UInt8 := dkwJ14_checkBoundsOffCount_0 ++ []
theorem dksJ14_checkBoundsOffCount_0 : cJ14_checkBoundsOffCount.data.toList.drop 0 = dktJ14_checkBoundsOffCount_0 := by decide +kernel
theorem dJ14_checkBoundsOffCount_0 : decode cJ14_checkBoundsOffCount 0 = .ok (.iload_n 0, 1) := dk_26 (dk_at dksJ14_checkBoundsOffCount_0 0 rfl rfl)
theorem dJ14_checkBoundsOffCount_1 : decode cJ14_checkBoundsOffCount 1 = .ok (.iload_n 1, 1) := dk_27 (dk_at dksJ14_checkBoundsOffCount_0 1 rfl rfl)
theorem dJ14_checkBoundsOffCount_2 : decode cJ14_checkBoundsOffCount 2 = .ok (.iload_n 2, 1) := dk_28 (dk_at dksJ14_checkBoundsOffCount_0 2 rfl rfl)
theorem dJ14_checkBoundsOffCount_3 : decode cJ14_checkBoundsOffCount 3 = .ok (.getstatic 1053, 3) := dk_178 4 29 (dk_at dksJ14_checkBoundsOffCount_0 3 rfl rfl)
theorem dJ14_checkBoundsOffCount_6 : decode cJ14_checkBoundsOffCount 6 = .ok (.invokestatic 1065, 3) := dk_184 4 41 (dk_at dksJ14_checkBoundsOffCount_0 6 rfl rfl)
theorem dJ14_checkBoundsOffCount_9 : decode cJ14_checkBoundsOffCount 9 = .ok (.ireturn, 1) := dk_172 (dk_at dksJ14_checkBoundsOffCount_0 9 rfl rfl)
abbrev cJ14_getBytes : ByteArray := prog_46_method_147_code
def yJ14_getBytes : MethodName := ⟨RJ14, "getBytes", "([BIB)V"⟩
def dkwJ14_getBytes_1 : List UInt8 := [184, 0, 212, 167, 0, 18, 42, 180, 0, 9, 3, 43, 28, 42, 180, 0, 9, 190, 184, 0, 106, 177]
abbrev dktJ14_getBytes_1 : List UInt8 := dkwJ14_getBytes_1 ++ []
def dkwJ14_getBytes_0 : List UInt8 := [42, 182, 1, 79, 29, 160, 0, 23, 42, 180, 0, 9, 3, 43, 28, 29, 120, 42, 180, 0, 9, 190]
abbrev dktJ14_getBytes_0 : List UInt8 := dkwJ14_getBytes_0 ++ dktJ14_getBytes_1
theorem dksJ14_getBytes_0 : cJ14_getBytes.data.toList.drop 0 = dktJ14_getBytes_0 := by decide +kernel
theorem dksJ14_getBytes_1 : cJ14_getBytes.data.toList.drop 22 = dktJ14_getBytes_1 := dk_seg dksJ14_getBytes_0 22 rfl rfl
theorem dJ14_getBytes_0 : decode cJ14_getBytes 0 = .ok (.aload_n 0, 1) := dk_42 (dk_at dksJ14_getBytes_0 0 rfl rfl)
theorem dJ14_getBytes_1 : decode cJ14_getBytes 1 = .ok (.invokevirtual 335, 3) := dk_182 1 79 (dk_at dksJ14_getBytes_0 1 rfl rfl)
theorem dJ14_getBytes_4 : decode cJ14_getBytes 4 = .ok (.iload_n 3, 1) := dk_29 (dk_at dksJ14_getBytes_0 4 rfl rfl)
theorem dJ14_getBytes_5 : decode cJ14_getBytes 5 = .ok (.if_icmp .ne 23, 3) := dk_160 0 23 (dk_at dksJ14_getBytes_0 5 rfl rfl)
theorem dJ14_getBytes_8 : decode cJ14_getBytes 8 = .ok (.aload_n 0, 1) := dk_42 (dk_at dksJ14_getBytes_0 8 rfl rfl)
theorem dJ14_getBytes_9 : decode cJ14_getBytes 9 = .ok (.getfield 9, 3) := dk_180 0 9 (dk_at dksJ14_getBytes_0 9 rfl rfl)
theorem dJ14_getBytes_12 : decode cJ14_getBytes 12 = .ok (.iconst 0, 1) := dk_3 (dk_at dksJ14_getBytes_0 12 rfl rfl)
theorem dJ14_getBytes_13 : decode cJ14_getBytes 13 = .ok (.aload_n 1, 1) := dk_43 (dk_at dksJ14_getBytes_0 13 rfl rfl)
theorem dJ14_getBytes_14 : decode cJ14_getBytes 14 = .ok (.iload_n 2, 1) := dk_28 (dk_at dksJ14_getBytes_0 14 rfl rfl)
theorem dJ14_getBytes_15 : decode cJ14_getBytes 15 = .ok (.iload_n 3, 1) := dk_29 (dk_at dksJ14_getBytes_0 15 rfl rfl)
theorem dJ14_getBytes_16 : decode cJ14_getBytes 16 = .ok (.ishl, 1) := dk_120 (dk_at dksJ14_getBytes_0 16 rfl rfl)
theorem dJ14_getBytes_17 : decode cJ14_getBytes 17 = .ok (.aload_n 0, 1) := dk_42 (dk_at dksJ14_getBytes_0 17 rfl rfl)
theorem dJ14_getBytes_18 : decode cJ14_getBytes 18 = .ok (.getfield 9, 3) := dk_180 0 9 (dk_at dksJ14_getBytes_0 18 rfl rfl)
theorem dJ14_getBytes_21 : decode cJ14_getBytes 21 = .ok (.arraylength, 1) := dk_190 (dk_at dksJ14_getBytes_0 21 rfl rfl)
theorem dJ14_getBytes_22 : decode cJ14_getBytes 22 = .ok (.invokestatic 212, 3) := dk_184 0 212 (dk_at dksJ14_getBytes_1 0 rfl rfl)
theorem dJ14_getBytes_25 : decode cJ14_getBytes 25 = .ok (.goto 18, 3) := dk_167 0 18 (dk_at dksJ14_getBytes_1 3 rfl rfl)
theorem dJ14_getBytes_28 : decode cJ14_getBytes 28 = .ok (.aload_n 0, 1) := dk_42 (dk_at dksJ14_getBytes_1 6 rfl rfl)
theorem dJ14_getBytes_29 : decode cJ14_getBytes 29 = .ok (.getfield 9, 3) := dk_180 0 9 (dk_at dksJ14_getBytes_1 7 rfl rfl)
theorem dJ14_getBytes_32 : decode cJ14_getBytes 32 = .ok (.iconst 0, 1) := dk_3 (dk_at dksJ14_getBytes_1 10 rfl rfl)
theorem dJ14_getBytes_33 : decode cJ14_getBytes 33 = .ok (.aload_n 1, 1) := dk_43 (dk_at dksJ14_getBytes_1 11 rfl rfl)
theorem dJ14_getBytes_34 : decode cJ14_getBytes 34 = .ok (.iload_n 2, 1) := dk_28 (dk_at dksJ14_getBytes_1 12 rfl rfl)
theorem dJ14_getBytes_35 : decode cJ14_getBytes 35 = .ok (.aload_n 0, 1) := dk_42 (dk_at dksJ14_getBytes_1 13 rfl rfl)
theorem dJ14_getBytes_36 : decode cJ14_getBytes 36 = .ok (.getfield 9, 3) := dk_180 0 9 (dk_at dksJ14_getBytes_1 14 rfl rfl)
theorem dJ14_getBytes_39 : decode cJ14_getBytes 39 = .ok (.arraylength, 1) := dk_190 (dk_at dksJ14_getBytes_1 17 rfl rfl)
theorem dJ14_getBytes_40 : decode cJ14_getBytes 40 = .ok (.invokestatic 106, 3) := dk_184 0 106 (dk_at dksJ14_getBytes_1 18 rfl rfl)
theorem dJ14_getBytes_43 : decode cJ14_getBytes 43 = .ok (.return_, 1) := dk_177 (dk_at dksJ14_getBytes_1 21 rfl rfl)
abbrev cJ14_init : ByteArray := prog_46_method_53_code
def yJ14_init : MethodName := ⟨RJ14, "<init>", "(Ljava/lang/StringBuilder;)V"⟩
def dkwJ14_init_0 : List UInt8 := [42, 43, 1, 183, 1, 233, 177]
abbrev dktJ14_init_0 : List UInt8 := dkwJ14_init_0 ++ []
theorem dksJ14_init_0 : cJ14_init.data.toList.drop 0 = dktJ14_init_0 := by decide +kernel
theorem dJ14_init_0 : decode cJ14_init 0 = .ok (.aload_n 0, 1) := dk_42 (dk_at dksJ14_init_0 0 rfl rfl)
theorem dJ14_init_1 : decode cJ14_init 1 = .ok (.aload_n 1, 1) := dk_43 (dk_at dksJ14_init_0 1 rfl rfl)
theorem dJ14_init_2 : decode cJ14_init 2 = .ok (.aconst_null, 1) := dk_1 (dk_at dksJ14_init_0 2 rfl rfl)
theorem dJ14_init_3 : decode cJ14_init 3 = .ok (.invokespecial 489, 3) := dk_183 1 233 (dk_at dksJ14_init_0 3 rfl rfl)
theorem dJ14_init_6 : decode cJ14_init 6 = .ok (.return_, 1) := dk_177 (dk_at dksJ14_init_0 6 rfl rfl)
abbrev cJ14_init_2 : ByteArray := prog_46_method_150_code
def yJ14_init_2 : MethodName := ⟨RJ14, "<init>", "(Ljava/lang/AbstractStringBuilder;Ljava/lang/Void;)V"⟩
def dkwJ14_init_2_4 : List UInt8 := [181, 0, 9, 177]
abbrev dktJ14_init_2_4 : List UInt8 := dkwJ14_init_2_4 ++ []
def dkwJ14_init_2_3 : List UInt8 := [184, 0, 47, 181, 0, 15, 177, 42, 4, 181, 0, 15, 42, 45, 3, 21, 4, 4, 120, 184, 0, 54]
abbrev dktJ14_init_2_3 : List UInt8 := dkwJ14_init_2_3 ++ dktJ14_init_2_4
def dkwJ14_init_2_2 : List UInt8 := [180, 4, 24, 153, 0, 28, 42, 45, 3, 21, 4, 184, 4, 27, 181, 0, 9, 42, 42, 180, 0, 9, 21, 4]
abbrev dktJ14_init_2_2 : List UInt8 := dkwJ14_init_2_2 ++ dktJ14_init_2_3
def dkwJ14_init_2_1 : List UInt8 := [181, 0, 15, 42, 45, 3, 21, 4, 184, 0, 54, 181, 0, 9, 167, 0, 59, 178, 0, 38, 153, 0, 35, 43]
abbrev dktJ14_init_2_1 : List UInt8 := dkwJ14_init_2_1 ++ dktJ14_init_2_2
def dkwJ14_init_2_0 : List UInt8 := [42, 183, 0, 1, 43, 182, 2, 40, 78, 43, 182, 2, 37, 54, 4, 43, 182, 4, 23, 153, 0, 22, 42, 3]
abbrev dktJ14_init_2_0 : List UInt8 := dkwJ14_init_2_0 ++ dktJ14_init_2_1
theorem dksJ14_init_2_0 : cJ14_init_2.data.toList.drop 0 = dktJ14_init_2_0 := by decide +kernel
theorem dksJ14_init_2_1 : cJ14_init_2.data.toList.drop 24 = dktJ14_init_2_1 := dk_seg dksJ14_init_2_0 24 rfl rfl
theorem dksJ14_init_2_2 : cJ14_init_2.data.toList.drop 48 = dktJ14_init_2_2 := dk_seg dksJ14_init_2_1 24 rfl rfl
theorem dksJ14_init_2_3 : cJ14_init_2.data.toList.drop 72 = dktJ14_init_2_3 := dk_seg dksJ14_init_2_2 24 rfl rfl
theorem dksJ14_init_2_4 : cJ14_init_2.data.toList.drop 94 = dktJ14_init_2_4 := dk_seg dksJ14_init_2_3 22 rfl rfl
theorem dJ14_init_2_0 : decode cJ14_init_2 0 = .ok (.aload_n 0, 1) := dk_42 (dk_at dksJ14_init_2_0 0 rfl rfl)
theorem dJ14_init_2_1 : decode cJ14_init_2 1 = .ok (.invokespecial 1, 3) := dk_183 0 1 (dk_at dksJ14_init_2_0 1 rfl rfl)
theorem dJ14_init_2_4 : decode cJ14_init_2 4 = .ok (.aload_n 1, 1) := dk_43 (dk_at dksJ14_init_2_0 4 rfl rfl)
theorem dJ14_init_2_5 : decode cJ14_init_2 5 = .ok (.invokevirtual 552, 3) := dk_182 2 40 (dk_at dksJ14_init_2_0 5 rfl rfl)
theorem dJ14_init_2_8 : decode cJ14_init_2 8 = .ok (.astore_n 3, 1) := dk_78 (dk_at dksJ14_init_2_0 8 rfl rfl)
theorem dJ14_init_2_9 : decode cJ14_init_2 9 = .ok (.aload_n 1, 1) := dk_43 (dk_at dksJ14_init_2_0 9 rfl rfl)
theorem dJ14_init_2_10 : decode cJ14_init_2 10 = .ok (.invokevirtual 549, 3) := dk_182 2 37 (dk_at dksJ14_init_2_0 10 rfl rfl)
theorem dJ14_init_2_13 : decode cJ14_init_2 13 = .ok (.istore 4, 2) := dk_54 4 (dk_at dksJ14_init_2_0 13 rfl rfl)
theorem dJ14_init_2_15 : decode cJ14_init_2 15 = .ok (.aload_n 1, 1) := dk_43 (dk_at dksJ14_init_2_0 15 rfl rfl)
theorem dJ14_init_2_16 : decode cJ14_init_2 16 = .ok (.invokevirtual 1047, 3) := dk_182 4 23 (dk_at dksJ14_init_2_0 16 rfl rfl)
theorem dJ14_init_2_19 : decode cJ14_init_2 19 = .ok (.ifCond .eq 22, 3) := dk_153 0 22 (dk_at dksJ14_init_2_0 19 rfl rfl)
theorem dJ14_init_2_22 : decode cJ14_init_2 22 = .ok (.aload_n 0, 1) := dk_42 (dk_at dksJ14_init_2_0 22 rfl rfl)
theorem dJ14_init_2_23 : decode cJ14_init_2 23 = .ok (.iconst 0, 1) := dk_3 (dk_at dksJ14_init_2_0 23 rfl rfl)
theorem dJ14_init_2_24 : decode cJ14_init_2 24 = .ok (.putfield 15, 3) := dk_181 0 15 (dk_at dksJ14_init_2_1 0 rfl rfl)
theorem dJ14_init_2_27 : decode cJ14_init_2 27 = .ok (.aload_n 0, 1) := dk_42 (dk_at dksJ14_init_2_1 3 rfl rfl)
theorem dJ14_init_2_28 : decode cJ14_init_2 28 = .ok (.aload_n 3, 1) := dk_45 (dk_at dksJ14_init_2_1 4 rfl rfl)
theorem dJ14_init_2_29 : decode cJ14_init_2 29 = .ok (.iconst 0, 1) := dk_3 (dk_at dksJ14_init_2_1 5 rfl rfl)
theorem dJ14_init_2_30 : decode cJ14_init_2 30 = .ok (.iload 4, 2) := dk_21 4 (dk_at dksJ14_init_2_1 6 rfl rfl)
theorem dJ14_init_2_32 : decode cJ14_init_2 32 = .ok (.invokestatic 54, 3) := dk_184 0 54 (dk_at dksJ14_init_2_1 8 rfl rfl)
theorem dJ14_init_2_35 : decode cJ14_init_2 35 = .ok (.putfield 9, 3) := dk_181 0 9 (dk_at dksJ14_init_2_1 11 rfl rfl)
theorem dJ14_init_2_38 : decode cJ14_init_2 38 = .ok (.goto 59, 3) := dk_167 0 59 (dk_at dksJ14_init_2_1 14 rfl rfl)
theorem dJ14_init_2_41 : decode cJ14_init_2 41 = .ok (.getstatic 38, 3) := dk_178 0 38 (dk_at dksJ14_init_2_1 17 rfl rfl)
theorem dJ14_init_2_44 : decode cJ14_init_2 44 = .ok (.ifCond .eq 35, 3) := dk_153 0 35 (dk_at dksJ14_init_2_1 20 rfl rfl)
theorem dJ14_init_2_47 : decode cJ14_init_2 47 = .ok (.aload_n 1, 1) := dk_43 (dk_at dksJ14_init_2_1 23 rfl rfl)
theorem dJ14_init_2_48 : decode cJ14_init_2 48 = .ok (.getfield 1048, 3) := dk_180 4 24 (dk_at dksJ14_init_2_2 0 rfl rfl)
theorem dJ14_init_2_51 : decode cJ14_init_2 51 = .ok (.ifCond .eq 28, 3) := dk_153 0 28 (dk_at dksJ14_init_2_2 3 rfl rfl)
theorem dJ14_init_2_54 : decode cJ14_init_2 54 = .ok (.aload_n 0, 1) := dk_42 (dk_at dksJ14_init_2_2 6 rfl rfl)
theorem dJ14_init_2_55 : decode cJ14_init_2 55 = .ok (.aload_n 3, 1) := dk_45 (dk_at dksJ14_init_2_2 7 rfl rfl)
theorem dJ14_init_2_56 : decode cJ14_init_2 56 = .ok (.iconst 0, 1) := dk_3 (dk_at dksJ14_init_2_2 8 rfl rfl)
theorem dJ14_init_2_57 : decode cJ14_init_2 57 = .ok (.iload 4, 2) := dk_21 4 (dk_at dksJ14_init_2_2 9 rfl rfl)
theorem dJ14_init_2_59 : decode cJ14_init_2 59 = .ok (.invokestatic 1051, 3) := dk_184 4 27 (dk_at dksJ14_init_2_2 11 rfl rfl)
theorem dJ14_init_2_62 : decode cJ14_init_2 62 = .ok (.putfield 9, 3) := dk_181 0 9 (dk_at dksJ14_init_2_2 14 rfl rfl)
theorem dJ14_init_2_65 : decode cJ14_init_2 65 = .ok (.aload_n 0, 1) := dk_42 (dk_at dksJ14_init_2_2 17 rfl rfl)
theorem dJ14_init_2_66 : decode cJ14_init_2 66 = .ok (.aload_n 0, 1) := dk_42 (dk_at dksJ14_init_2_2 18 rfl rfl)
theorem dJ14_init_2_67 : decode cJ14_init_2 67 = .ok (.getfield 9, 3) := dk_180 0 9 (dk_at dksJ14_init_2_2 19 rfl rfl)
theorem dJ14_init_2_70 : decode cJ14_init_2 70 = .ok (.iload 4, 2) := dk_21 4 (dk_at dksJ14_init_2_2 22 rfl rfl)
theorem dJ14_init_2_72 : decode cJ14_init_2 72 = .ok (.invokestatic 47, 3) := dk_184 0 47 (dk_at dksJ14_init_2_3 0 rfl rfl)
theorem dJ14_init_2_75 : decode cJ14_init_2 75 = .ok (.putfield 15, 3) := dk_181 0 15 (dk_at dksJ14_init_2_3 3 rfl rfl)
theorem dJ14_init_2_78 : decode cJ14_init_2 78 = .ok (.return_, 1) := dk_177 (dk_at dksJ14_init_2_3 6 rfl rfl)
theorem dJ14_init_2_79 : decode cJ14_init_2 79 = .ok (.aload_n 0, 1) := dk_42 (dk_at dksJ14_init_2_3 7 rfl rfl)
theorem dJ14_init_2_80 : decode cJ14_init_2 80 = .ok (.iconst 1, 1) := dk_4 (dk_at dksJ14_init_2_3 8 rfl rfl)
theorem dJ14_init_2_81 : decode cJ14_init_2 81 = .ok (.putfield 15, 3) := dk_181 0 15 (dk_at dksJ14_init_2_3 9 rfl rfl)
theorem dJ14_init_2_84 : decode cJ14_init_2 84 = .ok (.aload_n 0, 1) := dk_42 (dk_at dksJ14_init_2_3 12 rfl rfl)
theorem dJ14_init_2_85 : decode cJ14_init_2 85 = .ok (.aload_n 3, 1) := dk_45 (dk_at dksJ14_init_2_3 13 rfl rfl)
theorem dJ14_init_2_86 : decode cJ14_init_2 86 = .ok (.iconst 0, 1) := dk_3 (dk_at dksJ14_init_2_3 14 rfl rfl)
theorem dJ14_init_2_87 : decode cJ14_init_2 87 = .ok (.iload 4, 2) := dk_21 4 (dk_at dksJ14_init_2_3 15 rfl rfl)
theorem dJ14_init_2_89 : decode cJ14_init_2 89 = .ok (.iconst 1, 1) := dk_4 (dk_at dksJ14_init_2_3 17 rfl rfl)
theorem dJ14_init_2_90 : decode cJ14_init_2 90 = .ok (.ishl, 1) := dk_120 (dk_at dksJ14_init_2_3 18 rfl rfl)
theorem dJ14_init_2_91 : decode cJ14_init_2 91 = .ok (.invokestatic 54, 3) := dk_184 0 54 (dk_at dksJ14_init_2_3 19 rfl rfl)
theorem dJ14_init_2_94 : decode cJ14_init_2 94 = .ok (.putfield 9, 3) := dk_181 0 9 (dk_at dksJ14_init_2_4 0 rfl rfl)
theorem dJ14_init_2_97 : decode cJ14_init_2 97 = .ok (.return_, 1) := dk_177 (dk_at dksJ14_init_2_4 3 rfl rfl)
abbrev cJ14_checkIndex : ByteArray := prog_46_method_155_code
def yJ14_checkIndex : MethodName := ⟨RJ14, "checkIndex", "(II)V"⟩
def dkwJ14_checkIndex_0 : List UInt8 := [26, 27, 178, 4, 29, 184, 4, 35, 87, 177]
abbrev dktJ14_checkIndex_0 : List UInt8 := dkwJ14_checkIndex_0 ++ []
theorem dksJ14_checkIndex_0 : cJ14_checkIndex.data.toList.drop 0 = dktJ14_checkIndex_0 := by decide +kernel
theorem dJ14_checkIndex_0 : decode cJ14_checkIndex 0 = .ok (.iload_n 0, 1) := dk_26 (dk_at dksJ14_checkIndex_0 0 rfl rfl)
theorem dJ14_checkIndex_1 : decode cJ14_checkIndex 1 = .ok (.iload_n 1, 1) := dk_27 (dk_at dksJ14_checkIndex_0 1 rfl rfl)
theorem dJ14_checkIndex_2 : decode cJ14_checkIndex 2 = .ok (.getstatic 1053, 3) := dk_178 4 29 (dk_at dksJ14_checkIndex_0 2 rfl rfl)
theorem dJ14_checkIndex_5 : decode cJ14_checkIndex 5 = .ok (.invokestatic 1059, 3) := dk_184 4 35 (dk_at dksJ14_checkIndex_0 5 rfl rfl)
theorem dJ14_checkIndex_8 : decode cJ14_checkIndex 8 = .ok (.pop, 1) := dk_87 (dk_at dksJ14_checkIndex_0 8 rfl rfl)
theorem dJ14_checkIndex_9 : decode cJ14_checkIndex 9 = .ok (.return_, 1) := dk_177 (dk_at dksJ14_checkIndex_0 9 rfl rfl)
abbrev cJ14_charAt : ByteArray := prog_46_method_56_code
def yJ14_charAt : MethodName := ⟨RJ14, "charAt", "(I)C"⟩
def dkwJ14_charAt_1 : List UInt8 := [172]
abbrev dktJ14_charAt_1 : List UInt8 := dkwJ14_charAt_1 ++ []
def dkwJ14_charAt_0 : List UInt8 := [42, 182, 1, 236, 153, 0, 12, 42, 180, 0, 9, 27, 184, 1, 239, 172, 42, 180, 0, 9, 27, 184, 1, 242]
abbrev dktJ14_charAt_0 : List UInt8 := dkwJ14_charAt_0 ++ dktJ14_charAt_1
theorem dksJ14_charAt_0 : cJ14_charAt.data.toList.drop 0 = dktJ14_charAt_0 := by decide +kernel
theorem dksJ14_charAt_1 : cJ14_charAt.data.toList.drop 24 = dktJ14_charAt_1 := dk_seg dksJ14_charAt_0 24 rfl rfl
theorem dJ14_charAt_0 : decode cJ14_charAt 0 = .ok (.aload_n 0, 1) := dk_42 (dk_at dksJ14_charAt_0 0 rfl rfl)
theorem dJ14_charAt_1 : decode cJ14_charAt 1 = .ok (.invokevirtual 492, 3) := dk_182 1 236 (dk_at dksJ14_charAt_0 1 rfl rfl)
theorem dJ14_charAt_4 : decode cJ14_charAt 4 = .ok (.ifCond .eq 12, 3) := dk_153 0 12 (dk_at dksJ14_charAt_0 4 rfl rfl)
theorem dJ14_charAt_7 : decode cJ14_charAt 7 = .ok (.aload_n 0, 1) := dk_42 (dk_at dksJ14_charAt_0 7 rfl rfl)
theorem dJ14_charAt_8 : decode cJ14_charAt 8 = .ok (.getfield 9, 3) := dk_180 0 9 (dk_at dksJ14_charAt_0 8 rfl rfl)
theorem dJ14_charAt_11 : decode cJ14_charAt 11 = .ok (.iload_n 1, 1) := dk_27 (dk_at dksJ14_charAt_0 11 rfl rfl)
theorem dJ14_charAt_12 : decode cJ14_charAt 12 = .ok (.invokestatic 495, 3) := dk_184 1 239 (dk_at dksJ14_charAt_0 12 rfl rfl)
theorem dJ14_charAt_15 : decode cJ14_charAt 15 = .ok (.ireturn, 1) := dk_172 (dk_at dksJ14_charAt_0 15 rfl rfl)
theorem dJ14_charAt_16 : decode cJ14_charAt 16 = .ok (.aload_n 0, 1) := dk_42 (dk_at dksJ14_charAt_0 16 rfl rfl)
theorem dJ14_charAt_17 : decode cJ14_charAt 17 = .ok (.getfield 9, 3) := dk_180 0 9 (dk_at dksJ14_charAt_0 17 rfl rfl)
theorem dJ14_charAt_20 : decode cJ14_charAt 20 = .ok (.iload_n 1, 1) := dk_27 (dk_at dksJ14_charAt_0 20 rfl rfl)
theorem dJ14_charAt_21 : decode cJ14_charAt 21 = .ok (.invokestatic 498, 3) := dk_184 1 242 (dk_at dksJ14_charAt_0 21 rfl rfl)
theorem dJ14_charAt_24 : decode cJ14_charAt 24 = .ok (.ireturn, 1) := dk_172 (dk_at dksJ14_charAt_1 0 rfl rfl)
abbrev cJ14_isLatin1 : ByteArray := prog_46_method_154_code
def yJ14_isLatin1 : MethodName := ⟨RJ14, "isLatin1", "()Z"⟩
def dkwJ14_isLatin1_0 : List UInt8 := [178, 0, 38, 153, 0, 14, 42, 180, 0, 15, 154, 0, 7, 4, 167, 0, 4, 3, 172]
abbrev dktJ14_isLatin1_0 : List UInt8 := dkwJ14_isLatin1_0 ++ []
theorem dksJ14_isLatin1_0 : cJ14_isLatin1.data.toList.drop 0 = dktJ14_isLatin1_0 := by decide +kernel
theorem dJ14_isLatin1_0 : decode cJ14_isLatin1 0 = .ok (.getstatic 38, 3) := dk_178 0 38 (dk_at dksJ14_isLatin1_0 0 rfl rfl)
theorem dJ14_isLatin1_3 : decode cJ14_isLatin1 3 = .ok (.ifCond .eq 14, 3) := dk_153 0 14 (dk_at dksJ14_isLatin1_0 3 rfl rfl)
theorem dJ14_isLatin1_6 : decode cJ14_isLatin1 6 = .ok (.aload_n 0, 1) := dk_42 (dk_at dksJ14_isLatin1_0 6 rfl rfl)
theorem dJ14_isLatin1_7 : decode cJ14_isLatin1 7 = .ok (.getfield 15, 3) := dk_180 0 15 (dk_at dksJ14_isLatin1_0 7 rfl rfl)
theorem dJ14_isLatin1_10 : decode cJ14_isLatin1 10 = .ok (.ifCond .ne 7, 3) := dk_154 0 7 (dk_at dksJ14_isLatin1_0 10 rfl rfl)
theorem dJ14_isLatin1_13 : decode cJ14_isLatin1 13 = .ok (.iconst 1, 1) := dk_4 (dk_at dksJ14_isLatin1_0 13 rfl rfl)
theorem dJ14_isLatin1_14 : decode cJ14_isLatin1 14 = .ok (.goto 4, 3) := dk_167 0 4 (dk_at dksJ14_isLatin1_0 14 rfl rfl)
theorem dJ14_isLatin1_17 : decode cJ14_isLatin1 17 = .ok (.iconst 0, 1) := dk_3 (dk_at dksJ14_isLatin1_0 17 rfl rfl)
theorem dJ14_isLatin1_18 : decode cJ14_isLatin1 18 = .ok (.ireturn, 1) := dk_172 (dk_at dksJ14_isLatin1_0 18 rfl rfl)
theorem q137 : (Jvm.Cond.initialized "java/lang/String") ∈ lw_all := lw_g (lw_at lw_m1 18 rfl) rfl
theorem q333 : (Jvm.Cond.laysStatic "java/lang/String" "COMPACT_STRINGS" "Z") ∈ lw_tbl := lw_at lw_m1 214 rfl
theorem q344 : (Jvm.Cond.fieldLink "java/lang/String" (1048 : Nat) "java/lang/AbstractStringBuilder" "maybeLatin1" "Z") ∈ lw_all := lw_g (lw_at lw_m1 225 rfl) rfl
theorem q418 : (Jvm.Cond.static ({ cls := "java/lang/String", name := "checkBoundsBeginEnd", desc := "(III)V" } : Jvm.MethodName)) ∈ lw_all := lw_g (lw_at lw_m2 59 rfl) rfl
theorem q419 : (Jvm.Cond.code ({ cls := "java/lang/String", name := "checkBoundsBeginEnd", desc := "(III)V" } : Jvm.MethodName) prog_46_method_158_code (3 : Nat) (Option.none : Option Jvm.ClassFile.FieldType)) ∈ lw_all := lw_g (lw_at lw_m2 60 rfl) rfl
theorem q420 : (Jvm.Cond.fieldLink "java/lang/String" (1053 : Nat) "jdk/internal/util/Preconditions" "SIOOBE_FORMATTER" "Ljava/util/function/BiFunction;") ∈ lw_all := lw_g (lw_at lw_m2 61 rfl) rfl
theorem q422 : (Jvm.Cond.methodLink "java/lang/String" (1062 : Nat) ({ cls := "jdk/internal/util/Preconditions", name := "checkFromToIndex", desc := "(IIILjava/util/function/BiFunction;)I" } : Jvm.MethodName)) ∈ lw_all := lw_g (lw_at lw_m2 63 rfl) rfl
theorem q435 : (Jvm.Cond.instanceMethod ({ cls := "java/lang/String", name := "length", desc := "()I" } : Jvm.MethodName)) ∈ lw_all := lw_g (lw_at lw_m2 76 rfl) rfl
theorem q436 : (Jvm.Cond.selects "java/lang/String" ({ cls := "java/lang/String", name := "length", desc := "()I" } : Jvm.MethodName) ({ cls := "java/lang/String", name := "length", desc := "()I" } : Jvm.MethodName)) ∈ lw_all := lw_g (lw_at lw_m2 77 rfl) rfl
theorem q437 : (Jvm.Cond.code ({ cls := "java/lang/String", name := "length", desc := "()I" } : Jvm.MethodName) prog_46_method_54_code (1 : Nat) (Option.some Jvm.ClassFile.FieldType.int)) ∈ lw_all := lw_g (lw_at lw_m2 78 rfl) rfl
theorem q438 : (Jvm.Cond.methodLink "java/lang/String" (335 : Nat) ({ cls := "java/lang/String", name := "coder", desc := "()B" } : Jvm.MethodName)) ∈ lw_all := lw_g (lw_at lw_m2 79 rfl) rfl
theorem q439 : (Jvm.Cond.instanceMethod ({ cls := "java/lang/String", name := "coder", desc := "()B" } : Jvm.MethodName)) ∈ lw_all := lw_g (lw_at lw_m2 80 rfl) rfl
theorem q440 : (Jvm.Cond.selects "java/lang/String" ({ cls := "java/lang/String", name := "coder", desc := "()B" } : Jvm.MethodName) ({ cls := "java/lang/String", name := "coder", desc := "()B" } : Jvm.MethodName)) ∈ lw_all := lw_g (lw_at lw_m2 81 rfl) rfl
theorem q441 : (Jvm.Cond.code ({ cls := "java/lang/String", name := "coder", desc := "()B" } : Jvm.MethodName) prog_46_method_152_code (1 : Nat) (Option.some Jvm.ClassFile.FieldType.byte)) ∈ lw_all := lw_g (lw_at lw_m2 82 rfl) rfl
theorem q442 : (Jvm.Cond.fieldLink "java/lang/String" (38 : Nat) "java/lang/String" "COMPACT_STRINGS" "Z") ∈ lw_all := lw_g (lw_at lw_m2 83 rfl) rfl
theorem q466 : (Jvm.Cond.static ({ cls := "java/lang/String", name := "checkBoundsOffCount", desc := "(III)I" } : Jvm.MethodName)) ∈ lw_all := lw_g (lw_at lw_m2 107 rfl) rfl
theorem q467 : (Jvm.Cond.code ({ cls := "java/lang/String", name := "checkBoundsOffCount", desc := "(III)I" } : Jvm.MethodName) prog_46_method_157_code (3 : Nat) (Option.some Jvm.ClassFile.FieldType.int)) ∈ lw_all := lw_g (lw_at lw_m2 108 rfl) rfl
theorem q468 : (Jvm.Cond.methodLink "java/lang/String" (1065 : Nat) ({ cls := "jdk/internal/util/Preconditions", name := "checkFromIndexSize", desc := "(IIILjava/util/function/BiFunction;)I" } : Jvm.MethodName)) ∈ lw_all := lw_g (lw_at lw_m2 109 rfl) rfl
theorem q472 : (Jvm.Cond.instanceMethod ({ cls := "java/lang/String", name := "getBytes", desc := "([BIB)V" } : Jvm.MethodName)) ∈ lw_all := lw_g (lw_at lw_m2 113 rfl) rfl
theorem q473 : (Jvm.Cond.selects "java/lang/String" ({ cls := "java/lang/String", name := "getBytes", desc := "([BIB)V" } : Jvm.MethodName) ({ cls := "java/lang/String", name := "getBytes", desc := "([BIB)V" } : Jvm.MethodName)) ∈ lw_all := lw_g (lw_at lw_m2 114 rfl) rfl
theorem q474 : (Jvm.Cond.code ({ cls := "java/lang/String", name := "getBytes", desc := "([BIB)V" } : Jvm.MethodName) prog_46_method_147_code (4 : Nat) (Option.none : Option Jvm.ClassFile.FieldType)) ∈ lw_all := lw_g (lw_at lw_m2 115 rfl) rfl
theorem q475 : (Jvm.Cond.methodLink "java/lang/String" (212 : Nat) ({ cls := "java/lang/System", name := "arraycopy", desc := "(Ljava/lang/Object;ILjava/lang/Object;II)V" } : Jvm.MethodName)) ∈ lw_all := lw_g (lw_at lw_m2 116 rfl) rfl
theorem q476 : (Jvm.Cond.methodLink "java/lang/String" (106 : Nat) ({ cls := "java/lang/StringLatin1", name := "inflate", desc := "([BI[BII)V" } : Jvm.MethodName)) ∈ lw_all := lw_g (lw_at lw_m2 117 rfl) rfl
theorem q507 : (Jvm.Cond.instantiable "java/lang/String" (4 : Nat)) ∈ lw_all := lw_g (lw_at lw_m2 148 rfl) rfl
theorem q509 : (Jvm.Cond.instanceMethod ({ cls := "java/lang/String", name := "<init>", desc := "(Ljava/lang/StringBuilder;)V" } : Jvm.MethodName)) ∈ lw_all := lw_g (lw_at lw_m2 150 rfl) rfl
theorem q510 : (Jvm.Cond.code ({ cls := "java/lang/String", name := "<init>", desc := "(Ljava/lang/StringBuilder;)V" } : Jvm.MethodName) prog_46_method_53_code (2 : Nat) (Option.none : Option Jvm.ClassFile.FieldType)) ∈ lw_all := lw_g (lw_at lw_m2 151 rfl) rfl
theorem q511 : (Jvm.Cond.methodLink "java/lang/String" (489 : Nat) ({ cls := "java/lang/String", name := "<init>", desc := "(Ljava/lang/AbstractStringBuilder;Ljava/lang/Void;)V" } : Jvm.MethodName)) ∈ lw_all := lw_g (lw_at lw_m2 152 rfl) rfl
theorem q512 : (Jvm.Cond.instanceMethod ({ cls := "java/lang/String", name := "<init>", desc := "(Ljava/lang/AbstractStringBuilder;Ljava/lang/Void;)V" } : Jvm.MethodName)) ∈ lw_all := lw_g (lw_at lw_m2 153 rfl) rfl
theorem q513 : (Jvm.Cond.code ({ cls := "java/lang/String", name := "<init>", desc := "(Ljava/lang/AbstractStringBuilder;Ljava/lang/Void;)V" } : Jvm.MethodName) prog_46_method_150_code (5 : Nat) (Option.none : Option Jvm.ClassFile.FieldType)) ∈ lw_all := lw_g (lw_at lw_m2 154 rfl) rfl
theorem q514 : (Jvm.Cond.methodLink "java/lang/String" (1 : Nat) ({ cls := "java/lang/Object", name := "<init>", desc := "()V" } : Jvm.MethodName)) ∈ lw_all := lw_g (lw_at lw_m2 155 rfl) rfl
theorem q515 : (Jvm.Cond.methodLink "java/lang/String" (552 : Nat) ({ cls := "java/lang/AbstractStringBuilder", name := "getValue", desc := "()[B" } : Jvm.MethodName)) ∈ lw_all := lw_g (lw_at lw_m2 156 rfl) rfl
theorem q520 : (Jvm.Cond.methodLink "java/lang/String" (549 : Nat) ({ cls := "java/lang/AbstractStringBuilder", name := "length", desc := "()I" } : Jvm.MethodName)) ∈ lw_all := lw_g (lw_at lw_m2 161 rfl) rfl
theorem q528 : (Jvm.Cond.methodLink "java/lang/String" (1047 : Nat) ({ cls := "java/lang/AbstractStringBuilder", name := "isLatin1", desc := "()Z" } : Jvm.MethodName)) ∈ lw_all := lw_g (lw_at lw_m2 169 rfl) rfl
theorem q529 : (Jvm.Cond.methodLink "java/lang/String" (54 : Nat) ({ cls := "java/util/Arrays", name := "copyOfRange", desc := "([BII)[B" } : Jvm.MethodName)) ∈ lw_all := lw_g (lw_at lw_m2 170 rfl) rfl
theorem q570 : (Jvm.Cond.methodLink "java/lang/String" (1051 : Nat) ({ cls := "java/lang/StringUTF16", name := "compress", desc := "([BII)[B" } : Jvm.MethodName)) ∈ lw_all := lw_g (lw_at lw_m2 211 rfl) rfl
theorem q580 : (Jvm.Cond.methodLink "java/lang/String" (47 : Nat) ({ cls := "java/lang/StringUTF16", name := "coderFromArrayLen", desc := "([BI)B" } : Jvm.MethodName)) ∈ lw_all := lw_g (lw_at lw_m2 221 rfl) rfl
theorem q583 : (Jvm.Cond.fieldLink "java/lang/String" (9 : Nat) "java/lang/String" "value" "[B") ∈ lw_all := lw_g (lw_at lw_m2 224 rfl) rfl
theorem q584 : (Jvm.Cond.fieldLink "java/lang/String" (15 : Nat) "java/lang/String" "coder" "B") ∈ lw_all := lw_g (lw_at lw_m2 225 rfl) rfl
theorem q585 : (Jvm.Cond.laysFinal "java/lang/String" "java/lang/String" "value" "[B") ∈ lw_all := lw_g (lw_at lw_m2 226 rfl) rfl
theorem q586 : (Jvm.Cond.soleField "java/lang/String" "value") ∈ lw_all := lw_g (lw_at lw_m2 227 rfl) rfl
theorem q587 : (Jvm.Cond.laysFinal "java/lang/String" "java/lang/String" "coder" "B") ∈ lw_all := lw_g (lw_at lw_m2 228 rfl) rfl
theorem q588 : (Jvm.Cond.soleField "java/lang/String" "coder") ∈ lw_all := lw_g (lw_at lw_m2 229 rfl) rfl
theorem q589 : (Jvm.Cond.lays "java/lang/String" "java/lang/String" "hash" "I") ∈ lw_all := lw_g (lw_at lw_m2 230 rfl) rfl
theorem q590 : (Jvm.Cond.soleField "java/lang/String" "hash") ∈ lw_all := lw_g (lw_at lw_m2 231 rfl) rfl
theorem q591 : (Jvm.Cond.lays "java/lang/String" "java/lang/String" "hashIsZero" "Z") ∈ lw_all := lw_g (lw_at lw_m2 232 rfl) rfl
theorem q592 : (Jvm.Cond.soleField "java/lang/String" "hashIsZero") ∈ lw_all := lw_g (lw_at lw_m2 233 rfl) rfl
theorem q593 : (Jvm.Cond.superclass "java/lang/String" "java/lang/Object") ∈ lw_all := lw_g (lw_at lw_m2 234 rfl) rfl
theorem q1103 : (Jvm.Cond.selects "java/lang/String" ({ cls := "java/lang/Object", name := "getClass", desc := "()Ljava/lang/Class;" } : Jvm.MethodName) ({ cls := "java/lang/Object", name := "getClass", desc := "()Ljava/lang/Class;" } : Jvm.MethodName)) ∈ lw_all := lw_g (lw_at lw_m5 24 rfl) rfl
theorem q2558 : (Jvm.Cond.static ({ cls := "java/lang/String", name := "checkIndex", desc := "(II)V" } : Jvm.MethodName)) ∈ lw_all := lw_g (lw_at lw_m11 39 rfl) rfl
theorem q2559 : (Jvm.Cond.code ({ cls := "java/lang/String", name := "checkIndex", desc := "(II)V" } : Jvm.MethodName) prog_46_method_155_code (2 : Nat) (Option.none : Option Jvm.ClassFile.FieldType)) ∈ lw_all := lw_g (lw_at lw_m11 40 rfl) rfl
theorem q2560 : (Jvm.Cond.methodLink "java/lang/String" (1059 : Nat) ({ cls := "jdk/internal/util/Preconditions", name := "checkIndex", desc := "(IILjava/util/function/BiFunction;)I" } : Jvm.MethodName)) ∈ lw_all := lw_g (lw_at lw_m11 41 rfl) rfl
theorem q2608 : (Jvm.Cond.castable "java/lang/String" "java/lang/CharSequence") ∈ lw_tbl := lw_at lw_m11 89 rfl
theorem q2609 : (Jvm.Cond.selects "java/lang/String" ({ cls := "java/lang/CharSequence", name := "length", desc := "()I" } : Jvm.MethodName) ({ cls := "java/lang/String", name := "length", desc := "()I" } : Jvm.MethodName)) ∈ lw_all := lw_g (lw_at lw_m11 90 rfl) rfl
theorem q2610 : (Jvm.Cond.unhidden "java/lang/String" "length" "()I") ∈ lw_tbl := lw_at lw_m11 91 rfl
theorem q2611 : (Jvm.Cond.publicMethod ({ cls := "java/lang/String", name := "length", desc := "()I" } : Jvm.MethodName)) ∈ lw_tbl := lw_at lw_m11 92 rfl
theorem q2620 : (Jvm.Cond.selects "java/lang/String" ({ cls := "java/lang/CharSequence", name := "charAt", desc := "(I)C" } : Jvm.MethodName) ({ cls := "java/lang/String", name := "charAt", desc := "(I)C" } : Jvm.MethodName)) ∈ lw_all := lw_g (lw_at lw_m11 101 rfl) rfl
theorem q2621 : (Jvm.Cond.unhidden "java/lang/String" "charAt" "(I)C") ∈ lw_tbl := lw_at lw_m11 102 rfl
theorem q2622 : (Jvm.Cond.instanceMethod ({ cls := "java/lang/String", name := "charAt", desc := "(I)C" } : Jvm.MethodName)) ∈ lw_all := lw_g (lw_at lw_m11 103 rfl) rfl
theorem q2623 : (Jvm.Cond.publicMethod ({ cls := "java/lang/String", name := "charAt", desc := "(I)C" } : Jvm.MethodName)) ∈ lw_tbl := lw_at lw_m11 104 rfl
theorem q2624 : (Jvm.Cond.code ({ cls := "java/lang/String", name := "charAt", desc := "(I)C" } : Jvm.MethodName) prog_46_method_56_code (2 : Nat) (Option.some Jvm.ClassFile.FieldType.char)) ∈ lw_all := lw_g (lw_at lw_m11 105 rfl) rfl
theorem q2625 : (Jvm.Cond.methodLink "java/lang/String" (492 : Nat) ({ cls := "java/lang/String", name := "isLatin1", desc := "()Z" } : Jvm.MethodName)) ∈ lw_all := lw_g (lw_at lw_m11 106 rfl) rfl
theorem q2626 : (Jvm.Cond.instanceMethod ({ cls := "java/lang/String", name := "isLatin1", desc := "()Z" } : Jvm.MethodName)) ∈ lw_all := lw_g (lw_at lw_m11 107 rfl) rfl
theorem q2627 : (Jvm.Cond.selects "java/lang/String" ({ cls := "java/lang/String", name := "isLatin1", desc := "()Z" } : Jvm.MethodName) ({ cls := "java/lang/String", name := "isLatin1", desc := "()Z" } : Jvm.MethodName)) ∈ lw_all := lw_g (lw_at lw_m11 108 rfl) rfl
theorem q2628 : (Jvm.Cond.code ({ cls := "java/lang/String", name := "isLatin1", desc := "()Z" } : Jvm.MethodName) prog_46_method_154_code (1 : Nat) (Option.some Jvm.ClassFile.FieldType.boolean)) ∈ lw_all := lw_g (lw_at lw_m11 109 rfl) rfl
theorem q2629 : (Jvm.Cond.methodLink "java/lang/String" (495 : Nat) ({ cls := "java/lang/StringLatin1", name := "charAt", desc := "([BI)C" } : Jvm.MethodName)) ∈ lw_all := lw_g (lw_at lw_m11 110 rfl) rfl
theorem q2633 : (Jvm.Cond.methodLink "java/lang/String" (498 : Nat) ({ cls := "java/lang/StringUTF16", name := "charAt", desc := "([BI)C" } : Jvm.MethodName)) ∈ lw_all := lw_g (lw_at lw_m11 114 rfl) rfl
theorem q3571 : (Jvm.Cond.castable "java/lang/String" "java/lang/Object") ∈ lw_tbl := lw_at lw_m15 92 rfl
theorem in_J14 : ∀ w ∈ wsJ140, w ∈ lw_all := lw_in wsJ140 [585, 587, 589, 591] (by decide +kernel) (by decide +kernel)
/-! java/lang/StringUTF16 -/
set_option maxRecDepth 100000
def RJ15 : String := "java/lang/StringUTF16"
abbrev cJ15_newBytesFor : ByteArray := prog_50_method_2_code
def yJ15_newBytesFor : MethodName := ⟨RJ15, "newBytesFor", "(I)[B"⟩
def dkwJ15_newBytesFor_0 : List UInt8 := [26, 184, 0, 11, 188, 8, 176]
abbrev dktJ15_newBytesFor_0 : List UInt8 := dkwJ15_newBytesFor_0 ++ []
theorem dksJ15_newBytesFor_0 : cJ15_newBytesFor.data.toList.drop 0 = dktJ15_newBytesFor_0 := by decide +kernel
theorem dJ15_newBytesFor_0 : decode cJ15_newBytesFor 0 = .ok (.iload_n 0, 1) := dk_26 (dk_at dksJ15_newBytesFor_0 0 rfl rfl)
theorem dJ15_newBytesFor_1 : decode cJ15_newBytesFor 1 = .ok (.invokestatic 11, 3) := dk_184 0 11 (dk_at dksJ15_newBytesFor_0 1 rfl rfl)
theorem dJ15_newBytesFor_4 : decode cJ15_newBytesFor 4 = .ok (.newarray .byte, 2) := dk_188_8 (dk_at dksJ15_newBytesFor_0 4 rfl rfl)
theorem dJ15_newBytesFor_6 : decode cJ15_newBytesFor 6 = .ok (.areturn, 1) := dk_176 (dk_at dksJ15_newBytesFor_0 6 rfl rfl)
abbrev cJ15_newBytesLength : ByteArray := prog_50_method_3_code
def yJ15_newBytesLength : MethodName := ⟨RJ15, "newBytesLength", "(I)I"⟩
def dkwJ15_newBytesLength_2 : List UInt8 := [182, 0, 32, 182, 0, 37, 183, 0, 41, 191, 26, 4, 120, 172]
abbrev dktJ15_newBytesLength_2 : List UInt8 := dkwJ15_newBytesLength_2 ++ []
def dkwJ15_newBytesLength_1 : List UInt8 := [187, 0, 23, 89, 183, 0, 25, 18, 26, 182, 0, 28, 26, 182, 0, 32, 18, 35, 182, 0, 28, 18, 20]
abbrev dktJ15_newBytesLength_1 : List UInt8 := dkwJ15_newBytesLength_1 ++ dktJ15_newBytesLength_2
def dkwJ15_newBytesLength_0 : List UInt8 := [26, 156, 0, 11, 187, 0, 17, 89, 183, 0, 19, 191, 26, 18, 20, 161, 0, 40, 187, 0, 21, 89]
abbrev dktJ15_newBytesLength_0 : List UInt8 := dkwJ15_newBytesLength_0 ++ dktJ15_newBytesLength_1
theorem dksJ15_newBytesLength_0 : cJ15_newBytesLength.data.toList.drop 0 = dktJ15_newBytesLength_0 := by decide +kernel
theorem dksJ15_newBytesLength_1 : cJ15_newBytesLength.data.toList.drop 22 = dktJ15_newBytesLength_1 := dk_seg dksJ15_newBytesLength_0 22 rfl rfl
theorem dksJ15_newBytesLength_2 : cJ15_newBytesLength.data.toList.drop 45 = dktJ15_newBytesLength_2 := dk_seg dksJ15_newBytesLength_1 23 rfl rfl
theorem dJ15_newBytesLength_0 : decode cJ15_newBytesLength 0 = .ok (.iload_n 0, 1) := dk_26 (dk_at dksJ15_newBytesLength_0 0 rfl rfl)
theorem dJ15_newBytesLength_1 : decode cJ15_newBytesLength 1 = .ok (.ifCond .ge 11, 3) := dk_156 0 11 (dk_at dksJ15_newBytesLength_0 1 rfl rfl)
theorem dJ15_newBytesLength_4 : decode cJ15_newBytesLength 4 = .ok (.new 17, 3) := dk_187 0 17 (dk_at dksJ15_newBytesLength_0 4 rfl rfl)
theorem dJ15_newBytesLength_7 : decode cJ15_newBytesLength 7 = .ok (.dup, 1) := dk_89 (dk_at dksJ15_newBytesLength_0 7 rfl rfl)
theorem dJ15_newBytesLength_8 : decode cJ15_newBytesLength 8 = .ok (.invokespecial 19, 3) := dk_183 0 19 (dk_at dksJ15_newBytesLength_0 8 rfl rfl)
theorem dJ15_newBytesLength_11 : decode cJ15_newBytesLength 11 = .ok (.athrow, 1) := dk_191 (dk_at dksJ15_newBytesLength_0 11 rfl rfl)
theorem dJ15_newBytesLength_12 : decode cJ15_newBytesLength 12 = .ok (.iload_n 0, 1) := dk_26 (dk_at dksJ15_newBytesLength_0 12 rfl rfl)
theorem dJ15_newBytesLength_13 : decode cJ15_newBytesLength 13 = .ok (.ldc 20, 2) := dk_18 20 (dk_at dksJ15_newBytesLength_0 13 rfl rfl)
theorem dJ15_newBytesLength_15 : decode cJ15_newBytesLength 15 = .ok (.if_icmp .lt 40, 3) := dk_161 0 40 (dk_at dksJ15_newBytesLength_0 15 rfl rfl)
theorem dJ15_newBytesLength_18 : decode cJ15_newBytesLength 18 = .ok (.new 21, 3) := dk_187 0 21 (dk_at dksJ15_newBytesLength_0 18 rfl rfl)
theorem dJ15_newBytesLength_21 : decode cJ15_newBytesLength 21 = .ok (.dup, 1) := dk_89 (dk_at dksJ15_newBytesLength_0 21 rfl rfl)
theorem dJ15_newBytesLength_22 : decode cJ15_newBytesLength 22 = .ok (.new 23, 3) := dk_187 0 23 (dk_at dksJ15_newBytesLength_1 0 rfl rfl)
theorem dJ15_newBytesLength_25 : decode cJ15_newBytesLength 25 = .ok (.dup, 1) := dk_89 (dk_at dksJ15_newBytesLength_1 3 rfl rfl)
theorem dJ15_newBytesLength_26 : decode cJ15_newBytesLength 26 = .ok (.invokespecial 25, 3) := dk_183 0 25 (dk_at dksJ15_newBytesLength_1 4 rfl rfl)
theorem dJ15_newBytesLength_29 : decode cJ15_newBytesLength 29 = .ok (.ldc 26, 2) := dk_18 26 (dk_at dksJ15_newBytesLength_1 7 rfl rfl)
theorem dJ15_newBytesLength_31 : decode cJ15_newBytesLength 31 = .ok (.invokevirtual 28, 3) := dk_182 0 28 (dk_at dksJ15_newBytesLength_1 9 rfl rfl)
theorem dJ15_newBytesLength_34 : decode cJ15_newBytesLength 34 = .ok (.iload_n 0, 1) := dk_26 (dk_at dksJ15_newBytesLength_1 12 rfl rfl)
theorem dJ15_newBytesLength_35 : decode cJ15_newBytesLength 35 = .ok (.invokevirtual 32, 3) := dk_182 0 32 (dk_at dksJ15_newBytesLength_1 13 rfl rfl)
theorem dJ15_newBytesLength_38 : decode cJ15_newBytesLength 38 = .ok (.ldc 35, 2) := dk_18 35 (dk_at dksJ15_newBytesLength_1 16 rfl rfl)
theorem dJ15_newBytesLength_40 : decode cJ15_newBytesLength 40 = .ok (.invokevirtual 28, 3) := dk_182 0 28 (dk_at dksJ15_newBytesLength_1 18 rfl rfl)
theorem dJ15_newBytesLength_43 : decode cJ15_newBytesLength 43 = .ok (.ldc 20, 2) := dk_18 20 (dk_at dksJ15_newBytesLength_1 21 rfl rfl)
theorem dJ15_newBytesLength_45 : decode cJ15_newBytesLength 45 = .ok (.invokevirtual 32, 3) := dk_182 0 32 (dk_at dksJ15_newBytesLength_2 0 rfl rfl)
theorem dJ15_newBytesLength_48 : decode cJ15_newBytesLength 48 = .ok (.invokevirtual 37, 3) := dk_182 0 37 (dk_at dksJ15_newBytesLength_2 3 rfl rfl)
theorem dJ15_newBytesLength_51 : decode cJ15_newBytesLength 51 = .ok (.invokespecial 41, 3) := dk_183 0 41 (dk_at dksJ15_newBytesLength_2 6 rfl rfl)
theorem dJ15_newBytesLength_54 : decode cJ15_newBytesLength 54 = .ok (.athrow, 1) := dk_191 (dk_at dksJ15_newBytesLength_2 9 rfl rfl)
theorem dJ15_newBytesLength_55 : decode cJ15_newBytesLength 55 = .ok (.iload_n 0, 1) := dk_26 (dk_at dksJ15_newBytesLength_2 10 rfl rfl)
theorem dJ15_newBytesLength_56 : decode cJ15_newBytesLength 56 = .ok (.iconst 1, 1) := dk_4 (dk_at dksJ15_newBytesLength_2 11 rfl rfl)
theorem dJ15_newBytesLength_57 : decode cJ15_newBytesLength 57 = .ok (.ishl, 1) := dk_120 (dk_at dksJ15_newBytesLength_2 12 rfl rfl)
theorem dJ15_newBytesLength_58 : decode cJ15_newBytesLength 58 = .ok (.ireturn, 1) := dk_172 (dk_at dksJ15_newBytesLength_2 13 rfl rfl)
abbrev cJ15_putCharsAt : ByteArray := prog_50_method_81_code
def yJ15_putCharsAt : MethodName := ⟨RJ15, "putCharsAt", "([BICCCC)I"⟩
def dkwJ15_putCharsAt_3 : List UInt8 := [21, 6, 172]
abbrev dktJ15_putCharsAt_3 : List UInt8 := dkwJ15_putCharsAt_3 ++ []
def dkwJ15_putCharsAt_2 : List UInt8 := [184, 0, 111, 178, 0, 44, 154, 0, 17, 27, 21, 6, 159, 0, 11, 187, 0, 52, 89, 183, 0, 66, 191]
abbrev dktJ15_putCharsAt_2 : List UInt8 := dkwJ15_putCharsAt_2 ++ dktJ15_putCharsAt_3
def dkwJ15_putCharsAt_1 : List UInt8 := [132, 1, 1, 29, 184, 0, 111, 42, 27, 132, 1, 1, 21, 4, 184, 0, 111, 42, 27, 132, 1, 1, 21, 5]
abbrev dktJ15_putCharsAt_1 : List UInt8 := dkwJ15_putCharsAt_1 ++ dktJ15_putCharsAt_2
def dkwJ15_putCharsAt_0 : List UInt8 := [27, 7, 96, 54, 6, 27, 21, 6, 42, 184, 0, 96, 42, 27, 132, 1, 1, 28, 184, 0, 111, 42, 27]
abbrev dktJ15_putCharsAt_0 : List UInt8 := dkwJ15_putCharsAt_0 ++ dktJ15_putCharsAt_1
theorem dksJ15_putCharsAt_0 : cJ15_putCharsAt.data.toList.drop 0 = dktJ15_putCharsAt_0 := by decide +kernel
theorem dksJ15_putCharsAt_1 : cJ15_putCharsAt.data.toList.drop 23 = dktJ15_putCharsAt_1 := dk_seg dksJ15_putCharsAt_0 23 rfl rfl
theorem dksJ15_putCharsAt_2 : cJ15_putCharsAt.data.toList.drop 47 = dktJ15_putCharsAt_2 := dk_seg dksJ15_putCharsAt_1 24 rfl rfl
theorem dksJ15_putCharsAt_3 : cJ15_putCharsAt.data.toList.drop 70 = dktJ15_putCharsAt_3 := dk_seg dksJ15_putCharsAt_2 23 rfl rfl
theorem dJ15_putCharsAt_0 : decode cJ15_putCharsAt 0 = .ok (.iload_n 1, 1) := dk_27 (dk_at dksJ15_putCharsAt_0 0 rfl rfl)
theorem dJ15_putCharsAt_1 : decode cJ15_putCharsAt 1 = .ok (.iconst 4, 1) := dk_7 (dk_at dksJ15_putCharsAt_0 1 rfl rfl)
theorem dJ15_putCharsAt_2 : decode cJ15_putCharsAt 2 = .ok (.iadd, 1) := dk_96 (dk_at dksJ15_putCharsAt_0 2 rfl rfl)
theorem dJ15_putCharsAt_3 : decode cJ15_putCharsAt 3 = .ok (.istore 6, 2) := dk_54 6 (dk_at dksJ15_putCharsAt_0 3 rfl rfl)
theorem dJ15_putCharsAt_5 : decode cJ15_putCharsAt 5 = .ok (.iload_n 1, 1) := dk_27 (dk_at dksJ15_putCharsAt_0 5 rfl rfl)
theorem dJ15_putCharsAt_6 : decode cJ15_putCharsAt 6 = .ok (.iload 6, 2) := dk_21 6 (dk_at dksJ15_putCharsAt_0 6 rfl rfl)
theorem dJ15_putCharsAt_8 : decode cJ15_putCharsAt 8 = .ok (.aload_n 0, 1) := dk_42 (dk_at dksJ15_putCharsAt_0 8 rfl rfl)
theorem dJ15_putCharsAt_9 : decode cJ15_putCharsAt 9 = .ok (.invokestatic 96, 3) := dk_184 0 96 (dk_at dksJ15_putCharsAt_0 9 rfl rfl)
theorem dJ15_putCharsAt_12 : decode cJ15_putCharsAt 12 = .ok (.aload_n 0, 1) := dk_42 (dk_at dksJ15_putCharsAt_0 12 rfl rfl)
theorem dJ15_putCharsAt_13 : decode cJ15_putCharsAt 13 = .ok (.iload_n 1, 1) := dk_27 (dk_at dksJ15_putCharsAt_0 13 rfl rfl)
theorem dJ15_putCharsAt_14 : decode cJ15_putCharsAt 14 = .ok (.iinc 1 1, 3) := dk_132 1 1 (dk_at dksJ15_putCharsAt_0 14 rfl rfl)
theorem dJ15_putCharsAt_17 : decode cJ15_putCharsAt 17 = .ok (.iload_n 2, 1) := dk_28 (dk_at dksJ15_putCharsAt_0 17 rfl rfl)
theorem dJ15_putCharsAt_18 : decode cJ15_putCharsAt 18 = .ok (.invokestatic 111, 3) := dk_184 0 111 (dk_at dksJ15_putCharsAt_0 18 rfl rfl)
theorem dJ15_putCharsAt_21 : decode cJ15_putCharsAt 21 = .ok (.aload_n 0, 1) := dk_42 (dk_at dksJ15_putCharsAt_0 21 rfl rfl)
theorem dJ15_putCharsAt_22 : decode cJ15_putCharsAt 22 = .ok (.iload_n 1, 1) := dk_27 (dk_at dksJ15_putCharsAt_0 22 rfl rfl)
theorem dJ15_putCharsAt_23 : decode cJ15_putCharsAt 23 = .ok (.iinc 1 1, 3) := dk_132 1 1 (dk_at dksJ15_putCharsAt_1 0 rfl rfl)
theorem dJ15_putCharsAt_26 : decode cJ15_putCharsAt 26 = .ok (.iload_n 3, 1) := dk_29 (dk_at dksJ15_putCharsAt_1 3 rfl rfl)
theorem dJ15_putCharsAt_27 : decode cJ15_putCharsAt 27 = .ok (.invokestatic 111, 3) := dk_184 0 111 (dk_at dksJ15_putCharsAt_1 4 rfl rfl)
theorem dJ15_putCharsAt_30 : decode cJ15_putCharsAt 30 = .ok (.aload_n 0, 1) := dk_42 (dk_at dksJ15_putCharsAt_1 7 rfl rfl)
theorem dJ15_putCharsAt_31 : decode cJ15_putCharsAt 31 = .ok (.iload_n 1, 1) := dk_27 (dk_at dksJ15_putCharsAt_1 8 rfl rfl)
theorem dJ15_putCharsAt_32 : decode cJ15_putCharsAt 32 = .ok (.iinc 1 1, 3) := dk_132 1 1 (dk_at dksJ15_putCharsAt_1 9 rfl rfl)
theorem dJ15_putCharsAt_35 : decode cJ15_putCharsAt 35 = .ok (.iload 4, 2) := dk_21 4 (dk_at dksJ15_putCharsAt_1 12 rfl rfl)
theorem dJ15_putCharsAt_37 : decode cJ15_putCharsAt 37 = .ok (.invokestatic 111, 3) := dk_184 0 111 (dk_at dksJ15_putCharsAt_1 14 rfl rfl)
theorem dJ15_putCharsAt_40 : decode cJ15_putCharsAt 40 = .ok (.aload_n 0, 1) := dk_42 (dk_at dksJ15_putCharsAt_1 17 rfl rfl)
theorem dJ15_putCharsAt_41 : decode cJ15_putCharsAt 41 = .ok (.iload_n 1, 1) := dk_27 (dk_at dksJ15_putCharsAt_1 18 rfl rfl)
theorem dJ15_putCharsAt_42 : decode cJ15_putCharsAt 42 = .ok (.iinc 1 1, 3) := dk_132 1 1 (dk_at dksJ15_putCharsAt_1 19 rfl rfl)
theorem dJ15_putCharsAt_45 : decode cJ15_putCharsAt 45 = .ok (.iload 5, 2) := dk_21 5 (dk_at dksJ15_putCharsAt_1 22 rfl rfl)
theorem dJ15_putCharsAt_47 : decode cJ15_putCharsAt 47 = .ok (.invokestatic 111, 3) := dk_184 0 111 (dk_at dksJ15_putCharsAt_2 0 rfl rfl)
theorem dJ15_putCharsAt_50 : decode cJ15_putCharsAt 50 = .ok (.getstatic 44, 3) := dk_178 0 44 (dk_at dksJ15_putCharsAt_2 3 rfl rfl)
theorem dJ15_putCharsAt_53 : decode cJ15_putCharsAt 53 = .ok (.ifCond .ne 17, 3) := dk_154 0 17 (dk_at dksJ15_putCharsAt_2 6 rfl rfl)
theorem dJ15_putCharsAt_56 : decode cJ15_putCharsAt 56 = .ok (.iload_n 1, 1) := dk_27 (dk_at dksJ15_putCharsAt_2 9 rfl rfl)
theorem dJ15_putCharsAt_57 : decode cJ15_putCharsAt 57 = .ok (.iload 6, 2) := dk_21 6 (dk_at dksJ15_putCharsAt_2 10 rfl rfl)
theorem dJ15_putCharsAt_59 : decode cJ15_putCharsAt 59 = .ok (.if_icmp .eq 11, 3) := dk_159 0 11 (dk_at dksJ15_putCharsAt_2 12 rfl rfl)
theorem dJ15_putCharsAt_62 : decode cJ15_putCharsAt 62 = .ok (.new 52, 3) := dk_187 0 52 (dk_at dksJ15_putCharsAt_2 15 rfl rfl)
theorem dJ15_putCharsAt_65 : decode cJ15_putCharsAt 65 = .ok (.dup, 1) := dk_89 (dk_at dksJ15_putCharsAt_2 18 rfl rfl)
theorem dJ15_putCharsAt_66 : decode cJ15_putCharsAt 66 = .ok (.invokespecial 66, 3) := dk_183 0 66 (dk_at dksJ15_putCharsAt_2 19 rfl rfl)
theorem dJ15_putCharsAt_69 : decode cJ15_putCharsAt 69 = .ok (.athrow, 1) := dk_191 (dk_at dksJ15_putCharsAt_2 22 rfl rfl)
theorem dJ15_putCharsAt_70 : decode cJ15_putCharsAt 70 = .ok (.iload 6, 2) := dk_21 6 (dk_at dksJ15_putCharsAt_3 0 rfl rfl)
theorem dJ15_putCharsAt_72 : decode cJ15_putCharsAt 72 = .ok (.ireturn, 1) := dk_172 (dk_at dksJ15_putCharsAt_3 2 rfl rfl)
abbrev cJ15_checkBoundsBeginEnd : ByteArray := prog_50_method_93_code
def yJ15_checkBoundsBeginEnd : MethodName := ⟨RJ15, "checkBoundsBeginEnd", "(II[B)V"⟩
def dkwJ15_checkBoundsBeginEnd_0 : List UInt8 := [26, 27, 44, 184, 0, 48, 184, 0, 241, 177]
abbrev dktJ15_checkBoundsBeginEnd_0 : List UInt8 := dkwJ15_checkBoundsBeginEnd_0 ++ []
theorem dksJ15_checkBoundsBeginEnd_0 : cJ15_checkBoundsBeginEnd.data.toList.drop 0 = dktJ15_checkBoundsBeginEnd_0 := by decide +kernel
theorem dJ15_checkBoundsBeginEnd_0 : decode cJ15_checkBoundsBeginEnd 0 = .ok (.iload_n 0, 1) := dk_26 (dk_at dksJ15_checkBoundsBeginEnd_0 0 rfl rfl)
theorem dJ15_checkBoundsBeginEnd_1 : decode cJ15_checkBoundsBeginEnd 1 = .ok (.iload_n 1, 1) := dk_27 (dk_at dksJ15_checkBoundsBeginEnd_0 1 rfl rfl)
theorem dJ15_checkBoundsBeginEnd_2 : decode cJ15_checkBoundsBeginEnd 2 = .ok (.aload_n 2, 1) := dk_44 (dk_at dksJ15_checkBoundsBeginEnd_0 2 rfl rfl)
theorem dJ15_checkBoundsBeginEnd_3 : decode cJ15_checkBoundsBeginEnd 3 = .ok (.invokestatic 48, 3) := dk_184 0 48 (dk_at dksJ15_checkBoundsBeginEnd_0 3 rfl rfl)
theorem dJ15_checkBoundsBeginEnd_6 : decode cJ15_checkBoundsBeginEnd 6 = .ok (.invokestatic 241, 3) := dk_184 0 241 (dk_at dksJ15_checkBoundsBeginEnd_0 6 rfl rfl)
theorem dJ15_checkBoundsBeginEnd_9 : decode cJ15_checkBoundsBeginEnd 9 = .ok (.return_, 1) := dk_177 (dk_at dksJ15_checkBoundsBeginEnd_0 9 rfl rfl)
abbrev cJ15_length : ByteArray := prog_50_method_6_code
def yJ15_length : MethodName := ⟨RJ15, "length", "([B)I"⟩
def dkwJ15_length_0 : List UInt8 := [42, 190, 4, 122, 172]
abbrev dktJ15_length_0 : List UInt8 := dkwJ15_length_0 ++ []
theorem dksJ15_length_0 : cJ15_length.data.toList.drop 0 = dktJ15_length_0 := by decide +kernel
theorem dJ15_length_0 : decode cJ15_length 0 = .ok (.aload_n 0, 1) := dk_42 (dk_at dksJ15_length_0 0 rfl rfl)
theorem dJ15_length_1 : decode cJ15_length 1 = .ok (.arraylength, 1) := dk_190 (dk_at dksJ15_length_0 1 rfl rfl)
theorem dJ15_length_2 : decode cJ15_length 2 = .ok (.iconst 1, 1) := dk_4 (dk_at dksJ15_length_0 2 rfl rfl)
theorem dJ15_length_3 : decode cJ15_length 3 = .ok (.ishr, 1) := dk_122 (dk_at dksJ15_length_0 3 rfl rfl)
theorem dJ15_length_4 : decode cJ15_length 4 = .ok (.ireturn, 1) := dk_172 (dk_at dksJ15_length_0 4 rfl rfl)
abbrev cJ15_putChar : ByteArray := prog_50_method_4_code
def yJ15_putChar : MethodName := ⟨RJ15, "putChar", "([BII)V"⟩
def dkwJ15_putChar_2 : List UInt8 := [178, 0, 63, 122, 145, 84, 177]
abbrev dktJ15_putChar_2 : List UInt8 := dkwJ15_putChar_2 ++ []
def dkwJ15_putChar_1 : List UInt8 := [183, 0, 56, 191, 27, 4, 120, 60, 42, 27, 132, 1, 1, 28, 178, 0, 59, 122, 145, 84, 42, 27, 28]
abbrev dktJ15_putChar_1 : List UInt8 := dkwJ15_putChar_1 ++ dktJ15_putChar_2
def dkwJ15_putChar_0 : List UInt8 := [178, 0, 44, 154, 0, 25, 27, 155, 0, 11, 27, 42, 184, 0, 48, 161, 0, 13, 187, 0, 52, 89, 18, 54]
abbrev dktJ15_putChar_0 : List UInt8 := dkwJ15_putChar_0 ++ dktJ15_putChar_1
theorem dksJ15_putChar_0 : cJ15_putChar.data.toList.drop 0 = dktJ15_putChar_0 := by decide +kernel
theorem dksJ15_putChar_1 : cJ15_putChar.data.toList.drop 24 = dktJ15_putChar_1 := dk_seg dksJ15_putChar_0 24 rfl rfl
theorem dksJ15_putChar_2 : cJ15_putChar.data.toList.drop 47 = dktJ15_putChar_2 := dk_seg dksJ15_putChar_1 23 rfl rfl
theorem dJ15_putChar_0 : decode cJ15_putChar 0 = .ok (.getstatic 44, 3) := dk_178 0 44 (dk_at dksJ15_putChar_0 0 rfl rfl)
theorem dJ15_putChar_3 : decode cJ15_putChar 3 = .ok (.ifCond .ne 25, 3) := dk_154 0 25 (dk_at dksJ15_putChar_0 3 rfl rfl)
theorem dJ15_putChar_6 : decode cJ15_putChar 6 = .ok (.iload_n 1, 1) := dk_27 (dk_at dksJ15_putChar_0 6 rfl rfl)
theorem dJ15_putChar_7 : decode cJ15_putChar 7 = .ok (.ifCond .lt 11, 3) := dk_155 0 11 (dk_at dksJ15_putChar_0 7 rfl rfl)
theorem dJ15_putChar_10 : decode cJ15_putChar 10 = .ok (.iload_n 1, 1) := dk_27 (dk_at dksJ15_putChar_0 10 rfl rfl)
theorem dJ15_putChar_11 : decode cJ15_putChar 11 = .ok (.aload_n 0, 1) := dk_42 (dk_at dksJ15_putChar_0 11 rfl rfl)
theorem dJ15_putChar_12 : decode cJ15_putChar 12 = .ok (.invokestatic 48, 3) := dk_184 0 48 (dk_at dksJ15_putChar_0 12 rfl rfl)
theorem dJ15_putChar_15 : decode cJ15_putChar 15 = .ok (.if_icmp .lt 13, 3) := dk_161 0 13 (dk_at dksJ15_putChar_0 15 rfl rfl)
theorem dJ15_putChar_18 : decode cJ15_putChar 18 = .ok (.new 52, 3) := dk_187 0 52 (dk_at dksJ15_putChar_0 18 rfl rfl)
theorem dJ15_putChar_21 : decode cJ15_putChar 21 = .ok (.dup, 1) := dk_89 (dk_at dksJ15_putChar_0 21 rfl rfl)
theorem dJ15_putChar_22 : decode cJ15_putChar 22 = .ok (.ldc 54, 2) := dk_18 54 (dk_at dksJ15_putChar_0 22 rfl rfl)
theorem dJ15_putChar_24 : decode cJ15_putChar 24 = .ok (.invokespecial 56, 3) := dk_183 0 56 (dk_at dksJ15_putChar_1 0 rfl rfl)
theorem dJ15_putChar_27 : decode cJ15_putChar 27 = .ok (.athrow, 1) := dk_191 (dk_at dksJ15_putChar_1 3 rfl rfl)
theorem dJ15_putChar_28 : decode cJ15_putChar 28 = .ok (.iload_n 1, 1) := dk_27 (dk_at dksJ15_putChar_1 4 rfl rfl)
theorem dJ15_putChar_29 : decode cJ15_putChar 29 = .ok (.iconst 1, 1) := dk_4 (dk_at dksJ15_putChar_1 5 rfl rfl)
theorem dJ15_putChar_30 : decode cJ15_putChar 30 = .ok (.ishl, 1) := dk_120 (dk_at dksJ15_putChar_1 6 rfl rfl)
theorem dJ15_putChar_31 : decode cJ15_putChar 31 = .ok (.istore_n 1, 1) := dk_60 (dk_at dksJ15_putChar_1 7 rfl rfl)
theorem dJ15_putChar_32 : decode cJ15_putChar 32 = .ok (.aload_n 0, 1) := dk_42 (dk_at dksJ15_putChar_1 8 rfl rfl)
theorem dJ15_putChar_33 : decode cJ15_putChar 33 = .ok (.iload_n 1, 1) := dk_27 (dk_at dksJ15_putChar_1 9 rfl rfl)
theorem dJ15_putChar_34 : decode cJ15_putChar 34 = .ok (.iinc 1 1, 3) := dk_132 1 1 (dk_at dksJ15_putChar_1 10 rfl rfl)
theorem dJ15_putChar_37 : decode cJ15_putChar 37 = .ok (.iload_n 2, 1) := dk_28 (dk_at dksJ15_putChar_1 13 rfl rfl)
theorem dJ15_putChar_38 : decode cJ15_putChar 38 = .ok (.getstatic 59, 3) := dk_178 0 59 (dk_at dksJ15_putChar_1 14 rfl rfl)
theorem dJ15_putChar_41 : decode cJ15_putChar 41 = .ok (.ishr, 1) := dk_122 (dk_at dksJ15_putChar_1 17 rfl rfl)
theorem dJ15_putChar_42 : decode cJ15_putChar 42 = .ok (.i2b, 1) := dk_145 (dk_at dksJ15_putChar_1 18 rfl rfl)
theorem dJ15_putChar_43 : decode cJ15_putChar 43 = .ok (.bastore, 1) := dk_84 (dk_at dksJ15_putChar_1 19 rfl rfl)
theorem dJ15_putChar_44 : decode cJ15_putChar 44 = .ok (.aload_n 0, 1) := dk_42 (dk_at dksJ15_putChar_1 20 rfl rfl)
theorem dJ15_putChar_45 : decode cJ15_putChar 45 = .ok (.iload_n 1, 1) := dk_27 (dk_at dksJ15_putChar_1 21 rfl rfl)
theorem dJ15_putChar_46 : decode cJ15_putChar 46 = .ok (.iload_n 2, 1) := dk_28 (dk_at dksJ15_putChar_1 22 rfl rfl)
theorem dJ15_putChar_47 : decode cJ15_putChar 47 = .ok (.getstatic 63, 3) := dk_178 0 63 (dk_at dksJ15_putChar_2 0 rfl rfl)
theorem dJ15_putChar_50 : decode cJ15_putChar 50 = .ok (.ishr, 1) := dk_122 (dk_at dksJ15_putChar_2 3 rfl rfl)
theorem dJ15_putChar_51 : decode cJ15_putChar 51 = .ok (.i2b, 1) := dk_145 (dk_at dksJ15_putChar_2 4 rfl rfl)
theorem dJ15_putChar_52 : decode cJ15_putChar 52 = .ok (.bastore, 1) := dk_84 (dk_at dksJ15_putChar_2 5 rfl rfl)
theorem dJ15_putChar_53 : decode cJ15_putChar 53 = .ok (.return_, 1) := dk_177 (dk_at dksJ15_putChar_2 6 rfl rfl)
abbrev cJ15_inflate : ByteArray := prog_50_method_86_code
def yJ15_inflate : MethodName := ⟨RJ15, "inflate", "([BI[BII)V"⟩
def dkwJ15_inflate_1 : List UInt8 := [132, 1, 1, 51, 17, 0, 255, 126, 184, 0, 111, 132, 5, 1, 167, 255, 228, 177]
abbrev dktJ15_inflate_1 : List UInt8 := dkwJ15_inflate_1 ++ []
def dkwJ15_inflate_0 : List UInt8 := [29, 21, 4, 44, 184, 0, 173, 3, 54, 5, 21, 5, 21, 4, 162, 0, 27, 44, 29, 132, 3, 1, 42, 27]
abbrev dktJ15_inflate_0 : List UInt8 := dkwJ15_inflate_0 ++ dktJ15_inflate_1
theorem dksJ15_inflate_0 : cJ15_inflate.data.toList.drop 0 = dktJ15_inflate_0 := by decide +kernel
theorem dksJ15_inflate_1 : cJ15_inflate.data.toList.drop 24 = dktJ15_inflate_1 := dk_seg dksJ15_inflate_0 24 rfl rfl
theorem dJ15_inflate_0 : decode cJ15_inflate 0 = .ok (.iload_n 3, 1) := dk_29 (dk_at dksJ15_inflate_0 0 rfl rfl)
theorem dJ15_inflate_1 : decode cJ15_inflate 1 = .ok (.iload 4, 2) := dk_21 4 (dk_at dksJ15_inflate_0 1 rfl rfl)
theorem dJ15_inflate_3 : decode cJ15_inflate 3 = .ok (.aload_n 2, 1) := dk_44 (dk_at dksJ15_inflate_0 3 rfl rfl)
theorem dJ15_inflate_4 : decode cJ15_inflate 4 = .ok (.invokestatic 173, 3) := dk_184 0 173 (dk_at dksJ15_inflate_0 4 rfl rfl)
theorem dJ15_inflate_7 : decode cJ15_inflate 7 = .ok (.iconst 0, 1) := dk_3 (dk_at dksJ15_inflate_0 7 rfl rfl)
theorem dJ15_inflate_8 : decode cJ15_inflate 8 = .ok (.istore 5, 2) := dk_54 5 (dk_at dksJ15_inflate_0 8 rfl rfl)
theorem dJ15_inflate_10 : decode cJ15_inflate 10 = .ok (.iload 5, 2) := dk_21 5 (dk_at dksJ15_inflate_0 10 rfl rfl)
theorem dJ15_inflate_12 : decode cJ15_inflate 12 = .ok (.iload 4, 2) := dk_21 4 (dk_at dksJ15_inflate_0 12 rfl rfl)
theorem dJ15_inflate_14 : decode cJ15_inflate 14 = .ok (.if_icmp .ge 27, 3) := dk_162 0 27 (dk_at dksJ15_inflate_0 14 rfl rfl)
theorem dJ15_inflate_17 : decode cJ15_inflate 17 = .ok (.aload_n 2, 1) := dk_44 (dk_at dksJ15_inflate_0 17 rfl rfl)
theorem dJ15_inflate_18 : decode cJ15_inflate 18 = .ok (.iload_n 3, 1) := dk_29 (dk_at dksJ15_inflate_0 18 rfl rfl)
theorem dJ15_inflate_19 : decode cJ15_inflate 19 = .ok (.iinc 3 1, 3) := dk_132 3 1 (dk_at dksJ15_inflate_0 19 rfl rfl)
theorem dJ15_inflate_22 : decode cJ15_inflate 22 = .ok (.aload_n 0, 1) := dk_42 (dk_at dksJ15_inflate_0 22 rfl rfl)
theorem dJ15_inflate_23 : decode cJ15_inflate 23 = .ok (.iload_n 1, 1) := dk_27 (dk_at dksJ15_inflate_0 23 rfl rfl)
theorem dJ15_inflate_24 : decode cJ15_inflate 24 = .ok (.iinc 1 1, 3) := dk_132 1 1 (dk_at dksJ15_inflate_1 0 rfl rfl)
theorem dJ15_inflate_27 : decode cJ15_inflate 27 = .ok (.baload, 1) := dk_51 (dk_at dksJ15_inflate_1 3 rfl rfl)
theorem dJ15_inflate_28 : decode cJ15_inflate 28 = .ok (.sipush 255, 3) := dk_17 0 255 (dk_at dksJ15_inflate_1 4 rfl rfl)
theorem dJ15_inflate_31 : decode cJ15_inflate 31 = .ok (.iand, 1) := dk_126 (dk_at dksJ15_inflate_1 7 rfl rfl)
theorem dJ15_inflate_32 : decode cJ15_inflate 32 = .ok (.invokestatic 111, 3) := dk_184 0 111 (dk_at dksJ15_inflate_1 8 rfl rfl)
theorem dJ15_inflate_35 : decode cJ15_inflate 35 = .ok (.iinc 5 1, 3) := dk_132 5 1 (dk_at dksJ15_inflate_1 11 rfl rfl)
theorem dJ15_inflate_38 : decode cJ15_inflate 38 = .ok (.goto (-28), 3) := dk_167 255 228 (dk_at dksJ15_inflate_1 14 rfl rfl)
theorem dJ15_inflate_41 : decode cJ15_inflate 41 = .ok (.return_, 1) := dk_177 (dk_at dksJ15_inflate_1 17 rfl rfl)
abbrev cJ15_checkBoundsOffCount : ByteArray := prog_50_method_94_code
def yJ15_checkBoundsOffCount : MethodName := ⟨RJ15, "checkBoundsOffCount", "(II[B)V"⟩
def dkwJ15_checkBoundsOffCount_0 : List UInt8 := [26, 27, 44, 184, 0, 48, 184, 1, 163, 87, 177]
abbrev dktJ15_checkBoundsOffCount_0 : List UInt8 := dkwJ15_checkBoundsOffCount_0 ++ []
theorem dksJ15_checkBoundsOffCount_0 : cJ15_checkBoundsOffCount.data.toList.drop 0 = dktJ15_checkBoundsOffCount_0 := by decide +kernel
theorem dJ15_checkBoundsOffCount_0 : decode cJ15_checkBoundsOffCount 0 = .ok (.iload_n 0, 1) := dk_26 (dk_at dksJ15_checkBoundsOffCount_0 0 rfl rfl)
theorem dJ15_checkBoundsOffCount_1 : decode cJ15_checkBoundsOffCount 1 = .ok (.iload_n 1, 1) := dk_27 (dk_at dksJ15_checkBoundsOffCount_0 1 rfl rfl)
theorem dJ15_checkBoundsOffCount_2 : decode cJ15_checkBoundsOffCount 2 = .ok (.aload_n 2, 1) := dk_44 (dk_at dksJ15_checkBoundsOffCount_0 2 rfl rfl)
theorem dJ15_checkBoundsOffCount_3 : decode cJ15_checkBoundsOffCount 3 = .ok (.invokestatic 48, 3) := dk_184 0 48 (dk_at dksJ15_checkBoundsOffCount_0 3 rfl rfl)
theorem dJ15_checkBoundsOffCount_6 : decode cJ15_checkBoundsOffCount 6 = .ok (.invokestatic 419, 3) := dk_184 1 163 (dk_at dksJ15_checkBoundsOffCount_0 6 rfl rfl)
theorem dJ15_checkBoundsOffCount_9 : decode cJ15_checkBoundsOffCount 9 = .ok (.pop, 1) := dk_87 (dk_at dksJ15_checkBoundsOffCount_0 9 rfl rfl)
theorem dJ15_checkBoundsOffCount_10 : decode cJ15_checkBoundsOffCount 10 = .ok (.return_, 1) := dk_177 (dk_at dksJ15_checkBoundsOffCount_0 10 rfl rfl)
abbrev cJ15_getChars : ByteArray := prog_50_method_77_code
def yJ15_getChars : MethodName := ⟨RJ15, "getChars", "(III[B)I"⟩
def dkwJ15_getChars_1 : List UInt8 := [159, 0, 11, 187, 0, 52, 89, 183, 0, 66, 191, 21, 4, 172]
abbrev dktJ15_getChars_1 : List UInt8 := dkwJ15_getChars_1 ++ []
def dkwJ15_getChars_0 : List UInt8 := [27, 28, 45, 184, 0, 96, 26, 28, 45, 184, 1, 137, 54, 4, 178, 0, 44, 154, 0, 17, 27, 21, 4]
abbrev dktJ15_getChars_0 : List UInt8 := dkwJ15_getChars_0 ++ dktJ15_getChars_1
theorem dksJ15_getChars_0 : cJ15_getChars.data.toList.drop 0 = dktJ15_getChars_0 := by decide +kernel
theorem dksJ15_getChars_1 : cJ15_getChars.data.toList.drop 23 = dktJ15_getChars_1 := dk_seg dksJ15_getChars_0 23 rfl rfl
theorem dJ15_getChars_0 : decode cJ15_getChars 0 = .ok (.iload_n 1, 1) := dk_27 (dk_at dksJ15_getChars_0 0 rfl rfl)
theorem dJ15_getChars_1 : decode cJ15_getChars 1 = .ok (.iload_n 2, 1) := dk_28 (dk_at dksJ15_getChars_0 1 rfl rfl)
theorem dJ15_getChars_2 : decode cJ15_getChars 2 = .ok (.aload_n 3, 1) := dk_45 (dk_at dksJ15_getChars_0 2 rfl rfl)
theorem dJ15_getChars_3 : decode cJ15_getChars 3 = .ok (.invokestatic 96, 3) := dk_184 0 96 (dk_at dksJ15_getChars_0 3 rfl rfl)
theorem dJ15_getChars_6 : decode cJ15_getChars 6 = .ok (.iload_n 0, 1) := dk_26 (dk_at dksJ15_getChars_0 6 rfl rfl)
theorem dJ15_getChars_7 : decode cJ15_getChars 7 = .ok (.iload_n 2, 1) := dk_28 (dk_at dksJ15_getChars_0 7 rfl rfl)
theorem dJ15_getChars_8 : decode cJ15_getChars 8 = .ok (.aload_n 3, 1) := dk_45 (dk_at dksJ15_getChars_0 8 rfl rfl)
theorem dJ15_getChars_9 : decode cJ15_getChars 9 = .ok (.invokestatic 393, 3) := dk_184 1 137 (dk_at dksJ15_getChars_0 9 rfl rfl)
theorem dJ15_getChars_12 : decode cJ15_getChars 12 = .ok (.istore 4, 2) := dk_54 4 (dk_at dksJ15_getChars_0 12 rfl rfl)
theorem dJ15_getChars_14 : decode cJ15_getChars 14 = .ok (.getstatic 44, 3) := dk_178 0 44 (dk_at dksJ15_getChars_0 14 rfl rfl)
theorem dJ15_getChars_17 : decode cJ15_getChars 17 = .ok (.ifCond .ne 17, 3) := dk_154 0 17 (dk_at dksJ15_getChars_0 17 rfl rfl)
theorem dJ15_getChars_20 : decode cJ15_getChars 20 = .ok (.iload_n 1, 1) := dk_27 (dk_at dksJ15_getChars_0 20 rfl rfl)
theorem dJ15_getChars_21 : decode cJ15_getChars 21 = .ok (.iload 4, 2) := dk_21 4 (dk_at dksJ15_getChars_0 21 rfl rfl)
theorem dJ15_getChars_23 : decode cJ15_getChars 23 = .ok (.if_icmp .eq 11, 3) := dk_159 0 11 (dk_at dksJ15_getChars_1 0 rfl rfl)
theorem dJ15_getChars_26 : decode cJ15_getChars 26 = .ok (.new 52, 3) := dk_187 0 52 (dk_at dksJ15_getChars_1 3 rfl rfl)
theorem dJ15_getChars_29 : decode cJ15_getChars 29 = .ok (.dup, 1) := dk_89 (dk_at dksJ15_getChars_1 6 rfl rfl)
theorem dJ15_getChars_30 : decode cJ15_getChars 30 = .ok (.invokespecial 66, 3) := dk_183 0 66 (dk_at dksJ15_getChars_1 7 rfl rfl)
theorem dJ15_getChars_33 : decode cJ15_getChars 33 = .ok (.athrow, 1) := dk_191 (dk_at dksJ15_getChars_1 10 rfl rfl)
theorem dJ15_getChars_34 : decode cJ15_getChars 34 = .ok (.iload 4, 2) := dk_21 4 (dk_at dksJ15_getChars_1 11 rfl rfl)
theorem dJ15_getChars_36 : decode cJ15_getChars 36 = .ok (.ireturn, 1) := dk_172 (dk_at dksJ15_getChars_1 13 rfl rfl)
abbrev cJ15_getChars_2 : ByteArray := prog_50_method_89_code
def yJ15_getChars_2 : MethodName := ⟨RJ15, "getChars", "(II[B)I"⟩
def dkwJ15_getChars_2_5 : List UInt8 := [132, 5, 255, 21, 5, 16, 45, 184, 0, 111, 21, 5, 172]
abbrev dktJ15_getChars_2_5 : List UInt8 := dkwJ15_getChars_2_5 ++ []
def dkwJ15_getChars_2_4 : List UInt8 := [162, 0, 18, 44, 132, 5, 255, 21, 5, 178, 1, 151, 26, 116, 51, 184, 0, 111, 21, 6, 153, 0, 14, 44]
abbrev dktJ15_getChars_2_4 : List UInt8 := dkwJ15_getChars_2_4 ++ dktJ15_getChars_2_5
def dkwJ15_getChars_2_3 : List UInt8 := [184, 0, 111, 167, 255, 205, 44, 132, 5, 255, 21, 5, 178, 1, 147, 26, 116, 51, 184, 0, 111, 26, 16, 247]
abbrev dktJ15_getChars_2_3 : List UInt8 := dkwJ15_getChars_2_3 ++ dktJ15_getChars_2_4
def dkwJ15_getChars_2_2 : List UInt8 := [21, 5, 178, 1, 147, 21, 4, 51, 184, 0, 111, 44, 132, 5, 255, 21, 5, 178, 1, 151, 21, 4, 51]
abbrev dktJ15_getChars_2_2 : List UInt8 := dkwJ15_getChars_2_2 ++ dktJ15_getChars_2_3
def dkwJ15_getChars_2_1 : List UInt8 := [16, 156, 163, 0, 51, 26, 16, 100, 108, 62, 29, 16, 100, 104, 26, 100, 54, 4, 29, 59, 44, 132, 5, 255]
abbrev dktJ15_getChars_2_1 : List UInt8 := dkwJ15_getChars_2_1 ++ dktJ15_getChars_2_2
def dkwJ15_getChars_2_0 : List UInt8 := [27, 54, 5, 26, 156, 0, 7, 4, 167, 0, 4, 3, 54, 6, 21, 6, 154, 0, 6, 26, 116, 59, 26]
abbrev dktJ15_getChars_2_0 : List UInt8 := dkwJ15_getChars_2_0 ++ dktJ15_getChars_2_1
theorem dksJ15_getChars_2_0 : cJ15_getChars_2.data.toList.drop 0 = dktJ15_getChars_2_0 := by decide +kernel
theorem dksJ15_getChars_2_1 : cJ15_getChars_2.data.toList.drop 23 = dktJ15_getChars_2_1 := dk_seg dksJ15_getChars_2_0 23 rfl rfl
theorem dksJ15_getChars_2_2 : cJ15_getChars_2.data.toList.drop 47 = dktJ15_getChars_2_2 := dk_seg dksJ15_getChars_2_1 24 rfl rfl
theorem dksJ15_getChars_2_3 : cJ15_getChars_2.data.toList.drop 70 = dktJ15_getChars_2_3 := dk_seg dksJ15_getChars_2_2 23 rfl rfl
theorem dksJ15_getChars_2_4 : cJ15_getChars_2.data.toList.drop 94 = dktJ15_getChars_2_4 := dk_seg dksJ15_getChars_2_3 24 rfl rfl
theorem dksJ15_getChars_2_5 : cJ15_getChars_2.data.toList.drop 118 = dktJ15_getChars_2_5 := dk_seg dksJ15_getChars_2_4 24 rfl rfl
theorem dJ15_getChars_2_0 : decode cJ15_getChars_2 0 = .ok (.iload_n 1, 1) := dk_27 (dk_at dksJ15_getChars_2_0 0 rfl rfl)
theorem dJ15_getChars_2_1 : decode cJ15_getChars_2 1 = .ok (.istore 5, 2) := dk_54 5 (dk_at dksJ15_getChars_2_0 1 rfl rfl)
theorem dJ15_getChars_2_3 : decode cJ15_getChars_2 3 = .ok (.iload_n 0, 1) := dk_26 (dk_at dksJ15_getChars_2_0 3 rfl rfl)
theorem dJ15_getChars_2_4 : decode cJ15_getChars_2 4 = .ok (.ifCond .ge 7, 3) := dk_156 0 7 (dk_at dksJ15_getChars_2_0 4 rfl rfl)
theorem dJ15_getChars_2_7 : decode cJ15_getChars_2 7 = .ok (.iconst 1, 1) := dk_4 (dk_at dksJ15_getChars_2_0 7 rfl rfl)
theorem dJ15_getChars_2_8 : decode cJ15_getChars_2 8 = .ok (.goto 4, 3) := dk_167 0 4 (dk_at dksJ15_getChars_2_0 8 rfl rfl)
theorem dJ15_getChars_2_11 : decode cJ15_getChars_2 11 = .ok (.iconst 0, 1) := dk_3 (dk_at dksJ15_getChars_2_0 11 rfl rfl)
theorem dJ15_getChars_2_12 : decode cJ15_getChars_2 12 = .ok (.istore 6, 2) := dk_54 6 (dk_at dksJ15_getChars_2_0 12 rfl rfl)
theorem dJ15_getChars_2_14 : decode cJ15_getChars_2 14 = .ok (.iload 6, 2) := dk_21 6 (dk_at dksJ15_getChars_2_0 14 rfl rfl)
theorem dJ15_getChars_2_16 : decode cJ15_getChars_2 16 = .ok (.ifCond .ne 6, 3) := dk_154 0 6 (dk_at dksJ15_getChars_2_0 16 rfl rfl)
theorem dJ15_getChars_2_19 : decode cJ15_getChars_2 19 = .ok (.iload_n 0, 1) := dk_26 (dk_at dksJ15_getChars_2_0 19 rfl rfl)
theorem dJ15_getChars_2_20 : decode cJ15_getChars_2 20 = .ok (.ineg, 1) := dk_116 (dk_at dksJ15_getChars_2_0 20 rfl rfl)
theorem dJ15_getChars_2_21 : decode cJ15_getChars_2 21 = .ok (.istore_n 0, 1) := dk_59 (dk_at dksJ15_getChars_2_0 21 rfl rfl)
theorem dJ15_getChars_2_22 : decode cJ15_getChars_2 22 = .ok (.iload_n 0, 1) := dk_26 (dk_at dksJ15_getChars_2_0 22 rfl rfl)
theorem dJ15_getChars_2_23 : decode cJ15_getChars_2 23 = .ok (.bipush (-100), 2) := dk_16 156 (dk_at dksJ15_getChars_2_1 0 rfl rfl)
theorem dJ15_getChars_2_25 : decode cJ15_getChars_2 25 = .ok (.if_icmp .gt 51, 3) := dk_163 0 51 (dk_at dksJ15_getChars_2_1 2 rfl rfl)
theorem dJ15_getChars_2_28 : decode cJ15_getChars_2 28 = .ok (.iload_n 0, 1) := dk_26 (dk_at dksJ15_getChars_2_1 5 rfl rfl)
theorem dJ15_getChars_2_29 : decode cJ15_getChars_2 29 = .ok (.bipush 100, 2) := dk_16 100 (dk_at dksJ15_getChars_2_1 6 rfl rfl)
theorem dJ15_getChars_2_31 : decode cJ15_getChars_2 31 = .ok (.idiv, 1) := dk_108 (dk_at dksJ15_getChars_2_1 8 rfl rfl)
theorem dJ15_getChars_2_32 : decode cJ15_getChars_2 32 = .ok (.istore_n 3, 1) := dk_62 (dk_at dksJ15_getChars_2_1 9 rfl rfl)
theorem dJ15_getChars_2_33 : decode cJ15_getChars_2 33 = .ok (.iload_n 3, 1) := dk_29 (dk_at dksJ15_getChars_2_1 10 rfl rfl)
theorem dJ15_getChars_2_34 : decode cJ15_getChars_2 34 = .ok (.bipush 100, 2) := dk_16 100 (dk_at dksJ15_getChars_2_1 11 rfl rfl)
theorem dJ15_getChars_2_36 : decode cJ15_getChars_2 36 = .ok (.imul, 1) := dk_104 (dk_at dksJ15_getChars_2_1 13 rfl rfl)
theorem dJ15_getChars_2_37 : decode cJ15_getChars_2 37 = .ok (.iload_n 0, 1) := dk_26 (dk_at dksJ15_getChars_2_1 14 rfl rfl)
theorem dJ15_getChars_2_38 : decode cJ15_getChars_2 38 = .ok (.isub, 1) := dk_100 (dk_at dksJ15_getChars_2_1 15 rfl rfl)
theorem dJ15_getChars_2_39 : decode cJ15_getChars_2 39 = .ok (.istore 4, 2) := dk_54 4 (dk_at dksJ15_getChars_2_1 16 rfl rfl)
theorem dJ15_getChars_2_41 : decode cJ15_getChars_2 41 = .ok (.iload_n 3, 1) := dk_29 (dk_at dksJ15_getChars_2_1 18 rfl rfl)
theorem dJ15_getChars_2_42 : decode cJ15_getChars_2 42 = .ok (.istore_n 0, 1) := dk_59 (dk_at dksJ15_getChars_2_1 19 rfl rfl)
theorem dJ15_getChars_2_43 : decode cJ15_getChars_2 43 = .ok (.aload_n 2, 1) := dk_44 (dk_at dksJ15_getChars_2_1 20 rfl rfl)
theorem dJ15_getChars_2_44 : decode cJ15_getChars_2 44 = .ok (.iinc 5 (-1), 3) := dk_132 5 255 (dk_at dksJ15_getChars_2_1 21 rfl rfl)
theorem dJ15_getChars_2_47 : decode cJ15_getChars_2 47 = .ok (.iload 5, 2) := dk_21 5 (dk_at dksJ15_getChars_2_2 0 rfl rfl)
theorem dJ15_getChars_2_49 : decode cJ15_getChars_2 49 = .ok (.getstatic 403, 3) := dk_178 1 147 (dk_at dksJ15_getChars_2_2 2 rfl rfl)
theorem dJ15_getChars_2_52 : decode cJ15_getChars_2 52 = .ok (.iload 4, 2) := dk_21 4 (dk_at dksJ15_getChars_2_2 5 rfl rfl)
theorem dJ15_getChars_2_54 : decode cJ15_getChars_2 54 = .ok (.baload, 1) := dk_51 (dk_at dksJ15_getChars_2_2 7 rfl rfl)
theorem dJ15_getChars_2_55 : decode cJ15_getChars_2 55 = .ok (.invokestatic 111, 3) := dk_184 0 111 (dk_at dksJ15_getChars_2_2 8 rfl rfl)
theorem dJ15_getChars_2_58 : decode cJ15_getChars_2 58 = .ok (.aload_n 2, 1) := dk_44 (dk_at dksJ15_getChars_2_2 11 rfl rfl)
theorem dJ15_getChars_2_59 : decode cJ15_getChars_2 59 = .ok (.iinc 5 (-1), 3) := dk_132 5 255 (dk_at dksJ15_getChars_2_2 12 rfl rfl)
theorem dJ15_getChars_2_62 : decode cJ15_getChars_2 62 = .ok (.iload 5, 2) := dk_21 5 (dk_at dksJ15_getChars_2_2 15 rfl rfl)
theorem dJ15_getChars_2_64 : decode cJ15_getChars_2 64 = .ok (.getstatic 407, 3) := dk_178 1 151 (dk_at dksJ15_getChars_2_2 17 rfl rfl)
theorem dJ15_getChars_2_67 : decode cJ15_getChars_2 67 = .ok (.iload 4, 2) := dk_21 4 (dk_at dksJ15_getChars_2_2 20 rfl rfl)
theorem dJ15_getChars_2_69 : decode cJ15_getChars_2 69 = .ok (.baload, 1) := dk_51 (dk_at dksJ15_getChars_2_2 22 rfl rfl)
theorem dJ15_getChars_2_70 : decode cJ15_getChars_2 70 = .ok (.invokestatic 111, 3) := dk_184 0 111 (dk_at dksJ15_getChars_2_3 0 rfl rfl)
theorem dJ15_getChars_2_73 : decode cJ15_getChars_2 73 = .ok (.goto (-51), 3) := dk_167 255 205 (dk_at dksJ15_getChars_2_3 3 rfl rfl)
theorem dJ15_getChars_2_76 : decode cJ15_getChars_2 76 = .ok (.aload_n 2, 1) := dk_44 (dk_at dksJ15_getChars_2_3 6 rfl rfl)
theorem dJ15_getChars_2_77 : decode cJ15_getChars_2 77 = .ok (.iinc 5 (-1), 3) := dk_132 5 255 (dk_at dksJ15_getChars_2_3 7 rfl rfl)
theorem dJ15_getChars_2_80 : decode cJ15_getChars_2 80 = .ok (.iload 5, 2) := dk_21 5 (dk_at dksJ15_getChars_2_3 10 rfl rfl)
theorem dJ15_getChars_2_82 : decode cJ15_getChars_2 82 = .ok (.getstatic 403, 3) := dk_178 1 147 (dk_at dksJ15_getChars_2_3 12 rfl rfl)
theorem dJ15_getChars_2_85 : decode cJ15_getChars_2 85 = .ok (.iload_n 0, 1) := dk_26 (dk_at dksJ15_getChars_2_3 15 rfl rfl)
theorem dJ15_getChars_2_86 : decode cJ15_getChars_2 86 = .ok (.ineg, 1) := dk_116 (dk_at dksJ15_getChars_2_3 16 rfl rfl)
theorem dJ15_getChars_2_87 : decode cJ15_getChars_2 87 = .ok (.baload, 1) := dk_51 (dk_at dksJ15_getChars_2_3 17 rfl rfl)
theorem dJ15_getChars_2_88 : decode cJ15_getChars_2 88 = .ok (.invokestatic 111, 3) := dk_184 0 111 (dk_at dksJ15_getChars_2_3 18 rfl rfl)
theorem dJ15_getChars_2_91 : decode cJ15_getChars_2 91 = .ok (.iload_n 0, 1) := dk_26 (dk_at dksJ15_getChars_2_3 21 rfl rfl)
theorem dJ15_getChars_2_92 : decode cJ15_getChars_2 92 = .ok (.bipush (-9), 2) := dk_16 247 (dk_at dksJ15_getChars_2_3 22 rfl rfl)
theorem dJ15_getChars_2_94 : decode cJ15_getChars_2 94 = .ok (.if_icmp .ge 18, 3) := dk_162 0 18 (dk_at dksJ15_getChars_2_4 0 rfl rfl)
theorem dJ15_getChars_2_97 : decode cJ15_getChars_2 97 = .ok (.aload_n 2, 1) := dk_44 (dk_at dksJ15_getChars_2_4 3 rfl rfl)
theorem dJ15_getChars_2_98 : decode cJ15_getChars_2 98 = .ok (.iinc 5 (-1), 3) := dk_132 5 255 (dk_at dksJ15_getChars_2_4 4 rfl rfl)
theorem dJ15_getChars_2_101 : decode cJ15_getChars_2 101 = .ok (.iload 5, 2) := dk_21 5 (dk_at dksJ15_getChars_2_4 7 rfl rfl)
theorem dJ15_getChars_2_103 : decode cJ15_getChars_2 103 = .ok (.getstatic 407, 3) := dk_178 1 151 (dk_at dksJ15_getChars_2_4 9 rfl rfl)
theorem dJ15_getChars_2_106 : decode cJ15_getChars_2 106 = .ok (.iload_n 0, 1) := dk_26 (dk_at dksJ15_getChars_2_4 12 rfl rfl)
theorem dJ15_getChars_2_107 : decode cJ15_getChars_2 107 = .ok (.ineg, 1) := dk_116 (dk_at dksJ15_getChars_2_4 13 rfl rfl)
theorem dJ15_getChars_2_108 : decode cJ15_getChars_2 108 = .ok (.baload, 1) := dk_51 (dk_at dksJ15_getChars_2_4 14 rfl rfl)
theorem dJ15_getChars_2_109 : decode cJ15_getChars_2 109 = .ok (.invokestatic 111, 3) := dk_184 0 111 (dk_at dksJ15_getChars_2_4 15 rfl rfl)
theorem dJ15_getChars_2_112 : decode cJ15_getChars_2 112 = .ok (.iload 6, 2) := dk_21 6 (dk_at dksJ15_getChars_2_4 18 rfl rfl)
theorem dJ15_getChars_2_114 : decode cJ15_getChars_2 114 = .ok (.ifCond .eq 14, 3) := dk_153 0 14 (dk_at dksJ15_getChars_2_4 20 rfl rfl)
theorem dJ15_getChars_2_117 : decode cJ15_getChars_2 117 = .ok (.aload_n 2, 1) := dk_44 (dk_at dksJ15_getChars_2_4 23 rfl rfl)
theorem dJ15_getChars_2_118 : decode cJ15_getChars_2 118 = .ok (.iinc 5 (-1), 3) := dk_132 5 255 (dk_at dksJ15_getChars_2_5 0 rfl rfl)
theorem dJ15_getChars_2_121 : decode cJ15_getChars_2 121 = .ok (.iload 5, 2) := dk_21 5 (dk_at dksJ15_getChars_2_5 3 rfl rfl)
theorem dJ15_getChars_2_123 : decode cJ15_getChars_2 123 = .ok (.bipush 45, 2) := dk_16 45 (dk_at dksJ15_getChars_2_5 5 rfl rfl)
theorem dJ15_getChars_2_125 : decode cJ15_getChars_2 125 = .ok (.invokestatic 111, 3) := dk_184 0 111 (dk_at dksJ15_getChars_2_5 7 rfl rfl)
theorem dJ15_getChars_2_128 : decode cJ15_getChars_2 128 = .ok (.iload 5, 2) := dk_21 5 (dk_at dksJ15_getChars_2_5 10 rfl rfl)
theorem dJ15_getChars_2_130 : decode cJ15_getChars_2 130 = .ok (.ireturn, 1) := dk_172 (dk_at dksJ15_getChars_2_5 12 rfl rfl)
abbrev cJ15_compress : ByteArray := prog_50_method_17_code
def yJ15_compress : MethodName := ⟨RJ15, "compress", "([BII)[B"⟩
def dkwJ15_compress_2 : List UInt8 := [25, 5, 3, 45, 3, 28, 184, 0, 123, 28, 159, 0, 6, 25, 5, 176, 45, 176]
abbrev dktJ15_compress_2 : List UInt8 := dkwJ15_compress_2 ++ []
def dkwJ15_compress_1 : List UInt8 := [27, 28, 96, 184, 0, 11, 184, 0, 126, 58, 5, 25, 5, 21, 4, 184, 0, 71, 17, 0, 255, 163, 0, 16]
abbrev dktJ15_compress_1 : List UInt8 := dkwJ15_compress_1 ++ dktJ15_compress_2
def dkwJ15_compress_0 : List UInt8 := [28, 188, 8, 78, 42, 27, 45, 3, 28, 184, 0, 123, 54, 4, 21, 4, 28, 159, 0, 47, 42, 27, 4, 120]
abbrev dktJ15_compress_0 : List UInt8 := dkwJ15_compress_0 ++ dktJ15_compress_1
theorem dksJ15_compress_0 : cJ15_compress.data.toList.drop 0 = dktJ15_compress_0 := by decide +kernel
theorem dksJ15_compress_1 : cJ15_compress.data.toList.drop 24 = dktJ15_compress_1 := dk_seg dksJ15_compress_0 24 rfl rfl
theorem dksJ15_compress_2 : cJ15_compress.data.toList.drop 48 = dktJ15_compress_2 := dk_seg dksJ15_compress_1 24 rfl rfl
theorem dJ15_compress_0 : decode cJ15_compress 0 = .ok (.iload_n 2, 1) := dk_28 (dk_at dksJ15_compress_0 0 rfl rfl)
theorem dJ15_compress_1 : decode cJ15_compress 1 = .ok (.newarray .byte, 2) := dk_188_8 (dk_at dksJ15_compress_0 1 rfl rfl)
theorem dJ15_compress_3 : decode cJ15_compress 3 = .ok (.astore_n 3, 1) := dk_78 (dk_at dksJ15_compress_0 3 rfl rfl)
theorem dJ15_compress_4 : decode cJ15_compress 4 = .ok (.aload_n 0, 1) := dk_42 (dk_at dksJ15_compress_0 4 rfl rfl)
theorem dJ15_compress_5 : decode cJ15_compress 5 = .ok (.iload_n 1, 1) := dk_27 (dk_at dksJ15_compress_0 5 rfl rfl)
theorem dJ15_compress_6 : decode cJ15_compress 6 = .ok (.aload_n 3, 1) := dk_45 (dk_at dksJ15_compress_0 6 rfl rfl)
theorem dJ15_compress_7 : decode cJ15_compress 7 = .ok (.iconst 0, 1) := dk_3 (dk_at dksJ15_compress_0 7 rfl rfl)
theorem dJ15_compress_8 : decode cJ15_compress 8 = .ok (.iload_n 2, 1) := dk_28 (dk_at dksJ15_compress_0 8 rfl rfl)
theorem dJ15_compress_9 : decode cJ15_compress 9 = .ok (.invokestatic 123, 3) := dk_184 0 123 (dk_at dksJ15_compress_0 9 rfl rfl)
theorem dJ15_compress_12 : decode cJ15_compress 12 = .ok (.istore 4, 2) := dk_54 4 (dk_at dksJ15_compress_0 12 rfl rfl)
theorem dJ15_compress_14 : decode cJ15_compress 14 = .ok (.iload 4, 2) := dk_21 4 (dk_at dksJ15_compress_0 14 rfl rfl)
theorem dJ15_compress_16 : decode cJ15_compress 16 = .ok (.iload_n 2, 1) := dk_28 (dk_at dksJ15_compress_0 16 rfl rfl)
theorem dJ15_compress_17 : decode cJ15_compress 17 = .ok (.if_icmp .eq 47, 3) := dk_159 0 47 (dk_at dksJ15_compress_0 17 rfl rfl)
theorem dJ15_compress_20 : decode cJ15_compress 20 = .ok (.aload_n 0, 1) := dk_42 (dk_at dksJ15_compress_0 20 rfl rfl)
theorem dJ15_compress_21 : decode cJ15_compress 21 = .ok (.iload_n 1, 1) := dk_27 (dk_at dksJ15_compress_0 21 rfl rfl)
theorem dJ15_compress_22 : decode cJ15_compress 22 = .ok (.iconst 1, 1) := dk_4 (dk_at dksJ15_compress_0 22 rfl rfl)
theorem dJ15_compress_23 : decode cJ15_compress 23 = .ok (.ishl, 1) := dk_120 (dk_at dksJ15_compress_0 23 rfl rfl)
theorem dJ15_compress_24 : decode cJ15_compress 24 = .ok (.iload_n 1, 1) := dk_27 (dk_at dksJ15_compress_1 0 rfl rfl)
theorem dJ15_compress_25 : decode cJ15_compress 25 = .ok (.iload_n 2, 1) := dk_28 (dk_at dksJ15_compress_1 1 rfl rfl)
theorem dJ15_compress_26 : decode cJ15_compress 26 = .ok (.iadd, 1) := dk_96 (dk_at dksJ15_compress_1 2 rfl rfl)
theorem dJ15_compress_27 : decode cJ15_compress 27 = .ok (.invokestatic 11, 3) := dk_184 0 11 (dk_at dksJ15_compress_1 3 rfl rfl)
theorem dJ15_compress_30 : decode cJ15_compress 30 = .ok (.invokestatic 126, 3) := dk_184 0 126 (dk_at dksJ15_compress_1 6 rfl rfl)
theorem dJ15_compress_33 : decode cJ15_compress 33 = .ok (.astore 5, 2) := dk_58 5 (dk_at dksJ15_compress_1 9 rfl rfl)
theorem dJ15_compress_35 : decode cJ15_compress 35 = .ok (.aload 5, 2) := dk_25 5 (dk_at dksJ15_compress_1 11 rfl rfl)
theorem dJ15_compress_37 : decode cJ15_compress 37 = .ok (.iload 4, 2) := dk_21 4 (dk_at dksJ15_compress_1 13 rfl rfl)
theorem dJ15_compress_39 : decode cJ15_compress 39 = .ok (.invokestatic 71, 3) := dk_184 0 71 (dk_at dksJ15_compress_1 15 rfl rfl)
theorem dJ15_compress_42 : decode cJ15_compress 42 = .ok (.sipush 255, 3) := dk_17 0 255 (dk_at dksJ15_compress_1 18 rfl rfl)
theorem dJ15_compress_45 : decode cJ15_compress 45 = .ok (.if_icmp .gt 16, 3) := dk_163 0 16 (dk_at dksJ15_compress_1 21 rfl rfl)
theorem dJ15_compress_48 : decode cJ15_compress 48 = .ok (.aload 5, 2) := dk_25 5 (dk_at dksJ15_compress_2 0 rfl rfl)
theorem dJ15_compress_50 : decode cJ15_compress 50 = .ok (.iconst 0, 1) := dk_3 (dk_at dksJ15_compress_2 2 rfl rfl)
theorem dJ15_compress_51 : decode cJ15_compress 51 = .ok (.aload_n 3, 1) := dk_45 (dk_at dksJ15_compress_2 3 rfl rfl)
theorem dJ15_compress_52 : decode cJ15_compress 52 = .ok (.iconst 0, 1) := dk_3 (dk_at dksJ15_compress_2 4 rfl rfl)
theorem dJ15_compress_53 : decode cJ15_compress 53 = .ok (.iload_n 2, 1) := dk_28 (dk_at dksJ15_compress_2 5 rfl rfl)
theorem dJ15_compress_54 : decode cJ15_compress 54 = .ok (.invokestatic 123, 3) := dk_184 0 123 (dk_at dksJ15_compress_2 6 rfl rfl)
theorem dJ15_compress_57 : decode cJ15_compress 57 = .ok (.iload_n 2, 1) := dk_28 (dk_at dksJ15_compress_2 9 rfl rfl)
theorem dJ15_compress_58 : decode cJ15_compress 58 = .ok (.if_icmp .eq 6, 3) := dk_159 0 6 (dk_at dksJ15_compress_2 10 rfl rfl)
theorem dJ15_compress_61 : decode cJ15_compress 61 = .ok (.aload 5, 2) := dk_25 5 (dk_at dksJ15_compress_2 13 rfl rfl)
theorem dJ15_compress_63 : decode cJ15_compress 63 = .ok (.areturn, 1) := dk_176 (dk_at dksJ15_compress_2 15 rfl rfl)
theorem dJ15_compress_64 : decode cJ15_compress 64 = .ok (.aload_n 3, 1) := dk_45 (dk_at dksJ15_compress_2 16 rfl rfl)
theorem dJ15_compress_65 : decode cJ15_compress 65 = .ok (.areturn, 1) := dk_176 (dk_at dksJ15_compress_2 17 rfl rfl)
abbrev cJ15_compress_2 : ByteArray := prog_50_method_22_code
def yJ15_compress_2 : MethodName := ⟨RJ15, "compress", "([BI[BII)I"⟩
def dkwJ15_compress_2_2 : List UInt8 := [132, 5, 1, 167, 255, 216, 21, 4, 172]
abbrev dktJ15_compress_2_2 : List UInt8 := dkwJ15_compress_2_2 ++ []
def dkwJ15_compress_2_1 : List UInt8 := [21, 6, 17, 0, 255, 164, 0, 6, 21, 5, 172, 44, 29, 21, 6, 145, 84, 132, 1, 1, 132, 3, 1]
abbrev dktJ15_compress_2_1 : List UInt8 := dkwJ15_compress_2_1 ++ dktJ15_compress_2_2
def dkwJ15_compress_2_0 : List UInt8 := [27, 21, 4, 42, 184, 0, 173, 3, 54, 5, 21, 5, 21, 4, 162, 0, 39, 42, 27, 184, 0, 71, 54, 6]
abbrev dktJ15_compress_2_0 : List UInt8 := dkwJ15_compress_2_0 ++ dktJ15_compress_2_1
theorem dksJ15_compress_2_0 : cJ15_compress_2.data.toList.drop 0 = dktJ15_compress_2_0 := by decide +kernel
theorem dksJ15_compress_2_1 : cJ15_compress_2.data.toList.drop 24 = dktJ15_compress_2_1 := dk_seg dksJ15_compress_2_0 24 rfl rfl
theorem dksJ15_compress_2_2 : cJ15_compress_2.data.toList.drop 47 = dktJ15_compress_2_2 := dk_seg dksJ15_compress_2_1 23 rfl rfl
theorem dJ15_compress_2_0 : decode cJ15_compress_2 0 = .ok (.iload_n 1, 1) := dk_27 (dk_at dksJ15_compress_2_0 0 rfl rfl)
theorem dJ15_compress_2_1 : decode cJ15_compress_2 1 = .ok (.iload 4, 2) := dk_21 4 (dk_at dksJ15_compress_2_0 1 rfl rfl)
theorem dJ15_compress_2_3 : decode cJ15_compress_2 3 = .ok (.aload_n 0, 1) := dk_42 (dk_at dksJ15_compress_2_0 3 rfl rfl)
theorem dJ15_compress_2_4 : decode cJ15_compress_2 4 = .ok (.invokestatic 173, 3) := dk_184 0 173 (dk_at dksJ15_compress_2_0 4 rfl rfl)
theorem dJ15_compress_2_7 : decode cJ15_compress_2 7 = .ok (.iconst 0, 1) := dk_3 (dk_at dksJ15_compress_2_0 7 rfl rfl)
theorem dJ15_compress_2_8 : decode cJ15_compress_2 8 = .ok (.istore 5, 2) := dk_54 5 (dk_at dksJ15_compress_2_0 8 rfl rfl)
theorem dJ15_compress_2_10 : decode cJ15_compress_2 10 = .ok (.iload 5, 2) := dk_21 5 (dk_at dksJ15_compress_2_0 10 rfl rfl)
theorem dJ15_compress_2_12 : decode cJ15_compress_2 12 = .ok (.iload 4, 2) := dk_21 4 (dk_at dksJ15_compress_2_0 12 rfl rfl)
theorem dJ15_compress_2_14 : decode cJ15_compress_2 14 = .ok (.if_icmp .ge 39, 3) := dk_162 0 39 (dk_at dksJ15_compress_2_0 14 rfl rfl)
theorem dJ15_compress_2_17 : decode cJ15_compress_2 17 = .ok (.aload_n 0, 1) := dk_42 (dk_at dksJ15_compress_2_0 17 rfl rfl)
theorem dJ15_compress_2_18 : decode cJ15_compress_2 18 = .ok (.iload_n 1, 1) := dk_27 (dk_at dksJ15_compress_2_0 18 rfl rfl)
theorem dJ15_compress_2_19 : decode cJ15_compress_2 19 = .ok (.invokestatic 71, 3) := dk_184 0 71 (dk_at dksJ15_compress_2_0 19 rfl rfl)
theorem dJ15_compress_2_22 : decode cJ15_compress_2 22 = .ok (.istore 6, 2) := dk_54 6 (dk_at dksJ15_compress_2_0 22 rfl rfl)
theorem dJ15_compress_2_24 : decode cJ15_compress_2 24 = .ok (.iload 6, 2) := dk_21 6 (dk_at dksJ15_compress_2_1 0 rfl rfl)
theorem dJ15_compress_2_26 : decode cJ15_compress_2 26 = .ok (.sipush 255, 3) := dk_17 0 255 (dk_at dksJ15_compress_2_1 2 rfl rfl)
theorem dJ15_compress_2_29 : decode cJ15_compress_2 29 = .ok (.if_icmp .le 6, 3) := dk_164 0 6 (dk_at dksJ15_compress_2_1 5 rfl rfl)
theorem dJ15_compress_2_32 : decode cJ15_compress_2 32 = .ok (.iload 5, 2) := dk_21 5 (dk_at dksJ15_compress_2_1 8 rfl rfl)
theorem dJ15_compress_2_34 : decode cJ15_compress_2 34 = .ok (.ireturn, 1) := dk_172 (dk_at dksJ15_compress_2_1 10 rfl rfl)
theorem dJ15_compress_2_35 : decode cJ15_compress_2 35 = .ok (.aload_n 2, 1) := dk_44 (dk_at dksJ15_compress_2_1 11 rfl rfl)
theorem dJ15_compress_2_36 : decode cJ15_compress_2 36 = .ok (.iload_n 3, 1) := dk_29 (dk_at dksJ15_compress_2_1 12 rfl rfl)
theorem dJ15_compress_2_37 : decode cJ15_compress_2 37 = .ok (.iload 6, 2) := dk_21 6 (dk_at dksJ15_compress_2_1 13 rfl rfl)
theorem dJ15_compress_2_39 : decode cJ15_compress_2 39 = .ok (.i2b, 1) := dk_145 (dk_at dksJ15_compress_2_1 15 rfl rfl)
theorem dJ15_compress_2_40 : decode cJ15_compress_2 40 = .ok (.bastore, 1) := dk_84 (dk_at dksJ15_compress_2_1 16 rfl rfl)
theorem dJ15_compress_2_41 : decode cJ15_compress_2 41 = .ok (.iinc 1 1, 3) := dk_132 1 1 (dk_at dksJ15_compress_2_1 17 rfl rfl)
theorem dJ15_compress_2_44 : decode cJ15_compress_2 44 = .ok (.iinc 3 1, 3) := dk_132 3 1 (dk_at dksJ15_compress_2_1 20 rfl rfl)
theorem dJ15_compress_2_47 : decode cJ15_compress_2 47 = .ok (.iinc 5 1, 3) := dk_132 5 1 (dk_at dksJ15_compress_2_2 0 rfl rfl)
theorem dJ15_compress_2_50 : decode cJ15_compress_2 50 = .ok (.goto (-40), 3) := dk_167 255 216 (dk_at dksJ15_compress_2_2 3 rfl rfl)
theorem dJ15_compress_2_53 : decode cJ15_compress_2 53 = .ok (.iload 4, 2) := dk_21 4 (dk_at dksJ15_compress_2_2 6 rfl rfl)
theorem dJ15_compress_2_55 : decode cJ15_compress_2 55 = .ok (.ireturn, 1) := dk_172 (dk_at dksJ15_compress_2_2 8 rfl rfl)
abbrev cJ15_getChar : ByteArray := prog_50_method_5_code
def yJ15_getChar : MethodName := ⟨RJ15, "getChar", "([BI)C"⟩
def dkwJ15_getChar_2 : List UInt8 := [51, 17, 0, 255, 126, 178, 0, 63, 120, 128, 146, 172]
abbrev dktJ15_getChar_2 : List UInt8 := dkwJ15_getChar_2 ++ []
def dkwJ15_getChar_1 : List UInt8 := [183, 0, 56, 191, 27, 4, 120, 60, 42, 27, 132, 1, 1, 51, 17, 0, 255, 126, 178, 0, 59, 120, 42, 27]
abbrev dktJ15_getChar_1 : List UInt8 := dkwJ15_getChar_1 ++ dktJ15_getChar_2
def dkwJ15_getChar_0 : List UInt8 := [178, 0, 44, 154, 0, 25, 27, 155, 0, 11, 27, 42, 184, 0, 48, 161, 0, 13, 187, 0, 52, 89, 18, 54]
abbrev dktJ15_getChar_0 : List UInt8 := dkwJ15_getChar_0 ++ dktJ15_getChar_1
theorem dksJ15_getChar_0 : cJ15_getChar.data.toList.drop 0 = dktJ15_getChar_0 := by decide +kernel
theorem dksJ15_getChar_1 : cJ15_getChar.data.toList.drop 24 = dktJ15_getChar_1 := dk_seg dksJ15_getChar_0 24 rfl rfl
theorem dksJ15_getChar_2 : cJ15_getChar.data.toList.drop 48 = dktJ15_getChar_2 := dk_seg dksJ15_getChar_1 24 rfl rfl
theorem dJ15_getChar_0 : decode cJ15_getChar 0 = .ok (.getstatic 44, 3) := dk_178 0 44 (dk_at dksJ15_getChar_0 0 rfl rfl)
theorem dJ15_getChar_3 : decode cJ15_getChar 3 = .ok (.ifCond .ne 25, 3) := dk_154 0 25 (dk_at dksJ15_getChar_0 3 rfl rfl)
theorem dJ15_getChar_6 : decode cJ15_getChar 6 = .ok (.iload_n 1, 1) := dk_27 (dk_at dksJ15_getChar_0 6 rfl rfl)
theorem dJ15_getChar_7 : decode cJ15_getChar 7 = .ok (.ifCond .lt 11, 3) := dk_155 0 11 (dk_at dksJ15_getChar_0 7 rfl rfl)
theorem dJ15_getChar_10 : decode cJ15_getChar 10 = .ok (.iload_n 1, 1) := dk_27 (dk_at dksJ15_getChar_0 10 rfl rfl)
theorem dJ15_getChar_11 : decode cJ15_getChar 11 = .ok (.aload_n 0, 1) := dk_42 (dk_at dksJ15_getChar_0 11 rfl rfl)
theorem dJ15_getChar_12 : decode cJ15_getChar 12 = .ok (.invokestatic 48, 3) := dk_184 0 48 (dk_at dksJ15_getChar_0 12 rfl rfl)
theorem dJ15_getChar_15 : decode cJ15_getChar 15 = .ok (.if_icmp .lt 13, 3) := dk_161 0 13 (dk_at dksJ15_getChar_0 15 rfl rfl)
theorem dJ15_getChar_18 : decode cJ15_getChar 18 = .ok (.new 52, 3) := dk_187 0 52 (dk_at dksJ15_getChar_0 18 rfl rfl)
theorem dJ15_getChar_21 : decode cJ15_getChar 21 = .ok (.dup, 1) := dk_89 (dk_at dksJ15_getChar_0 21 rfl rfl)
theorem dJ15_getChar_22 : decode cJ15_getChar 22 = .ok (.ldc 54, 2) := dk_18 54 (dk_at dksJ15_getChar_0 22 rfl rfl)
theorem dJ15_getChar_24 : decode cJ15_getChar 24 = .ok (.invokespecial 56, 3) := dk_183 0 56 (dk_at dksJ15_getChar_1 0 rfl rfl)
theorem dJ15_getChar_27 : decode cJ15_getChar 27 = .ok (.athrow, 1) := dk_191 (dk_at dksJ15_getChar_1 3 rfl rfl)
theorem dJ15_getChar_28 : decode cJ15_getChar 28 = .ok (.iload_n 1, 1) := dk_27 (dk_at dksJ15_getChar_1 4 rfl rfl)
theorem dJ15_getChar_29 : decode cJ15_getChar 29 = .ok (.iconst 1, 1) := dk_4 (dk_at dksJ15_getChar_1 5 rfl rfl)
theorem dJ15_getChar_30 : decode cJ15_getChar 30 = .ok (.ishl, 1) := dk_120 (dk_at dksJ15_getChar_1 6 rfl rfl)
theorem dJ15_getChar_31 : decode cJ15_getChar 31 = .ok (.istore_n 1, 1) := dk_60 (dk_at dksJ15_getChar_1 7 rfl rfl)
theorem dJ15_getChar_32 : decode cJ15_getChar 32 = .ok (.aload_n 0, 1) := dk_42 (dk_at dksJ15_getChar_1 8 rfl rfl)
theorem dJ15_getChar_33 : decode cJ15_getChar 33 = .ok (.iload_n 1, 1) := dk_27 (dk_at dksJ15_getChar_1 9 rfl rfl)
theorem dJ15_getChar_34 : decode cJ15_getChar 34 = .ok (.iinc 1 1, 3) := dk_132 1 1 (dk_at dksJ15_getChar_1 10 rfl rfl)
theorem dJ15_getChar_37 : decode cJ15_getChar 37 = .ok (.baload, 1) := dk_51 (dk_at dksJ15_getChar_1 13 rfl rfl)
theorem dJ15_getChar_38 : decode cJ15_getChar 38 = .ok (.sipush 255, 3) := dk_17 0 255 (dk_at dksJ15_getChar_1 14 rfl rfl)
theorem dJ15_getChar_41 : decode cJ15_getChar 41 = .ok (.iand, 1) := dk_126 (dk_at dksJ15_getChar_1 17 rfl rfl)
theorem dJ15_getChar_42 : decode cJ15_getChar 42 = .ok (.getstatic 59, 3) := dk_178 0 59 (dk_at dksJ15_getChar_1 18 rfl rfl)
theorem dJ15_getChar_45 : decode cJ15_getChar 45 = .ok (.ishl, 1) := dk_120 (dk_at dksJ15_getChar_1 21 rfl rfl)
theorem dJ15_getChar_46 : decode cJ15_getChar 46 = .ok (.aload_n 0, 1) := dk_42 (dk_at dksJ15_getChar_1 22 rfl rfl)
theorem dJ15_getChar_47 : decode cJ15_getChar 47 = .ok (.iload_n 1, 1) := dk_27 (dk_at dksJ15_getChar_1 23 rfl rfl)
theorem dJ15_getChar_48 : decode cJ15_getChar 48 = .ok (.baload, 1) := dk_51 (dk_at dksJ15_getChar_2 0 rfl rfl)
theorem dJ15_getChar_49 : decode cJ15_getChar 49 = .ok (.sipush 255, 3) := dk_17 0 255 (dk_at dksJ15_getChar_2 1 rfl rfl)
theorem dJ15_getChar_52 : decode cJ15_getChar 52 = .ok (.iand, 1) := dk_126 (dk_at dksJ15_getChar_2 4 rfl rfl)
theorem dJ15_getChar_53 : decode cJ15_getChar 53 = .ok (.getstatic 63, 3) := dk_178 0 63 (dk_at dksJ15_getChar_2 5 rfl rfl)
theorem dJ15_getChar_56 : decode cJ15_getChar 56 = .ok (.ishl, 1) := dk_120 (dk_at dksJ15_getChar_2 8 rfl rfl)
theorem dJ15_getChar_57 : decode cJ15_getChar 57 = .ok (.ior, 1) := dk_128 (dk_at dksJ15_getChar_2 9 rfl rfl)
theorem dJ15_getChar_58 : decode cJ15_getChar 58 = .ok (.i2c, 1) := dk_146 (dk_at dksJ15_getChar_2 10 rfl rfl)
theorem dJ15_getChar_59 : decode cJ15_getChar 59 = .ok (.ireturn, 1) := dk_172 (dk_at dksJ15_getChar_2 11 rfl rfl)
abbrev cJ15_coderFromArrayLen : ByteArray := prog_50_method_15_code
def yJ15_coderFromArrayLen : MethodName := ⟨RJ15, "coderFromArrayLen", "([BI)B"⟩
def dkwJ15_coderFromArrayLen_0 : List UInt8 := [27, 42, 190, 100, 16, 31, 124, 145, 172]
abbrev dktJ15_coderFromArrayLen_0 : List UInt8 := dkwJ15_coderFromArrayLen_0 ++ []
theorem dksJ15_coderFromArrayLen_0 : cJ15_coderFromArrayLen.data.toList.drop 0 = dktJ15_coderFromArrayLen_0 := by decide +kernel
theorem dJ15_coderFromArrayLen_0 : decode cJ15_coderFromArrayLen 0 = .ok (.iload_n 1, 1) := dk_27 (dk_at dksJ15_coderFromArrayLen_0 0 rfl rfl)
theorem dJ15_coderFromArrayLen_1 : decode cJ15_coderFromArrayLen 1 = .ok (.aload_n 0, 1) := dk_42 (dk_at dksJ15_coderFromArrayLen_0 1 rfl rfl)
theorem dJ15_coderFromArrayLen_2 : decode cJ15_coderFromArrayLen 2 = .ok (.arraylength, 1) := dk_190 (dk_at dksJ15_coderFromArrayLen_0 2 rfl rfl)
theorem dJ15_coderFromArrayLen_3 : decode cJ15_coderFromArrayLen 3 = .ok (.isub, 1) := dk_100 (dk_at dksJ15_coderFromArrayLen_0 3 rfl rfl)
theorem dJ15_coderFromArrayLen_4 : decode cJ15_coderFromArrayLen 4 = .ok (.bipush 31, 2) := dk_16 31 (dk_at dksJ15_coderFromArrayLen_0 4 rfl rfl)
theorem dJ15_coderFromArrayLen_6 : decode cJ15_coderFromArrayLen 6 = .ok (.iushr, 1) := dk_124 (dk_at dksJ15_coderFromArrayLen_0 6 rfl rfl)
theorem dJ15_coderFromArrayLen_7 : decode cJ15_coderFromArrayLen 7 = .ok (.i2b, 1) := dk_145 (dk_at dksJ15_coderFromArrayLen_0 7 rfl rfl)
theorem dJ15_coderFromArrayLen_8 : decode cJ15_coderFromArrayLen 8 = .ok (.ireturn, 1) := dk_172 (dk_at dksJ15_coderFromArrayLen_0 8 rfl rfl)
abbrev cJ15_putCharSB : ByteArray := prog_50_method_71_code
def yJ15_putCharSB : MethodName := ⟨RJ15, "putCharSB", "([BII)V"⟩
def dkwJ15_putCharSB_0 : List UInt8 := [27, 42, 184, 0, 67, 42, 27, 28, 184, 0, 111, 177]
abbrev dktJ15_putCharSB_0 : List UInt8 := dkwJ15_putCharSB_0 ++ []
theorem dksJ15_putCharSB_0 : cJ15_putCharSB.data.toList.drop 0 = dktJ15_putCharSB_0 := by decide +kernel
theorem dJ15_putCharSB_0 : decode cJ15_putCharSB 0 = .ok (.iload_n 1, 1) := dk_27 (dk_at dksJ15_putCharSB_0 0 rfl rfl)
theorem dJ15_putCharSB_1 : decode cJ15_putCharSB 1 = .ok (.aload_n 0, 1) := dk_42 (dk_at dksJ15_putCharSB_0 1 rfl rfl)
theorem dJ15_putCharSB_2 : decode cJ15_putCharSB 2 = .ok (.invokestatic 67, 3) := dk_184 0 67 (dk_at dksJ15_putCharSB_0 2 rfl rfl)
theorem dJ15_putCharSB_5 : decode cJ15_putCharSB 5 = .ok (.aload_n 0, 1) := dk_42 (dk_at dksJ15_putCharSB_0 5 rfl rfl)
theorem dJ15_putCharSB_6 : decode cJ15_putCharSB 6 = .ok (.iload_n 1, 1) := dk_27 (dk_at dksJ15_putCharSB_0 6 rfl rfl)
theorem dJ15_putCharSB_7 : decode cJ15_putCharSB 7 = .ok (.iload_n 2, 1) := dk_28 (dk_at dksJ15_putCharSB_0 7 rfl rfl)
theorem dJ15_putCharSB_8 : decode cJ15_putCharSB 8 = .ok (.invokestatic 111, 3) := dk_184 0 111 (dk_at dksJ15_putCharSB_0 8 rfl rfl)
theorem dJ15_putCharSB_11 : decode cJ15_putCharSB 11 = .ok (.return_, 1) := dk_177 (dk_at dksJ15_putCharSB_0 11 rfl rfl)
abbrev cJ15_checkIndex : ByteArray := prog_50_method_91_code
def yJ15_checkIndex : MethodName := ⟨RJ15, "checkIndex", "(I[B)V"⟩
def dkwJ15_checkIndex_0 : List UInt8 := [26, 43, 184, 0, 48, 184, 1, 158, 177]
abbrev dktJ15_checkIndex_0 : List UInt8 := dkwJ15_checkIndex_0 ++ []
theorem dksJ15_checkIndex_0 : cJ15_checkIndex.data.toList.drop 0 = dktJ15_checkIndex_0 := by decide +kernel
theorem dJ15_checkIndex_0 : decode cJ15_checkIndex 0 = .ok (.iload_n 0, 1) := dk_26 (dk_at dksJ15_checkIndex_0 0 rfl rfl)
theorem dJ15_checkIndex_1 : decode cJ15_checkIndex 1 = .ok (.aload_n 1, 1) := dk_43 (dk_at dksJ15_checkIndex_0 1 rfl rfl)
theorem dJ15_checkIndex_2 : decode cJ15_checkIndex 2 = .ok (.invokestatic 48, 3) := dk_184 0 48 (dk_at dksJ15_checkIndex_0 2 rfl rfl)
theorem dJ15_checkIndex_5 : decode cJ15_checkIndex 5 = .ok (.invokestatic 414, 3) := dk_184 1 158 (dk_at dksJ15_checkIndex_0 5 rfl rfl)
theorem dJ15_checkIndex_8 : decode cJ15_checkIndex 8 = .ok (.return_, 1) := dk_177 (dk_at dksJ15_checkIndex_0 8 rfl rfl)
abbrev cJ15_charAt : ByteArray := prog_50_method_83_code
def yJ15_charAt : MethodName := ⟨RJ15, "charAt", "([BI)C"⟩
def dkwJ15_charAt_0 : List UInt8 := [27, 42, 184, 0, 67, 42, 27, 184, 0, 71, 172]
abbrev dktJ15_charAt_0 : List UInt8 := dkwJ15_charAt_0 ++ []
theorem dksJ15_charAt_0 : cJ15_charAt.data.toList.drop 0 = dktJ15_charAt_0 := by decide +kernel
theorem dJ15_charAt_0 : decode cJ15_charAt 0 = .ok (.iload_n 1, 1) := dk_27 (dk_at dksJ15_charAt_0 0 rfl rfl)
theorem dJ15_charAt_1 : decode cJ15_charAt 1 = .ok (.aload_n 0, 1) := dk_42 (dk_at dksJ15_charAt_0 1 rfl rfl)
theorem dJ15_charAt_2 : decode cJ15_charAt 2 = .ok (.invokestatic 67, 3) := dk_184 0 67 (dk_at dksJ15_charAt_0 2 rfl rfl)
theorem dJ15_charAt_5 : decode cJ15_charAt 5 = .ok (.aload_n 0, 1) := dk_42 (dk_at dksJ15_charAt_0 5 rfl rfl)
theorem dJ15_charAt_6 : decode cJ15_charAt 6 = .ok (.iload_n 1, 1) := dk_27 (dk_at dksJ15_charAt_0 6 rfl rfl)
theorem dJ15_charAt_7 : decode cJ15_charAt 7 = .ok (.invokestatic 71, 3) := dk_184 0 71 (dk_at dksJ15_charAt_0 7 rfl rfl)
theorem dJ15_charAt_10 : decode cJ15_charAt 10 = .ok (.ireturn, 1) := dk_172 (dk_at dksJ15_charAt_0 10 rfl rfl)
abbrev cJ15_fillNull : ByteArray := prog_50_method_70_code
def yJ15_fillNull : MethodName := ⟨RJ15, "fillNull", "([BII)V"⟩
def dkwJ15_fillNull_0 : List UInt8 := [42, 27, 4, 120, 28, 4, 120, 3, 184, 1, 124, 177]
abbrev dktJ15_fillNull_0 : List UInt8 := dkwJ15_fillNull_0 ++ []
theorem dksJ15_fillNull_0 : cJ15_fillNull.data.toList.drop 0 = dktJ15_fillNull_0 := by decide +kernel
theorem dJ15_fillNull_0 : decode cJ15_fillNull 0 = .ok (.aload_n 0, 1) := dk_42 (dk_at dksJ15_fillNull_0 0 rfl rfl)
theorem dJ15_fillNull_1 : decode cJ15_fillNull 1 = .ok (.iload_n 1, 1) := dk_27 (dk_at dksJ15_fillNull_0 1 rfl rfl)
theorem dJ15_fillNull_2 : decode cJ15_fillNull 2 = .ok (.iconst 1, 1) := dk_4 (dk_at dksJ15_fillNull_0 2 rfl rfl)
theorem dJ15_fillNull_3 : decode cJ15_fillNull 3 = .ok (.ishl, 1) := dk_120 (dk_at dksJ15_fillNull_0 3 rfl rfl)
theorem dJ15_fillNull_4 : decode cJ15_fillNull 4 = .ok (.iload_n 2, 1) := dk_28 (dk_at dksJ15_fillNull_0 4 rfl rfl)
theorem dJ15_fillNull_5 : decode cJ15_fillNull 5 = .ok (.iconst 1, 1) := dk_4 (dk_at dksJ15_fillNull_0 5 rfl rfl)
theorem dJ15_fillNull_6 : decode cJ15_fillNull 6 = .ok (.ishl, 1) := dk_120 (dk_at dksJ15_fillNull_0 6 rfl rfl)
theorem dJ15_fillNull_7 : decode cJ15_fillNull 7 = .ok (.iconst 0, 1) := dk_3 (dk_at dksJ15_fillNull_0 7 rfl rfl)
theorem dJ15_fillNull_8 : decode cJ15_fillNull 8 = .ok (.invokestatic 380, 3) := dk_184 1 124 (dk_at dksJ15_fillNull_0 8 rfl rfl)
theorem dJ15_fillNull_11 : decode cJ15_fillNull 11 = .ok (.return_, 1) := dk_177 (dk_at dksJ15_fillNull_0 11 rfl rfl)
theorem q138 : (Jvm.Cond.initialized "java/lang/StringUTF16") ∈ lw_all := lw_g (lw_at lw_m1 19 rfl) rfl
theorem q335 : (Jvm.Cond.static ({ cls := "java/lang/StringUTF16", name := "newBytesFor", desc := "(I)[B" } : Jvm.MethodName)) ∈ lw_all := lw_g (lw_at lw_m1 216 rfl) rfl
theorem q336 : (Jvm.Cond.code ({ cls := "java/lang/StringUTF16", name := "newBytesFor", desc := "(I)[B" } : Jvm.MethodName) prog_50_method_2_code (1 : Nat) (Option.some (Jvm.ClassFile.FieldType.array Jvm.ClassFile.FieldType.byte))) ∈ lw_all := lw_g (lw_at lw_m1 217 rfl) rfl
theorem q337 : (Jvm.Cond.methodLink "java/lang/StringUTF16" (11 : Nat) ({ cls := "java/lang/StringUTF16", name := "newBytesLength", desc := "(I)I" } : Jvm.MethodName)) ∈ lw_all := lw_g (lw_at lw_m1 218 rfl) rfl
theorem q338 : (Jvm.Cond.static ({ cls := "java/lang/StringUTF16", name := "newBytesLength", desc := "(I)I" } : Jvm.MethodName)) ∈ lw_all := lw_g (lw_at lw_m1 219 rfl) rfl
theorem q339 : (Jvm.Cond.code ({ cls := "java/lang/StringUTF16", name := "newBytesLength", desc := "(I)I" } : Jvm.MethodName) prog_50_method_3_code (1 : Nat) (Option.some Jvm.ClassFile.FieldType.int)) ∈ lw_all := lw_g (lw_at lw_m1 220 rfl) rfl
theorem q340 : (Jvm.Cond.constant "java/lang/StringUTF16" (20 : Nat) (1073741823 : Int32)) ∈ lw_all := lw_g (lw_at lw_m1 221 rfl) rfl
theorem q409 : (Jvm.Cond.static ({ cls := "java/lang/StringUTF16", name := "putCharsAt", desc := "([BICCCC)I" } : Jvm.MethodName)) ∈ lw_all := lw_g (lw_at lw_m2 50 rfl) rfl
theorem q410 : (Jvm.Cond.code ({ cls := "java/lang/StringUTF16", name := "putCharsAt", desc := "([BICCCC)I" } : Jvm.MethodName) prog_50_method_81_code (7 : Nat) (Option.some Jvm.ClassFile.FieldType.int)) ∈ lw_all := lw_g (lw_at lw_m2 51 rfl) rfl
theorem q411 : (Jvm.Cond.methodLink "java/lang/StringUTF16" (96 : Nat) ({ cls := "java/lang/StringUTF16", name := "checkBoundsBeginEnd", desc := "(II[B)V" } : Jvm.MethodName)) ∈ lw_all := lw_g (lw_at lw_m2 52 rfl) rfl
theorem q412 : (Jvm.Cond.static ({ cls := "java/lang/StringUTF16", name := "checkBoundsBeginEnd", desc := "(II[B)V" } : Jvm.MethodName)) ∈ lw_all := lw_g (lw_at lw_m2 53 rfl) rfl
theorem q413 : (Jvm.Cond.code ({ cls := "java/lang/StringUTF16", name := "checkBoundsBeginEnd", desc := "(II[B)V" } : Jvm.MethodName) prog_50_method_93_code (3 : Nat) (Option.none : Option Jvm.ClassFile.FieldType)) ∈ lw_all := lw_g (lw_at lw_m2 54 rfl) rfl
theorem q414 : (Jvm.Cond.methodLink "java/lang/StringUTF16" (48 : Nat) ({ cls := "java/lang/StringUTF16", name := "length", desc := "([B)I" } : Jvm.MethodName)) ∈ lw_all := lw_g (lw_at lw_m2 55 rfl) rfl
theorem q415 : (Jvm.Cond.static ({ cls := "java/lang/StringUTF16", name := "length", desc := "([B)I" } : Jvm.MethodName)) ∈ lw_all := lw_g (lw_at lw_m2 56 rfl) rfl
theorem q416 : (Jvm.Cond.code ({ cls := "java/lang/StringUTF16", name := "length", desc := "([B)I" } : Jvm.MethodName) prog_50_method_6_code (1 : Nat) (Option.some Jvm.ClassFile.FieldType.int)) ∈ lw_all := lw_g (lw_at lw_m2 57 rfl) rfl
theorem q417 : (Jvm.Cond.methodLink "java/lang/StringUTF16" (241 : Nat) ({ cls := "java/lang/String", name := "checkBoundsBeginEnd", desc := "(III)V" } : Jvm.MethodName)) ∈ lw_all := lw_g (lw_at lw_m2 58 rfl) rfl
theorem q425 : (Jvm.Cond.methodLink "java/lang/StringUTF16" (111 : Nat) ({ cls := "java/lang/StringUTF16", name := "putChar", desc := "([BII)V" } : Jvm.MethodName)) ∈ lw_all := lw_g (lw_at lw_m2 66 rfl) rfl
theorem q426 : (Jvm.Cond.static ({ cls := "java/lang/StringUTF16", name := "putChar", desc := "([BII)V" } : Jvm.MethodName)) ∈ lw_all := lw_g (lw_at lw_m2 67 rfl) rfl
theorem q427 : (Jvm.Cond.code ({ cls := "java/lang/StringUTF16", name := "putChar", desc := "([BII)V" } : Jvm.MethodName) prog_50_method_4_code (3 : Nat) (Option.none : Option Jvm.ClassFile.FieldType)) ∈ lw_all := lw_g (lw_at lw_m2 68 rfl) rfl
theorem q428 : (Jvm.Cond.fieldLink "java/lang/StringUTF16" (44 : Nat) "java/lang/StringUTF16" "$assertionsDisabled" "Z") ∈ lw_all := lw_g (lw_at lw_m2 69 rfl) rfl
theorem q429 : (Jvm.Cond.laysStatic "java/lang/StringUTF16" "$assertionsDisabled" "Z") ∈ lw_tbl := lw_at lw_m2 70 rfl
theorem q430 : (Jvm.Cond.fieldLink "java/lang/StringUTF16" (59 : Nat) "java/lang/StringUTF16" "HI_BYTE_SHIFT" "I") ∈ lw_all := lw_g (lw_at lw_m2 71 rfl) rfl
theorem q431 : (Jvm.Cond.laysStatic "java/lang/StringUTF16" "HI_BYTE_SHIFT" "I") ∈ lw_tbl := lw_at lw_m2 72 rfl
theorem q432 : (Jvm.Cond.fieldLink "java/lang/StringUTF16" (63 : Nat) "java/lang/StringUTF16" "LO_BYTE_SHIFT" "I") ∈ lw_all := lw_g (lw_at lw_m2 73 rfl) rfl
theorem q433 : (Jvm.Cond.laysStatic "java/lang/StringUTF16" "LO_BYTE_SHIFT" "I") ∈ lw_tbl := lw_at lw_m2 74 rfl
theorem q460 : (Jvm.Cond.static ({ cls := "java/lang/StringUTF16", name := "inflate", desc := "([BI[BII)V" } : Jvm.MethodName)) ∈ lw_all := lw_g (lw_at lw_m2 101 rfl) rfl
theorem q461 : (Jvm.Cond.code ({ cls := "java/lang/StringUTF16", name := "inflate", desc := "([BI[BII)V" } : Jvm.MethodName) prog_50_method_86_code (6 : Nat) (Option.none : Option Jvm.ClassFile.FieldType)) ∈ lw_all := lw_g (lw_at lw_m2 102 rfl) rfl
theorem q462 : (Jvm.Cond.methodLink "java/lang/StringUTF16" (173 : Nat) ({ cls := "java/lang/StringUTF16", name := "checkBoundsOffCount", desc := "(II[B)V" } : Jvm.MethodName)) ∈ lw_all := lw_g (lw_at lw_m2 103 rfl) rfl
theorem q463 : (Jvm.Cond.static ({ cls := "java/lang/StringUTF16", name := "checkBoundsOffCount", desc := "(II[B)V" } : Jvm.MethodName)) ∈ lw_all := lw_g (lw_at lw_m2 104 rfl) rfl
theorem q464 : (Jvm.Cond.code ({ cls := "java/lang/StringUTF16", name := "checkBoundsOffCount", desc := "(II[B)V" } : Jvm.MethodName) prog_50_method_94_code (3 : Nat) (Option.none : Option Jvm.ClassFile.FieldType)) ∈ lw_all := lw_g (lw_at lw_m2 105 rfl) rfl
theorem q465 : (Jvm.Cond.methodLink "java/lang/StringUTF16" (419 : Nat) ({ cls := "java/lang/String", name := "checkBoundsOffCount", desc := "(III)I" } : Jvm.MethodName)) ∈ lw_all := lw_g (lw_at lw_m2 106 rfl) rfl
theorem q495 : (Jvm.Cond.static ({ cls := "java/lang/StringUTF16", name := "getChars", desc := "(III[B)I" } : Jvm.MethodName)) ∈ lw_all := lw_g (lw_at lw_m2 136 rfl) rfl
theorem q496 : (Jvm.Cond.code ({ cls := "java/lang/StringUTF16", name := "getChars", desc := "(III[B)I" } : Jvm.MethodName) prog_50_method_77_code (5 : Nat) (Option.some Jvm.ClassFile.FieldType.int)) ∈ lw_all := lw_g (lw_at lw_m2 137 rfl) rfl
theorem q497 : (Jvm.Cond.methodLink "java/lang/StringUTF16" (393 : Nat) ({ cls := "java/lang/StringUTF16", name := "getChars", desc := "(II[B)I" } : Jvm.MethodName)) ∈ lw_all := lw_g (lw_at lw_m2 138 rfl) rfl
theorem q498 : (Jvm.Cond.static ({ cls := "java/lang/StringUTF16", name := "getChars", desc := "(II[B)I" } : Jvm.MethodName)) ∈ lw_all := lw_g (lw_at lw_m2 139 rfl) rfl
theorem q499 : (Jvm.Cond.code ({ cls := "java/lang/StringUTF16", name := "getChars", desc := "(II[B)I" } : Jvm.MethodName) prog_50_method_89_code (7 : Nat) (Option.some Jvm.ClassFile.FieldType.int)) ∈ lw_all := lw_g (lw_at lw_m2 140 rfl) rfl
theorem q500 : (Jvm.Cond.fieldLink "java/lang/StringUTF16" (403 : Nat) "java/lang/Integer" "DigitOnes" "[B") ∈ lw_all := lw_g (lw_at lw_m2 141 rfl) rfl
theorem q501 : (Jvm.Cond.fieldLink "java/lang/StringUTF16" (407 : Nat) "java/lang/Integer" "DigitTens" "[B") ∈ lw_all := lw_g (lw_at lw_m2 142 rfl) rfl
theorem q571 : (Jvm.Cond.static ({ cls := "java/lang/StringUTF16", name := "compress", desc := "([BII)[B" } : Jvm.MethodName)) ∈ lw_all := lw_g (lw_at lw_m2 212 rfl) rfl
theorem q572 : (Jvm.Cond.code ({ cls := "java/lang/StringUTF16", name := "compress", desc := "([BII)[B" } : Jvm.MethodName) prog_50_method_17_code (6 : Nat) (Option.some (Jvm.ClassFile.FieldType.array Jvm.ClassFile.FieldType.byte))) ∈ lw_all := lw_g (lw_at lw_m2 213 rfl) rfl
theorem q573 : (Jvm.Cond.methodLink "java/lang/StringUTF16" (123 : Nat) ({ cls := "java/lang/StringUTF16", name := "compress", desc := "([BI[BII)I" } : Jvm.MethodName)) ∈ lw_all := lw_g (lw_at lw_m2 214 rfl) rfl
theorem q574 : (Jvm.Cond.static ({ cls := "java/lang/StringUTF16", name := "compress", desc := "([BI[BII)I" } : Jvm.MethodName)) ∈ lw_all := lw_g (lw_at lw_m2 215 rfl) rfl
theorem q575 : (Jvm.Cond.code ({ cls := "java/lang/StringUTF16", name := "compress", desc := "([BI[BII)I" } : Jvm.MethodName) prog_50_method_22_code (7 : Nat) (Option.some Jvm.ClassFile.FieldType.int)) ∈ lw_all := lw_g (lw_at lw_m2 216 rfl) rfl
theorem q576 : (Jvm.Cond.methodLink "java/lang/StringUTF16" (71 : Nat) ({ cls := "java/lang/StringUTF16", name := "getChar", desc := "([BI)C" } : Jvm.MethodName)) ∈ lw_all := lw_g (lw_at lw_m2 217 rfl) rfl
theorem q577 : (Jvm.Cond.static ({ cls := "java/lang/StringUTF16", name := "getChar", desc := "([BI)C" } : Jvm.MethodName)) ∈ lw_all := lw_g (lw_at lw_m2 218 rfl) rfl
theorem q578 : (Jvm.Cond.code ({ cls := "java/lang/StringUTF16", name := "getChar", desc := "([BI)C" } : Jvm.MethodName) prog_50_method_5_code (2 : Nat) (Option.some Jvm.ClassFile.FieldType.char)) ∈ lw_all := lw_g (lw_at lw_m2 219 rfl) rfl
theorem q579 : (Jvm.Cond.methodLink "java/lang/StringUTF16" (126 : Nat) ({ cls := "java/util/Arrays", name := "copyOfRange", desc := "([BII)[B" } : Jvm.MethodName)) ∈ lw_all := lw_g (lw_at lw_m2 220 rfl) rfl
theorem q581 : (Jvm.Cond.static ({ cls := "java/lang/StringUTF16", name := "coderFromArrayLen", desc := "([BI)B" } : Jvm.MethodName)) ∈ lw_all := lw_g (lw_at lw_m2 222 rfl) rfl
theorem q582 : (Jvm.Cond.code ({ cls := "java/lang/StringUTF16", name := "coderFromArrayLen", desc := "([BI)B" } : Jvm.MethodName) prog_50_method_15_code (2 : Nat) (Option.some Jvm.ClassFile.FieldType.byte)) ∈ lw_all := lw_g (lw_at lw_m2 223 rfl) rfl
theorem q2552 : (Jvm.Cond.static ({ cls := "java/lang/StringUTF16", name := "putCharSB", desc := "([BII)V" } : Jvm.MethodName)) ∈ lw_all := lw_g (lw_at lw_m11 33 rfl) rfl
theorem q2553 : (Jvm.Cond.code ({ cls := "java/lang/StringUTF16", name := "putCharSB", desc := "([BII)V" } : Jvm.MethodName) prog_50_method_71_code (3 : Nat) (Option.none : Option Jvm.ClassFile.FieldType)) ∈ lw_all := lw_g (lw_at lw_m11 34 rfl) rfl
theorem q2554 : (Jvm.Cond.methodLink "java/lang/StringUTF16" (67 : Nat) ({ cls := "java/lang/StringUTF16", name := "checkIndex", desc := "(I[B)V" } : Jvm.MethodName)) ∈ lw_all := lw_g (lw_at lw_m11 35 rfl) rfl
theorem q2555 : (Jvm.Cond.static ({ cls := "java/lang/StringUTF16", name := "checkIndex", desc := "(I[B)V" } : Jvm.MethodName)) ∈ lw_all := lw_g (lw_at lw_m11 36 rfl) rfl
theorem q2556 : (Jvm.Cond.code ({ cls := "java/lang/StringUTF16", name := "checkIndex", desc := "(I[B)V" } : Jvm.MethodName) prog_50_method_91_code (2 : Nat) (Option.none : Option Jvm.ClassFile.FieldType)) ∈ lw_all := lw_g (lw_at lw_m11 37 rfl) rfl
theorem q2557 : (Jvm.Cond.methodLink "java/lang/StringUTF16" (414 : Nat) ({ cls := "java/lang/String", name := "checkIndex", desc := "(II)V" } : Jvm.MethodName)) ∈ lw_all := lw_g (lw_at lw_m11 38 rfl) rfl
theorem q2634 : (Jvm.Cond.static ({ cls := "java/lang/StringUTF16", name := "charAt", desc := "([BI)C" } : Jvm.MethodName)) ∈ lw_all := lw_g (lw_at lw_m11 115 rfl) rfl
theorem q2635 : (Jvm.Cond.code ({ cls := "java/lang/StringUTF16", name := "charAt", desc := "([BI)C" } : Jvm.MethodName) prog_50_method_83_code (2 : Nat) (Option.some Jvm.ClassFile.FieldType.char)) ∈ lw_all := lw_g (lw_at lw_m11 116 rfl) rfl
theorem q2785 : (Jvm.Cond.static ({ cls := "java/lang/StringUTF16", name := "fillNull", desc := "([BII)V" } : Jvm.MethodName)) ∈ lw_all := lw_g (lw_at lw_m12 26 rfl) rfl
theorem q2786 : (Jvm.Cond.code ({ cls := "java/lang/StringUTF16", name := "fillNull", desc := "([BII)V" } : Jvm.MethodName) prog_50_method_70_code (3 : Nat) (Option.none : Option Jvm.ClassFile.FieldType)) ∈ lw_all := lw_g (lw_at lw_m12 27 rfl) rfl
theorem q2787 : (Jvm.Cond.methodLink "java/lang/StringUTF16" (380 : Nat) ({ cls := "java/util/Arrays", name := "fill", desc := "([BIIB)V" } : Jvm.MethodName)) ∈ lw_all := lw_g (lw_at lw_m12 28 rfl) rfl
/-! jdk/internal/util/ArraysSupport -/
set_option maxRecDepth 100000
def RJ16 : String := "jdk/internal/util/ArraysSupport"
abbrev cJ16_newLength : ByteArray := prog_88_method_27_code
def yJ16_newLength : MethodName := ⟨RJ16, "newLength", "(III)I"⟩
def dkwJ16_newLength_1 : List UInt8 := [184, 0, 201, 172]
abbrev dktJ16_newLength_1 : List UInt8 := dkwJ16_newLength_1 ++ []
def dkwJ16_newLength_0 : List UInt8 := [26, 27, 28, 184, 0, 194, 96, 62, 3, 29, 162, 0, 11, 29, 18, 200, 163, 0, 5, 29, 172, 26, 27]
abbrev dktJ16_newLength_0 : List UInt8 := dkwJ16_newLength_0 ++ dktJ16_newLength_1
theorem dksJ16_newLength_0 : cJ16_newLength.data.toList.drop 0 = dktJ16_newLength_0 := by decide +kernel
theorem dksJ16_newLength_1 : cJ16_newLength.data.toList.drop 23 = dktJ16_newLength_1 := dk_seg dksJ16_newLength_0 23 rfl rfl
theorem dJ16_newLength_0 : decode cJ16_newLength 0 = .ok (.iload_n 0, 1) := dk_26 (dk_at dksJ16_newLength_0 0 rfl rfl)
theorem dJ16_newLength_1 : decode cJ16_newLength 1 = .ok (.iload_n 1, 1) := dk_27 (dk_at dksJ16_newLength_0 1 rfl rfl)
theorem dJ16_newLength_2 : decode cJ16_newLength 2 = .ok (.iload_n 2, 1) := dk_28 (dk_at dksJ16_newLength_0 2 rfl rfl)
theorem dJ16_newLength_3 : decode cJ16_newLength 3 = .ok (.invokestatic 194, 3) := dk_184 0 194 (dk_at dksJ16_newLength_0 3 rfl rfl)
theorem dJ16_newLength_6 : decode cJ16_newLength 6 = .ok (.iadd, 1) := dk_96 (dk_at dksJ16_newLength_0 6 rfl rfl)
theorem dJ16_newLength_7 : decode cJ16_newLength 7 = .ok (.istore_n 3, 1) := dk_62 (dk_at dksJ16_newLength_0 7 rfl rfl)
theorem dJ16_newLength_8 : decode cJ16_newLength 8 = .ok (.iconst 0, 1) := dk_3 (dk_at dksJ16_newLength_0 8 rfl rfl)
theorem dJ16_newLength_9 : decode cJ16_newLength 9 = .ok (.iload_n 3, 1) := dk_29 (dk_at dksJ16_newLength_0 9 rfl rfl)
theorem dJ16_newLength_10 : decode cJ16_newLength 10 = .ok (.if_icmp .ge 11, 3) := dk_162 0 11 (dk_at dksJ16_newLength_0 10 rfl rfl)
theorem dJ16_newLength_13 : decode cJ16_newLength 13 = .ok (.iload_n 3, 1) := dk_29 (dk_at dksJ16_newLength_0 13 rfl rfl)
theorem dJ16_newLength_14 : decode cJ16_newLength 14 = .ok (.ldc 200, 2) := dk_18 200 (dk_at dksJ16_newLength_0 14 rfl rfl)
theorem dJ16_newLength_16 : decode cJ16_newLength 16 = .ok (.if_icmp .gt 5, 3) := dk_163 0 5 (dk_at dksJ16_newLength_0 16 rfl rfl)
theorem dJ16_newLength_19 : decode cJ16_newLength 19 = .ok (.iload_n 3, 1) := dk_29 (dk_at dksJ16_newLength_0 19 rfl rfl)
theorem dJ16_newLength_20 : decode cJ16_newLength 20 = .ok (.ireturn, 1) := dk_172 (dk_at dksJ16_newLength_0 20 rfl rfl)
theorem dJ16_newLength_21 : decode cJ16_newLength 21 = .ok (.iload_n 0, 1) := dk_26 (dk_at dksJ16_newLength_0 21 rfl rfl)
theorem dJ16_newLength_22 : decode cJ16_newLength 22 = .ok (.iload_n 1, 1) := dk_27 (dk_at dksJ16_newLength_0 22 rfl rfl)
theorem dJ16_newLength_23 : decode cJ16_newLength 23 = .ok (.invokestatic 201, 3) := dk_184 0 201 (dk_at dksJ16_newLength_1 0 rfl rfl)
theorem dJ16_newLength_26 : decode cJ16_newLength 26 = .ok (.ireturn, 1) := dk_172 (dk_at dksJ16_newLength_1 3 rfl rfl)
abbrev cJ16_hugeLength : ByteArray := prog_88_method_28_code
def yJ16_hugeLength : MethodName := ⟨RJ16, "hugeLength", "(II)I"⟩
def dkwJ16_hugeLength_2 : List UInt8 := [191, 28, 18, 200, 163, 0, 6, 18, 200, 172, 28, 172]
abbrev dktJ16_hugeLength_2 : List UInt8 := dkwJ16_hugeLength_2 ++ []
def dkwJ16_hugeLength_1 : List UInt8 := [26, 182, 0, 98, 18, 208, 182, 0, 94, 27, 182, 0, 98, 18, 210, 182, 0, 94, 182, 0, 101, 183, 0, 212]
abbrev dktJ16_hugeLength_1 : List UInt8 := dkwJ16_hugeLength_1 ++ dktJ16_hugeLength_2
def dkwJ16_hugeLength_0 : List UInt8 := [26, 27, 96, 61, 28, 156, 0, 44, 187, 0, 204, 89, 187, 0, 89, 89, 183, 0, 91, 18, 206, 182, 0, 94]
abbrev dktJ16_hugeLength_0 : List UInt8 := dkwJ16_hugeLength_0 ++ dktJ16_hugeLength_1
theorem dksJ16_hugeLength_0 : cJ16_hugeLength.data.toList.drop 0 = dktJ16_hugeLength_0 := by decide +kernel
theorem dksJ16_hugeLength_1 : cJ16_hugeLength.data.toList.drop 24 = dktJ16_hugeLength_1 := dk_seg dksJ16_hugeLength_0 24 rfl rfl
theorem dksJ16_hugeLength_2 : cJ16_hugeLength.data.toList.drop 48 = dktJ16_hugeLength_2 := dk_seg dksJ16_hugeLength_1 24 rfl rfl
theorem dJ16_hugeLength_0 : decode cJ16_hugeLength 0 = .ok (.iload_n 0, 1) := dk_26 (dk_at dksJ16_hugeLength_0 0 rfl rfl)
theorem dJ16_hugeLength_1 : decode cJ16_hugeLength 1 = .ok (.iload_n 1, 1) := dk_27 (dk_at dksJ16_hugeLength_0 1 rfl rfl)
theorem dJ16_hugeLength_2 : decode cJ16_hugeLength 2 = .ok (.iadd, 1) := dk_96 (dk_at dksJ16_hugeLength_0 2 rfl rfl)
theorem dJ16_hugeLength_3 : decode cJ16_hugeLength 3 = .ok (.istore_n 2, 1) := dk_61 (dk_at dksJ16_hugeLength_0 3 rfl rfl)
theorem dJ16_hugeLength_4 : decode cJ16_hugeLength 4 = .ok (.iload_n 2, 1) := dk_28 (dk_at dksJ16_hugeLength_0 4 rfl rfl)
theorem dJ16_hugeLength_5 : decode cJ16_hugeLength 5 = .ok (.ifCond .ge 44, 3) := dk_156 0 44 (dk_at dksJ16_hugeLength_0 5 rfl rfl)
theorem dJ16_hugeLength_8 : decode cJ16_hugeLength 8 = .ok (.new 204, 3) := dk_187 0 204 (dk_at dksJ16_hugeLength_0 8 rfl rfl)
theorem dJ16_hugeLength_11 : decode cJ16_hugeLength 11 = .ok (.dup, 1) := dk_89 (dk_at dksJ16_hugeLength_0 11 rfl rfl)
theorem dJ16_hugeLength_12 : decode cJ16_hugeLength 12 = .ok (.new 89, 3) := dk_187 0 89 (dk_at dksJ16_hugeLength_0 12 rfl rfl)
theorem dJ16_hugeLength_15 : decode cJ16_hugeLength 15 = .ok (.dup, 1) := dk_89 (dk_at dksJ16_hugeLength_0 15 rfl rfl)
theorem dJ16_hugeLength_16 : decode cJ16_hugeLength 16 = .ok (.invokespecial 91, 3) := dk_183 0 91 (dk_at dksJ16_hugeLength_0 16 rfl rfl)
theorem dJ16_hugeLength_19 : decode cJ16_hugeLength 19 = .ok (.ldc 206, 2) := dk_18 206 (dk_at dksJ16_hugeLength_0 19 rfl rfl)
theorem dJ16_hugeLength_21 : decode cJ16_hugeLength 21 = .ok (.invokevirtual 94, 3) := dk_182 0 94 (dk_at dksJ16_hugeLength_0 21 rfl rfl)
theorem dJ16_hugeLength_24 : decode cJ16_hugeLength 24 = .ok (.iload_n 0, 1) := dk_26 (dk_at dksJ16_hugeLength_1 0 rfl rfl)
theorem dJ16_hugeLength_25 : decode cJ16_hugeLength 25 = .ok (.invokevirtual 98, 3) := dk_182 0 98 (dk_at dksJ16_hugeLength_1 1 rfl rfl)
theorem dJ16_hugeLength_28 : decode cJ16_hugeLength 28 = .ok (.ldc 208, 2) := dk_18 208 (dk_at dksJ16_hugeLength_1 4 rfl rfl)
theorem dJ16_hugeLength_30 : decode cJ16_hugeLength 30 = .ok (.invokevirtual 94, 3) := dk_182 0 94 (dk_at dksJ16_hugeLength_1 6 rfl rfl)
theorem dJ16_hugeLength_33 : decode cJ16_hugeLength 33 = .ok (.iload_n 1, 1) := dk_27 (dk_at dksJ16_hugeLength_1 9 rfl rfl)
theorem dJ16_hugeLength_34 : decode cJ16_hugeLength 34 = .ok (.invokevirtual 98, 3) := dk_182 0 98 (dk_at dksJ16_hugeLength_1 10 rfl rfl)
theorem dJ16_hugeLength_37 : decode cJ16_hugeLength 37 = .ok (.ldc 210, 2) := dk_18 210 (dk_at dksJ16_hugeLength_1 13 rfl rfl)
theorem dJ16_hugeLength_39 : decode cJ16_hugeLength 39 = .ok (.invokevirtual 94, 3) := dk_182 0 94 (dk_at dksJ16_hugeLength_1 15 rfl rfl)
theorem dJ16_hugeLength_42 : decode cJ16_hugeLength 42 = .ok (.invokevirtual 101, 3) := dk_182 0 101 (dk_at dksJ16_hugeLength_1 18 rfl rfl)
theorem dJ16_hugeLength_45 : decode cJ16_hugeLength 45 = .ok (.invokespecial 212, 3) := dk_183 0 212 (dk_at dksJ16_hugeLength_1 21 rfl rfl)
theorem dJ16_hugeLength_48 : decode cJ16_hugeLength 48 = .ok (.athrow, 1) := dk_191 (dk_at dksJ16_hugeLength_2 0 rfl rfl)
theorem dJ16_hugeLength_49 : decode cJ16_hugeLength 49 = .ok (.iload_n 2, 1) := dk_28 (dk_at dksJ16_hugeLength_2 1 rfl rfl)
theorem dJ16_hugeLength_50 : decode cJ16_hugeLength 50 = .ok (.ldc 200, 2) := dk_18 200 (dk_at dksJ16_hugeLength_2 2 rfl rfl)
theorem dJ16_hugeLength_52 : decode cJ16_hugeLength 52 = .ok (.if_icmp .gt 6, 3) := dk_163 0 6 (dk_at dksJ16_hugeLength_2 4 rfl rfl)
theorem dJ16_hugeLength_55 : decode cJ16_hugeLength 55 = .ok (.ldc 200, 2) := dk_18 200 (dk_at dksJ16_hugeLength_2 7 rfl rfl)
theorem dJ16_hugeLength_57 : decode cJ16_hugeLength 57 = .ok (.ireturn, 1) := dk_172 (dk_at dksJ16_hugeLength_2 9 rfl rfl)
theorem dJ16_hugeLength_58 : decode cJ16_hugeLength 58 = .ok (.iload_n 2, 1) := dk_28 (dk_at dksJ16_hugeLength_2 10 rfl rfl)
theorem dJ16_hugeLength_59 : decode cJ16_hugeLength 59 = .ok (.ireturn, 1) := dk_172 (dk_at dksJ16_hugeLength_2 11 rfl rfl)
theorem q139 : (Jvm.Cond.initialized "jdk/internal/util/ArraysSupport") ∈ lw_all := lw_g (lw_at lw_m1 20 rfl) rfl
theorem q377 : (Jvm.Cond.static ({ cls := "jdk/internal/util/ArraysSupport", name := "newLength", desc := "(III)I" } : Jvm.MethodName)) ∈ lw_all := lw_g (lw_at lw_m2 18 rfl) rfl
theorem q378 : (Jvm.Cond.code ({ cls := "jdk/internal/util/ArraysSupport", name := "newLength", desc := "(III)I" } : Jvm.MethodName) prog_88_method_27_code (4 : Nat) (Option.some Jvm.ClassFile.FieldType.int)) ∈ lw_all := lw_g (lw_at lw_m2 19 rfl) rfl
theorem q379 : (Jvm.Cond.methodLink "jdk/internal/util/ArraysSupport" (194 : Nat) ({ cls := "java/lang/Math", name := "max", desc := "(II)I" } : Jvm.MethodName)) ∈ lw_all := lw_g (lw_at lw_m2 20 rfl) rfl
theorem q382 : (Jvm.Cond.constant "jdk/internal/util/ArraysSupport" (200 : Nat) (2147483639 : Int32)) ∈ lw_all := lw_g (lw_at lw_m2 23 rfl) rfl
theorem q383 : (Jvm.Cond.methodLink "jdk/internal/util/ArraysSupport" (201 : Nat) ({ cls := "jdk/internal/util/ArraysSupport", name := "hugeLength", desc := "(II)I" } : Jvm.MethodName)) ∈ lw_all := lw_g (lw_at lw_m2 24 rfl) rfl
theorem q384 : (Jvm.Cond.static ({ cls := "jdk/internal/util/ArraysSupport", name := "hugeLength", desc := "(II)I" } : Jvm.MethodName)) ∈ lw_all := lw_g (lw_at lw_m2 25 rfl) rfl
theorem q385 : (Jvm.Cond.code ({ cls := "jdk/internal/util/ArraysSupport", name := "hugeLength", desc := "(II)I" } : Jvm.MethodName) prog_88_method_28_code (3 : Nat) (Option.some Jvm.ClassFile.FieldType.int)) ∈ lw_all := lw_g (lw_at lw_m2 26 rfl) rfl
/-! java/lang/Math -/
set_option maxRecDepth 100000
def RJ17 : String := "java/lang/Math"
abbrev cJ17_max : ByteArray := prog_43_method_65_code
def yJ17_max : MethodName := ⟨RJ17, "max", "(II)I"⟩
def dkwJ17_max_0 : List UInt8 := [26, 27, 161, 0, 7, 26, 167, 0, 4, 27, 172]
abbrev dktJ17_max_0 : List UInt8 := dkwJ17_max_0 ++ []
theorem dksJ17_max_0 : cJ17_max.data.toList.drop 0 = dktJ17_max_0 := by decide +kernel
theorem dJ17_max_0 : decode cJ17_max 0 = .ok (.iload_n 0, 1) := dk_26 (dk_at dksJ17_max_0 0 rfl rfl)
theorem dJ17_max_1 : decode cJ17_max 1 = .ok (.iload_n 1, 1) := dk_27 (dk_at dksJ17_max_0 1 rfl rfl)
theorem dJ17_max_2 : decode cJ17_max 2 = .ok (.if_icmp .lt 7, 3) := dk_161 0 7 (dk_at dksJ17_max_0 2 rfl rfl)
theorem dJ17_max_5 : decode cJ17_max 5 = .ok (.iload_n 0, 1) := dk_26 (dk_at dksJ17_max_0 5 rfl rfl)
theorem dJ17_max_6 : decode cJ17_max 6 = .ok (.goto 4, 3) := dk_167 0 4 (dk_at dksJ17_max_0 6 rfl rfl)
theorem dJ17_max_9 : decode cJ17_max 9 = .ok (.iload_n 1, 1) := dk_27 (dk_at dksJ17_max_0 9 rfl rfl)
theorem dJ17_max_10 : decode cJ17_max 10 = .ok (.ireturn, 1) := dk_172 (dk_at dksJ17_max_0 10 rfl rfl)
abbrev cJ17_min : ByteArray := prog_43_method_69_code
def yJ17_min : MethodName := ⟨RJ17, "min", "(II)I"⟩
def dkwJ17_min_0 : List UInt8 := [26, 27, 163, 0, 7, 26, 167, 0, 4, 27, 172]
abbrev dktJ17_min_0 : List UInt8 := dkwJ17_min_0 ++ []
theorem dksJ17_min_0 : cJ17_min.data.toList.drop 0 = dktJ17_min_0 := by decide +kernel
theorem dJ17_min_0 : decode cJ17_min 0 = .ok (.iload_n 0, 1) := dk_26 (dk_at dksJ17_min_0 0 rfl rfl)
theorem dJ17_min_1 : decode cJ17_min 1 = .ok (.iload_n 1, 1) := dk_27 (dk_at dksJ17_min_0 1 rfl rfl)
theorem dJ17_min_2 : decode cJ17_min 2 = .ok (.if_icmp .gt 7, 3) := dk_163 0 7 (dk_at dksJ17_min_0 2 rfl rfl)
theorem dJ17_min_5 : decode cJ17_min 5 = .ok (.iload_n 0, 1) := dk_26 (dk_at dksJ17_min_0 5 rfl rfl)
theorem dJ17_min_6 : decode cJ17_min 6 = .ok (.goto 4, 3) := dk_167 0 4 (dk_at dksJ17_min_0 6 rfl rfl)
theorem dJ17_min_9 : decode cJ17_min 9 = .ok (.iload_n 1, 1) := dk_27 (dk_at dksJ17_min_0 9 rfl rfl)
theorem dJ17_min_10 : decode cJ17_min 10 = .ok (.ireturn, 1) := dk_172 (dk_at dksJ17_min_0 10 rfl rfl)
theorem q140 : (Jvm.Cond.initialized "java/lang/Math") ∈ lw_all := lw_g (lw_at lw_m1 21 rfl) rfl
theorem q380 : (Jvm.Cond.static ({ cls := "java/lang/Math", name := "max", desc := "(II)I" } : Jvm.MethodName)) ∈ lw_all := lw_g (lw_at lw_m2 21 rfl) rfl
theorem q381 : (Jvm.Cond.code ({ cls := "java/lang/Math", name := "max", desc := "(II)I" } : Jvm.MethodName) prog_43_method_65_code (2 : Nat) (Option.some Jvm.ClassFile.FieldType.int)) ∈ lw_all := lw_g (lw_at lw_m2 22 rfl) rfl
theorem q398 : (Jvm.Cond.static ({ cls := "java/lang/Math", name := "min", desc := "(II)I" } : Jvm.MethodName)) ∈ lw_all := lw_g (lw_at lw_m2 39 rfl) rfl
theorem q399 : (Jvm.Cond.code ({ cls := "java/lang/Math", name := "min", desc := "(II)I" } : Jvm.MethodName) prog_43_method_69_code (2 : Nat) (Option.some Jvm.ClassFile.FieldType.int)) ∈ lw_all := lw_g (lw_at lw_m2 40 rfl) rfl
