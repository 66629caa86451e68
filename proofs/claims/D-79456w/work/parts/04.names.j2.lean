/-! java/util/Arrays -/
set_option maxRecDepth 100000
def RJ18 : String := "java/util/Arrays"
abbrev cJ18_copyOf : ByteArray := prog_65_method_121_code
def yJ18_copyOf : MethodName := ⟨RJ18, "copyOf", "([BI)[B"⟩
def dkwJ18_copyOf_1 : List UInt8 := [27, 184, 1, 48, 184, 0, 150, 44, 176]
abbrev dktJ18_copyOf_1 : List UInt8 := dkwJ18_copyOf_1 ++ []
def dkwJ18_copyOf_0 : List UInt8 := [27, 42, 190, 160, 0, 11, 42, 182, 1, 54, 192, 1, 55, 176, 27, 188, 8, 77, 42, 3, 44, 3, 42, 190]
abbrev dktJ18_copyOf_0 : List UInt8 := dkwJ18_copyOf_0 ++ dktJ18_copyOf_1
theorem dksJ18_copyOf_0 : cJ18_copyOf.data.toList.drop 0 = dktJ18_copyOf_0 := by decide +kernel
theorem dksJ18_copyOf_1 : cJ18_copyOf.data.toList.drop 24 = dktJ18_copyOf_1 := dk_seg dksJ18_copyOf_0 24 rfl rfl
theorem dJ18_copyOf_0 : decode cJ18_copyOf 0 = .ok (.iload_n 1, 1) := dk_27 (dk_at dksJ18_copyOf_0 0 rfl rfl)
theorem dJ18_copyOf_1 : decode cJ18_copyOf 1 = .ok (.aload_n 0, 1) := dk_42 (dk_at dksJ18_copyOf_0 1 rfl rfl)
theorem dJ18_copyOf_2 : decode cJ18_copyOf 2 = .ok (.arraylength, 1) := dk_190 (dk_at dksJ18_copyOf_0 2 rfl rfl)
theorem dJ18_copyOf_3 : decode cJ18_copyOf 3 = .ok (.if_icmp .ne 11, 3) := dk_160 0 11 (dk_at dksJ18_copyOf_0 3 rfl rfl)
theorem dJ18_copyOf_6 : decode cJ18_copyOf 6 = .ok (.aload_n 0, 1) := dk_42 (dk_at dksJ18_copyOf_0 6 rfl rfl)
theorem dJ18_copyOf_7 : decode cJ18_copyOf 7 = .ok (.invokevirtual 310, 3) := dk_182 1 54 (dk_at dksJ18_copyOf_0 7 rfl rfl)
theorem dJ18_copyOf_10 : decode cJ18_copyOf 10 = .ok (.checkcast 311, 3) := dk_192 1 55 (dk_at dksJ18_copyOf_0 10 rfl rfl)
theorem dJ18_copyOf_13 : decode cJ18_copyOf 13 = .ok (.areturn, 1) := dk_176 (dk_at dksJ18_copyOf_0 13 rfl rfl)
theorem dJ18_copyOf_14 : decode cJ18_copyOf 14 = .ok (.iload_n 1, 1) := dk_27 (dk_at dksJ18_copyOf_0 14 rfl rfl)
theorem dJ18_copyOf_15 : decode cJ18_copyOf 15 = .ok (.newarray .byte, 2) := dk_188_8 (dk_at dksJ18_copyOf_0 15 rfl rfl)
theorem dJ18_copyOf_17 : decode cJ18_copyOf 17 = .ok (.astore_n 2, 1) := dk_77 (dk_at dksJ18_copyOf_0 17 rfl rfl)
theorem dJ18_copyOf_18 : decode cJ18_copyOf 18 = .ok (.aload_n 0, 1) := dk_42 (dk_at dksJ18_copyOf_0 18 rfl rfl)
theorem dJ18_copyOf_19 : decode cJ18_copyOf 19 = .ok (.iconst 0, 1) := dk_3 (dk_at dksJ18_copyOf_0 19 rfl rfl)
theorem dJ18_copyOf_20 : decode cJ18_copyOf 20 = .ok (.aload_n 2, 1) := dk_44 (dk_at dksJ18_copyOf_0 20 rfl rfl)
theorem dJ18_copyOf_21 : decode cJ18_copyOf 21 = .ok (.iconst 0, 1) := dk_3 (dk_at dksJ18_copyOf_0 21 rfl rfl)
theorem dJ18_copyOf_22 : decode cJ18_copyOf 22 = .ok (.aload_n 0, 1) := dk_42 (dk_at dksJ18_copyOf_0 22 rfl rfl)
theorem dJ18_copyOf_23 : decode cJ18_copyOf 23 = .ok (.arraylength, 1) := dk_190 (dk_at dksJ18_copyOf_0 23 rfl rfl)
theorem dJ18_copyOf_24 : decode cJ18_copyOf 24 = .ok (.iload_n 1, 1) := dk_27 (dk_at dksJ18_copyOf_1 0 rfl rfl)
theorem dJ18_copyOf_25 : decode cJ18_copyOf 25 = .ok (.invokestatic 304, 3) := dk_184 1 48 (dk_at dksJ18_copyOf_1 1 rfl rfl)
theorem dJ18_copyOf_28 : decode cJ18_copyOf 28 = .ok (.invokestatic 150, 3) := dk_184 0 150 (dk_at dksJ18_copyOf_1 4 rfl rfl)
theorem dJ18_copyOf_31 : decode cJ18_copyOf 31 = .ok (.aload_n 2, 1) := dk_44 (dk_at dksJ18_copyOf_1 7 rfl rfl)
theorem dJ18_copyOf_32 : decode cJ18_copyOf 32 = .ok (.areturn, 1) := dk_176 (dk_at dksJ18_copyOf_1 8 rfl rfl)
abbrev cJ18_copyOfRange : ByteArray := prog_65_method_132_code
def yJ18_copyOfRange : MethodName := ⟨RJ18, "copyOfRange", "([BII)[B"⟩
def dkwJ18_copyOfRange_1 : List UInt8 := [176]
abbrev dktJ18_copyOfRange_1 : List UInt8 := dkwJ18_copyOfRange_1 ++ []
def dkwJ18_copyOfRange_0 : List UInt8 := [27, 154, 0, 9, 28, 42, 190, 159, 0, 10, 42, 27, 28, 184, 1, 83, 176, 42, 182, 1, 54, 192, 1, 55]
abbrev dktJ18_copyOfRange_0 : List UInt8 := dkwJ18_copyOfRange_0 ++ dktJ18_copyOfRange_1
theorem dksJ18_copyOfRange_0 : cJ18_copyOfRange.data.toList.drop 0 = dktJ18_copyOfRange_0 := by decide +kernel
theorem dksJ18_copyOfRange_1 : cJ18_copyOfRange.data.toList.drop 24 = dktJ18_copyOfRange_1 := dk_seg dksJ18_copyOfRange_0 24 rfl rfl
theorem dJ18_copyOfRange_0 : decode cJ18_copyOfRange 0 = .ok (.iload_n 1, 1) := dk_27 (dk_at dksJ18_copyOfRange_0 0 rfl rfl)
theorem dJ18_copyOfRange_1 : decode cJ18_copyOfRange 1 = .ok (.ifCond .ne 9, 3) := dk_154 0 9 (dk_at dksJ18_copyOfRange_0 1 rfl rfl)
theorem dJ18_copyOfRange_4 : decode cJ18_copyOfRange 4 = .ok (.iload_n 2, 1) := dk_28 (dk_at dksJ18_copyOfRange_0 4 rfl rfl)
theorem dJ18_copyOfRange_5 : decode cJ18_copyOfRange 5 = .ok (.aload_n 0, 1) := dk_42 (dk_at dksJ18_copyOfRange_0 5 rfl rfl)
theorem dJ18_copyOfRange_6 : decode cJ18_copyOfRange 6 = .ok (.arraylength, 1) := dk_190 (dk_at dksJ18_copyOfRange_0 6 rfl rfl)
theorem dJ18_copyOfRange_7 : decode cJ18_copyOfRange 7 = .ok (.if_icmp .eq 10, 3) := dk_159 0 10 (dk_at dksJ18_copyOfRange_0 7 rfl rfl)
theorem dJ18_copyOfRange_10 : decode cJ18_copyOfRange 10 = .ok (.aload_n 0, 1) := dk_42 (dk_at dksJ18_copyOfRange_0 10 rfl rfl)
theorem dJ18_copyOfRange_11 : decode cJ18_copyOfRange 11 = .ok (.iload_n 1, 1) := dk_27 (dk_at dksJ18_copyOfRange_0 11 rfl rfl)
theorem dJ18_copyOfRange_12 : decode cJ18_copyOfRange 12 = .ok (.iload_n 2, 1) := dk_28 (dk_at dksJ18_copyOfRange_0 12 rfl rfl)
theorem dJ18_copyOfRange_13 : decode cJ18_copyOfRange 13 = .ok (.invokestatic 339, 3) := dk_184 1 83 (dk_at dksJ18_copyOfRange_0 13 rfl rfl)
theorem dJ18_copyOfRange_16 : decode cJ18_copyOfRange 16 = .ok (.areturn, 1) := dk_176 (dk_at dksJ18_copyOfRange_0 16 rfl rfl)
theorem dJ18_copyOfRange_17 : decode cJ18_copyOfRange 17 = .ok (.aload_n 0, 1) := dk_42 (dk_at dksJ18_copyOfRange_0 17 rfl rfl)
theorem dJ18_copyOfRange_18 : decode cJ18_copyOfRange 18 = .ok (.invokevirtual 310, 3) := dk_182 1 54 (dk_at dksJ18_copyOfRange_0 18 rfl rfl)
theorem dJ18_copyOfRange_21 : decode cJ18_copyOfRange 21 = .ok (.checkcast 311, 3) := dk_192 1 55 (dk_at dksJ18_copyOfRange_0 21 rfl rfl)
theorem dJ18_copyOfRange_24 : decode cJ18_copyOfRange 24 = .ok (.areturn, 1) := dk_176 (dk_at dksJ18_copyOfRange_1 0 rfl rfl)
abbrev cJ18_copyOfRangeByte : ByteArray := prog_65_method_133_code
def yJ18_copyOfRangeByte : MethodName := ⟨RJ18, "copyOfRangeByte", "([BII)[B"⟩
def dkwJ18_copyOfRangeByte_1 : List UInt8 := [184, 1, 48, 184, 0, 150, 25, 4, 176]
abbrev dktJ18_copyOfRangeByte_1 : List UInt8 := dkwJ18_copyOfRangeByte_1 ++ []
def dkwJ18_copyOfRangeByte_0 : List UInt8 := [27, 28, 184, 1, 87, 28, 27, 100, 62, 29, 188, 8, 58, 4, 42, 27, 25, 4, 3, 42, 190, 27, 100, 29]
abbrev dktJ18_copyOfRangeByte_0 : List UInt8 := dkwJ18_copyOfRangeByte_0 ++ dktJ18_copyOfRangeByte_1
theorem dksJ18_copyOfRangeByte_0 : cJ18_copyOfRangeByte.data.toList.drop 0 = dktJ18_copyOfRangeByte_0 := by decide +kernel
theorem dksJ18_copyOfRangeByte_1 : cJ18_copyOfRangeByte.data.toList.drop 24 = dktJ18_copyOfRangeByte_1 := dk_seg dksJ18_copyOfRangeByte_0 24 rfl rfl
theorem dJ18_copyOfRangeByte_0 : decode cJ18_copyOfRangeByte 0 = .ok (.iload_n 1, 1) := dk_27 (dk_at dksJ18_copyOfRangeByte_0 0 rfl rfl)
theorem dJ18_copyOfRangeByte_1 : decode cJ18_copyOfRangeByte 1 = .ok (.iload_n 2, 1) := dk_28 (dk_at dksJ18_copyOfRangeByte_0 1 rfl rfl)
theorem dJ18_copyOfRangeByte_2 : decode cJ18_copyOfRangeByte 2 = .ok (.invokestatic 343, 3) := dk_184 1 87 (dk_at dksJ18_copyOfRangeByte_0 2 rfl rfl)
theorem dJ18_copyOfRangeByte_5 : decode cJ18_copyOfRangeByte 5 = .ok (.iload_n 2, 1) := dk_28 (dk_at dksJ18_copyOfRangeByte_0 5 rfl rfl)
theorem dJ18_copyOfRangeByte_6 : decode cJ18_copyOfRangeByte 6 = .ok (.iload_n 1, 1) := dk_27 (dk_at dksJ18_copyOfRangeByte_0 6 rfl rfl)
theorem dJ18_copyOfRangeByte_7 : decode cJ18_copyOfRangeByte 7 = .ok (.isub, 1) := dk_100 (dk_at dksJ18_copyOfRangeByte_0 7 rfl rfl)
theorem dJ18_copyOfRangeByte_8 : decode cJ18_copyOfRangeByte 8 = .ok (.istore_n 3, 1) := dk_62 (dk_at dksJ18_copyOfRangeByte_0 8 rfl rfl)
theorem dJ18_copyOfRangeByte_9 : decode cJ18_copyOfRangeByte 9 = .ok (.iload_n 3, 1) := dk_29 (dk_at dksJ18_copyOfRangeByte_0 9 rfl rfl)
theorem dJ18_copyOfRangeByte_10 : decode cJ18_copyOfRangeByte 10 = .ok (.newarray .byte, 2) := dk_188_8 (dk_at dksJ18_copyOfRangeByte_0 10 rfl rfl)
theorem dJ18_copyOfRangeByte_12 : decode cJ18_copyOfRangeByte 12 = .ok (.astore 4, 2) := dk_58 4 (dk_at dksJ18_copyOfRangeByte_0 12 rfl rfl)
theorem dJ18_copyOfRangeByte_14 : decode cJ18_copyOfRangeByte 14 = .ok (.aload_n 0, 1) := dk_42 (dk_at dksJ18_copyOfRangeByte_0 14 rfl rfl)
theorem dJ18_copyOfRangeByte_15 : decode cJ18_copyOfRangeByte 15 = .ok (.iload_n 1, 1) := dk_27 (dk_at dksJ18_copyOfRangeByte_0 15 rfl rfl)
theorem dJ18_copyOfRangeByte_16 : decode cJ18_copyOfRangeByte 16 = .ok (.aload 4, 2) := dk_25 4 (dk_at dksJ18_copyOfRangeByte_0 16 rfl rfl)
theorem dJ18_copyOfRangeByte_18 : decode cJ18_copyOfRangeByte 18 = .ok (.iconst 0, 1) := dk_3 (dk_at dksJ18_copyOfRangeByte_0 18 rfl rfl)
theorem dJ18_copyOfRangeByte_19 : decode cJ18_copyOfRangeByte 19 = .ok (.aload_n 0, 1) := dk_42 (dk_at dksJ18_copyOfRangeByte_0 19 rfl rfl)
theorem dJ18_copyOfRangeByte_20 : decode cJ18_copyOfRangeByte 20 = .ok (.arraylength, 1) := dk_190 (dk_at dksJ18_copyOfRangeByte_0 20 rfl rfl)
theorem dJ18_copyOfRangeByte_21 : decode cJ18_copyOfRangeByte 21 = .ok (.iload_n 1, 1) := dk_27 (dk_at dksJ18_copyOfRangeByte_0 21 rfl rfl)
theorem dJ18_copyOfRangeByte_22 : decode cJ18_copyOfRangeByte 22 = .ok (.isub, 1) := dk_100 (dk_at dksJ18_copyOfRangeByte_0 22 rfl rfl)
theorem dJ18_copyOfRangeByte_23 : decode cJ18_copyOfRangeByte 23 = .ok (.iload_n 3, 1) := dk_29 (dk_at dksJ18_copyOfRangeByte_0 23 rfl rfl)
theorem dJ18_copyOfRangeByte_24 : decode cJ18_copyOfRangeByte 24 = .ok (.invokestatic 304, 3) := dk_184 1 48 (dk_at dksJ18_copyOfRangeByte_1 0 rfl rfl)
theorem dJ18_copyOfRangeByte_27 : decode cJ18_copyOfRangeByte 27 = .ok (.invokestatic 150, 3) := dk_184 0 150 (dk_at dksJ18_copyOfRangeByte_1 3 rfl rfl)
theorem dJ18_copyOfRangeByte_30 : decode cJ18_copyOfRangeByte 30 = .ok (.aload 4, 2) := dk_25 4 (dk_at dksJ18_copyOfRangeByte_1 6 rfl rfl)
theorem dJ18_copyOfRangeByte_32 : decode cJ18_copyOfRangeByte 32 = .ok (.areturn, 1) := dk_176 (dk_at dksJ18_copyOfRangeByte_1 8 rfl rfl)
abbrev cJ18_checkLength : ByteArray := prog_65_method_131_code
def yJ18_checkLength : MethodName := ⟨RJ18, "checkLength", "(II)V"⟩
def dkwJ18_checkLength_1 : List UInt8 := [182, 0, 50, 27, 182, 0, 54, 182, 0, 61, 183, 0, 65, 191, 177]
abbrev dktJ18_checkLength_1 : List UInt8 := dkwJ18_checkLength_1 ++ []
def dkwJ18_checkLength_0 : List UInt8 := [27, 26, 162, 0, 35, 187, 0, 43, 89, 187, 0, 45, 89, 183, 0, 47, 26, 182, 0, 54, 19, 1, 81]
abbrev dktJ18_checkLength_0 : List UInt8 := dkwJ18_checkLength_0 ++ dktJ18_checkLength_1
theorem dksJ18_checkLength_0 : cJ18_checkLength.data.toList.drop 0 = dktJ18_checkLength_0 := by decide +kernel
theorem dksJ18_checkLength_1 : cJ18_checkLength.data.toList.drop 23 = dktJ18_checkLength_1 := dk_seg dksJ18_checkLength_0 23 rfl rfl
theorem dJ18_checkLength_0 : decode cJ18_checkLength 0 = .ok (.iload_n 1, 1) := dk_27 (dk_at dksJ18_checkLength_0 0 rfl rfl)
theorem dJ18_checkLength_1 : decode cJ18_checkLength 1 = .ok (.iload_n 0, 1) := dk_26 (dk_at dksJ18_checkLength_0 1 rfl rfl)
theorem dJ18_checkLength_2 : decode cJ18_checkLength 2 = .ok (.if_icmp .ge 35, 3) := dk_162 0 35 (dk_at dksJ18_checkLength_0 2 rfl rfl)
theorem dJ18_checkLength_5 : decode cJ18_checkLength 5 = .ok (.new 43, 3) := dk_187 0 43 (dk_at dksJ18_checkLength_0 5 rfl rfl)
theorem dJ18_checkLength_8 : decode cJ18_checkLength 8 = .ok (.dup, 1) := dk_89 (dk_at dksJ18_checkLength_0 8 rfl rfl)
theorem dJ18_checkLength_9 : decode cJ18_checkLength 9 = .ok (.new 45, 3) := dk_187 0 45 (dk_at dksJ18_checkLength_0 9 rfl rfl)
theorem dJ18_checkLength_12 : decode cJ18_checkLength 12 = .ok (.dup, 1) := dk_89 (dk_at dksJ18_checkLength_0 12 rfl rfl)
theorem dJ18_checkLength_13 : decode cJ18_checkLength 13 = .ok (.invokespecial 47, 3) := dk_183 0 47 (dk_at dksJ18_checkLength_0 13 rfl rfl)
theorem dJ18_checkLength_16 : decode cJ18_checkLength 16 = .ok (.iload_n 0, 1) := dk_26 (dk_at dksJ18_checkLength_0 16 rfl rfl)
theorem dJ18_checkLength_17 : decode cJ18_checkLength 17 = .ok (.invokevirtual 54, 3) := dk_182 0 54 (dk_at dksJ18_checkLength_0 17 rfl rfl)
theorem dJ18_checkLength_20 : decode cJ18_checkLength 20 = .ok (.ldc_w 337, 3) := dk_19 1 81 (dk_at dksJ18_checkLength_0 20 rfl rfl)
theorem dJ18_checkLength_23 : decode cJ18_checkLength 23 = .ok (.invokevirtual 50, 3) := dk_182 0 50 (dk_at dksJ18_checkLength_1 0 rfl rfl)
theorem dJ18_checkLength_26 : decode cJ18_checkLength 26 = .ok (.iload_n 1, 1) := dk_27 (dk_at dksJ18_checkLength_1 3 rfl rfl)
theorem dJ18_checkLength_27 : decode cJ18_checkLength 27 = .ok (.invokevirtual 54, 3) := dk_182 0 54 (dk_at dksJ18_checkLength_1 4 rfl rfl)
theorem dJ18_checkLength_30 : decode cJ18_checkLength 30 = .ok (.invokevirtual 61, 3) := dk_182 0 61 (dk_at dksJ18_checkLength_1 7 rfl rfl)
theorem dJ18_checkLength_33 : decode cJ18_checkLength 33 = .ok (.invokespecial 65, 3) := dk_183 0 65 (dk_at dksJ18_checkLength_1 10 rfl rfl)
theorem dJ18_checkLength_36 : decode cJ18_checkLength 36 = .ok (.athrow, 1) := dk_191 (dk_at dksJ18_checkLength_1 13 rfl rfl)
theorem dJ18_checkLength_37 : decode cJ18_checkLength 37 = .ok (.return_, 1) := dk_177 (dk_at dksJ18_checkLength_1 14 rfl rfl)
abbrev cJ18_copyOf_2 : ByteArray := prog_65_method_119_code
def yJ18_copyOf_2 : MethodName := ⟨RJ18, "copyOf", "([Ljava/lang/Object;I)[Ljava/lang/Object;"⟩
def dkwJ18_copyOf_2_0 : List UInt8 := [42, 27, 42, 182, 0, 86, 184, 1, 44, 176]
abbrev dktJ18_copyOf_2_0 : List UInt8 := dkwJ18_copyOf_2_0 ++ []
theorem dksJ18_copyOf_2_0 : cJ18_copyOf_2.data.toList.drop 0 = dktJ18_copyOf_2_0 := by decide +kernel
theorem dJ18_copyOf_2_0 : decode cJ18_copyOf_2 0 = .ok (.aload_n 0, 1) := dk_42 (dk_at dksJ18_copyOf_2_0 0 rfl rfl)
theorem dJ18_copyOf_2_1 : decode cJ18_copyOf_2 1 = .ok (.iload_n 1, 1) := dk_27 (dk_at dksJ18_copyOf_2_0 1 rfl rfl)
theorem dJ18_copyOf_2_2 : decode cJ18_copyOf_2 2 = .ok (.aload_n 0, 1) := dk_42 (dk_at dksJ18_copyOf_2_0 2 rfl rfl)
theorem dJ18_copyOf_2_3 : decode cJ18_copyOf_2 3 = .ok (.invokevirtual 86, 3) := dk_182 0 86 (dk_at dksJ18_copyOf_2_0 3 rfl rfl)
theorem dJ18_copyOf_2_6 : decode cJ18_copyOf_2 6 = .ok (.invokestatic 300, 3) := dk_184 1 44 (dk_at dksJ18_copyOf_2_0 6 rfl rfl)
theorem dJ18_copyOf_2_9 : decode cJ18_copyOf_2 9 = .ok (.areturn, 1) := dk_176 (dk_at dksJ18_copyOf_2_0 9 rfl rfl)
abbrev cJ18_copyOf_3 : ByteArray := prog_65_method_120_code
def yJ18_copyOf_3 : MethodName := ⟨RJ18, "copyOf", "([Ljava/lang/Object;ILjava/lang/Class;)[Ljava/lang/Object;"⟩
def dkwJ18_copyOf_3_1 : List UInt8 := [78, 42, 3, 45, 3, 42, 190, 27, 184, 1, 48, 184, 0, 150, 45, 176]
abbrev dktJ18_copyOf_3_1 : List UInt8 := dkwJ18_copyOf_3_1 ++ []
def dkwJ18_copyOf_3_0 : List UInt8 := [44, 18, 110, 166, 0, 10, 27, 189, 0, 2, 167, 0, 14, 44, 182, 0, 90, 27, 184, 0, 95, 192, 0, 110]
abbrev dktJ18_copyOf_3_0 : List UInt8 := dkwJ18_copyOf_3_0 ++ dktJ18_copyOf_3_1
theorem dksJ18_copyOf_3_0 : cJ18_copyOf_3.data.toList.drop 0 = dktJ18_copyOf_3_0 := by decide +kernel
theorem dksJ18_copyOf_3_1 : cJ18_copyOf_3.data.toList.drop 24 = dktJ18_copyOf_3_1 := dk_seg dksJ18_copyOf_3_0 24 rfl rfl
theorem dJ18_copyOf_3_0 : decode cJ18_copyOf_3 0 = .ok (.aload_n 2, 1) := dk_44 (dk_at dksJ18_copyOf_3_0 0 rfl rfl)
theorem dJ18_copyOf_3_1 : decode cJ18_copyOf_3 1 = .ok (.ldc 110, 2) := dk_18 110 (dk_at dksJ18_copyOf_3_0 1 rfl rfl)
theorem dJ18_copyOf_3_3 : decode cJ18_copyOf_3 3 = .ok (.if_acmp .ne 10, 3) := dk_166 0 10 (dk_at dksJ18_copyOf_3_0 3 rfl rfl)
theorem dJ18_copyOf_3_6 : decode cJ18_copyOf_3 6 = .ok (.iload_n 1, 1) := dk_27 (dk_at dksJ18_copyOf_3_0 6 rfl rfl)
theorem dJ18_copyOf_3_7 : decode cJ18_copyOf_3 7 = .ok (.anewarray 2, 3) := dk_189 0 2 (dk_at dksJ18_copyOf_3_0 7 rfl rfl)
theorem dJ18_copyOf_3_10 : decode cJ18_copyOf_3 10 = .ok (.goto 14, 3) := dk_167 0 14 (dk_at dksJ18_copyOf_3_0 10 rfl rfl)
theorem dJ18_copyOf_3_13 : decode cJ18_copyOf_3 13 = .ok (.aload_n 2, 1) := dk_44 (dk_at dksJ18_copyOf_3_0 13 rfl rfl)
theorem dJ18_copyOf_3_14 : decode cJ18_copyOf_3 14 = .ok (.invokevirtual 90, 3) := dk_182 0 90 (dk_at dksJ18_copyOf_3_0 14 rfl rfl)
theorem dJ18_copyOf_3_17 : decode cJ18_copyOf_3 17 = .ok (.iload_n 1, 1) := dk_27 (dk_at dksJ18_copyOf_3_0 17 rfl rfl)
theorem dJ18_copyOf_3_18 : decode cJ18_copyOf_3 18 = .ok (.invokestatic 95, 3) := dk_184 0 95 (dk_at dksJ18_copyOf_3_0 18 rfl rfl)
theorem dJ18_copyOf_3_21 : decode cJ18_copyOf_3 21 = .ok (.checkcast 110, 3) := dk_192 0 110 (dk_at dksJ18_copyOf_3_0 21 rfl rfl)
theorem dJ18_copyOf_3_24 : decode cJ18_copyOf_3 24 = .ok (.astore_n 3, 1) := dk_78 (dk_at dksJ18_copyOf_3_1 0 rfl rfl)
theorem dJ18_copyOf_3_25 : decode cJ18_copyOf_3 25 = .ok (.aload_n 0, 1) := dk_42 (dk_at dksJ18_copyOf_3_1 1 rfl rfl)
theorem dJ18_copyOf_3_26 : decode cJ18_copyOf_3 26 = .ok (.iconst 0, 1) := dk_3 (dk_at dksJ18_copyOf_3_1 2 rfl rfl)
theorem dJ18_copyOf_3_27 : decode cJ18_copyOf_3 27 = .ok (.aload_n 3, 1) := dk_45 (dk_at dksJ18_copyOf_3_1 3 rfl rfl)
theorem dJ18_copyOf_3_28 : decode cJ18_copyOf_3 28 = .ok (.iconst 0, 1) := dk_3 (dk_at dksJ18_copyOf_3_1 4 rfl rfl)
theorem dJ18_copyOf_3_29 : decode cJ18_copyOf_3 29 = .ok (.aload_n 0, 1) := dk_42 (dk_at dksJ18_copyOf_3_1 5 rfl rfl)
theorem dJ18_copyOf_3_30 : decode cJ18_copyOf_3 30 = .ok (.arraylength, 1) := dk_190 (dk_at dksJ18_copyOf_3_1 6 rfl rfl)
theorem dJ18_copyOf_3_31 : decode cJ18_copyOf_3 31 = .ok (.iload_n 1, 1) := dk_27 (dk_at dksJ18_copyOf_3_1 7 rfl rfl)
theorem dJ18_copyOf_3_32 : decode cJ18_copyOf_3 32 = .ok (.invokestatic 304, 3) := dk_184 1 48 (dk_at dksJ18_copyOf_3_1 8 rfl rfl)
theorem dJ18_copyOf_3_35 : decode cJ18_copyOf_3 35 = .ok (.invokestatic 150, 3) := dk_184 0 150 (dk_at dksJ18_copyOf_3_1 11 rfl rfl)
theorem dJ18_copyOf_3_38 : decode cJ18_copyOf_3 38 = .ok (.aload_n 3, 1) := dk_45 (dk_at dksJ18_copyOf_3_1 14 rfl rfl)
theorem dJ18_copyOf_3_39 : decode cJ18_copyOf_3 39 = .ok (.areturn, 1) := dk_176 (dk_at dksJ18_copyOf_3_1 15 rfl rfl)
abbrev cJ18_copyOf_4 : ByteArray := prog_65_method_124_code
def yJ18_copyOf_4 : MethodName := ⟨RJ18, "copyOf", "([JI)[J"⟩
def dkwJ18_copyOf_4_1 : List UInt8 := [27, 184, 1, 48, 184, 0, 150, 44, 176]
abbrev dktJ18_copyOf_4_1 : List UInt8 := dkwJ18_copyOf_4_1 ++ []
def dkwJ18_copyOf_4_0 : List UInt8 := [27, 42, 190, 160, 0, 11, 42, 182, 1, 63, 192, 1, 64, 176, 27, 188, 11, 77, 42, 3, 44, 3, 42, 190]
abbrev dktJ18_copyOf_4_0 : List UInt8 := dkwJ18_copyOf_4_0 ++ dktJ18_copyOf_4_1
theorem dksJ18_copyOf_4_0 : cJ18_copyOf_4.data.toList.drop 0 = dktJ18_copyOf_4_0 := by decide +kernel
theorem dksJ18_copyOf_4_1 : cJ18_copyOf_4.data.toList.drop 24 = dktJ18_copyOf_4_1 := dk_seg dksJ18_copyOf_4_0 24 rfl rfl
theorem dJ18_copyOf_4_0 : decode cJ18_copyOf_4 0 = .ok (.iload_n 1, 1) := dk_27 (dk_at dksJ18_copyOf_4_0 0 rfl rfl)
theorem dJ18_copyOf_4_1 : decode cJ18_copyOf_4 1 = .ok (.aload_n 0, 1) := dk_42 (dk_at dksJ18_copyOf_4_0 1 rfl rfl)
theorem dJ18_copyOf_4_2 : decode cJ18_copyOf_4 2 = .ok (.arraylength, 1) := dk_190 (dk_at dksJ18_copyOf_4_0 2 rfl rfl)
theorem dJ18_copyOf_4_3 : decode cJ18_copyOf_4 3 = .ok (.if_icmp .ne 11, 3) := dk_160 0 11 (dk_at dksJ18_copyOf_4_0 3 rfl rfl)
theorem dJ18_copyOf_4_6 : decode cJ18_copyOf_4 6 = .ok (.aload_n 0, 1) := dk_42 (dk_at dksJ18_copyOf_4_0 6 rfl rfl)
theorem dJ18_copyOf_4_7 : decode cJ18_copyOf_4 7 = .ok (.invokevirtual 319, 3) := dk_182 1 63 (dk_at dksJ18_copyOf_4_0 7 rfl rfl)
theorem dJ18_copyOf_4_10 : decode cJ18_copyOf_4 10 = .ok (.checkcast 320, 3) := dk_192 1 64 (dk_at dksJ18_copyOf_4_0 10 rfl rfl)
theorem dJ18_copyOf_4_13 : decode cJ18_copyOf_4 13 = .ok (.areturn, 1) := dk_176 (dk_at dksJ18_copyOf_4_0 13 rfl rfl)
theorem dJ18_copyOf_4_14 : decode cJ18_copyOf_4 14 = .ok (.iload_n 1, 1) := dk_27 (dk_at dksJ18_copyOf_4_0 14 rfl rfl)
theorem dJ18_copyOf_4_15 : decode cJ18_copyOf_4 15 = .ok (.newarray .long, 2) := dk_188_11 (dk_at dksJ18_copyOf_4_0 15 rfl rfl)
theorem dJ18_copyOf_4_17 : decode cJ18_copyOf_4 17 = .ok (.astore_n 2, 1) := dk_77 (dk_at dksJ18_copyOf_4_0 17 rfl rfl)
theorem dJ18_copyOf_4_18 : decode cJ18_copyOf_4 18 = .ok (.aload_n 0, 1) := dk_42 (dk_at dksJ18_copyOf_4_0 18 rfl rfl)
theorem dJ18_copyOf_4_19 : decode cJ18_copyOf_4 19 = .ok (.iconst 0, 1) := dk_3 (dk_at dksJ18_copyOf_4_0 19 rfl rfl)
theorem dJ18_copyOf_4_20 : decode cJ18_copyOf_4 20 = .ok (.aload_n 2, 1) := dk_44 (dk_at dksJ18_copyOf_4_0 20 rfl rfl)
theorem dJ18_copyOf_4_21 : decode cJ18_copyOf_4 21 = .ok (.iconst 0, 1) := dk_3 (dk_at dksJ18_copyOf_4_0 21 rfl rfl)
theorem dJ18_copyOf_4_22 : decode cJ18_copyOf_4 22 = .ok (.aload_n 0, 1) := dk_42 (dk_at dksJ18_copyOf_4_0 22 rfl rfl)
theorem dJ18_copyOf_4_23 : decode cJ18_copyOf_4 23 = .ok (.arraylength, 1) := dk_190 (dk_at dksJ18_copyOf_4_0 23 rfl rfl)
theorem dJ18_copyOf_4_24 : decode cJ18_copyOf_4 24 = .ok (.iload_n 1, 1) := dk_27 (dk_at dksJ18_copyOf_4_1 0 rfl rfl)
theorem dJ18_copyOf_4_25 : decode cJ18_copyOf_4 25 = .ok (.invokestatic 304, 3) := dk_184 1 48 (dk_at dksJ18_copyOf_4_1 1 rfl rfl)
theorem dJ18_copyOf_4_28 : decode cJ18_copyOf_4 28 = .ok (.invokestatic 150, 3) := dk_184 0 150 (dk_at dksJ18_copyOf_4_1 4 rfl rfl)
theorem dJ18_copyOf_4_31 : decode cJ18_copyOf_4 31 = .ok (.aload_n 2, 1) := dk_44 (dk_at dksJ18_copyOf_4_1 7 rfl rfl)
theorem dJ18_copyOf_4_32 : decode cJ18_copyOf_4 32 = .ok (.areturn, 1) := dk_176 (dk_at dksJ18_copyOf_4_1 8 rfl rfl)
abbrev cJ18_fill : ByteArray := prog_65_method_110_code
def yJ18_fill : MethodName := ⟨RJ18, "fill", "([BIIB)V"⟩
def dkwJ18_fill_1 : List UInt8 := [167, 255, 242, 177]
abbrev dktJ18_fill_1 : List UInt8 := dkwJ18_fill_1 ++ []
def dkwJ18_fill_0 : List UInt8 := [42, 190, 27, 28, 184, 0, 13, 27, 54, 4, 21, 4, 28, 162, 0, 14, 42, 21, 4, 29, 84, 132, 4, 1]
abbrev dktJ18_fill_0 : List UInt8 := dkwJ18_fill_0 ++ dktJ18_fill_1
theorem dksJ18_fill_0 : cJ18_fill.data.toList.drop 0 = dktJ18_fill_0 := by decide +kernel
theorem dksJ18_fill_1 : cJ18_fill.data.toList.drop 24 = dktJ18_fill_1 := dk_seg dksJ18_fill_0 24 rfl rfl
theorem dJ18_fill_0 : decode cJ18_fill 0 = .ok (.aload_n 0, 1) := dk_42 (dk_at dksJ18_fill_0 0 rfl rfl)
theorem dJ18_fill_1 : decode cJ18_fill 1 = .ok (.arraylength, 1) := dk_190 (dk_at dksJ18_fill_0 1 rfl rfl)
theorem dJ18_fill_2 : decode cJ18_fill 2 = .ok (.iload_n 1, 1) := dk_27 (dk_at dksJ18_fill_0 2 rfl rfl)
theorem dJ18_fill_3 : decode cJ18_fill 3 = .ok (.iload_n 2, 1) := dk_28 (dk_at dksJ18_fill_0 3 rfl rfl)
theorem dJ18_fill_4 : decode cJ18_fill 4 = .ok (.invokestatic 13, 3) := dk_184 0 13 (dk_at dksJ18_fill_0 4 rfl rfl)
theorem dJ18_fill_7 : decode cJ18_fill 7 = .ok (.iload_n 1, 1) := dk_27 (dk_at dksJ18_fill_0 7 rfl rfl)
theorem dJ18_fill_8 : decode cJ18_fill 8 = .ok (.istore 4, 2) := dk_54 4 (dk_at dksJ18_fill_0 8 rfl rfl)
theorem dJ18_fill_10 : decode cJ18_fill 10 = .ok (.iload 4, 2) := dk_21 4 (dk_at dksJ18_fill_0 10 rfl rfl)
theorem dJ18_fill_12 : decode cJ18_fill 12 = .ok (.iload_n 2, 1) := dk_28 (dk_at dksJ18_fill_0 12 rfl rfl)
theorem dJ18_fill_13 : decode cJ18_fill 13 = .ok (.if_icmp .ge 14, 3) := dk_162 0 14 (dk_at dksJ18_fill_0 13 rfl rfl)
theorem dJ18_fill_16 : decode cJ18_fill 16 = .ok (.aload_n 0, 1) := dk_42 (dk_at dksJ18_fill_0 16 rfl rfl)
theorem dJ18_fill_17 : decode cJ18_fill 17 = .ok (.iload 4, 2) := dk_21 4 (dk_at dksJ18_fill_0 17 rfl rfl)
theorem dJ18_fill_19 : decode cJ18_fill 19 = .ok (.iload_n 3, 1) := dk_29 (dk_at dksJ18_fill_0 19 rfl rfl)
theorem dJ18_fill_20 : decode cJ18_fill 20 = .ok (.bastore, 1) := dk_84 (dk_at dksJ18_fill_0 20 rfl rfl)
theorem dJ18_fill_21 : decode cJ18_fill 21 = .ok (.iinc 4 1, 3) := dk_132 4 1 (dk_at dksJ18_fill_0 21 rfl rfl)
theorem dJ18_fill_24 : decode cJ18_fill 24 = .ok (.goto (-14), 3) := dk_167 255 242 (dk_at dksJ18_fill_1 0 rfl rfl)
theorem dJ18_fill_27 : decode cJ18_fill 27 = .ok (.return_, 1) := dk_177 (dk_at dksJ18_fill_1 3 rfl rfl)
abbrev cJ18_rangeCheck : ByteArray := prog_65_method_30_code
def yJ18_rangeCheck : MethodName := ⟨RJ18, "rangeCheck", "(III)V"⟩
def dkwJ18_rangeCheck_3 : List UInt8 := [183, 0, 70, 191, 177]
abbrev dktJ18_rangeCheck_3 : List UInt8 := dkwJ18_rangeCheck_3 ++ []
def dkwJ18_rangeCheck_2 : List UInt8 := [27, 156, 0, 12, 187, 0, 68, 89, 27, 183, 0, 70, 191, 28, 26, 164, 0, 12, 187, 0, 68, 89, 28]
abbrev dktJ18_rangeCheck_2 : List UInt8 := dkwJ18_rangeCheck_2 ++ dktJ18_rangeCheck_3
def dkwJ18_rangeCheck_1 : List UInt8 := [182, 0, 54, 18, 57, 182, 0, 50, 28, 182, 0, 54, 18, 59, 182, 0, 50, 182, 0, 61, 183, 0, 65, 191]
abbrev dktJ18_rangeCheck_1 : List UInt8 := dkwJ18_rangeCheck_1 ++ dktJ18_rangeCheck_2
def dkwJ18_rangeCheck_0 : List UInt8 := [27, 28, 164, 0, 44, 187, 0, 43, 89, 187, 0, 45, 89, 183, 0, 47, 18, 48, 182, 0, 50, 27]
abbrev dktJ18_rangeCheck_0 : List UInt8 := dkwJ18_rangeCheck_0 ++ dktJ18_rangeCheck_1
theorem dksJ18_rangeCheck_0 : cJ18_rangeCheck.data.toList.drop 0 = dktJ18_rangeCheck_0 := by decide +kernel
theorem dksJ18_rangeCheck_1 : cJ18_rangeCheck.data.toList.drop 22 = dktJ18_rangeCheck_1 := dk_seg dksJ18_rangeCheck_0 22 rfl rfl
theorem dksJ18_rangeCheck_2 : cJ18_rangeCheck.data.toList.drop 46 = dktJ18_rangeCheck_2 := dk_seg dksJ18_rangeCheck_1 24 rfl rfl
theorem dksJ18_rangeCheck_3 : cJ18_rangeCheck.data.toList.drop 69 = dktJ18_rangeCheck_3 := dk_seg dksJ18_rangeCheck_2 23 rfl rfl
theorem dJ18_rangeCheck_0 : decode cJ18_rangeCheck 0 = .ok (.iload_n 1, 1) := dk_27 (dk_at dksJ18_rangeCheck_0 0 rfl rfl)
theorem dJ18_rangeCheck_1 : decode cJ18_rangeCheck 1 = .ok (.iload_n 2, 1) := dk_28 (dk_at dksJ18_rangeCheck_0 1 rfl rfl)
theorem dJ18_rangeCheck_2 : decode cJ18_rangeCheck 2 = .ok (.if_icmp .le 44, 3) := dk_164 0 44 (dk_at dksJ18_rangeCheck_0 2 rfl rfl)
theorem dJ18_rangeCheck_5 : decode cJ18_rangeCheck 5 = .ok (.new 43, 3) := dk_187 0 43 (dk_at dksJ18_rangeCheck_0 5 rfl rfl)
theorem dJ18_rangeCheck_8 : decode cJ18_rangeCheck 8 = .ok (.dup, 1) := dk_89 (dk_at dksJ18_rangeCheck_0 8 rfl rfl)
theorem dJ18_rangeCheck_9 : decode cJ18_rangeCheck 9 = .ok (.new 45, 3) := dk_187 0 45 (dk_at dksJ18_rangeCheck_0 9 rfl rfl)
theorem dJ18_rangeCheck_12 : decode cJ18_rangeCheck 12 = .ok (.dup, 1) := dk_89 (dk_at dksJ18_rangeCheck_0 12 rfl rfl)
theorem dJ18_rangeCheck_13 : decode cJ18_rangeCheck 13 = .ok (.invokespecial 47, 3) := dk_183 0 47 (dk_at dksJ18_rangeCheck_0 13 rfl rfl)
theorem dJ18_rangeCheck_16 : decode cJ18_rangeCheck 16 = .ok (.ldc 48, 2) := dk_18 48 (dk_at dksJ18_rangeCheck_0 16 rfl rfl)
theorem dJ18_rangeCheck_18 : decode cJ18_rangeCheck 18 = .ok (.invokevirtual 50, 3) := dk_182 0 50 (dk_at dksJ18_rangeCheck_0 18 rfl rfl)
theorem dJ18_rangeCheck_21 : decode cJ18_rangeCheck 21 = .ok (.iload_n 1, 1) := dk_27 (dk_at dksJ18_rangeCheck_0 21 rfl rfl)
theorem dJ18_rangeCheck_22 : decode cJ18_rangeCheck 22 = .ok (.invokevirtual 54, 3) := dk_182 0 54 (dk_at dksJ18_rangeCheck_1 0 rfl rfl)
theorem dJ18_rangeCheck_25 : decode cJ18_rangeCheck 25 = .ok (.ldc 57, 2) := dk_18 57 (dk_at dksJ18_rangeCheck_1 3 rfl rfl)
theorem dJ18_rangeCheck_27 : decode cJ18_rangeCheck 27 = .ok (.invokevirtual 50, 3) := dk_182 0 50 (dk_at dksJ18_rangeCheck_1 5 rfl rfl)
theorem dJ18_rangeCheck_30 : decode cJ18_rangeCheck 30 = .ok (.iload_n 2, 1) := dk_28 (dk_at dksJ18_rangeCheck_1 8 rfl rfl)
theorem dJ18_rangeCheck_31 : decode cJ18_rangeCheck 31 = .ok (.invokevirtual 54, 3) := dk_182 0 54 (dk_at dksJ18_rangeCheck_1 9 rfl rfl)
theorem dJ18_rangeCheck_34 : decode cJ18_rangeCheck 34 = .ok (.ldc 59, 2) := dk_18 59 (dk_at dksJ18_rangeCheck_1 12 rfl rfl)
theorem dJ18_rangeCheck_36 : decode cJ18_rangeCheck 36 = .ok (.invokevirtual 50, 3) := dk_182 0 50 (dk_at dksJ18_rangeCheck_1 14 rfl rfl)
theorem dJ18_rangeCheck_39 : decode cJ18_rangeCheck 39 = .ok (.invokevirtual 61, 3) := dk_182 0 61 (dk_at dksJ18_rangeCheck_1 17 rfl rfl)
theorem dJ18_rangeCheck_42 : decode cJ18_rangeCheck 42 = .ok (.invokespecial 65, 3) := dk_183 0 65 (dk_at dksJ18_rangeCheck_1 20 rfl rfl)
theorem dJ18_rangeCheck_45 : decode cJ18_rangeCheck 45 = .ok (.athrow, 1) := dk_191 (dk_at dksJ18_rangeCheck_1 23 rfl rfl)
theorem dJ18_rangeCheck_46 : decode cJ18_rangeCheck 46 = .ok (.iload_n 1, 1) := dk_27 (dk_at dksJ18_rangeCheck_2 0 rfl rfl)
theorem dJ18_rangeCheck_47 : decode cJ18_rangeCheck 47 = .ok (.ifCond .ge 12, 3) := dk_156 0 12 (dk_at dksJ18_rangeCheck_2 1 rfl rfl)
theorem dJ18_rangeCheck_50 : decode cJ18_rangeCheck 50 = .ok (.new 68, 3) := dk_187 0 68 (dk_at dksJ18_rangeCheck_2 4 rfl rfl)
theorem dJ18_rangeCheck_53 : decode cJ18_rangeCheck 53 = .ok (.dup, 1) := dk_89 (dk_at dksJ18_rangeCheck_2 7 rfl rfl)
theorem dJ18_rangeCheck_54 : decode cJ18_rangeCheck 54 = .ok (.iload_n 1, 1) := dk_27 (dk_at dksJ18_rangeCheck_2 8 rfl rfl)
theorem dJ18_rangeCheck_55 : decode cJ18_rangeCheck 55 = .ok (.invokespecial 70, 3) := dk_183 0 70 (dk_at dksJ18_rangeCheck_2 9 rfl rfl)
theorem dJ18_rangeCheck_58 : decode cJ18_rangeCheck 58 = .ok (.athrow, 1) := dk_191 (dk_at dksJ18_rangeCheck_2 12 rfl rfl)
theorem dJ18_rangeCheck_59 : decode cJ18_rangeCheck 59 = .ok (.iload_n 2, 1) := dk_28 (dk_at dksJ18_rangeCheck_2 13 rfl rfl)
theorem dJ18_rangeCheck_60 : decode cJ18_rangeCheck 60 = .ok (.iload_n 0, 1) := dk_26 (dk_at dksJ18_rangeCheck_2 14 rfl rfl)
theorem dJ18_rangeCheck_61 : decode cJ18_rangeCheck 61 = .ok (.if_icmp .le 12, 3) := dk_164 0 12 (dk_at dksJ18_rangeCheck_2 15 rfl rfl)
theorem dJ18_rangeCheck_64 : decode cJ18_rangeCheck 64 = .ok (.new 68, 3) := dk_187 0 68 (dk_at dksJ18_rangeCheck_2 18 rfl rfl)
theorem dJ18_rangeCheck_67 : decode cJ18_rangeCheck 67 = .ok (.dup, 1) := dk_89 (dk_at dksJ18_rangeCheck_2 21 rfl rfl)
theorem dJ18_rangeCheck_68 : decode cJ18_rangeCheck 68 = .ok (.iload_n 2, 1) := dk_28 (dk_at dksJ18_rangeCheck_2 22 rfl rfl)
theorem dJ18_rangeCheck_69 : decode cJ18_rangeCheck 69 = .ok (.invokespecial 70, 3) := dk_183 0 70 (dk_at dksJ18_rangeCheck_3 0 rfl rfl)
theorem dJ18_rangeCheck_72 : decode cJ18_rangeCheck 72 = .ok (.athrow, 1) := dk_191 (dk_at dksJ18_rangeCheck_3 3 rfl rfl)
theorem dJ18_rangeCheck_73 : decode cJ18_rangeCheck 73 = .ok (.return_, 1) := dk_177 (dk_at dksJ18_rangeCheck_3 4 rfl rfl)
theorem q141 : (Jvm.Cond.initialized "java/util/Arrays") ∈ lw_all := lw_g (lw_at lw_m1 22 rfl) rfl
theorem q388 : (Jvm.Cond.static ({ cls := "java/util/Arrays", name := "copyOf", desc := "([BI)[B" } : Jvm.MethodName)) ∈ lw_all := lw_g (lw_at lw_m2 29 rfl) rfl
theorem q389 : (Jvm.Cond.code ({ cls := "java/util/Arrays", name := "copyOf", desc := "([BI)[B" } : Jvm.MethodName) prog_65_method_121_code (3 : Nat) (Option.some (Jvm.ClassFile.FieldType.array Jvm.ClassFile.FieldType.byte))) ∈ lw_all := lw_g (lw_at lw_m2 30 rfl) rfl
theorem q390 : (Jvm.Cond.methodLink "java/util/Arrays" (310 : Nat) ({ cls := "[B", name := "clone", desc := "()Ljava/lang/Object;" } : Jvm.MethodName)) ∈ lw_all := lw_g (lw_at lw_m2 31 rfl) rfl
theorem q396 : (Jvm.Cond.classLink "java/util/Arrays" (311 : Nat) "[B") ∈ lw_all := lw_g (lw_at lw_m2 37 rfl) rfl
theorem q397 : (Jvm.Cond.methodLink "java/util/Arrays" (304 : Nat) ({ cls := "java/lang/Math", name := "min", desc := "(II)I" } : Jvm.MethodName)) ∈ lw_all := lw_g (lw_at lw_m2 38 rfl) rfl
theorem q400 : (Jvm.Cond.methodLink "java/util/Arrays" (150 : Nat) ({ cls := "java/lang/System", name := "arraycopy", desc := "(Ljava/lang/Object;ILjava/lang/Object;II)V" } : Jvm.MethodName)) ∈ lw_all := lw_g (lw_at lw_m2 41 rfl) rfl
theorem q530 : (Jvm.Cond.static ({ cls := "java/util/Arrays", name := "copyOfRange", desc := "([BII)[B" } : Jvm.MethodName)) ∈ lw_all := lw_g (lw_at lw_m2 171 rfl) rfl
theorem q531 : (Jvm.Cond.code ({ cls := "java/util/Arrays", name := "copyOfRange", desc := "([BII)[B" } : Jvm.MethodName) prog_65_method_132_code (3 : Nat) (Option.some (Jvm.ClassFile.FieldType.array Jvm.ClassFile.FieldType.byte))) ∈ lw_all := lw_g (lw_at lw_m2 172 rfl) rfl
theorem q532 : (Jvm.Cond.methodLink "java/util/Arrays" (339 : Nat) ({ cls := "java/util/Arrays", name := "copyOfRangeByte", desc := "([BII)[B" } : Jvm.MethodName)) ∈ lw_all := lw_g (lw_at lw_m2 173 rfl) rfl
theorem q533 : (Jvm.Cond.static ({ cls := "java/util/Arrays", name := "copyOfRangeByte", desc := "([BII)[B" } : Jvm.MethodName)) ∈ lw_all := lw_g (lw_at lw_m2 174 rfl) rfl
theorem q534 : (Jvm.Cond.code ({ cls := "java/util/Arrays", name := "copyOfRangeByte", desc := "([BII)[B" } : Jvm.MethodName) prog_65_method_133_code (5 : Nat) (Option.some (Jvm.ClassFile.FieldType.array Jvm.ClassFile.FieldType.byte))) ∈ lw_all := lw_g (lw_at lw_m2 175 rfl) rfl
theorem q535 : (Jvm.Cond.methodLink "java/util/Arrays" (343 : Nat) ({ cls := "java/util/Arrays", name := "checkLength", desc := "(II)V" } : Jvm.MethodName)) ∈ lw_all := lw_g (lw_at lw_m2 176 rfl) rfl
theorem q536 : (Jvm.Cond.static ({ cls := "java/util/Arrays", name := "checkLength", desc := "(II)V" } : Jvm.MethodName)) ∈ lw_all := lw_g (lw_at lw_m2 177 rfl) rfl
theorem q537 : (Jvm.Cond.code ({ cls := "java/util/Arrays", name := "checkLength", desc := "(II)V" } : Jvm.MethodName) prog_65_method_131_code (2 : Nat) (Option.none : Option Jvm.ClassFile.FieldType)) ∈ lw_all := lw_g (lw_at lw_m2 178 rfl) rfl
theorem q538 : (Jvm.Cond.classLink "java/util/Arrays" (43 : Nat) "java/lang/IllegalArgumentException") ∈ lw_all := lw_g (lw_at lw_m2 179 rfl) rfl
theorem q539 : (Jvm.Cond.classLink "java/util/Arrays" (45 : Nat) "java/lang/StringBuilder") ∈ lw_all := lw_g (lw_at lw_m2 180 rfl) rfl
theorem q540 : (Jvm.Cond.methodLink "java/util/Arrays" (47 : Nat) ({ cls := "java/lang/StringBuilder", name := "<init>", desc := "()V" } : Jvm.MethodName)) ∈ lw_all := lw_g (lw_at lw_m2 181 rfl) rfl
theorem q541 : (Jvm.Cond.methodLink "java/util/Arrays" (54 : Nat) ({ cls := "java/lang/StringBuilder", name := "append", desc := "(I)Ljava/lang/StringBuilder;" } : Jvm.MethodName)) ∈ lw_all := lw_g (lw_at lw_m2 182 rfl) rfl
theorem q542 : (Jvm.Cond.stringRef "java/util/Arrays" (337 : Nat) " > ") ∈ lw_tbl := lw_at lw_m2 183 rfl
theorem q543 : (Jvm.Cond.methodLink "java/util/Arrays" (50 : Nat) ({ cls := "java/lang/StringBuilder", name := "append", desc := "(Ljava/lang/String;)Ljava/lang/StringBuilder;" } : Jvm.MethodName)) ∈ lw_all := lw_g (lw_at lw_m2 184 rfl) rfl
theorem q544 : (Jvm.Cond.methodLink "java/util/Arrays" (61 : Nat) ({ cls := "java/lang/StringBuilder", name := "toString", desc := "()Ljava/lang/String;" } : Jvm.MethodName)) ∈ lw_all := lw_g (lw_at lw_m2 185 rfl) rfl
theorem q545 : (Jvm.Cond.methodLink "java/util/Arrays" (65 : Nat) ({ cls := "java/lang/IllegalArgumentException", name := "<init>", desc := "(Ljava/lang/String;)V" } : Jvm.MethodName)) ∈ lw_all := lw_g (lw_at lw_m2 186 rfl) rfl
theorem q1550 : (Jvm.Cond.static ({ cls := "java/util/Arrays", name := "copyOf", desc := "([Ljava/lang/Object;I)[Ljava/lang/Object;" } : Jvm.MethodName)) ∈ lw_all := lw_g (lw_at lw_m6 231 rfl) rfl
theorem q1551 : (Jvm.Cond.code ({ cls := "java/util/Arrays", name := "copyOf", desc := "([Ljava/lang/Object;I)[Ljava/lang/Object;" } : Jvm.MethodName) prog_65_method_119_code (2 : Nat) (Option.some (Jvm.ClassFile.FieldType.array (Jvm.ClassFile.FieldType.object "java/lang/Object")))) ∈ lw_all := lw_g (lw_at lw_m6 232 rfl) rfl
theorem q1552 : (Jvm.Cond.methodLink "java/util/Arrays" (86 : Nat) ({ cls := "java/lang/Object", name := "getClass", desc := "()Ljava/lang/Class;" } : Jvm.MethodName)) ∈ lw_all := lw_g (lw_at lw_m6 233 rfl) rfl
theorem q1553 : (Jvm.Cond.methodLink "java/util/Arrays" (300 : Nat) ({ cls := "java/util/Arrays", name := "copyOf", desc := "([Ljava/lang/Object;ILjava/lang/Class;)[Ljava/lang/Object;" } : Jvm.MethodName)) ∈ lw_all := lw_g (lw_at lw_m6 234 rfl) rfl
theorem q1554 : (Jvm.Cond.static ({ cls := "java/util/Arrays", name := "copyOf", desc := "([Ljava/lang/Object;ILjava/lang/Class;)[Ljava/lang/Object;" } : Jvm.MethodName)) ∈ lw_all := lw_g (lw_at lw_m6 235 rfl) rfl
theorem q1555 : (Jvm.Cond.code ({ cls := "java/util/Arrays", name := "copyOf", desc := "([Ljava/lang/Object;ILjava/lang/Class;)[Ljava/lang/Object;" } : Jvm.MethodName) prog_65_method_120_code (4 : Nat) (Option.some (Jvm.ClassFile.FieldType.array (Jvm.ClassFile.FieldType.object "java/lang/Object")))) ∈ lw_all := lw_g (lw_at lw_m6 236 rfl) rfl
theorem q1556 : (Jvm.Cond.classLink "java/util/Arrays" (110 : Nat) "[Ljava/lang/Object;") ∈ lw_all := lw_g (lw_at lw_m6 237 rfl) rfl
theorem q1557 : (Jvm.Cond.classLink "java/util/Arrays" (2 : Nat) "java/lang/Object") ∈ lw_all := lw_g (lw_at lw_m6 238 rfl) rfl
theorem q2281 : (Jvm.Cond.static ({ cls := "java/util/Arrays", name := "copyOf", desc := "([JI)[J" } : Jvm.MethodName)) ∈ lw_all := lw_g (lw_at lw_m10 2 rfl) rfl
theorem q2282 : (Jvm.Cond.code ({ cls := "java/util/Arrays", name := "copyOf", desc := "([JI)[J" } : Jvm.MethodName) prog_65_method_124_code (3 : Nat) (Option.some (Jvm.ClassFile.FieldType.array Jvm.ClassFile.FieldType.long))) ∈ lw_all := lw_g (lw_at lw_m10 3 rfl) rfl
theorem q2283 : (Jvm.Cond.methodLink "java/util/Arrays" (319 : Nat) ({ cls := "[J", name := "clone", desc := "()Ljava/lang/Object;" } : Jvm.MethodName)) ∈ lw_all := lw_g (lw_at lw_m10 4 rfl) rfl
theorem q2287 : (Jvm.Cond.classLink "java/util/Arrays" (320 : Nat) "[J") ∈ lw_all := lw_g (lw_at lw_m10 8 rfl) rfl
theorem q2766 : (Jvm.Cond.static ({ cls := "java/util/Arrays", name := "fill", desc := "([BIIB)V" } : Jvm.MethodName)) ∈ lw_all := lw_g (lw_at lw_m12 7 rfl) rfl
theorem q2767 : (Jvm.Cond.code ({ cls := "java/util/Arrays", name := "fill", desc := "([BIIB)V" } : Jvm.MethodName) prog_65_method_110_code (5 : Nat) (Option.none : Option Jvm.ClassFile.FieldType)) ∈ lw_all := lw_g (lw_at lw_m12 8 rfl) rfl
theorem q2768 : (Jvm.Cond.methodLink "java/util/Arrays" (13 : Nat) ({ cls := "java/util/Arrays", name := "rangeCheck", desc := "(III)V" } : Jvm.MethodName)) ∈ lw_all := lw_g (lw_at lw_m12 9 rfl) rfl
theorem q2769 : (Jvm.Cond.static ({ cls := "java/util/Arrays", name := "rangeCheck", desc := "(III)V" } : Jvm.MethodName)) ∈ lw_all := lw_g (lw_at lw_m12 10 rfl) rfl
theorem q2770 : (Jvm.Cond.code ({ cls := "java/util/Arrays", name := "rangeCheck", desc := "(III)V" } : Jvm.MethodName) prog_65_method_30_code (3 : Nat) (Option.none : Option Jvm.ClassFile.FieldType)) ∈ lw_all := lw_g (lw_at lw_m12 11 rfl) rfl
theorem q2771 : (Jvm.Cond.stringRef "java/util/Arrays" (48 : Nat) "fromIndex(") ∈ lw_tbl := lw_at lw_m12 12 rfl
theorem q2772 : (Jvm.Cond.stringRef "java/util/Arrays" (57 : Nat) ") > toIndex(") ∈ lw_tbl := lw_at lw_m12 13 rfl
theorem q2773 : (Jvm.Cond.stringRef "java/util/Arrays" (59 : Nat) ")") ∈ lw_tbl := lw_at lw_m12 14 rfl
theorem q2774 : (Jvm.Cond.classLink "java/util/Arrays" (68 : Nat) "java/lang/ArrayIndexOutOfBoundsException") ∈ lw_all := lw_g (lw_at lw_m12 15 rfl) rfl
theorem q2775 : (Jvm.Cond.methodLink "java/util/Arrays" (70 : Nat) ({ cls := "java/lang/ArrayIndexOutOfBoundsException", name := "<init>", desc := "(I)V" } : Jvm.MethodName)) ∈ lw_all := lw_g (lw_at lw_m12 16 rfl) rfl
/-! jdk/internal/util/Preconditions -/
set_option maxRecDepth 100000
def RJ19 : String := "jdk/internal/util/Preconditions"
abbrev cJ19_checkFromToIndex : ByteArray := prog_89_method_12_code
def yJ19_checkFromToIndex : MethodName := ⟨RJ19, "checkFromToIndex", "(IIILjava/util/function/BiFunction;)I"⟩
def dkwJ19_checkFromToIndex_0 : List UInt8 := [26, 155, 0, 13, 26, 27, 163, 0, 8, 27, 28, 164, 0, 11, 45, 26, 27, 28, 184, 0, 99, 191, 26, 172]
abbrev dktJ19_checkFromToIndex_0 : List UInt8 := dkwJ19_checkFromToIndex_0 ++ []
theorem dksJ19_checkFromToIndex_0 : cJ19_checkFromToIndex.data.toList.drop 0 = dktJ19_checkFromToIndex_0 := by decide +kernel
theorem dJ19_checkFromToIndex_0 : decode cJ19_checkFromToIndex 0 = .ok (.iload_n 0, 1) := dk_26 (dk_at dksJ19_checkFromToIndex_0 0 rfl rfl)
theorem dJ19_checkFromToIndex_1 : decode cJ19_checkFromToIndex 1 = .ok (.ifCond .lt 13, 3) := dk_155 0 13 (dk_at dksJ19_checkFromToIndex_0 1 rfl rfl)
theorem dJ19_checkFromToIndex_4 : decode cJ19_checkFromToIndex 4 = .ok (.iload_n 0, 1) := dk_26 (dk_at dksJ19_checkFromToIndex_0 4 rfl rfl)
theorem dJ19_checkFromToIndex_5 : decode cJ19_checkFromToIndex 5 = .ok (.iload_n 1, 1) := dk_27 (dk_at dksJ19_checkFromToIndex_0 5 rfl rfl)
theorem dJ19_checkFromToIndex_6 : decode cJ19_checkFromToIndex 6 = .ok (.if_icmp .gt 8, 3) := dk_163 0 8 (dk_at dksJ19_checkFromToIndex_0 6 rfl rfl)
theorem dJ19_checkFromToIndex_9 : decode cJ19_checkFromToIndex 9 = .ok (.iload_n 1, 1) := dk_27 (dk_at dksJ19_checkFromToIndex_0 9 rfl rfl)
theorem dJ19_checkFromToIndex_10 : decode cJ19_checkFromToIndex 10 = .ok (.iload_n 2, 1) := dk_28 (dk_at dksJ19_checkFromToIndex_0 10 rfl rfl)
theorem dJ19_checkFromToIndex_11 : decode cJ19_checkFromToIndex 11 = .ok (.if_icmp .le 11, 3) := dk_164 0 11 (dk_at dksJ19_checkFromToIndex_0 11 rfl rfl)
theorem dJ19_checkFromToIndex_14 : decode cJ19_checkFromToIndex 14 = .ok (.aload_n 3, 1) := dk_45 (dk_at dksJ19_checkFromToIndex_0 14 rfl rfl)
theorem dJ19_checkFromToIndex_15 : decode cJ19_checkFromToIndex 15 = .ok (.iload_n 0, 1) := dk_26 (dk_at dksJ19_checkFromToIndex_0 15 rfl rfl)
theorem dJ19_checkFromToIndex_16 : decode cJ19_checkFromToIndex 16 = .ok (.iload_n 1, 1) := dk_27 (dk_at dksJ19_checkFromToIndex_0 16 rfl rfl)
theorem dJ19_checkFromToIndex_17 : decode cJ19_checkFromToIndex 17 = .ok (.iload_n 2, 1) := dk_28 (dk_at dksJ19_checkFromToIndex_0 17 rfl rfl)
theorem dJ19_checkFromToIndex_18 : decode cJ19_checkFromToIndex 18 = .ok (.invokestatic 99, 3) := dk_184 0 99 (dk_at dksJ19_checkFromToIndex_0 18 rfl rfl)
theorem dJ19_checkFromToIndex_21 : decode cJ19_checkFromToIndex 21 = .ok (.athrow, 1) := dk_191 (dk_at dksJ19_checkFromToIndex_0 21 rfl rfl)
theorem dJ19_checkFromToIndex_22 : decode cJ19_checkFromToIndex 22 = .ok (.iload_n 0, 1) := dk_26 (dk_at dksJ19_checkFromToIndex_0 22 rfl rfl)
theorem dJ19_checkFromToIndex_23 : decode cJ19_checkFromToIndex 23 = .ok (.ireturn, 1) := dk_172 (dk_at dksJ19_checkFromToIndex_0 23 rfl rfl)
abbrev cJ19_checkFromIndexSize : ByteArray := prog_89_method_13_code
def yJ19_checkFromIndexSize : MethodName := ⟨RJ19, "checkFromIndexSize", "(IIILjava/util/function/BiFunction;)I"⟩
def dkwJ19_checkFromIndexSize_1 : List UInt8 := [172]
abbrev dktJ19_checkFromIndexSize_1 : List UInt8 := dkwJ19_checkFromIndexSize_1 ++ []
def dkwJ19_checkFromIndexSize_0 : List UInt8 := [28, 26, 128, 27, 128, 155, 0, 10, 27, 28, 26, 100, 164, 0, 11, 45, 26, 27, 28, 184, 0, 103, 191, 26]
abbrev dktJ19_checkFromIndexSize_0 : List UInt8 := dkwJ19_checkFromIndexSize_0 ++ dktJ19_checkFromIndexSize_1
theorem dksJ19_checkFromIndexSize_0 : cJ19_checkFromIndexSize.data.toList.drop 0 = dktJ19_checkFromIndexSize_0 := by decide +kernel
theorem dksJ19_checkFromIndexSize_1 : cJ19_checkFromIndexSize.data.toList.drop 24 = dktJ19_checkFromIndexSize_1 := dk_seg dksJ19_checkFromIndexSize_0 24 rfl rfl
theorem dJ19_checkFromIndexSize_0 : decode cJ19_checkFromIndexSize 0 = .ok (.iload_n 2, 1) := dk_28 (dk_at dksJ19_checkFromIndexSize_0 0 rfl rfl)
theorem dJ19_checkFromIndexSize_1 : decode cJ19_checkFromIndexSize 1 = .ok (.iload_n 0, 1) := dk_26 (dk_at dksJ19_checkFromIndexSize_0 1 rfl rfl)
theorem dJ19_checkFromIndexSize_2 : decode cJ19_checkFromIndexSize 2 = .ok (.ior, 1) := dk_128 (dk_at dksJ19_checkFromIndexSize_0 2 rfl rfl)
theorem dJ19_checkFromIndexSize_3 : decode cJ19_checkFromIndexSize 3 = .ok (.iload_n 1, 1) := dk_27 (dk_at dksJ19_checkFromIndexSize_0 3 rfl rfl)
theorem dJ19_checkFromIndexSize_4 : decode cJ19_checkFromIndexSize 4 = .ok (.ior, 1) := dk_128 (dk_at dksJ19_checkFromIndexSize_0 4 rfl rfl)
theorem dJ19_checkFromIndexSize_5 : decode cJ19_checkFromIndexSize 5 = .ok (.ifCond .lt 10, 3) := dk_155 0 10 (dk_at dksJ19_checkFromIndexSize_0 5 rfl rfl)
theorem dJ19_checkFromIndexSize_8 : decode cJ19_checkFromIndexSize 8 = .ok (.iload_n 1, 1) := dk_27 (dk_at dksJ19_checkFromIndexSize_0 8 rfl rfl)
theorem dJ19_checkFromIndexSize_9 : decode cJ19_checkFromIndexSize 9 = .ok (.iload_n 2, 1) := dk_28 (dk_at dksJ19_checkFromIndexSize_0 9 rfl rfl)
theorem dJ19_checkFromIndexSize_10 : decode cJ19_checkFromIndexSize 10 = .ok (.iload_n 0, 1) := dk_26 (dk_at dksJ19_checkFromIndexSize_0 10 rfl rfl)
theorem dJ19_checkFromIndexSize_11 : decode cJ19_checkFromIndexSize 11 = .ok (.isub, 1) := dk_100 (dk_at dksJ19_checkFromIndexSize_0 11 rfl rfl)
theorem dJ19_checkFromIndexSize_12 : decode cJ19_checkFromIndexSize 12 = .ok (.if_icmp .le 11, 3) := dk_164 0 11 (dk_at dksJ19_checkFromIndexSize_0 12 rfl rfl)
theorem dJ19_checkFromIndexSize_15 : decode cJ19_checkFromIndexSize 15 = .ok (.aload_n 3, 1) := dk_45 (dk_at dksJ19_checkFromIndexSize_0 15 rfl rfl)
theorem dJ19_checkFromIndexSize_16 : decode cJ19_checkFromIndexSize 16 = .ok (.iload_n 0, 1) := dk_26 (dk_at dksJ19_checkFromIndexSize_0 16 rfl rfl)
theorem dJ19_checkFromIndexSize_17 : decode cJ19_checkFromIndexSize 17 = .ok (.iload_n 1, 1) := dk_27 (dk_at dksJ19_checkFromIndexSize_0 17 rfl rfl)
theorem dJ19_checkFromIndexSize_18 : decode cJ19_checkFromIndexSize 18 = .ok (.iload_n 2, 1) := dk_28 (dk_at dksJ19_checkFromIndexSize_0 18 rfl rfl)
theorem dJ19_checkFromIndexSize_19 : decode cJ19_checkFromIndexSize 19 = .ok (.invokestatic 103, 3) := dk_184 0 103 (dk_at dksJ19_checkFromIndexSize_0 19 rfl rfl)
theorem dJ19_checkFromIndexSize_22 : decode cJ19_checkFromIndexSize 22 = .ok (.athrow, 1) := dk_191 (dk_at dksJ19_checkFromIndexSize_0 22 rfl rfl)
theorem dJ19_checkFromIndexSize_23 : decode cJ19_checkFromIndexSize 23 = .ok (.iload_n 0, 1) := dk_26 (dk_at dksJ19_checkFromIndexSize_0 23 rfl rfl)
theorem dJ19_checkFromIndexSize_24 : decode cJ19_checkFromIndexSize 24 = .ok (.ireturn, 1) := dk_172 (dk_at dksJ19_checkFromIndexSize_1 0 rfl rfl)
abbrev cJ19_checkIndex : ByteArray := prog_89_method_11_code
def yJ19_checkIndex : MethodName := ⟨RJ19, "checkIndex", "(IILjava/util/function/BiFunction;)I"⟩
def dkwJ19_checkIndex_0 : List UInt8 := [26, 155, 0, 8, 26, 27, 161, 0, 10, 44, 26, 27, 184, 0, 95, 191, 26, 172]
abbrev dktJ19_checkIndex_0 : List UInt8 := dkwJ19_checkIndex_0 ++ []
theorem dksJ19_checkIndex_0 : cJ19_checkIndex.data.toList.drop 0 = dktJ19_checkIndex_0 := by decide +kernel
theorem dJ19_checkIndex_0 : decode cJ19_checkIndex 0 = .ok (.iload_n 0, 1) := dk_26 (dk_at dksJ19_checkIndex_0 0 rfl rfl)
theorem dJ19_checkIndex_1 : decode cJ19_checkIndex 1 = .ok (.ifCond .lt 8, 3) := dk_155 0 8 (dk_at dksJ19_checkIndex_0 1 rfl rfl)
theorem dJ19_checkIndex_4 : decode cJ19_checkIndex 4 = .ok (.iload_n 0, 1) := dk_26 (dk_at dksJ19_checkIndex_0 4 rfl rfl)
theorem dJ19_checkIndex_5 : decode cJ19_checkIndex 5 = .ok (.iload_n 1, 1) := dk_27 (dk_at dksJ19_checkIndex_0 5 rfl rfl)
theorem dJ19_checkIndex_6 : decode cJ19_checkIndex 6 = .ok (.if_icmp .lt 10, 3) := dk_161 0 10 (dk_at dksJ19_checkIndex_0 6 rfl rfl)
theorem dJ19_checkIndex_9 : decode cJ19_checkIndex 9 = .ok (.aload_n 2, 1) := dk_44 (dk_at dksJ19_checkIndex_0 9 rfl rfl)
theorem dJ19_checkIndex_10 : decode cJ19_checkIndex 10 = .ok (.iload_n 0, 1) := dk_26 (dk_at dksJ19_checkIndex_0 10 rfl rfl)
theorem dJ19_checkIndex_11 : decode cJ19_checkIndex 11 = .ok (.iload_n 1, 1) := dk_27 (dk_at dksJ19_checkIndex_0 11 rfl rfl)
theorem dJ19_checkIndex_12 : decode cJ19_checkIndex 12 = .ok (.invokestatic 95, 3) := dk_184 0 95 (dk_at dksJ19_checkIndex_0 12 rfl rfl)
theorem dJ19_checkIndex_15 : decode cJ19_checkIndex 15 = .ok (.athrow, 1) := dk_191 (dk_at dksJ19_checkIndex_0 15 rfl rfl)
theorem dJ19_checkIndex_16 : decode cJ19_checkIndex 16 = .ok (.iload_n 0, 1) := dk_26 (dk_at dksJ19_checkIndex_0 16 rfl rfl)
theorem dJ19_checkIndex_17 : decode cJ19_checkIndex 17 = .ok (.ireturn, 1) := dk_172 (dk_at dksJ19_checkIndex_0 17 rfl rfl)
theorem q143 : (Jvm.Cond.initialized "jdk/internal/util/Preconditions") ∈ lw_all := lw_g (lw_at lw_m1 24 rfl) rfl
theorem q421 : (Jvm.Cond.laysStatic "jdk/internal/util/Preconditions" "SIOOBE_FORMATTER" "Ljava/util/function/BiFunction;") ∈ lw_tbl := lw_at lw_m2 62 rfl
theorem q423 : (Jvm.Cond.static ({ cls := "jdk/internal/util/Preconditions", name := "checkFromToIndex", desc := "(IIILjava/util/function/BiFunction;)I" } : Jvm.MethodName)) ∈ lw_all := lw_g (lw_at lw_m2 64 rfl) rfl
theorem q424 : (Jvm.Cond.code ({ cls := "jdk/internal/util/Preconditions", name := "checkFromToIndex", desc := "(IIILjava/util/function/BiFunction;)I" } : Jvm.MethodName) prog_89_method_12_code (4 : Nat) (Option.some Jvm.ClassFile.FieldType.int)) ∈ lw_all := lw_g (lw_at lw_m2 65 rfl) rfl
theorem q469 : (Jvm.Cond.static ({ cls := "jdk/internal/util/Preconditions", name := "checkFromIndexSize", desc := "(IIILjava/util/function/BiFunction;)I" } : Jvm.MethodName)) ∈ lw_all := lw_g (lw_at lw_m2 110 rfl) rfl
theorem q470 : (Jvm.Cond.code ({ cls := "jdk/internal/util/Preconditions", name := "checkFromIndexSize", desc := "(IIILjava/util/function/BiFunction;)I" } : Jvm.MethodName) prog_89_method_13_code (4 : Nat) (Option.some Jvm.ClassFile.FieldType.int)) ∈ lw_all := lw_g (lw_at lw_m2 111 rfl) rfl
theorem q800 : (Jvm.Cond.static ({ cls := "jdk/internal/util/Preconditions", name := "checkIndex", desc := "(IILjava/util/function/BiFunction;)I" } : Jvm.MethodName)) ∈ lw_all := lw_g (lw_at lw_m3 201 rfl) rfl
theorem q801 : (Jvm.Cond.code ({ cls := "jdk/internal/util/Preconditions", name := "checkIndex", desc := "(IILjava/util/function/BiFunction;)I" } : Jvm.MethodName) prog_89_method_11_code (3 : Nat) (Option.some Jvm.ClassFile.FieldType.int)) ∈ lw_all := lw_g (lw_at lw_m3 202 rfl) rfl
/-! java/lang/StringLatin1 -/
set_option maxRecDepth 100000
def RJ20 : String := "java/lang/StringLatin1"
abbrev cJ20_inflate : ByteArray := prog_49_method_50_code
def yJ20_inflate : MethodName := ⟨RJ20, "inflate", "([BI[BII)V"⟩
def dkwJ20_inflate_0 : List UInt8 := [42, 27, 44, 29, 21, 4, 184, 0, 240, 177]
abbrev dktJ20_inflate_0 : List UInt8 := dkwJ20_inflate_0 ++ []
theorem dksJ20_inflate_0 : cJ20_inflate.data.toList.drop 0 = dktJ20_inflate_0 := by decide +kernel
theorem dJ20_inflate_0 : decode cJ20_inflate 0 = .ok (.aload_n 0, 1) := dk_42 (dk_at dksJ20_inflate_0 0 rfl rfl)
theorem dJ20_inflate_1 : decode cJ20_inflate 1 = .ok (.iload_n 1, 1) := dk_27 (dk_at dksJ20_inflate_0 1 rfl rfl)
theorem dJ20_inflate_2 : decode cJ20_inflate 2 = .ok (.aload_n 2, 1) := dk_44 (dk_at dksJ20_inflate_0 2 rfl rfl)
theorem dJ20_inflate_3 : decode cJ20_inflate 3 = .ok (.iload_n 3, 1) := dk_29 (dk_at dksJ20_inflate_0 3 rfl rfl)
theorem dJ20_inflate_4 : decode cJ20_inflate 4 = .ok (.iload 4, 2) := dk_21 4 (dk_at dksJ20_inflate_0 4 rfl rfl)
theorem dJ20_inflate_6 : decode cJ20_inflate 6 = .ok (.invokestatic 240, 3) := dk_184 0 240 (dk_at dksJ20_inflate_0 6 rfl rfl)
theorem dJ20_inflate_9 : decode cJ20_inflate 9 = .ok (.return_, 1) := dk_177 (dk_at dksJ20_inflate_0 9 rfl rfl)
abbrev cJ20_canEncode : ByteArray := prog_49_method_3_code
def yJ20_canEncode : MethodName := ⟨RJ20, "canEncode", "(C)Z"⟩
def dkwJ20_canEncode_0 : List UInt8 := [26, 17, 0, 255, 163, 0, 7, 4, 167, 0, 4, 3, 172]
abbrev dktJ20_canEncode_0 : List UInt8 := dkwJ20_canEncode_0 ++ []
theorem dksJ20_canEncode_0 : cJ20_canEncode.data.toList.drop 0 = dktJ20_canEncode_0 := by decide +kernel
theorem dJ20_canEncode_0 : decode cJ20_canEncode 0 = .ok (.iload_n 0, 1) := dk_26 (dk_at dksJ20_canEncode_0 0 rfl rfl)
theorem dJ20_canEncode_1 : decode cJ20_canEncode 1 = .ok (.sipush 255, 3) := dk_17 0 255 (dk_at dksJ20_canEncode_0 1 rfl rfl)
theorem dJ20_canEncode_4 : decode cJ20_canEncode 4 = .ok (.if_icmp .gt 7, 3) := dk_163 0 7 (dk_at dksJ20_canEncode_0 4 rfl rfl)
theorem dJ20_canEncode_7 : decode cJ20_canEncode 7 = .ok (.iconst 1, 1) := dk_4 (dk_at dksJ20_canEncode_0 7 rfl rfl)
theorem dJ20_canEncode_8 : decode cJ20_canEncode 8 = .ok (.goto 4, 3) := dk_167 0 4 (dk_at dksJ20_canEncode_0 8 rfl rfl)
theorem dJ20_canEncode_11 : decode cJ20_canEncode 11 = .ok (.iconst 0, 1) := dk_3 (dk_at dksJ20_canEncode_0 11 rfl rfl)
theorem dJ20_canEncode_12 : decode cJ20_canEncode 12 = .ok (.ireturn, 1) := dk_172 (dk_at dksJ20_canEncode_0 12 rfl rfl)
abbrev cJ20_charAt : ByteArray := prog_49_method_2_code
def yJ20_charAt : MethodName := ⟨RJ20, "charAt", "([BI)C"⟩
def dkwJ20_charAt_0 : List UInt8 := [27, 42, 190, 184, 0, 9, 42, 27, 51, 17, 0, 255, 126, 146, 172]
abbrev dktJ20_charAt_0 : List UInt8 := dkwJ20_charAt_0 ++ []
theorem dksJ20_charAt_0 : cJ20_charAt.data.toList.drop 0 = dktJ20_charAt_0 := by decide +kernel
theorem dJ20_charAt_0 : decode cJ20_charAt 0 = .ok (.iload_n 1, 1) := dk_27 (dk_at dksJ20_charAt_0 0 rfl rfl)
theorem dJ20_charAt_1 : decode cJ20_charAt 1 = .ok (.aload_n 0, 1) := dk_42 (dk_at dksJ20_charAt_0 1 rfl rfl)
theorem dJ20_charAt_2 : decode cJ20_charAt 2 = .ok (.arraylength, 1) := dk_190 (dk_at dksJ20_charAt_0 2 rfl rfl)
theorem dJ20_charAt_3 : decode cJ20_charAt 3 = .ok (.invokestatic 9, 3) := dk_184 0 9 (dk_at dksJ20_charAt_0 3 rfl rfl)
theorem dJ20_charAt_6 : decode cJ20_charAt 6 = .ok (.aload_n 0, 1) := dk_42 (dk_at dksJ20_charAt_0 6 rfl rfl)
theorem dJ20_charAt_7 : decode cJ20_charAt 7 = .ok (.iload_n 1, 1) := dk_27 (dk_at dksJ20_charAt_0 7 rfl rfl)
theorem dJ20_charAt_8 : decode cJ20_charAt 8 = .ok (.baload, 1) := dk_51 (dk_at dksJ20_charAt_0 8 rfl rfl)
theorem dJ20_charAt_9 : decode cJ20_charAt 9 = .ok (.sipush 255, 3) := dk_17 0 255 (dk_at dksJ20_charAt_0 9 rfl rfl)
theorem dJ20_charAt_12 : decode cJ20_charAt 12 = .ok (.iand, 1) := dk_126 (dk_at dksJ20_charAt_0 12 rfl rfl)
theorem dJ20_charAt_13 : decode cJ20_charAt 13 = .ok (.i2c, 1) := dk_146 (dk_at dksJ20_charAt_0 13 rfl rfl)
theorem dJ20_charAt_14 : decode cJ20_charAt 14 = .ok (.ireturn, 1) := dk_172 (dk_at dksJ20_charAt_0 14 rfl rfl)
abbrev cJ20_fillNull : ByteArray := prog_49_method_48_code
def yJ20_fillNull : MethodName := ⟨RJ20, "fillNull", "([BII)V"⟩
def dkwJ20_fillNull_0 : List UInt8 := [42, 27, 28, 3, 184, 0, 236, 177]
abbrev dktJ20_fillNull_0 : List UInt8 := dkwJ20_fillNull_0 ++ []
theorem dksJ20_fillNull_0 : cJ20_fillNull.data.toList.drop 0 = dktJ20_fillNull_0 := by decide +kernel
theorem dJ20_fillNull_0 : decode cJ20_fillNull 0 = .ok (.aload_n 0, 1) := dk_42 (dk_at dksJ20_fillNull_0 0 rfl rfl)
theorem dJ20_fillNull_1 : decode cJ20_fillNull 1 = .ok (.iload_n 1, 1) := dk_27 (dk_at dksJ20_fillNull_0 1 rfl rfl)
theorem dJ20_fillNull_2 : decode cJ20_fillNull 2 = .ok (.iload_n 2, 1) := dk_28 (dk_at dksJ20_fillNull_0 2 rfl rfl)
theorem dJ20_fillNull_3 : decode cJ20_fillNull 3 = .ok (.iconst 0, 1) := dk_3 (dk_at dksJ20_fillNull_0 3 rfl rfl)
theorem dJ20_fillNull_4 : decode cJ20_fillNull 4 = .ok (.invokestatic 236, 3) := dk_184 0 236 (dk_at dksJ20_fillNull_0 4 rfl rfl)
theorem dJ20_fillNull_7 : decode cJ20_fillNull 7 = .ok (.return_, 1) := dk_177 (dk_at dksJ20_fillNull_0 7 rfl rfl)
theorem q144 : (Jvm.Cond.initialized "java/lang/StringLatin1") ∈ lw_all := lw_g (lw_at lw_m1 25 rfl) rfl
theorem q457 : (Jvm.Cond.static ({ cls := "java/lang/StringLatin1", name := "inflate", desc := "([BI[BII)V" } : Jvm.MethodName)) ∈ lw_all := lw_g (lw_at lw_m2 98 rfl) rfl
theorem q458 : (Jvm.Cond.code ({ cls := "java/lang/StringLatin1", name := "inflate", desc := "([BI[BII)V" } : Jvm.MethodName) prog_49_method_50_code (5 : Nat) (Option.none : Option Jvm.ClassFile.FieldType)) ∈ lw_all := lw_g (lw_at lw_m2 99 rfl) rfl
theorem q459 : (Jvm.Cond.methodLink "java/lang/StringLatin1" (240 : Nat) ({ cls := "java/lang/StringUTF16", name := "inflate", desc := "([BI[BII)V" } : Jvm.MethodName)) ∈ lw_all := lw_g (lw_at lw_m2 100 rfl) rfl
theorem q2549 : (Jvm.Cond.static ({ cls := "java/lang/StringLatin1", name := "canEncode", desc := "(C)Z" } : Jvm.MethodName)) ∈ lw_all := lw_g (lw_at lw_m11 30 rfl) rfl
theorem q2550 : (Jvm.Cond.code ({ cls := "java/lang/StringLatin1", name := "canEncode", desc := "(C)Z" } : Jvm.MethodName) prog_49_method_3_code (1 : Nat) (Option.some Jvm.ClassFile.FieldType.boolean)) ∈ lw_all := lw_g (lw_at lw_m11 31 rfl) rfl
theorem q2630 : (Jvm.Cond.static ({ cls := "java/lang/StringLatin1", name := "charAt", desc := "([BI)C" } : Jvm.MethodName)) ∈ lw_all := lw_g (lw_at lw_m11 111 rfl) rfl
theorem q2631 : (Jvm.Cond.code ({ cls := "java/lang/StringLatin1", name := "charAt", desc := "([BI)C" } : Jvm.MethodName) prog_49_method_2_code (2 : Nat) (Option.some Jvm.ClassFile.FieldType.char)) ∈ lw_all := lw_g (lw_at lw_m11 112 rfl) rfl
theorem q2632 : (Jvm.Cond.methodLink "java/lang/StringLatin1" (9 : Nat) ({ cls := "java/lang/String", name := "checkIndex", desc := "(II)V" } : Jvm.MethodName)) ∈ lw_all := lw_g (lw_at lw_m11 113 rfl) rfl
theorem q2763 : (Jvm.Cond.static ({ cls := "java/lang/StringLatin1", name := "fillNull", desc := "([BII)V" } : Jvm.MethodName)) ∈ lw_all := lw_g (lw_at lw_m12 4 rfl) rfl
theorem q2764 : (Jvm.Cond.code ({ cls := "java/lang/StringLatin1", name := "fillNull", desc := "([BII)V" } : Jvm.MethodName) prog_49_method_48_code (3 : Nat) (Option.none : Option Jvm.ClassFile.FieldType)) ∈ lw_all := lw_g (lw_at lw_m12 5 rfl) rfl
theorem q2765 : (Jvm.Cond.methodLink "java/lang/StringLatin1" (236 : Nat) ({ cls := "java/util/Arrays", name := "fill", desc := "([BIIB)V" } : Jvm.MethodName)) ∈ lw_all := lw_g (lw_at lw_m12 6 rfl) rfl
/-! java/lang/Number -/
set_option maxRecDepth 100000
def RJ21 : String := "java/lang/Number"
abbrev cJ21_init : ByteArray := prog_44_method_1_code
def yJ21_init : MethodName := ⟨RJ21, "<init>", "()V"⟩
theorem dJ21_init_0 : decode cJ21_init 0 = .ok (.aload_n 0, 1) := by decide +kernel
theorem dJ21_init_1 : decode cJ21_init 1 = .ok (.invokespecial 1, 3) := by decide +kernel
theorem dJ21_init_4 : decode cJ21_init 4 = .ok (.return_, 1) := by decide +kernel
theorem q145 : (Jvm.Cond.initialized "java/lang/Number") ∈ lw_all := lw_g (lw_at lw_m1 26 rfl) rfl
theorem q2015 : (Jvm.Cond.instanceMethod ({ cls := "java/lang/Number", name := "<init>", desc := "()V" } : Jvm.MethodName)) ∈ lw_all := lw_g (lw_at lw_m8 216 rfl) rfl
theorem q2016 : (Jvm.Cond.code ({ cls := "java/lang/Number", name := "<init>", desc := "()V" } : Jvm.MethodName) prog_44_method_1_code (1 : Nat) (Option.none : Option Jvm.ClassFile.FieldType)) ∈ lw_all := lw_g (lw_at lw_m8 217 rfl) rfl
theorem q2017 : (Jvm.Cond.methodLink "java/lang/Number" (1 : Nat) ({ cls := "java/lang/Object", name := "<init>", desc := "()V" } : Jvm.MethodName)) ∈ lw_all := lw_g (lw_at lw_m8 218 rfl) rfl
/-! java/lang/Integer -/
set_option maxRecDepth 100000
def RJ22 : String := "java/lang/Integer"
def TJ22 : u_T := fun k => match k with
  | _ => ("java/lang/Integer", "value", "I", true)
def tyJ22 : Nat → FieldType := fun k => match k with
  | _ => .int
abbrev wsJ220 : List Cond := u_ws RJ22 TJ22 1
theorem nmJ22 : ∀ a, a < 1 → ∀ b, b < 1 → a ≠ b → (TJ22 a).2.1 ≠ (TJ22 b).2.1 := by decide +kernel
theorem tyJ22_ok : ∀ k, k < 1 → parseFieldDescriptor (TJ22 k).2.2.1 = some (tyJ22 k) := by decide +kernel
abbrev cJ22_stringSize : ByteArray := prog_39_method_13_code
def yJ22_stringSize : MethodName := ⟨RJ22, "stringSize", "(I)I"⟩
def dkwJ22_stringSize_1 : List UInt8 := [164, 0, 7, 29, 27, 96, 172, 16, 10, 28, 104, 61, 132, 3, 1, 167, 255, 233, 16, 10, 27, 96, 172]
abbrev dktJ22_stringSize_1 : List UInt8 := dkwJ22_stringSize_1 ++ []
def dkwJ22_stringSize_0 : List UInt8 := [4, 60, 26, 155, 0, 8, 3, 60, 26, 116, 59, 16, 246, 61, 4, 62, 29, 16, 10, 162, 0, 23, 26, 28]
abbrev dktJ22_stringSize_0 : List UInt8 := dkwJ22_stringSize_0 ++ dktJ22_stringSize_1
theorem dksJ22_stringSize_0 : cJ22_stringSize.data.toList.drop 0 = dktJ22_stringSize_0 := by decide +kernel
theorem dksJ22_stringSize_1 : cJ22_stringSize.data.toList.drop 24 = dktJ22_stringSize_1 := dk_seg dksJ22_stringSize_0 24 rfl rfl
theorem dJ22_stringSize_0 : decode cJ22_stringSize 0 = .ok (.iconst 1, 1) := dk_4 (dk_at dksJ22_stringSize_0 0 rfl rfl)
theorem dJ22_stringSize_1 : decode cJ22_stringSize 1 = .ok (.istore_n 1, 1) := dk_60 (dk_at dksJ22_stringSize_0 1 rfl rfl)
theorem dJ22_stringSize_2 : decode cJ22_stringSize 2 = .ok (.iload_n 0, 1) := dk_26 (dk_at dksJ22_stringSize_0 2 rfl rfl)
theorem dJ22_stringSize_3 : decode cJ22_stringSize 3 = .ok (.ifCond .lt 8, 3) := dk_155 0 8 (dk_at dksJ22_stringSize_0 3 rfl rfl)
theorem dJ22_stringSize_6 : decode cJ22_stringSize 6 = .ok (.iconst 0, 1) := dk_3 (dk_at dksJ22_stringSize_0 6 rfl rfl)
theorem dJ22_stringSize_7 : decode cJ22_stringSize 7 = .ok (.istore_n 1, 1) := dk_60 (dk_at dksJ22_stringSize_0 7 rfl rfl)
theorem dJ22_stringSize_8 : decode cJ22_stringSize 8 = .ok (.iload_n 0, 1) := dk_26 (dk_at dksJ22_stringSize_0 8 rfl rfl)
theorem dJ22_stringSize_9 : decode cJ22_stringSize 9 = .ok (.ineg, 1) := dk_116 (dk_at dksJ22_stringSize_0 9 rfl rfl)
theorem dJ22_stringSize_10 : decode cJ22_stringSize 10 = .ok (.istore_n 0, 1) := dk_59 (dk_at dksJ22_stringSize_0 10 rfl rfl)
theorem dJ22_stringSize_11 : decode cJ22_stringSize 11 = .ok (.bipush (-10), 2) := dk_16 246 (dk_at dksJ22_stringSize_0 11 rfl rfl)
theorem dJ22_stringSize_13 : decode cJ22_stringSize 13 = .ok (.istore_n 2, 1) := dk_61 (dk_at dksJ22_stringSize_0 13 rfl rfl)
theorem dJ22_stringSize_14 : decode cJ22_stringSize 14 = .ok (.iconst 1, 1) := dk_4 (dk_at dksJ22_stringSize_0 14 rfl rfl)
theorem dJ22_stringSize_15 : decode cJ22_stringSize 15 = .ok (.istore_n 3, 1) := dk_62 (dk_at dksJ22_stringSize_0 15 rfl rfl)
theorem dJ22_stringSize_16 : decode cJ22_stringSize 16 = .ok (.iload_n 3, 1) := dk_29 (dk_at dksJ22_stringSize_0 16 rfl rfl)
theorem dJ22_stringSize_17 : decode cJ22_stringSize 17 = .ok (.bipush 10, 2) := dk_16 10 (dk_at dksJ22_stringSize_0 17 rfl rfl)
theorem dJ22_stringSize_19 : decode cJ22_stringSize 19 = .ok (.if_icmp .ge 23, 3) := dk_162 0 23 (dk_at dksJ22_stringSize_0 19 rfl rfl)
theorem dJ22_stringSize_22 : decode cJ22_stringSize 22 = .ok (.iload_n 0, 1) := dk_26 (dk_at dksJ22_stringSize_0 22 rfl rfl)
theorem dJ22_stringSize_23 : decode cJ22_stringSize 23 = .ok (.iload_n 2, 1) := dk_28 (dk_at dksJ22_stringSize_0 23 rfl rfl)
theorem dJ22_stringSize_24 : decode cJ22_stringSize 24 = .ok (.if_icmp .le 7, 3) := dk_164 0 7 (dk_at dksJ22_stringSize_1 0 rfl rfl)
theorem dJ22_stringSize_27 : decode cJ22_stringSize 27 = .ok (.iload_n 3, 1) := dk_29 (dk_at dksJ22_stringSize_1 3 rfl rfl)
theorem dJ22_stringSize_28 : decode cJ22_stringSize 28 = .ok (.iload_n 1, 1) := dk_27 (dk_at dksJ22_stringSize_1 4 rfl rfl)
theorem dJ22_stringSize_29 : decode cJ22_stringSize 29 = .ok (.iadd, 1) := dk_96 (dk_at dksJ22_stringSize_1 5 rfl rfl)
theorem dJ22_stringSize_30 : decode cJ22_stringSize 30 = .ok (.ireturn, 1) := dk_172 (dk_at dksJ22_stringSize_1 6 rfl rfl)
theorem dJ22_stringSize_31 : decode cJ22_stringSize 31 = .ok (.bipush 10, 2) := dk_16 10 (dk_at dksJ22_stringSize_1 7 rfl rfl)
theorem dJ22_stringSize_33 : decode cJ22_stringSize 33 = .ok (.iload_n 2, 1) := dk_28 (dk_at dksJ22_stringSize_1 9 rfl rfl)
theorem dJ22_stringSize_34 : decode cJ22_stringSize 34 = .ok (.imul, 1) := dk_104 (dk_at dksJ22_stringSize_1 10 rfl rfl)
theorem dJ22_stringSize_35 : decode cJ22_stringSize 35 = .ok (.istore_n 2, 1) := dk_61 (dk_at dksJ22_stringSize_1 11 rfl rfl)
theorem dJ22_stringSize_36 : decode cJ22_stringSize 36 = .ok (.iinc 3 1, 3) := dk_132 3 1 (dk_at dksJ22_stringSize_1 12 rfl rfl)
theorem dJ22_stringSize_39 : decode cJ22_stringSize 39 = .ok (.goto (-23), 3) := dk_167 255 233 (dk_at dksJ22_stringSize_1 15 rfl rfl)
theorem dJ22_stringSize_42 : decode cJ22_stringSize 42 = .ok (.bipush 10, 2) := dk_16 10 (dk_at dksJ22_stringSize_1 18 rfl rfl)
theorem dJ22_stringSize_44 : decode cJ22_stringSize 44 = .ok (.iload_n 1, 1) := dk_27 (dk_at dksJ22_stringSize_1 20 rfl rfl)
theorem dJ22_stringSize_45 : decode cJ22_stringSize 45 = .ok (.iadd, 1) := dk_96 (dk_at dksJ22_stringSize_1 21 rfl rfl)
theorem dJ22_stringSize_46 : decode cJ22_stringSize 46 = .ok (.ireturn, 1) := dk_172 (dk_at dksJ22_stringSize_1 22 rfl rfl)
abbrev cJ22_getChars : ByteArray := prog_39_method_12_code
def yJ22_getChars : MethodName := ⟨RJ22, "getChars", "(II[B)I"⟩
def dkwJ22_getChars_5 : List UInt8 := [16, 45, 84, 21, 5, 172]
abbrev dktJ22_getChars_5 : List UInt8 := dkwJ22_getChars_5 ++ []
def dkwJ22_getChars_4 : List UInt8 := [132, 5, 255, 21, 5, 178, 0, 87, 26, 116, 51, 84, 21, 6, 153, 0, 12, 44, 132, 5, 255, 21, 5]
abbrev dktJ22_getChars_4 : List UInt8 := dkwJ22_getChars_4 ++ dktJ22_getChars_5
def dkwJ22_getChars_3 : List UInt8 := [167, 255, 209, 44, 132, 5, 255, 21, 5, 178, 0, 83, 26, 116, 51, 84, 26, 16, 247, 162, 0, 16, 44]
abbrev dktJ22_getChars_3 : List UInt8 := dkwJ22_getChars_3 ++ dktJ22_getChars_4
def dkwJ22_getChars_2 : List UInt8 := [21, 5, 178, 0, 83, 21, 4, 51, 84, 44, 132, 5, 255, 21, 5, 178, 0, 87, 21, 4, 51, 84]
abbrev dktJ22_getChars_2 : List UInt8 := dkwJ22_getChars_2 ++ dktJ22_getChars_3
def dkwJ22_getChars_1 : List UInt8 := [16, 156, 163, 0, 47, 26, 16, 100, 108, 62, 29, 16, 100, 104, 26, 100, 54, 4, 29, 59, 44, 132, 5, 255]
abbrev dktJ22_getChars_1 : List UInt8 := dkwJ22_getChars_1 ++ dktJ22_getChars_2
def dkwJ22_getChars_0 : List UInt8 := [27, 54, 5, 26, 156, 0, 7, 4, 167, 0, 4, 3, 54, 6, 21, 6, 154, 0, 6, 26, 116, 59, 26]
abbrev dktJ22_getChars_0 : List UInt8 := dkwJ22_getChars_0 ++ dktJ22_getChars_1
theorem dksJ22_getChars_0 : cJ22_getChars.data.toList.drop 0 = dktJ22_getChars_0 := by decide +kernel
theorem dksJ22_getChars_1 : cJ22_getChars.data.toList.drop 23 = dktJ22_getChars_1 := dk_seg dksJ22_getChars_0 23 rfl rfl
theorem dksJ22_getChars_2 : cJ22_getChars.data.toList.drop 47 = dktJ22_getChars_2 := dk_seg dksJ22_getChars_1 24 rfl rfl
theorem dksJ22_getChars_3 : cJ22_getChars.data.toList.drop 69 = dktJ22_getChars_3 := dk_seg dksJ22_getChars_2 22 rfl rfl
theorem dksJ22_getChars_4 : cJ22_getChars.data.toList.drop 92 = dktJ22_getChars_4 := dk_seg dksJ22_getChars_3 23 rfl rfl
theorem dksJ22_getChars_5 : cJ22_getChars.data.toList.drop 115 = dktJ22_getChars_5 := dk_seg dksJ22_getChars_4 23 rfl rfl
theorem dJ22_getChars_0 : decode cJ22_getChars 0 = .ok (.iload_n 1, 1) := dk_27 (dk_at dksJ22_getChars_0 0 rfl rfl)
theorem dJ22_getChars_1 : decode cJ22_getChars 1 = .ok (.istore 5, 2) := dk_54 5 (dk_at dksJ22_getChars_0 1 rfl rfl)
theorem dJ22_getChars_3 : decode cJ22_getChars 3 = .ok (.iload_n 0, 1) := dk_26 (dk_at dksJ22_getChars_0 3 rfl rfl)
theorem dJ22_getChars_4 : decode cJ22_getChars 4 = .ok (.ifCond .ge 7, 3) := dk_156 0 7 (dk_at dksJ22_getChars_0 4 rfl rfl)
theorem dJ22_getChars_7 : decode cJ22_getChars 7 = .ok (.iconst 1, 1) := dk_4 (dk_at dksJ22_getChars_0 7 rfl rfl)
theorem dJ22_getChars_8 : decode cJ22_getChars 8 = .ok (.goto 4, 3) := dk_167 0 4 (dk_at dksJ22_getChars_0 8 rfl rfl)
theorem dJ22_getChars_11 : decode cJ22_getChars 11 = .ok (.iconst 0, 1) := dk_3 (dk_at dksJ22_getChars_0 11 rfl rfl)
theorem dJ22_getChars_12 : decode cJ22_getChars 12 = .ok (.istore 6, 2) := dk_54 6 (dk_at dksJ22_getChars_0 12 rfl rfl)
theorem dJ22_getChars_14 : decode cJ22_getChars 14 = .ok (.iload 6, 2) := dk_21 6 (dk_at dksJ22_getChars_0 14 rfl rfl)
theorem dJ22_getChars_16 : decode cJ22_getChars 16 = .ok (.ifCond .ne 6, 3) := dk_154 0 6 (dk_at dksJ22_getChars_0 16 rfl rfl)
theorem dJ22_getChars_19 : decode cJ22_getChars 19 = .ok (.iload_n 0, 1) := dk_26 (dk_at dksJ22_getChars_0 19 rfl rfl)
theorem dJ22_getChars_20 : decode cJ22_getChars 20 = .ok (.ineg, 1) := dk_116 (dk_at dksJ22_getChars_0 20 rfl rfl)
theorem dJ22_getChars_21 : decode cJ22_getChars 21 = .ok (.istore_n 0, 1) := dk_59 (dk_at dksJ22_getChars_0 21 rfl rfl)
theorem dJ22_getChars_22 : decode cJ22_getChars 22 = .ok (.iload_n 0, 1) := dk_26 (dk_at dksJ22_getChars_0 22 rfl rfl)
theorem dJ22_getChars_23 : decode cJ22_getChars 23 = .ok (.bipush (-100), 2) := dk_16 156 (dk_at dksJ22_getChars_1 0 rfl rfl)
theorem dJ22_getChars_25 : decode cJ22_getChars 25 = .ok (.if_icmp .gt 47, 3) := dk_163 0 47 (dk_at dksJ22_getChars_1 2 rfl rfl)
theorem dJ22_getChars_28 : decode cJ22_getChars 28 = .ok (.iload_n 0, 1) := dk_26 (dk_at dksJ22_getChars_1 5 rfl rfl)
theorem dJ22_getChars_29 : decode cJ22_getChars 29 = .ok (.bipush 100, 2) := dk_16 100 (dk_at dksJ22_getChars_1 6 rfl rfl)
theorem dJ22_getChars_31 : decode cJ22_getChars 31 = .ok (.idiv, 1) := dk_108 (dk_at dksJ22_getChars_1 8 rfl rfl)
theorem dJ22_getChars_32 : decode cJ22_getChars 32 = .ok (.istore_n 3, 1) := dk_62 (dk_at dksJ22_getChars_1 9 rfl rfl)
theorem dJ22_getChars_33 : decode cJ22_getChars 33 = .ok (.iload_n 3, 1) := dk_29 (dk_at dksJ22_getChars_1 10 rfl rfl)
theorem dJ22_getChars_34 : decode cJ22_getChars 34 = .ok (.bipush 100, 2) := dk_16 100 (dk_at dksJ22_getChars_1 11 rfl rfl)
theorem dJ22_getChars_36 : decode cJ22_getChars 36 = .ok (.imul, 1) := dk_104 (dk_at dksJ22_getChars_1 13 rfl rfl)
theorem dJ22_getChars_37 : decode cJ22_getChars 37 = .ok (.iload_n 0, 1) := dk_26 (dk_at dksJ22_getChars_1 14 rfl rfl)
theorem dJ22_getChars_38 : decode cJ22_getChars 38 = .ok (.isub, 1) := dk_100 (dk_at dksJ22_getChars_1 15 rfl rfl)
theorem dJ22_getChars_39 : decode cJ22_getChars 39 = .ok (.istore 4, 2) := dk_54 4 (dk_at dksJ22_getChars_1 16 rfl rfl)
theorem dJ22_getChars_41 : decode cJ22_getChars 41 = .ok (.iload_n 3, 1) := dk_29 (dk_at dksJ22_getChars_1 18 rfl rfl)
theorem dJ22_getChars_42 : decode cJ22_getChars 42 = .ok (.istore_n 0, 1) := dk_59 (dk_at dksJ22_getChars_1 19 rfl rfl)
theorem dJ22_getChars_43 : decode cJ22_getChars 43 = .ok (.aload_n 2, 1) := dk_44 (dk_at dksJ22_getChars_1 20 rfl rfl)
theorem dJ22_getChars_44 : decode cJ22_getChars 44 = .ok (.iinc 5 (-1), 3) := dk_132 5 255 (dk_at dksJ22_getChars_1 21 rfl rfl)
theorem dJ22_getChars_47 : decode cJ22_getChars 47 = .ok (.iload 5, 2) := dk_21 5 (dk_at dksJ22_getChars_2 0 rfl rfl)
theorem dJ22_getChars_49 : decode cJ22_getChars 49 = .ok (.getstatic 83, 3) := dk_178 0 83 (dk_at dksJ22_getChars_2 2 rfl rfl)
theorem dJ22_getChars_52 : decode cJ22_getChars 52 = .ok (.iload 4, 2) := dk_21 4 (dk_at dksJ22_getChars_2 5 rfl rfl)
theorem dJ22_getChars_54 : decode cJ22_getChars 54 = .ok (.baload, 1) := dk_51 (dk_at dksJ22_getChars_2 7 rfl rfl)
theorem dJ22_getChars_55 : decode cJ22_getChars 55 = .ok (.bastore, 1) := dk_84 (dk_at dksJ22_getChars_2 8 rfl rfl)
theorem dJ22_getChars_56 : decode cJ22_getChars 56 = .ok (.aload_n 2, 1) := dk_44 (dk_at dksJ22_getChars_2 9 rfl rfl)
theorem dJ22_getChars_57 : decode cJ22_getChars 57 = .ok (.iinc 5 (-1), 3) := dk_132 5 255 (dk_at dksJ22_getChars_2 10 rfl rfl)
theorem dJ22_getChars_60 : decode cJ22_getChars 60 = .ok (.iload 5, 2) := dk_21 5 (dk_at dksJ22_getChars_2 13 rfl rfl)
theorem dJ22_getChars_62 : decode cJ22_getChars 62 = .ok (.getstatic 87, 3) := dk_178 0 87 (dk_at dksJ22_getChars_2 15 rfl rfl)
theorem dJ22_getChars_65 : decode cJ22_getChars 65 = .ok (.iload 4, 2) := dk_21 4 (dk_at dksJ22_getChars_2 18 rfl rfl)
theorem dJ22_getChars_67 : decode cJ22_getChars 67 = .ok (.baload, 1) := dk_51 (dk_at dksJ22_getChars_2 20 rfl rfl)
theorem dJ22_getChars_68 : decode cJ22_getChars 68 = .ok (.bastore, 1) := dk_84 (dk_at dksJ22_getChars_2 21 rfl rfl)
theorem dJ22_getChars_69 : decode cJ22_getChars 69 = .ok (.goto (-47), 3) := dk_167 255 209 (dk_at dksJ22_getChars_3 0 rfl rfl)
theorem dJ22_getChars_72 : decode cJ22_getChars 72 = .ok (.aload_n 2, 1) := dk_44 (dk_at dksJ22_getChars_3 3 rfl rfl)
theorem dJ22_getChars_73 : decode cJ22_getChars 73 = .ok (.iinc 5 (-1), 3) := dk_132 5 255 (dk_at dksJ22_getChars_3 4 rfl rfl)
theorem dJ22_getChars_76 : decode cJ22_getChars 76 = .ok (.iload 5, 2) := dk_21 5 (dk_at dksJ22_getChars_3 7 rfl rfl)
theorem dJ22_getChars_78 : decode cJ22_getChars 78 = .ok (.getstatic 83, 3) := dk_178 0 83 (dk_at dksJ22_getChars_3 9 rfl rfl)
theorem dJ22_getChars_81 : decode cJ22_getChars 81 = .ok (.iload_n 0, 1) := dk_26 (dk_at dksJ22_getChars_3 12 rfl rfl)
theorem dJ22_getChars_82 : decode cJ22_getChars 82 = .ok (.ineg, 1) := dk_116 (dk_at dksJ22_getChars_3 13 rfl rfl)
theorem dJ22_getChars_83 : decode cJ22_getChars 83 = .ok (.baload, 1) := dk_51 (dk_at dksJ22_getChars_3 14 rfl rfl)
theorem dJ22_getChars_84 : decode cJ22_getChars 84 = .ok (.bastore, 1) := dk_84 (dk_at dksJ22_getChars_3 15 rfl rfl)
theorem dJ22_getChars_85 : decode cJ22_getChars 85 = .ok (.iload_n 0, 1) := dk_26 (dk_at dksJ22_getChars_3 16 rfl rfl)
theorem dJ22_getChars_86 : decode cJ22_getChars 86 = .ok (.bipush (-9), 2) := dk_16 247 (dk_at dksJ22_getChars_3 17 rfl rfl)
theorem dJ22_getChars_88 : decode cJ22_getChars 88 = .ok (.if_icmp .ge 16, 3) := dk_162 0 16 (dk_at dksJ22_getChars_3 19 rfl rfl)
theorem dJ22_getChars_91 : decode cJ22_getChars 91 = .ok (.aload_n 2, 1) := dk_44 (dk_at dksJ22_getChars_3 22 rfl rfl)
theorem dJ22_getChars_92 : decode cJ22_getChars 92 = .ok (.iinc 5 (-1), 3) := dk_132 5 255 (dk_at dksJ22_getChars_4 0 rfl rfl)
theorem dJ22_getChars_95 : decode cJ22_getChars 95 = .ok (.iload 5, 2) := dk_21 5 (dk_at dksJ22_getChars_4 3 rfl rfl)
theorem dJ22_getChars_97 : decode cJ22_getChars 97 = .ok (.getstatic 87, 3) := dk_178 0 87 (dk_at dksJ22_getChars_4 5 rfl rfl)
theorem dJ22_getChars_100 : decode cJ22_getChars 100 = .ok (.iload_n 0, 1) := dk_26 (dk_at dksJ22_getChars_4 8 rfl rfl)
theorem dJ22_getChars_101 : decode cJ22_getChars 101 = .ok (.ineg, 1) := dk_116 (dk_at dksJ22_getChars_4 9 rfl rfl)
theorem dJ22_getChars_102 : decode cJ22_getChars 102 = .ok (.baload, 1) := dk_51 (dk_at dksJ22_getChars_4 10 rfl rfl)
theorem dJ22_getChars_103 : decode cJ22_getChars 103 = .ok (.bastore, 1) := dk_84 (dk_at dksJ22_getChars_4 11 rfl rfl)
theorem dJ22_getChars_104 : decode cJ22_getChars 104 = .ok (.iload 6, 2) := dk_21 6 (dk_at dksJ22_getChars_4 12 rfl rfl)
theorem dJ22_getChars_106 : decode cJ22_getChars 106 = .ok (.ifCond .eq 12, 3) := dk_153 0 12 (dk_at dksJ22_getChars_4 14 rfl rfl)
theorem dJ22_getChars_109 : decode cJ22_getChars 109 = .ok (.aload_n 2, 1) := dk_44 (dk_at dksJ22_getChars_4 17 rfl rfl)
theorem dJ22_getChars_110 : decode cJ22_getChars 110 = .ok (.iinc 5 (-1), 3) := dk_132 5 255 (dk_at dksJ22_getChars_4 18 rfl rfl)
theorem dJ22_getChars_113 : decode cJ22_getChars 113 = .ok (.iload 5, 2) := dk_21 5 (dk_at dksJ22_getChars_4 21 rfl rfl)
theorem dJ22_getChars_115 : decode cJ22_getChars 115 = .ok (.bipush 45, 2) := dk_16 45 (dk_at dksJ22_getChars_5 0 rfl rfl)
theorem dJ22_getChars_117 : decode cJ22_getChars 117 = .ok (.bastore, 1) := dk_84 (dk_at dksJ22_getChars_5 2 rfl rfl)
theorem dJ22_getChars_118 : decode cJ22_getChars 118 = .ok (.iload 5, 2) := dk_21 5 (dk_at dksJ22_getChars_5 3 rfl rfl)
theorem dJ22_getChars_120 : decode cJ22_getChars 120 = .ok (.ireturn, 1) := dk_172 (dk_at dksJ22_getChars_5 5 rfl rfl)
abbrev cJ22_intValue : ByteArray := prog_39_method_27_code
def yJ22_intValue : MethodName := ⟨RJ22, "intValue", "()I"⟩
theorem dJ22_intValue_0 : decode cJ22_intValue 0 = .ok (.aload_n 0, 1) := by decide +kernel
theorem dJ22_intValue_1 : decode cJ22_intValue 1 = .ok (.getfield 205, 3) := by decide +kernel
theorem dJ22_intValue_4 : decode cJ22_intValue 4 = .ok (.ireturn, 1) := by decide +kernel
abbrev cJ22_bitCount : ByteArray := prog_39_method_49_code
def yJ22_bitCount : MethodName := ⟨RJ22, "bitCount", "(I)I"⟩
def dkwJ22_bitCount_2 : List UInt8 := [26, 16, 63, 126, 172]
abbrev dktJ22_bitCount_2 : List UInt8 := dkwJ22_bitCount_2 ++ []
def dkwJ22_bitCount_1 : List UInt8 := [26, 26, 7, 124, 96, 19, 1, 11, 126, 59, 26, 26, 16, 8, 124, 96, 59, 26, 26, 16, 16, 124, 96, 59]
abbrev dktJ22_bitCount_1 : List UInt8 := dkwJ22_bitCount_1 ++ dktJ22_bitCount_2
def dkwJ22_bitCount_0 : List UInt8 := [26, 26, 4, 124, 19, 1, 9, 126, 100, 59, 26, 19, 1, 10, 126, 26, 5, 124, 19, 1, 10, 126, 96, 59]
abbrev dktJ22_bitCount_0 : List UInt8 := dkwJ22_bitCount_0 ++ dktJ22_bitCount_1
theorem dksJ22_bitCount_0 : cJ22_bitCount.data.toList.drop 0 = dktJ22_bitCount_0 := by decide +kernel
theorem dksJ22_bitCount_1 : cJ22_bitCount.data.toList.drop 24 = dktJ22_bitCount_1 := dk_seg dksJ22_bitCount_0 24 rfl rfl
theorem dksJ22_bitCount_2 : cJ22_bitCount.data.toList.drop 48 = dktJ22_bitCount_2 := dk_seg dksJ22_bitCount_1 24 rfl rfl
theorem dJ22_bitCount_0 : decode cJ22_bitCount 0 = .ok (.iload_n 0, 1) := dk_26 (dk_at dksJ22_bitCount_0 0 rfl rfl)
theorem dJ22_bitCount_1 : decode cJ22_bitCount 1 = .ok (.iload_n 0, 1) := dk_26 (dk_at dksJ22_bitCount_0 1 rfl rfl)
theorem dJ22_bitCount_2 : decode cJ22_bitCount 2 = .ok (.iconst 1, 1) := dk_4 (dk_at dksJ22_bitCount_0 2 rfl rfl)
theorem dJ22_bitCount_3 : decode cJ22_bitCount 3 = .ok (.iushr, 1) := dk_124 (dk_at dksJ22_bitCount_0 3 rfl rfl)
theorem dJ22_bitCount_4 : decode cJ22_bitCount 4 = .ok (.ldc_w 265, 3) := dk_19 1 9 (dk_at dksJ22_bitCount_0 4 rfl rfl)
theorem dJ22_bitCount_7 : decode cJ22_bitCount 7 = .ok (.iand, 1) := dk_126 (dk_at dksJ22_bitCount_0 7 rfl rfl)
theorem dJ22_bitCount_8 : decode cJ22_bitCount 8 = .ok (.isub, 1) := dk_100 (dk_at dksJ22_bitCount_0 8 rfl rfl)
theorem dJ22_bitCount_9 : decode cJ22_bitCount 9 = .ok (.istore_n 0, 1) := dk_59 (dk_at dksJ22_bitCount_0 9 rfl rfl)
theorem dJ22_bitCount_10 : decode cJ22_bitCount 10 = .ok (.iload_n 0, 1) := dk_26 (dk_at dksJ22_bitCount_0 10 rfl rfl)
theorem dJ22_bitCount_11 : decode cJ22_bitCount 11 = .ok (.ldc_w 266, 3) := dk_19 1 10 (dk_at dksJ22_bitCount_0 11 rfl rfl)
theorem dJ22_bitCount_14 : decode cJ22_bitCount 14 = .ok (.iand, 1) := dk_126 (dk_at dksJ22_bitCount_0 14 rfl rfl)
theorem dJ22_bitCount_15 : decode cJ22_bitCount 15 = .ok (.iload_n 0, 1) := dk_26 (dk_at dksJ22_bitCount_0 15 rfl rfl)
theorem dJ22_bitCount_16 : decode cJ22_bitCount 16 = .ok (.iconst 2, 1) := dk_5 (dk_at dksJ22_bitCount_0 16 rfl rfl)
theorem dJ22_bitCount_17 : decode cJ22_bitCount 17 = .ok (.iushr, 1) := dk_124 (dk_at dksJ22_bitCount_0 17 rfl rfl)
theorem dJ22_bitCount_18 : decode cJ22_bitCount 18 = .ok (.ldc_w 266, 3) := dk_19 1 10 (dk_at dksJ22_bitCount_0 18 rfl rfl)
theorem dJ22_bitCount_21 : decode cJ22_bitCount 21 = .ok (.iand, 1) := dk_126 (dk_at dksJ22_bitCount_0 21 rfl rfl)
theorem dJ22_bitCount_22 : decode cJ22_bitCount 22 = .ok (.iadd, 1) := dk_96 (dk_at dksJ22_bitCount_0 22 rfl rfl)
theorem dJ22_bitCount_23 : decode cJ22_bitCount 23 = .ok (.istore_n 0, 1) := dk_59 (dk_at dksJ22_bitCount_0 23 rfl rfl)
theorem dJ22_bitCount_24 : decode cJ22_bitCount 24 = .ok (.iload_n 0, 1) := dk_26 (dk_at dksJ22_bitCount_1 0 rfl rfl)
theorem dJ22_bitCount_25 : decode cJ22_bitCount 25 = .ok (.iload_n 0, 1) := dk_26 (dk_at dksJ22_bitCount_1 1 rfl rfl)
theorem dJ22_bitCount_26 : decode cJ22_bitCount 26 = .ok (.iconst 4, 1) := dk_7 (dk_at dksJ22_bitCount_1 2 rfl rfl)
theorem dJ22_bitCount_27 : decode cJ22_bitCount 27 = .ok (.iushr, 1) := dk_124 (dk_at dksJ22_bitCount_1 3 rfl rfl)
theorem dJ22_bitCount_28 : decode cJ22_bitCount 28 = .ok (.iadd, 1) := dk_96 (dk_at dksJ22_bitCount_1 4 rfl rfl)
theorem dJ22_bitCount_29 : decode cJ22_bitCount 29 = .ok (.ldc_w 267, 3) := dk_19 1 11 (dk_at dksJ22_bitCount_1 5 rfl rfl)
theorem dJ22_bitCount_32 : decode cJ22_bitCount 32 = .ok (.iand, 1) := dk_126 (dk_at dksJ22_bitCount_1 8 rfl rfl)
theorem dJ22_bitCount_33 : decode cJ22_bitCount 33 = .ok (.istore_n 0, 1) := dk_59 (dk_at dksJ22_bitCount_1 9 rfl rfl)
theorem dJ22_bitCount_34 : decode cJ22_bitCount 34 = .ok (.iload_n 0, 1) := dk_26 (dk_at dksJ22_bitCount_1 10 rfl rfl)
theorem dJ22_bitCount_35 : decode cJ22_bitCount 35 = .ok (.iload_n 0, 1) := dk_26 (dk_at dksJ22_bitCount_1 11 rfl rfl)
theorem dJ22_bitCount_36 : decode cJ22_bitCount 36 = .ok (.bipush 8, 2) := dk_16 8 (dk_at dksJ22_bitCount_1 12 rfl rfl)
theorem dJ22_bitCount_38 : decode cJ22_bitCount 38 = .ok (.iushr, 1) := dk_124 (dk_at dksJ22_bitCount_1 14 rfl rfl)
theorem dJ22_bitCount_39 : decode cJ22_bitCount 39 = .ok (.iadd, 1) := dk_96 (dk_at dksJ22_bitCount_1 15 rfl rfl)
theorem dJ22_bitCount_40 : decode cJ22_bitCount 40 = .ok (.istore_n 0, 1) := dk_59 (dk_at dksJ22_bitCount_1 16 rfl rfl)
theorem dJ22_bitCount_41 : decode cJ22_bitCount 41 = .ok (.iload_n 0, 1) := dk_26 (dk_at dksJ22_bitCount_1 17 rfl rfl)
theorem dJ22_bitCount_42 : decode cJ22_bitCount 42 = .ok (.iload_n 0, 1) := dk_26 (dk_at dksJ22_bitCount_1 18 rfl rfl)
theorem dJ22_bitCount_43 : decode cJ22_bitCount 43 = .ok (.bipush 16, 2) := dk_16 16 (dk_at dksJ22_bitCount_1 19 rfl rfl)
theorem dJ22_bitCount_45 : decode cJ22_bitCount 45 = .ok (.iushr, 1) := dk_124 (dk_at dksJ22_bitCount_1 21 rfl rfl)
theorem dJ22_bitCount_46 : decode cJ22_bitCount 46 = .ok (.iadd, 1) := dk_96 (dk_at dksJ22_bitCount_1 22 rfl rfl)
theorem dJ22_bitCount_47 : decode cJ22_bitCount 47 = .ok (.istore_n 0, 1) := dk_59 (dk_at dksJ22_bitCount_1 23 rfl rfl)
theorem dJ22_bitCount_48 : decode cJ22_bitCount 48 = .ok (.iload_n 0, 1) := dk_26 (dk_at dksJ22_bitCount_2 0 rfl rfl)
theorem dJ22_bitCount_49 : decode cJ22_bitCount 49 = .ok (.bipush 63, 2) := dk_16 63 (dk_at dksJ22_bitCount_2 1 rfl rfl)
theorem dJ22_bitCount_51 : decode cJ22_bitCount 51 = .ok (.iand, 1) := dk_126 (dk_at dksJ22_bitCount_2 3 rfl rfl)
theorem dJ22_bitCount_52 : decode cJ22_bitCount 52 = .ok (.ireturn, 1) := dk_172 (dk_at dksJ22_bitCount_2 4 rfl rfl)
abbrev cJ22_valueOf : ByteArray := prog_39_method_22_code
def yJ22_valueOf : MethodName := ⟨RJ22, "valueOf", "(I)Ljava/lang/Integer;"⟩
def dkwJ22_valueOf_1 : List UInt8 := [187, 0, 1, 89, 26, 183, 0, 199, 176]
abbrev dktJ22_valueOf_1 : List UInt8 := dkwJ22_valueOf_1 ++ []
def dkwJ22_valueOf_0 : List UInt8 := [26, 16, 128, 161, 0, 20, 26, 178, 0, 191, 163, 0, 13, 178, 0, 195, 26, 17, 0, 128, 96, 50, 176]
abbrev dktJ22_valueOf_0 : List UInt8 := dkwJ22_valueOf_0 ++ dktJ22_valueOf_1
theorem dksJ22_valueOf_0 : cJ22_valueOf.data.toList.drop 0 = dktJ22_valueOf_0 := by decide +kernel
theorem dksJ22_valueOf_1 : cJ22_valueOf.data.toList.drop 23 = dktJ22_valueOf_1 := dk_seg dksJ22_valueOf_0 23 rfl rfl
theorem dJ22_valueOf_0 : decode cJ22_valueOf 0 = .ok (.iload_n 0, 1) := dk_26 (dk_at dksJ22_valueOf_0 0 rfl rfl)
theorem dJ22_valueOf_1 : decode cJ22_valueOf 1 = .ok (.bipush (-128), 2) := dk_16 128 (dk_at dksJ22_valueOf_0 1 rfl rfl)
theorem dJ22_valueOf_3 : decode cJ22_valueOf 3 = .ok (.if_icmp .lt 20, 3) := dk_161 0 20 (dk_at dksJ22_valueOf_0 3 rfl rfl)
theorem dJ22_valueOf_6 : decode cJ22_valueOf 6 = .ok (.iload_n 0, 1) := dk_26 (dk_at dksJ22_valueOf_0 6 rfl rfl)
theorem dJ22_valueOf_7 : decode cJ22_valueOf 7 = .ok (.getstatic 191, 3) := dk_178 0 191 (dk_at dksJ22_valueOf_0 7 rfl rfl)
theorem dJ22_valueOf_10 : decode cJ22_valueOf 10 = .ok (.if_icmp .gt 13, 3) := dk_163 0 13 (dk_at dksJ22_valueOf_0 10 rfl rfl)
theorem dJ22_valueOf_13 : decode cJ22_valueOf 13 = .ok (.getstatic 195, 3) := dk_178 0 195 (dk_at dksJ22_valueOf_0 13 rfl rfl)
theorem dJ22_valueOf_16 : decode cJ22_valueOf 16 = .ok (.iload_n 0, 1) := dk_26 (dk_at dksJ22_valueOf_0 16 rfl rfl)
theorem dJ22_valueOf_17 : decode cJ22_valueOf 17 = .ok (.sipush 128, 3) := dk_17 0 128 (dk_at dksJ22_valueOf_0 17 rfl rfl)
theorem dJ22_valueOf_20 : decode cJ22_valueOf 20 = .ok (.iadd, 1) := dk_96 (dk_at dksJ22_valueOf_0 20 rfl rfl)
theorem dJ22_valueOf_21 : decode cJ22_valueOf 21 = .ok (.aaload, 1) := dk_50 (dk_at dksJ22_valueOf_0 21 rfl rfl)
theorem dJ22_valueOf_22 : decode cJ22_valueOf 22 = .ok (.areturn, 1) := dk_176 (dk_at dksJ22_valueOf_0 22 rfl rfl)
theorem dJ22_valueOf_23 : decode cJ22_valueOf 23 = .ok (.new 1, 3) := dk_187 0 1 (dk_at dksJ22_valueOf_1 0 rfl rfl)
theorem dJ22_valueOf_26 : decode cJ22_valueOf 26 = .ok (.dup, 1) := dk_89 (dk_at dksJ22_valueOf_1 3 rfl rfl)
theorem dJ22_valueOf_27 : decode cJ22_valueOf 27 = .ok (.iload_n 0, 1) := dk_26 (dk_at dksJ22_valueOf_1 4 rfl rfl)
theorem dJ22_valueOf_28 : decode cJ22_valueOf 28 = .ok (.invokespecial 199, 3) := dk_183 0 199 (dk_at dksJ22_valueOf_1 5 rfl rfl)
theorem dJ22_valueOf_31 : decode cJ22_valueOf 31 = .ok (.areturn, 1) := dk_176 (dk_at dksJ22_valueOf_1 8 rfl rfl)
abbrev cJ22_init : ByteArray := prog_39_method_23_code
def yJ22_init : MethodName := ⟨RJ22, "<init>", "(I)V"⟩
def dkwJ22_init_0 : List UInt8 := [42, 183, 0, 202, 42, 27, 181, 0, 205, 177]
abbrev dktJ22_init_0 : List UInt8 := dkwJ22_init_0 ++ []
theorem dksJ22_init_0 : cJ22_init.data.toList.drop 0 = dktJ22_init_0 := by decide +kernel
theorem dJ22_init_0 : decode cJ22_init 0 = .ok (.aload_n 0, 1) := dk_42 (dk_at dksJ22_init_0 0 rfl rfl)
theorem dJ22_init_1 : decode cJ22_init 1 = .ok (.invokespecial 202, 3) := dk_183 0 202 (dk_at dksJ22_init_0 1 rfl rfl)
theorem dJ22_init_4 : decode cJ22_init 4 = .ok (.aload_n 0, 1) := dk_42 (dk_at dksJ22_init_0 4 rfl rfl)
theorem dJ22_init_5 : decode cJ22_init 5 = .ok (.iload_n 1, 1) := dk_27 (dk_at dksJ22_init_0 5 rfl rfl)
theorem dJ22_init_6 : decode cJ22_init 6 = .ok (.putfield 205, 3) := dk_181 0 205 (dk_at dksJ22_init_0 6 rfl rfl)
theorem dJ22_init_9 : decode cJ22_init 9 = .ok (.return_, 1) := dk_177 (dk_at dksJ22_init_0 9 rfl rfl)
abbrev cJ22_numberOfTrailingZeros : ByteArray := prog_39_method_48_code
def yJ22_numberOfTrailingZeros : MethodName := ⟨RJ22, "numberOfTrailingZeros", "(I)I"⟩
def dkwJ22_numberOfTrailingZeros_3 : List UInt8 := [5, 124, 59, 27, 26, 4, 124, 96, 172]
abbrev dktJ22_numberOfTrailingZeros_3 : List UInt8 := dkwJ22_numberOfTrailingZeros_3 ++ []
def dkwJ22_numberOfTrailingZeros_2 : List UInt8 := [124, 59, 26, 16, 16, 164, 0, 10, 132, 1, 4, 26, 7, 124, 59, 26, 7, 164, 0, 10, 132, 1, 2, 26]
abbrev dktJ22_numberOfTrailingZeros_2 : List UInt8 := dkwJ22_numberOfTrailingZeros_2 ++ dktJ22_numberOfTrailingZeros_3
def dkwJ22_numberOfTrailingZeros_1 : List UInt8 := [164, 0, 11, 132, 1, 16, 26, 16, 16, 124, 59, 26, 17, 1, 0, 164, 0, 11, 132, 1, 8, 26, 16, 8]
abbrev dktJ22_numberOfTrailingZeros_1 : List UInt8 := dkwJ22_numberOfTrailingZeros_1 ++ dktJ22_numberOfTrailingZeros_2
def dkwJ22_numberOfTrailingZeros_0 : List UInt8 := [26, 2, 130, 26, 4, 100, 126, 59, 26, 157, 0, 8, 26, 16, 32, 126, 172, 4, 60, 26, 19, 1, 8]
abbrev dktJ22_numberOfTrailingZeros_0 : List UInt8 := dkwJ22_numberOfTrailingZeros_0 ++ dktJ22_numberOfTrailingZeros_1
theorem dksJ22_numberOfTrailingZeros_0 : cJ22_numberOfTrailingZeros.data.toList.drop 0 = dktJ22_numberOfTrailingZeros_0 := by decide +kernel
theorem dksJ22_numberOfTrailingZeros_1 : cJ22_numberOfTrailingZeros.data.toList.drop 23 = dktJ22_numberOfTrailingZeros_1 := dk_seg dksJ22_numberOfTrailingZeros_0 23 rfl rfl
theorem dksJ22_numberOfTrailingZeros_2 : cJ22_numberOfTrailingZeros.data.toList.drop 47 = dktJ22_numberOfTrailingZeros_2 := dk_seg dksJ22_numberOfTrailingZeros_1 24 rfl rfl
theorem dksJ22_numberOfTrailingZeros_3 : cJ22_numberOfTrailingZeros.data.toList.drop 71 = dktJ22_numberOfTrailingZeros_3 := dk_seg dksJ22_numberOfTrailingZeros_2 24 rfl rfl
theorem dJ22_numberOfTrailingZeros_0 : decode cJ22_numberOfTrailingZeros 0 = .ok (.iload_n 0, 1) := dk_26 (dk_at dksJ22_numberOfTrailingZeros_0 0 rfl rfl)
theorem dJ22_numberOfTrailingZeros_1 : decode cJ22_numberOfTrailingZeros 1 = .ok (.iconst (-1), 1) := dk_2 (dk_at dksJ22_numberOfTrailingZeros_0 1 rfl rfl)
theorem dJ22_numberOfTrailingZeros_2 : decode cJ22_numberOfTrailingZeros 2 = .ok (.ixor, 1) := dk_130 (dk_at dksJ22_numberOfTrailingZeros_0 2 rfl rfl)
theorem dJ22_numberOfTrailingZeros_3 : decode cJ22_numberOfTrailingZeros 3 = .ok (.iload_n 0, 1) := dk_26 (dk_at dksJ22_numberOfTrailingZeros_0 3 rfl rfl)
theorem dJ22_numberOfTrailingZeros_4 : decode cJ22_numberOfTrailingZeros 4 = .ok (.iconst 1, 1) := dk_4 (dk_at dksJ22_numberOfTrailingZeros_0 4 rfl rfl)
theorem dJ22_numberOfTrailingZeros_5 : decode cJ22_numberOfTrailingZeros 5 = .ok (.isub, 1) := dk_100 (dk_at dksJ22_numberOfTrailingZeros_0 5 rfl rfl)
theorem dJ22_numberOfTrailingZeros_6 : decode cJ22_numberOfTrailingZeros 6 = .ok (.iand, 1) := dk_126 (dk_at dksJ22_numberOfTrailingZeros_0 6 rfl rfl)
theorem dJ22_numberOfTrailingZeros_7 : decode cJ22_numberOfTrailingZeros 7 = .ok (.istore_n 0, 1) := dk_59 (dk_at dksJ22_numberOfTrailingZeros_0 7 rfl rfl)
theorem dJ22_numberOfTrailingZeros_8 : decode cJ22_numberOfTrailingZeros 8 = .ok (.iload_n 0, 1) := dk_26 (dk_at dksJ22_numberOfTrailingZeros_0 8 rfl rfl)
theorem dJ22_numberOfTrailingZeros_9 : decode cJ22_numberOfTrailingZeros 9 = .ok (.ifCond .gt 8, 3) := dk_157 0 8 (dk_at dksJ22_numberOfTrailingZeros_0 9 rfl rfl)
theorem dJ22_numberOfTrailingZeros_12 : decode cJ22_numberOfTrailingZeros 12 = .ok (.iload_n 0, 1) := dk_26 (dk_at dksJ22_numberOfTrailingZeros_0 12 rfl rfl)
theorem dJ22_numberOfTrailingZeros_13 : decode cJ22_numberOfTrailingZeros 13 = .ok (.bipush 32, 2) := dk_16 32 (dk_at dksJ22_numberOfTrailingZeros_0 13 rfl rfl)
theorem dJ22_numberOfTrailingZeros_15 : decode cJ22_numberOfTrailingZeros 15 = .ok (.iand, 1) := dk_126 (dk_at dksJ22_numberOfTrailingZeros_0 15 rfl rfl)
theorem dJ22_numberOfTrailingZeros_16 : decode cJ22_numberOfTrailingZeros 16 = .ok (.ireturn, 1) := dk_172 (dk_at dksJ22_numberOfTrailingZeros_0 16 rfl rfl)
theorem dJ22_numberOfTrailingZeros_17 : decode cJ22_numberOfTrailingZeros 17 = .ok (.iconst 1, 1) := dk_4 (dk_at dksJ22_numberOfTrailingZeros_0 17 rfl rfl)
theorem dJ22_numberOfTrailingZeros_18 : decode cJ22_numberOfTrailingZeros 18 = .ok (.istore_n 1, 1) := dk_60 (dk_at dksJ22_numberOfTrailingZeros_0 18 rfl rfl)
theorem dJ22_numberOfTrailingZeros_19 : decode cJ22_numberOfTrailingZeros 19 = .ok (.iload_n 0, 1) := dk_26 (dk_at dksJ22_numberOfTrailingZeros_0 19 rfl rfl)
theorem dJ22_numberOfTrailingZeros_20 : decode cJ22_numberOfTrailingZeros 20 = .ok (.ldc_w 264, 3) := dk_19 1 8 (dk_at dksJ22_numberOfTrailingZeros_0 20 rfl rfl)
theorem dJ22_numberOfTrailingZeros_23 : decode cJ22_numberOfTrailingZeros 23 = .ok (.if_icmp .le 11, 3) := dk_164 0 11 (dk_at dksJ22_numberOfTrailingZeros_1 0 rfl rfl)
theorem dJ22_numberOfTrailingZeros_26 : decode cJ22_numberOfTrailingZeros 26 = .ok (.iinc 1 16, 3) := dk_132 1 16 (dk_at dksJ22_numberOfTrailingZeros_1 3 rfl rfl)
theorem dJ22_numberOfTrailingZeros_29 : decode cJ22_numberOfTrailingZeros 29 = .ok (.iload_n 0, 1) := dk_26 (dk_at dksJ22_numberOfTrailingZeros_1 6 rfl rfl)
theorem dJ22_numberOfTrailingZeros_30 : decode cJ22_numberOfTrailingZeros 30 = .ok (.bipush 16, 2) := dk_16 16 (dk_at dksJ22_numberOfTrailingZeros_1 7 rfl rfl)
theorem dJ22_numberOfTrailingZeros_32 : decode cJ22_numberOfTrailingZeros 32 = .ok (.iushr, 1) := dk_124 (dk_at dksJ22_numberOfTrailingZeros_1 9 rfl rfl)
theorem dJ22_numberOfTrailingZeros_33 : decode cJ22_numberOfTrailingZeros 33 = .ok (.istore_n 0, 1) := dk_59 (dk_at dksJ22_numberOfTrailingZeros_1 10 rfl rfl)
theorem dJ22_numberOfTrailingZeros_34 : decode cJ22_numberOfTrailingZeros 34 = .ok (.iload_n 0, 1) := dk_26 (dk_at dksJ22_numberOfTrailingZeros_1 11 rfl rfl)
theorem dJ22_numberOfTrailingZeros_35 : decode cJ22_numberOfTrailingZeros 35 = .ok (.sipush 256, 3) := dk_17 1 0 (dk_at dksJ22_numberOfTrailingZeros_1 12 rfl rfl)
theorem dJ22_numberOfTrailingZeros_38 : decode cJ22_numberOfTrailingZeros 38 = .ok (.if_icmp .le 11, 3) := dk_164 0 11 (dk_at dksJ22_numberOfTrailingZeros_1 15 rfl rfl)
theorem dJ22_numberOfTrailingZeros_41 : decode cJ22_numberOfTrailingZeros 41 = .ok (.iinc 1 8, 3) := dk_132 1 8 (dk_at dksJ22_numberOfTrailingZeros_1 18 rfl rfl)
theorem dJ22_numberOfTrailingZeros_44 : decode cJ22_numberOfTrailingZeros 44 = .ok (.iload_n 0, 1) := dk_26 (dk_at dksJ22_numberOfTrailingZeros_1 21 rfl rfl)
theorem dJ22_numberOfTrailingZeros_45 : decode cJ22_numberOfTrailingZeros 45 = .ok (.bipush 8, 2) := dk_16 8 (dk_at dksJ22_numberOfTrailingZeros_1 22 rfl rfl)
theorem dJ22_numberOfTrailingZeros_47 : decode cJ22_numberOfTrailingZeros 47 = .ok (.iushr, 1) := dk_124 (dk_at dksJ22_numberOfTrailingZeros_2 0 rfl rfl)
theorem dJ22_numberOfTrailingZeros_48 : decode cJ22_numberOfTrailingZeros 48 = .ok (.istore_n 0, 1) := dk_59 (dk_at dksJ22_numberOfTrailingZeros_2 1 rfl rfl)
theorem dJ22_numberOfTrailingZeros_49 : decode cJ22_numberOfTrailingZeros 49 = .ok (.iload_n 0, 1) := dk_26 (dk_at dksJ22_numberOfTrailingZeros_2 2 rfl rfl)
theorem dJ22_numberOfTrailingZeros_50 : decode cJ22_numberOfTrailingZeros 50 = .ok (.bipush 16, 2) := dk_16 16 (dk_at dksJ22_numberOfTrailingZeros_2 3 rfl rfl)
theorem dJ22_numberOfTrailingZeros_52 : decode cJ22_numberOfTrailingZeros 52 = .ok (.if_icmp .le 10, 3) := dk_164 0 10 (dk_at dksJ22_numberOfTrailingZeros_2 5 rfl rfl)
theorem dJ22_numberOfTrailingZeros_55 : decode cJ22_numberOfTrailingZeros 55 = .ok (.iinc 1 4, 3) := dk_132 1 4 (dk_at dksJ22_numberOfTrailingZeros_2 8 rfl rfl)
theorem dJ22_numberOfTrailingZeros_58 : decode cJ22_numberOfTrailingZeros 58 = .ok (.iload_n 0, 1) := dk_26 (dk_at dksJ22_numberOfTrailingZeros_2 11 rfl rfl)
theorem dJ22_numberOfTrailingZeros_59 : decode cJ22_numberOfTrailingZeros 59 = .ok (.iconst 4, 1) := dk_7 (dk_at dksJ22_numberOfTrailingZeros_2 12 rfl rfl)
theorem dJ22_numberOfTrailingZeros_60 : decode cJ22_numberOfTrailingZeros 60 = .ok (.iushr, 1) := dk_124 (dk_at dksJ22_numberOfTrailingZeros_2 13 rfl rfl)
theorem dJ22_numberOfTrailingZeros_61 : decode cJ22_numberOfTrailingZeros 61 = .ok (.istore_n 0, 1) := dk_59 (dk_at dksJ22_numberOfTrailingZeros_2 14 rfl rfl)
theorem dJ22_numberOfTrailingZeros_62 : decode cJ22_numberOfTrailingZeros 62 = .ok (.iload_n 0, 1) := dk_26 (dk_at dksJ22_numberOfTrailingZeros_2 15 rfl rfl)
theorem dJ22_numberOfTrailingZeros_63 : decode cJ22_numberOfTrailingZeros 63 = .ok (.iconst 4, 1) := dk_7 (dk_at dksJ22_numberOfTrailingZeros_2 16 rfl rfl)
theorem dJ22_numberOfTrailingZeros_64 : decode cJ22_numberOfTrailingZeros 64 = .ok (.if_icmp .le 10, 3) := dk_164 0 10 (dk_at dksJ22_numberOfTrailingZeros_2 17 rfl rfl)
theorem dJ22_numberOfTrailingZeros_67 : decode cJ22_numberOfTrailingZeros 67 = .ok (.iinc 1 2, 3) := dk_132 1 2 (dk_at dksJ22_numberOfTrailingZeros_2 20 rfl rfl)
theorem dJ22_numberOfTrailingZeros_70 : decode cJ22_numberOfTrailingZeros 70 = .ok (.iload_n 0, 1) := dk_26 (dk_at dksJ22_numberOfTrailingZeros_2 23 rfl rfl)
theorem dJ22_numberOfTrailingZeros_71 : decode cJ22_numberOfTrailingZeros 71 = .ok (.iconst 2, 1) := dk_5 (dk_at dksJ22_numberOfTrailingZeros_3 0 rfl rfl)
theorem dJ22_numberOfTrailingZeros_72 : decode cJ22_numberOfTrailingZeros 72 = .ok (.iushr, 1) := dk_124 (dk_at dksJ22_numberOfTrailingZeros_3 1 rfl rfl)
theorem dJ22_numberOfTrailingZeros_73 : decode cJ22_numberOfTrailingZeros 73 = .ok (.istore_n 0, 1) := dk_59 (dk_at dksJ22_numberOfTrailingZeros_3 2 rfl rfl)
theorem dJ22_numberOfTrailingZeros_74 : decode cJ22_numberOfTrailingZeros 74 = .ok (.iload_n 1, 1) := dk_27 (dk_at dksJ22_numberOfTrailingZeros_3 3 rfl rfl)
theorem dJ22_numberOfTrailingZeros_75 : decode cJ22_numberOfTrailingZeros 75 = .ok (.iload_n 0, 1) := dk_26 (dk_at dksJ22_numberOfTrailingZeros_3 4 rfl rfl)
theorem dJ22_numberOfTrailingZeros_76 : decode cJ22_numberOfTrailingZeros 76 = .ok (.iconst 1, 1) := dk_4 (dk_at dksJ22_numberOfTrailingZeros_3 5 rfl rfl)
theorem dJ22_numberOfTrailingZeros_77 : decode cJ22_numberOfTrailingZeros 77 = .ok (.iushr, 1) := dk_124 (dk_at dksJ22_numberOfTrailingZeros_3 6 rfl rfl)
theorem dJ22_numberOfTrailingZeros_78 : decode cJ22_numberOfTrailingZeros 78 = .ok (.iadd, 1) := dk_96 (dk_at dksJ22_numberOfTrailingZeros_3 7 rfl rfl)
theorem dJ22_numberOfTrailingZeros_79 : decode cJ22_numberOfTrailingZeros 79 = .ok (.ireturn, 1) := dk_172 (dk_at dksJ22_numberOfTrailingZeros_3 8 rfl rfl)
theorem q146 : (Jvm.Cond.initialized "java/lang/Integer") ∈ lw_all := lw_g (lw_at lw_m1 27 rfl) rfl
theorem q485 : (Jvm.Cond.static ({ cls := "java/lang/Integer", name := "stringSize", desc := "(I)I" } : Jvm.MethodName)) ∈ lw_all := lw_g (lw_at lw_m2 126 rfl) rfl
theorem q486 : (Jvm.Cond.code ({ cls := "java/lang/Integer", name := "stringSize", desc := "(I)I" } : Jvm.MethodName) prog_39_method_13_code (4 : Nat) (Option.some Jvm.ClassFile.FieldType.int)) ∈ lw_all := lw_g (lw_at lw_m2 127 rfl) rfl
theorem q488 : (Jvm.Cond.static ({ cls := "java/lang/Integer", name := "getChars", desc := "(II[B)I" } : Jvm.MethodName)) ∈ lw_all := lw_g (lw_at lw_m2 129 rfl) rfl
theorem q489 : (Jvm.Cond.code ({ cls := "java/lang/Integer", name := "getChars", desc := "(II[B)I" } : Jvm.MethodName) prog_39_method_12_code (7 : Nat) (Option.some Jvm.ClassFile.FieldType.int)) ∈ lw_all := lw_g (lw_at lw_m2 130 rfl) rfl
theorem q490 : (Jvm.Cond.fieldLink "java/lang/Integer" (83 : Nat) "java/lang/Integer" "DigitOnes" "[B") ∈ lw_all := lw_g (lw_at lw_m2 131 rfl) rfl
theorem q491 : (Jvm.Cond.laysStatic "java/lang/Integer" "DigitOnes" "[B") ∈ lw_tbl := lw_at lw_m2 132 rfl
theorem q492 : (Jvm.Cond.fieldLink "java/lang/Integer" (87 : Nat) "java/lang/Integer" "DigitTens" "[B") ∈ lw_all := lw_g (lw_at lw_m2 133 rfl) rfl
theorem q493 : (Jvm.Cond.laysStatic "java/lang/Integer" "DigitTens" "[B") ∈ lw_tbl := lw_at lw_m2 134 rfl
theorem q1102 : (Jvm.Cond.selects "java/lang/Integer" ({ cls := "java/lang/Object", name := "getClass", desc := "()Ljava/lang/Class;" } : Jvm.MethodName) ({ cls := "java/lang/Object", name := "getClass", desc := "()Ljava/lang/Class;" } : Jvm.MethodName)) ∈ lw_all := lw_g (lw_at lw_m5 23 rfl) rfl
theorem q1202 : (Jvm.Cond.instanceMethod ({ cls := "java/lang/Integer", name := "intValue", desc := "()I" } : Jvm.MethodName)) ∈ lw_all := lw_g (lw_at lw_m5 123 rfl) rfl
theorem q1203 : (Jvm.Cond.selects "java/lang/Integer" ({ cls := "java/lang/Integer", name := "intValue", desc := "()I" } : Jvm.MethodName) ({ cls := "java/lang/Integer", name := "intValue", desc := "()I" } : Jvm.MethodName)) ∈ lw_all := lw_g (lw_at lw_m5 124 rfl) rfl
theorem q1204 : (Jvm.Cond.code ({ cls := "java/lang/Integer", name := "intValue", desc := "()I" } : Jvm.MethodName) prog_39_method_27_code (1 : Nat) (Option.some Jvm.ClassFile.FieldType.int)) ∈ lw_all := lw_g (lw_at lw_m5 125 rfl) rfl
theorem q1950 : (Jvm.Cond.static ({ cls := "java/lang/Integer", name := "bitCount", desc := "(I)I" } : Jvm.MethodName)) ∈ lw_all := lw_g (lw_at lw_m8 151 rfl) rfl
theorem q1951 : (Jvm.Cond.code ({ cls := "java/lang/Integer", name := "bitCount", desc := "(I)I" } : Jvm.MethodName) prog_39_method_49_code (1 : Nat) (Option.some Jvm.ClassFile.FieldType.int)) ∈ lw_all := lw_g (lw_at lw_m8 152 rfl) rfl
theorem q1952 : (Jvm.Cond.constant "java/lang/Integer" (265 : Nat) (1431655765 : Int32)) ∈ lw_all := lw_g (lw_at lw_m8 153 rfl) rfl
theorem q1953 : (Jvm.Cond.constant "java/lang/Integer" (266 : Nat) (858993459 : Int32)) ∈ lw_all := lw_g (lw_at lw_m8 154 rfl) rfl
theorem q1954 : (Jvm.Cond.constant "java/lang/Integer" (267 : Nat) (252645135 : Int32)) ∈ lw_all := lw_g (lw_at lw_m8 155 rfl) rfl
theorem q2003 : (Jvm.Cond.static ({ cls := "java/lang/Integer", name := "valueOf", desc := "(I)Ljava/lang/Integer;" } : Jvm.MethodName)) ∈ lw_all := lw_g (lw_at lw_m8 204 rfl) rfl
theorem q2004 : (Jvm.Cond.code ({ cls := "java/lang/Integer", name := "valueOf", desc := "(I)Ljava/lang/Integer;" } : Jvm.MethodName) prog_39_method_22_code (1 : Nat) (Option.some (Jvm.ClassFile.FieldType.object "java/lang/Integer"))) ∈ lw_all := lw_g (lw_at lw_m8 205 rfl) rfl
theorem q2005 : (Jvm.Cond.fieldLink "java/lang/Integer" (191 : Nat) "java/lang/Integer$IntegerCache" "high" "I") ∈ lw_all := lw_g (lw_at lw_m8 206 rfl) rfl
theorem q2007 : (Jvm.Cond.fieldLink "java/lang/Integer" (195 : Nat) "java/lang/Integer$IntegerCache" "cache" "[Ljava/lang/Integer;") ∈ lw_all := lw_g (lw_at lw_m8 208 rfl) rfl
theorem q2009 : (Jvm.Cond.classLink "java/lang/Integer" (1 : Nat) "java/lang/Integer") ∈ lw_all := lw_g (lw_at lw_m8 210 rfl) rfl
theorem q2010 : (Jvm.Cond.instantiable "java/lang/Integer" (1 : Nat)) ∈ lw_all := lw_g (lw_at lw_m8 211 rfl) rfl
theorem q2011 : (Jvm.Cond.methodLink "java/lang/Integer" (199 : Nat) ({ cls := "java/lang/Integer", name := "<init>", desc := "(I)V" } : Jvm.MethodName)) ∈ lw_all := lw_g (lw_at lw_m8 212 rfl) rfl
theorem q2012 : (Jvm.Cond.instanceMethod ({ cls := "java/lang/Integer", name := "<init>", desc := "(I)V" } : Jvm.MethodName)) ∈ lw_all := lw_g (lw_at lw_m8 213 rfl) rfl
theorem q2013 : (Jvm.Cond.code ({ cls := "java/lang/Integer", name := "<init>", desc := "(I)V" } : Jvm.MethodName) prog_39_method_23_code (2 : Nat) (Option.none : Option Jvm.ClassFile.FieldType)) ∈ lw_all := lw_g (lw_at lw_m8 214 rfl) rfl
theorem q2014 : (Jvm.Cond.methodLink "java/lang/Integer" (202 : Nat) ({ cls := "java/lang/Number", name := "<init>", desc := "()V" } : Jvm.MethodName)) ∈ lw_all := lw_g (lw_at lw_m8 215 rfl) rfl
theorem q2018 : (Jvm.Cond.fieldLink "java/lang/Integer" (205 : Nat) "java/lang/Integer" "value" "I") ∈ lw_all := lw_g (lw_at lw_m8 219 rfl) rfl
theorem q2019 : (Jvm.Cond.laysFinal "java/lang/Integer" "java/lang/Integer" "value" "I") ∈ lw_all := lw_g (lw_at lw_m8 220 rfl) rfl
theorem q2020 : (Jvm.Cond.soleField "java/lang/Integer" "value") ∈ lw_all := lw_g (lw_at lw_m8 221 rfl) rfl
theorem q2021 : (Jvm.Cond.superclass "java/lang/Integer" "java/lang/Number") ∈ lw_all := lw_g (lw_at lw_m8 222 rfl) rfl
theorem q2329 : (Jvm.Cond.static ({ cls := "java/lang/Integer", name := "numberOfTrailingZeros", desc := "(I)I" } : Jvm.MethodName)) ∈ lw_all := lw_g (lw_at lw_m10 50 rfl) rfl
theorem q2330 : (Jvm.Cond.code ({ cls := "java/lang/Integer", name := "numberOfTrailingZeros", desc := "(I)I" } : Jvm.MethodName) prog_39_method_48_code (2 : Nat) (Option.some Jvm.ClassFile.FieldType.int)) ∈ lw_all := lw_g (lw_at lw_m10 51 rfl) rfl
theorem q2331 : (Jvm.Cond.constant "java/lang/Integer" (264 : Nat) (65536 : Int32)) ∈ lw_all := lw_g (lw_at lw_m10 52 rfl) rfl
theorem q3587 : (Jvm.Cond.castable "java/lang/Integer" "java/lang/Object") ∈ lw_tbl := lw_at lw_m15 108 rfl
theorem in_J22 : ∀ w ∈ wsJ220, w ∈ lw_all := lw_in wsJ220 [2019] (by decide +kernel) (by decide +kernel)
/-! java/util/AbstractSequentialList -/
set_option maxRecDepth 100000
def RJ23 : String := "java/util/AbstractSequentialList"
abbrev cJ23_init : ByteArray := prog_60_method_1_code
def yJ23_init : MethodName := ⟨RJ23, "<init>", "()V"⟩
theorem dJ23_init_0 : decode cJ23_init 0 = .ok (.aload_n 0, 1) := by decide +kernel
theorem dJ23_init_1 : decode cJ23_init 1 = .ok (.invokespecial 1, 3) := by decide +kernel
theorem dJ23_init_4 : decode cJ23_init 4 = .ok (.return_, 1) := by decide +kernel
abbrev cJ23_iterator : ByteArray := prog_60_method_7_code
def yJ23_iterator : MethodName := ⟨RJ23, "iterator", "()Ljava/util/Iterator;"⟩
theorem dJ23_iterator_0 : decode cJ23_iterator 0 = .ok (.aload_n 0, 1) := by decide +kernel
theorem dJ23_iterator_1 : decode cJ23_iterator 1 = .ok (.invokevirtual 65, 3) := by decide +kernel
theorem dJ23_iterator_4 : decode cJ23_iterator 4 = .ok (.areturn, 1) := by decide +kernel
theorem q147 : (Jvm.Cond.initialized "java/util/AbstractSequentialList") ∈ lw_all := lw_g (lw_at lw_m1 28 rfl) rfl
theorem q620 : (Jvm.Cond.instanceMethod ({ cls := "java/util/AbstractSequentialList", name := "<init>", desc := "()V" } : Jvm.MethodName)) ∈ lw_all := lw_g (lw_at lw_m3 21 rfl) rfl
theorem q621 : (Jvm.Cond.code ({ cls := "java/util/AbstractSequentialList", name := "<init>", desc := "()V" } : Jvm.MethodName) prog_60_method_1_code (1 : Nat) (Option.none : Option Jvm.ClassFile.FieldType)) ∈ lw_all := lw_g (lw_at lw_m3 22 rfl) rfl
theorem q622 : (Jvm.Cond.methodLink "java/util/AbstractSequentialList" (1 : Nat) ({ cls := "java/util/AbstractList", name := "<init>", desc := "()V" } : Jvm.MethodName)) ∈ lw_all := lw_g (lw_at lw_m3 23 rfl) rfl
theorem q891 : (Jvm.Cond.declares ({ cls := "java/util/AbstractSequentialList", name := "iterator", desc := "()Ljava/util/Iterator;" } : Jvm.MethodName)) ∈ lw_tbl := lw_at lw_m4 52 rfl
theorem q893 : (Jvm.Cond.instanceMethod ({ cls := "java/util/AbstractSequentialList", name := "iterator", desc := "()Ljava/util/Iterator;" } : Jvm.MethodName)) ∈ lw_all := lw_g (lw_at lw_m4 54 rfl) rfl
theorem q894 : (Jvm.Cond.code ({ cls := "java/util/AbstractSequentialList", name := "iterator", desc := "()Ljava/util/Iterator;" } : Jvm.MethodName) prog_60_method_7_code (1 : Nat) (Option.some (Jvm.ClassFile.FieldType.object "java/util/Iterator"))) ∈ lw_all := lw_g (lw_at lw_m4 55 rfl) rfl
theorem q895 : (Jvm.Cond.methodLink "java/util/AbstractSequentialList" (65 : Nat) ({ cls := "java/util/AbstractSequentialList", name := "listIterator", desc := "()Ljava/util/ListIterator;" } : Jvm.MethodName)) ∈ lw_all := lw_g (lw_at lw_m4 56 rfl) rfl
theorem q896 : (Jvm.Cond.sameMethod "java/util/AbstractSequentialList" "java/util/AbstractList" "listIterator" "()Ljava/util/ListIterator;") ∈ lw_all := lw_g (lw_at lw_m4 57 rfl) rfl
/-! java/util/LinkedList -/
set_option maxRecDepth 100000
def RJ24 : String := "java/util/LinkedList"
def TJ24 : u_T := fun k => match k with
  | 0 => ("java/util/AbstractList", "modCount", "I", false)
  | 1 => ("java/util/LinkedList", "size", "I", false)
  | 2 => ("java/util/LinkedList", "first", "Ljava/util/LinkedList$Node;", false)
  | _ => ("java/util/LinkedList", "last", "Ljava/util/LinkedList$Node;", false)
def tyJ24 : Nat → FieldType := fun k => match k with
  | 0 => .int
  | 1 => .int
  | 2 => .object "java/util/LinkedList$Node"
  | _ => .object "java/util/LinkedList$Node"
abbrev wsJ240 : List Cond := u_ws RJ24 TJ24 4
theorem nmJ24 : ∀ a, a < 4 → ∀ b, b < 4 → a ≠ b → (TJ24 a).2.1 ≠ (TJ24 b).2.1 := by decide +kernel
theorem tyJ24_ok : ∀ k, k < 4 → parseFieldDescriptor (TJ24 k).2.2.1 = some (tyJ24 k) := by decide +kernel
abbrev cJ24_init : ByteArray := prog_77_method_1_code
def yJ24_init : MethodName := ⟨RJ24, "<init>", "()V"⟩
def dkwJ24_init_0 : List UInt8 := [42, 183, 0, 1, 42, 3, 181, 0, 7, 177]
abbrev dktJ24_init_0 : List UInt8 := dkwJ24_init_0 ++ []
theorem dksJ24_init_0 : cJ24_init.data.toList.drop 0 = dktJ24_init_0 := by decide +kernel
theorem dJ24_init_0 : decode cJ24_init 0 = .ok (.aload_n 0, 1) := dk_42 (dk_at dksJ24_init_0 0 rfl rfl)
theorem dJ24_init_1 : decode cJ24_init 1 = .ok (.invokespecial 1, 3) := dk_183 0 1 (dk_at dksJ24_init_0 1 rfl rfl)
theorem dJ24_init_4 : decode cJ24_init 4 = .ok (.aload_n 0, 1) := dk_42 (dk_at dksJ24_init_0 4 rfl rfl)
theorem dJ24_init_5 : decode cJ24_init 5 = .ok (.iconst 0, 1) := dk_3 (dk_at dksJ24_init_0 5 rfl rfl)
theorem dJ24_init_6 : decode cJ24_init 6 = .ok (.putfield 7, 3) := dk_181 0 7 (dk_at dksJ24_init_0 6 rfl rfl)
theorem dJ24_init_9 : decode cJ24_init 9 = .ok (.return_, 1) := dk_177 (dk_at dksJ24_init_0 9 rfl rfl)
abbrev cJ24_size : ByteArray := prog_77_method_16_code
def yJ24_size : MethodName := ⟨RJ24, "size", "()I"⟩
theorem dJ24_size_0 : decode cJ24_size 0 = .ok (.aload_n 0, 1) := by decide +kernel
theorem dJ24_size_1 : decode cJ24_size 1 = .ok (.getfield 7, 3) := by decide +kernel
theorem dJ24_size_4 : decode cJ24_size 4 = .ok (.ireturn, 1) := by decide +kernel
abbrev cJ24_get : ByteArray := prog_77_method_22_code
def yJ24_get : MethodName := ⟨RJ24, "get", "(I)Ljava/lang/Object;"⟩
def dkwJ24_get_0 : List UInt8 := [42, 27, 182, 0, 90, 42, 27, 182, 0, 86, 180, 0, 39, 176]
abbrev dktJ24_get_0 : List UInt8 := dkwJ24_get_0 ++ []
theorem dksJ24_get_0 : cJ24_get.data.toList.drop 0 = dktJ24_get_0 := by decide +kernel
theorem dJ24_get_0 : decode cJ24_get 0 = .ok (.aload_n 0, 1) := dk_42 (dk_at dksJ24_get_0 0 rfl rfl)
theorem dJ24_get_1 : decode cJ24_get 1 = .ok (.iload_n 1, 1) := dk_27 (dk_at dksJ24_get_0 1 rfl rfl)
theorem dJ24_get_2 : decode cJ24_get 2 = .ok (.invokevirtual 90, 3) := dk_182 0 90 (dk_at dksJ24_get_0 2 rfl rfl)
theorem dJ24_get_5 : decode cJ24_get 5 = .ok (.aload_n 0, 1) := dk_42 (dk_at dksJ24_get_0 5 rfl rfl)
theorem dJ24_get_6 : decode cJ24_get 6 = .ok (.iload_n 1, 1) := dk_27 (dk_at dksJ24_get_0 6 rfl rfl)
theorem dJ24_get_7 : decode cJ24_get 7 = .ok (.invokevirtual 86, 3) := dk_182 0 86 (dk_at dksJ24_get_0 7 rfl rfl)
theorem dJ24_get_10 : decode cJ24_get 10 = .ok (.getfield 39, 3) := dk_180 0 39 (dk_at dksJ24_get_0 10 rfl rfl)
theorem dJ24_get_13 : decode cJ24_get 13 = .ok (.areturn, 1) := dk_176 (dk_at dksJ24_get_0 13 rfl rfl)
abbrev cJ24_checkElementIndex : ByteArray := prog_77_method_29_code
def yJ24_checkElementIndex : MethodName := ⟨RJ24, "checkElementIndex", "(I)V"⟩
def dkwJ24_checkElementIndex_0 : List UInt8 := [42, 27, 182, 0, 115, 154, 0, 16, 187, 0, 119, 89, 42, 27, 182, 0, 121, 183, 0, 125, 191, 177]
abbrev dktJ24_checkElementIndex_0 : List UInt8 := dkwJ24_checkElementIndex_0 ++ []
theorem dksJ24_checkElementIndex_0 : cJ24_checkElementIndex.data.toList.drop 0 = dktJ24_checkElementIndex_0 := by decide +kernel
theorem dJ24_checkElementIndex_0 : decode cJ24_checkElementIndex 0 = .ok (.aload_n 0, 1) := dk_42 (dk_at dksJ24_checkElementIndex_0 0 rfl rfl)
theorem dJ24_checkElementIndex_1 : decode cJ24_checkElementIndex 1 = .ok (.iload_n 1, 1) := dk_27 (dk_at dksJ24_checkElementIndex_0 1 rfl rfl)
theorem dJ24_checkElementIndex_2 : decode cJ24_checkElementIndex 2 = .ok (.invokevirtual 115, 3) := dk_182 0 115 (dk_at dksJ24_checkElementIndex_0 2 rfl rfl)
theorem dJ24_checkElementIndex_5 : decode cJ24_checkElementIndex 5 = .ok (.ifCond .ne 16, 3) := dk_154 0 16 (dk_at dksJ24_checkElementIndex_0 5 rfl rfl)
theorem dJ24_checkElementIndex_8 : decode cJ24_checkElementIndex 8 = .ok (.new 119, 3) := dk_187 0 119 (dk_at dksJ24_checkElementIndex_0 8 rfl rfl)
theorem dJ24_checkElementIndex_11 : decode cJ24_checkElementIndex 11 = .ok (.dup, 1) := dk_89 (dk_at dksJ24_checkElementIndex_0 11 rfl rfl)
theorem dJ24_checkElementIndex_12 : decode cJ24_checkElementIndex 12 = .ok (.aload_n 0, 1) := dk_42 (dk_at dksJ24_checkElementIndex_0 12 rfl rfl)
theorem dJ24_checkElementIndex_13 : decode cJ24_checkElementIndex 13 = .ok (.iload_n 1, 1) := dk_27 (dk_at dksJ24_checkElementIndex_0 13 rfl rfl)
theorem dJ24_checkElementIndex_14 : decode cJ24_checkElementIndex 14 = .ok (.invokevirtual 121, 3) := dk_182 0 121 (dk_at dksJ24_checkElementIndex_0 14 rfl rfl)
theorem dJ24_checkElementIndex_17 : decode cJ24_checkElementIndex 17 = .ok (.invokespecial 125, 3) := dk_183 0 125 (dk_at dksJ24_checkElementIndex_0 17 rfl rfl)
theorem dJ24_checkElementIndex_20 : decode cJ24_checkElementIndex 20 = .ok (.athrow, 1) := dk_191 (dk_at dksJ24_checkElementIndex_0 20 rfl rfl)
theorem dJ24_checkElementIndex_21 : decode cJ24_checkElementIndex 21 = .ok (.return_, 1) := dk_177 (dk_at dksJ24_checkElementIndex_0 21 rfl rfl)
abbrev cJ24_isElementIndex : ByteArray := prog_77_method_26_code
def yJ24_isElementIndex : MethodName := ⟨RJ24, "isElementIndex", "(I)Z"⟩
def dkwJ24_isElementIndex_0 : List UInt8 := [27, 155, 0, 15, 27, 42, 180, 0, 7, 162, 0, 7, 4, 167, 0, 4, 3, 172]
abbrev dktJ24_isElementIndex_0 : List UInt8 := dkwJ24_isElementIndex_0 ++ []
theorem dksJ24_isElementIndex_0 : cJ24_isElementIndex.data.toList.drop 0 = dktJ24_isElementIndex_0 := by decide +kernel
theorem dJ24_isElementIndex_0 : decode cJ24_isElementIndex 0 = .ok (.iload_n 1, 1) := dk_27 (dk_at dksJ24_isElementIndex_0 0 rfl rfl)
theorem dJ24_isElementIndex_1 : decode cJ24_isElementIndex 1 = .ok (.ifCond .lt 15, 3) := dk_155 0 15 (dk_at dksJ24_isElementIndex_0 1 rfl rfl)
theorem dJ24_isElementIndex_4 : decode cJ24_isElementIndex 4 = .ok (.iload_n 1, 1) := dk_27 (dk_at dksJ24_isElementIndex_0 4 rfl rfl)
theorem dJ24_isElementIndex_5 : decode cJ24_isElementIndex 5 = .ok (.aload_n 0, 1) := dk_42 (dk_at dksJ24_isElementIndex_0 5 rfl rfl)
theorem dJ24_isElementIndex_6 : decode cJ24_isElementIndex 6 = .ok (.getfield 7, 3) := dk_180 0 7 (dk_at dksJ24_isElementIndex_0 6 rfl rfl)
theorem dJ24_isElementIndex_9 : decode cJ24_isElementIndex 9 = .ok (.if_icmp .ge 7, 3) := dk_162 0 7 (dk_at dksJ24_isElementIndex_0 9 rfl rfl)
theorem dJ24_isElementIndex_12 : decode cJ24_isElementIndex 12 = .ok (.iconst 1, 1) := dk_4 (dk_at dksJ24_isElementIndex_0 12 rfl rfl)
theorem dJ24_isElementIndex_13 : decode cJ24_isElementIndex 13 = .ok (.goto 4, 3) := dk_167 0 4 (dk_at dksJ24_isElementIndex_0 13 rfl rfl)
theorem dJ24_isElementIndex_16 : decode cJ24_isElementIndex 16 = .ok (.iconst 0, 1) := dk_3 (dk_at dksJ24_isElementIndex_0 16 rfl rfl)
theorem dJ24_isElementIndex_17 : decode cJ24_isElementIndex 17 = .ok (.ireturn, 1) := dk_172 (dk_at dksJ24_isElementIndex_0 17 rfl rfl)
abbrev cJ24_outOfBoundsMsg : ByteArray := prog_77_method_28_code
def yJ24_outOfBoundsMsg : MethodName := ⟨RJ24, "outOfBoundsMsg", "(I)Ljava/lang/String;"⟩
def dkwJ24_outOfBoundsMsg_1 : List UInt8 := [180, 0, 7, 182, 0, 106, 182, 0, 111, 176]
abbrev dktJ24_outOfBoundsMsg_1 : List UInt8 := dkwJ24_outOfBoundsMsg_1 ++ []
def dkwJ24_outOfBoundsMsg_0 : List UInt8 := [187, 0, 97, 89, 183, 0, 99, 18, 100, 182, 0, 102, 27, 182, 0, 106, 18, 109, 182, 0, 102, 42]
abbrev dktJ24_outOfBoundsMsg_0 : List UInt8 := dkwJ24_outOfBoundsMsg_0 ++ dktJ24_outOfBoundsMsg_1
theorem dksJ24_outOfBoundsMsg_0 : cJ24_outOfBoundsMsg.data.toList.drop 0 = dktJ24_outOfBoundsMsg_0 := by decide +kernel
theorem dksJ24_outOfBoundsMsg_1 : cJ24_outOfBoundsMsg.data.toList.drop 22 = dktJ24_outOfBoundsMsg_1 := dk_seg dksJ24_outOfBoundsMsg_0 22 rfl rfl
theorem dJ24_outOfBoundsMsg_0 : decode cJ24_outOfBoundsMsg 0 = .ok (.new 97, 3) := dk_187 0 97 (dk_at dksJ24_outOfBoundsMsg_0 0 rfl rfl)
theorem dJ24_outOfBoundsMsg_3 : decode cJ24_outOfBoundsMsg 3 = .ok (.dup, 1) := dk_89 (dk_at dksJ24_outOfBoundsMsg_0 3 rfl rfl)
theorem dJ24_outOfBoundsMsg_4 : decode cJ24_outOfBoundsMsg 4 = .ok (.invokespecial 99, 3) := dk_183 0 99 (dk_at dksJ24_outOfBoundsMsg_0 4 rfl rfl)
theorem dJ24_outOfBoundsMsg_7 : decode cJ24_outOfBoundsMsg 7 = .ok (.ldc 100, 2) := dk_18 100 (dk_at dksJ24_outOfBoundsMsg_0 7 rfl rfl)
theorem dJ24_outOfBoundsMsg_9 : decode cJ24_outOfBoundsMsg 9 = .ok (.invokevirtual 102, 3) := dk_182 0 102 (dk_at dksJ24_outOfBoundsMsg_0 9 rfl rfl)
theorem dJ24_outOfBoundsMsg_12 : decode cJ24_outOfBoundsMsg 12 = .ok (.iload_n 1, 1) := dk_27 (dk_at dksJ24_outOfBoundsMsg_0 12 rfl rfl)
theorem dJ24_outOfBoundsMsg_13 : decode cJ24_outOfBoundsMsg 13 = .ok (.invokevirtual 106, 3) := dk_182 0 106 (dk_at dksJ24_outOfBoundsMsg_0 13 rfl rfl)
theorem dJ24_outOfBoundsMsg_16 : decode cJ24_outOfBoundsMsg 16 = .ok (.ldc 109, 2) := dk_18 109 (dk_at dksJ24_outOfBoundsMsg_0 16 rfl rfl)
theorem dJ24_outOfBoundsMsg_18 : decode cJ24_outOfBoundsMsg 18 = .ok (.invokevirtual 102, 3) := dk_182 0 102 (dk_at dksJ24_outOfBoundsMsg_0 18 rfl rfl)
theorem dJ24_outOfBoundsMsg_21 : decode cJ24_outOfBoundsMsg 21 = .ok (.aload_n 0, 1) := dk_42 (dk_at dksJ24_outOfBoundsMsg_0 21 rfl rfl)
theorem dJ24_outOfBoundsMsg_22 : decode cJ24_outOfBoundsMsg 22 = .ok (.getfield 7, 3) := dk_180 0 7 (dk_at dksJ24_outOfBoundsMsg_1 0 rfl rfl)
theorem dJ24_outOfBoundsMsg_25 : decode cJ24_outOfBoundsMsg 25 = .ok (.invokevirtual 106, 3) := dk_182 0 106 (dk_at dksJ24_outOfBoundsMsg_1 3 rfl rfl)
theorem dJ24_outOfBoundsMsg_28 : decode cJ24_outOfBoundsMsg 28 = .ok (.invokevirtual 111, 3) := dk_182 0 111 (dk_at dksJ24_outOfBoundsMsg_1 6 rfl rfl)
theorem dJ24_outOfBoundsMsg_31 : decode cJ24_outOfBoundsMsg 31 = .ok (.areturn, 1) := dk_176 (dk_at dksJ24_outOfBoundsMsg_1 9 rfl rfl)
abbrev cJ24_node : ByteArray := prog_77_method_31_code
def yJ24_node : MethodName := ⟨RJ24, "node", "(I)Ljava/util/LinkedList$Node;"⟩
def dkwJ24_node_2 : List UInt8 := [29, 27, 164, 0, 14, 44, 180, 0, 30, 77, 132, 3, 255, 167, 255, 243, 44, 176]
abbrev dktJ24_node_2 : List UInt8 := dkwJ24_node_2 ++ []
def dkwJ24_node_1 : List UInt8 := [180, 0, 36, 77, 132, 3, 1, 167, 255, 243, 44, 176, 42, 180, 0, 27, 77, 42, 180, 0, 7, 4, 100, 62]
abbrev dktJ24_node_1 : List UInt8 := dkwJ24_node_1 ++ dktJ24_node_2
def dkwJ24_node_0 : List UInt8 := [27, 42, 180, 0, 7, 4, 122, 162, 0, 28, 42, 180, 0, 18, 77, 3, 62, 29, 27, 162, 0, 14, 44]
abbrev dktJ24_node_0 : List UInt8 := dkwJ24_node_0 ++ dktJ24_node_1
theorem dksJ24_node_0 : cJ24_node.data.toList.drop 0 = dktJ24_node_0 := by decide +kernel
theorem dksJ24_node_1 : cJ24_node.data.toList.drop 23 = dktJ24_node_1 := dk_seg dksJ24_node_0 23 rfl rfl
theorem dksJ24_node_2 : cJ24_node.data.toList.drop 47 = dktJ24_node_2 := dk_seg dksJ24_node_1 24 rfl rfl
theorem dJ24_node_0 : decode cJ24_node 0 = .ok (.iload_n 1, 1) := dk_27 (dk_at dksJ24_node_0 0 rfl rfl)
theorem dJ24_node_1 : decode cJ24_node 1 = .ok (.aload_n 0, 1) := dk_42 (dk_at dksJ24_node_0 1 rfl rfl)
theorem dJ24_node_2 : decode cJ24_node 2 = .ok (.getfield 7, 3) := dk_180 0 7 (dk_at dksJ24_node_0 2 rfl rfl)
theorem dJ24_node_5 : decode cJ24_node 5 = .ok (.iconst 1, 1) := dk_4 (dk_at dksJ24_node_0 5 rfl rfl)
theorem dJ24_node_6 : decode cJ24_node 6 = .ok (.ishr, 1) := dk_122 (dk_at dksJ24_node_0 6 rfl rfl)
theorem dJ24_node_7 : decode cJ24_node 7 = .ok (.if_icmp .ge 28, 3) := dk_162 0 28 (dk_at dksJ24_node_0 7 rfl rfl)
theorem dJ24_node_10 : decode cJ24_node 10 = .ok (.aload_n 0, 1) := dk_42 (dk_at dksJ24_node_0 10 rfl rfl)
theorem dJ24_node_11 : decode cJ24_node 11 = .ok (.getfield 18, 3) := dk_180 0 18 (dk_at dksJ24_node_0 11 rfl rfl)
theorem dJ24_node_14 : decode cJ24_node 14 = .ok (.astore_n 2, 1) := dk_77 (dk_at dksJ24_node_0 14 rfl rfl)
theorem dJ24_node_15 : decode cJ24_node 15 = .ok (.iconst 0, 1) := dk_3 (dk_at dksJ24_node_0 15 rfl rfl)
theorem dJ24_node_16 : decode cJ24_node 16 = .ok (.istore_n 3, 1) := dk_62 (dk_at dksJ24_node_0 16 rfl rfl)
theorem dJ24_node_17 : decode cJ24_node 17 = .ok (.iload_n 3, 1) := dk_29 (dk_at dksJ24_node_0 17 rfl rfl)
theorem dJ24_node_18 : decode cJ24_node 18 = .ok (.iload_n 1, 1) := dk_27 (dk_at dksJ24_node_0 18 rfl rfl)
theorem dJ24_node_19 : decode cJ24_node 19 = .ok (.if_icmp .ge 14, 3) := dk_162 0 14 (dk_at dksJ24_node_0 19 rfl rfl)
theorem dJ24_node_22 : decode cJ24_node 22 = .ok (.aload_n 2, 1) := dk_44 (dk_at dksJ24_node_0 22 rfl rfl)
theorem dJ24_node_23 : decode cJ24_node 23 = .ok (.getfield 36, 3) := dk_180 0 36 (dk_at dksJ24_node_1 0 rfl rfl)
theorem dJ24_node_26 : decode cJ24_node 26 = .ok (.astore_n 2, 1) := dk_77 (dk_at dksJ24_node_1 3 rfl rfl)
theorem dJ24_node_27 : decode cJ24_node 27 = .ok (.iinc 3 1, 3) := dk_132 3 1 (dk_at dksJ24_node_1 4 rfl rfl)
theorem dJ24_node_30 : decode cJ24_node 30 = .ok (.goto (-13), 3) := dk_167 255 243 (dk_at dksJ24_node_1 7 rfl rfl)
theorem dJ24_node_33 : decode cJ24_node 33 = .ok (.aload_n 2, 1) := dk_44 (dk_at dksJ24_node_1 10 rfl rfl)
theorem dJ24_node_34 : decode cJ24_node 34 = .ok (.areturn, 1) := dk_176 (dk_at dksJ24_node_1 11 rfl rfl)
theorem dJ24_node_35 : decode cJ24_node 35 = .ok (.aload_n 0, 1) := dk_42 (dk_at dksJ24_node_1 12 rfl rfl)
theorem dJ24_node_36 : decode cJ24_node 36 = .ok (.getfield 27, 3) := dk_180 0 27 (dk_at dksJ24_node_1 13 rfl rfl)
theorem dJ24_node_39 : decode cJ24_node 39 = .ok (.astore_n 2, 1) := dk_77 (dk_at dksJ24_node_1 16 rfl rfl)
theorem dJ24_node_40 : decode cJ24_node 40 = .ok (.aload_n 0, 1) := dk_42 (dk_at dksJ24_node_1 17 rfl rfl)
theorem dJ24_node_41 : decode cJ24_node 41 = .ok (.getfield 7, 3) := dk_180 0 7 (dk_at dksJ24_node_1 18 rfl rfl)
theorem dJ24_node_44 : decode cJ24_node 44 = .ok (.iconst 1, 1) := dk_4 (dk_at dksJ24_node_1 21 rfl rfl)
theorem dJ24_node_45 : decode cJ24_node 45 = .ok (.isub, 1) := dk_100 (dk_at dksJ24_node_1 22 rfl rfl)
theorem dJ24_node_46 : decode cJ24_node 46 = .ok (.istore_n 3, 1) := dk_62 (dk_at dksJ24_node_1 23 rfl rfl)
theorem dJ24_node_47 : decode cJ24_node 47 = .ok (.iload_n 3, 1) := dk_29 (dk_at dksJ24_node_2 0 rfl rfl)
theorem dJ24_node_48 : decode cJ24_node 48 = .ok (.iload_n 1, 1) := dk_27 (dk_at dksJ24_node_2 1 rfl rfl)
theorem dJ24_node_49 : decode cJ24_node 49 = .ok (.if_icmp .le 14, 3) := dk_164 0 14 (dk_at dksJ24_node_2 2 rfl rfl)
theorem dJ24_node_52 : decode cJ24_node 52 = .ok (.aload_n 2, 1) := dk_44 (dk_at dksJ24_node_2 5 rfl rfl)
theorem dJ24_node_53 : decode cJ24_node 53 = .ok (.getfield 30, 3) := dk_180 0 30 (dk_at dksJ24_node_2 6 rfl rfl)
theorem dJ24_node_56 : decode cJ24_node 56 = .ok (.astore_n 2, 1) := dk_77 (dk_at dksJ24_node_2 9 rfl rfl)
theorem dJ24_node_57 : decode cJ24_node 57 = .ok (.iinc 3 (-1), 3) := dk_132 3 255 (dk_at dksJ24_node_2 10 rfl rfl)
theorem dJ24_node_60 : decode cJ24_node 60 = .ok (.goto (-13), 3) := dk_167 255 243 (dk_at dksJ24_node_2 13 rfl rfl)
theorem dJ24_node_63 : decode cJ24_node 63 = .ok (.aload_n 2, 1) := dk_44 (dk_at dksJ24_node_2 16 rfl rfl)
theorem dJ24_node_64 : decode cJ24_node 64 = .ok (.areturn, 1) := dk_176 (dk_at dksJ24_node_2 17 rfl rfl)
abbrev cJ24_listIterator : ByteArray := prog_77_method_49_code
def yJ24_listIterator : MethodName := ⟨RJ24, "listIterator", "(I)Ljava/util/ListIterator;"⟩
def dkwJ24_listIterator_0 : List UInt8 := [42, 27, 182, 0, 76, 187, 0, 150, 89, 42, 27, 183, 0, 152, 176]
abbrev dktJ24_listIterator_0 : List UInt8 := dkwJ24_listIterator_0 ++ []
theorem dksJ24_listIterator_0 : cJ24_listIterator.data.toList.drop 0 = dktJ24_listIterator_0 := by decide +kernel
theorem dJ24_listIterator_0 : decode cJ24_listIterator 0 = .ok (.aload_n 0, 1) := dk_42 (dk_at dksJ24_listIterator_0 0 rfl rfl)
theorem dJ24_listIterator_1 : decode cJ24_listIterator 1 = .ok (.iload_n 1, 1) := dk_27 (dk_at dksJ24_listIterator_0 1 rfl rfl)
theorem dJ24_listIterator_2 : decode cJ24_listIterator 2 = .ok (.invokevirtual 76, 3) := dk_182 0 76 (dk_at dksJ24_listIterator_0 2 rfl rfl)
theorem dJ24_listIterator_5 : decode cJ24_listIterator 5 = .ok (.new 150, 3) := dk_187 0 150 (dk_at dksJ24_listIterator_0 5 rfl rfl)
theorem dJ24_listIterator_8 : decode cJ24_listIterator 8 = .ok (.dup, 1) := dk_89 (dk_at dksJ24_listIterator_0 8 rfl rfl)
theorem dJ24_listIterator_9 : decode cJ24_listIterator 9 = .ok (.aload_n 0, 1) := dk_42 (dk_at dksJ24_listIterator_0 9 rfl rfl)
theorem dJ24_listIterator_10 : decode cJ24_listIterator 10 = .ok (.iload_n 1, 1) := dk_27 (dk_at dksJ24_listIterator_0 10 rfl rfl)
theorem dJ24_listIterator_11 : decode cJ24_listIterator 11 = .ok (.invokespecial 152, 3) := dk_183 0 152 (dk_at dksJ24_listIterator_0 11 rfl rfl)
theorem dJ24_listIterator_14 : decode cJ24_listIterator 14 = .ok (.areturn, 1) := dk_176 (dk_at dksJ24_listIterator_0 14 rfl rfl)
abbrev cJ24_checkPositionIndex : ByteArray := prog_77_method_30_code
def yJ24_checkPositionIndex : MethodName := ⟨RJ24, "checkPositionIndex", "(I)V"⟩
def dkwJ24_checkPositionIndex_0 : List UInt8 := [42, 27, 182, 0, 128, 154, 0, 16, 187, 0, 119, 89, 42, 27, 182, 0, 121, 183, 0, 125, 191, 177]
abbrev dktJ24_checkPositionIndex_0 : List UInt8 := dkwJ24_checkPositionIndex_0 ++ []
theorem dksJ24_checkPositionIndex_0 : cJ24_checkPositionIndex.data.toList.drop 0 = dktJ24_checkPositionIndex_0 := by decide +kernel
theorem dJ24_checkPositionIndex_0 : decode cJ24_checkPositionIndex 0 = .ok (.aload_n 0, 1) := dk_42 (dk_at dksJ24_checkPositionIndex_0 0 rfl rfl)
theorem dJ24_checkPositionIndex_1 : decode cJ24_checkPositionIndex 1 = .ok (.iload_n 1, 1) := dk_27 (dk_at dksJ24_checkPositionIndex_0 1 rfl rfl)
theorem dJ24_checkPositionIndex_2 : decode cJ24_checkPositionIndex 2 = .ok (.invokevirtual 128, 3) := dk_182 0 128 (dk_at dksJ24_checkPositionIndex_0 2 rfl rfl)
theorem dJ24_checkPositionIndex_5 : decode cJ24_checkPositionIndex 5 = .ok (.ifCond .ne 16, 3) := dk_154 0 16 (dk_at dksJ24_checkPositionIndex_0 5 rfl rfl)
theorem dJ24_checkPositionIndex_8 : decode cJ24_checkPositionIndex 8 = .ok (.new 119, 3) := dk_187 0 119 (dk_at dksJ24_checkPositionIndex_0 8 rfl rfl)
theorem dJ24_checkPositionIndex_11 : decode cJ24_checkPositionIndex 11 = .ok (.dup, 1) := dk_89 (dk_at dksJ24_checkPositionIndex_0 11 rfl rfl)
theorem dJ24_checkPositionIndex_12 : decode cJ24_checkPositionIndex 12 = .ok (.aload_n 0, 1) := dk_42 (dk_at dksJ24_checkPositionIndex_0 12 rfl rfl)
theorem dJ24_checkPositionIndex_13 : decode cJ24_checkPositionIndex 13 = .ok (.iload_n 1, 1) := dk_27 (dk_at dksJ24_checkPositionIndex_0 13 rfl rfl)
theorem dJ24_checkPositionIndex_14 : decode cJ24_checkPositionIndex 14 = .ok (.invokevirtual 121, 3) := dk_182 0 121 (dk_at dksJ24_checkPositionIndex_0 14 rfl rfl)
theorem dJ24_checkPositionIndex_17 : decode cJ24_checkPositionIndex 17 = .ok (.invokespecial 125, 3) := dk_183 0 125 (dk_at dksJ24_checkPositionIndex_0 17 rfl rfl)
theorem dJ24_checkPositionIndex_20 : decode cJ24_checkPositionIndex 20 = .ok (.athrow, 1) := dk_191 (dk_at dksJ24_checkPositionIndex_0 20 rfl rfl)
theorem dJ24_checkPositionIndex_21 : decode cJ24_checkPositionIndex 21 = .ok (.return_, 1) := dk_177 (dk_at dksJ24_checkPositionIndex_0 21 rfl rfl)
abbrev cJ24_isPositionIndex : ByteArray := prog_77_method_27_code
def yJ24_isPositionIndex : MethodName := ⟨RJ24, "isPositionIndex", "(I)Z"⟩
def dkwJ24_isPositionIndex_0 : List UInt8 := [27, 155, 0, 15, 27, 42, 180, 0, 7, 163, 0, 7, 4, 167, 0, 4, 3, 172]
abbrev dktJ24_isPositionIndex_0 : List UInt8 := dkwJ24_isPositionIndex_0 ++ []
theorem dksJ24_isPositionIndex_0 : cJ24_isPositionIndex.data.toList.drop 0 = dktJ24_isPositionIndex_0 := by decide +kernel
theorem dJ24_isPositionIndex_0 : decode cJ24_isPositionIndex 0 = .ok (.iload_n 1, 1) := dk_27 (dk_at dksJ24_isPositionIndex_0 0 rfl rfl)
theorem dJ24_isPositionIndex_1 : decode cJ24_isPositionIndex 1 = .ok (.ifCond .lt 15, 3) := dk_155 0 15 (dk_at dksJ24_isPositionIndex_0 1 rfl rfl)
theorem dJ24_isPositionIndex_4 : decode cJ24_isPositionIndex 4 = .ok (.iload_n 1, 1) := dk_27 (dk_at dksJ24_isPositionIndex_0 4 rfl rfl)
theorem dJ24_isPositionIndex_5 : decode cJ24_isPositionIndex 5 = .ok (.aload_n 0, 1) := dk_42 (dk_at dksJ24_isPositionIndex_0 5 rfl rfl)
theorem dJ24_isPositionIndex_6 : decode cJ24_isPositionIndex 6 = .ok (.getfield 7, 3) := dk_180 0 7 (dk_at dksJ24_isPositionIndex_0 6 rfl rfl)
theorem dJ24_isPositionIndex_9 : decode cJ24_isPositionIndex 9 = .ok (.if_icmp .gt 7, 3) := dk_163 0 7 (dk_at dksJ24_isPositionIndex_0 9 rfl rfl)
theorem dJ24_isPositionIndex_12 : decode cJ24_isPositionIndex 12 = .ok (.iconst 1, 1) := dk_4 (dk_at dksJ24_isPositionIndex_0 12 rfl rfl)
theorem dJ24_isPositionIndex_13 : decode cJ24_isPositionIndex 13 = .ok (.goto 4, 3) := dk_167 0 4 (dk_at dksJ24_isPositionIndex_0 13 rfl rfl)
theorem dJ24_isPositionIndex_16 : decode cJ24_isPositionIndex 16 = .ok (.iconst 0, 1) := dk_3 (dk_at dksJ24_isPositionIndex_0 16 rfl rfl)
theorem dJ24_isPositionIndex_17 : decode cJ24_isPositionIndex 17 = .ok (.ireturn, 1) := dk_172 (dk_at dksJ24_isPositionIndex_0 17 rfl rfl)
abbrev cJ24_descendingIterator : ByteArray := prog_77_method_50_code
def yJ24_descendingIterator : MethodName := ⟨RJ24, "descendingIterator", "()Ljava/util/Iterator;"⟩
def dkwJ24_descendingIterator_0 : List UInt8 := [187, 0, 155, 89, 42, 183, 0, 157, 176]
abbrev dktJ24_descendingIterator_0 : List UInt8 := dkwJ24_descendingIterator_0 ++ []
theorem dksJ24_descendingIterator_0 : cJ24_descendingIterator.data.toList.drop 0 = dktJ24_descendingIterator_0 := by decide +kernel
theorem dJ24_descendingIterator_0 : decode cJ24_descendingIterator 0 = .ok (.new 155, 3) := dk_187 0 155 (dk_at dksJ24_descendingIterator_0 0 rfl rfl)
theorem dJ24_descendingIterator_3 : decode cJ24_descendingIterator 3 = .ok (.dup, 1) := dk_89 (dk_at dksJ24_descendingIterator_0 3 rfl rfl)
theorem dJ24_descendingIterator_4 : decode cJ24_descendingIterator 4 = .ok (.aload_n 0, 1) := dk_42 (dk_at dksJ24_descendingIterator_0 4 rfl rfl)
theorem dJ24_descendingIterator_5 : decode cJ24_descendingIterator 5 = .ok (.invokespecial 157, 3) := dk_183 0 157 (dk_at dksJ24_descendingIterator_0 5 rfl rfl)
theorem dJ24_descendingIterator_8 : decode cJ24_descendingIterator 8 = .ok (.areturn, 1) := dk_176 (dk_at dksJ24_descendingIterator_0 8 rfl rfl)
abbrev cJ24_addLast : ByteArray := prog_77_method_14_code
def yJ24_addLast : MethodName := ⟨RJ24, "addLast", "(Ljava/lang/Object;)V"⟩
def dkwJ24_addLast_0 : List UInt8 := [42, 43, 182, 0, 57, 177]
abbrev dktJ24_addLast_0 : List UInt8 := dkwJ24_addLast_0 ++ []
theorem dksJ24_addLast_0 : cJ24_addLast.data.toList.drop 0 = dktJ24_addLast_0 := by decide +kernel
theorem dJ24_addLast_0 : decode cJ24_addLast 0 = .ok (.aload_n 0, 1) := dk_42 (dk_at dksJ24_addLast_0 0 rfl rfl)
theorem dJ24_addLast_1 : decode cJ24_addLast 1 = .ok (.aload_n 1, 1) := dk_43 (dk_at dksJ24_addLast_0 1 rfl rfl)
theorem dJ24_addLast_2 : decode cJ24_addLast 2 = .ok (.invokevirtual 57, 3) := dk_182 0 57 (dk_at dksJ24_addLast_0 2 rfl rfl)
theorem dJ24_addLast_5 : decode cJ24_addLast 5 = .ok (.return_, 1) := dk_177 (dk_at dksJ24_addLast_0 5 rfl rfl)
abbrev cJ24_linkLast : ByteArray := prog_77_method_4_code
def yJ24_linkLast : MethodName := ⟨RJ24, "linkLast", "(Ljava/lang/Object;)V"⟩
def dkwJ24_linkLast_2 : List UInt8 := [181, 0, 7, 42, 89, 180, 0, 33, 4, 96, 181, 0, 33, 177]
abbrev dktJ24_linkLast_2 : List UInt8 := dkwJ24_linkLast_2 ++ []
def dkwJ24_linkLast_1 : List UInt8 := [199, 0, 11, 42, 45, 181, 0, 18, 167, 0, 8, 44, 45, 181, 0, 36, 42, 89, 180, 0, 7, 4, 96]
abbrev dktJ24_linkLast_1 : List UInt8 := dkwJ24_linkLast_1 ++ dktJ24_linkLast_2
def dkwJ24_linkLast_0 : List UInt8 := [42, 180, 0, 27, 77, 187, 0, 22, 89, 44, 43, 1, 183, 0, 24, 78, 42, 45, 181, 0, 27, 44]
abbrev dktJ24_linkLast_0 : List UInt8 := dkwJ24_linkLast_0 ++ dktJ24_linkLast_1
theorem dksJ24_linkLast_0 : cJ24_linkLast.data.toList.drop 0 = dktJ24_linkLast_0 := by decide +kernel
theorem dksJ24_linkLast_1 : cJ24_linkLast.data.toList.drop 22 = dktJ24_linkLast_1 := dk_seg dksJ24_linkLast_0 22 rfl rfl
theorem dksJ24_linkLast_2 : cJ24_linkLast.data.toList.drop 45 = dktJ24_linkLast_2 := dk_seg dksJ24_linkLast_1 23 rfl rfl
theorem dJ24_linkLast_0 : decode cJ24_linkLast 0 = .ok (.aload_n 0, 1) := dk_42 (dk_at dksJ24_linkLast_0 0 rfl rfl)
theorem dJ24_linkLast_1 : decode cJ24_linkLast 1 = .ok (.getfield 27, 3) := dk_180 0 27 (dk_at dksJ24_linkLast_0 1 rfl rfl)
theorem dJ24_linkLast_4 : decode cJ24_linkLast 4 = .ok (.astore_n 2, 1) := dk_77 (dk_at dksJ24_linkLast_0 4 rfl rfl)
theorem dJ24_linkLast_5 : decode cJ24_linkLast 5 = .ok (.new 22, 3) := dk_187 0 22 (dk_at dksJ24_linkLast_0 5 rfl rfl)
theorem dJ24_linkLast_8 : decode cJ24_linkLast 8 = .ok (.dup, 1) := dk_89 (dk_at dksJ24_linkLast_0 8 rfl rfl)
theorem dJ24_linkLast_9 : decode cJ24_linkLast 9 = .ok (.aload_n 2, 1) := dk_44 (dk_at dksJ24_linkLast_0 9 rfl rfl)
theorem dJ24_linkLast_10 : decode cJ24_linkLast 10 = .ok (.aload_n 1, 1) := dk_43 (dk_at dksJ24_linkLast_0 10 rfl rfl)
theorem dJ24_linkLast_11 : decode cJ24_linkLast 11 = .ok (.aconst_null, 1) := dk_1 (dk_at dksJ24_linkLast_0 11 rfl rfl)
theorem dJ24_linkLast_12 : decode cJ24_linkLast 12 = .ok (.invokespecial 24, 3) := dk_183 0 24 (dk_at dksJ24_linkLast_0 12 rfl rfl)
theorem dJ24_linkLast_15 : decode cJ24_linkLast 15 = .ok (.astore_n 3, 1) := dk_78 (dk_at dksJ24_linkLast_0 15 rfl rfl)
theorem dJ24_linkLast_16 : decode cJ24_linkLast 16 = .ok (.aload_n 0, 1) := dk_42 (dk_at dksJ24_linkLast_0 16 rfl rfl)
theorem dJ24_linkLast_17 : decode cJ24_linkLast 17 = .ok (.aload_n 3, 1) := dk_45 (dk_at dksJ24_linkLast_0 17 rfl rfl)
theorem dJ24_linkLast_18 : decode cJ24_linkLast 18 = .ok (.putfield 27, 3) := dk_181 0 27 (dk_at dksJ24_linkLast_0 18 rfl rfl)
theorem dJ24_linkLast_21 : decode cJ24_linkLast 21 = .ok (.aload_n 2, 1) := dk_44 (dk_at dksJ24_linkLast_0 21 rfl rfl)
theorem dJ24_linkLast_22 : decode cJ24_linkLast 22 = .ok (.ifnonnull 11, 3) := dk_199 0 11 (dk_at dksJ24_linkLast_1 0 rfl rfl)
theorem dJ24_linkLast_25 : decode cJ24_linkLast 25 = .ok (.aload_n 0, 1) := dk_42 (dk_at dksJ24_linkLast_1 3 rfl rfl)
theorem dJ24_linkLast_26 : decode cJ24_linkLast 26 = .ok (.aload_n 3, 1) := dk_45 (dk_at dksJ24_linkLast_1 4 rfl rfl)
theorem dJ24_linkLast_27 : decode cJ24_linkLast 27 = .ok (.putfield 18, 3) := dk_181 0 18 (dk_at dksJ24_linkLast_1 5 rfl rfl)
theorem dJ24_linkLast_30 : decode cJ24_linkLast 30 = .ok (.goto 8, 3) := dk_167 0 8 (dk_at dksJ24_linkLast_1 8 rfl rfl)
theorem dJ24_linkLast_33 : decode cJ24_linkLast 33 = .ok (.aload_n 2, 1) := dk_44 (dk_at dksJ24_linkLast_1 11 rfl rfl)
theorem dJ24_linkLast_34 : decode cJ24_linkLast 34 = .ok (.aload_n 3, 1) := dk_45 (dk_at dksJ24_linkLast_1 12 rfl rfl)
theorem dJ24_linkLast_35 : decode cJ24_linkLast 35 = .ok (.putfield 36, 3) := dk_181 0 36 (dk_at dksJ24_linkLast_1 13 rfl rfl)
theorem dJ24_linkLast_38 : decode cJ24_linkLast 38 = .ok (.aload_n 0, 1) := dk_42 (dk_at dksJ24_linkLast_1 16 rfl rfl)
theorem dJ24_linkLast_39 : decode cJ24_linkLast 39 = .ok (.dup, 1) := dk_89 (dk_at dksJ24_linkLast_1 17 rfl rfl)
theorem dJ24_linkLast_40 : decode cJ24_linkLast 40 = .ok (.getfield 7, 3) := dk_180 0 7 (dk_at dksJ24_linkLast_1 18 rfl rfl)
theorem dJ24_linkLast_43 : decode cJ24_linkLast 43 = .ok (.iconst 1, 1) := dk_4 (dk_at dksJ24_linkLast_1 21 rfl rfl)
theorem dJ24_linkLast_44 : decode cJ24_linkLast 44 = .ok (.iadd, 1) := dk_96 (dk_at dksJ24_linkLast_1 22 rfl rfl)
theorem dJ24_linkLast_45 : decode cJ24_linkLast 45 = .ok (.putfield 7, 3) := dk_181 0 7 (dk_at dksJ24_linkLast_2 0 rfl rfl)
theorem dJ24_linkLast_48 : decode cJ24_linkLast 48 = .ok (.aload_n 0, 1) := dk_42 (dk_at dksJ24_linkLast_2 3 rfl rfl)
theorem dJ24_linkLast_49 : decode cJ24_linkLast 49 = .ok (.dup, 1) := dk_89 (dk_at dksJ24_linkLast_2 4 rfl rfl)
theorem dJ24_linkLast_50 : decode cJ24_linkLast 50 = .ok (.getfield 33, 3) := dk_180 0 33 (dk_at dksJ24_linkLast_2 5 rfl rfl)
theorem dJ24_linkLast_53 : decode cJ24_linkLast 53 = .ok (.iconst 1, 1) := dk_4 (dk_at dksJ24_linkLast_2 8 rfl rfl)
theorem dJ24_linkLast_54 : decode cJ24_linkLast 54 = .ok (.iadd, 1) := dk_96 (dk_at dksJ24_linkLast_2 9 rfl rfl)
theorem dJ24_linkLast_55 : decode cJ24_linkLast 55 = .ok (.putfield 33, 3) := dk_181 0 33 (dk_at dksJ24_linkLast_2 10 rfl rfl)
theorem dJ24_linkLast_58 : decode cJ24_linkLast 58 = .ok (.return_, 1) := dk_177 (dk_at dksJ24_linkLast_2 13 rfl rfl)
abbrev cJ24_remove : ByteArray := prog_77_method_25_code
def yJ24_remove : MethodName := ⟨RJ24, "remove", "(I)Ljava/lang/Object;"⟩
def dkwJ24_remove_0 : List UInt8 := [42, 27, 182, 0, 90, 42, 42, 27, 182, 0, 86, 182, 0, 64, 176]
abbrev dktJ24_remove_0 : List UInt8 := dkwJ24_remove_0 ++ []
theorem dksJ24_remove_0 : cJ24_remove.data.toList.drop 0 = dktJ24_remove_0 := by decide +kernel
theorem dJ24_remove_0 : decode cJ24_remove 0 = .ok (.aload_n 0, 1) := dk_42 (dk_at dksJ24_remove_0 0 rfl rfl)
theorem dJ24_remove_1 : decode cJ24_remove 1 = .ok (.iload_n 1, 1) := dk_27 (dk_at dksJ24_remove_0 1 rfl rfl)
theorem dJ24_remove_2 : decode cJ24_remove 2 = .ok (.invokevirtual 90, 3) := dk_182 0 90 (dk_at dksJ24_remove_0 2 rfl rfl)
theorem dJ24_remove_5 : decode cJ24_remove 5 = .ok (.aload_n 0, 1) := dk_42 (dk_at dksJ24_remove_0 5 rfl rfl)
theorem dJ24_remove_6 : decode cJ24_remove 6 = .ok (.aload_n 0, 1) := dk_42 (dk_at dksJ24_remove_0 6 rfl rfl)
theorem dJ24_remove_7 : decode cJ24_remove 7 = .ok (.iload_n 1, 1) := dk_27 (dk_at dksJ24_remove_0 7 rfl rfl)
theorem dJ24_remove_8 : decode cJ24_remove 8 = .ok (.invokevirtual 86, 3) := dk_182 0 86 (dk_at dksJ24_remove_0 8 rfl rfl)
theorem dJ24_remove_11 : decode cJ24_remove 11 = .ok (.invokevirtual 64, 3) := dk_182 0 64 (dk_at dksJ24_remove_0 11 rfl rfl)
theorem dJ24_remove_14 : decode cJ24_remove 14 = .ok (.areturn, 1) := dk_176 (dk_at dksJ24_remove_0 14 rfl rfl)
abbrev cJ24_unlink : ByteArray := prog_77_method_8_code
def yJ24_unlink : MethodName := ⟨RJ24, "unlink", "(Ljava/util/LinkedList$Node;)Ljava/lang/Object;"⟩
def dkwJ24_unlink_3 : List UInt8 := [180, 0, 7, 4, 100, 181, 0, 7, 42, 89, 180, 0, 33, 4, 96, 181, 0, 33, 44, 176]
abbrev dktJ24_unlink_3 : List UInt8 := dkwJ24_unlink_3 ++ []
def dkwJ24_unlink_2 : List UInt8 := [181, 0, 27, 167, 0, 14, 45, 25, 4, 181, 0, 30, 43, 1, 181, 0, 36, 43, 1, 181, 0, 39, 42, 89]
abbrev dktJ24_unlink_2 : List UInt8 := dkwJ24_unlink_2 ++ dktJ24_unlink_3
def dkwJ24_unlink_1 : List UInt8 := [181, 0, 18, 167, 0, 14, 25, 4, 45, 181, 0, 36, 43, 1, 181, 0, 30, 45, 199, 0, 12, 42, 25, 4]
abbrev dktJ24_unlink_1 : List UInt8 := dkwJ24_unlink_1 ++ dktJ24_unlink_2
def dkwJ24_unlink_0 : List UInt8 := [43, 180, 0, 39, 77, 43, 180, 0, 36, 78, 43, 180, 0, 30, 58, 4, 25, 4, 199, 0, 11, 42, 45]
abbrev dktJ24_unlink_0 : List UInt8 := dkwJ24_unlink_0 ++ dktJ24_unlink_1
theorem dksJ24_unlink_0 : cJ24_unlink.data.toList.drop 0 = dktJ24_unlink_0 := by decide +kernel
theorem dksJ24_unlink_1 : cJ24_unlink.data.toList.drop 23 = dktJ24_unlink_1 := dk_seg dksJ24_unlink_0 23 rfl rfl
theorem dksJ24_unlink_2 : cJ24_unlink.data.toList.drop 47 = dktJ24_unlink_2 := dk_seg dksJ24_unlink_1 24 rfl rfl
theorem dksJ24_unlink_3 : cJ24_unlink.data.toList.drop 71 = dktJ24_unlink_3 := dk_seg dksJ24_unlink_2 24 rfl rfl
theorem dJ24_unlink_0 : decode cJ24_unlink 0 = .ok (.aload_n 1, 1) := dk_43 (dk_at dksJ24_unlink_0 0 rfl rfl)
theorem dJ24_unlink_1 : decode cJ24_unlink 1 = .ok (.getfield 39, 3) := dk_180 0 39 (dk_at dksJ24_unlink_0 1 rfl rfl)
theorem dJ24_unlink_4 : decode cJ24_unlink 4 = .ok (.astore_n 2, 1) := dk_77 (dk_at dksJ24_unlink_0 4 rfl rfl)
theorem dJ24_unlink_5 : decode cJ24_unlink 5 = .ok (.aload_n 1, 1) := dk_43 (dk_at dksJ24_unlink_0 5 rfl rfl)
theorem dJ24_unlink_6 : decode cJ24_unlink 6 = .ok (.getfield 36, 3) := dk_180 0 36 (dk_at dksJ24_unlink_0 6 rfl rfl)
theorem dJ24_unlink_9 : decode cJ24_unlink 9 = .ok (.astore_n 3, 1) := dk_78 (dk_at dksJ24_unlink_0 9 rfl rfl)
theorem dJ24_unlink_10 : decode cJ24_unlink 10 = .ok (.aload_n 1, 1) := dk_43 (dk_at dksJ24_unlink_0 10 rfl rfl)
theorem dJ24_unlink_11 : decode cJ24_unlink 11 = .ok (.getfield 30, 3) := dk_180 0 30 (dk_at dksJ24_unlink_0 11 rfl rfl)
theorem dJ24_unlink_14 : decode cJ24_unlink 14 = .ok (.astore 4, 2) := dk_58 4 (dk_at dksJ24_unlink_0 14 rfl rfl)
theorem dJ24_unlink_16 : decode cJ24_unlink 16 = .ok (.aload 4, 2) := dk_25 4 (dk_at dksJ24_unlink_0 16 rfl rfl)
theorem dJ24_unlink_18 : decode cJ24_unlink 18 = .ok (.ifnonnull 11, 3) := dk_199 0 11 (dk_at dksJ24_unlink_0 18 rfl rfl)
theorem dJ24_unlink_21 : decode cJ24_unlink 21 = .ok (.aload_n 0, 1) := dk_42 (dk_at dksJ24_unlink_0 21 rfl rfl)
theorem dJ24_unlink_22 : decode cJ24_unlink 22 = .ok (.aload_n 3, 1) := dk_45 (dk_at dksJ24_unlink_0 22 rfl rfl)
theorem dJ24_unlink_23 : decode cJ24_unlink 23 = .ok (.putfield 18, 3) := dk_181 0 18 (dk_at dksJ24_unlink_1 0 rfl rfl)
theorem dJ24_unlink_26 : decode cJ24_unlink 26 = .ok (.goto 14, 3) := dk_167 0 14 (dk_at dksJ24_unlink_1 3 rfl rfl)
theorem dJ24_unlink_29 : decode cJ24_unlink 29 = .ok (.aload 4, 2) := dk_25 4 (dk_at dksJ24_unlink_1 6 rfl rfl)
theorem dJ24_unlink_31 : decode cJ24_unlink 31 = .ok (.aload_n 3, 1) := dk_45 (dk_at dksJ24_unlink_1 8 rfl rfl)
theorem dJ24_unlink_32 : decode cJ24_unlink 32 = .ok (.putfield 36, 3) := dk_181 0 36 (dk_at dksJ24_unlink_1 9 rfl rfl)
theorem dJ24_unlink_35 : decode cJ24_unlink 35 = .ok (.aload_n 1, 1) := dk_43 (dk_at dksJ24_unlink_1 12 rfl rfl)
theorem dJ24_unlink_36 : decode cJ24_unlink 36 = .ok (.aconst_null, 1) := dk_1 (dk_at dksJ24_unlink_1 13 rfl rfl)
theorem dJ24_unlink_37 : decode cJ24_unlink 37 = .ok (.putfield 30, 3) := dk_181 0 30 (dk_at dksJ24_unlink_1 14 rfl rfl)
theorem dJ24_unlink_40 : decode cJ24_unlink 40 = .ok (.aload_n 3, 1) := dk_45 (dk_at dksJ24_unlink_1 17 rfl rfl)
theorem dJ24_unlink_41 : decode cJ24_unlink 41 = .ok (.ifnonnull 12, 3) := dk_199 0 12 (dk_at dksJ24_unlink_1 18 rfl rfl)
theorem dJ24_unlink_44 : decode cJ24_unlink 44 = .ok (.aload_n 0, 1) := dk_42 (dk_at dksJ24_unlink_1 21 rfl rfl)
theorem dJ24_unlink_45 : decode cJ24_unlink 45 = .ok (.aload 4, 2) := dk_25 4 (dk_at dksJ24_unlink_1 22 rfl rfl)
theorem dJ24_unlink_47 : decode cJ24_unlink 47 = .ok (.putfield 27, 3) := dk_181 0 27 (dk_at dksJ24_unlink_2 0 rfl rfl)
theorem dJ24_unlink_50 : decode cJ24_unlink 50 = .ok (.goto 14, 3) := dk_167 0 14 (dk_at dksJ24_unlink_2 3 rfl rfl)
theorem dJ24_unlink_53 : decode cJ24_unlink 53 = .ok (.aload_n 3, 1) := dk_45 (dk_at dksJ24_unlink_2 6 rfl rfl)
theorem dJ24_unlink_54 : decode cJ24_unlink 54 = .ok (.aload 4, 2) := dk_25 4 (dk_at dksJ24_unlink_2 7 rfl rfl)
theorem dJ24_unlink_56 : decode cJ24_unlink 56 = .ok (.putfield 30, 3) := dk_181 0 30 (dk_at dksJ24_unlink_2 9 rfl rfl)
theorem dJ24_unlink_59 : decode cJ24_unlink 59 = .ok (.aload_n 1, 1) := dk_43 (dk_at dksJ24_unlink_2 12 rfl rfl)
theorem dJ24_unlink_60 : decode cJ24_unlink 60 = .ok (.aconst_null, 1) := dk_1 (dk_at dksJ24_unlink_2 13 rfl rfl)
theorem dJ24_unlink_61 : decode cJ24_unlink 61 = .ok (.putfield 36, 3) := dk_181 0 36 (dk_at dksJ24_unlink_2 14 rfl rfl)
theorem dJ24_unlink_64 : decode cJ24_unlink 64 = .ok (.aload_n 1, 1) := dk_43 (dk_at dksJ24_unlink_2 17 rfl rfl)
theorem dJ24_unlink_65 : decode cJ24_unlink 65 = .ok (.aconst_null, 1) := dk_1 (dk_at dksJ24_unlink_2 18 rfl rfl)
theorem dJ24_unlink_66 : decode cJ24_unlink 66 = .ok (.putfield 39, 3) := dk_181 0 39 (dk_at dksJ24_unlink_2 19 rfl rfl)
theorem dJ24_unlink_69 : decode cJ24_unlink 69 = .ok (.aload_n 0, 1) := dk_42 (dk_at dksJ24_unlink_2 22 rfl rfl)
theorem dJ24_unlink_70 : decode cJ24_unlink 70 = .ok (.dup, 1) := dk_89 (dk_at dksJ24_unlink_2 23 rfl rfl)
theorem dJ24_unlink_71 : decode cJ24_unlink 71 = .ok (.getfield 7, 3) := dk_180 0 7 (dk_at dksJ24_unlink_3 0 rfl rfl)
theorem dJ24_unlink_74 : decode cJ24_unlink 74 = .ok (.iconst 1, 1) := dk_4 (dk_at dksJ24_unlink_3 3 rfl rfl)
theorem dJ24_unlink_75 : decode cJ24_unlink 75 = .ok (.isub, 1) := dk_100 (dk_at dksJ24_unlink_3 4 rfl rfl)
theorem dJ24_unlink_76 : decode cJ24_unlink 76 = .ok (.putfield 7, 3) := dk_181 0 7 (dk_at dksJ24_unlink_3 5 rfl rfl)
theorem dJ24_unlink_79 : decode cJ24_unlink 79 = .ok (.aload_n 0, 1) := dk_42 (dk_at dksJ24_unlink_3 8 rfl rfl)
theorem dJ24_unlink_80 : decode cJ24_unlink 80 = .ok (.dup, 1) := dk_89 (dk_at dksJ24_unlink_3 9 rfl rfl)
theorem dJ24_unlink_81 : decode cJ24_unlink 81 = .ok (.getfield 33, 3) := dk_180 0 33 (dk_at dksJ24_unlink_3 10 rfl rfl)
theorem dJ24_unlink_84 : decode cJ24_unlink 84 = .ok (.iconst 1, 1) := dk_4 (dk_at dksJ24_unlink_3 13 rfl rfl)
theorem dJ24_unlink_85 : decode cJ24_unlink 85 = .ok (.iadd, 1) := dk_96 (dk_at dksJ24_unlink_3 14 rfl rfl)
theorem dJ24_unlink_86 : decode cJ24_unlink 86 = .ok (.putfield 33, 3) := dk_181 0 33 (dk_at dksJ24_unlink_3 15 rfl rfl)
theorem dJ24_unlink_89 : decode cJ24_unlink 89 = .ok (.aload_n 2, 1) := dk_44 (dk_at dksJ24_unlink_3 18 rfl rfl)
theorem dJ24_unlink_90 : decode cJ24_unlink 90 = .ok (.areturn, 1) := dk_176 (dk_at dksJ24_unlink_3 19 rfl rfl)
abbrev cJ24_getLast : ByteArray := prog_77_method_10_code
def yJ24_getLast : MethodName := ⟨RJ24, "getLast", "()Ljava/lang/Object;"⟩
def dkwJ24_getLast_0 : List UInt8 := [42, 180, 0, 27, 76, 43, 199, 0, 11, 187, 0, 43, 89, 183, 0, 45, 191, 43, 180, 0, 39, 176]
abbrev dktJ24_getLast_0 : List UInt8 := dkwJ24_getLast_0 ++ []
theorem dksJ24_getLast_0 : cJ24_getLast.data.toList.drop 0 = dktJ24_getLast_0 := by decide +kernel
theorem dJ24_getLast_0 : decode cJ24_getLast 0 = .ok (.aload_n 0, 1) := dk_42 (dk_at dksJ24_getLast_0 0 rfl rfl)
theorem dJ24_getLast_1 : decode cJ24_getLast 1 = .ok (.getfield 27, 3) := dk_180 0 27 (dk_at dksJ24_getLast_0 1 rfl rfl)
theorem dJ24_getLast_4 : decode cJ24_getLast 4 = .ok (.astore_n 1, 1) := dk_76 (dk_at dksJ24_getLast_0 4 rfl rfl)
theorem dJ24_getLast_5 : decode cJ24_getLast 5 = .ok (.aload_n 1, 1) := dk_43 (dk_at dksJ24_getLast_0 5 rfl rfl)
theorem dJ24_getLast_6 : decode cJ24_getLast 6 = .ok (.ifnonnull 11, 3) := dk_199 0 11 (dk_at dksJ24_getLast_0 6 rfl rfl)
theorem dJ24_getLast_9 : decode cJ24_getLast 9 = .ok (.new 43, 3) := dk_187 0 43 (dk_at dksJ24_getLast_0 9 rfl rfl)
theorem dJ24_getLast_12 : decode cJ24_getLast 12 = .ok (.dup, 1) := dk_89 (dk_at dksJ24_getLast_0 12 rfl rfl)
theorem dJ24_getLast_13 : decode cJ24_getLast 13 = .ok (.invokespecial 45, 3) := dk_183 0 45 (dk_at dksJ24_getLast_0 13 rfl rfl)
theorem dJ24_getLast_16 : decode cJ24_getLast 16 = .ok (.athrow, 1) := dk_191 (dk_at dksJ24_getLast_0 16 rfl rfl)
theorem dJ24_getLast_17 : decode cJ24_getLast 17 = .ok (.aload_n 1, 1) := dk_43 (dk_at dksJ24_getLast_0 17 rfl rfl)
theorem dJ24_getLast_18 : decode cJ24_getLast 18 = .ok (.getfield 39, 3) := dk_180 0 39 (dk_at dksJ24_getLast_0 18 rfl rfl)
theorem dJ24_getLast_21 : decode cJ24_getLast 21 = .ok (.areturn, 1) := dk_176 (dk_at dksJ24_getLast_0 21 rfl rfl)
abbrev cJ24_getFirst : ByteArray := prog_77_method_9_code
def yJ24_getFirst : MethodName := ⟨RJ24, "getFirst", "()Ljava/lang/Object;"⟩
def dkwJ24_getFirst_0 : List UInt8 := [42, 180, 0, 18, 76, 43, 199, 0, 11, 187, 0, 43, 89, 183, 0, 45, 191, 43, 180, 0, 39, 176]
abbrev dktJ24_getFirst_0 : List UInt8 := dkwJ24_getFirst_0 ++ []
theorem dksJ24_getFirst_0 : cJ24_getFirst.data.toList.drop 0 = dktJ24_getFirst_0 := by decide +kernel
theorem dJ24_getFirst_0 : decode cJ24_getFirst 0 = .ok (.aload_n 0, 1) := dk_42 (dk_at dksJ24_getFirst_0 0 rfl rfl)
theorem dJ24_getFirst_1 : decode cJ24_getFirst 1 = .ok (.getfield 18, 3) := dk_180 0 18 (dk_at dksJ24_getFirst_0 1 rfl rfl)
theorem dJ24_getFirst_4 : decode cJ24_getFirst 4 = .ok (.astore_n 1, 1) := dk_76 (dk_at dksJ24_getFirst_0 4 rfl rfl)
theorem dJ24_getFirst_5 : decode cJ24_getFirst 5 = .ok (.aload_n 1, 1) := dk_43 (dk_at dksJ24_getFirst_0 5 rfl rfl)
theorem dJ24_getFirst_6 : decode cJ24_getFirst 6 = .ok (.ifnonnull 11, 3) := dk_199 0 11 (dk_at dksJ24_getFirst_0 6 rfl rfl)
theorem dJ24_getFirst_9 : decode cJ24_getFirst 9 = .ok (.new 43, 3) := dk_187 0 43 (dk_at dksJ24_getFirst_0 9 rfl rfl)
theorem dJ24_getFirst_12 : decode cJ24_getFirst 12 = .ok (.dup, 1) := dk_89 (dk_at dksJ24_getFirst_0 12 rfl rfl)
theorem dJ24_getFirst_13 : decode cJ24_getFirst 13 = .ok (.invokespecial 45, 3) := dk_183 0 45 (dk_at dksJ24_getFirst_0 13 rfl rfl)
theorem dJ24_getFirst_16 : decode cJ24_getFirst 16 = .ok (.athrow, 1) := dk_191 (dk_at dksJ24_getFirst_0 16 rfl rfl)
theorem dJ24_getFirst_17 : decode cJ24_getFirst 17 = .ok (.aload_n 1, 1) := dk_43 (dk_at dksJ24_getFirst_0 17 rfl rfl)
theorem dJ24_getFirst_18 : decode cJ24_getFirst 18 = .ok (.getfield 39, 3) := dk_180 0 39 (dk_at dksJ24_getFirst_0 18 rfl rfl)
theorem dJ24_getFirst_21 : decode cJ24_getFirst 21 = .ok (.areturn, 1) := dk_176 (dk_at dksJ24_getFirst_0 21 rfl rfl)
abbrev cJ24_removeFirst : ByteArray := prog_77_method_11_code
def yJ24_removeFirst : MethodName := ⟨RJ24, "removeFirst", "()Ljava/lang/Object;"⟩
def dkwJ24_removeFirst_0 : List UInt8 := [42, 180, 0, 18, 76, 43, 199, 0, 11, 187, 0, 43, 89, 183, 0, 45, 191, 42, 43, 182, 0, 46, 176]
abbrev dktJ24_removeFirst_0 : List UInt8 := dkwJ24_removeFirst_0 ++ []
theorem dksJ24_removeFirst_0 : cJ24_removeFirst.data.toList.drop 0 = dktJ24_removeFirst_0 := by decide +kernel
theorem dJ24_removeFirst_0 : decode cJ24_removeFirst 0 = .ok (.aload_n 0, 1) := dk_42 (dk_at dksJ24_removeFirst_0 0 rfl rfl)
theorem dJ24_removeFirst_1 : decode cJ24_removeFirst 1 = .ok (.getfield 18, 3) := dk_180 0 18 (dk_at dksJ24_removeFirst_0 1 rfl rfl)
theorem dJ24_removeFirst_4 : decode cJ24_removeFirst 4 = .ok (.astore_n 1, 1) := dk_76 (dk_at dksJ24_removeFirst_0 4 rfl rfl)
theorem dJ24_removeFirst_5 : decode cJ24_removeFirst 5 = .ok (.aload_n 1, 1) := dk_43 (dk_at dksJ24_removeFirst_0 5 rfl rfl)
theorem dJ24_removeFirst_6 : decode cJ24_removeFirst 6 = .ok (.ifnonnull 11, 3) := dk_199 0 11 (dk_at dksJ24_removeFirst_0 6 rfl rfl)
theorem dJ24_removeFirst_9 : decode cJ24_removeFirst 9 = .ok (.new 43, 3) := dk_187 0 43 (dk_at dksJ24_removeFirst_0 9 rfl rfl)
theorem dJ24_removeFirst_12 : decode cJ24_removeFirst 12 = .ok (.dup, 1) := dk_89 (dk_at dksJ24_removeFirst_0 12 rfl rfl)
theorem dJ24_removeFirst_13 : decode cJ24_removeFirst 13 = .ok (.invokespecial 45, 3) := dk_183 0 45 (dk_at dksJ24_removeFirst_0 13 rfl rfl)
theorem dJ24_removeFirst_16 : decode cJ24_removeFirst 16 = .ok (.athrow, 1) := dk_191 (dk_at dksJ24_removeFirst_0 16 rfl rfl)
theorem dJ24_removeFirst_17 : decode cJ24_removeFirst 17 = .ok (.aload_n 0, 1) := dk_42 (dk_at dksJ24_removeFirst_0 17 rfl rfl)
theorem dJ24_removeFirst_18 : decode cJ24_removeFirst 18 = .ok (.aload_n 1, 1) := dk_43 (dk_at dksJ24_removeFirst_0 18 rfl rfl)
theorem dJ24_removeFirst_19 : decode cJ24_removeFirst 19 = .ok (.invokevirtual 46, 3) := dk_182 0 46 (dk_at dksJ24_removeFirst_0 19 rfl rfl)
theorem dJ24_removeFirst_22 : decode cJ24_removeFirst 22 = .ok (.areturn, 1) := dk_176 (dk_at dksJ24_removeFirst_0 22 rfl rfl)
abbrev cJ24_unlinkFirst : ByteArray := prog_77_method_6_code
def yJ24_unlinkFirst : MethodName := ⟨RJ24, "unlinkFirst", "(Ljava/util/LinkedList$Node;)Ljava/lang/Object;"⟩
def dkwJ24_unlinkFirst_2 : List UInt8 := [180, 0, 7, 4, 100, 181, 0, 7, 42, 89, 180, 0, 33, 4, 96, 181, 0, 33, 44, 176]
abbrev dktJ24_unlinkFirst_2 : List UInt8 := dkwJ24_unlinkFirst_2 ++ []
def dkwJ24_unlinkFirst_1 : List UInt8 := [181, 0, 18, 45, 199, 0, 11, 42, 1, 181, 0, 27, 167, 0, 8, 45, 1, 181, 0, 30, 42, 89]
abbrev dktJ24_unlinkFirst_1 : List UInt8 := dkwJ24_unlinkFirst_1 ++ dktJ24_unlinkFirst_2
def dkwJ24_unlinkFirst_0 : List UInt8 := [43, 180, 0, 39, 77, 43, 180, 0, 36, 78, 43, 1, 181, 0, 39, 43, 1, 181, 0, 36, 42, 45]
abbrev dktJ24_unlinkFirst_0 : List UInt8 := dkwJ24_unlinkFirst_0 ++ dktJ24_unlinkFirst_1
theorem dksJ24_unlinkFirst_0 : cJ24_unlinkFirst.data.toList.drop 0 = dktJ24_unlinkFirst_0 := by decide +kernel
theorem dksJ24_unlinkFirst_1 : cJ24_unlinkFirst.data.toList.drop 22 = dktJ24_unlinkFirst_1 := dk_seg dksJ24_unlinkFirst_0 22 rfl rfl
theorem dksJ24_unlinkFirst_2 : cJ24_unlinkFirst.data.toList.drop 44 = dktJ24_unlinkFirst_2 := dk_seg dksJ24_unlinkFirst_1 22 rfl rfl
theorem dJ24_unlinkFirst_0 : decode cJ24_unlinkFirst 0 = .ok (.aload_n 1, 1) := dk_43 (dk_at dksJ24_unlinkFirst_0 0 rfl rfl)
theorem dJ24_unlinkFirst_1 : decode cJ24_unlinkFirst 1 = .ok (.getfield 39, 3) := dk_180 0 39 (dk_at dksJ24_unlinkFirst_0 1 rfl rfl)
theorem dJ24_unlinkFirst_4 : decode cJ24_unlinkFirst 4 = .ok (.astore_n 2, 1) := dk_77 (dk_at dksJ24_unlinkFirst_0 4 rfl rfl)
theorem dJ24_unlinkFirst_5 : decode cJ24_unlinkFirst 5 = .ok (.aload_n 1, 1) := dk_43 (dk_at dksJ24_unlinkFirst_0 5 rfl rfl)
theorem dJ24_unlinkFirst_6 : decode cJ24_unlinkFirst 6 = .ok (.getfield 36, 3) := dk_180 0 36 (dk_at dksJ24_unlinkFirst_0 6 rfl rfl)
theorem dJ24_unlinkFirst_9 : decode cJ24_unlinkFirst 9 = .ok (.astore_n 3, 1) := dk_78 (dk_at dksJ24_unlinkFirst_0 9 rfl rfl)
theorem dJ24_unlinkFirst_10 : decode cJ24_unlinkFirst 10 = .ok (.aload_n 1, 1) := dk_43 (dk_at dksJ24_unlinkFirst_0 10 rfl rfl)
theorem dJ24_unlinkFirst_11 : decode cJ24_unlinkFirst 11 = .ok (.aconst_null, 1) := dk_1 (dk_at dksJ24_unlinkFirst_0 11 rfl rfl)
theorem dJ24_unlinkFirst_12 : decode cJ24_unlinkFirst 12 = .ok (.putfield 39, 3) := dk_181 0 39 (dk_at dksJ24_unlinkFirst_0 12 rfl rfl)
theorem dJ24_unlinkFirst_15 : decode cJ24_unlinkFirst 15 = .ok (.aload_n 1, 1) := dk_43 (dk_at dksJ24_unlinkFirst_0 15 rfl rfl)
theorem dJ24_unlinkFirst_16 : decode cJ24_unlinkFirst 16 = .ok (.aconst_null, 1) := dk_1 (dk_at dksJ24_unlinkFirst_0 16 rfl rfl)
theorem dJ24_unlinkFirst_17 : decode cJ24_unlinkFirst 17 = .ok (.putfield 36, 3) := dk_181 0 36 (dk_at dksJ24_unlinkFirst_0 17 rfl rfl)
theorem dJ24_unlinkFirst_20 : decode cJ24_unlinkFirst 20 = .ok (.aload_n 0, 1) := dk_42 (dk_at dksJ24_unlinkFirst_0 20 rfl rfl)
theorem dJ24_unlinkFirst_21 : decode cJ24_unlinkFirst 21 = .ok (.aload_n 3, 1) := dk_45 (dk_at dksJ24_unlinkFirst_0 21 rfl rfl)
theorem dJ24_unlinkFirst_22 : decode cJ24_unlinkFirst 22 = .ok (.putfield 18, 3) := dk_181 0 18 (dk_at dksJ24_unlinkFirst_1 0 rfl rfl)
theorem dJ24_unlinkFirst_25 : decode cJ24_unlinkFirst 25 = .ok (.aload_n 3, 1) := dk_45 (dk_at dksJ24_unlinkFirst_1 3 rfl rfl)
theorem dJ24_unlinkFirst_26 : decode cJ24_unlinkFirst 26 = .ok (.ifnonnull 11, 3) := dk_199 0 11 (dk_at dksJ24_unlinkFirst_1 4 rfl rfl)
theorem dJ24_unlinkFirst_29 : decode cJ24_unlinkFirst 29 = .ok (.aload_n 0, 1) := dk_42 (dk_at dksJ24_unlinkFirst_1 7 rfl rfl)
theorem dJ24_unlinkFirst_30 : decode cJ24_unlinkFirst 30 = .ok (.aconst_null, 1) := dk_1 (dk_at dksJ24_unlinkFirst_1 8 rfl rfl)
theorem dJ24_unlinkFirst_31 : decode cJ24_unlinkFirst 31 = .ok (.putfield 27, 3) := dk_181 0 27 (dk_at dksJ24_unlinkFirst_1 9 rfl rfl)
theorem dJ24_unlinkFirst_34 : decode cJ24_unlinkFirst 34 = .ok (.goto 8, 3) := dk_167 0 8 (dk_at dksJ24_unlinkFirst_1 12 rfl rfl)
theorem dJ24_unlinkFirst_37 : decode cJ24_unlinkFirst 37 = .ok (.aload_n 3, 1) := dk_45 (dk_at dksJ24_unlinkFirst_1 15 rfl rfl)
theorem dJ24_unlinkFirst_38 : decode cJ24_unlinkFirst 38 = .ok (.aconst_null, 1) := dk_1 (dk_at dksJ24_unlinkFirst_1 16 rfl rfl)
theorem dJ24_unlinkFirst_39 : decode cJ24_unlinkFirst 39 = .ok (.putfield 30, 3) := dk_181 0 30 (dk_at dksJ24_unlinkFirst_1 17 rfl rfl)
theorem dJ24_unlinkFirst_42 : decode cJ24_unlinkFirst 42 = .ok (.aload_n 0, 1) := dk_42 (dk_at dksJ24_unlinkFirst_1 20 rfl rfl)
theorem dJ24_unlinkFirst_43 : decode cJ24_unlinkFirst 43 = .ok (.dup, 1) := dk_89 (dk_at dksJ24_unlinkFirst_1 21 rfl rfl)
theorem dJ24_unlinkFirst_44 : decode cJ24_unlinkFirst 44 = .ok (.getfield 7, 3) := dk_180 0 7 (dk_at dksJ24_unlinkFirst_2 0 rfl rfl)
theorem dJ24_unlinkFirst_47 : decode cJ24_unlinkFirst 47 = .ok (.iconst 1, 1) := dk_4 (dk_at dksJ24_unlinkFirst_2 3 rfl rfl)
theorem dJ24_unlinkFirst_48 : decode cJ24_unlinkFirst 48 = .ok (.isub, 1) := dk_100 (dk_at dksJ24_unlinkFirst_2 4 rfl rfl)
theorem dJ24_unlinkFirst_49 : decode cJ24_unlinkFirst 49 = .ok (.putfield 7, 3) := dk_181 0 7 (dk_at dksJ24_unlinkFirst_2 5 rfl rfl)
theorem dJ24_unlinkFirst_52 : decode cJ24_unlinkFirst 52 = .ok (.aload_n 0, 1) := dk_42 (dk_at dksJ24_unlinkFirst_2 8 rfl rfl)
theorem dJ24_unlinkFirst_53 : decode cJ24_unlinkFirst 53 = .ok (.dup, 1) := dk_89 (dk_at dksJ24_unlinkFirst_2 9 rfl rfl)
theorem dJ24_unlinkFirst_54 : decode cJ24_unlinkFirst 54 = .ok (.getfield 33, 3) := dk_180 0 33 (dk_at dksJ24_unlinkFirst_2 10 rfl rfl)
theorem dJ24_unlinkFirst_57 : decode cJ24_unlinkFirst 57 = .ok (.iconst 1, 1) := dk_4 (dk_at dksJ24_unlinkFirst_2 13 rfl rfl)
theorem dJ24_unlinkFirst_58 : decode cJ24_unlinkFirst 58 = .ok (.iadd, 1) := dk_96 (dk_at dksJ24_unlinkFirst_2 14 rfl rfl)
theorem dJ24_unlinkFirst_59 : decode cJ24_unlinkFirst 59 = .ok (.putfield 33, 3) := dk_181 0 33 (dk_at dksJ24_unlinkFirst_2 15 rfl rfl)
theorem dJ24_unlinkFirst_62 : decode cJ24_unlinkFirst 62 = .ok (.aload_n 2, 1) := dk_44 (dk_at dksJ24_unlinkFirst_2 18 rfl rfl)
theorem dJ24_unlinkFirst_63 : decode cJ24_unlinkFirst 63 = .ok (.areturn, 1) := dk_176 (dk_at dksJ24_unlinkFirst_2 19 rfl rfl)
theorem q148 : (Jvm.Cond.initialized "java/util/LinkedList") ∈ lw_all := lw_g (lw_at lw_m1 29 rfl) rfl
theorem q601 : (Jvm.Cond.sameField "java/util/LinkedList" "java/util/AbstractList" "modCount" "I") ∈ lw_all := lw_g (lw_at lw_m3 2 rfl) rfl
theorem q605 : (Jvm.Cond.fieldLink "java/util/LinkedList" (33 : Nat) "java/util/LinkedList" "modCount" "I") ∈ lw_all := lw_g (lw_at lw_m3 6 rfl) rfl
theorem q615 : (Jvm.Cond.instantiable "java/util/LinkedList" (4 : Nat)) ∈ lw_all := lw_g (lw_at lw_m3 16 rfl) rfl
theorem q617 : (Jvm.Cond.instanceMethod ({ cls := "java/util/LinkedList", name := "<init>", desc := "()V" } : Jvm.MethodName)) ∈ lw_all := lw_g (lw_at lw_m3 18 rfl) rfl
theorem q618 : (Jvm.Cond.code ({ cls := "java/util/LinkedList", name := "<init>", desc := "()V" } : Jvm.MethodName) prog_77_method_1_code (1 : Nat) (Option.none : Option Jvm.ClassFile.FieldType)) ∈ lw_all := lw_g (lw_at lw_m3 19 rfl) rfl
theorem q619 : (Jvm.Cond.methodLink "java/util/LinkedList" (1 : Nat) ({ cls := "java/util/AbstractSequentialList", name := "<init>", desc := "()V" } : Jvm.MethodName)) ∈ lw_all := lw_g (lw_at lw_m3 20 rfl) rfl
theorem q623 : (Jvm.Cond.fieldLink "java/util/LinkedList" (7 : Nat) "java/util/LinkedList" "size" "I") ∈ lw_all := lw_g (lw_at lw_m3 24 rfl) rfl
theorem q625 : (Jvm.Cond.fieldLink "java/util/LinkedList" (18 : Nat) "java/util/LinkedList" "first" "Ljava/util/LinkedList$Node;") ∈ lw_all := lw_g (lw_at lw_m3 26 rfl) rfl
theorem q626 : (Jvm.Cond.fieldLink "java/util/LinkedList" (27 : Nat) "java/util/LinkedList" "last" "Ljava/util/LinkedList$Node;") ∈ lw_all := lw_g (lw_at lw_m3 27 rfl) rfl
theorem q628 : (Jvm.Cond.lays "java/util/LinkedList" "java/util/LinkedList" "size" "I") ∈ lw_all := lw_g (lw_at lw_m3 29 rfl) rfl
theorem q629 : (Jvm.Cond.soleField "java/util/LinkedList" "size") ∈ lw_all := lw_g (lw_at lw_m3 30 rfl) rfl
theorem q630 : (Jvm.Cond.lays "java/util/LinkedList" "java/util/LinkedList" "first" "Ljava/util/LinkedList$Node;") ∈ lw_all := lw_g (lw_at lw_m3 31 rfl) rfl
theorem q631 : (Jvm.Cond.soleField "java/util/LinkedList" "first") ∈ lw_all := lw_g (lw_at lw_m3 32 rfl) rfl
theorem q632 : (Jvm.Cond.lays "java/util/LinkedList" "java/util/LinkedList" "last" "Ljava/util/LinkedList$Node;") ∈ lw_all := lw_g (lw_at lw_m3 33 rfl) rfl
theorem q633 : (Jvm.Cond.soleField "java/util/LinkedList" "last") ∈ lw_all := lw_g (lw_at lw_m3 34 rfl) rfl
theorem q634 : (Jvm.Cond.lays "java/util/LinkedList" "java/util/AbstractList" "modCount" "I") ∈ lw_all := lw_g (lw_at lw_m3 35 rfl) rfl
theorem q635 : (Jvm.Cond.superclass "java/util/LinkedList" "java/util/AbstractSequentialList") ∈ lw_all := lw_g (lw_at lw_m3 36 rfl) rfl
theorem q767 : (Jvm.Cond.instanceMethod ({ cls := "java/util/LinkedList", name := "size", desc := "()I" } : Jvm.MethodName)) ∈ lw_all := lw_g (lw_at lw_m3 168 rfl) rfl
theorem q768 : (Jvm.Cond.selects "java/util/LinkedList" ({ cls := "java/util/LinkedList", name := "size", desc := "()I" } : Jvm.MethodName) ({ cls := "java/util/LinkedList", name := "size", desc := "()I" } : Jvm.MethodName)) ∈ lw_all := lw_g (lw_at lw_m3 169 rfl) rfl
theorem q769 : (Jvm.Cond.code ({ cls := "java/util/LinkedList", name := "size", desc := "()I" } : Jvm.MethodName) prog_77_method_16_code (1 : Nat) (Option.some Jvm.ClassFile.FieldType.int)) ∈ lw_all := lw_g (lw_at lw_m3 170 rfl) rfl
theorem q848 : (Jvm.Cond.castable "java/util/LinkedList" "java/util/List") ∈ lw_tbl := lw_at lw_m4 9 rfl
theorem q849 : (Jvm.Cond.selects "java/util/LinkedList" ({ cls := "java/util/List", name := "get", desc := "(I)Ljava/lang/Object;" } : Jvm.MethodName) ({ cls := "java/util/LinkedList", name := "get", desc := "(I)Ljava/lang/Object;" } : Jvm.MethodName)) ∈ lw_all := lw_g (lw_at lw_m4 10 rfl) rfl
theorem q850 : (Jvm.Cond.unhidden "java/util/LinkedList" "get" "(I)Ljava/lang/Object;") ∈ lw_tbl := lw_at lw_m4 11 rfl
theorem q851 : (Jvm.Cond.instanceMethod ({ cls := "java/util/LinkedList", name := "get", desc := "(I)Ljava/lang/Object;" } : Jvm.MethodName)) ∈ lw_all := lw_g (lw_at lw_m4 12 rfl) rfl
theorem q852 : (Jvm.Cond.publicMethod ({ cls := "java/util/LinkedList", name := "get", desc := "(I)Ljava/lang/Object;" } : Jvm.MethodName)) ∈ lw_tbl := lw_at lw_m4 13 rfl
theorem q853 : (Jvm.Cond.code ({ cls := "java/util/LinkedList", name := "get", desc := "(I)Ljava/lang/Object;" } : Jvm.MethodName) prog_77_method_22_code (2 : Nat) (Option.some (Jvm.ClassFile.FieldType.object "java/lang/Object"))) ∈ lw_all := lw_g (lw_at lw_m4 14 rfl) rfl
theorem q854 : (Jvm.Cond.methodLink "java/util/LinkedList" (90 : Nat) ({ cls := "java/util/LinkedList", name := "checkElementIndex", desc := "(I)V" } : Jvm.MethodName)) ∈ lw_all := lw_g (lw_at lw_m4 15 rfl) rfl
theorem q855 : (Jvm.Cond.privateMethod ({ cls := "java/util/LinkedList", name := "checkElementIndex", desc := "(I)V" } : Jvm.MethodName)) ∈ lw_tbl := lw_at lw_m4 16 rfl
theorem q856 : (Jvm.Cond.instanceMethod ({ cls := "java/util/LinkedList", name := "checkElementIndex", desc := "(I)V" } : Jvm.MethodName)) ∈ lw_all := lw_g (lw_at lw_m4 17 rfl) rfl
theorem q857 : (Jvm.Cond.code ({ cls := "java/util/LinkedList", name := "checkElementIndex", desc := "(I)V" } : Jvm.MethodName) prog_77_method_29_code (2 : Nat) (Option.none : Option Jvm.ClassFile.FieldType)) ∈ lw_all := lw_g (lw_at lw_m4 18 rfl) rfl
theorem q858 : (Jvm.Cond.methodLink "java/util/LinkedList" (115 : Nat) ({ cls := "java/util/LinkedList", name := "isElementIndex", desc := "(I)Z" } : Jvm.MethodName)) ∈ lw_all := lw_g (lw_at lw_m4 19 rfl) rfl
theorem q859 : (Jvm.Cond.privateMethod ({ cls := "java/util/LinkedList", name := "isElementIndex", desc := "(I)Z" } : Jvm.MethodName)) ∈ lw_tbl := lw_at lw_m4 20 rfl
theorem q860 : (Jvm.Cond.instanceMethod ({ cls := "java/util/LinkedList", name := "isElementIndex", desc := "(I)Z" } : Jvm.MethodName)) ∈ lw_all := lw_g (lw_at lw_m4 21 rfl) rfl
theorem q861 : (Jvm.Cond.code ({ cls := "java/util/LinkedList", name := "isElementIndex", desc := "(I)Z" } : Jvm.MethodName) prog_77_method_26_code (2 : Nat) (Option.some Jvm.ClassFile.FieldType.boolean)) ∈ lw_all := lw_g (lw_at lw_m4 22 rfl) rfl
theorem q862 : (Jvm.Cond.classLink "java/util/LinkedList" (119 : Nat) "java/lang/IndexOutOfBoundsException") ∈ lw_all := lw_g (lw_at lw_m4 23 rfl) rfl
theorem q863 : (Jvm.Cond.methodLink "java/util/LinkedList" (121 : Nat) ({ cls := "java/util/LinkedList", name := "outOfBoundsMsg", desc := "(I)Ljava/lang/String;" } : Jvm.MethodName)) ∈ lw_all := lw_g (lw_at lw_m4 24 rfl) rfl
theorem q864 : (Jvm.Cond.privateMethod ({ cls := "java/util/LinkedList", name := "outOfBoundsMsg", desc := "(I)Ljava/lang/String;" } : Jvm.MethodName)) ∈ lw_tbl := lw_at lw_m4 25 rfl
theorem q865 : (Jvm.Cond.instanceMethod ({ cls := "java/util/LinkedList", name := "outOfBoundsMsg", desc := "(I)Ljava/lang/String;" } : Jvm.MethodName)) ∈ lw_all := lw_g (lw_at lw_m4 26 rfl) rfl
theorem q866 : (Jvm.Cond.code ({ cls := "java/util/LinkedList", name := "outOfBoundsMsg", desc := "(I)Ljava/lang/String;" } : Jvm.MethodName) prog_77_method_28_code (2 : Nat) (Option.some (Jvm.ClassFile.FieldType.object "java/lang/String"))) ∈ lw_all := lw_g (lw_at lw_m4 27 rfl) rfl
theorem q867 : (Jvm.Cond.classLink "java/util/LinkedList" (97 : Nat) "java/lang/StringBuilder") ∈ lw_all := lw_g (lw_at lw_m4 28 rfl) rfl
theorem q868 : (Jvm.Cond.methodLink "java/util/LinkedList" (99 : Nat) ({ cls := "java/lang/StringBuilder", name := "<init>", desc := "()V" } : Jvm.MethodName)) ∈ lw_all := lw_g (lw_at lw_m4 29 rfl) rfl
theorem q869 : (Jvm.Cond.stringRef "java/util/LinkedList" (100 : Nat) "Index: ") ∈ lw_tbl := lw_at lw_m4 30 rfl
theorem q870 : (Jvm.Cond.methodLink "java/util/LinkedList" (102 : Nat) ({ cls := "java/lang/StringBuilder", name := "append", desc := "(Ljava/lang/String;)Ljava/lang/StringBuilder;" } : Jvm.MethodName)) ∈ lw_all := lw_g (lw_at lw_m4 31 rfl) rfl
theorem q871 : (Jvm.Cond.methodLink "java/util/LinkedList" (106 : Nat) ({ cls := "java/lang/StringBuilder", name := "append", desc := "(I)Ljava/lang/StringBuilder;" } : Jvm.MethodName)) ∈ lw_all := lw_g (lw_at lw_m4 32 rfl) rfl
theorem q872 : (Jvm.Cond.stringRef "java/util/LinkedList" (109 : Nat) ", Size: ") ∈ lw_tbl := lw_at lw_m4 33 rfl
theorem q873 : (Jvm.Cond.methodLink "java/util/LinkedList" (111 : Nat) ({ cls := "java/lang/StringBuilder", name := "toString", desc := "()Ljava/lang/String;" } : Jvm.MethodName)) ∈ lw_all := lw_g (lw_at lw_m4 34 rfl) rfl
theorem q874 : (Jvm.Cond.methodLink "java/util/LinkedList" (125 : Nat) ({ cls := "java/lang/IndexOutOfBoundsException", name := "<init>", desc := "(Ljava/lang/String;)V" } : Jvm.MethodName)) ∈ lw_all := lw_g (lw_at lw_m4 35 rfl) rfl
theorem q875 : (Jvm.Cond.methodLink "java/util/LinkedList" (86 : Nat) ({ cls := "java/util/LinkedList", name := "node", desc := "(I)Ljava/util/LinkedList$Node;" } : Jvm.MethodName)) ∈ lw_all := lw_g (lw_at lw_m4 36 rfl) rfl
theorem q876 : (Jvm.Cond.instanceMethod ({ cls := "java/util/LinkedList", name := "node", desc := "(I)Ljava/util/LinkedList$Node;" } : Jvm.MethodName)) ∈ lw_all := lw_g (lw_at lw_m4 37 rfl) rfl
theorem q877 : (Jvm.Cond.selects "java/util/LinkedList" ({ cls := "java/util/LinkedList", name := "node", desc := "(I)Ljava/util/LinkedList$Node;" } : Jvm.MethodName) ({ cls := "java/util/LinkedList", name := "node", desc := "(I)Ljava/util/LinkedList$Node;" } : Jvm.MethodName)) ∈ lw_all := lw_g (lw_at lw_m4 38 rfl) rfl
theorem q878 : (Jvm.Cond.code ({ cls := "java/util/LinkedList", name := "node", desc := "(I)Ljava/util/LinkedList$Node;" } : Jvm.MethodName) prog_77_method_31_code (4 : Nat) (Option.some (Jvm.ClassFile.FieldType.object "java/util/LinkedList$Node"))) ∈ lw_all := lw_g (lw_at lw_m4 39 rfl) rfl
theorem q890 : (Jvm.Cond.sameMethod "java/util/LinkedList" "java/util/AbstractSequentialList" "iterator" "()Ljava/util/Iterator;") ∈ lw_all := lw_g (lw_at lw_m4 51 rfl) rfl
theorem q892 : (Jvm.Cond.selects "java/util/LinkedList" ({ cls := "java/util/LinkedList", name := "iterator", desc := "()Ljava/util/Iterator;" } : Jvm.MethodName) ({ cls := "java/util/AbstractSequentialList", name := "iterator", desc := "()Ljava/util/Iterator;" } : Jvm.MethodName)) ∈ lw_all := lw_g (lw_at lw_m4 53 rfl) rfl
theorem q898 : (Jvm.Cond.selects "java/util/LinkedList" ({ cls := "java/util/AbstractSequentialList", name := "listIterator", desc := "()Ljava/util/ListIterator;" } : Jvm.MethodName) ({ cls := "java/util/AbstractList", name := "listIterator", desc := "()Ljava/util/ListIterator;" } : Jvm.MethodName)) ∈ lw_all := lw_g (lw_at lw_m4 59 rfl) rfl
theorem q946 : (Jvm.Cond.selects "java/util/LinkedList" ({ cls := "java/util/AbstractList", name := "listIterator", desc := "(I)Ljava/util/ListIterator;" } : Jvm.MethodName) ({ cls := "java/util/LinkedList", name := "listIterator", desc := "(I)Ljava/util/ListIterator;" } : Jvm.MethodName)) ∈ lw_all := lw_g (lw_at lw_m4 107 rfl) rfl
theorem q947 : (Jvm.Cond.instanceMethod ({ cls := "java/util/LinkedList", name := "listIterator", desc := "(I)Ljava/util/ListIterator;" } : Jvm.MethodName)) ∈ lw_all := lw_g (lw_at lw_m4 108 rfl) rfl
theorem q948 : (Jvm.Cond.code ({ cls := "java/util/LinkedList", name := "listIterator", desc := "(I)Ljava/util/ListIterator;" } : Jvm.MethodName) prog_77_method_49_code (2 : Nat) (Option.some (Jvm.ClassFile.FieldType.object "java/util/ListIterator"))) ∈ lw_all := lw_g (lw_at lw_m4 109 rfl) rfl
theorem q949 : (Jvm.Cond.methodLink "java/util/LinkedList" (76 : Nat) ({ cls := "java/util/LinkedList", name := "checkPositionIndex", desc := "(I)V" } : Jvm.MethodName)) ∈ lw_all := lw_g (lw_at lw_m4 110 rfl) rfl
theorem q950 : (Jvm.Cond.privateMethod ({ cls := "java/util/LinkedList", name := "checkPositionIndex", desc := "(I)V" } : Jvm.MethodName)) ∈ lw_tbl := lw_at lw_m4 111 rfl
theorem q951 : (Jvm.Cond.instanceMethod ({ cls := "java/util/LinkedList", name := "checkPositionIndex", desc := "(I)V" } : Jvm.MethodName)) ∈ lw_all := lw_g (lw_at lw_m4 112 rfl) rfl
theorem q952 : (Jvm.Cond.code ({ cls := "java/util/LinkedList", name := "checkPositionIndex", desc := "(I)V" } : Jvm.MethodName) prog_77_method_30_code (2 : Nat) (Option.none : Option Jvm.ClassFile.FieldType)) ∈ lw_all := lw_g (lw_at lw_m4 113 rfl) rfl
theorem q953 : (Jvm.Cond.methodLink "java/util/LinkedList" (128 : Nat) ({ cls := "java/util/LinkedList", name := "isPositionIndex", desc := "(I)Z" } : Jvm.MethodName)) ∈ lw_all := lw_g (lw_at lw_m4 114 rfl) rfl
theorem q954 : (Jvm.Cond.privateMethod ({ cls := "java/util/LinkedList", name := "isPositionIndex", desc := "(I)Z" } : Jvm.MethodName)) ∈ lw_tbl := lw_at lw_m4 115 rfl
theorem q955 : (Jvm.Cond.instanceMethod ({ cls := "java/util/LinkedList", name := "isPositionIndex", desc := "(I)Z" } : Jvm.MethodName)) ∈ lw_all := lw_g (lw_at lw_m4 116 rfl) rfl
theorem q956 : (Jvm.Cond.code ({ cls := "java/util/LinkedList", name := "isPositionIndex", desc := "(I)Z" } : Jvm.MethodName) prog_77_method_27_code (2 : Nat) (Option.some Jvm.ClassFile.FieldType.boolean)) ∈ lw_all := lw_g (lw_at lw_m4 117 rfl) rfl
theorem q957 : (Jvm.Cond.classLink "java/util/LinkedList" (150 : Nat) "java/util/LinkedList$ListItr") ∈ lw_all := lw_g (lw_at lw_m4 118 rfl) rfl
theorem q959 : (Jvm.Cond.methodLink "java/util/LinkedList" (152 : Nat) ({ cls := "java/util/LinkedList$ListItr", name := "<init>", desc := "(Ljava/util/LinkedList;I)V" } : Jvm.MethodName)) ∈ lw_all := lw_g (lw_at lw_m4 120 rfl) rfl
theorem q996 : (Jvm.Cond.selects "java/util/LinkedList" ({ cls := "java/util/AbstractList", name := "size", desc := "()I" } : Jvm.MethodName) ({ cls := "java/util/LinkedList", name := "size", desc := "()I" } : Jvm.MethodName)) ∈ lw_all := lw_g (lw_at lw_m4 157 rfl) rfl
theorem q1037 : (Jvm.Cond.selects "java/util/LinkedList" ({ cls := "java/util/AbstractList", name := "get", desc := "(I)Ljava/lang/Object;" } : Jvm.MethodName) ({ cls := "java/util/LinkedList", name := "get", desc := "(I)Ljava/lang/Object;" } : Jvm.MethodName)) ∈ lw_all := lw_g (lw_at lw_m4 198 rfl) rfl
theorem q1114 : (Jvm.Cond.selects "java/util/LinkedList" ({ cls := "java/lang/Object", name := "getClass", desc := "()Ljava/lang/Class;" } : Jvm.MethodName) ({ cls := "java/lang/Object", name := "getClass", desc := "()Ljava/lang/Class;" } : Jvm.MethodName)) ∈ lw_all := lw_g (lw_at lw_m5 35 rfl) rfl
theorem q1303 : (Jvm.Cond.instanceMethod ({ cls := "java/util/LinkedList", name := "descendingIterator", desc := "()Ljava/util/Iterator;" } : Jvm.MethodName)) ∈ lw_all := lw_g (lw_at lw_m5 224 rfl) rfl
theorem q1304 : (Jvm.Cond.selects "java/util/LinkedList" ({ cls := "java/util/LinkedList", name := "descendingIterator", desc := "()Ljava/util/Iterator;" } : Jvm.MethodName) ({ cls := "java/util/LinkedList", name := "descendingIterator", desc := "()Ljava/util/Iterator;" } : Jvm.MethodName)) ∈ lw_all := lw_g (lw_at lw_m5 225 rfl) rfl
theorem q1305 : (Jvm.Cond.code ({ cls := "java/util/LinkedList", name := "descendingIterator", desc := "()Ljava/util/Iterator;" } : Jvm.MethodName) prog_77_method_50_code (1 : Nat) (Option.some (Jvm.ClassFile.FieldType.object "java/util/Iterator"))) ∈ lw_all := lw_g (lw_at lw_m5 226 rfl) rfl
theorem q1306 : (Jvm.Cond.classLink "java/util/LinkedList" (155 : Nat) "java/util/LinkedList$DescendingIterator") ∈ lw_all := lw_g (lw_at lw_m5 227 rfl) rfl
theorem q1308 : (Jvm.Cond.methodLinkNest "java/util/LinkedList" (157 : Nat) ({ cls := "java/util/LinkedList$DescendingIterator", name := "<init>", desc := "(Ljava/util/LinkedList;)V" } : Jvm.MethodName) "java/util/LinkedList") ∈ lw_tbl := lw_at lw_m5 229 rfl
theorem q1596 : (Jvm.Cond.instanceMethod ({ cls := "java/util/LinkedList", name := "addLast", desc := "(Ljava/lang/Object;)V" } : Jvm.MethodName)) ∈ lw_all := lw_g (lw_at lw_m7 37 rfl) rfl
theorem q1597 : (Jvm.Cond.selects "java/util/LinkedList" ({ cls := "java/util/LinkedList", name := "addLast", desc := "(Ljava/lang/Object;)V" } : Jvm.MethodName) ({ cls := "java/util/LinkedList", name := "addLast", desc := "(Ljava/lang/Object;)V" } : Jvm.MethodName)) ∈ lw_all := lw_g (lw_at lw_m7 38 rfl) rfl
theorem q1598 : (Jvm.Cond.code ({ cls := "java/util/LinkedList", name := "addLast", desc := "(Ljava/lang/Object;)V" } : Jvm.MethodName) prog_77_method_14_code (2 : Nat) (Option.none : Option Jvm.ClassFile.FieldType)) ∈ lw_all := lw_g (lw_at lw_m7 39 rfl) rfl
theorem q1599 : (Jvm.Cond.methodLink "java/util/LinkedList" (57 : Nat) ({ cls := "java/util/LinkedList", name := "linkLast", desc := "(Ljava/lang/Object;)V" } : Jvm.MethodName)) ∈ lw_all := lw_g (lw_at lw_m7 40 rfl) rfl
theorem q1600 : (Jvm.Cond.instanceMethod ({ cls := "java/util/LinkedList", name := "linkLast", desc := "(Ljava/lang/Object;)V" } : Jvm.MethodName)) ∈ lw_all := lw_g (lw_at lw_m7 41 rfl) rfl
theorem q1601 : (Jvm.Cond.selects "java/util/LinkedList" ({ cls := "java/util/LinkedList", name := "linkLast", desc := "(Ljava/lang/Object;)V" } : Jvm.MethodName) ({ cls := "java/util/LinkedList", name := "linkLast", desc := "(Ljava/lang/Object;)V" } : Jvm.MethodName)) ∈ lw_all := lw_g (lw_at lw_m7 42 rfl) rfl
theorem q1602 : (Jvm.Cond.code ({ cls := "java/util/LinkedList", name := "linkLast", desc := "(Ljava/lang/Object;)V" } : Jvm.MethodName) prog_77_method_4_code (4 : Nat) (Option.none : Option Jvm.ClassFile.FieldType)) ∈ lw_all := lw_g (lw_at lw_m7 43 rfl) rfl
theorem q1603 : (Jvm.Cond.classLink "java/util/LinkedList" (22 : Nat) "java/util/LinkedList$Node") ∈ lw_all := lw_g (lw_at lw_m7 44 rfl) rfl
theorem q1605 : (Jvm.Cond.methodLink "java/util/LinkedList" (24 : Nat) ({ cls := "java/util/LinkedList$Node", name := "<init>", desc := "(Ljava/util/LinkedList$Node;Ljava/lang/Object;Ljava/util/LinkedList$Node;)V" } : Jvm.MethodName)) ∈ lw_all := lw_g (lw_at lw_m7 46 rfl) rfl
theorem q1611 : (Jvm.Cond.fieldLink "java/util/LinkedList" (39 : Nat) "java/util/LinkedList$Node" "item" "Ljava/lang/Object;") ∈ lw_all := lw_g (lw_at lw_m7 52 rfl) rfl
theorem q1614 : (Jvm.Cond.fieldLink "java/util/LinkedList" (36 : Nat) "java/util/LinkedList$Node" "next" "Ljava/util/LinkedList$Node;") ∈ lw_all := lw_g (lw_at lw_m7 55 rfl) rfl
theorem q1617 : (Jvm.Cond.fieldLink "java/util/LinkedList" (30 : Nat) "java/util/LinkedList$Node" "prev" "Ljava/util/LinkedList$Node;") ∈ lw_all := lw_g (lw_at lw_m7 58 rfl) rfl
theorem q2054 : (Jvm.Cond.selects "java/util/LinkedList" ({ cls := "java/util/AbstractList", name := "remove", desc := "(I)Ljava/lang/Object;" } : Jvm.MethodName) ({ cls := "java/util/LinkedList", name := "remove", desc := "(I)Ljava/lang/Object;" } : Jvm.MethodName)) ∈ lw_all := lw_g (lw_at lw_m9 15 rfl) rfl
theorem q2055 : (Jvm.Cond.instanceMethod ({ cls := "java/util/LinkedList", name := "remove", desc := "(I)Ljava/lang/Object;" } : Jvm.MethodName)) ∈ lw_all := lw_g (lw_at lw_m9 16 rfl) rfl
theorem q2056 : (Jvm.Cond.code ({ cls := "java/util/LinkedList", name := "remove", desc := "(I)Ljava/lang/Object;" } : Jvm.MethodName) prog_77_method_25_code (2 : Nat) (Option.some (Jvm.ClassFile.FieldType.object "java/lang/Object"))) ∈ lw_all := lw_g (lw_at lw_m9 17 rfl) rfl
theorem q2057 : (Jvm.Cond.methodLink "java/util/LinkedList" (64 : Nat) ({ cls := "java/util/LinkedList", name := "unlink", desc := "(Ljava/util/LinkedList$Node;)Ljava/lang/Object;" } : Jvm.MethodName)) ∈ lw_all := lw_g (lw_at lw_m9 18 rfl) rfl
theorem q2058 : (Jvm.Cond.instanceMethod ({ cls := "java/util/LinkedList", name := "unlink", desc := "(Ljava/util/LinkedList$Node;)Ljava/lang/Object;" } : Jvm.MethodName)) ∈ lw_all := lw_g (lw_at lw_m9 19 rfl) rfl
theorem q2059 : (Jvm.Cond.selects "java/util/LinkedList" ({ cls := "java/util/LinkedList", name := "unlink", desc := "(Ljava/util/LinkedList$Node;)Ljava/lang/Object;" } : Jvm.MethodName) ({ cls := "java/util/LinkedList", name := "unlink", desc := "(Ljava/util/LinkedList$Node;)Ljava/lang/Object;" } : Jvm.MethodName)) ∈ lw_all := lw_g (lw_at lw_m9 20 rfl) rfl
theorem q2060 : (Jvm.Cond.code ({ cls := "java/util/LinkedList", name := "unlink", desc := "(Ljava/util/LinkedList$Node;)Ljava/lang/Object;" } : Jvm.MethodName) prog_77_method_8_code (5 : Nat) (Option.some (Jvm.ClassFile.FieldType.object "java/lang/Object"))) ∈ lw_all := lw_g (lw_at lw_m9 21 rfl) rfl
theorem q2115 : (Jvm.Cond.sameMethod "java/util/LinkedList" "java/util/AbstractCollection" "isEmpty" "()Z") ∈ lw_all := lw_g (lw_at lw_m9 76 rfl) rfl
theorem q2117 : (Jvm.Cond.selects "java/util/LinkedList" ({ cls := "java/util/LinkedList", name := "isEmpty", desc := "()Z" } : Jvm.MethodName) ({ cls := "java/util/AbstractCollection", name := "isEmpty", desc := "()Z" } : Jvm.MethodName)) ∈ lw_all := lw_g (lw_at lw_m9 78 rfl) rfl
theorem q2123 : (Jvm.Cond.instanceMethod ({ cls := "java/util/LinkedList", name := "getLast", desc := "()Ljava/lang/Object;" } : Jvm.MethodName)) ∈ lw_all := lw_g (lw_at lw_m9 84 rfl) rfl
theorem q2124 : (Jvm.Cond.selects "java/util/LinkedList" ({ cls := "java/util/LinkedList", name := "getLast", desc := "()Ljava/lang/Object;" } : Jvm.MethodName) ({ cls := "java/util/LinkedList", name := "getLast", desc := "()Ljava/lang/Object;" } : Jvm.MethodName)) ∈ lw_all := lw_g (lw_at lw_m9 85 rfl) rfl
theorem q2125 : (Jvm.Cond.code ({ cls := "java/util/LinkedList", name := "getLast", desc := "()Ljava/lang/Object;" } : Jvm.MethodName) prog_77_method_10_code (2 : Nat) (Option.some (Jvm.ClassFile.FieldType.object "java/lang/Object"))) ∈ lw_all := lw_g (lw_at lw_m9 86 rfl) rfl
theorem q2126 : (Jvm.Cond.classLink "java/util/LinkedList" (43 : Nat) "java/util/NoSuchElementException") ∈ lw_all := lw_g (lw_at lw_m9 87 rfl) rfl
theorem q2127 : (Jvm.Cond.methodLink "java/util/LinkedList" (45 : Nat) ({ cls := "java/util/NoSuchElementException", name := "<init>", desc := "()V" } : Jvm.MethodName)) ∈ lw_all := lw_g (lw_at lw_m9 88 rfl) rfl
theorem q2138 : (Jvm.Cond.instanceMethod ({ cls := "java/util/LinkedList", name := "getFirst", desc := "()Ljava/lang/Object;" } : Jvm.MethodName)) ∈ lw_all := lw_g (lw_at lw_m9 99 rfl) rfl
theorem q2139 : (Jvm.Cond.selects "java/util/LinkedList" ({ cls := "java/util/LinkedList", name := "getFirst", desc := "()Ljava/lang/Object;" } : Jvm.MethodName) ({ cls := "java/util/LinkedList", name := "getFirst", desc := "()Ljava/lang/Object;" } : Jvm.MethodName)) ∈ lw_all := lw_g (lw_at lw_m9 100 rfl) rfl
theorem q2140 : (Jvm.Cond.code ({ cls := "java/util/LinkedList", name := "getFirst", desc := "()Ljava/lang/Object;" } : Jvm.MethodName) prog_77_method_9_code (2 : Nat) (Option.some (Jvm.ClassFile.FieldType.object "java/lang/Object"))) ∈ lw_all := lw_g (lw_at lw_m9 101 rfl) rfl
theorem q2385 : (Jvm.Cond.instanceMethod ({ cls := "java/util/LinkedList", name := "removeFirst", desc := "()Ljava/lang/Object;" } : Jvm.MethodName)) ∈ lw_all := lw_g (lw_at lw_m10 106 rfl) rfl
theorem q2386 : (Jvm.Cond.selects "java/util/LinkedList" ({ cls := "java/util/LinkedList", name := "removeFirst", desc := "()Ljava/lang/Object;" } : Jvm.MethodName) ({ cls := "java/util/LinkedList", name := "removeFirst", desc := "()Ljava/lang/Object;" } : Jvm.MethodName)) ∈ lw_all := lw_g (lw_at lw_m10 107 rfl) rfl
theorem q2387 : (Jvm.Cond.code ({ cls := "java/util/LinkedList", name := "removeFirst", desc := "()Ljava/lang/Object;" } : Jvm.MethodName) prog_77_method_11_code (2 : Nat) (Option.some (Jvm.ClassFile.FieldType.object "java/lang/Object"))) ∈ lw_all := lw_g (lw_at lw_m10 108 rfl) rfl
theorem q2388 : (Jvm.Cond.methodLink "java/util/LinkedList" (46 : Nat) ({ cls := "java/util/LinkedList", name := "unlinkFirst", desc := "(Ljava/util/LinkedList$Node;)Ljava/lang/Object;" } : Jvm.MethodName)) ∈ lw_all := lw_g (lw_at lw_m10 109 rfl) rfl
theorem q2389 : (Jvm.Cond.privateMethod ({ cls := "java/util/LinkedList", name := "unlinkFirst", desc := "(Ljava/util/LinkedList$Node;)Ljava/lang/Object;" } : Jvm.MethodName)) ∈ lw_tbl := lw_at lw_m10 110 rfl
theorem q2390 : (Jvm.Cond.instanceMethod ({ cls := "java/util/LinkedList", name := "unlinkFirst", desc := "(Ljava/util/LinkedList$Node;)Ljava/lang/Object;" } : Jvm.MethodName)) ∈ lw_all := lw_g (lw_at lw_m10 111 rfl) rfl
theorem q2391 : (Jvm.Cond.code ({ cls := "java/util/LinkedList", name := "unlinkFirst", desc := "(Ljava/util/LinkedList$Node;)Ljava/lang/Object;" } : Jvm.MethodName) prog_77_method_6_code (4 : Nat) (Option.some (Jvm.ClassFile.FieldType.object "java/lang/Object"))) ∈ lw_all := lw_g (lw_at lw_m10 112 rfl) rfl
theorem q3542 : (Jvm.Cond.selects "java/util/LinkedList" ({ cls := "java/util/AbstractCollection", name := "size", desc := "()I" } : Jvm.MethodName) ({ cls := "java/util/LinkedList", name := "size", desc := "()I" } : Jvm.MethodName)) ∈ lw_all := lw_g (lw_at lw_m15 63 rfl) rfl
theorem q3543 : (Jvm.Cond.selects "java/util/LinkedList" ({ cls := "java/util/LinkedList", name := "get", desc := "(I)Ljava/lang/Object;" } : Jvm.MethodName) ({ cls := "java/util/LinkedList", name := "get", desc := "(I)Ljava/lang/Object;" } : Jvm.MethodName)) ∈ lw_all := lw_g (lw_at lw_m15 64 rfl) rfl
theorem q3572 : (Jvm.Cond.castable "java/util/LinkedList" "java/lang/Object") ∈ lw_tbl := lw_at lw_m15 93 rfl
theorem in_J24 : ∀ w ∈ wsJ240, w ∈ lw_all := lw_in wsJ240 [634, 628, 630, 632] (by decide +kernel) (by decide +kernel)
/-! java/util/ArrayDeque -/
set_option maxRecDepth 100000
def RJ25 : String := "java/util/ArrayDeque"
def TJ25 : u_T := fun k => match k with
  | 0 => ("java/util/ArrayDeque", "elements", "[Ljava/lang/Object;", false)
  | 1 => ("java/util/ArrayDeque", "head", "I", false)
  | _ => ("java/util/ArrayDeque", "tail", "I", false)
def tyJ25 : Nat → FieldType := fun k => match k with
  | 0 => .array (.object "java/lang/Object")
  | 1 => .int
  | _ => .int
abbrev wsJ250 : List Cond := u_ws RJ25 TJ25 3
theorem nmJ25 : ∀ a, a < 3 → ∀ b, b < 3 → a ≠ b → (TJ25 a).2.1 ≠ (TJ25 b).2.1 := by decide +kernel
theorem tyJ25_ok : ∀ k, k < 3 → parseFieldDescriptor (TJ25 k).2.2.1 = some (tyJ25 k) := by decide +kernel
abbrev cJ25_init : ByteArray := prog_61_method_3_code
def yJ25_init : MethodName := ⟨RJ25, "<init>", "()V"⟩
def dkwJ25_init_0 : List UInt8 := [42, 183, 0, 42, 42, 16, 17, 189, 0, 47, 181, 0, 3, 177]
abbrev dktJ25_init_0 : List UInt8 := dkwJ25_init_0 ++ []
theorem dksJ25_init_0 : cJ25_init.data.toList.drop 0 = dktJ25_init_0 := by decide +kernel
theorem dJ25_init_0 : decode cJ25_init 0 = .ok (.aload_n 0, 1) := dk_42 (dk_at dksJ25_init_0 0 rfl rfl)
theorem dJ25_init_1 : decode cJ25_init 1 = .ok (.invokespecial 42, 3) := dk_183 0 42 (dk_at dksJ25_init_0 1 rfl rfl)
theorem dJ25_init_4 : decode cJ25_init 4 = .ok (.aload_n 0, 1) := dk_42 (dk_at dksJ25_init_0 4 rfl rfl)
theorem dJ25_init_5 : decode cJ25_init 5 = .ok (.bipush 17, 2) := dk_16 17 (dk_at dksJ25_init_0 5 rfl rfl)
theorem dJ25_init_7 : decode cJ25_init 7 = .ok (.anewarray 47, 3) := dk_189 0 47 (dk_at dksJ25_init_0 7 rfl rfl)
theorem dJ25_init_10 : decode cJ25_init 10 = .ok (.putfield 3, 3) := dk_181 0 3 (dk_at dksJ25_init_0 10 rfl rfl)
theorem dJ25_init_13 : decode cJ25_init 13 = .ok (.return_, 1) := dk_177 (dk_at dksJ25_init_0 13 rfl rfl)
abbrev cJ25_addLast : ByteArray := prog_61_method_13_code
def yJ25_addLast : MethodName := ⟨RJ25, "addLast", "(Ljava/lang/Object;)V"⟩
def dkwJ25_addLast_2 : List UInt8 := [182, 0, 71, 177]
abbrev dktJ25_addLast_2 : List UInt8 := dkwJ25_addLast_2 ++ []
def dkwJ25_addLast_1 : List UInt8 := [42, 180, 0, 24, 42, 42, 180, 0, 20, 44, 190, 184, 0, 74, 90, 181, 0, 20, 160, 0, 8, 42, 4]
abbrev dktJ25_addLast_1 : List UInt8 := dkwJ25_addLast_1 ++ dktJ25_addLast_2
def dkwJ25_addLast_0 : List UInt8 := [43, 199, 0, 11, 187, 0, 65, 89, 183, 0, 67, 191, 42, 180, 0, 3, 77, 44, 42, 180, 0, 20, 43, 83]
abbrev dktJ25_addLast_0 : List UInt8 := dkwJ25_addLast_0 ++ dktJ25_addLast_1
theorem dksJ25_addLast_0 : cJ25_addLast.data.toList.drop 0 = dktJ25_addLast_0 := by decide +kernel
theorem dksJ25_addLast_1 : cJ25_addLast.data.toList.drop 24 = dktJ25_addLast_1 := dk_seg dksJ25_addLast_0 24 rfl rfl
theorem dksJ25_addLast_2 : cJ25_addLast.data.toList.drop 47 = dktJ25_addLast_2 := dk_seg dksJ25_addLast_1 23 rfl rfl
theorem dJ25_addLast_0 : decode cJ25_addLast 0 = .ok (.aload_n 1, 1) := dk_43 (dk_at dksJ25_addLast_0 0 rfl rfl)
theorem dJ25_addLast_1 : decode cJ25_addLast 1 = .ok (.ifnonnull 11, 3) := dk_199 0 11 (dk_at dksJ25_addLast_0 1 rfl rfl)
theorem dJ25_addLast_4 : decode cJ25_addLast 4 = .ok (.new 65, 3) := dk_187 0 65 (dk_at dksJ25_addLast_0 4 rfl rfl)
theorem dJ25_addLast_7 : decode cJ25_addLast 7 = .ok (.dup, 1) := dk_89 (dk_at dksJ25_addLast_0 7 rfl rfl)
theorem dJ25_addLast_8 : decode cJ25_addLast 8 = .ok (.invokespecial 67, 3) := dk_183 0 67 (dk_at dksJ25_addLast_0 8 rfl rfl)
theorem dJ25_addLast_11 : decode cJ25_addLast 11 = .ok (.athrow, 1) := dk_191 (dk_at dksJ25_addLast_0 11 rfl rfl)
theorem dJ25_addLast_12 : decode cJ25_addLast 12 = .ok (.aload_n 0, 1) := dk_42 (dk_at dksJ25_addLast_0 12 rfl rfl)
theorem dJ25_addLast_13 : decode cJ25_addLast 13 = .ok (.getfield 3, 3) := dk_180 0 3 (dk_at dksJ25_addLast_0 13 rfl rfl)
theorem dJ25_addLast_16 : decode cJ25_addLast 16 = .ok (.astore_n 2, 1) := dk_77 (dk_at dksJ25_addLast_0 16 rfl rfl)
theorem dJ25_addLast_17 : decode cJ25_addLast 17 = .ok (.aload_n 2, 1) := dk_44 (dk_at dksJ25_addLast_0 17 rfl rfl)
theorem dJ25_addLast_18 : decode cJ25_addLast 18 = .ok (.aload_n 0, 1) := dk_42 (dk_at dksJ25_addLast_0 18 rfl rfl)
theorem dJ25_addLast_19 : decode cJ25_addLast 19 = .ok (.getfield 20, 3) := dk_180 0 20 (dk_at dksJ25_addLast_0 19 rfl rfl)
theorem dJ25_addLast_22 : decode cJ25_addLast 22 = .ok (.aload_n 1, 1) := dk_43 (dk_at dksJ25_addLast_0 22 rfl rfl)
theorem dJ25_addLast_23 : decode cJ25_addLast 23 = .ok (.aastore, 1) := dk_83 (dk_at dksJ25_addLast_0 23 rfl rfl)
theorem dJ25_addLast_24 : decode cJ25_addLast 24 = .ok (.aload_n 0, 1) := dk_42 (dk_at dksJ25_addLast_1 0 rfl rfl)
theorem dJ25_addLast_25 : decode cJ25_addLast 25 = .ok (.getfield 24, 3) := dk_180 0 24 (dk_at dksJ25_addLast_1 1 rfl rfl)
theorem dJ25_addLast_28 : decode cJ25_addLast 28 = .ok (.aload_n 0, 1) := dk_42 (dk_at dksJ25_addLast_1 4 rfl rfl)
theorem dJ25_addLast_29 : decode cJ25_addLast 29 = .ok (.aload_n 0, 1) := dk_42 (dk_at dksJ25_addLast_1 5 rfl rfl)
theorem dJ25_addLast_30 : decode cJ25_addLast 30 = .ok (.getfield 20, 3) := dk_180 0 20 (dk_at dksJ25_addLast_1 6 rfl rfl)
theorem dJ25_addLast_33 : decode cJ25_addLast 33 = .ok (.aload_n 2, 1) := dk_44 (dk_at dksJ25_addLast_1 9 rfl rfl)
theorem dJ25_addLast_34 : decode cJ25_addLast 34 = .ok (.arraylength, 1) := dk_190 (dk_at dksJ25_addLast_1 10 rfl rfl)
theorem dJ25_addLast_35 : decode cJ25_addLast 35 = .ok (.invokestatic 74, 3) := dk_184 0 74 (dk_at dksJ25_addLast_1 11 rfl rfl)
theorem dJ25_addLast_38 : decode cJ25_addLast 38 = .ok (.dup_x1, 1) := dk_90 (dk_at dksJ25_addLast_1 14 rfl rfl)
theorem dJ25_addLast_39 : decode cJ25_addLast 39 = .ok (.putfield 20, 3) := dk_181 0 20 (dk_at dksJ25_addLast_1 15 rfl rfl)
theorem dJ25_addLast_42 : decode cJ25_addLast 42 = .ok (.if_icmp .ne 8, 3) := dk_160 0 8 (dk_at dksJ25_addLast_1 18 rfl rfl)
theorem dJ25_addLast_45 : decode cJ25_addLast 45 = .ok (.aload_n 0, 1) := dk_42 (dk_at dksJ25_addLast_1 21 rfl rfl)
theorem dJ25_addLast_46 : decode cJ25_addLast 46 = .ok (.iconst 1, 1) := dk_4 (dk_at dksJ25_addLast_1 22 rfl rfl)
theorem dJ25_addLast_47 : decode cJ25_addLast 47 = .ok (.invokevirtual 71, 3) := dk_182 0 71 (dk_at dksJ25_addLast_2 0 rfl rfl)
theorem dJ25_addLast_50 : decode cJ25_addLast 50 = .ok (.return_, 1) := dk_177 (dk_at dksJ25_addLast_2 3 rfl rfl)
abbrev cJ25_inc : ByteArray := prog_61_method_6_code
def yJ25_inc : MethodName := ⟨RJ25, "inc", "(II)I"⟩
def dkwJ25_inc_0 : List UInt8 := [132, 0, 1, 26, 27, 161, 0, 5, 3, 59, 26, 172]
abbrev dktJ25_inc_0 : List UInt8 := dkwJ25_inc_0 ++ []
theorem dksJ25_inc_0 : cJ25_inc.data.toList.drop 0 = dktJ25_inc_0 := by decide +kernel
theorem dJ25_inc_0 : decode cJ25_inc 0 = .ok (.iinc 0 1, 3) := dk_132 0 1 (dk_at dksJ25_inc_0 0 rfl rfl)
theorem dJ25_inc_3 : decode cJ25_inc 3 = .ok (.iload_n 0, 1) := dk_26 (dk_at dksJ25_inc_0 3 rfl rfl)
theorem dJ25_inc_4 : decode cJ25_inc 4 = .ok (.iload_n 1, 1) := dk_27 (dk_at dksJ25_inc_0 4 rfl rfl)
theorem dJ25_inc_5 : decode cJ25_inc 5 = .ok (.if_icmp .lt 5, 3) := dk_161 0 5 (dk_at dksJ25_inc_0 5 rfl rfl)
theorem dJ25_inc_8 : decode cJ25_inc 8 = .ok (.iconst 0, 1) := dk_3 (dk_at dksJ25_inc_0 8 rfl rfl)
theorem dJ25_inc_9 : decode cJ25_inc 9 = .ok (.istore_n 0, 1) := dk_59 (dk_at dksJ25_inc_0 9 rfl rfl)
theorem dJ25_inc_10 : decode cJ25_inc 10 = .ok (.iload_n 0, 1) := dk_26 (dk_at dksJ25_inc_0 10 rfl rfl)
theorem dJ25_inc_11 : decode cJ25_inc 11 = .ok (.ireturn, 1) := dk_172 (dk_at dksJ25_inc_0 11 rfl rfl)
abbrev cJ25_grow : ByteArray := prog_61_method_1_code
def yJ25_grow : MethodName := ⟨RJ25, "grow", "(I)V"⟩
def dkwJ25_grow_7 : List UInt8 := [177]
abbrev dktJ25_grow_7 : List UInt8 := dkwJ25_grow_7 ++ []
def dkwJ25_grow_6 : List UInt8 := [181, 0, 24, 54, 8, 21, 7, 21, 8, 162, 0, 15, 25, 5, 21, 7, 1, 83, 132, 7, 1, 167, 255, 240]
abbrev dktJ25_grow_6 : List UInt8 := dkwJ25_grow_6 ++ dktJ25_grow_7
def dkwJ25_grow_5 : List UInt8 := [42, 180, 0, 24, 100, 184, 0, 27, 42, 180, 0, 24, 54, 7, 42, 89, 180, 0, 24, 21, 6, 96, 90]
abbrev dktJ25_grow_5 : List UInt8 := dkwJ25_grow_5 ++ dktJ25_grow_6
def dkwJ25_grow_4 : List UInt8 := [198, 0, 71, 29, 28, 100, 54, 6, 25, 5, 42, 180, 0, 24, 25, 5, 42, 180, 0, 24, 21, 6, 96, 28]
abbrev dktJ25_grow_4 : List UInt8 := dkwJ25_grow_4 ++ dktJ25_grow_5
def dkwJ25_grow_3 : List UInt8 := [180, 0, 24, 161, 0, 24, 42, 180, 0, 20, 42, 180, 0, 24, 160, 0, 81, 25, 5, 42, 180, 0, 24, 50]
abbrev dktJ25_grow_3 : List UInt8 := dkwJ25_grow_3 ++ dktJ25_grow_4
def dkwJ25_grow_2 : List UInt8 := [182, 0, 10, 62, 42, 42, 180, 0, 3, 29, 184, 0, 14, 90, 181, 0, 3, 58, 5, 42, 180, 0, 20, 42]
abbrev dktJ25_grow_2 : List UInt8 := dkwJ25_grow_2 ++ dktJ25_grow_3
def dkwJ25_grow_1 : List UInt8 := [21, 4, 27, 161, 0, 15, 28, 21, 4, 96, 89, 62, 18, 9, 100, 158, 0, 11, 42, 27, 21, 4]
abbrev dktJ25_grow_1 : List UInt8 := dkwJ25_grow_1 ++ dktJ25_grow_2
def dkwJ25_grow_0 : List UInt8 := [42, 180, 0, 3, 190, 61, 28, 16, 64, 162, 0, 9, 28, 5, 96, 167, 0, 6, 28, 4, 122, 54, 4]
abbrev dktJ25_grow_0 : List UInt8 := dkwJ25_grow_0 ++ dktJ25_grow_1
theorem dksJ25_grow_0 : cJ25_grow.data.toList.drop 0 = dktJ25_grow_0 := by decide +kernel
theorem dksJ25_grow_1 : cJ25_grow.data.toList.drop 23 = dktJ25_grow_1 := dk_seg dksJ25_grow_0 23 rfl rfl
theorem dksJ25_grow_2 : cJ25_grow.data.toList.drop 45 = dktJ25_grow_2 := dk_seg dksJ25_grow_1 22 rfl rfl
theorem dksJ25_grow_3 : cJ25_grow.data.toList.drop 69 = dktJ25_grow_3 := dk_seg dksJ25_grow_2 24 rfl rfl
theorem dksJ25_grow_4 : cJ25_grow.data.toList.drop 93 = dktJ25_grow_4 := dk_seg dksJ25_grow_3 24 rfl rfl
theorem dksJ25_grow_5 : cJ25_grow.data.toList.drop 117 = dktJ25_grow_5 := dk_seg dksJ25_grow_4 24 rfl rfl
theorem dksJ25_grow_6 : cJ25_grow.data.toList.drop 140 = dktJ25_grow_6 := dk_seg dksJ25_grow_5 23 rfl rfl
theorem dksJ25_grow_7 : cJ25_grow.data.toList.drop 164 = dktJ25_grow_7 := dk_seg dksJ25_grow_6 24 rfl rfl
theorem dJ25_grow_0 : decode cJ25_grow 0 = .ok (.aload_n 0, 1) := dk_42 (dk_at dksJ25_grow_0 0 rfl rfl)
theorem dJ25_grow_1 : decode cJ25_grow 1 = .ok (.getfield 3, 3) := dk_180 0 3 (dk_at dksJ25_grow_0 1 rfl rfl)
theorem dJ25_grow_4 : decode cJ25_grow 4 = .ok (.arraylength, 1) := dk_190 (dk_at dksJ25_grow_0 4 rfl rfl)
theorem dJ25_grow_5 : decode cJ25_grow 5 = .ok (.istore_n 2, 1) := dk_61 (dk_at dksJ25_grow_0 5 rfl rfl)
theorem dJ25_grow_6 : decode cJ25_grow 6 = .ok (.iload_n 2, 1) := dk_28 (dk_at dksJ25_grow_0 6 rfl rfl)
theorem dJ25_grow_7 : decode cJ25_grow 7 = .ok (.bipush 64, 2) := dk_16 64 (dk_at dksJ25_grow_0 7 rfl rfl)
theorem dJ25_grow_9 : decode cJ25_grow 9 = .ok (.if_icmp .ge 9, 3) := dk_162 0 9 (dk_at dksJ25_grow_0 9 rfl rfl)
theorem dJ25_grow_12 : decode cJ25_grow 12 = .ok (.iload_n 2, 1) := dk_28 (dk_at dksJ25_grow_0 12 rfl rfl)
theorem dJ25_grow_13 : decode cJ25_grow 13 = .ok (.iconst 2, 1) := dk_5 (dk_at dksJ25_grow_0 13 rfl rfl)
theorem dJ25_grow_14 : decode cJ25_grow 14 = .ok (.iadd, 1) := dk_96 (dk_at dksJ25_grow_0 14 rfl rfl)
theorem dJ25_grow_15 : decode cJ25_grow 15 = .ok (.goto 6, 3) := dk_167 0 6 (dk_at dksJ25_grow_0 15 rfl rfl)
theorem dJ25_grow_18 : decode cJ25_grow 18 = .ok (.iload_n 2, 1) := dk_28 (dk_at dksJ25_grow_0 18 rfl rfl)
theorem dJ25_grow_19 : decode cJ25_grow 19 = .ok (.iconst 1, 1) := dk_4 (dk_at dksJ25_grow_0 19 rfl rfl)
theorem dJ25_grow_20 : decode cJ25_grow 20 = .ok (.ishr, 1) := dk_122 (dk_at dksJ25_grow_0 20 rfl rfl)
theorem dJ25_grow_21 : decode cJ25_grow 21 = .ok (.istore 4, 2) := dk_54 4 (dk_at dksJ25_grow_0 21 rfl rfl)
theorem dJ25_grow_23 : decode cJ25_grow 23 = .ok (.iload 4, 2) := dk_21 4 (dk_at dksJ25_grow_1 0 rfl rfl)
theorem dJ25_grow_25 : decode cJ25_grow 25 = .ok (.iload_n 1, 1) := dk_27 (dk_at dksJ25_grow_1 2 rfl rfl)
theorem dJ25_grow_26 : decode cJ25_grow 26 = .ok (.if_icmp .lt 15, 3) := dk_161 0 15 (dk_at dksJ25_grow_1 3 rfl rfl)
theorem dJ25_grow_29 : decode cJ25_grow 29 = .ok (.iload_n 2, 1) := dk_28 (dk_at dksJ25_grow_1 6 rfl rfl)
theorem dJ25_grow_30 : decode cJ25_grow 30 = .ok (.iload 4, 2) := dk_21 4 (dk_at dksJ25_grow_1 7 rfl rfl)
theorem dJ25_grow_32 : decode cJ25_grow 32 = .ok (.iadd, 1) := dk_96 (dk_at dksJ25_grow_1 9 rfl rfl)
theorem dJ25_grow_33 : decode cJ25_grow 33 = .ok (.dup, 1) := dk_89 (dk_at dksJ25_grow_1 10 rfl rfl)
theorem dJ25_grow_34 : decode cJ25_grow 34 = .ok (.istore_n 3, 1) := dk_62 (dk_at dksJ25_grow_1 11 rfl rfl)
theorem dJ25_grow_35 : decode cJ25_grow 35 = .ok (.ldc 9, 2) := dk_18 9 (dk_at dksJ25_grow_1 12 rfl rfl)
theorem dJ25_grow_37 : decode cJ25_grow 37 = .ok (.isub, 1) := dk_100 (dk_at dksJ25_grow_1 14 rfl rfl)
theorem dJ25_grow_38 : decode cJ25_grow 38 = .ok (.ifCond .le 11, 3) := dk_158 0 11 (dk_at dksJ25_grow_1 15 rfl rfl)
theorem dJ25_grow_41 : decode cJ25_grow 41 = .ok (.aload_n 0, 1) := dk_42 (dk_at dksJ25_grow_1 18 rfl rfl)
theorem dJ25_grow_42 : decode cJ25_grow 42 = .ok (.iload_n 1, 1) := dk_27 (dk_at dksJ25_grow_1 19 rfl rfl)
theorem dJ25_grow_43 : decode cJ25_grow 43 = .ok (.iload 4, 2) := dk_21 4 (dk_at dksJ25_grow_1 20 rfl rfl)
theorem dJ25_grow_45 : decode cJ25_grow 45 = .ok (.invokevirtual 10, 3) := dk_182 0 10 (dk_at dksJ25_grow_2 0 rfl rfl)
theorem dJ25_grow_48 : decode cJ25_grow 48 = .ok (.istore_n 3, 1) := dk_62 (dk_at dksJ25_grow_2 3 rfl rfl)
theorem dJ25_grow_49 : decode cJ25_grow 49 = .ok (.aload_n 0, 1) := dk_42 (dk_at dksJ25_grow_2 4 rfl rfl)
theorem dJ25_grow_50 : decode cJ25_grow 50 = .ok (.aload_n 0, 1) := dk_42 (dk_at dksJ25_grow_2 5 rfl rfl)
theorem dJ25_grow_51 : decode cJ25_grow 51 = .ok (.getfield 3, 3) := dk_180 0 3 (dk_at dksJ25_grow_2 6 rfl rfl)
theorem dJ25_grow_54 : decode cJ25_grow 54 = .ok (.iload_n 3, 1) := dk_29 (dk_at dksJ25_grow_2 9 rfl rfl)
theorem dJ25_grow_55 : decode cJ25_grow 55 = .ok (.invokestatic 14, 3) := dk_184 0 14 (dk_at dksJ25_grow_2 10 rfl rfl)
theorem dJ25_grow_58 : decode cJ25_grow 58 = .ok (.dup_x1, 1) := dk_90 (dk_at dksJ25_grow_2 13 rfl rfl)
theorem dJ25_grow_59 : decode cJ25_grow 59 = .ok (.putfield 3, 3) := dk_181 0 3 (dk_at dksJ25_grow_2 14 rfl rfl)
theorem dJ25_grow_62 : decode cJ25_grow 62 = .ok (.astore 5, 2) := dk_58 5 (dk_at dksJ25_grow_2 17 rfl rfl)
theorem dJ25_grow_64 : decode cJ25_grow 64 = .ok (.aload_n 0, 1) := dk_42 (dk_at dksJ25_grow_2 19 rfl rfl)
theorem dJ25_grow_65 : decode cJ25_grow 65 = .ok (.getfield 20, 3) := dk_180 0 20 (dk_at dksJ25_grow_2 20 rfl rfl)
theorem dJ25_grow_68 : decode cJ25_grow 68 = .ok (.aload_n 0, 1) := dk_42 (dk_at dksJ25_grow_2 23 rfl rfl)
theorem dJ25_grow_69 : decode cJ25_grow 69 = .ok (.getfield 24, 3) := dk_180 0 24 (dk_at dksJ25_grow_3 0 rfl rfl)
theorem dJ25_grow_72 : decode cJ25_grow 72 = .ok (.if_icmp .lt 24, 3) := dk_161 0 24 (dk_at dksJ25_grow_3 3 rfl rfl)
theorem dJ25_grow_75 : decode cJ25_grow 75 = .ok (.aload_n 0, 1) := dk_42 (dk_at dksJ25_grow_3 6 rfl rfl)
theorem dJ25_grow_76 : decode cJ25_grow 76 = .ok (.getfield 20, 3) := dk_180 0 20 (dk_at dksJ25_grow_3 7 rfl rfl)
theorem dJ25_grow_79 : decode cJ25_grow 79 = .ok (.aload_n 0, 1) := dk_42 (dk_at dksJ25_grow_3 10 rfl rfl)
theorem dJ25_grow_80 : decode cJ25_grow 80 = .ok (.getfield 24, 3) := dk_180 0 24 (dk_at dksJ25_grow_3 11 rfl rfl)
theorem dJ25_grow_83 : decode cJ25_grow 83 = .ok (.if_icmp .ne 81, 3) := dk_160 0 81 (dk_at dksJ25_grow_3 14 rfl rfl)
theorem dJ25_grow_86 : decode cJ25_grow 86 = .ok (.aload 5, 2) := dk_25 5 (dk_at dksJ25_grow_3 17 rfl rfl)
theorem dJ25_grow_88 : decode cJ25_grow 88 = .ok (.aload_n 0, 1) := dk_42 (dk_at dksJ25_grow_3 19 rfl rfl)
theorem dJ25_grow_89 : decode cJ25_grow 89 = .ok (.getfield 24, 3) := dk_180 0 24 (dk_at dksJ25_grow_3 20 rfl rfl)
theorem dJ25_grow_92 : decode cJ25_grow 92 = .ok (.aaload, 1) := dk_50 (dk_at dksJ25_grow_3 23 rfl rfl)
theorem dJ25_grow_93 : decode cJ25_grow 93 = .ok (.ifnull 71, 3) := dk_198 0 71 (dk_at dksJ25_grow_4 0 rfl rfl)
theorem dJ25_grow_96 : decode cJ25_grow 96 = .ok (.iload_n 3, 1) := dk_29 (dk_at dksJ25_grow_4 3 rfl rfl)
theorem dJ25_grow_97 : decode cJ25_grow 97 = .ok (.iload_n 2, 1) := dk_28 (dk_at dksJ25_grow_4 4 rfl rfl)
theorem dJ25_grow_98 : decode cJ25_grow 98 = .ok (.isub, 1) := dk_100 (dk_at dksJ25_grow_4 5 rfl rfl)
theorem dJ25_grow_99 : decode cJ25_grow 99 = .ok (.istore 6, 2) := dk_54 6 (dk_at dksJ25_grow_4 6 rfl rfl)
theorem dJ25_grow_101 : decode cJ25_grow 101 = .ok (.aload 5, 2) := dk_25 5 (dk_at dksJ25_grow_4 8 rfl rfl)
theorem dJ25_grow_103 : decode cJ25_grow 103 = .ok (.aload_n 0, 1) := dk_42 (dk_at dksJ25_grow_4 10 rfl rfl)
theorem dJ25_grow_104 : decode cJ25_grow 104 = .ok (.getfield 24, 3) := dk_180 0 24 (dk_at dksJ25_grow_4 11 rfl rfl)
theorem dJ25_grow_107 : decode cJ25_grow 107 = .ok (.aload 5, 2) := dk_25 5 (dk_at dksJ25_grow_4 14 rfl rfl)
theorem dJ25_grow_109 : decode cJ25_grow 109 = .ok (.aload_n 0, 1) := dk_42 (dk_at dksJ25_grow_4 16 rfl rfl)
theorem dJ25_grow_110 : decode cJ25_grow 110 = .ok (.getfield 24, 3) := dk_180 0 24 (dk_at dksJ25_grow_4 17 rfl rfl)
theorem dJ25_grow_113 : decode cJ25_grow 113 = .ok (.iload 6, 2) := dk_21 6 (dk_at dksJ25_grow_4 20 rfl rfl)
theorem dJ25_grow_115 : decode cJ25_grow 115 = .ok (.iadd, 1) := dk_96 (dk_at dksJ25_grow_4 22 rfl rfl)
theorem dJ25_grow_116 : decode cJ25_grow 116 = .ok (.iload_n 2, 1) := dk_28 (dk_at dksJ25_grow_4 23 rfl rfl)
theorem dJ25_grow_117 : decode cJ25_grow 117 = .ok (.aload_n 0, 1) := dk_42 (dk_at dksJ25_grow_5 0 rfl rfl)
theorem dJ25_grow_118 : decode cJ25_grow 118 = .ok (.getfield 24, 3) := dk_180 0 24 (dk_at dksJ25_grow_5 1 rfl rfl)
theorem dJ25_grow_121 : decode cJ25_grow 121 = .ok (.isub, 1) := dk_100 (dk_at dksJ25_grow_5 4 rfl rfl)
theorem dJ25_grow_122 : decode cJ25_grow 122 = .ok (.invokestatic 27, 3) := dk_184 0 27 (dk_at dksJ25_grow_5 5 rfl rfl)
theorem dJ25_grow_125 : decode cJ25_grow 125 = .ok (.aload_n 0, 1) := dk_42 (dk_at dksJ25_grow_5 8 rfl rfl)
theorem dJ25_grow_126 : decode cJ25_grow 126 = .ok (.getfield 24, 3) := dk_180 0 24 (dk_at dksJ25_grow_5 9 rfl rfl)
theorem dJ25_grow_129 : decode cJ25_grow 129 = .ok (.istore 7, 2) := dk_54 7 (dk_at dksJ25_grow_5 12 rfl rfl)
theorem dJ25_grow_131 : decode cJ25_grow 131 = .ok (.aload_n 0, 1) := dk_42 (dk_at dksJ25_grow_5 14 rfl rfl)
theorem dJ25_grow_132 : decode cJ25_grow 132 = .ok (.dup, 1) := dk_89 (dk_at dksJ25_grow_5 15 rfl rfl)
theorem dJ25_grow_133 : decode cJ25_grow 133 = .ok (.getfield 24, 3) := dk_180 0 24 (dk_at dksJ25_grow_5 16 rfl rfl)
theorem dJ25_grow_136 : decode cJ25_grow 136 = .ok (.iload 6, 2) := dk_21 6 (dk_at dksJ25_grow_5 19 rfl rfl)
theorem dJ25_grow_138 : decode cJ25_grow 138 = .ok (.iadd, 1) := dk_96 (dk_at dksJ25_grow_5 21 rfl rfl)
theorem dJ25_grow_139 : decode cJ25_grow 139 = .ok (.dup_x1, 1) := dk_90 (dk_at dksJ25_grow_5 22 rfl rfl)
theorem dJ25_grow_140 : decode cJ25_grow 140 = .ok (.putfield 24, 3) := dk_181 0 24 (dk_at dksJ25_grow_6 0 rfl rfl)
theorem dJ25_grow_143 : decode cJ25_grow 143 = .ok (.istore 8, 2) := dk_54 8 (dk_at dksJ25_grow_6 3 rfl rfl)
theorem dJ25_grow_145 : decode cJ25_grow 145 = .ok (.iload 7, 2) := dk_21 7 (dk_at dksJ25_grow_6 5 rfl rfl)
theorem dJ25_grow_147 : decode cJ25_grow 147 = .ok (.iload 8, 2) := dk_21 8 (dk_at dksJ25_grow_6 7 rfl rfl)
theorem dJ25_grow_149 : decode cJ25_grow 149 = .ok (.if_icmp .ge 15, 3) := dk_162 0 15 (dk_at dksJ25_grow_6 9 rfl rfl)
theorem dJ25_grow_152 : decode cJ25_grow 152 = .ok (.aload 5, 2) := dk_25 5 (dk_at dksJ25_grow_6 12 rfl rfl)
theorem dJ25_grow_154 : decode cJ25_grow 154 = .ok (.iload 7, 2) := dk_21 7 (dk_at dksJ25_grow_6 14 rfl rfl)
theorem dJ25_grow_156 : decode cJ25_grow 156 = .ok (.aconst_null, 1) := dk_1 (dk_at dksJ25_grow_6 16 rfl rfl)
theorem dJ25_grow_157 : decode cJ25_grow 157 = .ok (.aastore, 1) := dk_83 (dk_at dksJ25_grow_6 17 rfl rfl)
theorem dJ25_grow_158 : decode cJ25_grow 158 = .ok (.iinc 7 1, 3) := dk_132 7 1 (dk_at dksJ25_grow_6 18 rfl rfl)
theorem dJ25_grow_161 : decode cJ25_grow 161 = .ok (.goto (-16), 3) := dk_167 255 240 (dk_at dksJ25_grow_6 21 rfl rfl)
theorem dJ25_grow_164 : decode cJ25_grow 164 = .ok (.return_, 1) := dk_177 (dk_at dksJ25_grow_7 0 rfl rfl)
abbrev cJ25_newCapacity : ByteArray := prog_61_method_2_code
def yJ25_newCapacity : MethodName := ⟨RJ25, "newCapacity", "(II)I"⟩
def dkwJ25_newCapacity_2 : List UInt8 := [18, 9, 100, 156, 0, 9, 29, 28, 96, 167, 0, 5, 18, 9, 172]
abbrev dktJ25_newCapacity_2 : List UInt8 := dkwJ25_newCapacity_2 ++ []
def dkwJ25_newCapacity_1 : List UInt8 := [187, 0, 33, 89, 18, 35, 183, 0, 37, 191, 18, 41, 172, 27, 28, 164, 0, 6, 21, 4, 172, 29, 28, 96]
abbrev dktJ25_newCapacity_1 : List UInt8 := dkwJ25_newCapacity_1 ++ dktJ25_newCapacity_2
def dkwJ25_newCapacity_0 : List UInt8 := [42, 180, 0, 3, 190, 62, 29, 27, 96, 89, 54, 4, 18, 9, 100, 158, 0, 21, 21, 4, 156, 0, 13]
abbrev dktJ25_newCapacity_0 : List UInt8 := dkwJ25_newCapacity_0 ++ dktJ25_newCapacity_1
theorem dksJ25_newCapacity_0 : cJ25_newCapacity.data.toList.drop 0 = dktJ25_newCapacity_0 := by decide +kernel
theorem dksJ25_newCapacity_1 : cJ25_newCapacity.data.toList.drop 23 = dktJ25_newCapacity_1 := dk_seg dksJ25_newCapacity_0 23 rfl rfl
theorem dksJ25_newCapacity_2 : cJ25_newCapacity.data.toList.drop 47 = dktJ25_newCapacity_2 := dk_seg dksJ25_newCapacity_1 24 rfl rfl
theorem dJ25_newCapacity_0 : decode cJ25_newCapacity 0 = .ok (.aload_n 0, 1) := dk_42 (dk_at dksJ25_newCapacity_0 0 rfl rfl)
theorem dJ25_newCapacity_1 : decode cJ25_newCapacity 1 = .ok (.getfield 3, 3) := dk_180 0 3 (dk_at dksJ25_newCapacity_0 1 rfl rfl)
theorem dJ25_newCapacity_4 : decode cJ25_newCapacity 4 = .ok (.arraylength, 1) := dk_190 (dk_at dksJ25_newCapacity_0 4 rfl rfl)
theorem dJ25_newCapacity_5 : decode cJ25_newCapacity 5 = .ok (.istore_n 3, 1) := dk_62 (dk_at dksJ25_newCapacity_0 5 rfl rfl)
theorem dJ25_newCapacity_6 : decode cJ25_newCapacity 6 = .ok (.iload_n 3, 1) := dk_29 (dk_at dksJ25_newCapacity_0 6 rfl rfl)
theorem dJ25_newCapacity_7 : decode cJ25_newCapacity 7 = .ok (.iload_n 1, 1) := dk_27 (dk_at dksJ25_newCapacity_0 7 rfl rfl)
theorem dJ25_newCapacity_8 : decode cJ25_newCapacity 8 = .ok (.iadd, 1) := dk_96 (dk_at dksJ25_newCapacity_0 8 rfl rfl)
theorem dJ25_newCapacity_9 : decode cJ25_newCapacity 9 = .ok (.dup, 1) := dk_89 (dk_at dksJ25_newCapacity_0 9 rfl rfl)
theorem dJ25_newCapacity_10 : decode cJ25_newCapacity 10 = .ok (.istore 4, 2) := dk_54 4 (dk_at dksJ25_newCapacity_0 10 rfl rfl)
theorem dJ25_newCapacity_12 : decode cJ25_newCapacity 12 = .ok (.ldc 9, 2) := dk_18 9 (dk_at dksJ25_newCapacity_0 12 rfl rfl)
theorem dJ25_newCapacity_14 : decode cJ25_newCapacity 14 = .ok (.isub, 1) := dk_100 (dk_at dksJ25_newCapacity_0 14 rfl rfl)
theorem dJ25_newCapacity_15 : decode cJ25_newCapacity 15 = .ok (.ifCond .le 21, 3) := dk_158 0 21 (dk_at dksJ25_newCapacity_0 15 rfl rfl)
theorem dJ25_newCapacity_18 : decode cJ25_newCapacity 18 = .ok (.iload 4, 2) := dk_21 4 (dk_at dksJ25_newCapacity_0 18 rfl rfl)
theorem dJ25_newCapacity_20 : decode cJ25_newCapacity 20 = .ok (.ifCond .ge 13, 3) := dk_156 0 13 (dk_at dksJ25_newCapacity_0 20 rfl rfl)
theorem dJ25_newCapacity_23 : decode cJ25_newCapacity 23 = .ok (.new 33, 3) := dk_187 0 33 (dk_at dksJ25_newCapacity_1 0 rfl rfl)
theorem dJ25_newCapacity_26 : decode cJ25_newCapacity 26 = .ok (.dup, 1) := dk_89 (dk_at dksJ25_newCapacity_1 3 rfl rfl)
theorem dJ25_newCapacity_27 : decode cJ25_newCapacity 27 = .ok (.ldc 35, 2) := dk_18 35 (dk_at dksJ25_newCapacity_1 4 rfl rfl)
theorem dJ25_newCapacity_29 : decode cJ25_newCapacity 29 = .ok (.invokespecial 37, 3) := dk_183 0 37 (dk_at dksJ25_newCapacity_1 6 rfl rfl)
theorem dJ25_newCapacity_32 : decode cJ25_newCapacity 32 = .ok (.athrow, 1) := dk_191 (dk_at dksJ25_newCapacity_1 9 rfl rfl)
theorem dJ25_newCapacity_33 : decode cJ25_newCapacity 33 = .ok (.ldc 41, 2) := dk_18 41 (dk_at dksJ25_newCapacity_1 10 rfl rfl)
theorem dJ25_newCapacity_35 : decode cJ25_newCapacity 35 = .ok (.ireturn, 1) := dk_172 (dk_at dksJ25_newCapacity_1 12 rfl rfl)
theorem dJ25_newCapacity_36 : decode cJ25_newCapacity 36 = .ok (.iload_n 1, 1) := dk_27 (dk_at dksJ25_newCapacity_1 13 rfl rfl)
theorem dJ25_newCapacity_37 : decode cJ25_newCapacity 37 = .ok (.iload_n 2, 1) := dk_28 (dk_at dksJ25_newCapacity_1 14 rfl rfl)
theorem dJ25_newCapacity_38 : decode cJ25_newCapacity 38 = .ok (.if_icmp .le 6, 3) := dk_164 0 6 (dk_at dksJ25_newCapacity_1 15 rfl rfl)
theorem dJ25_newCapacity_41 : decode cJ25_newCapacity 41 = .ok (.iload 4, 2) := dk_21 4 (dk_at dksJ25_newCapacity_1 18 rfl rfl)
theorem dJ25_newCapacity_43 : decode cJ25_newCapacity 43 = .ok (.ireturn, 1) := dk_172 (dk_at dksJ25_newCapacity_1 20 rfl rfl)
theorem dJ25_newCapacity_44 : decode cJ25_newCapacity 44 = .ok (.iload_n 3, 1) := dk_29 (dk_at dksJ25_newCapacity_1 21 rfl rfl)
theorem dJ25_newCapacity_45 : decode cJ25_newCapacity 45 = .ok (.iload_n 2, 1) := dk_28 (dk_at dksJ25_newCapacity_1 22 rfl rfl)
theorem dJ25_newCapacity_46 : decode cJ25_newCapacity 46 = .ok (.iadd, 1) := dk_96 (dk_at dksJ25_newCapacity_1 23 rfl rfl)
theorem dJ25_newCapacity_47 : decode cJ25_newCapacity 47 = .ok (.ldc 9, 2) := dk_18 9 (dk_at dksJ25_newCapacity_2 0 rfl rfl)
theorem dJ25_newCapacity_49 : decode cJ25_newCapacity 49 = .ok (.isub, 1) := dk_100 (dk_at dksJ25_newCapacity_2 2 rfl rfl)
theorem dJ25_newCapacity_50 : decode cJ25_newCapacity 50 = .ok (.ifCond .ge 9, 3) := dk_156 0 9 (dk_at dksJ25_newCapacity_2 3 rfl rfl)
theorem dJ25_newCapacity_53 : decode cJ25_newCapacity 53 = .ok (.iload_n 3, 1) := dk_29 (dk_at dksJ25_newCapacity_2 6 rfl rfl)
theorem dJ25_newCapacity_54 : decode cJ25_newCapacity 54 = .ok (.iload_n 2, 1) := dk_28 (dk_at dksJ25_newCapacity_2 7 rfl rfl)
theorem dJ25_newCapacity_55 : decode cJ25_newCapacity 55 = .ok (.iadd, 1) := dk_96 (dk_at dksJ25_newCapacity_2 8 rfl rfl)
theorem dJ25_newCapacity_56 : decode cJ25_newCapacity 56 = .ok (.goto 5, 3) := dk_167 0 5 (dk_at dksJ25_newCapacity_2 9 rfl rfl)
theorem dJ25_newCapacity_59 : decode cJ25_newCapacity 59 = .ok (.ldc 9, 2) := dk_18 9 (dk_at dksJ25_newCapacity_2 12 rfl rfl)
theorem dJ25_newCapacity_61 : decode cJ25_newCapacity 61 = .ok (.ireturn, 1) := dk_172 (dk_at dksJ25_newCapacity_2 14 rfl rfl)
abbrev cJ25_size : ByteArray := prog_61_method_37_code
def yJ25_size : MethodName := ⟨RJ25, "size", "()I"⟩
def dkwJ25_size_0 : List UInt8 := [42, 180, 0, 20, 42, 180, 0, 24, 42, 180, 0, 3, 190, 184, 0, 127, 172]
abbrev dktJ25_size_0 : List UInt8 := dkwJ25_size_0 ++ []
theorem dksJ25_size_0 : cJ25_size.data.toList.drop 0 = dktJ25_size_0 := by decide +kernel
theorem dJ25_size_0 : decode cJ25_size 0 = .ok (.aload_n 0, 1) := dk_42 (dk_at dksJ25_size_0 0 rfl rfl)
theorem dJ25_size_1 : decode cJ25_size 1 = .ok (.getfield 20, 3) := dk_180 0 20 (dk_at dksJ25_size_0 1 rfl rfl)
theorem dJ25_size_4 : decode cJ25_size 4 = .ok (.aload_n 0, 1) := dk_42 (dk_at dksJ25_size_0 4 rfl rfl)
theorem dJ25_size_5 : decode cJ25_size 5 = .ok (.getfield 24, 3) := dk_180 0 24 (dk_at dksJ25_size_0 5 rfl rfl)
theorem dJ25_size_8 : decode cJ25_size 8 = .ok (.aload_n 0, 1) := dk_42 (dk_at dksJ25_size_0 8 rfl rfl)
theorem dJ25_size_9 : decode cJ25_size 9 = .ok (.getfield 3, 3) := dk_180 0 3 (dk_at dksJ25_size_0 9 rfl rfl)
theorem dJ25_size_12 : decode cJ25_size 12 = .ok (.arraylength, 1) := dk_190 (dk_at dksJ25_size_0 12 rfl rfl)
theorem dJ25_size_13 : decode cJ25_size 13 = .ok (.invokestatic 127, 3) := dk_184 0 127 (dk_at dksJ25_size_0 13 rfl rfl)
theorem dJ25_size_16 : decode cJ25_size 16 = .ok (.ireturn, 1) := dk_172 (dk_at dksJ25_size_0 16 rfl rfl)
abbrev cJ25_sub : ByteArray := prog_61_method_9_code
def yJ25_sub : MethodName := ⟨RJ25, "sub", "(III)I"⟩
def dkwJ25_sub_0 : List UInt8 := [26, 27, 100, 89, 59, 156, 0, 7, 26, 28, 96, 59, 26, 172]
abbrev dktJ25_sub_0 : List UInt8 := dkwJ25_sub_0 ++ []
theorem dksJ25_sub_0 : cJ25_sub.data.toList.drop 0 = dktJ25_sub_0 := by decide +kernel
theorem dJ25_sub_0 : decode cJ25_sub 0 = .ok (.iload_n 0, 1) := dk_26 (dk_at dksJ25_sub_0 0 rfl rfl)
theorem dJ25_sub_1 : decode cJ25_sub 1 = .ok (.iload_n 1, 1) := dk_27 (dk_at dksJ25_sub_0 1 rfl rfl)
theorem dJ25_sub_2 : decode cJ25_sub 2 = .ok (.isub, 1) := dk_100 (dk_at dksJ25_sub_0 2 rfl rfl)
theorem dJ25_sub_3 : decode cJ25_sub 3 = .ok (.dup, 1) := dk_89 (dk_at dksJ25_sub_0 3 rfl rfl)
theorem dJ25_sub_4 : decode cJ25_sub 4 = .ok (.istore_n 0, 1) := dk_59 (dk_at dksJ25_sub_0 4 rfl rfl)
theorem dJ25_sub_5 : decode cJ25_sub 5 = .ok (.ifCond .ge 7, 3) := dk_156 0 7 (dk_at dksJ25_sub_0 5 rfl rfl)
theorem dJ25_sub_8 : decode cJ25_sub 8 = .ok (.iload_n 0, 1) := dk_26 (dk_at dksJ25_sub_0 8 rfl rfl)
theorem dJ25_sub_9 : decode cJ25_sub 9 = .ok (.iload_n 2, 1) := dk_28 (dk_at dksJ25_sub_0 9 rfl rfl)
theorem dJ25_sub_10 : decode cJ25_sub 10 = .ok (.iadd, 1) := dk_96 (dk_at dksJ25_sub_0 10 rfl rfl)
theorem dJ25_sub_11 : decode cJ25_sub 11 = .ok (.istore_n 0, 1) := dk_59 (dk_at dksJ25_sub_0 11 rfl rfl)
theorem dJ25_sub_12 : decode cJ25_sub 12 = .ok (.iload_n 0, 1) := dk_26 (dk_at dksJ25_sub_0 12 rfl rfl)
theorem dJ25_sub_13 : decode cJ25_sub 13 = .ok (.ireturn, 1) := dk_172 (dk_at dksJ25_sub_0 13 rfl rfl)
abbrev cJ25_removeFirst : ByteArray := prog_61_method_18_code
def yJ25_removeFirst : MethodName := ⟨RJ25, "removeFirst", "()Ljava/lang/Object;"⟩
def dkwJ25_removeFirst_0 : List UInt8 := [42, 182, 0, 93, 76, 43, 199, 0, 11, 187, 0, 97, 89, 183, 0, 99, 191, 43, 176]
abbrev dktJ25_removeFirst_0 : List UInt8 := dkwJ25_removeFirst_0 ++ []
theorem dksJ25_removeFirst_0 : cJ25_removeFirst.data.toList.drop 0 = dktJ25_removeFirst_0 := by decide +kernel
theorem dJ25_removeFirst_0 : decode cJ25_removeFirst 0 = .ok (.aload_n 0, 1) := dk_42 (dk_at dksJ25_removeFirst_0 0 rfl rfl)
theorem dJ25_removeFirst_1 : decode cJ25_removeFirst 1 = .ok (.invokevirtual 93, 3) := dk_182 0 93 (dk_at dksJ25_removeFirst_0 1 rfl rfl)
theorem dJ25_removeFirst_4 : decode cJ25_removeFirst 4 = .ok (.astore_n 1, 1) := dk_76 (dk_at dksJ25_removeFirst_0 4 rfl rfl)
theorem dJ25_removeFirst_5 : decode cJ25_removeFirst 5 = .ok (.aload_n 1, 1) := dk_43 (dk_at dksJ25_removeFirst_0 5 rfl rfl)
theorem dJ25_removeFirst_6 : decode cJ25_removeFirst 6 = .ok (.ifnonnull 11, 3) := dk_199 0 11 (dk_at dksJ25_removeFirst_0 6 rfl rfl)
theorem dJ25_removeFirst_9 : decode cJ25_removeFirst 9 = .ok (.new 97, 3) := dk_187 0 97 (dk_at dksJ25_removeFirst_0 9 rfl rfl)
theorem dJ25_removeFirst_12 : decode cJ25_removeFirst 12 = .ok (.dup, 1) := dk_89 (dk_at dksJ25_removeFirst_0 12 rfl rfl)
theorem dJ25_removeFirst_13 : decode cJ25_removeFirst 13 = .ok (.invokespecial 99, 3) := dk_183 0 99 (dk_at dksJ25_removeFirst_0 13 rfl rfl)
theorem dJ25_removeFirst_16 : decode cJ25_removeFirst 16 = .ok (.athrow, 1) := dk_191 (dk_at dksJ25_removeFirst_0 16 rfl rfl)
theorem dJ25_removeFirst_17 : decode cJ25_removeFirst 17 = .ok (.aload_n 1, 1) := dk_43 (dk_at dksJ25_removeFirst_0 17 rfl rfl)
theorem dJ25_removeFirst_18 : decode cJ25_removeFirst 18 = .ok (.areturn, 1) := dk_176 (dk_at dksJ25_removeFirst_0 18 rfl rfl)
abbrev cJ25_pollFirst : ByteArray := prog_61_method_20_code
def yJ25_pollFirst : MethodName := ⟨RJ25, "pollFirst", "()Ljava/lang/Object;"⟩
def dkwJ25_pollFirst_1 : List UInt8 := [42, 28, 43, 190, 184, 0, 74, 181, 0, 24, 45, 176]
abbrev dktJ25_pollFirst_1 : List UInt8 := dkwJ25_pollFirst_1 ++ []
def dkwJ25_pollFirst_0 : List UInt8 := [42, 180, 0, 3, 89, 76, 42, 180, 0, 24, 89, 61, 184, 0, 103, 78, 45, 198, 0, 17, 43, 28, 1, 83]
abbrev dktJ25_pollFirst_0 : List UInt8 := dkwJ25_pollFirst_0 ++ dktJ25_pollFirst_1
theorem dksJ25_pollFirst_0 : cJ25_pollFirst.data.toList.drop 0 = dktJ25_pollFirst_0 := by decide +kernel
theorem dksJ25_pollFirst_1 : cJ25_pollFirst.data.toList.drop 24 = dktJ25_pollFirst_1 := dk_seg dksJ25_pollFirst_0 24 rfl rfl
theorem dJ25_pollFirst_0 : decode cJ25_pollFirst 0 = .ok (.aload_n 0, 1) := dk_42 (dk_at dksJ25_pollFirst_0 0 rfl rfl)
theorem dJ25_pollFirst_1 : decode cJ25_pollFirst 1 = .ok (.getfield 3, 3) := dk_180 0 3 (dk_at dksJ25_pollFirst_0 1 rfl rfl)
theorem dJ25_pollFirst_4 : decode cJ25_pollFirst 4 = .ok (.dup, 1) := dk_89 (dk_at dksJ25_pollFirst_0 4 rfl rfl)
theorem dJ25_pollFirst_5 : decode cJ25_pollFirst 5 = .ok (.astore_n 1, 1) := dk_76 (dk_at dksJ25_pollFirst_0 5 rfl rfl)
theorem dJ25_pollFirst_6 : decode cJ25_pollFirst 6 = .ok (.aload_n 0, 1) := dk_42 (dk_at dksJ25_pollFirst_0 6 rfl rfl)
theorem dJ25_pollFirst_7 : decode cJ25_pollFirst 7 = .ok (.getfield 24, 3) := dk_180 0 24 (dk_at dksJ25_pollFirst_0 7 rfl rfl)
theorem dJ25_pollFirst_10 : decode cJ25_pollFirst 10 = .ok (.dup, 1) := dk_89 (dk_at dksJ25_pollFirst_0 10 rfl rfl)
theorem dJ25_pollFirst_11 : decode cJ25_pollFirst 11 = .ok (.istore_n 2, 1) := dk_61 (dk_at dksJ25_pollFirst_0 11 rfl rfl)
theorem dJ25_pollFirst_12 : decode cJ25_pollFirst 12 = .ok (.invokestatic 103, 3) := dk_184 0 103 (dk_at dksJ25_pollFirst_0 12 rfl rfl)
theorem dJ25_pollFirst_15 : decode cJ25_pollFirst 15 = .ok (.astore_n 3, 1) := dk_78 (dk_at dksJ25_pollFirst_0 15 rfl rfl)
theorem dJ25_pollFirst_16 : decode cJ25_pollFirst 16 = .ok (.aload_n 3, 1) := dk_45 (dk_at dksJ25_pollFirst_0 16 rfl rfl)
theorem dJ25_pollFirst_17 : decode cJ25_pollFirst 17 = .ok (.ifnull 17, 3) := dk_198 0 17 (dk_at dksJ25_pollFirst_0 17 rfl rfl)
theorem dJ25_pollFirst_20 : decode cJ25_pollFirst 20 = .ok (.aload_n 1, 1) := dk_43 (dk_at dksJ25_pollFirst_0 20 rfl rfl)
theorem dJ25_pollFirst_21 : decode cJ25_pollFirst 21 = .ok (.iload_n 2, 1) := dk_28 (dk_at dksJ25_pollFirst_0 21 rfl rfl)
theorem dJ25_pollFirst_22 : decode cJ25_pollFirst 22 = .ok (.aconst_null, 1) := dk_1 (dk_at dksJ25_pollFirst_0 22 rfl rfl)
theorem dJ25_pollFirst_23 : decode cJ25_pollFirst 23 = .ok (.aastore, 1) := dk_83 (dk_at dksJ25_pollFirst_0 23 rfl rfl)
theorem dJ25_pollFirst_24 : decode cJ25_pollFirst 24 = .ok (.aload_n 0, 1) := dk_42 (dk_at dksJ25_pollFirst_1 0 rfl rfl)
theorem dJ25_pollFirst_25 : decode cJ25_pollFirst 25 = .ok (.iload_n 2, 1) := dk_28 (dk_at dksJ25_pollFirst_1 1 rfl rfl)
theorem dJ25_pollFirst_26 : decode cJ25_pollFirst 26 = .ok (.aload_n 1, 1) := dk_43 (dk_at dksJ25_pollFirst_1 2 rfl rfl)
theorem dJ25_pollFirst_27 : decode cJ25_pollFirst 27 = .ok (.arraylength, 1) := dk_190 (dk_at dksJ25_pollFirst_1 3 rfl rfl)
theorem dJ25_pollFirst_28 : decode cJ25_pollFirst 28 = .ok (.invokestatic 74, 3) := dk_184 0 74 (dk_at dksJ25_pollFirst_1 4 rfl rfl)
theorem dJ25_pollFirst_31 : decode cJ25_pollFirst 31 = .ok (.putfield 24, 3) := dk_181 0 24 (dk_at dksJ25_pollFirst_1 7 rfl rfl)
theorem dJ25_pollFirst_34 : decode cJ25_pollFirst 34 = .ok (.aload_n 3, 1) := dk_45 (dk_at dksJ25_pollFirst_1 10 rfl rfl)
theorem dJ25_pollFirst_35 : decode cJ25_pollFirst 35 = .ok (.areturn, 1) := dk_176 (dk_at dksJ25_pollFirst_1 11 rfl rfl)
abbrev cJ25_elementAt : ByteArray := prog_61_method_10_code
def yJ25_elementAt : MethodName := ⟨RJ25, "elementAt", "([Ljava/lang/Object;I)Ljava/lang/Object;"⟩
def dkwJ25_elementAt_0 : List UInt8 := [42, 27, 50, 176]
abbrev dktJ25_elementAt_0 : List UInt8 := dkwJ25_elementAt_0 ++ []
theorem dksJ25_elementAt_0 : cJ25_elementAt.data.toList.drop 0 = dktJ25_elementAt_0 := by decide +kernel
theorem dJ25_elementAt_0 : decode cJ25_elementAt 0 = .ok (.aload_n 0, 1) := dk_42 (dk_at dksJ25_elementAt_0 0 rfl rfl)
theorem dJ25_elementAt_1 : decode cJ25_elementAt 1 = .ok (.iload_n 1, 1) := dk_27 (dk_at dksJ25_elementAt_0 1 rfl rfl)
theorem dJ25_elementAt_2 : decode cJ25_elementAt 2 = .ok (.aaload, 1) := dk_50 (dk_at dksJ25_elementAt_0 2 rfl rfl)
theorem dJ25_elementAt_3 : decode cJ25_elementAt 3 = .ok (.areturn, 1) := dk_176 (dk_at dksJ25_elementAt_0 3 rfl rfl)
abbrev cJ25_isEmpty : ByteArray := prog_61_method_38_code
def yJ25_isEmpty : MethodName := ⟨RJ25, "isEmpty", "()Z"⟩
def dkwJ25_isEmpty_0 : List UInt8 := [42, 180, 0, 24, 42, 180, 0, 20, 160, 0, 7, 4, 167, 0, 4, 3, 172]
abbrev dktJ25_isEmpty_0 : List UInt8 := dkwJ25_isEmpty_0 ++ []
theorem dksJ25_isEmpty_0 : cJ25_isEmpty.data.toList.drop 0 = dktJ25_isEmpty_0 := by decide +kernel
theorem dJ25_isEmpty_0 : decode cJ25_isEmpty 0 = .ok (.aload_n 0, 1) := dk_42 (dk_at dksJ25_isEmpty_0 0 rfl rfl)
theorem dJ25_isEmpty_1 : decode cJ25_isEmpty 1 = .ok (.getfield 24, 3) := dk_180 0 24 (dk_at dksJ25_isEmpty_0 1 rfl rfl)
theorem dJ25_isEmpty_4 : decode cJ25_isEmpty 4 = .ok (.aload_n 0, 1) := dk_42 (dk_at dksJ25_isEmpty_0 4 rfl rfl)
theorem dJ25_isEmpty_5 : decode cJ25_isEmpty 5 = .ok (.getfield 20, 3) := dk_180 0 20 (dk_at dksJ25_isEmpty_0 5 rfl rfl)
theorem dJ25_isEmpty_8 : decode cJ25_isEmpty 8 = .ok (.if_icmp .ne 7, 3) := dk_160 0 7 (dk_at dksJ25_isEmpty_0 8 rfl rfl)
theorem dJ25_isEmpty_11 : decode cJ25_isEmpty 11 = .ok (.iconst 1, 1) := dk_4 (dk_at dksJ25_isEmpty_0 11 rfl rfl)
theorem dJ25_isEmpty_12 : decode cJ25_isEmpty 12 = .ok (.goto 4, 3) := dk_167 0 4 (dk_at dksJ25_isEmpty_0 12 rfl rfl)
theorem dJ25_isEmpty_15 : decode cJ25_isEmpty 15 = .ok (.iconst 0, 1) := dk_3 (dk_at dksJ25_isEmpty_0 15 rfl rfl)
theorem dJ25_isEmpty_16 : decode cJ25_isEmpty 16 = .ok (.ireturn, 1) := dk_172 (dk_at dksJ25_isEmpty_0 16 rfl rfl)
abbrev cJ25_removeLast : ByteArray := prog_61_method_19_code
def yJ25_removeLast : MethodName := ⟨RJ25, "removeLast", "()Ljava/lang/Object;"⟩
def dkwJ25_removeLast_0 : List UInt8 := [42, 182, 0, 100, 76, 43, 199, 0, 11, 187, 0, 97, 89, 183, 0, 99, 191, 43, 176]
abbrev dktJ25_removeLast_0 : List UInt8 := dkwJ25_removeLast_0 ++ []
theorem dksJ25_removeLast_0 : cJ25_removeLast.data.toList.drop 0 = dktJ25_removeLast_0 := by decide +kernel
theorem dJ25_removeLast_0 : decode cJ25_removeLast 0 = .ok (.aload_n 0, 1) := dk_42 (dk_at dksJ25_removeLast_0 0 rfl rfl)
theorem dJ25_removeLast_1 : decode cJ25_removeLast 1 = .ok (.invokevirtual 100, 3) := dk_182 0 100 (dk_at dksJ25_removeLast_0 1 rfl rfl)
theorem dJ25_removeLast_4 : decode cJ25_removeLast 4 = .ok (.astore_n 1, 1) := dk_76 (dk_at dksJ25_removeLast_0 4 rfl rfl)
theorem dJ25_removeLast_5 : decode cJ25_removeLast 5 = .ok (.aload_n 1, 1) := dk_43 (dk_at dksJ25_removeLast_0 5 rfl rfl)
theorem dJ25_removeLast_6 : decode cJ25_removeLast 6 = .ok (.ifnonnull 11, 3) := dk_199 0 11 (dk_at dksJ25_removeLast_0 6 rfl rfl)
theorem dJ25_removeLast_9 : decode cJ25_removeLast 9 = .ok (.new 97, 3) := dk_187 0 97 (dk_at dksJ25_removeLast_0 9 rfl rfl)
theorem dJ25_removeLast_12 : decode cJ25_removeLast 12 = .ok (.dup, 1) := dk_89 (dk_at dksJ25_removeLast_0 12 rfl rfl)
theorem dJ25_removeLast_13 : decode cJ25_removeLast 13 = .ok (.invokespecial 99, 3) := dk_183 0 99 (dk_at dksJ25_removeLast_0 13 rfl rfl)
theorem dJ25_removeLast_16 : decode cJ25_removeLast 16 = .ok (.athrow, 1) := dk_191 (dk_at dksJ25_removeLast_0 16 rfl rfl)
theorem dJ25_removeLast_17 : decode cJ25_removeLast 17 = .ok (.aload_n 1, 1) := dk_43 (dk_at dksJ25_removeLast_0 17 rfl rfl)
theorem dJ25_removeLast_18 : decode cJ25_removeLast 18 = .ok (.areturn, 1) := dk_176 (dk_at dksJ25_removeLast_0 18 rfl rfl)
abbrev cJ25_pollLast : ByteArray := prog_61_method_21_code
def yJ25_pollLast : MethodName := ⟨RJ25, "pollLast", "()Ljava/lang/Object;"⟩
def dkwJ25_pollLast_1 : List UInt8 := [198, 0, 12, 43, 42, 28, 90, 181, 0, 20, 1, 83, 45, 176]
abbrev dktJ25_pollLast_1 : List UInt8 := dkwJ25_pollLast_1 ++ []
def dkwJ25_pollLast_0 : List UInt8 := [42, 180, 0, 3, 89, 76, 42, 180, 0, 20, 43, 190, 184, 0, 68, 89, 61, 184, 0, 103, 78, 45]
abbrev dktJ25_pollLast_0 : List UInt8 := dkwJ25_pollLast_0 ++ dktJ25_pollLast_1
theorem dksJ25_pollLast_0 : cJ25_pollLast.data.toList.drop 0 = dktJ25_pollLast_0 := by decide +kernel
theorem dksJ25_pollLast_1 : cJ25_pollLast.data.toList.drop 22 = dktJ25_pollLast_1 := dk_seg dksJ25_pollLast_0 22 rfl rfl
theorem dJ25_pollLast_0 : decode cJ25_pollLast 0 = .ok (.aload_n 0, 1) := dk_42 (dk_at dksJ25_pollLast_0 0 rfl rfl)
theorem dJ25_pollLast_1 : decode cJ25_pollLast 1 = .ok (.getfield 3, 3) := dk_180 0 3 (dk_at dksJ25_pollLast_0 1 rfl rfl)
theorem dJ25_pollLast_4 : decode cJ25_pollLast 4 = .ok (.dup, 1) := dk_89 (dk_at dksJ25_pollLast_0 4 rfl rfl)
theorem dJ25_pollLast_5 : decode cJ25_pollLast 5 = .ok (.astore_n 1, 1) := dk_76 (dk_at dksJ25_pollLast_0 5 rfl rfl)
theorem dJ25_pollLast_6 : decode cJ25_pollLast 6 = .ok (.aload_n 0, 1) := dk_42 (dk_at dksJ25_pollLast_0 6 rfl rfl)
theorem dJ25_pollLast_7 : decode cJ25_pollLast 7 = .ok (.getfield 20, 3) := dk_180 0 20 (dk_at dksJ25_pollLast_0 7 rfl rfl)
theorem dJ25_pollLast_10 : decode cJ25_pollLast 10 = .ok (.aload_n 1, 1) := dk_43 (dk_at dksJ25_pollLast_0 10 rfl rfl)
theorem dJ25_pollLast_11 : decode cJ25_pollLast 11 = .ok (.arraylength, 1) := dk_190 (dk_at dksJ25_pollLast_0 11 rfl rfl)
theorem dJ25_pollLast_12 : decode cJ25_pollLast 12 = .ok (.invokestatic 68, 3) := dk_184 0 68 (dk_at dksJ25_pollLast_0 12 rfl rfl)
theorem dJ25_pollLast_15 : decode cJ25_pollLast 15 = .ok (.dup, 1) := dk_89 (dk_at dksJ25_pollLast_0 15 rfl rfl)
theorem dJ25_pollLast_16 : decode cJ25_pollLast 16 = .ok (.istore_n 2, 1) := dk_61 (dk_at dksJ25_pollLast_0 16 rfl rfl)
theorem dJ25_pollLast_17 : decode cJ25_pollLast 17 = .ok (.invokestatic 103, 3) := dk_184 0 103 (dk_at dksJ25_pollLast_0 17 rfl rfl)
theorem dJ25_pollLast_20 : decode cJ25_pollLast 20 = .ok (.astore_n 3, 1) := dk_78 (dk_at dksJ25_pollLast_0 20 rfl rfl)
theorem dJ25_pollLast_21 : decode cJ25_pollLast 21 = .ok (.aload_n 3, 1) := dk_45 (dk_at dksJ25_pollLast_0 21 rfl rfl)
theorem dJ25_pollLast_22 : decode cJ25_pollLast 22 = .ok (.ifnull 12, 3) := dk_198 0 12 (dk_at dksJ25_pollLast_1 0 rfl rfl)
theorem dJ25_pollLast_25 : decode cJ25_pollLast 25 = .ok (.aload_n 1, 1) := dk_43 (dk_at dksJ25_pollLast_1 3 rfl rfl)
theorem dJ25_pollLast_26 : decode cJ25_pollLast 26 = .ok (.aload_n 0, 1) := dk_42 (dk_at dksJ25_pollLast_1 4 rfl rfl)
theorem dJ25_pollLast_27 : decode cJ25_pollLast 27 = .ok (.iload_n 2, 1) := dk_28 (dk_at dksJ25_pollLast_1 5 rfl rfl)
theorem dJ25_pollLast_28 : decode cJ25_pollLast 28 = .ok (.dup_x1, 1) := dk_90 (dk_at dksJ25_pollLast_1 6 rfl rfl)
theorem dJ25_pollLast_29 : decode cJ25_pollLast 29 = .ok (.putfield 20, 3) := dk_181 0 20 (dk_at dksJ25_pollLast_1 7 rfl rfl)
theorem dJ25_pollLast_32 : decode cJ25_pollLast 32 = .ok (.aconst_null, 1) := dk_1 (dk_at dksJ25_pollLast_1 10 rfl rfl)
theorem dJ25_pollLast_33 : decode cJ25_pollLast 33 = .ok (.aastore, 1) := dk_83 (dk_at dksJ25_pollLast_1 11 rfl rfl)
theorem dJ25_pollLast_34 : decode cJ25_pollLast 34 = .ok (.aload_n 3, 1) := dk_45 (dk_at dksJ25_pollLast_1 12 rfl rfl)
theorem dJ25_pollLast_35 : decode cJ25_pollLast 35 = .ok (.areturn, 1) := dk_176 (dk_at dksJ25_pollLast_1 13 rfl rfl)
abbrev cJ25_dec : ByteArray := prog_61_method_7_code
def yJ25_dec : MethodName := ⟨RJ25, "dec", "(II)I"⟩
def dkwJ25_dec_0 : List UInt8 := [132, 0, 255, 26, 156, 0, 7, 27, 4, 100, 59, 26, 172]
abbrev dktJ25_dec_0 : List UInt8 := dkwJ25_dec_0 ++ []
theorem dksJ25_dec_0 : cJ25_dec.data.toList.drop 0 = dktJ25_dec_0 := by decide +kernel
theorem dJ25_dec_0 : decode cJ25_dec 0 = .ok (.iinc 0 (-1), 3) := dk_132 0 255 (dk_at dksJ25_dec_0 0 rfl rfl)
theorem dJ25_dec_3 : decode cJ25_dec 3 = .ok (.iload_n 0, 1) := dk_26 (dk_at dksJ25_dec_0 3 rfl rfl)
theorem dJ25_dec_4 : decode cJ25_dec 4 = .ok (.ifCond .ge 7, 3) := dk_156 0 7 (dk_at dksJ25_dec_0 4 rfl rfl)
theorem dJ25_dec_7 : decode cJ25_dec 7 = .ok (.iload_n 1, 1) := dk_27 (dk_at dksJ25_dec_0 7 rfl rfl)
theorem dJ25_dec_8 : decode cJ25_dec 8 = .ok (.iconst 1, 1) := dk_4 (dk_at dksJ25_dec_0 8 rfl rfl)
theorem dJ25_dec_9 : decode cJ25_dec 9 = .ok (.isub, 1) := dk_100 (dk_at dksJ25_dec_0 9 rfl rfl)
theorem dJ25_dec_10 : decode cJ25_dec 10 = .ok (.istore_n 0, 1) := dk_59 (dk_at dksJ25_dec_0 10 rfl rfl)
theorem dJ25_dec_11 : decode cJ25_dec 11 = .ok (.iload_n 0, 1) := dk_26 (dk_at dksJ25_dec_0 11 rfl rfl)
theorem dJ25_dec_12 : decode cJ25_dec 12 = .ok (.ireturn, 1) := dk_172 (dk_at dksJ25_dec_0 12 rfl rfl)
abbrev cJ25_clear : ByteArray := prog_61_method_53_code
def yJ25_clear : MethodName := ⟨RJ25, "clear", "()V"⟩
def dkwJ25_clear_1 : List UInt8 := [181, 0, 24, 177]
abbrev dktJ25_clear_1 : List UInt8 := dkwJ25_clear_1 ++ []
def dkwJ25_clear_0 : List UInt8 := [42, 180, 0, 3, 42, 180, 0, 24, 42, 180, 0, 20, 184, 0, 181, 42, 42, 3, 90, 181, 0, 20]
abbrev dktJ25_clear_0 : List UInt8 := dkwJ25_clear_0 ++ dktJ25_clear_1
theorem dksJ25_clear_0 : cJ25_clear.data.toList.drop 0 = dktJ25_clear_0 := by decide +kernel
theorem dksJ25_clear_1 : cJ25_clear.data.toList.drop 22 = dktJ25_clear_1 := dk_seg dksJ25_clear_0 22 rfl rfl
theorem dJ25_clear_0 : decode cJ25_clear 0 = .ok (.aload_n 0, 1) := dk_42 (dk_at dksJ25_clear_0 0 rfl rfl)
theorem dJ25_clear_1 : decode cJ25_clear 1 = .ok (.getfield 3, 3) := dk_180 0 3 (dk_at dksJ25_clear_0 1 rfl rfl)
theorem dJ25_clear_4 : decode cJ25_clear 4 = .ok (.aload_n 0, 1) := dk_42 (dk_at dksJ25_clear_0 4 rfl rfl)
theorem dJ25_clear_5 : decode cJ25_clear 5 = .ok (.getfield 24, 3) := dk_180 0 24 (dk_at dksJ25_clear_0 5 rfl rfl)
theorem dJ25_clear_8 : decode cJ25_clear 8 = .ok (.aload_n 0, 1) := dk_42 (dk_at dksJ25_clear_0 8 rfl rfl)
theorem dJ25_clear_9 : decode cJ25_clear 9 = .ok (.getfield 20, 3) := dk_180 0 20 (dk_at dksJ25_clear_0 9 rfl rfl)
theorem dJ25_clear_12 : decode cJ25_clear 12 = .ok (.invokestatic 181, 3) := dk_184 0 181 (dk_at dksJ25_clear_0 12 rfl rfl)
theorem dJ25_clear_15 : decode cJ25_clear 15 = .ok (.aload_n 0, 1) := dk_42 (dk_at dksJ25_clear_0 15 rfl rfl)
theorem dJ25_clear_16 : decode cJ25_clear 16 = .ok (.aload_n 0, 1) := dk_42 (dk_at dksJ25_clear_0 16 rfl rfl)
theorem dJ25_clear_17 : decode cJ25_clear 17 = .ok (.iconst 0, 1) := dk_3 (dk_at dksJ25_clear_0 17 rfl rfl)
theorem dJ25_clear_18 : decode cJ25_clear 18 = .ok (.dup_x1, 1) := dk_90 (dk_at dksJ25_clear_0 18 rfl rfl)
theorem dJ25_clear_19 : decode cJ25_clear 19 = .ok (.putfield 20, 3) := dk_181 0 20 (dk_at dksJ25_clear_0 19 rfl rfl)
theorem dJ25_clear_22 : decode cJ25_clear 22 = .ok (.putfield 24, 3) := dk_181 0 24 (dk_at dksJ25_clear_1 0 rfl rfl)
theorem dJ25_clear_25 : decode cJ25_clear 25 = .ok (.return_, 1) := dk_177 (dk_at dksJ25_clear_1 3 rfl rfl)
abbrev cJ25_circularClear : ByteArray := prog_61_method_54_code
def yJ25_circularClear : MethodName := ⟨RJ25, "circularClear", "([Ljava/lang/Object;II)V"⟩
def dkwJ25_circularClear_1 : List UInt8 := [167, 255, 244, 29, 28, 160, 0, 6, 167, 0, 10, 3, 60, 28, 62, 167, 255, 229, 177]
abbrev dktJ25_circularClear_1 : List UInt8 := dkwJ25_circularClear_1 ++ []
def dkwJ25_circularClear_0 : List UInt8 := [27, 28, 163, 0, 7, 28, 167, 0, 5, 42, 190, 62, 27, 29, 162, 0, 13, 42, 27, 1, 83, 132, 1, 1]
abbrev dktJ25_circularClear_0 : List UInt8 := dkwJ25_circularClear_0 ++ dktJ25_circularClear_1
theorem dksJ25_circularClear_0 : cJ25_circularClear.data.toList.drop 0 = dktJ25_circularClear_0 := by decide +kernel
theorem dksJ25_circularClear_1 : cJ25_circularClear.data.toList.drop 24 = dktJ25_circularClear_1 := dk_seg dksJ25_circularClear_0 24 rfl rfl
theorem dJ25_circularClear_0 : decode cJ25_circularClear 0 = .ok (.iload_n 1, 1) := dk_27 (dk_at dksJ25_circularClear_0 0 rfl rfl)
theorem dJ25_circularClear_1 : decode cJ25_circularClear 1 = .ok (.iload_n 2, 1) := dk_28 (dk_at dksJ25_circularClear_0 1 rfl rfl)
theorem dJ25_circularClear_2 : decode cJ25_circularClear 2 = .ok (.if_icmp .gt 7, 3) := dk_163 0 7 (dk_at dksJ25_circularClear_0 2 rfl rfl)
theorem dJ25_circularClear_5 : decode cJ25_circularClear 5 = .ok (.iload_n 2, 1) := dk_28 (dk_at dksJ25_circularClear_0 5 rfl rfl)
theorem dJ25_circularClear_6 : decode cJ25_circularClear 6 = .ok (.goto 5, 3) := dk_167 0 5 (dk_at dksJ25_circularClear_0 6 rfl rfl)
theorem dJ25_circularClear_9 : decode cJ25_circularClear 9 = .ok (.aload_n 0, 1) := dk_42 (dk_at dksJ25_circularClear_0 9 rfl rfl)
theorem dJ25_circularClear_10 : decode cJ25_circularClear 10 = .ok (.arraylength, 1) := dk_190 (dk_at dksJ25_circularClear_0 10 rfl rfl)
theorem dJ25_circularClear_11 : decode cJ25_circularClear 11 = .ok (.istore_n 3, 1) := dk_62 (dk_at dksJ25_circularClear_0 11 rfl rfl)
theorem dJ25_circularClear_12 : decode cJ25_circularClear 12 = .ok (.iload_n 1, 1) := dk_27 (dk_at dksJ25_circularClear_0 12 rfl rfl)
theorem dJ25_circularClear_13 : decode cJ25_circularClear 13 = .ok (.iload_n 3, 1) := dk_29 (dk_at dksJ25_circularClear_0 13 rfl rfl)
theorem dJ25_circularClear_14 : decode cJ25_circularClear 14 = .ok (.if_icmp .ge 13, 3) := dk_162 0 13 (dk_at dksJ25_circularClear_0 14 rfl rfl)
theorem dJ25_circularClear_17 : decode cJ25_circularClear 17 = .ok (.aload_n 0, 1) := dk_42 (dk_at dksJ25_circularClear_0 17 rfl rfl)
theorem dJ25_circularClear_18 : decode cJ25_circularClear 18 = .ok (.iload_n 1, 1) := dk_27 (dk_at dksJ25_circularClear_0 18 rfl rfl)
theorem dJ25_circularClear_19 : decode cJ25_circularClear 19 = .ok (.aconst_null, 1) := dk_1 (dk_at dksJ25_circularClear_0 19 rfl rfl)
theorem dJ25_circularClear_20 : decode cJ25_circularClear 20 = .ok (.aastore, 1) := dk_83 (dk_at dksJ25_circularClear_0 20 rfl rfl)
theorem dJ25_circularClear_21 : decode cJ25_circularClear 21 = .ok (.iinc 1 1, 3) := dk_132 1 1 (dk_at dksJ25_circularClear_0 21 rfl rfl)
theorem dJ25_circularClear_24 : decode cJ25_circularClear 24 = .ok (.goto (-12), 3) := dk_167 255 244 (dk_at dksJ25_circularClear_1 0 rfl rfl)
theorem dJ25_circularClear_27 : decode cJ25_circularClear 27 = .ok (.iload_n 3, 1) := dk_29 (dk_at dksJ25_circularClear_1 3 rfl rfl)
theorem dJ25_circularClear_28 : decode cJ25_circularClear 28 = .ok (.iload_n 2, 1) := dk_28 (dk_at dksJ25_circularClear_1 4 rfl rfl)
theorem dJ25_circularClear_29 : decode cJ25_circularClear 29 = .ok (.if_icmp .ne 6, 3) := dk_160 0 6 (dk_at dksJ25_circularClear_1 5 rfl rfl)
theorem dJ25_circularClear_32 : decode cJ25_circularClear 32 = .ok (.goto 10, 3) := dk_167 0 10 (dk_at dksJ25_circularClear_1 8 rfl rfl)
theorem dJ25_circularClear_35 : decode cJ25_circularClear 35 = .ok (.iconst 0, 1) := dk_3 (dk_at dksJ25_circularClear_1 11 rfl rfl)
theorem dJ25_circularClear_36 : decode cJ25_circularClear 36 = .ok (.istore_n 1, 1) := dk_60 (dk_at dksJ25_circularClear_1 12 rfl rfl)
theorem dJ25_circularClear_37 : decode cJ25_circularClear 37 = .ok (.iload_n 2, 1) := dk_28 (dk_at dksJ25_circularClear_1 13 rfl rfl)
theorem dJ25_circularClear_38 : decode cJ25_circularClear 38 = .ok (.istore_n 3, 1) := dk_62 (dk_at dksJ25_circularClear_1 14 rfl rfl)
theorem dJ25_circularClear_39 : decode cJ25_circularClear 39 = .ok (.goto (-27), 3) := dk_167 255 229 (dk_at dksJ25_circularClear_1 15 rfl rfl)
theorem dJ25_circularClear_42 : decode cJ25_circularClear 42 = .ok (.return_, 1) := dk_177 (dk_at dksJ25_circularClear_1 18 rfl rfl)
theorem q150 : (Jvm.Cond.initialized "java/util/ArrayDeque") ∈ lw_all := lw_g (lw_at lw_m1 31 rfl) rfl
theorem q705 : (Jvm.Cond.instantiable "java/util/ArrayDeque" (3 : Nat)) ∈ lw_all := lw_g (lw_at lw_m3 106 rfl) rfl
theorem q707 : (Jvm.Cond.instanceMethod ({ cls := "java/util/ArrayDeque", name := "<init>", desc := "()V" } : Jvm.MethodName)) ∈ lw_all := lw_g (lw_at lw_m3 108 rfl) rfl
theorem q708 : (Jvm.Cond.code ({ cls := "java/util/ArrayDeque", name := "<init>", desc := "()V" } : Jvm.MethodName) prog_61_method_3_code (1 : Nat) (Option.none : Option Jvm.ClassFile.FieldType)) ∈ lw_all := lw_g (lw_at lw_m3 109 rfl) rfl
theorem q709 : (Jvm.Cond.methodLink "java/util/ArrayDeque" (42 : Nat) ({ cls := "java/util/AbstractCollection", name := "<init>", desc := "()V" } : Jvm.MethodName)) ∈ lw_all := lw_g (lw_at lw_m3 110 rfl) rfl
theorem q710 : (Jvm.Cond.classLink "java/util/ArrayDeque" (47 : Nat) "java/lang/Object") ∈ lw_all := lw_g (lw_at lw_m3 111 rfl) rfl
theorem q711 : (Jvm.Cond.fieldLink "java/util/ArrayDeque" (3 : Nat) "java/util/ArrayDeque" "elements" "[Ljava/lang/Object;") ∈ lw_all := lw_g (lw_at lw_m3 112 rfl) rfl
theorem q712 : (Jvm.Cond.fieldLink "java/util/ArrayDeque" (24 : Nat) "java/util/ArrayDeque" "head" "I") ∈ lw_all := lw_g (lw_at lw_m3 113 rfl) rfl
theorem q713 : (Jvm.Cond.fieldLink "java/util/ArrayDeque" (20 : Nat) "java/util/ArrayDeque" "tail" "I") ∈ lw_all := lw_g (lw_at lw_m3 114 rfl) rfl
theorem q714 : (Jvm.Cond.lays "java/util/ArrayDeque" "java/util/ArrayDeque" "elements" "[Ljava/lang/Object;") ∈ lw_all := lw_g (lw_at lw_m3 115 rfl) rfl
theorem q715 : (Jvm.Cond.soleField "java/util/ArrayDeque" "elements") ∈ lw_all := lw_g (lw_at lw_m3 116 rfl) rfl
theorem q716 : (Jvm.Cond.lays "java/util/ArrayDeque" "java/util/ArrayDeque" "head" "I") ∈ lw_all := lw_g (lw_at lw_m3 117 rfl) rfl
theorem q717 : (Jvm.Cond.soleField "java/util/ArrayDeque" "head") ∈ lw_all := lw_g (lw_at lw_m3 118 rfl) rfl
theorem q718 : (Jvm.Cond.lays "java/util/ArrayDeque" "java/util/ArrayDeque" "tail" "I") ∈ lw_all := lw_g (lw_at lw_m3 119 rfl) rfl
theorem q719 : (Jvm.Cond.soleField "java/util/ArrayDeque" "tail") ∈ lw_all := lw_g (lw_at lw_m3 120 rfl) rfl
theorem q720 : (Jvm.Cond.superclass "java/util/ArrayDeque" "java/util/AbstractCollection") ∈ lw_all := lw_g (lw_at lw_m3 121 rfl) rfl
theorem q1108 : (Jvm.Cond.selects "java/util/ArrayDeque" ({ cls := "java/lang/Object", name := "getClass", desc := "()Ljava/lang/Class;" } : Jvm.MethodName) ({ cls := "java/lang/Object", name := "getClass", desc := "()Ljava/lang/Class;" } : Jvm.MethodName)) ∈ lw_all := lw_g (lw_at lw_m5 29 rfl) rfl
theorem q1734 : (Jvm.Cond.instanceMethod ({ cls := "java/util/ArrayDeque", name := "addLast", desc := "(Ljava/lang/Object;)V" } : Jvm.MethodName)) ∈ lw_all := lw_g (lw_at lw_m7 175 rfl) rfl
theorem q1735 : (Jvm.Cond.selects "java/util/ArrayDeque" ({ cls := "java/util/ArrayDeque", name := "addLast", desc := "(Ljava/lang/Object;)V" } : Jvm.MethodName) ({ cls := "java/util/ArrayDeque", name := "addLast", desc := "(Ljava/lang/Object;)V" } : Jvm.MethodName)) ∈ lw_all := lw_g (lw_at lw_m7 176 rfl) rfl
theorem q1736 : (Jvm.Cond.code ({ cls := "java/util/ArrayDeque", name := "addLast", desc := "(Ljava/lang/Object;)V" } : Jvm.MethodName) prog_61_method_13_code (3 : Nat) (Option.none : Option Jvm.ClassFile.FieldType)) ∈ lw_all := lw_g (lw_at lw_m7 177 rfl) rfl
theorem q1737 : (Jvm.Cond.methodLink "java/util/ArrayDeque" (74 : Nat) ({ cls := "java/util/ArrayDeque", name := "inc", desc := "(II)I" } : Jvm.MethodName)) ∈ lw_all := lw_g (lw_at lw_m7 178 rfl) rfl
theorem q1738 : (Jvm.Cond.static ({ cls := "java/util/ArrayDeque", name := "inc", desc := "(II)I" } : Jvm.MethodName)) ∈ lw_all := lw_g (lw_at lw_m7 179 rfl) rfl
theorem q1739 : (Jvm.Cond.code ({ cls := "java/util/ArrayDeque", name := "inc", desc := "(II)I" } : Jvm.MethodName) prog_61_method_6_code (2 : Nat) (Option.some Jvm.ClassFile.FieldType.int)) ∈ lw_all := lw_g (lw_at lw_m7 180 rfl) rfl
theorem q1740 : (Jvm.Cond.methodLink "java/util/ArrayDeque" (71 : Nat) ({ cls := "java/util/ArrayDeque", name := "grow", desc := "(I)V" } : Jvm.MethodName)) ∈ lw_all := lw_g (lw_at lw_m7 181 rfl) rfl
theorem q1741 : (Jvm.Cond.privateMethod ({ cls := "java/util/ArrayDeque", name := "grow", desc := "(I)V" } : Jvm.MethodName)) ∈ lw_tbl := lw_at lw_m7 182 rfl
theorem q1742 : (Jvm.Cond.instanceMethod ({ cls := "java/util/ArrayDeque", name := "grow", desc := "(I)V" } : Jvm.MethodName)) ∈ lw_all := lw_g (lw_at lw_m7 183 rfl) rfl
theorem q1743 : (Jvm.Cond.code ({ cls := "java/util/ArrayDeque", name := "grow", desc := "(I)V" } : Jvm.MethodName) prog_61_method_1_code (9 : Nat) (Option.none : Option Jvm.ClassFile.FieldType)) ∈ lw_all := lw_g (lw_at lw_m7 184 rfl) rfl
theorem q1744 : (Jvm.Cond.constant "java/util/ArrayDeque" (9 : Nat) (2147483639 : Int32)) ∈ lw_all := lw_g (lw_at lw_m7 185 rfl) rfl
theorem q1745 : (Jvm.Cond.methodLink "java/util/ArrayDeque" (10 : Nat) ({ cls := "java/util/ArrayDeque", name := "newCapacity", desc := "(II)I" } : Jvm.MethodName)) ∈ lw_all := lw_g (lw_at lw_m7 186 rfl) rfl
theorem q1746 : (Jvm.Cond.privateMethod ({ cls := "java/util/ArrayDeque", name := "newCapacity", desc := "(II)I" } : Jvm.MethodName)) ∈ lw_tbl := lw_at lw_m7 187 rfl
theorem q1747 : (Jvm.Cond.instanceMethod ({ cls := "java/util/ArrayDeque", name := "newCapacity", desc := "(II)I" } : Jvm.MethodName)) ∈ lw_all := lw_g (lw_at lw_m7 188 rfl) rfl
theorem q1748 : (Jvm.Cond.code ({ cls := "java/util/ArrayDeque", name := "newCapacity", desc := "(II)I" } : Jvm.MethodName) prog_61_method_2_code (5 : Nat) (Option.some Jvm.ClassFile.FieldType.int)) ∈ lw_all := lw_g (lw_at lw_m7 189 rfl) rfl
theorem q1749 : (Jvm.Cond.classLink "java/util/ArrayDeque" (33 : Nat) "java/lang/IllegalStateException") ∈ lw_all := lw_g (lw_at lw_m7 190 rfl) rfl
theorem q1750 : (Jvm.Cond.stringRef "java/util/ArrayDeque" (35 : Nat) "Sorry, deque too big") ∈ lw_tbl := lw_at lw_m7 191 rfl
theorem q1751 : (Jvm.Cond.methodLink "java/util/ArrayDeque" (37 : Nat) ({ cls := "java/lang/IllegalStateException", name := "<init>", desc := "(Ljava/lang/String;)V" } : Jvm.MethodName)) ∈ lw_all := lw_g (lw_at lw_m7 192 rfl) rfl
theorem q1755 : (Jvm.Cond.constant "java/util/ArrayDeque" (41 : Nat) (2147483647 : Int32)) ∈ lw_all := lw_g (lw_at lw_m7 196 rfl) rfl
theorem q1756 : (Jvm.Cond.methodLink "java/util/ArrayDeque" (14 : Nat) ({ cls := "java/util/Arrays", name := "copyOf", desc := "([Ljava/lang/Object;I)[Ljava/lang/Object;" } : Jvm.MethodName)) ∈ lw_all := lw_g (lw_at lw_m7 197 rfl) rfl
theorem q1757 : (Jvm.Cond.methodLink "java/util/ArrayDeque" (27 : Nat) ({ cls := "java/lang/System", name := "arraycopy", desc := "(Ljava/lang/Object;ILjava/lang/Object;II)V" } : Jvm.MethodName)) ∈ lw_all := lw_g (lw_at lw_m7 198 rfl) rfl
theorem q1759 : (Jvm.Cond.instanceMethod ({ cls := "java/util/ArrayDeque", name := "size", desc := "()I" } : Jvm.MethodName)) ∈ lw_all := lw_g (lw_at lw_m7 200 rfl) rfl
theorem q1760 : (Jvm.Cond.selects "java/util/ArrayDeque" ({ cls := "java/util/ArrayDeque", name := "size", desc := "()I" } : Jvm.MethodName) ({ cls := "java/util/ArrayDeque", name := "size", desc := "()I" } : Jvm.MethodName)) ∈ lw_all := lw_g (lw_at lw_m7 201 rfl) rfl
theorem q1761 : (Jvm.Cond.code ({ cls := "java/util/ArrayDeque", name := "size", desc := "()I" } : Jvm.MethodName) prog_61_method_37_code (1 : Nat) (Option.some Jvm.ClassFile.FieldType.int)) ∈ lw_all := lw_g (lw_at lw_m7 202 rfl) rfl
theorem q1762 : (Jvm.Cond.methodLink "java/util/ArrayDeque" (127 : Nat) ({ cls := "java/util/ArrayDeque", name := "sub", desc := "(III)I" } : Jvm.MethodName)) ∈ lw_all := lw_g (lw_at lw_m7 203 rfl) rfl
theorem q1763 : (Jvm.Cond.static ({ cls := "java/util/ArrayDeque", name := "sub", desc := "(III)I" } : Jvm.MethodName)) ∈ lw_all := lw_g (lw_at lw_m7 204 rfl) rfl
theorem q1764 : (Jvm.Cond.code ({ cls := "java/util/ArrayDeque", name := "sub", desc := "(III)I" } : Jvm.MethodName) prog_61_method_9_code (3 : Nat) (Option.some Jvm.ClassFile.FieldType.int)) ∈ lw_all := lw_g (lw_at lw_m7 205 rfl) rfl
theorem q1766 : (Jvm.Cond.instanceMethod ({ cls := "java/util/ArrayDeque", name := "removeFirst", desc := "()Ljava/lang/Object;" } : Jvm.MethodName)) ∈ lw_all := lw_g (lw_at lw_m7 207 rfl) rfl
theorem q1767 : (Jvm.Cond.selects "java/util/ArrayDeque" ({ cls := "java/util/ArrayDeque", name := "removeFirst", desc := "()Ljava/lang/Object;" } : Jvm.MethodName) ({ cls := "java/util/ArrayDeque", name := "removeFirst", desc := "()Ljava/lang/Object;" } : Jvm.MethodName)) ∈ lw_all := lw_g (lw_at lw_m7 208 rfl) rfl
theorem q1768 : (Jvm.Cond.code ({ cls := "java/util/ArrayDeque", name := "removeFirst", desc := "()Ljava/lang/Object;" } : Jvm.MethodName) prog_61_method_18_code (2 : Nat) (Option.some (Jvm.ClassFile.FieldType.object "java/lang/Object"))) ∈ lw_all := lw_g (lw_at lw_m7 209 rfl) rfl
theorem q1769 : (Jvm.Cond.methodLink "java/util/ArrayDeque" (93 : Nat) ({ cls := "java/util/ArrayDeque", name := "pollFirst", desc := "()Ljava/lang/Object;" } : Jvm.MethodName)) ∈ lw_all := lw_g (lw_at lw_m7 210 rfl) rfl
theorem q1770 : (Jvm.Cond.instanceMethod ({ cls := "java/util/ArrayDeque", name := "pollFirst", desc := "()Ljava/lang/Object;" } : Jvm.MethodName)) ∈ lw_all := lw_g (lw_at lw_m7 211 rfl) rfl
theorem q1771 : (Jvm.Cond.selects "java/util/ArrayDeque" ({ cls := "java/util/ArrayDeque", name := "pollFirst", desc := "()Ljava/lang/Object;" } : Jvm.MethodName) ({ cls := "java/util/ArrayDeque", name := "pollFirst", desc := "()Ljava/lang/Object;" } : Jvm.MethodName)) ∈ lw_all := lw_g (lw_at lw_m7 212 rfl) rfl
theorem q1772 : (Jvm.Cond.code ({ cls := "java/util/ArrayDeque", name := "pollFirst", desc := "()Ljava/lang/Object;" } : Jvm.MethodName) prog_61_method_20_code (4 : Nat) (Option.some (Jvm.ClassFile.FieldType.object "java/lang/Object"))) ∈ lw_all := lw_g (lw_at lw_m7 213 rfl) rfl
theorem q1773 : (Jvm.Cond.methodLink "java/util/ArrayDeque" (103 : Nat) ({ cls := "java/util/ArrayDeque", name := "elementAt", desc := "([Ljava/lang/Object;I)Ljava/lang/Object;" } : Jvm.MethodName)) ∈ lw_all := lw_g (lw_at lw_m7 214 rfl) rfl
theorem q1774 : (Jvm.Cond.static ({ cls := "java/util/ArrayDeque", name := "elementAt", desc := "([Ljava/lang/Object;I)Ljava/lang/Object;" } : Jvm.MethodName)) ∈ lw_all := lw_g (lw_at lw_m7 215 rfl) rfl
theorem q1775 : (Jvm.Cond.code ({ cls := "java/util/ArrayDeque", name := "elementAt", desc := "([Ljava/lang/Object;I)Ljava/lang/Object;" } : Jvm.MethodName) prog_61_method_10_code (2 : Nat) (Option.some (Jvm.ClassFile.FieldType.object "java/lang/Object"))) ∈ lw_all := lw_g (lw_at lw_m7 216 rfl) rfl
theorem q1776 : (Jvm.Cond.classLink "java/util/ArrayDeque" (97 : Nat) "java/util/NoSuchElementException") ∈ lw_all := lw_g (lw_at lw_m7 217 rfl) rfl
theorem q1777 : (Jvm.Cond.methodLink "java/util/ArrayDeque" (99 : Nat) ({ cls := "java/util/NoSuchElementException", name := "<init>", desc := "()V" } : Jvm.MethodName)) ∈ lw_all := lw_g (lw_at lw_m7 218 rfl) rfl
theorem q2024 : (Jvm.Cond.instanceMethod ({ cls := "java/util/ArrayDeque", name := "isEmpty", desc := "()Z" } : Jvm.MethodName)) ∈ lw_all := lw_g (lw_at lw_m8 225 rfl) rfl
theorem q2025 : (Jvm.Cond.selects "java/util/ArrayDeque" ({ cls := "java/util/ArrayDeque", name := "isEmpty", desc := "()Z" } : Jvm.MethodName) ({ cls := "java/util/ArrayDeque", name := "isEmpty", desc := "()Z" } : Jvm.MethodName)) ∈ lw_all := lw_g (lw_at lw_m8 226 rfl) rfl
theorem q2026 : (Jvm.Cond.code ({ cls := "java/util/ArrayDeque", name := "isEmpty", desc := "()Z" } : Jvm.MethodName) prog_61_method_38_code (1 : Nat) (Option.some Jvm.ClassFile.FieldType.boolean)) ∈ lw_all := lw_g (lw_at lw_m8 227 rfl) rfl
theorem q2922 : (Jvm.Cond.instanceMethod ({ cls := "java/util/ArrayDeque", name := "removeLast", desc := "()Ljava/lang/Object;" } : Jvm.MethodName)) ∈ lw_all := lw_g (lw_at lw_m12 163 rfl) rfl
theorem q2923 : (Jvm.Cond.selects "java/util/ArrayDeque" ({ cls := "java/util/ArrayDeque", name := "removeLast", desc := "()Ljava/lang/Object;" } : Jvm.MethodName) ({ cls := "java/util/ArrayDeque", name := "removeLast", desc := "()Ljava/lang/Object;" } : Jvm.MethodName)) ∈ lw_all := lw_g (lw_at lw_m12 164 rfl) rfl
theorem q2924 : (Jvm.Cond.code ({ cls := "java/util/ArrayDeque", name := "removeLast", desc := "()Ljava/lang/Object;" } : Jvm.MethodName) prog_61_method_19_code (2 : Nat) (Option.some (Jvm.ClassFile.FieldType.object "java/lang/Object"))) ∈ lw_all := lw_g (lw_at lw_m12 165 rfl) rfl
theorem q2925 : (Jvm.Cond.methodLink "java/util/ArrayDeque" (100 : Nat) ({ cls := "java/util/ArrayDeque", name := "pollLast", desc := "()Ljava/lang/Object;" } : Jvm.MethodName)) ∈ lw_all := lw_g (lw_at lw_m12 166 rfl) rfl
theorem q2926 : (Jvm.Cond.instanceMethod ({ cls := "java/util/ArrayDeque", name := "pollLast", desc := "()Ljava/lang/Object;" } : Jvm.MethodName)) ∈ lw_all := lw_g (lw_at lw_m12 167 rfl) rfl
theorem q2927 : (Jvm.Cond.selects "java/util/ArrayDeque" ({ cls := "java/util/ArrayDeque", name := "pollLast", desc := "()Ljava/lang/Object;" } : Jvm.MethodName) ({ cls := "java/util/ArrayDeque", name := "pollLast", desc := "()Ljava/lang/Object;" } : Jvm.MethodName)) ∈ lw_all := lw_g (lw_at lw_m12 168 rfl) rfl
theorem q2928 : (Jvm.Cond.code ({ cls := "java/util/ArrayDeque", name := "pollLast", desc := "()Ljava/lang/Object;" } : Jvm.MethodName) prog_61_method_21_code (4 : Nat) (Option.some (Jvm.ClassFile.FieldType.object "java/lang/Object"))) ∈ lw_all := lw_g (lw_at lw_m12 169 rfl) rfl
theorem q2929 : (Jvm.Cond.methodLink "java/util/ArrayDeque" (68 : Nat) ({ cls := "java/util/ArrayDeque", name := "dec", desc := "(II)I" } : Jvm.MethodName)) ∈ lw_all := lw_g (lw_at lw_m12 170 rfl) rfl
theorem q2930 : (Jvm.Cond.static ({ cls := "java/util/ArrayDeque", name := "dec", desc := "(II)I" } : Jvm.MethodName)) ∈ lw_all := lw_g (lw_at lw_m12 171 rfl) rfl
theorem q2931 : (Jvm.Cond.code ({ cls := "java/util/ArrayDeque", name := "dec", desc := "(II)I" } : Jvm.MethodName) prog_61_method_7_code (2 : Nat) (Option.some Jvm.ClassFile.FieldType.int)) ∈ lw_all := lw_g (lw_at lw_m12 172 rfl) rfl
theorem q2940 : (Jvm.Cond.instanceMethod ({ cls := "java/util/ArrayDeque", name := "clear", desc := "()V" } : Jvm.MethodName)) ∈ lw_all := lw_g (lw_at lw_m12 181 rfl) rfl
theorem q2941 : (Jvm.Cond.selects "java/util/ArrayDeque" ({ cls := "java/util/ArrayDeque", name := "clear", desc := "()V" } : Jvm.MethodName) ({ cls := "java/util/ArrayDeque", name := "clear", desc := "()V" } : Jvm.MethodName)) ∈ lw_all := lw_g (lw_at lw_m12 182 rfl) rfl
theorem q2942 : (Jvm.Cond.code ({ cls := "java/util/ArrayDeque", name := "clear", desc := "()V" } : Jvm.MethodName) prog_61_method_53_code (1 : Nat) (Option.none : Option Jvm.ClassFile.FieldType)) ∈ lw_all := lw_g (lw_at lw_m12 183 rfl) rfl
theorem q2943 : (Jvm.Cond.methodLink "java/util/ArrayDeque" (181 : Nat) ({ cls := "java/util/ArrayDeque", name := "circularClear", desc := "([Ljava/lang/Object;II)V" } : Jvm.MethodName)) ∈ lw_all := lw_g (lw_at lw_m12 184 rfl) rfl
theorem q2944 : (Jvm.Cond.static ({ cls := "java/util/ArrayDeque", name := "circularClear", desc := "([Ljava/lang/Object;II)V" } : Jvm.MethodName)) ∈ lw_all := lw_g (lw_at lw_m12 185 rfl) rfl
theorem q2945 : (Jvm.Cond.code ({ cls := "java/util/ArrayDeque", name := "circularClear", desc := "([Ljava/lang/Object;II)V" } : Jvm.MethodName) prog_61_method_54_code (4 : Nat) (Option.none : Option Jvm.ClassFile.FieldType)) ∈ lw_all := lw_g (lw_at lw_m12 186 rfl) rfl
theorem q3539 : (Jvm.Cond.selects "java/util/ArrayDeque" ({ cls := "java/util/AbstractCollection", name := "size", desc := "()I" } : Jvm.MethodName) ({ cls := "java/util/ArrayDeque", name := "size", desc := "()I" } : Jvm.MethodName)) ∈ lw_all := lw_g (lw_at lw_m15 60 rfl) rfl
theorem q3574 : (Jvm.Cond.castable "java/util/ArrayDeque" "java/lang/Object") ∈ lw_tbl := lw_at lw_m15 95 rfl
theorem in_J25 : ∀ w ∈ wsJ250, w ∈ lw_all := lw_in wsJ250 [714, 716, 718] (by decide +kernel) (by decide +kernel)
/-! java/lang/IllegalStateException -/
set_option maxRecDepth 100000
def RJ26 : String := "java/lang/IllegalStateException"
def TJ26 : u_T := fun k => match k with
  | 0 => ("java/lang/Throwable", "cause", "Ljava/lang/Throwable;", false)
  | 1 => ("java/lang/Throwable", "stackTrace", "[Ljava/lang/StackTraceElement;", false)
  | 2 => ("java/lang/Throwable", "suppressedExceptions", "Ljava/util/List;", false)
  | 3 => ("java/lang/Throwable", "detailMessage", "Ljava/lang/String;", false)
  | 4 => ("java/lang/Throwable", "backtrace", "Ljava/lang/Object;", false)
  | _ => ("java/lang/Throwable", "depth", "I", false)
def tyJ26 : Nat → FieldType := fun k => match k with
  | 0 => .object "java/lang/Throwable"
  | 1 => .array (.object "java/lang/StackTraceElement")
  | 2 => .object "java/util/List"
  | 3 => .object "java/lang/String"
  | 4 => .object "java/lang/Object"
  | _ => .int
abbrev wsJ260 : List Cond := u_ws RJ26 TJ26 6
theorem nmJ26 : ∀ a, a < 6 → ∀ b, b < 6 → a ≠ b → (TJ26 a).2.1 ≠ (TJ26 b).2.1 := by decide +kernel
theorem tyJ26_ok : ∀ k, k < 6 → parseFieldDescriptor (TJ26 k).2.2.1 = some (tyJ26 k) := by decide +kernel
abbrev cJ26_init : ByteArray := prog_37_method_1_code
def yJ26_init : MethodName := ⟨RJ26, "<init>", "()V"⟩
theorem dJ26_init_0 : decode cJ26_init 0 = .ok (.aload_n 0, 1) := by decide +kernel
theorem dJ26_init_1 : decode cJ26_init 1 = .ok (.invokespecial 1, 3) := by decide +kernel
theorem dJ26_init_4 : decode cJ26_init 4 = .ok (.return_, 1) := by decide +kernel
abbrev cJ26_init_2 : ByteArray := prog_37_method_2_code
def yJ26_init_2 : MethodName := ⟨RJ26, "<init>", "(Ljava/lang/String;)V"⟩
def dkwJ26_init_2_0 : List UInt8 := [42, 43, 183, 0, 7, 177]
abbrev dktJ26_init_2_0 : List UInt8 := dkwJ26_init_2_0 ++ []
theorem dksJ26_init_2_0 : cJ26_init_2.data.toList.drop 0 = dktJ26_init_2_0 := by decide +kernel
theorem dJ26_init_2_0 : decode cJ26_init_2 0 = .ok (.aload_n 0, 1) := dk_42 (dk_at dksJ26_init_2_0 0 rfl rfl)
theorem dJ26_init_2_1 : decode cJ26_init_2 1 = .ok (.aload_n 1, 1) := dk_43 (dk_at dksJ26_init_2_0 1 rfl rfl)
theorem dJ26_init_2_2 : decode cJ26_init_2 2 = .ok (.invokespecial 7, 3) := dk_183 0 7 (dk_at dksJ26_init_2_0 2 rfl rfl)
theorem dJ26_init_2_5 : decode cJ26_init_2 5 = .ok (.return_, 1) := dk_177 (dk_at dksJ26_init_2_0 5 rfl rfl)
theorem q152 : (Jvm.Cond.initialized "java/lang/IllegalStateException") ∈ lw_all := lw_g (lw_at lw_m1 33 rfl) rfl
theorem q311 : (Jvm.Cond.selects "java/lang/IllegalStateException" ({ cls := "java/lang/Throwable", name := "fillInStackTrace", desc := "()Ljava/lang/Throwable;" } : Jvm.MethodName) ({ cls := "java/lang/Throwable", name := "fillInStackTrace", desc := "()Ljava/lang/Throwable;" } : Jvm.MethodName)) ∈ lw_all := lw_g (lw_at lw_m1 192 rfl) rfl
theorem q1067 : (Jvm.Cond.selects "java/lang/IllegalStateException" ({ cls := "java/lang/Throwable", name := "toString", desc := "()Ljava/lang/String;" } : Jvm.MethodName) ({ cls := "java/lang/Throwable", name := "toString", desc := "()Ljava/lang/String;" } : Jvm.MethodName)) ∈ lw_all := lw_g (lw_at lw_m4 228 rfl) rfl
theorem q1100 : (Jvm.Cond.selects "java/lang/IllegalStateException" ({ cls := "java/lang/Object", name := "getClass", desc := "()Ljava/lang/Class;" } : Jvm.MethodName) ({ cls := "java/lang/Object", name := "getClass", desc := "()Ljava/lang/Class;" } : Jvm.MethodName)) ∈ lw_all := lw_g (lw_at lw_m5 21 rfl) rfl
theorem q1128 : (Jvm.Cond.selects "java/lang/IllegalStateException" ({ cls := "java/lang/Throwable", name := "getLocalizedMessage", desc := "()Ljava/lang/String;" } : Jvm.MethodName) ({ cls := "java/lang/Throwable", name := "getLocalizedMessage", desc := "()Ljava/lang/String;" } : Jvm.MethodName)) ∈ lw_all := lw_g (lw_at lw_m5 49 rfl) rfl
theorem q1143 : (Jvm.Cond.selects "java/lang/IllegalStateException" ({ cls := "java/lang/Throwable", name := "getMessage", desc := "()Ljava/lang/String;" } : Jvm.MethodName) ({ cls := "java/lang/Throwable", name := "getMessage", desc := "()Ljava/lang/String;" } : Jvm.MethodName)) ∈ lw_all := lw_g (lw_at lw_m5 64 rfl) rfl
theorem q1650 : (Jvm.Cond.instantiable "java/lang/IllegalStateException" (6 : Nat)) ∈ lw_all := lw_g (lw_at lw_m7 91 rfl) rfl
theorem q1651 : (Jvm.Cond.castable "java/lang/IllegalStateException" "java/lang/IllegalStateException") ∈ lw_tbl := lw_at lw_m7 92 rfl
theorem q1652 : (Jvm.Cond.selects "java/lang/IllegalStateException" ({ cls := "java/lang/Throwable", name := "fillInStackTrace", desc := "(I)Ljava/lang/Throwable;" } : Jvm.MethodName) ({ cls := "java/lang/Throwable", name := "fillInStackTrace", desc := "(I)Ljava/lang/Throwable;" } : Jvm.MethodName)) ∈ lw_all := lw_g (lw_at lw_m7 93 rfl) rfl
theorem q1653 : (Jvm.Cond.lays "java/lang/IllegalStateException" "java/lang/Throwable" "cause" "Ljava/lang/Throwable;") ∈ lw_all := lw_g (lw_at lw_m7 94 rfl) rfl
theorem q1654 : (Jvm.Cond.lays "java/lang/IllegalStateException" "java/lang/Throwable" "stackTrace" "[Ljava/lang/StackTraceElement;") ∈ lw_all := lw_g (lw_at lw_m7 95 rfl) rfl
theorem q1655 : (Jvm.Cond.lays "java/lang/IllegalStateException" "java/lang/Throwable" "suppressedExceptions" "Ljava/util/List;") ∈ lw_all := lw_g (lw_at lw_m7 96 rfl) rfl
theorem q1656 : (Jvm.Cond.lays "java/lang/IllegalStateException" "java/lang/Throwable" "detailMessage" "Ljava/lang/String;") ∈ lw_all := lw_g (lw_at lw_m7 97 rfl) rfl
theorem q1657 : (Jvm.Cond.lays "java/lang/IllegalStateException" "java/lang/Throwable" "backtrace" "Ljava/lang/Object;") ∈ lw_all := lw_g (lw_at lw_m7 98 rfl) rfl
theorem q1659 : (Jvm.Cond.instanceMethod ({ cls := "java/lang/IllegalStateException", name := "<init>", desc := "()V" } : Jvm.MethodName)) ∈ lw_all := lw_g (lw_at lw_m7 100 rfl) rfl
theorem q1660 : (Jvm.Cond.code ({ cls := "java/lang/IllegalStateException", name := "<init>", desc := "()V" } : Jvm.MethodName) prog_37_method_1_code (1 : Nat) (Option.none : Option Jvm.ClassFile.FieldType)) ∈ lw_all := lw_g (lw_at lw_m7 101 rfl) rfl
theorem q1661 : (Jvm.Cond.methodLink "java/lang/IllegalStateException" (1 : Nat) ({ cls := "java/lang/RuntimeException", name := "<init>", desc := "()V" } : Jvm.MethodName)) ∈ lw_all := lw_g (lw_at lw_m7 102 rfl) rfl
theorem q1662 : (Jvm.Cond.lays "java/lang/IllegalStateException" "java/lang/Throwable" "depth" "I") ∈ lw_all := lw_g (lw_at lw_m7 103 rfl) rfl
theorem q1663 : (Jvm.Cond.superclass "java/lang/IllegalStateException" "java/lang/RuntimeException") ∈ lw_all := lw_g (lw_at lw_m7 104 rfl) rfl
theorem q1752 : (Jvm.Cond.instanceMethod ({ cls := "java/lang/IllegalStateException", name := "<init>", desc := "(Ljava/lang/String;)V" } : Jvm.MethodName)) ∈ lw_all := lw_g (lw_at lw_m7 193 rfl) rfl
theorem q1753 : (Jvm.Cond.code ({ cls := "java/lang/IllegalStateException", name := "<init>", desc := "(Ljava/lang/String;)V" } : Jvm.MethodName) prog_37_method_2_code (2 : Nat) (Option.none : Option Jvm.ClassFile.FieldType)) ∈ lw_all := lw_g (lw_at lw_m7 194 rfl) rfl
theorem q1754 : (Jvm.Cond.methodLink "java/lang/IllegalStateException" (7 : Nat) ({ cls := "java/lang/RuntimeException", name := "<init>", desc := "(Ljava/lang/String;)V" } : Jvm.MethodName)) ∈ lw_all := lw_g (lw_at lw_m7 195 rfl) rfl
theorem q3576 : (Jvm.Cond.castable "java/lang/IllegalStateException" "java/lang/Object") ∈ lw_tbl := lw_at lw_m15 97 rfl
theorem in_J26 : ∀ w ∈ wsJ260, w ∈ lw_all := lw_in wsJ260 [1653, 1654, 1655, 1656, 1657, 1662] (by decide +kernel) (by decide +kernel)
/-! java/lang/UnsupportedOperationException -/
set_option maxRecDepth 100000
def RJ27 : String := "java/lang/UnsupportedOperationException"
def TJ27 : u_T := fun k => match k with
  | 0 => ("java/lang/Throwable", "cause", "Ljava/lang/Throwable;", false)
  | 1 => ("java/lang/Throwable", "stackTrace", "[Ljava/lang/StackTraceElement;", false)
  | 2 => ("java/lang/Throwable", "suppressedExceptions", "Ljava/util/List;", false)
  | 3 => ("java/lang/Throwable", "detailMessage", "Ljava/lang/String;", false)
  | 4 => ("java/lang/Throwable", "backtrace", "Ljava/lang/Object;", false)
  | _ => ("java/lang/Throwable", "depth", "I", false)
def tyJ27 : Nat → FieldType := fun k => match k with
  | 0 => .object "java/lang/Throwable"
  | 1 => .array (.object "java/lang/StackTraceElement")
  | 2 => .object "java/util/List"
  | 3 => .object "java/lang/String"
  | 4 => .object "java/lang/Object"
  | _ => .int
abbrev wsJ270 : List Cond := u_ws RJ27 TJ27 6
theorem nmJ27 : ∀ a, a < 6 → ∀ b, b < 6 → a ≠ b → (TJ27 a).2.1 ≠ (TJ27 b).2.1 := by decide +kernel
theorem tyJ27_ok : ∀ k, k < 6 → parseFieldDescriptor (TJ27 k).2.2.1 = some (tyJ27 k) := by decide +kernel
abbrev cJ27_init : ByteArray := prog_53_method_1_code
def yJ27_init : MethodName := ⟨RJ27, "<init>", "()V"⟩
theorem dJ27_init_0 : decode cJ27_init 0 = .ok (.aload_n 0, 1) := by decide +kernel
theorem dJ27_init_1 : decode cJ27_init 1 = .ok (.invokespecial 1, 3) := by decide +kernel
theorem dJ27_init_4 : decode cJ27_init 4 = .ok (.return_, 1) := by decide +kernel
theorem q154 : (Jvm.Cond.initialized "java/lang/UnsupportedOperationException") ∈ lw_all := lw_g (lw_at lw_m1 35 rfl) rfl
theorem q314 : (Jvm.Cond.selects "java/lang/UnsupportedOperationException" ({ cls := "java/lang/Throwable", name := "fillInStackTrace", desc := "()Ljava/lang/Throwable;" } : Jvm.MethodName) ({ cls := "java/lang/Throwable", name := "fillInStackTrace", desc := "()Ljava/lang/Throwable;" } : Jvm.MethodName)) ∈ lw_all := lw_g (lw_at lw_m1 195 rfl) rfl
theorem q1070 : (Jvm.Cond.selects "java/lang/UnsupportedOperationException" ({ cls := "java/lang/Throwable", name := "toString", desc := "()Ljava/lang/String;" } : Jvm.MethodName) ({ cls := "java/lang/Throwable", name := "toString", desc := "()Ljava/lang/String;" } : Jvm.MethodName)) ∈ lw_all := lw_g (lw_at lw_m4 231 rfl) rfl
theorem q1106 : (Jvm.Cond.selects "java/lang/UnsupportedOperationException" ({ cls := "java/lang/Object", name := "getClass", desc := "()Ljava/lang/Class;" } : Jvm.MethodName) ({ cls := "java/lang/Object", name := "getClass", desc := "()Ljava/lang/Class;" } : Jvm.MethodName)) ∈ lw_all := lw_g (lw_at lw_m5 27 rfl) rfl
theorem q1131 : (Jvm.Cond.selects "java/lang/UnsupportedOperationException" ({ cls := "java/lang/Throwable", name := "getLocalizedMessage", desc := "()Ljava/lang/String;" } : Jvm.MethodName) ({ cls := "java/lang/Throwable", name := "getLocalizedMessage", desc := "()Ljava/lang/String;" } : Jvm.MethodName)) ∈ lw_all := lw_g (lw_at lw_m5 52 rfl) rfl
theorem q1146 : (Jvm.Cond.selects "java/lang/UnsupportedOperationException" ({ cls := "java/lang/Throwable", name := "getMessage", desc := "()Ljava/lang/String;" } : Jvm.MethodName) ({ cls := "java/lang/Throwable", name := "getMessage", desc := "()Ljava/lang/String;" } : Jvm.MethodName)) ∈ lw_all := lw_g (lw_at lw_m5 67 rfl) rfl
theorem q1703 : (Jvm.Cond.instantiable "java/lang/UnsupportedOperationException" (6 : Nat)) ∈ lw_all := lw_g (lw_at lw_m7 144 rfl) rfl
theorem q1704 : (Jvm.Cond.castable "java/lang/UnsupportedOperationException" "java/lang/UnsupportedOperationException") ∈ lw_tbl := lw_at lw_m7 145 rfl
theorem q1705 : (Jvm.Cond.selects "java/lang/UnsupportedOperationException" ({ cls := "java/lang/Throwable", name := "fillInStackTrace", desc := "(I)Ljava/lang/Throwable;" } : Jvm.MethodName) ({ cls := "java/lang/Throwable", name := "fillInStackTrace", desc := "(I)Ljava/lang/Throwable;" } : Jvm.MethodName)) ∈ lw_all := lw_g (lw_at lw_m7 146 rfl) rfl
theorem q1706 : (Jvm.Cond.lays "java/lang/UnsupportedOperationException" "java/lang/Throwable" "cause" "Ljava/lang/Throwable;") ∈ lw_all := lw_g (lw_at lw_m7 147 rfl) rfl
theorem q1707 : (Jvm.Cond.lays "java/lang/UnsupportedOperationException" "java/lang/Throwable" "stackTrace" "[Ljava/lang/StackTraceElement;") ∈ lw_all := lw_g (lw_at lw_m7 148 rfl) rfl
theorem q1708 : (Jvm.Cond.lays "java/lang/UnsupportedOperationException" "java/lang/Throwable" "suppressedExceptions" "Ljava/util/List;") ∈ lw_all := lw_g (lw_at lw_m7 149 rfl) rfl
theorem q1709 : (Jvm.Cond.lays "java/lang/UnsupportedOperationException" "java/lang/Throwable" "detailMessage" "Ljava/lang/String;") ∈ lw_all := lw_g (lw_at lw_m7 150 rfl) rfl
theorem q1710 : (Jvm.Cond.lays "java/lang/UnsupportedOperationException" "java/lang/Throwable" "backtrace" "Ljava/lang/Object;") ∈ lw_all := lw_g (lw_at lw_m7 151 rfl) rfl
theorem q1712 : (Jvm.Cond.instanceMethod ({ cls := "java/lang/UnsupportedOperationException", name := "<init>", desc := "()V" } : Jvm.MethodName)) ∈ lw_all := lw_g (lw_at lw_m7 153 rfl) rfl
theorem q1713 : (Jvm.Cond.code ({ cls := "java/lang/UnsupportedOperationException", name := "<init>", desc := "()V" } : Jvm.MethodName) prog_53_method_1_code (1 : Nat) (Option.none : Option Jvm.ClassFile.FieldType)) ∈ lw_all := lw_g (lw_at lw_m7 154 rfl) rfl
theorem q1714 : (Jvm.Cond.methodLink "java/lang/UnsupportedOperationException" (1 : Nat) ({ cls := "java/lang/RuntimeException", name := "<init>", desc := "()V" } : Jvm.MethodName)) ∈ lw_all := lw_g (lw_at lw_m7 155 rfl) rfl
theorem q1715 : (Jvm.Cond.lays "java/lang/UnsupportedOperationException" "java/lang/Throwable" "depth" "I") ∈ lw_all := lw_g (lw_at lw_m7 156 rfl) rfl
theorem q1716 : (Jvm.Cond.superclass "java/lang/UnsupportedOperationException" "java/lang/RuntimeException") ∈ lw_all := lw_g (lw_at lw_m7 157 rfl) rfl
theorem q3578 : (Jvm.Cond.castable "java/lang/UnsupportedOperationException" "java/lang/Object") ∈ lw_tbl := lw_at lw_m15 99 rfl
theorem in_J27 : ∀ w ∈ wsJ270, w ∈ lw_all := lw_in wsJ270 [1706, 1707, 1708, 1709, 1710, 1715] (by decide +kernel) (by decide +kernel)
/-! java/lang/IndexOutOfBoundsException -/
set_option maxRecDepth 100000
def RJ28 : String := "java/lang/IndexOutOfBoundsException"
def TJ28 : u_T := fun k => match k with
  | 0 => ("java/lang/Throwable", "cause", "Ljava/lang/Throwable;", false)
  | 1 => ("java/lang/Throwable", "stackTrace", "[Ljava/lang/StackTraceElement;", false)
  | 2 => ("java/lang/Throwable", "suppressedExceptions", "Ljava/util/List;", false)
  | 3 => ("java/lang/Throwable", "detailMessage", "Ljava/lang/String;", false)
  | 4 => ("java/lang/Throwable", "backtrace", "Ljava/lang/Object;", false)
  | _ => ("java/lang/Throwable", "depth", "I", false)
def tyJ28 : Nat → FieldType := fun k => match k with
  | 0 => .object "java/lang/Throwable"
  | 1 => .array (.object "java/lang/StackTraceElement")
  | 2 => .object "java/util/List"
  | 3 => .object "java/lang/String"
  | 4 => .object "java/lang/Object"
  | _ => .int
abbrev wsJ280 : List Cond := u_ws RJ28 TJ28 6
theorem nmJ28 : ∀ a, a < 6 → ∀ b, b < 6 → a ≠ b → (TJ28 a).2.1 ≠ (TJ28 b).2.1 := by decide +kernel
theorem tyJ28_ok : ∀ k, k < 6 → parseFieldDescriptor (TJ28 k).2.2.1 = some (tyJ28 k) := by decide +kernel
abbrev cJ28_init : ByteArray := prog_38_method_2_code
def yJ28_init : MethodName := ⟨RJ28, "<init>", "(Ljava/lang/String;)V"⟩
def dkwJ28_init_0 : List UInt8 := [42, 43, 183, 0, 7, 177]
abbrev dktJ28_init_0 : List UInt8 := dkwJ28_init_0 ++ []
theorem dksJ28_init_0 : cJ28_init.data.toList.drop 0 = dktJ28_init_0 := by decide +kernel
theorem dJ28_init_0 : decode cJ28_init 0 = .ok (.aload_n 0, 1) := dk_42 (dk_at dksJ28_init_0 0 rfl rfl)
theorem dJ28_init_1 : decode cJ28_init 1 = .ok (.aload_n 1, 1) := dk_43 (dk_at dksJ28_init_0 1 rfl rfl)
theorem dJ28_init_2 : decode cJ28_init 2 = .ok (.invokespecial 7, 3) := dk_183 0 7 (dk_at dksJ28_init_0 2 rfl rfl)
theorem dJ28_init_5 : decode cJ28_init 5 = .ok (.return_, 1) := dk_177 (dk_at dksJ28_init_0 5 rfl rfl)
abbrev cJ28_init_2 : ByteArray := prog_38_method_1_code
def yJ28_init_2 : MethodName := ⟨RJ28, "<init>", "()V"⟩
theorem dJ28_init_2_0 : decode cJ28_init_2 0 = .ok (.aload_n 0, 1) := by decide +kernel
theorem dJ28_init_2_1 : decode cJ28_init_2 1 = .ok (.invokespecial 1, 3) := by decide +kernel
theorem dJ28_init_2_4 : decode cJ28_init_2 4 = .ok (.return_, 1) := by decide +kernel
theorem q156 : (Jvm.Cond.initialized "java/lang/IndexOutOfBoundsException") ∈ lw_all := lw_g (lw_at lw_m1 37 rfl) rfl
theorem q312 : (Jvm.Cond.selects "java/lang/IndexOutOfBoundsException" ({ cls := "java/lang/Throwable", name := "fillInStackTrace", desc := "()Ljava/lang/Throwable;" } : Jvm.MethodName) ({ cls := "java/lang/Throwable", name := "fillInStackTrace", desc := "()Ljava/lang/Throwable;" } : Jvm.MethodName)) ∈ lw_all := lw_g (lw_at lw_m1 193 rfl) rfl
theorem q821 : (Jvm.Cond.instantiable "java/lang/IndexOutOfBoundsException" (6 : Nat)) ∈ lw_all := lw_g (lw_at lw_m3 222 rfl) rfl
theorem q822 : (Jvm.Cond.castable "java/lang/IndexOutOfBoundsException" "java/lang/IndexOutOfBoundsException") ∈ lw_tbl := lw_at lw_m3 223 rfl
theorem q823 : (Jvm.Cond.selects "java/lang/IndexOutOfBoundsException" ({ cls := "java/lang/Throwable", name := "fillInStackTrace", desc := "(I)Ljava/lang/Throwable;" } : Jvm.MethodName) ({ cls := "java/lang/Throwable", name := "fillInStackTrace", desc := "(I)Ljava/lang/Throwable;" } : Jvm.MethodName)) ∈ lw_all := lw_g (lw_at lw_m3 224 rfl) rfl
theorem q824 : (Jvm.Cond.lays "java/lang/IndexOutOfBoundsException" "java/lang/Throwable" "cause" "Ljava/lang/Throwable;") ∈ lw_all := lw_g (lw_at lw_m3 225 rfl) rfl
theorem q825 : (Jvm.Cond.lays "java/lang/IndexOutOfBoundsException" "java/lang/Throwable" "stackTrace" "[Ljava/lang/StackTraceElement;") ∈ lw_all := lw_g (lw_at lw_m3 226 rfl) rfl
theorem q826 : (Jvm.Cond.lays "java/lang/IndexOutOfBoundsException" "java/lang/Throwable" "suppressedExceptions" "Ljava/util/List;") ∈ lw_all := lw_g (lw_at lw_m3 227 rfl) rfl
theorem q827 : (Jvm.Cond.lays "java/lang/IndexOutOfBoundsException" "java/lang/Throwable" "detailMessage" "Ljava/lang/String;") ∈ lw_all := lw_g (lw_at lw_m3 228 rfl) rfl
theorem q828 : (Jvm.Cond.lays "java/lang/IndexOutOfBoundsException" "java/lang/Throwable" "backtrace" "Ljava/lang/Object;") ∈ lw_all := lw_g (lw_at lw_m3 229 rfl) rfl
theorem q843 : (Jvm.Cond.instanceMethod ({ cls := "java/lang/IndexOutOfBoundsException", name := "<init>", desc := "(Ljava/lang/String;)V" } : Jvm.MethodName)) ∈ lw_all := lw_g (lw_at lw_m4 4 rfl) rfl
theorem q844 : (Jvm.Cond.code ({ cls := "java/lang/IndexOutOfBoundsException", name := "<init>", desc := "(Ljava/lang/String;)V" } : Jvm.MethodName) prog_38_method_2_code (2 : Nat) (Option.none : Option Jvm.ClassFile.FieldType)) ∈ lw_all := lw_g (lw_at lw_m4 5 rfl) rfl
theorem q845 : (Jvm.Cond.methodLink "java/lang/IndexOutOfBoundsException" (7 : Nat) ({ cls := "java/lang/RuntimeException", name := "<init>", desc := "(Ljava/lang/String;)V" } : Jvm.MethodName)) ∈ lw_all := lw_g (lw_at lw_m4 6 rfl) rfl
theorem q846 : (Jvm.Cond.lays "java/lang/IndexOutOfBoundsException" "java/lang/Throwable" "depth" "I") ∈ lw_all := lw_g (lw_at lw_m4 7 rfl) rfl
theorem q847 : (Jvm.Cond.superclass "java/lang/IndexOutOfBoundsException" "java/lang/RuntimeException") ∈ lw_all := lw_g (lw_at lw_m4 8 rfl) rfl
theorem q1068 : (Jvm.Cond.selects "java/lang/IndexOutOfBoundsException" ({ cls := "java/lang/Throwable", name := "toString", desc := "()Ljava/lang/String;" } : Jvm.MethodName) ({ cls := "java/lang/Throwable", name := "toString", desc := "()Ljava/lang/String;" } : Jvm.MethodName)) ∈ lw_all := lw_g (lw_at lw_m4 229 rfl) rfl
theorem q1101 : (Jvm.Cond.selects "java/lang/IndexOutOfBoundsException" ({ cls := "java/lang/Object", name := "getClass", desc := "()Ljava/lang/Class;" } : Jvm.MethodName) ({ cls := "java/lang/Object", name := "getClass", desc := "()Ljava/lang/Class;" } : Jvm.MethodName)) ∈ lw_all := lw_g (lw_at lw_m5 22 rfl) rfl
theorem q1129 : (Jvm.Cond.selects "java/lang/IndexOutOfBoundsException" ({ cls := "java/lang/Throwable", name := "getLocalizedMessage", desc := "()Ljava/lang/String;" } : Jvm.MethodName) ({ cls := "java/lang/Throwable", name := "getLocalizedMessage", desc := "()Ljava/lang/String;" } : Jvm.MethodName)) ∈ lw_all := lw_g (lw_at lw_m5 50 rfl) rfl
theorem q1144 : (Jvm.Cond.selects "java/lang/IndexOutOfBoundsException" ({ cls := "java/lang/Throwable", name := "getMessage", desc := "()Ljava/lang/String;" } : Jvm.MethodName) ({ cls := "java/lang/Throwable", name := "getMessage", desc := "()Ljava/lang/String;" } : Jvm.MethodName)) ∈ lw_all := lw_g (lw_at lw_m5 65 rfl) rfl
theorem q1808 : (Jvm.Cond.declares ({ cls := "java/lang/IndexOutOfBoundsException", name := "<init>", desc := "()V" } : Jvm.MethodName)) ∈ lw_tbl := lw_at lw_m8 9 rfl
theorem q1809 : (Jvm.Cond.declares ({ cls := "java/lang/IndexOutOfBoundsException", name := "<init>", desc := "(Ljava/lang/String;)V" } : Jvm.MethodName)) ∈ lw_tbl := lw_at lw_m8 10 rfl
theorem q1820 : (Jvm.Cond.instanceMethod ({ cls := "java/lang/IndexOutOfBoundsException", name := "<init>", desc := "()V" } : Jvm.MethodName)) ∈ lw_all := lw_g (lw_at lw_m8 21 rfl) rfl
theorem q1821 : (Jvm.Cond.code ({ cls := "java/lang/IndexOutOfBoundsException", name := "<init>", desc := "()V" } : Jvm.MethodName) prog_38_method_1_code (1 : Nat) (Option.none : Option Jvm.ClassFile.FieldType)) ∈ lw_all := lw_g (lw_at lw_m8 22 rfl) rfl
theorem q1822 : (Jvm.Cond.methodLink "java/lang/IndexOutOfBoundsException" (1 : Nat) ({ cls := "java/lang/RuntimeException", name := "<init>", desc := "()V" } : Jvm.MethodName)) ∈ lw_all := lw_g (lw_at lw_m8 23 rfl) rfl
theorem q3579 : (Jvm.Cond.castable "java/lang/IndexOutOfBoundsException" "java/lang/Object") ∈ lw_tbl := lw_at lw_m15 100 rfl
theorem in_J28 : ∀ w ∈ wsJ280, w ∈ lw_all := lw_in wsJ280 [824, 825, 826, 827, 828, 846] (by decide +kernel) (by decide +kernel)
/-! java/util/AbstractList$Itr -/
set_option maxRecDepth 100000
def RJ29 : String := "java/util/AbstractList$Itr"
abbrev cJ29_hasNext : ByteArray := prog_58_method_2_code
def yJ29_hasNext : MethodName := ⟨RJ29, "hasNext", "()Z"⟩
def dkwJ29_hasNext_0 : List UInt8 := [42, 180, 0, 13, 42, 180, 0, 1, 182, 0, 28, 159, 0, 7, 4, 167, 0, 4, 3, 172]
abbrev dktJ29_hasNext_0 : List UInt8 := dkwJ29_hasNext_0 ++ []
theorem dksJ29_hasNext_0 : cJ29_hasNext.data.toList.drop 0 = dktJ29_hasNext_0 := by decide +kernel
theorem dJ29_hasNext_0 : decode cJ29_hasNext 0 = .ok (.aload_n 0, 1) := dk_42 (dk_at dksJ29_hasNext_0 0 rfl rfl)
theorem dJ29_hasNext_1 : decode cJ29_hasNext 1 = .ok (.getfield 13, 3) := dk_180 0 13 (dk_at dksJ29_hasNext_0 1 rfl rfl)
theorem dJ29_hasNext_4 : decode cJ29_hasNext 4 = .ok (.aload_n 0, 1) := dk_42 (dk_at dksJ29_hasNext_0 4 rfl rfl)
theorem dJ29_hasNext_5 : decode cJ29_hasNext 5 = .ok (.getfield 1, 3) := dk_180 0 1 (dk_at dksJ29_hasNext_0 5 rfl rfl)
theorem dJ29_hasNext_8 : decode cJ29_hasNext 8 = .ok (.invokevirtual 28, 3) := dk_182 0 28 (dk_at dksJ29_hasNext_0 8 rfl rfl)
theorem dJ29_hasNext_11 : decode cJ29_hasNext 11 = .ok (.if_icmp .eq 7, 3) := dk_159 0 7 (dk_at dksJ29_hasNext_0 11 rfl rfl)
theorem dJ29_hasNext_14 : decode cJ29_hasNext 14 = .ok (.iconst 1, 1) := dk_4 (dk_at dksJ29_hasNext_0 14 rfl rfl)
theorem dJ29_hasNext_15 : decode cJ29_hasNext 15 = .ok (.goto 4, 3) := dk_167 0 4 (dk_at dksJ29_hasNext_0 15 rfl rfl)
theorem dJ29_hasNext_18 : decode cJ29_hasNext 18 = .ok (.iconst 0, 1) := dk_3 (dk_at dksJ29_hasNext_0 18 rfl rfl)
theorem dJ29_hasNext_19 : decode cJ29_hasNext 19 = .ok (.ireturn, 1) := dk_172 (dk_at dksJ29_hasNext_0 19 rfl rfl)
abbrev cJ29_next : ByteArray := prog_58_method_3_code
def yJ29_next : MethodName := ⟨RJ29, "next", "()Ljava/lang/Object;"⟩
def dkwJ29_next_1 : List UInt8 := [27, 4, 96, 181, 0, 13, 44, 176, 76, 42, 182, 0, 32, 187, 0, 41, 89, 43, 183, 0, 43, 191]
abbrev dktJ29_next_1 : List UInt8 := dkwJ29_next_1 ++ []
def dkwJ29_next_0 : List UInt8 := [42, 182, 0, 32, 42, 180, 0, 13, 60, 42, 180, 0, 1, 27, 182, 0, 35, 77, 42, 27, 181, 0, 17, 42]
abbrev dktJ29_next_0 : List UInt8 := dkwJ29_next_0 ++ dktJ29_next_1
theorem dksJ29_next_0 : cJ29_next.data.toList.drop 0 = dktJ29_next_0 := by decide +kernel
theorem dksJ29_next_1 : cJ29_next.data.toList.drop 24 = dktJ29_next_1 := dk_seg dksJ29_next_0 24 rfl rfl
theorem dJ29_next_0 : decode cJ29_next 0 = .ok (.aload_n 0, 1) := dk_42 (dk_at dksJ29_next_0 0 rfl rfl)
theorem dJ29_next_1 : decode cJ29_next 1 = .ok (.invokevirtual 32, 3) := dk_182 0 32 (dk_at dksJ29_next_0 1 rfl rfl)
theorem dJ29_next_4 : decode cJ29_next 4 = .ok (.aload_n 0, 1) := dk_42 (dk_at dksJ29_next_0 4 rfl rfl)
theorem dJ29_next_5 : decode cJ29_next 5 = .ok (.getfield 13, 3) := dk_180 0 13 (dk_at dksJ29_next_0 5 rfl rfl)
theorem dJ29_next_8 : decode cJ29_next 8 = .ok (.istore_n 1, 1) := dk_60 (dk_at dksJ29_next_0 8 rfl rfl)
theorem dJ29_next_9 : decode cJ29_next 9 = .ok (.aload_n 0, 1) := dk_42 (dk_at dksJ29_next_0 9 rfl rfl)
theorem dJ29_next_10 : decode cJ29_next 10 = .ok (.getfield 1, 3) := dk_180 0 1 (dk_at dksJ29_next_0 10 rfl rfl)
theorem dJ29_next_13 : decode cJ29_next 13 = .ok (.iload_n 1, 1) := dk_27 (dk_at dksJ29_next_0 13 rfl rfl)
theorem dJ29_next_14 : decode cJ29_next 14 = .ok (.invokevirtual 35, 3) := dk_182 0 35 (dk_at dksJ29_next_0 14 rfl rfl)
theorem dJ29_next_17 : decode cJ29_next 17 = .ok (.astore_n 2, 1) := dk_77 (dk_at dksJ29_next_0 17 rfl rfl)
theorem dJ29_next_18 : decode cJ29_next 18 = .ok (.aload_n 0, 1) := dk_42 (dk_at dksJ29_next_0 18 rfl rfl)
theorem dJ29_next_19 : decode cJ29_next 19 = .ok (.iload_n 1, 1) := dk_27 (dk_at dksJ29_next_0 19 rfl rfl)
theorem dJ29_next_20 : decode cJ29_next 20 = .ok (.putfield 17, 3) := dk_181 0 17 (dk_at dksJ29_next_0 20 rfl rfl)
theorem dJ29_next_23 : decode cJ29_next 23 = .ok (.aload_n 0, 1) := dk_42 (dk_at dksJ29_next_0 23 rfl rfl)
theorem dJ29_next_24 : decode cJ29_next 24 = .ok (.iload_n 1, 1) := dk_27 (dk_at dksJ29_next_1 0 rfl rfl)
theorem dJ29_next_25 : decode cJ29_next 25 = .ok (.iconst 1, 1) := dk_4 (dk_at dksJ29_next_1 1 rfl rfl)
theorem dJ29_next_26 : decode cJ29_next 26 = .ok (.iadd, 1) := dk_96 (dk_at dksJ29_next_1 2 rfl rfl)
theorem dJ29_next_27 : decode cJ29_next 27 = .ok (.putfield 13, 3) := dk_181 0 13 (dk_at dksJ29_next_1 3 rfl rfl)
theorem dJ29_next_30 : decode cJ29_next 30 = .ok (.aload_n 2, 1) := dk_44 (dk_at dksJ29_next_1 6 rfl rfl)
theorem dJ29_next_31 : decode cJ29_next 31 = .ok (.areturn, 1) := dk_176 (dk_at dksJ29_next_1 7 rfl rfl)
theorem dJ29_next_32 : decode cJ29_next 32 = .ok (.astore_n 1, 1) := dk_76 (dk_at dksJ29_next_1 8 rfl rfl)
theorem dJ29_next_33 : decode cJ29_next 33 = .ok (.aload_n 0, 1) := dk_42 (dk_at dksJ29_next_1 9 rfl rfl)
theorem dJ29_next_34 : decode cJ29_next 34 = .ok (.invokevirtual 32, 3) := dk_182 0 32 (dk_at dksJ29_next_1 10 rfl rfl)
theorem dJ29_next_37 : decode cJ29_next 37 = .ok (.new 41, 3) := dk_187 0 41 (dk_at dksJ29_next_1 13 rfl rfl)
theorem dJ29_next_40 : decode cJ29_next 40 = .ok (.dup, 1) := dk_89 (dk_at dksJ29_next_1 16 rfl rfl)
theorem dJ29_next_41 : decode cJ29_next 41 = .ok (.aload_n 1, 1) := dk_43 (dk_at dksJ29_next_1 17 rfl rfl)
theorem dJ29_next_42 : decode cJ29_next 42 = .ok (.invokespecial 43, 3) := dk_183 0 43 (dk_at dksJ29_next_1 18 rfl rfl)
theorem dJ29_next_45 : decode cJ29_next 45 = .ok (.athrow, 1) := dk_191 (dk_at dksJ29_next_1 21 rfl rfl)
abbrev cJ29_checkForComodification : ByteArray := prog_58_method_5_code
def yJ29_checkForComodification : MethodName := ⟨RJ29, "checkForComodification", "()V"⟩
def dkwJ29_checkForComodification_0 : List UInt8 := [42, 180, 0, 1, 180, 0, 20, 42, 180, 0, 25, 159, 0, 11, 187, 0, 52, 89, 183, 0, 54, 191, 177]
abbrev dktJ29_checkForComodification_0 : List UInt8 := dkwJ29_checkForComodification_0 ++ []
theorem dksJ29_checkForComodification_0 : cJ29_checkForComodification.data.toList.drop 0 = dktJ29_checkForComodification_0 := by decide +kernel
theorem dJ29_checkForComodification_0 : decode cJ29_checkForComodification 0 = .ok (.aload_n 0, 1) := dk_42 (dk_at dksJ29_checkForComodification_0 0 rfl rfl)
theorem dJ29_checkForComodification_1 : decode cJ29_checkForComodification 1 = .ok (.getfield 1, 3) := dk_180 0 1 (dk_at dksJ29_checkForComodification_0 1 rfl rfl)
theorem dJ29_checkForComodification_4 : decode cJ29_checkForComodification 4 = .ok (.getfield 20, 3) := dk_180 0 20 (dk_at dksJ29_checkForComodification_0 4 rfl rfl)
theorem dJ29_checkForComodification_7 : decode cJ29_checkForComodification 7 = .ok (.aload_n 0, 1) := dk_42 (dk_at dksJ29_checkForComodification_0 7 rfl rfl)
theorem dJ29_checkForComodification_8 : decode cJ29_checkForComodification 8 = .ok (.getfield 25, 3) := dk_180 0 25 (dk_at dksJ29_checkForComodification_0 8 rfl rfl)
theorem dJ29_checkForComodification_11 : decode cJ29_checkForComodification 11 = .ok (.if_icmp .eq 11, 3) := dk_159 0 11 (dk_at dksJ29_checkForComodification_0 11 rfl rfl)
theorem dJ29_checkForComodification_14 : decode cJ29_checkForComodification 14 = .ok (.new 52, 3) := dk_187 0 52 (dk_at dksJ29_checkForComodification_0 14 rfl rfl)
theorem dJ29_checkForComodification_17 : decode cJ29_checkForComodification 17 = .ok (.dup, 1) := dk_89 (dk_at dksJ29_checkForComodification_0 17 rfl rfl)
theorem dJ29_checkForComodification_18 : decode cJ29_checkForComodification 18 = .ok (.invokespecial 54, 3) := dk_183 0 54 (dk_at dksJ29_checkForComodification_0 18 rfl rfl)
theorem dJ29_checkForComodification_21 : decode cJ29_checkForComodification 21 = .ok (.athrow, 1) := dk_191 (dk_at dksJ29_checkForComodification_0 21 rfl rfl)
theorem dJ29_checkForComodification_22 : decode cJ29_checkForComodification 22 = .ok (.return_, 1) := dk_177 (dk_at dksJ29_checkForComodification_0 22 rfl rfl)
abbrev cJ29_remove : ByteArray := prog_58_method_4_code
def yJ29_remove : MethodName := ⟨RJ29, "remove", "()V"⟩
def dkwJ29_remove_3 : List UInt8 := [187, 0, 52, 89, 183, 0, 54, 191, 177]
abbrev dktJ29_remove_3 : List UInt8 := dkwJ29_remove_3 ++ []
def dkwJ29_remove_2 : List UInt8 := [100, 181, 0, 13, 42, 2, 181, 0, 17, 42, 42, 180, 0, 1, 180, 0, 20, 181, 0, 25, 167, 0, 12, 76]
abbrev dktJ29_remove_2 : List UInt8 := dkwJ29_remove_2 ++ dktJ29_remove_3
def dkwJ29_remove_1 : List UInt8 := [180, 0, 17, 182, 0, 49, 87, 42, 180, 0, 17, 42, 180, 0, 13, 162, 0, 13, 42, 89, 180, 0, 13, 4]
abbrev dktJ29_remove_1 : List UInt8 := dkwJ29_remove_1 ++ dktJ29_remove_2
def dkwJ29_remove_0 : List UInt8 := [42, 180, 0, 17, 156, 0, 11, 187, 0, 46, 89, 183, 0, 48, 191, 42, 182, 0, 32, 42, 180, 0, 1, 42]
abbrev dktJ29_remove_0 : List UInt8 := dkwJ29_remove_0 ++ dktJ29_remove_1
theorem dksJ29_remove_0 : cJ29_remove.data.toList.drop 0 = dktJ29_remove_0 := by decide +kernel
theorem dksJ29_remove_1 : cJ29_remove.data.toList.drop 24 = dktJ29_remove_1 := dk_seg dksJ29_remove_0 24 rfl rfl
theorem dksJ29_remove_2 : cJ29_remove.data.toList.drop 48 = dktJ29_remove_2 := dk_seg dksJ29_remove_1 24 rfl rfl
theorem dksJ29_remove_3 : cJ29_remove.data.toList.drop 72 = dktJ29_remove_3 := dk_seg dksJ29_remove_2 24 rfl rfl
theorem dJ29_remove_0 : decode cJ29_remove 0 = .ok (.aload_n 0, 1) := dk_42 (dk_at dksJ29_remove_0 0 rfl rfl)
theorem dJ29_remove_1 : decode cJ29_remove 1 = .ok (.getfield 17, 3) := dk_180 0 17 (dk_at dksJ29_remove_0 1 rfl rfl)
theorem dJ29_remove_4 : decode cJ29_remove 4 = .ok (.ifCond .ge 11, 3) := dk_156 0 11 (dk_at dksJ29_remove_0 4 rfl rfl)
theorem dJ29_remove_7 : decode cJ29_remove 7 = .ok (.new 46, 3) := dk_187 0 46 (dk_at dksJ29_remove_0 7 rfl rfl)
theorem dJ29_remove_10 : decode cJ29_remove 10 = .ok (.dup, 1) := dk_89 (dk_at dksJ29_remove_0 10 rfl rfl)
theorem dJ29_remove_11 : decode cJ29_remove 11 = .ok (.invokespecial 48, 3) := dk_183 0 48 (dk_at dksJ29_remove_0 11 rfl rfl)
theorem dJ29_remove_14 : decode cJ29_remove 14 = .ok (.athrow, 1) := dk_191 (dk_at dksJ29_remove_0 14 rfl rfl)
theorem dJ29_remove_15 : decode cJ29_remove 15 = .ok (.aload_n 0, 1) := dk_42 (dk_at dksJ29_remove_0 15 rfl rfl)
theorem dJ29_remove_16 : decode cJ29_remove 16 = .ok (.invokevirtual 32, 3) := dk_182 0 32 (dk_at dksJ29_remove_0 16 rfl rfl)
theorem dJ29_remove_19 : decode cJ29_remove 19 = .ok (.aload_n 0, 1) := dk_42 (dk_at dksJ29_remove_0 19 rfl rfl)
theorem dJ29_remove_20 : decode cJ29_remove 20 = .ok (.getfield 1, 3) := dk_180 0 1 (dk_at dksJ29_remove_0 20 rfl rfl)
theorem dJ29_remove_23 : decode cJ29_remove 23 = .ok (.aload_n 0, 1) := dk_42 (dk_at dksJ29_remove_0 23 rfl rfl)
theorem dJ29_remove_24 : decode cJ29_remove 24 = .ok (.getfield 17, 3) := dk_180 0 17 (dk_at dksJ29_remove_1 0 rfl rfl)
theorem dJ29_remove_27 : decode cJ29_remove 27 = .ok (.invokevirtual 49, 3) := dk_182 0 49 (dk_at dksJ29_remove_1 3 rfl rfl)
theorem dJ29_remove_30 : decode cJ29_remove 30 = .ok (.pop, 1) := dk_87 (dk_at dksJ29_remove_1 6 rfl rfl)
theorem dJ29_remove_31 : decode cJ29_remove 31 = .ok (.aload_n 0, 1) := dk_42 (dk_at dksJ29_remove_1 7 rfl rfl)
theorem dJ29_remove_32 : decode cJ29_remove 32 = .ok (.getfield 17, 3) := dk_180 0 17 (dk_at dksJ29_remove_1 8 rfl rfl)
theorem dJ29_remove_35 : decode cJ29_remove 35 = .ok (.aload_n 0, 1) := dk_42 (dk_at dksJ29_remove_1 11 rfl rfl)
theorem dJ29_remove_36 : decode cJ29_remove 36 = .ok (.getfield 13, 3) := dk_180 0 13 (dk_at dksJ29_remove_1 12 rfl rfl)
theorem dJ29_remove_39 : decode cJ29_remove 39 = .ok (.if_icmp .ge 13, 3) := dk_162 0 13 (dk_at dksJ29_remove_1 15 rfl rfl)
theorem dJ29_remove_42 : decode cJ29_remove 42 = .ok (.aload_n 0, 1) := dk_42 (dk_at dksJ29_remove_1 18 rfl rfl)
theorem dJ29_remove_43 : decode cJ29_remove 43 = .ok (.dup, 1) := dk_89 (dk_at dksJ29_remove_1 19 rfl rfl)
theorem dJ29_remove_44 : decode cJ29_remove 44 = .ok (.getfield 13, 3) := dk_180 0 13 (dk_at dksJ29_remove_1 20 rfl rfl)
theorem dJ29_remove_47 : decode cJ29_remove 47 = .ok (.iconst 1, 1) := dk_4 (dk_at dksJ29_remove_1 23 rfl rfl)
theorem dJ29_remove_48 : decode cJ29_remove 48 = .ok (.isub, 1) := dk_100 (dk_at dksJ29_remove_2 0 rfl rfl)
theorem dJ29_remove_49 : decode cJ29_remove 49 = .ok (.putfield 13, 3) := dk_181 0 13 (dk_at dksJ29_remove_2 1 rfl rfl)
theorem dJ29_remove_52 : decode cJ29_remove 52 = .ok (.aload_n 0, 1) := dk_42 (dk_at dksJ29_remove_2 4 rfl rfl)
theorem dJ29_remove_53 : decode cJ29_remove 53 = .ok (.iconst (-1), 1) := dk_2 (dk_at dksJ29_remove_2 5 rfl rfl)
theorem dJ29_remove_54 : decode cJ29_remove 54 = .ok (.putfield 17, 3) := dk_181 0 17 (dk_at dksJ29_remove_2 6 rfl rfl)
theorem dJ29_remove_57 : decode cJ29_remove 57 = .ok (.aload_n 0, 1) := dk_42 (dk_at dksJ29_remove_2 9 rfl rfl)
theorem dJ29_remove_58 : decode cJ29_remove 58 = .ok (.aload_n 0, 1) := dk_42 (dk_at dksJ29_remove_2 10 rfl rfl)
theorem dJ29_remove_59 : decode cJ29_remove 59 = .ok (.getfield 1, 3) := dk_180 0 1 (dk_at dksJ29_remove_2 11 rfl rfl)
theorem dJ29_remove_62 : decode cJ29_remove 62 = .ok (.getfield 20, 3) := dk_180 0 20 (dk_at dksJ29_remove_2 14 rfl rfl)
theorem dJ29_remove_65 : decode cJ29_remove 65 = .ok (.putfield 25, 3) := dk_181 0 25 (dk_at dksJ29_remove_2 17 rfl rfl)
theorem dJ29_remove_68 : decode cJ29_remove 68 = .ok (.goto 12, 3) := dk_167 0 12 (dk_at dksJ29_remove_2 20 rfl rfl)
theorem dJ29_remove_71 : decode cJ29_remove 71 = .ok (.astore_n 1, 1) := dk_76 (dk_at dksJ29_remove_2 23 rfl rfl)
theorem dJ29_remove_72 : decode cJ29_remove 72 = .ok (.new 52, 3) := dk_187 0 52 (dk_at dksJ29_remove_3 0 rfl rfl)
theorem dJ29_remove_75 : decode cJ29_remove 75 = .ok (.dup, 1) := dk_89 (dk_at dksJ29_remove_3 3 rfl rfl)
theorem dJ29_remove_76 : decode cJ29_remove 76 = .ok (.invokespecial 54, 3) := dk_183 0 54 (dk_at dksJ29_remove_3 4 rfl rfl)
theorem dJ29_remove_79 : decode cJ29_remove 79 = .ok (.athrow, 1) := dk_191 (dk_at dksJ29_remove_3 7 rfl rfl)
theorem dJ29_remove_80 : decode cJ29_remove 80 = .ok (.return_, 1) := dk_177 (dk_at dksJ29_remove_3 8 rfl rfl)
theorem q163 : (Jvm.Cond.initialized "java/util/AbstractList$Itr") ∈ lw_all := lw_g (lw_at lw_m1 44 rfl) rfl
theorem q604 : (Jvm.Cond.fieldLink "java/util/AbstractList$Itr" (20 : Nat) "java/util/AbstractList" "modCount" "I") ∈ lw_all := lw_g (lw_at lw_m3 5 rfl) rfl
theorem q988 : (Jvm.Cond.instanceMethod ({ cls := "java/util/AbstractList$Itr", name := "hasNext", desc := "()Z" } : Jvm.MethodName)) ∈ lw_all := lw_g (lw_at lw_m4 149 rfl) rfl
theorem q989 : (Jvm.Cond.publicMethod ({ cls := "java/util/AbstractList$Itr", name := "hasNext", desc := "()Z" } : Jvm.MethodName)) ∈ lw_tbl := lw_at lw_m4 150 rfl
theorem q990 : (Jvm.Cond.code ({ cls := "java/util/AbstractList$Itr", name := "hasNext", desc := "()Z" } : Jvm.MethodName) prog_58_method_2_code (1 : Nat) (Option.some Jvm.ClassFile.FieldType.boolean)) ∈ lw_all := lw_g (lw_at lw_m4 151 rfl) rfl
theorem q991 : (Jvm.Cond.methodLink "java/util/AbstractList$Itr" (28 : Nat) ({ cls := "java/util/AbstractList", name := "size", desc := "()I" } : Jvm.MethodName)) ∈ lw_all := lw_g (lw_at lw_m4 152 rfl) rfl
theorem q1025 : (Jvm.Cond.instanceMethod ({ cls := "java/util/AbstractList$Itr", name := "next", desc := "()Ljava/lang/Object;" } : Jvm.MethodName)) ∈ lw_all := lw_g (lw_at lw_m4 186 rfl) rfl
theorem q1026 : (Jvm.Cond.publicMethod ({ cls := "java/util/AbstractList$Itr", name := "next", desc := "()Ljava/lang/Object;" } : Jvm.MethodName)) ∈ lw_tbl := lw_at lw_m4 187 rfl
theorem q1027 : (Jvm.Cond.codeWith ({ cls := "java/util/AbstractList$Itr", name := "next", desc := "()Ljava/lang/Object;" } : Jvm.MethodName) prog_58_method_3_code (3 : Nat) (Option.some (Jvm.ClassFile.FieldType.object "java/lang/Object")) [((4 : Nat), (31 : Nat), (32 : Nat), (39 : Nat))]) ∈ lw_all := lw_g (lw_at lw_m4 188 rfl) rfl
theorem q1028 : (Jvm.Cond.methodLink "java/util/AbstractList$Itr" (32 : Nat) ({ cls := "java/util/AbstractList$Itr", name := "checkForComodification", desc := "()V" } : Jvm.MethodName)) ∈ lw_all := lw_g (lw_at lw_m4 189 rfl) rfl
theorem q1029 : (Jvm.Cond.instanceMethod ({ cls := "java/util/AbstractList$Itr", name := "checkForComodification", desc := "()V" } : Jvm.MethodName)) ∈ lw_all := lw_g (lw_at lw_m4 190 rfl) rfl
theorem q1030 : (Jvm.Cond.sameMethod "java/util/AbstractList$Itr" "java/util/AbstractList$Itr" "checkForComodification" "()V") ∈ lw_all := lw_g (lw_at lw_m4 191 rfl) rfl
theorem q1032 : (Jvm.Cond.code ({ cls := "java/util/AbstractList$Itr", name := "checkForComodification", desc := "()V" } : Jvm.MethodName) prog_58_method_5_code (1 : Nat) (Option.none : Option Jvm.ClassFile.FieldType)) ∈ lw_all := lw_g (lw_at lw_m4 193 rfl) rfl
theorem q1033 : (Jvm.Cond.methodLink "java/util/AbstractList$Itr" (35 : Nat) ({ cls := "java/util/AbstractList", name := "get", desc := "(I)Ljava/lang/Object;" } : Jvm.MethodName)) ∈ lw_all := lw_g (lw_at lw_m4 194 rfl) rfl
theorem q1038 : (Jvm.Cond.classLink "java/util/AbstractList$Itr" (41 : Nat) "java/util/NoSuchElementException") ∈ lw_all := lw_g (lw_at lw_m4 199 rfl) rfl
theorem q1047 : (Jvm.Cond.methodLink "java/util/AbstractList$Itr" (43 : Nat) ({ cls := "java/util/NoSuchElementException", name := "<init>", desc := "(Ljava/lang/Throwable;)V" } : Jvm.MethodName)) ∈ lw_all := lw_g (lw_at lw_m4 208 rfl) rfl
theorem q2038 : (Jvm.Cond.instanceMethod ({ cls := "java/util/AbstractList$Itr", name := "remove", desc := "()V" } : Jvm.MethodName)) ∈ lw_all := lw_g (lw_at lw_m8 239 rfl) rfl
theorem q2039 : (Jvm.Cond.publicMethod ({ cls := "java/util/AbstractList$Itr", name := "remove", desc := "()V" } : Jvm.MethodName)) ∈ lw_tbl := lw_at lw_m9 0 rfl
theorem q2040 : (Jvm.Cond.codeWith ({ cls := "java/util/AbstractList$Itr", name := "remove", desc := "()V" } : Jvm.MethodName) prog_58_method_4_code (2 : Nat) (Option.none : Option Jvm.ClassFile.FieldType) [((19 : Nat), (68 : Nat), (71 : Nat), (39 : Nat))]) ∈ lw_all := lw_g (lw_at lw_m9 1 rfl) rfl
theorem q2041 : (Jvm.Cond.classLink "java/util/AbstractList$Itr" (46 : Nat) "java/lang/IllegalStateException") ∈ lw_all := lw_g (lw_at lw_m9 2 rfl) rfl
theorem q2042 : (Jvm.Cond.methodLink "java/util/AbstractList$Itr" (48 : Nat) ({ cls := "java/lang/IllegalStateException", name := "<init>", desc := "()V" } : Jvm.MethodName)) ∈ lw_all := lw_g (lw_at lw_m9 3 rfl) rfl
theorem q2043 : (Jvm.Cond.methodLink "java/util/AbstractList$Itr" (49 : Nat) ({ cls := "java/util/AbstractList", name := "remove", desc := "(I)Ljava/lang/Object;" } : Jvm.MethodName)) ∈ lw_all := lw_g (lw_at lw_m9 4 rfl) rfl
theorem q2062 : (Jvm.Cond.classLink "java/util/AbstractList$Itr" (52 : Nat) "java/util/ConcurrentModificationException") ∈ lw_all := lw_g (lw_at lw_m9 23 rfl) rfl
theorem q2071 : (Jvm.Cond.methodLink "java/util/AbstractList$Itr" (54 : Nat) ({ cls := "java/util/ConcurrentModificationException", name := "<init>", desc := "()V" } : Jvm.MethodName)) ∈ lw_all := lw_g (lw_at lw_m9 32 rfl) rfl
theorem q3621 : (Jvm.Cond.fieldLink "java/util/AbstractList$Itr" (1 : Nat) "java/util/AbstractList$Itr" "this$0" "Ljava/util/AbstractList;") ∈ lw_all := lw_g (lw_at lw_m15 142 rfl) rfl
theorem q3622 : (Jvm.Cond.fieldLink "java/util/AbstractList$Itr" (13 : Nat) "java/util/AbstractList$Itr" "cursor" "I") ∈ lw_all := lw_g (lw_at lw_m15 143 rfl) rfl
theorem q3623 : (Jvm.Cond.fieldLink "java/util/AbstractList$Itr" (17 : Nat) "java/util/AbstractList$Itr" "lastRet" "I") ∈ lw_all := lw_g (lw_at lw_m15 144 rfl) rfl
theorem q3624 : (Jvm.Cond.fieldLink "java/util/AbstractList$Itr" (25 : Nat) "java/util/AbstractList$Itr" "expectedModCount" "I") ∈ lw_all := lw_g (lw_at lw_m15 145 rfl) rfl
/-! java/util/ArrayList$Itr -/
set_option maxRecDepth 100000
def RJ30 : String := "java/util/ArrayList$Itr"
abbrev cJ30_init : ByteArray := prog_63_method_1_code
def yJ30_init : MethodName := ⟨RJ30, "<init>", "(Ljava/util/ArrayList;)V"⟩
def dkwJ30_init_1 : List UInt8 := [181, 0, 22, 177]
abbrev dktJ30_init_1 : List UInt8 := dkwJ30_init_1 ++ []
def dkwJ30_init_0 : List UInt8 := [42, 43, 181, 0, 1, 42, 183, 0, 7, 42, 2, 181, 0, 13, 42, 42, 180, 0, 1, 180, 0, 17]
abbrev dktJ30_init_0 : List UInt8 := dkwJ30_init_0 ++ dktJ30_init_1
theorem dksJ30_init_0 : cJ30_init.data.toList.drop 0 = dktJ30_init_0 := by decide +kernel
theorem dksJ30_init_1 : cJ30_init.data.toList.drop 22 = dktJ30_init_1 := dk_seg dksJ30_init_0 22 rfl rfl
theorem dJ30_init_0 : decode cJ30_init 0 = .ok (.aload_n 0, 1) := dk_42 (dk_at dksJ30_init_0 0 rfl rfl)
theorem dJ30_init_1 : decode cJ30_init 1 = .ok (.aload_n 1, 1) := dk_43 (dk_at dksJ30_init_0 1 rfl rfl)
theorem dJ30_init_2 : decode cJ30_init 2 = .ok (.putfield 1, 3) := dk_181 0 1 (dk_at dksJ30_init_0 2 rfl rfl)
theorem dJ30_init_5 : decode cJ30_init 5 = .ok (.aload_n 0, 1) := dk_42 (dk_at dksJ30_init_0 5 rfl rfl)
theorem dJ30_init_6 : decode cJ30_init 6 = .ok (.invokespecial 7, 3) := dk_183 0 7 (dk_at dksJ30_init_0 6 rfl rfl)
theorem dJ30_init_9 : decode cJ30_init 9 = .ok (.aload_n 0, 1) := dk_42 (dk_at dksJ30_init_0 9 rfl rfl)
theorem dJ30_init_10 : decode cJ30_init 10 = .ok (.iconst (-1), 1) := dk_2 (dk_at dksJ30_init_0 10 rfl rfl)
theorem dJ30_init_11 : decode cJ30_init 11 = .ok (.putfield 13, 3) := dk_181 0 13 (dk_at dksJ30_init_0 11 rfl rfl)
theorem dJ30_init_14 : decode cJ30_init 14 = .ok (.aload_n 0, 1) := dk_42 (dk_at dksJ30_init_0 14 rfl rfl)
theorem dJ30_init_15 : decode cJ30_init 15 = .ok (.aload_n 0, 1) := dk_42 (dk_at dksJ30_init_0 15 rfl rfl)
theorem dJ30_init_16 : decode cJ30_init 16 = .ok (.getfield 1, 3) := dk_180 0 1 (dk_at dksJ30_init_0 16 rfl rfl)
theorem dJ30_init_19 : decode cJ30_init 19 = .ok (.getfield 17, 3) := dk_180 0 17 (dk_at dksJ30_init_0 19 rfl rfl)
theorem dJ30_init_22 : decode cJ30_init 22 = .ok (.putfield 22, 3) := dk_181 0 22 (dk_at dksJ30_init_1 0 rfl rfl)
theorem dJ30_init_25 : decode cJ30_init 25 = .ok (.return_, 1) := dk_177 (dk_at dksJ30_init_1 3 rfl rfl)
abbrev cJ30_hasNext : ByteArray := prog_63_method_2_code
def yJ30_hasNext : MethodName := ⟨RJ30, "hasNext", "()Z"⟩
def dkwJ30_hasNext_0 : List UInt8 := [42, 180, 0, 25, 42, 180, 0, 1, 180, 0, 28, 159, 0, 7, 4, 167, 0, 4, 3, 172]
abbrev dktJ30_hasNext_0 : List UInt8 := dkwJ30_hasNext_0 ++ []
theorem dksJ30_hasNext_0 : cJ30_hasNext.data.toList.drop 0 = dktJ30_hasNext_0 := by decide +kernel
theorem dJ30_hasNext_0 : decode cJ30_hasNext 0 = .ok (.aload_n 0, 1) := dk_42 (dk_at dksJ30_hasNext_0 0 rfl rfl)
theorem dJ30_hasNext_1 : decode cJ30_hasNext 1 = .ok (.getfield 25, 3) := dk_180 0 25 (dk_at dksJ30_hasNext_0 1 rfl rfl)
theorem dJ30_hasNext_4 : decode cJ30_hasNext 4 = .ok (.aload_n 0, 1) := dk_42 (dk_at dksJ30_hasNext_0 4 rfl rfl)
theorem dJ30_hasNext_5 : decode cJ30_hasNext 5 = .ok (.getfield 1, 3) := dk_180 0 1 (dk_at dksJ30_hasNext_0 5 rfl rfl)
theorem dJ30_hasNext_8 : decode cJ30_hasNext 8 = .ok (.getfield 28, 3) := dk_180 0 28 (dk_at dksJ30_hasNext_0 8 rfl rfl)
theorem dJ30_hasNext_11 : decode cJ30_hasNext 11 = .ok (.if_icmp .eq 7, 3) := dk_159 0 7 (dk_at dksJ30_hasNext_0 11 rfl rfl)
theorem dJ30_hasNext_14 : decode cJ30_hasNext 14 = .ok (.iconst 1, 1) := dk_4 (dk_at dksJ30_hasNext_0 14 rfl rfl)
theorem dJ30_hasNext_15 : decode cJ30_hasNext 15 = .ok (.goto 4, 3) := dk_167 0 4 (dk_at dksJ30_hasNext_0 15 rfl rfl)
theorem dJ30_hasNext_18 : decode cJ30_hasNext 18 = .ok (.iconst 0, 1) := dk_3 (dk_at dksJ30_hasNext_0 18 rfl rfl)
theorem dJ30_hasNext_19 : decode cJ30_hasNext 19 = .ok (.ireturn, 1) := dk_172 (dk_at dksJ30_hasNext_0 19 rfl rfl)
abbrev cJ30_next : ByteArray := prog_63_method_3_code
def yJ30_next : MethodName := ⟨RJ30, "next", "()Ljava/lang/Object;"⟩
def dkwJ30_next_2 : List UInt8 := [183, 0, 43, 191, 42, 27, 4, 96, 181, 0, 25, 44, 42, 27, 90, 181, 0, 13, 50, 176]
abbrev dktJ30_next_2 : List UInt8 := dkwJ30_next_2 ++ []
def dkwJ30_next_1 : List UInt8 := [183, 0, 36, 191, 42, 180, 0, 1, 180, 0, 37, 77, 27, 44, 190, 161, 0, 11, 187, 0, 41, 89]
abbrev dktJ30_next_1 : List UInt8 := dkwJ30_next_1 ++ dktJ30_next_2
def dkwJ30_next_0 : List UInt8 := [42, 182, 0, 31, 42, 180, 0, 25, 60, 27, 42, 180, 0, 1, 180, 0, 28, 161, 0, 11, 187, 0, 34, 89]
abbrev dktJ30_next_0 : List UInt8 := dkwJ30_next_0 ++ dktJ30_next_1
theorem dksJ30_next_0 : cJ30_next.data.toList.drop 0 = dktJ30_next_0 := by decide +kernel
theorem dksJ30_next_1 : cJ30_next.data.toList.drop 24 = dktJ30_next_1 := dk_seg dksJ30_next_0 24 rfl rfl
theorem dksJ30_next_2 : cJ30_next.data.toList.drop 46 = dktJ30_next_2 := dk_seg dksJ30_next_1 22 rfl rfl
theorem dJ30_next_0 : decode cJ30_next 0 = .ok (.aload_n 0, 1) := dk_42 (dk_at dksJ30_next_0 0 rfl rfl)
theorem dJ30_next_1 : decode cJ30_next 1 = .ok (.invokevirtual 31, 3) := dk_182 0 31 (dk_at dksJ30_next_0 1 rfl rfl)
theorem dJ30_next_4 : decode cJ30_next 4 = .ok (.aload_n 0, 1) := dk_42 (dk_at dksJ30_next_0 4 rfl rfl)
theorem dJ30_next_5 : decode cJ30_next 5 = .ok (.getfield 25, 3) := dk_180 0 25 (dk_at dksJ30_next_0 5 rfl rfl)
theorem dJ30_next_8 : decode cJ30_next 8 = .ok (.istore_n 1, 1) := dk_60 (dk_at dksJ30_next_0 8 rfl rfl)
theorem dJ30_next_9 : decode cJ30_next 9 = .ok (.iload_n 1, 1) := dk_27 (dk_at dksJ30_next_0 9 rfl rfl)
theorem dJ30_next_10 : decode cJ30_next 10 = .ok (.aload_n 0, 1) := dk_42 (dk_at dksJ30_next_0 10 rfl rfl)
theorem dJ30_next_11 : decode cJ30_next 11 = .ok (.getfield 1, 3) := dk_180 0 1 (dk_at dksJ30_next_0 11 rfl rfl)
theorem dJ30_next_14 : decode cJ30_next 14 = .ok (.getfield 28, 3) := dk_180 0 28 (dk_at dksJ30_next_0 14 rfl rfl)
theorem dJ30_next_17 : decode cJ30_next 17 = .ok (.if_icmp .lt 11, 3) := dk_161 0 11 (dk_at dksJ30_next_0 17 rfl rfl)
theorem dJ30_next_20 : decode cJ30_next 20 = .ok (.new 34, 3) := dk_187 0 34 (dk_at dksJ30_next_0 20 rfl rfl)
theorem dJ30_next_23 : decode cJ30_next 23 = .ok (.dup, 1) := dk_89 (dk_at dksJ30_next_0 23 rfl rfl)
theorem dJ30_next_24 : decode cJ30_next 24 = .ok (.invokespecial 36, 3) := dk_183 0 36 (dk_at dksJ30_next_1 0 rfl rfl)
theorem dJ30_next_27 : decode cJ30_next 27 = .ok (.athrow, 1) := dk_191 (dk_at dksJ30_next_1 3 rfl rfl)
theorem dJ30_next_28 : decode cJ30_next 28 = .ok (.aload_n 0, 1) := dk_42 (dk_at dksJ30_next_1 4 rfl rfl)
theorem dJ30_next_29 : decode cJ30_next 29 = .ok (.getfield 1, 3) := dk_180 0 1 (dk_at dksJ30_next_1 5 rfl rfl)
theorem dJ30_next_32 : decode cJ30_next 32 = .ok (.getfield 37, 3) := dk_180 0 37 (dk_at dksJ30_next_1 8 rfl rfl)
theorem dJ30_next_35 : decode cJ30_next 35 = .ok (.astore_n 2, 1) := dk_77 (dk_at dksJ30_next_1 11 rfl rfl)
theorem dJ30_next_36 : decode cJ30_next 36 = .ok (.iload_n 1, 1) := dk_27 (dk_at dksJ30_next_1 12 rfl rfl)
theorem dJ30_next_37 : decode cJ30_next 37 = .ok (.aload_n 2, 1) := dk_44 (dk_at dksJ30_next_1 13 rfl rfl)
theorem dJ30_next_38 : decode cJ30_next 38 = .ok (.arraylength, 1) := dk_190 (dk_at dksJ30_next_1 14 rfl rfl)
theorem dJ30_next_39 : decode cJ30_next 39 = .ok (.if_icmp .lt 11, 3) := dk_161 0 11 (dk_at dksJ30_next_1 15 rfl rfl)
theorem dJ30_next_42 : decode cJ30_next 42 = .ok (.new 41, 3) := dk_187 0 41 (dk_at dksJ30_next_1 18 rfl rfl)
theorem dJ30_next_45 : decode cJ30_next 45 = .ok (.dup, 1) := dk_89 (dk_at dksJ30_next_1 21 rfl rfl)
theorem dJ30_next_46 : decode cJ30_next 46 = .ok (.invokespecial 43, 3) := dk_183 0 43 (dk_at dksJ30_next_2 0 rfl rfl)
theorem dJ30_next_49 : decode cJ30_next 49 = .ok (.athrow, 1) := dk_191 (dk_at dksJ30_next_2 3 rfl rfl)
theorem dJ30_next_50 : decode cJ30_next 50 = .ok (.aload_n 0, 1) := dk_42 (dk_at dksJ30_next_2 4 rfl rfl)
theorem dJ30_next_51 : decode cJ30_next 51 = .ok (.iload_n 1, 1) := dk_27 (dk_at dksJ30_next_2 5 rfl rfl)
theorem dJ30_next_52 : decode cJ30_next 52 = .ok (.iconst 1, 1) := dk_4 (dk_at dksJ30_next_2 6 rfl rfl)
theorem dJ30_next_53 : decode cJ30_next 53 = .ok (.iadd, 1) := dk_96 (dk_at dksJ30_next_2 7 rfl rfl)
theorem dJ30_next_54 : decode cJ30_next 54 = .ok (.putfield 25, 3) := dk_181 0 25 (dk_at dksJ30_next_2 8 rfl rfl)
theorem dJ30_next_57 : decode cJ30_next 57 = .ok (.aload_n 2, 1) := dk_44 (dk_at dksJ30_next_2 11 rfl rfl)
theorem dJ30_next_58 : decode cJ30_next 58 = .ok (.aload_n 0, 1) := dk_42 (dk_at dksJ30_next_2 12 rfl rfl)
theorem dJ30_next_59 : decode cJ30_next 59 = .ok (.iload_n 1, 1) := dk_27 (dk_at dksJ30_next_2 13 rfl rfl)
theorem dJ30_next_60 : decode cJ30_next 60 = .ok (.dup_x1, 1) := dk_90 (dk_at dksJ30_next_2 14 rfl rfl)
theorem dJ30_next_61 : decode cJ30_next 61 = .ok (.putfield 13, 3) := dk_181 0 13 (dk_at dksJ30_next_2 15 rfl rfl)
theorem dJ30_next_64 : decode cJ30_next 64 = .ok (.aaload, 1) := dk_50 (dk_at dksJ30_next_2 18 rfl rfl)
theorem dJ30_next_65 : decode cJ30_next 65 = .ok (.areturn, 1) := dk_176 (dk_at dksJ30_next_2 19 rfl rfl)
abbrev cJ30_checkForComodification : ByteArray := prog_63_method_6_code
def yJ30_checkForComodification : MethodName := ⟨RJ30, "checkForComodification", "()V"⟩
def dkwJ30_checkForComodification_0 : List UInt8 := [42, 180, 0, 1, 180, 0, 17, 42, 180, 0, 22, 159, 0, 11, 187, 0, 41, 89, 183, 0, 43, 191, 177]
abbrev dktJ30_checkForComodification_0 : List UInt8 := dkwJ30_checkForComodification_0 ++ []
theorem dksJ30_checkForComodification_0 : cJ30_checkForComodification.data.toList.drop 0 = dktJ30_checkForComodification_0 := by decide +kernel
theorem dJ30_checkForComodification_0 : decode cJ30_checkForComodification 0 = .ok (.aload_n 0, 1) := dk_42 (dk_at dksJ30_checkForComodification_0 0 rfl rfl)
theorem dJ30_checkForComodification_1 : decode cJ30_checkForComodification 1 = .ok (.getfield 1, 3) := dk_180 0 1 (dk_at dksJ30_checkForComodification_0 1 rfl rfl)
theorem dJ30_checkForComodification_4 : decode cJ30_checkForComodification 4 = .ok (.getfield 17, 3) := dk_180 0 17 (dk_at dksJ30_checkForComodification_0 4 rfl rfl)
theorem dJ30_checkForComodification_7 : decode cJ30_checkForComodification 7 = .ok (.aload_n 0, 1) := dk_42 (dk_at dksJ30_checkForComodification_0 7 rfl rfl)
theorem dJ30_checkForComodification_8 : decode cJ30_checkForComodification 8 = .ok (.getfield 22, 3) := dk_180 0 22 (dk_at dksJ30_checkForComodification_0 8 rfl rfl)
theorem dJ30_checkForComodification_11 : decode cJ30_checkForComodification 11 = .ok (.if_icmp .eq 11, 3) := dk_159 0 11 (dk_at dksJ30_checkForComodification_0 11 rfl rfl)
theorem dJ30_checkForComodification_14 : decode cJ30_checkForComodification 14 = .ok (.new 41, 3) := dk_187 0 41 (dk_at dksJ30_checkForComodification_0 14 rfl rfl)
theorem dJ30_checkForComodification_17 : decode cJ30_checkForComodification 17 = .ok (.dup, 1) := dk_89 (dk_at dksJ30_checkForComodification_0 17 rfl rfl)
theorem dJ30_checkForComodification_18 : decode cJ30_checkForComodification 18 = .ok (.invokespecial 43, 3) := dk_183 0 43 (dk_at dksJ30_checkForComodification_0 18 rfl rfl)
theorem dJ30_checkForComodification_21 : decode cJ30_checkForComodification 21 = .ok (.athrow, 1) := dk_191 (dk_at dksJ30_checkForComodification_0 21 rfl rfl)
theorem dJ30_checkForComodification_22 : decode cJ30_checkForComodification 22 = .ok (.return_, 1) := dk_177 (dk_at dksJ30_checkForComodification_0 22 rfl rfl)
abbrev cJ30_remove : ByteArray := prog_63_method_4_code
def yJ30_remove : MethodName := ⟨RJ30, "remove", "()V"⟩
def dkwJ30_remove_2 : List UInt8 := [180, 0, 1, 180, 0, 17, 181, 0, 22, 167, 0, 12, 76, 187, 0, 41, 89, 183, 0, 43, 191, 177]
abbrev dktJ30_remove_2 : List UInt8 := dkwJ30_remove_2 ++ []
def dkwJ30_remove_1 : List UInt8 := [180, 0, 13, 182, 0, 47, 87, 42, 42, 180, 0, 13, 181, 0, 25, 42, 2, 181, 0, 13, 42, 42]
abbrev dktJ30_remove_1 : List UInt8 := dkwJ30_remove_1 ++ dktJ30_remove_2
def dkwJ30_remove_0 : List UInt8 := [42, 180, 0, 13, 156, 0, 11, 187, 0, 44, 89, 183, 0, 46, 191, 42, 182, 0, 31, 42, 180, 0, 1, 42]
abbrev dktJ30_remove_0 : List UInt8 := dkwJ30_remove_0 ++ dktJ30_remove_1
theorem dksJ30_remove_0 : cJ30_remove.data.toList.drop 0 = dktJ30_remove_0 := by decide +kernel
theorem dksJ30_remove_1 : cJ30_remove.data.toList.drop 24 = dktJ30_remove_1 := dk_seg dksJ30_remove_0 24 rfl rfl
theorem dksJ30_remove_2 : cJ30_remove.data.toList.drop 46 = dktJ30_remove_2 := dk_seg dksJ30_remove_1 22 rfl rfl
theorem dJ30_remove_0 : decode cJ30_remove 0 = .ok (.aload_n 0, 1) := dk_42 (dk_at dksJ30_remove_0 0 rfl rfl)
theorem dJ30_remove_1 : decode cJ30_remove 1 = .ok (.getfield 13, 3) := dk_180 0 13 (dk_at dksJ30_remove_0 1 rfl rfl)
theorem dJ30_remove_4 : decode cJ30_remove 4 = .ok (.ifCond .ge 11, 3) := dk_156 0 11 (dk_at dksJ30_remove_0 4 rfl rfl)
theorem dJ30_remove_7 : decode cJ30_remove 7 = .ok (.new 44, 3) := dk_187 0 44 (dk_at dksJ30_remove_0 7 rfl rfl)
theorem dJ30_remove_10 : decode cJ30_remove 10 = .ok (.dup, 1) := dk_89 (dk_at dksJ30_remove_0 10 rfl rfl)
theorem dJ30_remove_11 : decode cJ30_remove 11 = .ok (.invokespecial 46, 3) := dk_183 0 46 (dk_at dksJ30_remove_0 11 rfl rfl)
theorem dJ30_remove_14 : decode cJ30_remove 14 = .ok (.athrow, 1) := dk_191 (dk_at dksJ30_remove_0 14 rfl rfl)
theorem dJ30_remove_15 : decode cJ30_remove 15 = .ok (.aload_n 0, 1) := dk_42 (dk_at dksJ30_remove_0 15 rfl rfl)
theorem dJ30_remove_16 : decode cJ30_remove 16 = .ok (.invokevirtual 31, 3) := dk_182 0 31 (dk_at dksJ30_remove_0 16 rfl rfl)
theorem dJ30_remove_19 : decode cJ30_remove 19 = .ok (.aload_n 0, 1) := dk_42 (dk_at dksJ30_remove_0 19 rfl rfl)
theorem dJ30_remove_20 : decode cJ30_remove 20 = .ok (.getfield 1, 3) := dk_180 0 1 (dk_at dksJ30_remove_0 20 rfl rfl)
theorem dJ30_remove_23 : decode cJ30_remove 23 = .ok (.aload_n 0, 1) := dk_42 (dk_at dksJ30_remove_0 23 rfl rfl)
theorem dJ30_remove_24 : decode cJ30_remove 24 = .ok (.getfield 13, 3) := dk_180 0 13 (dk_at dksJ30_remove_1 0 rfl rfl)
theorem dJ30_remove_27 : decode cJ30_remove 27 = .ok (.invokevirtual 47, 3) := dk_182 0 47 (dk_at dksJ30_remove_1 3 rfl rfl)
theorem dJ30_remove_30 : decode cJ30_remove 30 = .ok (.pop, 1) := dk_87 (dk_at dksJ30_remove_1 6 rfl rfl)
theorem dJ30_remove_31 : decode cJ30_remove 31 = .ok (.aload_n 0, 1) := dk_42 (dk_at dksJ30_remove_1 7 rfl rfl)
theorem dJ30_remove_32 : decode cJ30_remove 32 = .ok (.aload_n 0, 1) := dk_42 (dk_at dksJ30_remove_1 8 rfl rfl)
theorem dJ30_remove_33 : decode cJ30_remove 33 = .ok (.getfield 13, 3) := dk_180 0 13 (dk_at dksJ30_remove_1 9 rfl rfl)
theorem dJ30_remove_36 : decode cJ30_remove 36 = .ok (.putfield 25, 3) := dk_181 0 25 (dk_at dksJ30_remove_1 12 rfl rfl)
theorem dJ30_remove_39 : decode cJ30_remove 39 = .ok (.aload_n 0, 1) := dk_42 (dk_at dksJ30_remove_1 15 rfl rfl)
theorem dJ30_remove_40 : decode cJ30_remove 40 = .ok (.iconst (-1), 1) := dk_2 (dk_at dksJ30_remove_1 16 rfl rfl)
theorem dJ30_remove_41 : decode cJ30_remove 41 = .ok (.putfield 13, 3) := dk_181 0 13 (dk_at dksJ30_remove_1 17 rfl rfl)
theorem dJ30_remove_44 : decode cJ30_remove 44 = .ok (.aload_n 0, 1) := dk_42 (dk_at dksJ30_remove_1 20 rfl rfl)
theorem dJ30_remove_45 : decode cJ30_remove 45 = .ok (.aload_n 0, 1) := dk_42 (dk_at dksJ30_remove_1 21 rfl rfl)
theorem dJ30_remove_46 : decode cJ30_remove 46 = .ok (.getfield 1, 3) := dk_180 0 1 (dk_at dksJ30_remove_2 0 rfl rfl)
theorem dJ30_remove_49 : decode cJ30_remove 49 = .ok (.getfield 17, 3) := dk_180 0 17 (dk_at dksJ30_remove_2 3 rfl rfl)
theorem dJ30_remove_52 : decode cJ30_remove 52 = .ok (.putfield 22, 3) := dk_181 0 22 (dk_at dksJ30_remove_2 6 rfl rfl)
theorem dJ30_remove_55 : decode cJ30_remove 55 = .ok (.goto 12, 3) := dk_167 0 12 (dk_at dksJ30_remove_2 9 rfl rfl)
theorem dJ30_remove_58 : decode cJ30_remove 58 = .ok (.astore_n 1, 1) := dk_76 (dk_at dksJ30_remove_2 12 rfl rfl)
theorem dJ30_remove_59 : decode cJ30_remove 59 = .ok (.new 41, 3) := dk_187 0 41 (dk_at dksJ30_remove_2 13 rfl rfl)
theorem dJ30_remove_62 : decode cJ30_remove 62 = .ok (.dup, 1) := dk_89 (dk_at dksJ30_remove_2 16 rfl rfl)
theorem dJ30_remove_63 : decode cJ30_remove 63 = .ok (.invokespecial 43, 3) := dk_183 0 43 (dk_at dksJ30_remove_2 17 rfl rfl)
theorem dJ30_remove_66 : decode cJ30_remove 66 = .ok (.athrow, 1) := dk_191 (dk_at dksJ30_remove_2 20 rfl rfl)
theorem dJ30_remove_67 : decode cJ30_remove 67 = .ok (.return_, 1) := dk_177 (dk_at dksJ30_remove_2 21 rfl rfl)
theorem q165 : (Jvm.Cond.initialized "java/util/ArrayList$Itr") ∈ lw_all := lw_g (lw_at lw_m1 46 rfl) rfl
theorem q596 : (Jvm.Cond.fieldLink "java/util/ArrayList$Itr" (37 : Nat) "java/util/ArrayList" "elementData" "[Ljava/lang/Object;") ∈ lw_all := lw_g (lw_at lw_m2 237 rfl) rfl
theorem q597 : (Jvm.Cond.fieldLinkNest "java/util/ArrayList$Itr" (28 : Nat) "java/util/ArrayList" "size" "I" "java/util/ArrayList") ∈ lw_tbl := lw_at lw_m2 238 rfl
theorem q602 : (Jvm.Cond.fieldLink "java/util/ArrayList$Itr" (17 : Nat) "java/util/ArrayList" "modCount" "I") ∈ lw_all := lw_g (lw_at lw_m3 3 rfl) rfl
theorem q925 : (Jvm.Cond.instanceMethod ({ cls := "java/util/ArrayList$Itr", name := "<init>", desc := "(Ljava/util/ArrayList;)V" } : Jvm.MethodName)) ∈ lw_all := lw_g (lw_at lw_m4 86 rfl) rfl
theorem q926 : (Jvm.Cond.code ({ cls := "java/util/ArrayList$Itr", name := "<init>", desc := "(Ljava/util/ArrayList;)V" } : Jvm.MethodName) prog_63_method_1_code (2 : Nat) (Option.none : Option Jvm.ClassFile.FieldType)) ∈ lw_all := lw_g (lw_at lw_m4 87 rfl) rfl
theorem q927 : (Jvm.Cond.methodLink "java/util/ArrayList$Itr" (7 : Nat) ({ cls := "java/lang/Object", name := "<init>", desc := "()V" } : Jvm.MethodName)) ∈ lw_all := lw_g (lw_at lw_m4 88 rfl) rfl
theorem q931 : (Jvm.Cond.fieldLink "java/util/ArrayList$Itr" (25 : Nat) "java/util/ArrayList$Itr" "cursor" "I") ∈ lw_all := lw_g (lw_at lw_m4 92 rfl) rfl
theorem q932 : (Jvm.Cond.fieldLink "java/util/ArrayList$Itr" (13 : Nat) "java/util/ArrayList$Itr" "lastRet" "I") ∈ lw_all := lw_g (lw_at lw_m4 93 rfl) rfl
theorem q933 : (Jvm.Cond.fieldLink "java/util/ArrayList$Itr" (22 : Nat) "java/util/ArrayList$Itr" "expectedModCount" "I") ∈ lw_all := lw_g (lw_at lw_m4 94 rfl) rfl
theorem q934 : (Jvm.Cond.fieldLink "java/util/ArrayList$Itr" (1 : Nat) "java/util/ArrayList$Itr" "this$0" "Ljava/util/ArrayList;") ∈ lw_all := lw_g (lw_at lw_m4 95 rfl) rfl
theorem q938 : (Jvm.Cond.soleField "java/util/ArrayList$Itr" "cursor") ∈ lw_all := lw_g (lw_at lw_m4 99 rfl) rfl
theorem q940 : (Jvm.Cond.soleField "java/util/ArrayList$Itr" "lastRet") ∈ lw_all := lw_g (lw_at lw_m4 101 rfl) rfl
theorem q942 : (Jvm.Cond.soleField "java/util/ArrayList$Itr" "expectedModCount") ∈ lw_all := lw_g (lw_at lw_m4 103 rfl) rfl
theorem q944 : (Jvm.Cond.soleField "java/util/ArrayList$Itr" "this$0") ∈ lw_all := lw_g (lw_at lw_m4 105 rfl) rfl
theorem q1000 : (Jvm.Cond.instanceMethod ({ cls := "java/util/ArrayList$Itr", name := "hasNext", desc := "()Z" } : Jvm.MethodName)) ∈ lw_all := lw_g (lw_at lw_m4 161 rfl) rfl
theorem q1001 : (Jvm.Cond.publicMethod ({ cls := "java/util/ArrayList$Itr", name := "hasNext", desc := "()Z" } : Jvm.MethodName)) ∈ lw_tbl := lw_at lw_m4 162 rfl
theorem q1002 : (Jvm.Cond.code ({ cls := "java/util/ArrayList$Itr", name := "hasNext", desc := "()Z" } : Jvm.MethodName) prog_63_method_2_code (1 : Nat) (Option.some Jvm.ClassFile.FieldType.boolean)) ∈ lw_all := lw_g (lw_at lw_m4 163 rfl) rfl
theorem q1159 : (Jvm.Cond.instanceMethod ({ cls := "java/util/ArrayList$Itr", name := "next", desc := "()Ljava/lang/Object;" } : Jvm.MethodName)) ∈ lw_all := lw_g (lw_at lw_m5 80 rfl) rfl
theorem q1160 : (Jvm.Cond.publicMethod ({ cls := "java/util/ArrayList$Itr", name := "next", desc := "()Ljava/lang/Object;" } : Jvm.MethodName)) ∈ lw_tbl := lw_at lw_m5 81 rfl
theorem q1161 : (Jvm.Cond.code ({ cls := "java/util/ArrayList$Itr", name := "next", desc := "()Ljava/lang/Object;" } : Jvm.MethodName) prog_63_method_3_code (3 : Nat) (Option.some (Jvm.ClassFile.FieldType.object "java/lang/Object"))) ∈ lw_all := lw_g (lw_at lw_m5 82 rfl) rfl
theorem q1162 : (Jvm.Cond.methodLink "java/util/ArrayList$Itr" (31 : Nat) ({ cls := "java/util/ArrayList$Itr", name := "checkForComodification", desc := "()V" } : Jvm.MethodName)) ∈ lw_all := lw_g (lw_at lw_m5 83 rfl) rfl
theorem q1163 : (Jvm.Cond.instanceMethod ({ cls := "java/util/ArrayList$Itr", name := "checkForComodification", desc := "()V" } : Jvm.MethodName)) ∈ lw_all := lw_g (lw_at lw_m5 84 rfl) rfl
theorem q1164 : (Jvm.Cond.sameMethod "java/util/ArrayList$Itr" "java/util/ArrayList$Itr" "checkForComodification" "()V") ∈ lw_all := lw_g (lw_at lw_m5 85 rfl) rfl
theorem q1166 : (Jvm.Cond.code ({ cls := "java/util/ArrayList$Itr", name := "checkForComodification", desc := "()V" } : Jvm.MethodName) prog_63_method_6_code (1 : Nat) (Option.none : Option Jvm.ClassFile.FieldType)) ∈ lw_all := lw_g (lw_at lw_m5 87 rfl) rfl
theorem q1167 : (Jvm.Cond.classLink "java/util/ArrayList$Itr" (34 : Nat) "java/util/NoSuchElementException") ∈ lw_all := lw_g (lw_at lw_m5 88 rfl) rfl
theorem q1168 : (Jvm.Cond.methodLink "java/util/ArrayList$Itr" (36 : Nat) ({ cls := "java/util/NoSuchElementException", name := "<init>", desc := "()V" } : Jvm.MethodName)) ∈ lw_all := lw_g (lw_at lw_m5 89 rfl) rfl
theorem q2079 : (Jvm.Cond.instanceMethod ({ cls := "java/util/ArrayList$Itr", name := "remove", desc := "()V" } : Jvm.MethodName)) ∈ lw_all := lw_g (lw_at lw_m9 40 rfl) rfl
theorem q2080 : (Jvm.Cond.publicMethod ({ cls := "java/util/ArrayList$Itr", name := "remove", desc := "()V" } : Jvm.MethodName)) ∈ lw_tbl := lw_at lw_m9 41 rfl
theorem q2081 : (Jvm.Cond.codeWith ({ cls := "java/util/ArrayList$Itr", name := "remove", desc := "()V" } : Jvm.MethodName) prog_63_method_4_code (2 : Nat) (Option.none : Option Jvm.ClassFile.FieldType) [((19 : Nat), (55 : Nat), (58 : Nat), (51 : Nat))]) ∈ lw_all := lw_g (lw_at lw_m9 42 rfl) rfl
theorem q2082 : (Jvm.Cond.classLink "java/util/ArrayList$Itr" (44 : Nat) "java/lang/IllegalStateException") ∈ lw_all := lw_g (lw_at lw_m9 43 rfl) rfl
theorem q2083 : (Jvm.Cond.methodLink "java/util/ArrayList$Itr" (46 : Nat) ({ cls := "java/lang/IllegalStateException", name := "<init>", desc := "()V" } : Jvm.MethodName)) ∈ lw_all := lw_g (lw_at lw_m9 44 rfl) rfl
theorem q2084 : (Jvm.Cond.methodLink "java/util/ArrayList$Itr" (47 : Nat) ({ cls := "java/util/ArrayList", name := "remove", desc := "(I)Ljava/lang/Object;" } : Jvm.MethodName)) ∈ lw_all := lw_g (lw_at lw_m9 45 rfl) rfl
theorem q2085 : (Jvm.Cond.classLink "java/util/ArrayList$Itr" (41 : Nat) "java/util/ConcurrentModificationException") ∈ lw_all := lw_g (lw_at lw_m9 46 rfl) rfl
theorem q2086 : (Jvm.Cond.methodLink "java/util/ArrayList$Itr" (43 : Nat) ({ cls := "java/util/ConcurrentModificationException", name := "<init>", desc := "()V" } : Jvm.MethodName)) ∈ lw_all := lw_g (lw_at lw_m9 47 rfl) rfl
/-! java/util/ArrayList$ListItr -/
set_option maxRecDepth 100000
def RJ31 : String := "java/util/ArrayList$ListItr"
def TJ31 : u_T := fun k => match k with
  | 0 => ("java/util/ArrayList$Itr", "cursor", "I", false)
  | 1 => ("java/util/ArrayList$Itr", "lastRet", "I", false)
  | 2 => ("java/util/ArrayList$Itr", "expectedModCount", "I", false)
  | 3 => ("java/util/ArrayList$Itr", "this$0", "Ljava/util/ArrayList;", true)
  | _ => ("java/util/ArrayList$ListItr", "this$0", "Ljava/util/ArrayList;", true)
def tyJ31 : Nat → FieldType := fun k => match k with
  | 0 => .int
  | 1 => .int
  | 2 => .int
  | 3 => .object "java/util/ArrayList"
  | _ => .object "java/util/ArrayList"
abbrev wsJ310 : List Cond := u_ws RJ31 TJ31 5
-- two fields of one name: no nmJ31
theorem tyJ31_ok : ∀ k, k < 5 → parseFieldDescriptor (TJ31 k).2.2.1 = some (tyJ31 k) := by decide +kernel
abbrev cJ31_init : ByteArray := prog_64_method_1_code
def yJ31_init : MethodName := ⟨RJ31, "<init>", "(Ljava/util/ArrayList;I)V"⟩
def dkwJ31_init_0 : List UInt8 := [42, 43, 181, 0, 1, 42, 43, 183, 0, 7, 42, 28, 181, 0, 13, 177]
abbrev dktJ31_init_0 : List UInt8 := dkwJ31_init_0 ++ []
theorem dksJ31_init_0 : cJ31_init.data.toList.drop 0 = dktJ31_init_0 := by decide +kernel
theorem dJ31_init_0 : decode cJ31_init 0 = .ok (.aload_n 0, 1) := dk_42 (dk_at dksJ31_init_0 0 rfl rfl)
theorem dJ31_init_1 : decode cJ31_init 1 = .ok (.aload_n 1, 1) := dk_43 (dk_at dksJ31_init_0 1 rfl rfl)
theorem dJ31_init_2 : decode cJ31_init 2 = .ok (.putfield 1, 3) := dk_181 0 1 (dk_at dksJ31_init_0 2 rfl rfl)
theorem dJ31_init_5 : decode cJ31_init 5 = .ok (.aload_n 0, 1) := dk_42 (dk_at dksJ31_init_0 5 rfl rfl)
theorem dJ31_init_6 : decode cJ31_init 6 = .ok (.aload_n 1, 1) := dk_43 (dk_at dksJ31_init_0 6 rfl rfl)
theorem dJ31_init_7 : decode cJ31_init 7 = .ok (.invokespecial 7, 3) := dk_183 0 7 (dk_at dksJ31_init_0 7 rfl rfl)
theorem dJ31_init_10 : decode cJ31_init 10 = .ok (.aload_n 0, 1) := dk_42 (dk_at dksJ31_init_0 10 rfl rfl)
theorem dJ31_init_11 : decode cJ31_init 11 = .ok (.iload_n 2, 1) := dk_28 (dk_at dksJ31_init_0 11 rfl rfl)
theorem dJ31_init_12 : decode cJ31_init 12 = .ok (.putfield 13, 3) := dk_181 0 13 (dk_at dksJ31_init_0 12 rfl rfl)
theorem dJ31_init_15 : decode cJ31_init 15 = .ok (.return_, 1) := dk_177 (dk_at dksJ31_init_0 15 rfl rfl)
theorem q166 : (Jvm.Cond.initialized "java/util/ArrayList$ListItr") ∈ lw_all := lw_g (lw_at lw_m1 47 rfl) rfl
theorem q920 : (Jvm.Cond.instantiable "java/util/ArrayList$ListItr" (5 : Nat)) ∈ lw_all := lw_g (lw_at lw_m4 81 rfl) rfl
theorem q922 : (Jvm.Cond.instanceMethod ({ cls := "java/util/ArrayList$ListItr", name := "<init>", desc := "(Ljava/util/ArrayList;I)V" } : Jvm.MethodName)) ∈ lw_all := lw_g (lw_at lw_m4 83 rfl) rfl
theorem q923 : (Jvm.Cond.code ({ cls := "java/util/ArrayList$ListItr", name := "<init>", desc := "(Ljava/util/ArrayList;I)V" } : Jvm.MethodName) prog_64_method_1_code (3 : Nat) (Option.none : Option Jvm.ClassFile.FieldType)) ∈ lw_all := lw_g (lw_at lw_m4 84 rfl) rfl
theorem q924 : (Jvm.Cond.methodLink "java/util/ArrayList$ListItr" (7 : Nat) ({ cls := "java/util/ArrayList$Itr", name := "<init>", desc := "(Ljava/util/ArrayList;)V" } : Jvm.MethodName)) ∈ lw_all := lw_g (lw_at lw_m4 85 rfl) rfl
theorem q928 : (Jvm.Cond.fieldLink "java/util/ArrayList$ListItr" (1 : Nat) "java/util/ArrayList$ListItr" "this$0" "Ljava/util/ArrayList;") ∈ lw_all := lw_g (lw_at lw_m4 89 rfl) rfl
theorem q929 : (Jvm.Cond.fieldLink "java/util/ArrayList$ListItr" (13 : Nat) "java/util/ArrayList$ListItr" "cursor" "I") ∈ lw_all := lw_g (lw_at lw_m4 90 rfl) rfl
theorem q930 : (Jvm.Cond.sameField "java/util/ArrayList$ListItr" "java/util/ArrayList$Itr" "cursor" "I") ∈ lw_all := lw_g (lw_at lw_m4 91 rfl) rfl
theorem q935 : (Jvm.Cond.laysFinal "java/util/ArrayList$ListItr" "java/util/ArrayList$ListItr" "this$0" "Ljava/util/ArrayList;") ∈ lw_all := lw_g (lw_at lw_m4 96 rfl) rfl
theorem q936 : (Jvm.Cond.soleField "java/util/ArrayList$ListItr" "this$0") ∈ lw_all := lw_g (lw_at lw_m4 97 rfl) rfl
theorem q937 : (Jvm.Cond.lays "java/util/ArrayList$ListItr" "java/util/ArrayList$Itr" "cursor" "I") ∈ lw_all := lw_g (lw_at lw_m4 98 rfl) rfl
theorem q939 : (Jvm.Cond.lays "java/util/ArrayList$ListItr" "java/util/ArrayList$Itr" "lastRet" "I") ∈ lw_all := lw_g (lw_at lw_m4 100 rfl) rfl
theorem q941 : (Jvm.Cond.lays "java/util/ArrayList$ListItr" "java/util/ArrayList$Itr" "expectedModCount" "I") ∈ lw_all := lw_g (lw_at lw_m4 102 rfl) rfl
theorem q943 : (Jvm.Cond.laysFinal "java/util/ArrayList$ListItr" "java/util/ArrayList$Itr" "this$0" "Ljava/util/ArrayList;") ∈ lw_all := lw_g (lw_at lw_m4 104 rfl) rfl
theorem q945 : (Jvm.Cond.superclass "java/util/ArrayList$ListItr" "java/util/ArrayList$Itr") ∈ lw_all := lw_g (lw_at lw_m4 106 rfl) rfl
theorem q997 : (Jvm.Cond.castable "java/util/ArrayList$ListItr" "java/util/Iterator") ∈ lw_tbl := lw_at lw_m4 158 rfl
theorem q998 : (Jvm.Cond.selects "java/util/ArrayList$ListItr" ({ cls := "java/util/Iterator", name := "hasNext", desc := "()Z" } : Jvm.MethodName) ({ cls := "java/util/ArrayList$Itr", name := "hasNext", desc := "()Z" } : Jvm.MethodName)) ∈ lw_all := lw_g (lw_at lw_m4 159 rfl) rfl
theorem q999 : (Jvm.Cond.unhidden "java/util/ArrayList$ListItr" "hasNext" "()Z") ∈ lw_tbl := lw_at lw_m4 160 rfl
theorem q1110 : (Jvm.Cond.selects "java/util/ArrayList$ListItr" ({ cls := "java/lang/Object", name := "getClass", desc := "()Ljava/lang/Class;" } : Jvm.MethodName) ({ cls := "java/lang/Object", name := "getClass", desc := "()Ljava/lang/Class;" } : Jvm.MethodName)) ∈ lw_all := lw_g (lw_at lw_m5 31 rfl) rfl
theorem q1157 : (Jvm.Cond.selects "java/util/ArrayList$ListItr" ({ cls := "java/util/Iterator", name := "next", desc := "()Ljava/lang/Object;" } : Jvm.MethodName) ({ cls := "java/util/ArrayList$Itr", name := "next", desc := "()Ljava/lang/Object;" } : Jvm.MethodName)) ∈ lw_all := lw_g (lw_at lw_m5 78 rfl) rfl
theorem q1158 : (Jvm.Cond.unhidden "java/util/ArrayList$ListItr" "next" "()Ljava/lang/Object;") ∈ lw_tbl := lw_at lw_m5 79 rfl
theorem q1165 : (Jvm.Cond.selects "java/util/ArrayList$ListItr" ({ cls := "java/util/ArrayList$Itr", name := "checkForComodification", desc := "()V" } : Jvm.MethodName) ({ cls := "java/util/ArrayList$Itr", name := "checkForComodification", desc := "()V" } : Jvm.MethodName)) ∈ lw_all := lw_g (lw_at lw_m5 86 rfl) rfl
theorem q2077 : (Jvm.Cond.selects "java/util/ArrayList$ListItr" ({ cls := "java/util/Iterator", name := "remove", desc := "()V" } : Jvm.MethodName) ({ cls := "java/util/ArrayList$Itr", name := "remove", desc := "()V" } : Jvm.MethodName)) ∈ lw_all := lw_g (lw_at lw_m9 38 rfl) rfl
theorem q2078 : (Jvm.Cond.unhidden "java/util/ArrayList$ListItr" "remove" "()V") ∈ lw_tbl := lw_at lw_m9 39 rfl
theorem q3582 : (Jvm.Cond.castable "java/util/ArrayList$ListItr" "java/lang/Object") ∈ lw_tbl := lw_at lw_m15 103 rfl
theorem in_J31 : ∀ w ∈ wsJ310, w ∈ lw_all := lw_in wsJ310 [937, 939, 941, 943, 935] (by decide +kernel) (by decide +kernel)
/-! java/util/LinkedList$ListItr -/
set_option maxRecDepth 100000
def RJ32 : String := "java/util/LinkedList$ListItr"
def TJ32 : u_T := fun k => match k with
  | 0 => ("java/util/LinkedList$ListItr", "lastReturned", "Ljava/util/LinkedList$Node;", false)
  | 1 => ("java/util/LinkedList$ListItr", "next", "Ljava/util/LinkedList$Node;", false)
  | 2 => ("java/util/LinkedList$ListItr", "nextIndex", "I", false)
  | 3 => ("java/util/LinkedList$ListItr", "expectedModCount", "I", false)
  | _ => ("java/util/LinkedList$ListItr", "this$0", "Ljava/util/LinkedList;", true)
def tyJ32 : Nat → FieldType := fun k => match k with
  | 0 => .object "java/util/LinkedList$Node"
  | 1 => .object "java/util/LinkedList$Node"
  | 2 => .int
  | 3 => .int
  | _ => .object "java/util/LinkedList"
abbrev wsJ320 : List Cond := u_ws RJ32 TJ32 5
theorem nmJ32 : ∀ a, a < 5 → ∀ b, b < 5 → a ≠ b → (TJ32 a).2.1 ≠ (TJ32 b).2.1 := by decide +kernel
theorem tyJ32_ok : ∀ k, k < 5 → parseFieldDescriptor (TJ32 k).2.2.1 = some (tyJ32 k) := by decide +kernel
abbrev cJ32_init : ByteArray := prog_79_method_1_code
def yJ32_init : MethodName := ⟨RJ32, "<init>", "(Ljava/util/LinkedList;I)V"⟩
def dkwJ32_init_1 : List UInt8 := [180, 0, 22, 160, 0, 7, 1, 167, 0, 8, 43, 28, 182, 0, 25, 181, 0, 29, 42, 28, 181, 0, 33, 177]
abbrev dktJ32_init_1 : List UInt8 := dkwJ32_init_1 ++ []
def dkwJ32_init_0 : List UInt8 := [42, 43, 181, 0, 1, 42, 183, 0, 7, 42, 42, 180, 0, 1, 180, 0, 13, 181, 0, 19, 42, 28, 43]
abbrev dktJ32_init_0 : List UInt8 := dkwJ32_init_0 ++ dktJ32_init_1
theorem dksJ32_init_0 : cJ32_init.data.toList.drop 0 = dktJ32_init_0 := by decide +kernel
theorem dksJ32_init_1 : cJ32_init.data.toList.drop 23 = dktJ32_init_1 := dk_seg dksJ32_init_0 23 rfl rfl
theorem dJ32_init_0 : decode cJ32_init 0 = .ok (.aload_n 0, 1) := dk_42 (dk_at dksJ32_init_0 0 rfl rfl)
theorem dJ32_init_1 : decode cJ32_init 1 = .ok (.aload_n 1, 1) := dk_43 (dk_at dksJ32_init_0 1 rfl rfl)
theorem dJ32_init_2 : decode cJ32_init 2 = .ok (.putfield 1, 3) := dk_181 0 1 (dk_at dksJ32_init_0 2 rfl rfl)
theorem dJ32_init_5 : decode cJ32_init 5 = .ok (.aload_n 0, 1) := dk_42 (dk_at dksJ32_init_0 5 rfl rfl)
theorem dJ32_init_6 : decode cJ32_init 6 = .ok (.invokespecial 7, 3) := dk_183 0 7 (dk_at dksJ32_init_0 6 rfl rfl)
theorem dJ32_init_9 : decode cJ32_init 9 = .ok (.aload_n 0, 1) := dk_42 (dk_at dksJ32_init_0 9 rfl rfl)
theorem dJ32_init_10 : decode cJ32_init 10 = .ok (.aload_n 0, 1) := dk_42 (dk_at dksJ32_init_0 10 rfl rfl)
theorem dJ32_init_11 : decode cJ32_init 11 = .ok (.getfield 1, 3) := dk_180 0 1 (dk_at dksJ32_init_0 11 rfl rfl)
theorem dJ32_init_14 : decode cJ32_init 14 = .ok (.getfield 13, 3) := dk_180 0 13 (dk_at dksJ32_init_0 14 rfl rfl)
theorem dJ32_init_17 : decode cJ32_init 17 = .ok (.putfield 19, 3) := dk_181 0 19 (dk_at dksJ32_init_0 17 rfl rfl)
theorem dJ32_init_20 : decode cJ32_init 20 = .ok (.aload_n 0, 1) := dk_42 (dk_at dksJ32_init_0 20 rfl rfl)
theorem dJ32_init_21 : decode cJ32_init 21 = .ok (.iload_n 2, 1) := dk_28 (dk_at dksJ32_init_0 21 rfl rfl)
theorem dJ32_init_22 : decode cJ32_init 22 = .ok (.aload_n 1, 1) := dk_43 (dk_at dksJ32_init_0 22 rfl rfl)
theorem dJ32_init_23 : decode cJ32_init 23 = .ok (.getfield 22, 3) := dk_180 0 22 (dk_at dksJ32_init_1 0 rfl rfl)
theorem dJ32_init_26 : decode cJ32_init 26 = .ok (.if_icmp .ne 7, 3) := dk_160 0 7 (dk_at dksJ32_init_1 3 rfl rfl)
theorem dJ32_init_29 : decode cJ32_init 29 = .ok (.aconst_null, 1) := dk_1 (dk_at dksJ32_init_1 6 rfl rfl)
theorem dJ32_init_30 : decode cJ32_init 30 = .ok (.goto 8, 3) := dk_167 0 8 (dk_at dksJ32_init_1 7 rfl rfl)
theorem dJ32_init_33 : decode cJ32_init 33 = .ok (.aload_n 1, 1) := dk_43 (dk_at dksJ32_init_1 10 rfl rfl)
theorem dJ32_init_34 : decode cJ32_init 34 = .ok (.iload_n 2, 1) := dk_28 (dk_at dksJ32_init_1 11 rfl rfl)
theorem dJ32_init_35 : decode cJ32_init 35 = .ok (.invokevirtual 25, 3) := dk_182 0 25 (dk_at dksJ32_init_1 12 rfl rfl)
theorem dJ32_init_38 : decode cJ32_init 38 = .ok (.putfield 29, 3) := dk_181 0 29 (dk_at dksJ32_init_1 15 rfl rfl)
theorem dJ32_init_41 : decode cJ32_init 41 = .ok (.aload_n 0, 1) := dk_42 (dk_at dksJ32_init_1 18 rfl rfl)
theorem dJ32_init_42 : decode cJ32_init 42 = .ok (.iload_n 2, 1) := dk_28 (dk_at dksJ32_init_1 19 rfl rfl)
theorem dJ32_init_43 : decode cJ32_init 43 = .ok (.putfield 33, 3) := dk_181 0 33 (dk_at dksJ32_init_1 20 rfl rfl)
theorem dJ32_init_46 : decode cJ32_init 46 = .ok (.return_, 1) := dk_177 (dk_at dksJ32_init_1 23 rfl rfl)
abbrev cJ32_hasPrevious : ByteArray := prog_79_method_4_code
def yJ32_hasPrevious : MethodName := ⟨RJ32, "hasPrevious", "()Z"⟩
def dkwJ32_hasPrevious_0 : List UInt8 := [42, 180, 0, 33, 158, 0, 7, 4, 167, 0, 4, 3, 172]
abbrev dktJ32_hasPrevious_0 : List UInt8 := dkwJ32_hasPrevious_0 ++ []
theorem dksJ32_hasPrevious_0 : cJ32_hasPrevious.data.toList.drop 0 = dktJ32_hasPrevious_0 := by decide +kernel
theorem dJ32_hasPrevious_0 : decode cJ32_hasPrevious 0 = .ok (.aload_n 0, 1) := dk_42 (dk_at dksJ32_hasPrevious_0 0 rfl rfl)
theorem dJ32_hasPrevious_1 : decode cJ32_hasPrevious 1 = .ok (.getfield 33, 3) := dk_180 0 33 (dk_at dksJ32_hasPrevious_0 1 rfl rfl)
theorem dJ32_hasPrevious_4 : decode cJ32_hasPrevious 4 = .ok (.ifCond .le 7, 3) := dk_158 0 7 (dk_at dksJ32_hasPrevious_0 4 rfl rfl)
theorem dJ32_hasPrevious_7 : decode cJ32_hasPrevious 7 = .ok (.iconst 1, 1) := dk_4 (dk_at dksJ32_hasPrevious_0 7 rfl rfl)
theorem dJ32_hasPrevious_8 : decode cJ32_hasPrevious 8 = .ok (.goto 4, 3) := dk_167 0 4 (dk_at dksJ32_hasPrevious_0 8 rfl rfl)
theorem dJ32_hasPrevious_11 : decode cJ32_hasPrevious 11 = .ok (.iconst 0, 1) := dk_3 (dk_at dksJ32_hasPrevious_0 11 rfl rfl)
theorem dJ32_hasPrevious_12 : decode cJ32_hasPrevious 12 = .ok (.ireturn, 1) := dk_172 (dk_at dksJ32_hasPrevious_0 12 rfl rfl)
abbrev cJ32_hasNext : ByteArray := prog_79_method_2_code
def yJ32_hasNext : MethodName := ⟨RJ32, "hasNext", "()Z"⟩
def dkwJ32_hasNext_0 : List UInt8 := [42, 180, 0, 33, 42, 180, 0, 1, 180, 0, 22, 162, 0, 7, 4, 167, 0, 4, 3, 172]
abbrev dktJ32_hasNext_0 : List UInt8 := dkwJ32_hasNext_0 ++ []
theorem dksJ32_hasNext_0 : cJ32_hasNext.data.toList.drop 0 = dktJ32_hasNext_0 := by decide +kernel
theorem dJ32_hasNext_0 : decode cJ32_hasNext 0 = .ok (.aload_n 0, 1) := dk_42 (dk_at dksJ32_hasNext_0 0 rfl rfl)
theorem dJ32_hasNext_1 : decode cJ32_hasNext 1 = .ok (.getfield 33, 3) := dk_180 0 33 (dk_at dksJ32_hasNext_0 1 rfl rfl)
theorem dJ32_hasNext_4 : decode cJ32_hasNext 4 = .ok (.aload_n 0, 1) := dk_42 (dk_at dksJ32_hasNext_0 4 rfl rfl)
theorem dJ32_hasNext_5 : decode cJ32_hasNext 5 = .ok (.getfield 1, 3) := dk_180 0 1 (dk_at dksJ32_hasNext_0 5 rfl rfl)
theorem dJ32_hasNext_8 : decode cJ32_hasNext 8 = .ok (.getfield 22, 3) := dk_180 0 22 (dk_at dksJ32_hasNext_0 8 rfl rfl)
theorem dJ32_hasNext_11 : decode cJ32_hasNext 11 = .ok (.if_icmp .ge 7, 3) := dk_162 0 7 (dk_at dksJ32_hasNext_0 11 rfl rfl)
theorem dJ32_hasNext_14 : decode cJ32_hasNext 14 = .ok (.iconst 1, 1) := dk_4 (dk_at dksJ32_hasNext_0 14 rfl rfl)
theorem dJ32_hasNext_15 : decode cJ32_hasNext 15 = .ok (.goto 4, 3) := dk_167 0 4 (dk_at dksJ32_hasNext_0 15 rfl rfl)
theorem dJ32_hasNext_18 : decode cJ32_hasNext 18 = .ok (.iconst 0, 1) := dk_3 (dk_at dksJ32_hasNext_0 18 rfl rfl)
theorem dJ32_hasNext_19 : decode cJ32_hasNext 19 = .ok (.ireturn, 1) := dk_172 (dk_at dksJ32_hasNext_0 19 rfl rfl)
abbrev cJ32_previous : ByteArray := prog_79_method_5_code
def yJ32_previous : MethodName := ⟨RJ32, "previous", "()Ljava/lang/Object;"⟩
def dkwJ32_previous_2 : List UInt8 := [181, 0, 29, 181, 0, 46, 42, 89, 180, 0, 33, 4, 100, 181, 0, 33, 42, 180, 0, 46, 180, 0, 52, 176]
abbrev dktJ32_previous_2 : List UInt8 := dkwJ32_previous_2 ++ []
def dkwJ32_previous_1 : List UInt8 := [180, 0, 29, 199, 0, 13, 42, 180, 0, 1, 180, 0, 59, 167, 0, 10, 42, 180, 0, 29, 180, 0, 62, 90]
abbrev dktJ32_previous_1 : List UInt8 := dkwJ32_previous_1 ++ dktJ32_previous_2
def dkwJ32_previous_0 : List UInt8 := [42, 182, 0, 36, 42, 182, 0, 56, 154, 0, 11, 187, 0, 43, 89, 183, 0, 45, 191, 42, 42, 42]
abbrev dktJ32_previous_0 : List UInt8 := dkwJ32_previous_0 ++ dktJ32_previous_1
theorem dksJ32_previous_0 : cJ32_previous.data.toList.drop 0 = dktJ32_previous_0 := by decide +kernel
theorem dksJ32_previous_1 : cJ32_previous.data.toList.drop 22 = dktJ32_previous_1 := dk_seg dksJ32_previous_0 22 rfl rfl
theorem dksJ32_previous_2 : cJ32_previous.data.toList.drop 46 = dktJ32_previous_2 := dk_seg dksJ32_previous_1 24 rfl rfl
theorem dJ32_previous_0 : decode cJ32_previous 0 = .ok (.aload_n 0, 1) := dk_42 (dk_at dksJ32_previous_0 0 rfl rfl)
theorem dJ32_previous_1 : decode cJ32_previous 1 = .ok (.invokevirtual 36, 3) := dk_182 0 36 (dk_at dksJ32_previous_0 1 rfl rfl)
theorem dJ32_previous_4 : decode cJ32_previous 4 = .ok (.aload_n 0, 1) := dk_42 (dk_at dksJ32_previous_0 4 rfl rfl)
theorem dJ32_previous_5 : decode cJ32_previous 5 = .ok (.invokevirtual 56, 3) := dk_182 0 56 (dk_at dksJ32_previous_0 5 rfl rfl)
theorem dJ32_previous_8 : decode cJ32_previous 8 = .ok (.ifCond .ne 11, 3) := dk_154 0 11 (dk_at dksJ32_previous_0 8 rfl rfl)
theorem dJ32_previous_11 : decode cJ32_previous 11 = .ok (.new 43, 3) := dk_187 0 43 (dk_at dksJ32_previous_0 11 rfl rfl)
theorem dJ32_previous_14 : decode cJ32_previous 14 = .ok (.dup, 1) := dk_89 (dk_at dksJ32_previous_0 14 rfl rfl)
theorem dJ32_previous_15 : decode cJ32_previous 15 = .ok (.invokespecial 45, 3) := dk_183 0 45 (dk_at dksJ32_previous_0 15 rfl rfl)
theorem dJ32_previous_18 : decode cJ32_previous 18 = .ok (.athrow, 1) := dk_191 (dk_at dksJ32_previous_0 18 rfl rfl)
theorem dJ32_previous_19 : decode cJ32_previous 19 = .ok (.aload_n 0, 1) := dk_42 (dk_at dksJ32_previous_0 19 rfl rfl)
theorem dJ32_previous_20 : decode cJ32_previous 20 = .ok (.aload_n 0, 1) := dk_42 (dk_at dksJ32_previous_0 20 rfl rfl)
theorem dJ32_previous_21 : decode cJ32_previous 21 = .ok (.aload_n 0, 1) := dk_42 (dk_at dksJ32_previous_0 21 rfl rfl)
theorem dJ32_previous_22 : decode cJ32_previous 22 = .ok (.getfield 29, 3) := dk_180 0 29 (dk_at dksJ32_previous_1 0 rfl rfl)
theorem dJ32_previous_25 : decode cJ32_previous 25 = .ok (.ifnonnull 13, 3) := dk_199 0 13 (dk_at dksJ32_previous_1 3 rfl rfl)
theorem dJ32_previous_28 : decode cJ32_previous 28 = .ok (.aload_n 0, 1) := dk_42 (dk_at dksJ32_previous_1 6 rfl rfl)
theorem dJ32_previous_29 : decode cJ32_previous 29 = .ok (.getfield 1, 3) := dk_180 0 1 (dk_at dksJ32_previous_1 7 rfl rfl)
theorem dJ32_previous_32 : decode cJ32_previous 32 = .ok (.getfield 59, 3) := dk_180 0 59 (dk_at dksJ32_previous_1 10 rfl rfl)
theorem dJ32_previous_35 : decode cJ32_previous 35 = .ok (.goto 10, 3) := dk_167 0 10 (dk_at dksJ32_previous_1 13 rfl rfl)
theorem dJ32_previous_38 : decode cJ32_previous 38 = .ok (.aload_n 0, 1) := dk_42 (dk_at dksJ32_previous_1 16 rfl rfl)
theorem dJ32_previous_39 : decode cJ32_previous 39 = .ok (.getfield 29, 3) := dk_180 0 29 (dk_at dksJ32_previous_1 17 rfl rfl)
theorem dJ32_previous_42 : decode cJ32_previous 42 = .ok (.getfield 62, 3) := dk_180 0 62 (dk_at dksJ32_previous_1 20 rfl rfl)
theorem dJ32_previous_45 : decode cJ32_previous 45 = .ok (.dup_x1, 1) := dk_90 (dk_at dksJ32_previous_1 23 rfl rfl)
theorem dJ32_previous_46 : decode cJ32_previous 46 = .ok (.putfield 29, 3) := dk_181 0 29 (dk_at dksJ32_previous_2 0 rfl rfl)
theorem dJ32_previous_49 : decode cJ32_previous 49 = .ok (.putfield 46, 3) := dk_181 0 46 (dk_at dksJ32_previous_2 3 rfl rfl)
theorem dJ32_previous_52 : decode cJ32_previous 52 = .ok (.aload_n 0, 1) := dk_42 (dk_at dksJ32_previous_2 6 rfl rfl)
theorem dJ32_previous_53 : decode cJ32_previous 53 = .ok (.dup, 1) := dk_89 (dk_at dksJ32_previous_2 7 rfl rfl)
theorem dJ32_previous_54 : decode cJ32_previous 54 = .ok (.getfield 33, 3) := dk_180 0 33 (dk_at dksJ32_previous_2 8 rfl rfl)
theorem dJ32_previous_57 : decode cJ32_previous 57 = .ok (.iconst 1, 1) := dk_4 (dk_at dksJ32_previous_2 11 rfl rfl)
theorem dJ32_previous_58 : decode cJ32_previous 58 = .ok (.isub, 1) := dk_100 (dk_at dksJ32_previous_2 12 rfl rfl)
theorem dJ32_previous_59 : decode cJ32_previous 59 = .ok (.putfield 33, 3) := dk_181 0 33 (dk_at dksJ32_previous_2 13 rfl rfl)
theorem dJ32_previous_62 : decode cJ32_previous 62 = .ok (.aload_n 0, 1) := dk_42 (dk_at dksJ32_previous_2 16 rfl rfl)
theorem dJ32_previous_63 : decode cJ32_previous 63 = .ok (.getfield 46, 3) := dk_180 0 46 (dk_at dksJ32_previous_2 17 rfl rfl)
theorem dJ32_previous_66 : decode cJ32_previous 66 = .ok (.getfield 52, 3) := dk_180 0 52 (dk_at dksJ32_previous_2 20 rfl rfl)
theorem dJ32_previous_69 : decode cJ32_previous 69 = .ok (.areturn, 1) := dk_176 (dk_at dksJ32_previous_2 23 rfl rfl)
abbrev cJ32_checkForComodification : ByteArray := prog_79_method_12_code
def yJ32_checkForComodification : MethodName := ⟨RJ32, "checkForComodification", "()V"⟩
def dkwJ32_checkForComodification_0 : List UInt8 := [42, 180, 0, 1, 180, 0, 13, 42, 180, 0, 19, 159, 0, 11, 187, 0, 91, 89, 183, 0, 93, 191, 177]
abbrev dktJ32_checkForComodification_0 : List UInt8 := dkwJ32_checkForComodification_0 ++ []
theorem dksJ32_checkForComodification_0 : cJ32_checkForComodification.data.toList.drop 0 = dktJ32_checkForComodification_0 := by decide +kernel
theorem dJ32_checkForComodification_0 : decode cJ32_checkForComodification 0 = .ok (.aload_n 0, 1) := dk_42 (dk_at dksJ32_checkForComodification_0 0 rfl rfl)
theorem dJ32_checkForComodification_1 : decode cJ32_checkForComodification 1 = .ok (.getfield 1, 3) := dk_180 0 1 (dk_at dksJ32_checkForComodification_0 1 rfl rfl)
theorem dJ32_checkForComodification_4 : decode cJ32_checkForComodification 4 = .ok (.getfield 13, 3) := dk_180 0 13 (dk_at dksJ32_checkForComodification_0 4 rfl rfl)
theorem dJ32_checkForComodification_7 : decode cJ32_checkForComodification 7 = .ok (.aload_n 0, 1) := dk_42 (dk_at dksJ32_checkForComodification_0 7 rfl rfl)
theorem dJ32_checkForComodification_8 : decode cJ32_checkForComodification 8 = .ok (.getfield 19, 3) := dk_180 0 19 (dk_at dksJ32_checkForComodification_0 8 rfl rfl)
theorem dJ32_checkForComodification_11 : decode cJ32_checkForComodification 11 = .ok (.if_icmp .eq 11, 3) := dk_159 0 11 (dk_at dksJ32_checkForComodification_0 11 rfl rfl)
theorem dJ32_checkForComodification_14 : decode cJ32_checkForComodification 14 = .ok (.new 91, 3) := dk_187 0 91 (dk_at dksJ32_checkForComodification_0 14 rfl rfl)
theorem dJ32_checkForComodification_17 : decode cJ32_checkForComodification 17 = .ok (.dup, 1) := dk_89 (dk_at dksJ32_checkForComodification_0 17 rfl rfl)
theorem dJ32_checkForComodification_18 : decode cJ32_checkForComodification 18 = .ok (.invokespecial 93, 3) := dk_183 0 93 (dk_at dksJ32_checkForComodification_0 18 rfl rfl)
theorem dJ32_checkForComodification_21 : decode cJ32_checkForComodification 21 = .ok (.athrow, 1) := dk_191 (dk_at dksJ32_checkForComodification_0 21 rfl rfl)
theorem dJ32_checkForComodification_22 : decode cJ32_checkForComodification 22 = .ok (.return_, 1) := dk_177 (dk_at dksJ32_checkForComodification_0 22 rfl rfl)
abbrev cJ32_next : ByteArray := prog_79_method_3_code
def yJ32_next : MethodName := ⟨RJ32, "next", "()Ljava/lang/Object;"⟩
def dkwJ32_next_2 : List UInt8 := [42, 180, 0, 46, 180, 0, 52, 176]
abbrev dktJ32_next_2 : List UInt8 := dkwJ32_next_2 ++ []
def dkwJ32_next_1 : List UInt8 := [181, 0, 46, 42, 42, 180, 0, 29, 180, 0, 49, 181, 0, 29, 42, 89, 180, 0, 33, 4, 96, 181, 0, 33]
abbrev dktJ32_next_1 : List UInt8 := dkwJ32_next_1 ++ dktJ32_next_2
def dkwJ32_next_0 : List UInt8 := [42, 182, 0, 36, 42, 182, 0, 39, 154, 0, 11, 187, 0, 43, 89, 183, 0, 45, 191, 42, 42, 180, 0, 29]
abbrev dktJ32_next_0 : List UInt8 := dkwJ32_next_0 ++ dktJ32_next_1
theorem dksJ32_next_0 : cJ32_next.data.toList.drop 0 = dktJ32_next_0 := by decide +kernel
theorem dksJ32_next_1 : cJ32_next.data.toList.drop 24 = dktJ32_next_1 := dk_seg dksJ32_next_0 24 rfl rfl
theorem dksJ32_next_2 : cJ32_next.data.toList.drop 48 = dktJ32_next_2 := dk_seg dksJ32_next_1 24 rfl rfl
theorem dJ32_next_0 : decode cJ32_next 0 = .ok (.aload_n 0, 1) := dk_42 (dk_at dksJ32_next_0 0 rfl rfl)
theorem dJ32_next_1 : decode cJ32_next 1 = .ok (.invokevirtual 36, 3) := dk_182 0 36 (dk_at dksJ32_next_0 1 rfl rfl)
theorem dJ32_next_4 : decode cJ32_next 4 = .ok (.aload_n 0, 1) := dk_42 (dk_at dksJ32_next_0 4 rfl rfl)
theorem dJ32_next_5 : decode cJ32_next 5 = .ok (.invokevirtual 39, 3) := dk_182 0 39 (dk_at dksJ32_next_0 5 rfl rfl)
theorem dJ32_next_8 : decode cJ32_next 8 = .ok (.ifCond .ne 11, 3) := dk_154 0 11 (dk_at dksJ32_next_0 8 rfl rfl)
theorem dJ32_next_11 : decode cJ32_next 11 = .ok (.new 43, 3) := dk_187 0 43 (dk_at dksJ32_next_0 11 rfl rfl)
theorem dJ32_next_14 : decode cJ32_next 14 = .ok (.dup, 1) := dk_89 (dk_at dksJ32_next_0 14 rfl rfl)
theorem dJ32_next_15 : decode cJ32_next 15 = .ok (.invokespecial 45, 3) := dk_183 0 45 (dk_at dksJ32_next_0 15 rfl rfl)
theorem dJ32_next_18 : decode cJ32_next 18 = .ok (.athrow, 1) := dk_191 (dk_at dksJ32_next_0 18 rfl rfl)
theorem dJ32_next_19 : decode cJ32_next 19 = .ok (.aload_n 0, 1) := dk_42 (dk_at dksJ32_next_0 19 rfl rfl)
theorem dJ32_next_20 : decode cJ32_next 20 = .ok (.aload_n 0, 1) := dk_42 (dk_at dksJ32_next_0 20 rfl rfl)
theorem dJ32_next_21 : decode cJ32_next 21 = .ok (.getfield 29, 3) := dk_180 0 29 (dk_at dksJ32_next_0 21 rfl rfl)
theorem dJ32_next_24 : decode cJ32_next 24 = .ok (.putfield 46, 3) := dk_181 0 46 (dk_at dksJ32_next_1 0 rfl rfl)
theorem dJ32_next_27 : decode cJ32_next 27 = .ok (.aload_n 0, 1) := dk_42 (dk_at dksJ32_next_1 3 rfl rfl)
theorem dJ32_next_28 : decode cJ32_next 28 = .ok (.aload_n 0, 1) := dk_42 (dk_at dksJ32_next_1 4 rfl rfl)
theorem dJ32_next_29 : decode cJ32_next 29 = .ok (.getfield 29, 3) := dk_180 0 29 (dk_at dksJ32_next_1 5 rfl rfl)
theorem dJ32_next_32 : decode cJ32_next 32 = .ok (.getfield 49, 3) := dk_180 0 49 (dk_at dksJ32_next_1 8 rfl rfl)
theorem dJ32_next_35 : decode cJ32_next 35 = .ok (.putfield 29, 3) := dk_181 0 29 (dk_at dksJ32_next_1 11 rfl rfl)
theorem dJ32_next_38 : decode cJ32_next 38 = .ok (.aload_n 0, 1) := dk_42 (dk_at dksJ32_next_1 14 rfl rfl)
theorem dJ32_next_39 : decode cJ32_next 39 = .ok (.dup, 1) := dk_89 (dk_at dksJ32_next_1 15 rfl rfl)
theorem dJ32_next_40 : decode cJ32_next 40 = .ok (.getfield 33, 3) := dk_180 0 33 (dk_at dksJ32_next_1 16 rfl rfl)
theorem dJ32_next_43 : decode cJ32_next 43 = .ok (.iconst 1, 1) := dk_4 (dk_at dksJ32_next_1 19 rfl rfl)
theorem dJ32_next_44 : decode cJ32_next 44 = .ok (.iadd, 1) := dk_96 (dk_at dksJ32_next_1 20 rfl rfl)
theorem dJ32_next_45 : decode cJ32_next 45 = .ok (.putfield 33, 3) := dk_181 0 33 (dk_at dksJ32_next_1 21 rfl rfl)
theorem dJ32_next_48 : decode cJ32_next 48 = .ok (.aload_n 0, 1) := dk_42 (dk_at dksJ32_next_2 0 rfl rfl)
theorem dJ32_next_49 : decode cJ32_next 49 = .ok (.getfield 46, 3) := dk_180 0 46 (dk_at dksJ32_next_2 1 rfl rfl)
theorem dJ32_next_52 : decode cJ32_next 52 = .ok (.getfield 52, 3) := dk_180 0 52 (dk_at dksJ32_next_2 4 rfl rfl)
theorem dJ32_next_55 : decode cJ32_next 55 = .ok (.areturn, 1) := dk_176 (dk_at dksJ32_next_2 7 rfl rfl)
abbrev cJ32_remove : ByteArray := prog_79_method_8_code
def yJ32_remove : MethodName := ⟨RJ32, "remove", "()V"⟩
def dkwJ32_remove_3 : List UInt8 := [181, 0, 46, 42, 89, 180, 0, 19, 4, 96, 181, 0, 19, 177]
abbrev dktJ32_remove_3 : List UInt8 := dkwJ32_remove_3 ++ []
def dkwJ32_remove_2 : List UInt8 := [166, 0, 11, 42, 43, 181, 0, 29, 167, 0, 13, 42, 89, 180, 0, 33, 4, 100, 181, 0, 33, 42, 1]
abbrev dktJ32_remove_2 : List UInt8 := dkwJ32_remove_2 ++ dktJ32_remove_3
def dkwJ32_remove_1 : List UInt8 := [180, 0, 49, 76, 42, 180, 0, 1, 42, 180, 0, 46, 182, 0, 68, 87, 42, 180, 0, 29, 42, 180, 0, 46]
abbrev dktJ32_remove_1 : List UInt8 := dkwJ32_remove_1 ++ dktJ32_remove_2
def dkwJ32_remove_0 : List UInt8 := [42, 182, 0, 36, 42, 180, 0, 46, 199, 0, 11, 187, 0, 65, 89, 183, 0, 67, 191, 42, 180, 0, 46]
abbrev dktJ32_remove_0 : List UInt8 := dkwJ32_remove_0 ++ dktJ32_remove_1
theorem dksJ32_remove_0 : cJ32_remove.data.toList.drop 0 = dktJ32_remove_0 := by decide +kernel
theorem dksJ32_remove_1 : cJ32_remove.data.toList.drop 23 = dktJ32_remove_1 := dk_seg dksJ32_remove_0 23 rfl rfl
theorem dksJ32_remove_2 : cJ32_remove.data.toList.drop 47 = dktJ32_remove_2 := dk_seg dksJ32_remove_1 24 rfl rfl
theorem dksJ32_remove_3 : cJ32_remove.data.toList.drop 70 = dktJ32_remove_3 := dk_seg dksJ32_remove_2 23 rfl rfl
theorem dJ32_remove_0 : decode cJ32_remove 0 = .ok (.aload_n 0, 1) := dk_42 (dk_at dksJ32_remove_0 0 rfl rfl)
theorem dJ32_remove_1 : decode cJ32_remove 1 = .ok (.invokevirtual 36, 3) := dk_182 0 36 (dk_at dksJ32_remove_0 1 rfl rfl)
theorem dJ32_remove_4 : decode cJ32_remove 4 = .ok (.aload_n 0, 1) := dk_42 (dk_at dksJ32_remove_0 4 rfl rfl)
theorem dJ32_remove_5 : decode cJ32_remove 5 = .ok (.getfield 46, 3) := dk_180 0 46 (dk_at dksJ32_remove_0 5 rfl rfl)
theorem dJ32_remove_8 : decode cJ32_remove 8 = .ok (.ifnonnull 11, 3) := dk_199 0 11 (dk_at dksJ32_remove_0 8 rfl rfl)
theorem dJ32_remove_11 : decode cJ32_remove 11 = .ok (.new 65, 3) := dk_187 0 65 (dk_at dksJ32_remove_0 11 rfl rfl)
theorem dJ32_remove_14 : decode cJ32_remove 14 = .ok (.dup, 1) := dk_89 (dk_at dksJ32_remove_0 14 rfl rfl)
theorem dJ32_remove_15 : decode cJ32_remove 15 = .ok (.invokespecial 67, 3) := dk_183 0 67 (dk_at dksJ32_remove_0 15 rfl rfl)
theorem dJ32_remove_18 : decode cJ32_remove 18 = .ok (.athrow, 1) := dk_191 (dk_at dksJ32_remove_0 18 rfl rfl)
theorem dJ32_remove_19 : decode cJ32_remove 19 = .ok (.aload_n 0, 1) := dk_42 (dk_at dksJ32_remove_0 19 rfl rfl)
theorem dJ32_remove_20 : decode cJ32_remove 20 = .ok (.getfield 46, 3) := dk_180 0 46 (dk_at dksJ32_remove_0 20 rfl rfl)
theorem dJ32_remove_23 : decode cJ32_remove 23 = .ok (.getfield 49, 3) := dk_180 0 49 (dk_at dksJ32_remove_1 0 rfl rfl)
theorem dJ32_remove_26 : decode cJ32_remove 26 = .ok (.astore_n 1, 1) := dk_76 (dk_at dksJ32_remove_1 3 rfl rfl)
theorem dJ32_remove_27 : decode cJ32_remove 27 = .ok (.aload_n 0, 1) := dk_42 (dk_at dksJ32_remove_1 4 rfl rfl)
theorem dJ32_remove_28 : decode cJ32_remove 28 = .ok (.getfield 1, 3) := dk_180 0 1 (dk_at dksJ32_remove_1 5 rfl rfl)
theorem dJ32_remove_31 : decode cJ32_remove 31 = .ok (.aload_n 0, 1) := dk_42 (dk_at dksJ32_remove_1 8 rfl rfl)
theorem dJ32_remove_32 : decode cJ32_remove 32 = .ok (.getfield 46, 3) := dk_180 0 46 (dk_at dksJ32_remove_1 9 rfl rfl)
theorem dJ32_remove_35 : decode cJ32_remove 35 = .ok (.invokevirtual 68, 3) := dk_182 0 68 (dk_at dksJ32_remove_1 12 rfl rfl)
theorem dJ32_remove_38 : decode cJ32_remove 38 = .ok (.pop, 1) := dk_87 (dk_at dksJ32_remove_1 15 rfl rfl)
theorem dJ32_remove_39 : decode cJ32_remove 39 = .ok (.aload_n 0, 1) := dk_42 (dk_at dksJ32_remove_1 16 rfl rfl)
theorem dJ32_remove_40 : decode cJ32_remove 40 = .ok (.getfield 29, 3) := dk_180 0 29 (dk_at dksJ32_remove_1 17 rfl rfl)
theorem dJ32_remove_43 : decode cJ32_remove 43 = .ok (.aload_n 0, 1) := dk_42 (dk_at dksJ32_remove_1 20 rfl rfl)
theorem dJ32_remove_44 : decode cJ32_remove 44 = .ok (.getfield 46, 3) := dk_180 0 46 (dk_at dksJ32_remove_1 21 rfl rfl)
theorem dJ32_remove_47 : decode cJ32_remove 47 = .ok (.if_acmp .ne 11, 3) := dk_166 0 11 (dk_at dksJ32_remove_2 0 rfl rfl)
theorem dJ32_remove_50 : decode cJ32_remove 50 = .ok (.aload_n 0, 1) := dk_42 (dk_at dksJ32_remove_2 3 rfl rfl)
theorem dJ32_remove_51 : decode cJ32_remove 51 = .ok (.aload_n 1, 1) := dk_43 (dk_at dksJ32_remove_2 4 rfl rfl)
theorem dJ32_remove_52 : decode cJ32_remove 52 = .ok (.putfield 29, 3) := dk_181 0 29 (dk_at dksJ32_remove_2 5 rfl rfl)
theorem dJ32_remove_55 : decode cJ32_remove 55 = .ok (.goto 13, 3) := dk_167 0 13 (dk_at dksJ32_remove_2 8 rfl rfl)
theorem dJ32_remove_58 : decode cJ32_remove 58 = .ok (.aload_n 0, 1) := dk_42 (dk_at dksJ32_remove_2 11 rfl rfl)
theorem dJ32_remove_59 : decode cJ32_remove 59 = .ok (.dup, 1) := dk_89 (dk_at dksJ32_remove_2 12 rfl rfl)
theorem dJ32_remove_60 : decode cJ32_remove 60 = .ok (.getfield 33, 3) := dk_180 0 33 (dk_at dksJ32_remove_2 13 rfl rfl)
theorem dJ32_remove_63 : decode cJ32_remove 63 = .ok (.iconst 1, 1) := dk_4 (dk_at dksJ32_remove_2 16 rfl rfl)
theorem dJ32_remove_64 : decode cJ32_remove 64 = .ok (.isub, 1) := dk_100 (dk_at dksJ32_remove_2 17 rfl rfl)
theorem dJ32_remove_65 : decode cJ32_remove 65 = .ok (.putfield 33, 3) := dk_181 0 33 (dk_at dksJ32_remove_2 18 rfl rfl)
theorem dJ32_remove_68 : decode cJ32_remove 68 = .ok (.aload_n 0, 1) := dk_42 (dk_at dksJ32_remove_2 21 rfl rfl)
theorem dJ32_remove_69 : decode cJ32_remove 69 = .ok (.aconst_null, 1) := dk_1 (dk_at dksJ32_remove_2 22 rfl rfl)
theorem dJ32_remove_70 : decode cJ32_remove 70 = .ok (.putfield 46, 3) := dk_181 0 46 (dk_at dksJ32_remove_3 0 rfl rfl)
theorem dJ32_remove_73 : decode cJ32_remove 73 = .ok (.aload_n 0, 1) := dk_42 (dk_at dksJ32_remove_3 3 rfl rfl)
theorem dJ32_remove_74 : decode cJ32_remove 74 = .ok (.dup, 1) := dk_89 (dk_at dksJ32_remove_3 4 rfl rfl)
theorem dJ32_remove_75 : decode cJ32_remove 75 = .ok (.getfield 19, 3) := dk_180 0 19 (dk_at dksJ32_remove_3 5 rfl rfl)
theorem dJ32_remove_78 : decode cJ32_remove 78 = .ok (.iconst 1, 1) := dk_4 (dk_at dksJ32_remove_3 8 rfl rfl)
theorem dJ32_remove_79 : decode cJ32_remove 79 = .ok (.iadd, 1) := dk_96 (dk_at dksJ32_remove_3 9 rfl rfl)
theorem dJ32_remove_80 : decode cJ32_remove 80 = .ok (.putfield 19, 3) := dk_181 0 19 (dk_at dksJ32_remove_3 10 rfl rfl)
theorem dJ32_remove_83 : decode cJ32_remove 83 = .ok (.return_, 1) := dk_177 (dk_at dksJ32_remove_3 13 rfl rfl)
theorem q167 : (Jvm.Cond.initialized "java/util/LinkedList$ListItr") ∈ lw_all := lw_g (lw_at lw_m1 48 rfl) rfl
theorem q600 : (Jvm.Cond.fieldLink "java/util/LinkedList$ListItr" (13 : Nat) "java/util/LinkedList" "modCount" "I") ∈ lw_all := lw_g (lw_at lw_m3 1 rfl) rfl
theorem q624 : (Jvm.Cond.fieldLink "java/util/LinkedList$ListItr" (22 : Nat) "java/util/LinkedList" "size" "I") ∈ lw_all := lw_g (lw_at lw_m3 25 rfl) rfl
theorem q627 : (Jvm.Cond.fieldLink "java/util/LinkedList$ListItr" (59 : Nat) "java/util/LinkedList" "last" "Ljava/util/LinkedList$Node;") ∈ lw_all := lw_g (lw_at lw_m3 28 rfl) rfl
theorem q958 : (Jvm.Cond.instantiable "java/util/LinkedList$ListItr" (5 : Nat)) ∈ lw_all := lw_g (lw_at lw_m4 119 rfl) rfl
theorem q960 : (Jvm.Cond.instanceMethod ({ cls := "java/util/LinkedList$ListItr", name := "<init>", desc := "(Ljava/util/LinkedList;I)V" } : Jvm.MethodName)) ∈ lw_all := lw_g (lw_at lw_m4 121 rfl) rfl
theorem q961 : (Jvm.Cond.code ({ cls := "java/util/LinkedList$ListItr", name := "<init>", desc := "(Ljava/util/LinkedList;I)V" } : Jvm.MethodName) prog_79_method_1_code (3 : Nat) (Option.none : Option Jvm.ClassFile.FieldType)) ∈ lw_all := lw_g (lw_at lw_m4 122 rfl) rfl
theorem q962 : (Jvm.Cond.methodLink "java/util/LinkedList$ListItr" (7 : Nat) ({ cls := "java/lang/Object", name := "<init>", desc := "()V" } : Jvm.MethodName)) ∈ lw_all := lw_g (lw_at lw_m4 123 rfl) rfl
theorem q963 : (Jvm.Cond.methodLink "java/util/LinkedList$ListItr" (25 : Nat) ({ cls := "java/util/LinkedList", name := "node", desc := "(I)Ljava/util/LinkedList$Node;" } : Jvm.MethodName)) ∈ lw_all := lw_g (lw_at lw_m4 124 rfl) rfl
theorem q964 : (Jvm.Cond.fieldLink "java/util/LinkedList$ListItr" (46 : Nat) "java/util/LinkedList$ListItr" "lastReturned" "Ljava/util/LinkedList$Node;") ∈ lw_all := lw_g (lw_at lw_m4 125 rfl) rfl
theorem q965 : (Jvm.Cond.fieldLink "java/util/LinkedList$ListItr" (29 : Nat) "java/util/LinkedList$ListItr" "next" "Ljava/util/LinkedList$Node;") ∈ lw_all := lw_g (lw_at lw_m4 126 rfl) rfl
theorem q966 : (Jvm.Cond.fieldLink "java/util/LinkedList$ListItr" (33 : Nat) "java/util/LinkedList$ListItr" "nextIndex" "I") ∈ lw_all := lw_g (lw_at lw_m4 127 rfl) rfl
theorem q967 : (Jvm.Cond.fieldLink "java/util/LinkedList$ListItr" (19 : Nat) "java/util/LinkedList$ListItr" "expectedModCount" "I") ∈ lw_all := lw_g (lw_at lw_m4 128 rfl) rfl
theorem q968 : (Jvm.Cond.fieldLink "java/util/LinkedList$ListItr" (1 : Nat) "java/util/LinkedList$ListItr" "this$0" "Ljava/util/LinkedList;") ∈ lw_all := lw_g (lw_at lw_m4 129 rfl) rfl
theorem q969 : (Jvm.Cond.lays "java/util/LinkedList$ListItr" "java/util/LinkedList$ListItr" "lastReturned" "Ljava/util/LinkedList$Node;") ∈ lw_all := lw_g (lw_at lw_m4 130 rfl) rfl
theorem q970 : (Jvm.Cond.soleField "java/util/LinkedList$ListItr" "lastReturned") ∈ lw_all := lw_g (lw_at lw_m4 131 rfl) rfl
theorem q971 : (Jvm.Cond.lays "java/util/LinkedList$ListItr" "java/util/LinkedList$ListItr" "next" "Ljava/util/LinkedList$Node;") ∈ lw_all := lw_g (lw_at lw_m4 132 rfl) rfl
theorem q972 : (Jvm.Cond.soleField "java/util/LinkedList$ListItr" "next") ∈ lw_all := lw_g (lw_at lw_m4 133 rfl) rfl
theorem q973 : (Jvm.Cond.lays "java/util/LinkedList$ListItr" "java/util/LinkedList$ListItr" "nextIndex" "I") ∈ lw_all := lw_g (lw_at lw_m4 134 rfl) rfl
theorem q974 : (Jvm.Cond.soleField "java/util/LinkedList$ListItr" "nextIndex") ∈ lw_all := lw_g (lw_at lw_m4 135 rfl) rfl
theorem q975 : (Jvm.Cond.lays "java/util/LinkedList$ListItr" "java/util/LinkedList$ListItr" "expectedModCount" "I") ∈ lw_all := lw_g (lw_at lw_m4 136 rfl) rfl
theorem q976 : (Jvm.Cond.soleField "java/util/LinkedList$ListItr" "expectedModCount") ∈ lw_all := lw_g (lw_at lw_m4 137 rfl) rfl
theorem q977 : (Jvm.Cond.laysFinal "java/util/LinkedList$ListItr" "java/util/LinkedList$ListItr" "this$0" "Ljava/util/LinkedList;") ∈ lw_all := lw_g (lw_at lw_m4 138 rfl) rfl
theorem q978 : (Jvm.Cond.soleField "java/util/LinkedList$ListItr" "this$0") ∈ lw_all := lw_g (lw_at lw_m4 139 rfl) rfl
theorem q979 : (Jvm.Cond.superclass "java/util/LinkedList$ListItr" "java/lang/Object") ∈ lw_all := lw_g (lw_at lw_m4 140 rfl) rfl
theorem q1010 : (Jvm.Cond.instanceMethod ({ cls := "java/util/LinkedList$ListItr", name := "hasPrevious", desc := "()Z" } : Jvm.MethodName)) ∈ lw_all := lw_g (lw_at lw_m4 171 rfl) rfl
theorem q1011 : (Jvm.Cond.selects "java/util/LinkedList$ListItr" ({ cls := "java/util/LinkedList$ListItr", name := "hasPrevious", desc := "()Z" } : Jvm.MethodName) ({ cls := "java/util/LinkedList$ListItr", name := "hasPrevious", desc := "()Z" } : Jvm.MethodName)) ∈ lw_all := lw_g (lw_at lw_m4 172 rfl) rfl
theorem q1012 : (Jvm.Cond.code ({ cls := "java/util/LinkedList$ListItr", name := "hasPrevious", desc := "()Z" } : Jvm.MethodName) prog_79_method_4_code (1 : Nat) (Option.some Jvm.ClassFile.FieldType.boolean)) ∈ lw_all := lw_g (lw_at lw_m4 173 rfl) rfl
theorem q1013 : (Jvm.Cond.castable "java/util/LinkedList$ListItr" "java/util/Iterator") ∈ lw_tbl := lw_at lw_m4 174 rfl
theorem q1014 : (Jvm.Cond.selects "java/util/LinkedList$ListItr" ({ cls := "java/util/Iterator", name := "hasNext", desc := "()Z" } : Jvm.MethodName) ({ cls := "java/util/LinkedList$ListItr", name := "hasNext", desc := "()Z" } : Jvm.MethodName)) ∈ lw_all := lw_g (lw_at lw_m4 175 rfl) rfl
theorem q1015 : (Jvm.Cond.unhidden "java/util/LinkedList$ListItr" "hasNext" "()Z") ∈ lw_tbl := lw_at lw_m4 176 rfl
theorem q1016 : (Jvm.Cond.instanceMethod ({ cls := "java/util/LinkedList$ListItr", name := "hasNext", desc := "()Z" } : Jvm.MethodName)) ∈ lw_all := lw_g (lw_at lw_m4 177 rfl) rfl
theorem q1017 : (Jvm.Cond.publicMethod ({ cls := "java/util/LinkedList$ListItr", name := "hasNext", desc := "()Z" } : Jvm.MethodName)) ∈ lw_tbl := lw_at lw_m4 178 rfl
theorem q1018 : (Jvm.Cond.code ({ cls := "java/util/LinkedList$ListItr", name := "hasNext", desc := "()Z" } : Jvm.MethodName) prog_79_method_2_code (1 : Nat) (Option.some Jvm.ClassFile.FieldType.boolean)) ∈ lw_all := lw_g (lw_at lw_m4 179 rfl) rfl
theorem q1116 : (Jvm.Cond.selects "java/util/LinkedList$ListItr" ({ cls := "java/lang/Object", name := "getClass", desc := "()Ljava/lang/Class;" } : Jvm.MethodName) ({ cls := "java/lang/Object", name := "getClass", desc := "()Ljava/lang/Class;" } : Jvm.MethodName)) ∈ lw_all := lw_g (lw_at lw_m5 37 rfl) rfl
theorem q1184 : (Jvm.Cond.instanceMethod ({ cls := "java/util/LinkedList$ListItr", name := "previous", desc := "()Ljava/lang/Object;" } : Jvm.MethodName)) ∈ lw_all := lw_g (lw_at lw_m5 105 rfl) rfl
theorem q1185 : (Jvm.Cond.selects "java/util/LinkedList$ListItr" ({ cls := "java/util/LinkedList$ListItr", name := "previous", desc := "()Ljava/lang/Object;" } : Jvm.MethodName) ({ cls := "java/util/LinkedList$ListItr", name := "previous", desc := "()Ljava/lang/Object;" } : Jvm.MethodName)) ∈ lw_all := lw_g (lw_at lw_m5 106 rfl) rfl
theorem q1186 : (Jvm.Cond.code ({ cls := "java/util/LinkedList$ListItr", name := "previous", desc := "()Ljava/lang/Object;" } : Jvm.MethodName) prog_79_method_5_code (1 : Nat) (Option.some (Jvm.ClassFile.FieldType.object "java/lang/Object"))) ∈ lw_all := lw_g (lw_at lw_m5 107 rfl) rfl
theorem q1187 : (Jvm.Cond.methodLink "java/util/LinkedList$ListItr" (36 : Nat) ({ cls := "java/util/LinkedList$ListItr", name := "checkForComodification", desc := "()V" } : Jvm.MethodName)) ∈ lw_all := lw_g (lw_at lw_m5 108 rfl) rfl
theorem q1188 : (Jvm.Cond.instanceMethod ({ cls := "java/util/LinkedList$ListItr", name := "checkForComodification", desc := "()V" } : Jvm.MethodName)) ∈ lw_all := lw_g (lw_at lw_m5 109 rfl) rfl
theorem q1189 : (Jvm.Cond.selects "java/util/LinkedList$ListItr" ({ cls := "java/util/LinkedList$ListItr", name := "checkForComodification", desc := "()V" } : Jvm.MethodName) ({ cls := "java/util/LinkedList$ListItr", name := "checkForComodification", desc := "()V" } : Jvm.MethodName)) ∈ lw_all := lw_g (lw_at lw_m5 110 rfl) rfl
theorem q1190 : (Jvm.Cond.code ({ cls := "java/util/LinkedList$ListItr", name := "checkForComodification", desc := "()V" } : Jvm.MethodName) prog_79_method_12_code (1 : Nat) (Option.none : Option Jvm.ClassFile.FieldType)) ∈ lw_all := lw_g (lw_at lw_m5 111 rfl) rfl
theorem q1191 : (Jvm.Cond.methodLink "java/util/LinkedList$ListItr" (56 : Nat) ({ cls := "java/util/LinkedList$ListItr", name := "hasPrevious", desc := "()Z" } : Jvm.MethodName)) ∈ lw_all := lw_g (lw_at lw_m5 112 rfl) rfl
theorem q1192 : (Jvm.Cond.classLink "java/util/LinkedList$ListItr" (43 : Nat) "java/util/NoSuchElementException") ∈ lw_all := lw_g (lw_at lw_m5 113 rfl) rfl
theorem q1193 : (Jvm.Cond.methodLink "java/util/LinkedList$ListItr" (45 : Nat) ({ cls := "java/util/NoSuchElementException", name := "<init>", desc := "()V" } : Jvm.MethodName)) ∈ lw_all := lw_g (lw_at lw_m5 114 rfl) rfl
theorem q1194 : (Jvm.Cond.selects "java/util/LinkedList$ListItr" ({ cls := "java/util/Iterator", name := "next", desc := "()Ljava/lang/Object;" } : Jvm.MethodName) ({ cls := "java/util/LinkedList$ListItr", name := "next", desc := "()Ljava/lang/Object;" } : Jvm.MethodName)) ∈ lw_all := lw_g (lw_at lw_m5 115 rfl) rfl
theorem q1195 : (Jvm.Cond.unhidden "java/util/LinkedList$ListItr" "next" "()Ljava/lang/Object;") ∈ lw_tbl := lw_at lw_m5 116 rfl
theorem q1196 : (Jvm.Cond.instanceMethod ({ cls := "java/util/LinkedList$ListItr", name := "next", desc := "()Ljava/lang/Object;" } : Jvm.MethodName)) ∈ lw_all := lw_g (lw_at lw_m5 117 rfl) rfl
theorem q1197 : (Jvm.Cond.publicMethod ({ cls := "java/util/LinkedList$ListItr", name := "next", desc := "()Ljava/lang/Object;" } : Jvm.MethodName)) ∈ lw_tbl := lw_at lw_m5 118 rfl
theorem q1198 : (Jvm.Cond.code ({ cls := "java/util/LinkedList$ListItr", name := "next", desc := "()Ljava/lang/Object;" } : Jvm.MethodName) prog_79_method_3_code (1 : Nat) (Option.some (Jvm.ClassFile.FieldType.object "java/lang/Object"))) ∈ lw_all := lw_g (lw_at lw_m5 119 rfl) rfl
theorem q1199 : (Jvm.Cond.methodLink "java/util/LinkedList$ListItr" (39 : Nat) ({ cls := "java/util/LinkedList$ListItr", name := "hasNext", desc := "()Z" } : Jvm.MethodName)) ∈ lw_all := lw_g (lw_at lw_m5 120 rfl) rfl
theorem q1610 : (Jvm.Cond.fieldLink "java/util/LinkedList$ListItr" (52 : Nat) "java/util/LinkedList$Node" "item" "Ljava/lang/Object;") ∈ lw_all := lw_g (lw_at lw_m7 51 rfl) rfl
theorem q1613 : (Jvm.Cond.fieldLink "java/util/LinkedList$ListItr" (49 : Nat) "java/util/LinkedList$Node" "next" "Ljava/util/LinkedList$Node;") ∈ lw_all := lw_g (lw_at lw_m7 54 rfl) rfl
theorem q1616 : (Jvm.Cond.fieldLink "java/util/LinkedList$ListItr" (62 : Nat) "java/util/LinkedList$Node" "prev" "Ljava/util/LinkedList$Node;") ∈ lw_all := lw_g (lw_at lw_m7 57 rfl) rfl
theorem q2093 : (Jvm.Cond.instanceMethod ({ cls := "java/util/LinkedList$ListItr", name := "remove", desc := "()V" } : Jvm.MethodName)) ∈ lw_all := lw_g (lw_at lw_m9 54 rfl) rfl
theorem q2094 : (Jvm.Cond.selects "java/util/LinkedList$ListItr" ({ cls := "java/util/LinkedList$ListItr", name := "remove", desc := "()V" } : Jvm.MethodName) ({ cls := "java/util/LinkedList$ListItr", name := "remove", desc := "()V" } : Jvm.MethodName)) ∈ lw_all := lw_g (lw_at lw_m9 55 rfl) rfl
theorem q2095 : (Jvm.Cond.code ({ cls := "java/util/LinkedList$ListItr", name := "remove", desc := "()V" } : Jvm.MethodName) prog_79_method_8_code (2 : Nat) (Option.none : Option Jvm.ClassFile.FieldType)) ∈ lw_all := lw_g (lw_at lw_m9 56 rfl) rfl
theorem q2096 : (Jvm.Cond.classLink "java/util/LinkedList$ListItr" (65 : Nat) "java/lang/IllegalStateException") ∈ lw_all := lw_g (lw_at lw_m9 57 rfl) rfl
theorem q2097 : (Jvm.Cond.methodLink "java/util/LinkedList$ListItr" (67 : Nat) ({ cls := "java/lang/IllegalStateException", name := "<init>", desc := "()V" } : Jvm.MethodName)) ∈ lw_all := lw_g (lw_at lw_m9 58 rfl) rfl
theorem q2098 : (Jvm.Cond.methodLink "java/util/LinkedList$ListItr" (68 : Nat) ({ cls := "java/util/LinkedList", name := "unlink", desc := "(Ljava/util/LinkedList$Node;)Ljava/lang/Object;" } : Jvm.MethodName)) ∈ lw_all := lw_g (lw_at lw_m9 59 rfl) rfl
theorem q2099 : (Jvm.Cond.selects "java/util/LinkedList$ListItr" ({ cls := "java/util/Iterator", name := "remove", desc := "()V" } : Jvm.MethodName) ({ cls := "java/util/LinkedList$ListItr", name := "remove", desc := "()V" } : Jvm.MethodName)) ∈ lw_all := lw_g (lw_at lw_m9 60 rfl) rfl
theorem q2100 : (Jvm.Cond.unhidden "java/util/LinkedList$ListItr" "remove" "()V") ∈ lw_tbl := lw_at lw_m9 61 rfl
theorem q2101 : (Jvm.Cond.publicMethod ({ cls := "java/util/LinkedList$ListItr", name := "remove", desc := "()V" } : Jvm.MethodName)) ∈ lw_tbl := lw_at lw_m9 62 rfl
theorem q3510 : (Jvm.Cond.selects "java/util/LinkedList$ListItr" ({ cls := "java/util/LinkedList$ListItr", name := "hasNext", desc := "()Z" } : Jvm.MethodName) ({ cls := "java/util/LinkedList$ListItr", name := "hasNext", desc := "()Z" } : Jvm.MethodName)) ∈ lw_all := lw_g (lw_at lw_m15 31 rfl) rfl
theorem q3583 : (Jvm.Cond.castable "java/util/LinkedList$ListItr" "java/lang/Object") ∈ lw_tbl := lw_at lw_m15 104 rfl
theorem in_J32 : ∀ w ∈ wsJ320, w ∈ lw_all := lw_in wsJ320 [969, 971, 973, 975, 977] (by decide +kernel) (by decide +kernel)
/-! java/util/NoSuchElementException -/
set_option maxRecDepth 100000
def RJ33 : String := "java/util/NoSuchElementException"
def TJ33 : u_T := fun k => match k with
  | 0 => ("java/lang/Throwable", "cause", "Ljava/lang/Throwable;", false)
  | 1 => ("java/lang/Throwable", "stackTrace", "[Ljava/lang/StackTraceElement;", false)
  | 2 => ("java/lang/Throwable", "suppressedExceptions", "Ljava/util/List;", false)
  | 3 => ("java/lang/Throwable", "detailMessage", "Ljava/lang/String;", false)
  | 4 => ("java/lang/Throwable", "backtrace", "Ljava/lang/Object;", false)
  | _ => ("java/lang/Throwable", "depth", "I", false)
def tyJ33 : Nat → FieldType := fun k => match k with
  | 0 => .object "java/lang/Throwable"
  | 1 => .array (.object "java/lang/StackTraceElement")
  | 2 => .object "java/util/List"
  | 3 => .object "java/lang/String"
  | 4 => .object "java/lang/Object"
  | _ => .int
abbrev wsJ330 : List Cond := u_ws RJ33 TJ33 6
theorem nmJ33 : ∀ a, a < 6 → ∀ b, b < 6 → a ≠ b → (TJ33 a).2.1 ≠ (TJ33 b).2.1 := by decide +kernel
theorem tyJ33_ok : ∀ k, k < 6 → parseFieldDescriptor (TJ33 k).2.2.1 = some (tyJ33 k) := by decide +kernel
abbrev cJ33_init : ByteArray := prog_83_method_3_code
def yJ33_init : MethodName := ⟨RJ33, "<init>", "(Ljava/lang/Throwable;)V"⟩
def dkwJ33_init_0 : List UInt8 := [42, 43, 183, 0, 10, 177]
abbrev dktJ33_init_0 : List UInt8 := dkwJ33_init_0 ++ []
theorem dksJ33_init_0 : cJ33_init.data.toList.drop 0 = dktJ33_init_0 := by decide +kernel
theorem dJ33_init_0 : decode cJ33_init 0 = .ok (.aload_n 0, 1) := dk_42 (dk_at dksJ33_init_0 0 rfl rfl)
theorem dJ33_init_1 : decode cJ33_init 1 = .ok (.aload_n 1, 1) := dk_43 (dk_at dksJ33_init_0 1 rfl rfl)
theorem dJ33_init_2 : decode cJ33_init 2 = .ok (.invokespecial 10, 3) := dk_183 0 10 (dk_at dksJ33_init_0 2 rfl rfl)
theorem dJ33_init_5 : decode cJ33_init 5 = .ok (.return_, 1) := dk_177 (dk_at dksJ33_init_0 5 rfl rfl)
abbrev cJ33_init_2 : ByteArray := prog_83_method_1_code
def yJ33_init_2 : MethodName := ⟨RJ33, "<init>", "()V"⟩
theorem dJ33_init_2_0 : decode cJ33_init_2 0 = .ok (.aload_n 0, 1) := by decide +kernel
theorem dJ33_init_2_1 : decode cJ33_init_2 1 = .ok (.invokespecial 1, 3) := by decide +kernel
theorem dJ33_init_2_4 : decode cJ33_init_2 4 = .ok (.return_, 1) := by decide +kernel
theorem q168 : (Jvm.Cond.initialized "java/util/NoSuchElementException") ∈ lw_all := lw_g (lw_at lw_m1 49 rfl) rfl
theorem q316 : (Jvm.Cond.selects "java/util/NoSuchElementException" ({ cls := "java/lang/Throwable", name := "fillInStackTrace", desc := "()Ljava/lang/Throwable;" } : Jvm.MethodName) ({ cls := "java/lang/Throwable", name := "fillInStackTrace", desc := "()Ljava/lang/Throwable;" } : Jvm.MethodName)) ∈ lw_all := lw_g (lw_at lw_m1 197 rfl) rfl
theorem q1039 : (Jvm.Cond.instantiable "java/util/NoSuchElementException" (6 : Nat)) ∈ lw_all := lw_g (lw_at lw_m4 200 rfl) rfl
theorem q1040 : (Jvm.Cond.castable "java/util/NoSuchElementException" "java/util/NoSuchElementException") ∈ lw_tbl := lw_at lw_m4 201 rfl
theorem q1041 : (Jvm.Cond.selects "java/util/NoSuchElementException" ({ cls := "java/lang/Throwable", name := "fillInStackTrace", desc := "(I)Ljava/lang/Throwable;" } : Jvm.MethodName) ({ cls := "java/lang/Throwable", name := "fillInStackTrace", desc := "(I)Ljava/lang/Throwable;" } : Jvm.MethodName)) ∈ lw_all := lw_g (lw_at lw_m4 202 rfl) rfl
theorem q1042 : (Jvm.Cond.lays "java/util/NoSuchElementException" "java/lang/Throwable" "cause" "Ljava/lang/Throwable;") ∈ lw_all := lw_g (lw_at lw_m4 203 rfl) rfl
theorem q1043 : (Jvm.Cond.lays "java/util/NoSuchElementException" "java/lang/Throwable" "stackTrace" "[Ljava/lang/StackTraceElement;") ∈ lw_all := lw_g (lw_at lw_m4 204 rfl) rfl
theorem q1044 : (Jvm.Cond.lays "java/util/NoSuchElementException" "java/lang/Throwable" "suppressedExceptions" "Ljava/util/List;") ∈ lw_all := lw_g (lw_at lw_m4 205 rfl) rfl
theorem q1045 : (Jvm.Cond.lays "java/util/NoSuchElementException" "java/lang/Throwable" "detailMessage" "Ljava/lang/String;") ∈ lw_all := lw_g (lw_at lw_m4 206 rfl) rfl
theorem q1046 : (Jvm.Cond.lays "java/util/NoSuchElementException" "java/lang/Throwable" "backtrace" "Ljava/lang/Object;") ∈ lw_all := lw_g (lw_at lw_m4 207 rfl) rfl
theorem q1048 : (Jvm.Cond.instanceMethod ({ cls := "java/util/NoSuchElementException", name := "<init>", desc := "(Ljava/lang/Throwable;)V" } : Jvm.MethodName)) ∈ lw_all := lw_g (lw_at lw_m4 209 rfl) rfl
theorem q1049 : (Jvm.Cond.code ({ cls := "java/util/NoSuchElementException", name := "<init>", desc := "(Ljava/lang/Throwable;)V" } : Jvm.MethodName) prog_83_method_3_code (2 : Nat) (Option.none : Option Jvm.ClassFile.FieldType)) ∈ lw_all := lw_g (lw_at lw_m4 210 rfl) rfl
theorem q1050 : (Jvm.Cond.methodLink "java/util/NoSuchElementException" (10 : Nat) ({ cls := "java/lang/RuntimeException", name := "<init>", desc := "(Ljava/lang/Throwable;)V" } : Jvm.MethodName)) ∈ lw_all := lw_g (lw_at lw_m4 211 rfl) rfl
theorem q1072 : (Jvm.Cond.selects "java/util/NoSuchElementException" ({ cls := "java/lang/Throwable", name := "toString", desc := "()Ljava/lang/String;" } : Jvm.MethodName) ({ cls := "java/lang/Throwable", name := "toString", desc := "()Ljava/lang/String;" } : Jvm.MethodName)) ∈ lw_all := lw_g (lw_at lw_m4 233 rfl) rfl
theorem q1118 : (Jvm.Cond.selects "java/util/NoSuchElementException" ({ cls := "java/lang/Object", name := "getClass", desc := "()Ljava/lang/Class;" } : Jvm.MethodName) ({ cls := "java/lang/Object", name := "getClass", desc := "()Ljava/lang/Class;" } : Jvm.MethodName)) ∈ lw_all := lw_g (lw_at lw_m5 39 rfl) rfl
theorem q1133 : (Jvm.Cond.selects "java/util/NoSuchElementException" ({ cls := "java/lang/Throwable", name := "getLocalizedMessage", desc := "()Ljava/lang/String;" } : Jvm.MethodName) ({ cls := "java/lang/Throwable", name := "getLocalizedMessage", desc := "()Ljava/lang/String;" } : Jvm.MethodName)) ∈ lw_all := lw_g (lw_at lw_m5 54 rfl) rfl
theorem q1148 : (Jvm.Cond.selects "java/util/NoSuchElementException" ({ cls := "java/lang/Throwable", name := "getMessage", desc := "()Ljava/lang/String;" } : Jvm.MethodName) ({ cls := "java/lang/Throwable", name := "getMessage", desc := "()Ljava/lang/String;" } : Jvm.MethodName)) ∈ lw_all := lw_g (lw_at lw_m5 69 rfl) rfl
theorem q1155 : (Jvm.Cond.lays "java/util/NoSuchElementException" "java/lang/Throwable" "depth" "I") ∈ lw_all := lw_g (lw_at lw_m5 76 rfl) rfl
theorem q1156 : (Jvm.Cond.superclass "java/util/NoSuchElementException" "java/lang/RuntimeException") ∈ lw_all := lw_g (lw_at lw_m5 77 rfl) rfl
theorem q1169 : (Jvm.Cond.instanceMethod ({ cls := "java/util/NoSuchElementException", name := "<init>", desc := "()V" } : Jvm.MethodName)) ∈ lw_all := lw_g (lw_at lw_m5 90 rfl) rfl
theorem q1170 : (Jvm.Cond.code ({ cls := "java/util/NoSuchElementException", name := "<init>", desc := "()V" } : Jvm.MethodName) prog_83_method_1_code (1 : Nat) (Option.none : Option Jvm.ClassFile.FieldType)) ∈ lw_all := lw_g (lw_at lw_m5 91 rfl) rfl
theorem q1171 : (Jvm.Cond.methodLink "java/util/NoSuchElementException" (1 : Nat) ({ cls := "java/lang/RuntimeException", name := "<init>", desc := "()V" } : Jvm.MethodName)) ∈ lw_all := lw_g (lw_at lw_m5 92 rfl) rfl
theorem q3584 : (Jvm.Cond.castable "java/util/NoSuchElementException" "java/lang/Object") ∈ lw_tbl := lw_at lw_m15 105 rfl
theorem in_J33 : ∀ w ∈ wsJ330, w ∈ lw_all := lw_in wsJ330 [1042, 1043, 1044, 1045, 1046, 1155] (by decide +kernel) (by decide +kernel)
/-! java/util/LinkedList$Node -/
set_option maxRecDepth 100000
def RJ34 : String := "java/util/LinkedList$Node"
def TJ34 : u_T := fun k => match k with
  | 0 => ("java/util/LinkedList$Node", "item", "Ljava/lang/Object;", false)
  | 1 => ("java/util/LinkedList$Node", "next", "Ljava/util/LinkedList$Node;", false)
  | _ => ("java/util/LinkedList$Node", "prev", "Ljava/util/LinkedList$Node;", false)
def tyJ34 : Nat → FieldType := fun k => match k with
  | 0 => .object "java/lang/Object"
  | 1 => .object "java/util/LinkedList$Node"
  | _ => .object "java/util/LinkedList$Node"
abbrev wsJ340 : List Cond := u_ws RJ34 TJ34 3
theorem nmJ34 : ∀ a, a < 3 → ∀ b, b < 3 → a ≠ b → (TJ34 a).2.1 ≠ (TJ34 b).2.1 := by decide +kernel
theorem tyJ34_ok : ∀ k, k < 3 → parseFieldDescriptor (TJ34 k).2.2.1 = some (tyJ34 k) := by decide +kernel
abbrev cJ34_init : ByteArray := prog_80_method_1_code
def yJ34_init : MethodName := ⟨RJ34, "<init>", "(Ljava/util/LinkedList$Node;Ljava/lang/Object;Ljava/util/LinkedList$Node;)V"⟩
def dkwJ34_init_0 : List UInt8 := [42, 183, 0, 1, 42, 44, 181, 0, 7, 42, 45, 181, 0, 13, 42, 43, 181, 0, 17, 177]
abbrev dktJ34_init_0 : List UInt8 := dkwJ34_init_0 ++ []
theorem dksJ34_init_0 : cJ34_init.data.toList.drop 0 = dktJ34_init_0 := by decide +kernel
theorem dJ34_init_0 : decode cJ34_init 0 = .ok (.aload_n 0, 1) := dk_42 (dk_at dksJ34_init_0 0 rfl rfl)
theorem dJ34_init_1 : decode cJ34_init 1 = .ok (.invokespecial 1, 3) := dk_183 0 1 (dk_at dksJ34_init_0 1 rfl rfl)
theorem dJ34_init_4 : decode cJ34_init 4 = .ok (.aload_n 0, 1) := dk_42 (dk_at dksJ34_init_0 4 rfl rfl)
theorem dJ34_init_5 : decode cJ34_init 5 = .ok (.aload_n 2, 1) := dk_44 (dk_at dksJ34_init_0 5 rfl rfl)
theorem dJ34_init_6 : decode cJ34_init 6 = .ok (.putfield 7, 3) := dk_181 0 7 (dk_at dksJ34_init_0 6 rfl rfl)
theorem dJ34_init_9 : decode cJ34_init 9 = .ok (.aload_n 0, 1) := dk_42 (dk_at dksJ34_init_0 9 rfl rfl)
theorem dJ34_init_10 : decode cJ34_init 10 = .ok (.aload_n 3, 1) := dk_45 (dk_at dksJ34_init_0 10 rfl rfl)
theorem dJ34_init_11 : decode cJ34_init 11 = .ok (.putfield 13, 3) := dk_181 0 13 (dk_at dksJ34_init_0 11 rfl rfl)
theorem dJ34_init_14 : decode cJ34_init 14 = .ok (.aload_n 0, 1) := dk_42 (dk_at dksJ34_init_0 14 rfl rfl)
theorem dJ34_init_15 : decode cJ34_init 15 = .ok (.aload_n 1, 1) := dk_43 (dk_at dksJ34_init_0 15 rfl rfl)
theorem dJ34_init_16 : decode cJ34_init 16 = .ok (.putfield 17, 3) := dk_181 0 17 (dk_at dksJ34_init_0 16 rfl rfl)
theorem dJ34_init_19 : decode cJ34_init 19 = .ok (.return_, 1) := dk_177 (dk_at dksJ34_init_0 19 rfl rfl)
theorem q169 : (Jvm.Cond.initialized "java/util/LinkedList$Node") ∈ lw_all := lw_g (lw_at lw_m1 50 rfl) rfl
theorem q1117 : (Jvm.Cond.selects "java/util/LinkedList$Node" ({ cls := "java/lang/Object", name := "getClass", desc := "()Ljava/lang/Class;" } : Jvm.MethodName) ({ cls := "java/lang/Object", name := "getClass", desc := "()Ljava/lang/Class;" } : Jvm.MethodName)) ∈ lw_all := lw_g (lw_at lw_m5 38 rfl) rfl
theorem q1604 : (Jvm.Cond.instantiable "java/util/LinkedList$Node" (3 : Nat)) ∈ lw_all := lw_g (lw_at lw_m7 45 rfl) rfl
theorem q1606 : (Jvm.Cond.instanceMethod ({ cls := "java/util/LinkedList$Node", name := "<init>", desc := "(Ljava/util/LinkedList$Node;Ljava/lang/Object;Ljava/util/LinkedList$Node;)V" } : Jvm.MethodName)) ∈ lw_all := lw_g (lw_at lw_m7 47 rfl) rfl
theorem q1607 : (Jvm.Cond.code ({ cls := "java/util/LinkedList$Node", name := "<init>", desc := "(Ljava/util/LinkedList$Node;Ljava/lang/Object;Ljava/util/LinkedList$Node;)V" } : Jvm.MethodName) prog_80_method_1_code (4 : Nat) (Option.none : Option Jvm.ClassFile.FieldType)) ∈ lw_all := lw_g (lw_at lw_m7 48 rfl) rfl
theorem q1608 : (Jvm.Cond.methodLink "java/util/LinkedList$Node" (1 : Nat) ({ cls := "java/lang/Object", name := "<init>", desc := "()V" } : Jvm.MethodName)) ∈ lw_all := lw_g (lw_at lw_m7 49 rfl) rfl
theorem q1609 : (Jvm.Cond.fieldLink "java/util/LinkedList$Node" (7 : Nat) "java/util/LinkedList$Node" "item" "Ljava/lang/Object;") ∈ lw_all := lw_g (lw_at lw_m7 50 rfl) rfl
theorem q1612 : (Jvm.Cond.fieldLink "java/util/LinkedList$Node" (13 : Nat) "java/util/LinkedList$Node" "next" "Ljava/util/LinkedList$Node;") ∈ lw_all := lw_g (lw_at lw_m7 53 rfl) rfl
theorem q1615 : (Jvm.Cond.fieldLink "java/util/LinkedList$Node" (17 : Nat) "java/util/LinkedList$Node" "prev" "Ljava/util/LinkedList$Node;") ∈ lw_all := lw_g (lw_at lw_m7 56 rfl) rfl
theorem q1618 : (Jvm.Cond.lays "java/util/LinkedList$Node" "java/util/LinkedList$Node" "item" "Ljava/lang/Object;") ∈ lw_all := lw_g (lw_at lw_m7 59 rfl) rfl
theorem q1619 : (Jvm.Cond.soleField "java/util/LinkedList$Node" "item") ∈ lw_all := lw_g (lw_at lw_m7 60 rfl) rfl
theorem q1620 : (Jvm.Cond.lays "java/util/LinkedList$Node" "java/util/LinkedList$Node" "next" "Ljava/util/LinkedList$Node;") ∈ lw_all := lw_g (lw_at lw_m7 61 rfl) rfl
theorem q1621 : (Jvm.Cond.soleField "java/util/LinkedList$Node" "next") ∈ lw_all := lw_g (lw_at lw_m7 62 rfl) rfl
theorem q1622 : (Jvm.Cond.lays "java/util/LinkedList$Node" "java/util/LinkedList$Node" "prev" "Ljava/util/LinkedList$Node;") ∈ lw_all := lw_g (lw_at lw_m7 63 rfl) rfl
theorem q1623 : (Jvm.Cond.soleField "java/util/LinkedList$Node" "prev") ∈ lw_all := lw_g (lw_at lw_m7 64 rfl) rfl
theorem q1624 : (Jvm.Cond.superclass "java/util/LinkedList$Node" "java/lang/Object") ∈ lw_all := lw_g (lw_at lw_m7 65 rfl) rfl
theorem q3585 : (Jvm.Cond.castable "java/util/LinkedList$Node" "java/lang/Object") ∈ lw_tbl := lw_at lw_m15 106 rfl
theorem in_J34 : ∀ w ∈ wsJ340, w ∈ lw_all := lw_in wsJ340 [1618, 1620, 1622] (by decide +kernel) (by decide +kernel)
/-! java/lang/ArrayIndexOutOfBoundsException -/
set_option maxRecDepth 100000
def RJ35 : String := "java/lang/ArrayIndexOutOfBoundsException"
def TJ35 : u_T := fun k => match k with
  | 0 => ("java/lang/Throwable", "backtrace", "Ljava/lang/Object;", false)
  | 1 => ("java/lang/Throwable", "detailMessage", "Ljava/lang/String;", false)
  | 2 => ("java/lang/Throwable", "cause", "Ljava/lang/Throwable;", false)
  | 3 => ("java/lang/Throwable", "stackTrace", "[Ljava/lang/StackTraceElement;", false)
  | 4 => ("java/lang/Throwable", "depth", "I", false)
  | _ => ("java/lang/Throwable", "suppressedExceptions", "Ljava/util/List;", false)
def tyJ35 : Nat → FieldType := fun k => match k with
  | 0 => .object "java/lang/Object"
  | 1 => .object "java/lang/String"
  | 2 => .object "java/lang/Throwable"
  | 3 => .array (.object "java/lang/StackTraceElement")
  | 4 => .int
  | _ => .object "java/util/List"
abbrev wsJ350 : List Cond := u_ws RJ35 TJ35 6
theorem nmJ35 : ∀ a, a < 6 → ∀ b, b < 6 → a ≠ b → (TJ35 a).2.1 ≠ (TJ35 b).2.1 := by decide +kernel
theorem tyJ35_ok : ∀ k, k < 6 → parseFieldDescriptor (TJ35 k).2.2.1 = some (tyJ35 k) := by decide +kernel
abbrev cJ35_init : ByteArray := prog_29_method_2_code
def yJ35_init : MethodName := ⟨RJ35, "<init>", "(Ljava/lang/String;)V"⟩
def dkwJ35_init_0 : List UInt8 := [42, 43, 183, 0, 7, 177]
abbrev dktJ35_init_0 : List UInt8 := dkwJ35_init_0 ++ []
theorem dksJ35_init_0 : cJ35_init.data.toList.drop 0 = dktJ35_init_0 := by decide +kernel
theorem dJ35_init_0 : decode cJ35_init 0 = .ok (.aload_n 0, 1) := dk_42 (dk_at dksJ35_init_0 0 rfl rfl)
theorem dJ35_init_1 : decode cJ35_init 1 = .ok (.aload_n 1, 1) := dk_43 (dk_at dksJ35_init_0 1 rfl rfl)
theorem dJ35_init_2 : decode cJ35_init 2 = .ok (.invokespecial 7, 3) := dk_183 0 7 (dk_at dksJ35_init_0 2 rfl rfl)
theorem dJ35_init_5 : decode cJ35_init 5 = .ok (.return_, 1) := dk_177 (dk_at dksJ35_init_0 5 rfl rfl)
abbrev cJ35_init_2 : ByteArray := prog_29_method_3_code
def yJ35_init_2 : MethodName := ⟨RJ35, "<init>", "(I)V"⟩
def dkwJ35_init_2_0 : List UInt8 := [42, 187, 0, 10, 89, 183, 0, 12, 18, 13, 182, 0, 15, 27, 182, 0, 19, 182, 0, 22, 183, 0, 7, 177]
abbrev dktJ35_init_2_0 : List UInt8 := dkwJ35_init_2_0 ++ []
theorem dksJ35_init_2_0 : cJ35_init_2.data.toList.drop 0 = dktJ35_init_2_0 := by decide +kernel
theorem dJ35_init_2_0 : decode cJ35_init_2 0 = .ok (.aload_n 0, 1) := dk_42 (dk_at dksJ35_init_2_0 0 rfl rfl)
theorem dJ35_init_2_1 : decode cJ35_init_2 1 = .ok (.new 10, 3) := dk_187 0 10 (dk_at dksJ35_init_2_0 1 rfl rfl)
theorem dJ35_init_2_4 : decode cJ35_init_2 4 = .ok (.dup, 1) := dk_89 (dk_at dksJ35_init_2_0 4 rfl rfl)
theorem dJ35_init_2_5 : decode cJ35_init_2 5 = .ok (.invokespecial 12, 3) := dk_183 0 12 (dk_at dksJ35_init_2_0 5 rfl rfl)
theorem dJ35_init_2_8 : decode cJ35_init_2 8 = .ok (.ldc 13, 2) := dk_18 13 (dk_at dksJ35_init_2_0 8 rfl rfl)
theorem dJ35_init_2_10 : decode cJ35_init_2 10 = .ok (.invokevirtual 15, 3) := dk_182 0 15 (dk_at dksJ35_init_2_0 10 rfl rfl)
theorem dJ35_init_2_13 : decode cJ35_init_2 13 = .ok (.iload_n 1, 1) := dk_27 (dk_at dksJ35_init_2_0 13 rfl rfl)
theorem dJ35_init_2_14 : decode cJ35_init_2 14 = .ok (.invokevirtual 19, 3) := dk_182 0 19 (dk_at dksJ35_init_2_0 14 rfl rfl)
theorem dJ35_init_2_17 : decode cJ35_init_2 17 = .ok (.invokevirtual 22, 3) := dk_182 0 22 (dk_at dksJ35_init_2_0 17 rfl rfl)
theorem dJ35_init_2_20 : decode cJ35_init_2 20 = .ok (.invokespecial 7, 3) := dk_183 0 7 (dk_at dksJ35_init_2_0 20 rfl rfl)
theorem dJ35_init_2_23 : decode cJ35_init_2 23 = .ok (.return_, 1) := dk_177 (dk_at dksJ35_init_2_0 23 rfl rfl)
theorem q171 : (Jvm.Cond.initialized "java/lang/ArrayIndexOutOfBoundsException") ∈ lw_all := lw_g (lw_at lw_m1 52 rfl) rfl
theorem q309 : (Jvm.Cond.selects "java/lang/ArrayIndexOutOfBoundsException" ({ cls := "java/lang/Throwable", name := "fillInStackTrace", desc := "()Ljava/lang/Throwable;" } : Jvm.MethodName) ({ cls := "java/lang/Throwable", name := "fillInStackTrace", desc := "()Ljava/lang/Throwable;" } : Jvm.MethodName)) ∈ lw_all := lw_g (lw_at lw_m1 190 rfl) rfl
theorem q1064 : (Jvm.Cond.selects "java/lang/ArrayIndexOutOfBoundsException" ({ cls := "java/lang/Throwable", name := "toString", desc := "()Ljava/lang/String;" } : Jvm.MethodName) ({ cls := "java/lang/Throwable", name := "toString", desc := "()Ljava/lang/String;" } : Jvm.MethodName)) ∈ lw_all := lw_g (lw_at lw_m4 225 rfl) rfl
theorem q1097 : (Jvm.Cond.selects "java/lang/ArrayIndexOutOfBoundsException" ({ cls := "java/lang/Object", name := "getClass", desc := "()Ljava/lang/Class;" } : Jvm.MethodName) ({ cls := "java/lang/Object", name := "getClass", desc := "()Ljava/lang/Class;" } : Jvm.MethodName)) ∈ lw_all := lw_g (lw_at lw_m5 18 rfl) rfl
theorem q1125 : (Jvm.Cond.selects "java/lang/ArrayIndexOutOfBoundsException" ({ cls := "java/lang/Throwable", name := "getLocalizedMessage", desc := "()Ljava/lang/String;" } : Jvm.MethodName) ({ cls := "java/lang/Throwable", name := "getLocalizedMessage", desc := "()Ljava/lang/String;" } : Jvm.MethodName)) ∈ lw_all := lw_g (lw_at lw_m5 46 rfl) rfl
theorem q1140 : (Jvm.Cond.selects "java/lang/ArrayIndexOutOfBoundsException" ({ cls := "java/lang/Throwable", name := "getMessage", desc := "()Ljava/lang/String;" } : Jvm.MethodName) ({ cls := "java/lang/Throwable", name := "getMessage", desc := "()Ljava/lang/String;" } : Jvm.MethodName)) ∈ lw_all := lw_g (lw_at lw_m5 61 rfl) rfl
theorem q1796 : (Jvm.Cond.instantiable "java/lang/ArrayIndexOutOfBoundsException" (6 : Nat)) ∈ lw_all := lw_g (lw_at lw_m7 237 rfl) rfl
theorem q1797 : (Jvm.Cond.instanceMethod ({ cls := "java/lang/ArrayIndexOutOfBoundsException", name := "<init>", desc := "(Ljava/lang/String;)V" } : Jvm.MethodName)) ∈ lw_all := lw_g (lw_at lw_m7 238 rfl) rfl
theorem q1798 : (Jvm.Cond.code ({ cls := "java/lang/ArrayIndexOutOfBoundsException", name := "<init>", desc := "(Ljava/lang/String;)V" } : Jvm.MethodName) prog_29_method_2_code (2 : Nat) (Option.none : Option Jvm.ClassFile.FieldType)) ∈ lw_all := lw_g (lw_at lw_m7 239 rfl) rfl
theorem q1799 : (Jvm.Cond.methodLink "java/lang/ArrayIndexOutOfBoundsException" (7 : Nat) ({ cls := "java/lang/IndexOutOfBoundsException", name := "<init>", desc := "(Ljava/lang/String;)V" } : Jvm.MethodName)) ∈ lw_all := lw_g (lw_at lw_m8 0 rfl) rfl
theorem q1800 : (Jvm.Cond.lays "java/lang/ArrayIndexOutOfBoundsException" "java/lang/Throwable" "backtrace" "Ljava/lang/Object;") ∈ lw_all := lw_g (lw_at lw_m8 1 rfl) rfl
theorem q1801 : (Jvm.Cond.lays "java/lang/ArrayIndexOutOfBoundsException" "java/lang/Throwable" "detailMessage" "Ljava/lang/String;") ∈ lw_all := lw_g (lw_at lw_m8 2 rfl) rfl
theorem q1802 : (Jvm.Cond.lays "java/lang/ArrayIndexOutOfBoundsException" "java/lang/Throwable" "cause" "Ljava/lang/Throwable;") ∈ lw_all := lw_g (lw_at lw_m8 3 rfl) rfl
theorem q1803 : (Jvm.Cond.lays "java/lang/ArrayIndexOutOfBoundsException" "java/lang/Throwable" "stackTrace" "[Ljava/lang/StackTraceElement;") ∈ lw_all := lw_g (lw_at lw_m8 4 rfl) rfl
theorem q1804 : (Jvm.Cond.lays "java/lang/ArrayIndexOutOfBoundsException" "java/lang/Throwable" "depth" "I") ∈ lw_all := lw_g (lw_at lw_m8 5 rfl) rfl
theorem q1805 : (Jvm.Cond.lays "java/lang/ArrayIndexOutOfBoundsException" "java/lang/Throwable" "suppressedExceptions" "Ljava/util/List;") ∈ lw_all := lw_g (lw_at lw_m8 6 rfl) rfl
theorem q1806 : (Jvm.Cond.superclass "java/lang/ArrayIndexOutOfBoundsException" "java/lang/IndexOutOfBoundsException") ∈ lw_all := lw_g (lw_at lw_m8 7 rfl) rfl
theorem q1807 : (Jvm.Cond.castable "java/lang/ArrayIndexOutOfBoundsException" "java/lang/ArrayIndexOutOfBoundsException") ∈ lw_tbl := lw_at lw_m8 8 rfl
theorem q1810 : (Jvm.Cond.selects "java/lang/ArrayIndexOutOfBoundsException" ({ cls := "java/lang/Throwable", name := "fillInStackTrace", desc := "(I)Ljava/lang/Throwable;" } : Jvm.MethodName) ({ cls := "java/lang/Throwable", name := "fillInStackTrace", desc := "(I)Ljava/lang/Throwable;" } : Jvm.MethodName)) ∈ lw_all := lw_g (lw_at lw_m8 11 rfl) rfl
theorem q2776 : (Jvm.Cond.instanceMethod ({ cls := "java/lang/ArrayIndexOutOfBoundsException", name := "<init>", desc := "(I)V" } : Jvm.MethodName)) ∈ lw_all := lw_g (lw_at lw_m12 17 rfl) rfl
theorem q2777 : (Jvm.Cond.code ({ cls := "java/lang/ArrayIndexOutOfBoundsException", name := "<init>", desc := "(I)V" } : Jvm.MethodName) prog_29_method_3_code (2 : Nat) (Option.none : Option Jvm.ClassFile.FieldType)) ∈ lw_all := lw_g (lw_at lw_m12 18 rfl) rfl
theorem q2778 : (Jvm.Cond.classLink "java/lang/ArrayIndexOutOfBoundsException" (10 : Nat) "java/lang/StringBuilder") ∈ lw_all := lw_g (lw_at lw_m12 19 rfl) rfl
theorem q2779 : (Jvm.Cond.methodLink "java/lang/ArrayIndexOutOfBoundsException" (12 : Nat) ({ cls := "java/lang/StringBuilder", name := "<init>", desc := "()V" } : Jvm.MethodName)) ∈ lw_all := lw_g (lw_at lw_m12 20 rfl) rfl
theorem q2780 : (Jvm.Cond.stringRef "java/lang/ArrayIndexOutOfBoundsException" (13 : Nat) "Array index out of range: ") ∈ lw_tbl := lw_at lw_m12 21 rfl
theorem q2781 : (Jvm.Cond.methodLink "java/lang/ArrayIndexOutOfBoundsException" (15 : Nat) ({ cls := "java/lang/StringBuilder", name := "append", desc := "(Ljava/lang/String;)Ljava/lang/StringBuilder;" } : Jvm.MethodName)) ∈ lw_all := lw_g (lw_at lw_m12 22 rfl) rfl
theorem q2782 : (Jvm.Cond.methodLink "java/lang/ArrayIndexOutOfBoundsException" (19 : Nat) ({ cls := "java/lang/StringBuilder", name := "append", desc := "(I)Ljava/lang/StringBuilder;" } : Jvm.MethodName)) ∈ lw_all := lw_g (lw_at lw_m12 23 rfl) rfl
theorem q2783 : (Jvm.Cond.methodLink "java/lang/ArrayIndexOutOfBoundsException" (22 : Nat) ({ cls := "java/lang/StringBuilder", name := "toString", desc := "()Ljava/lang/String;" } : Jvm.MethodName)) ∈ lw_all := lw_g (lw_at lw_m12 24 rfl) rfl
theorem q3549 : (Jvm.Cond.castable "java/lang/ArrayIndexOutOfBoundsException" "java/lang/IndexOutOfBoundsException") ∈ lw_tbl := lw_at lw_m15 70 rfl
theorem q3586 : (Jvm.Cond.castable "java/lang/ArrayIndexOutOfBoundsException" "java/lang/Object") ∈ lw_tbl := lw_at lw_m15 107 rfl
theorem in_J35 : ∀ w ∈ wsJ350, w ∈ lw_all := lw_in wsJ350 [1800, 1801, 1802, 1803, 1804, 1805] (by decide +kernel) (by decide +kernel)
/-! java/util/ConcurrentModificationException -/
set_option maxRecDepth 100000
def RJ36 : String := "java/util/ConcurrentModificationException"
def TJ36 : u_T := fun k => match k with
  | 0 => ("java/lang/Throwable", "cause", "Ljava/lang/Throwable;", false)
  | 1 => ("java/lang/Throwable", "stackTrace", "[Ljava/lang/StackTraceElement;", false)
  | 2 => ("java/lang/Throwable", "suppressedExceptions", "Ljava/util/List;", false)
  | 3 => ("java/lang/Throwable", "detailMessage", "Ljava/lang/String;", false)
  | 4 => ("java/lang/Throwable", "backtrace", "Ljava/lang/Object;", false)
  | _ => ("java/lang/Throwable", "depth", "I", false)
def tyJ36 : Nat → FieldType := fun k => match k with
  | 0 => .object "java/lang/Throwable"
  | 1 => .array (.object "java/lang/StackTraceElement")
  | 2 => .object "java/util/List"
  | 3 => .object "java/lang/String"
  | 4 => .object "java/lang/Object"
  | _ => .int
abbrev wsJ360 : List Cond := u_ws RJ36 TJ36 6
theorem nmJ36 : ∀ a, a < 6 → ∀ b, b < 6 → a ≠ b → (TJ36 a).2.1 ≠ (TJ36 b).2.1 := by decide +kernel
theorem tyJ36_ok : ∀ k, k < 6 → parseFieldDescriptor (TJ36 k).2.2.1 = some (tyJ36 k) := by decide +kernel
abbrev cJ36_init : ByteArray := prog_68_method_1_code
def yJ36_init : MethodName := ⟨RJ36, "<init>", "()V"⟩
theorem dJ36_init_0 : decode cJ36_init 0 = .ok (.aload_n 0, 1) := by decide +kernel
theorem dJ36_init_1 : decode cJ36_init 1 = .ok (.invokespecial 1, 3) := by decide +kernel
theorem dJ36_init_4 : decode cJ36_init 4 = .ok (.return_, 1) := by decide +kernel
theorem q173 : (Jvm.Cond.initialized "java/util/ConcurrentModificationException") ∈ lw_all := lw_g (lw_at lw_m1 54 rfl) rfl
theorem q315 : (Jvm.Cond.selects "java/util/ConcurrentModificationException" ({ cls := "java/lang/Throwable", name := "fillInStackTrace", desc := "()Ljava/lang/Throwable;" } : Jvm.MethodName) ({ cls := "java/lang/Throwable", name := "fillInStackTrace", desc := "()Ljava/lang/Throwable;" } : Jvm.MethodName)) ∈ lw_all := lw_g (lw_at lw_m1 196 rfl) rfl
theorem q1071 : (Jvm.Cond.selects "java/util/ConcurrentModificationException" ({ cls := "java/lang/Throwable", name := "toString", desc := "()Ljava/lang/String;" } : Jvm.MethodName) ({ cls := "java/lang/Throwable", name := "toString", desc := "()Ljava/lang/String;" } : Jvm.MethodName)) ∈ lw_all := lw_g (lw_at lw_m4 232 rfl) rfl
theorem q1112 : (Jvm.Cond.selects "java/util/ConcurrentModificationException" ({ cls := "java/lang/Object", name := "getClass", desc := "()Ljava/lang/Class;" } : Jvm.MethodName) ({ cls := "java/lang/Object", name := "getClass", desc := "()Ljava/lang/Class;" } : Jvm.MethodName)) ∈ lw_all := lw_g (lw_at lw_m5 33 rfl) rfl
theorem q1132 : (Jvm.Cond.selects "java/util/ConcurrentModificationException" ({ cls := "java/lang/Throwable", name := "getLocalizedMessage", desc := "()Ljava/lang/String;" } : Jvm.MethodName) ({ cls := "java/lang/Throwable", name := "getLocalizedMessage", desc := "()Ljava/lang/String;" } : Jvm.MethodName)) ∈ lw_all := lw_g (lw_at lw_m5 53 rfl) rfl
theorem q1147 : (Jvm.Cond.selects "java/util/ConcurrentModificationException" ({ cls := "java/lang/Throwable", name := "getMessage", desc := "()Ljava/lang/String;" } : Jvm.MethodName) ({ cls := "java/lang/Throwable", name := "getMessage", desc := "()Ljava/lang/String;" } : Jvm.MethodName)) ∈ lw_all := lw_g (lw_at lw_m5 68 rfl) rfl
theorem q2063 : (Jvm.Cond.instantiable "java/util/ConcurrentModificationException" (6 : Nat)) ∈ lw_all := lw_g (lw_at lw_m9 24 rfl) rfl
theorem q2064 : (Jvm.Cond.castable "java/util/ConcurrentModificationException" "java/util/ConcurrentModificationException") ∈ lw_tbl := lw_at lw_m9 25 rfl
theorem q2065 : (Jvm.Cond.selects "java/util/ConcurrentModificationException" ({ cls := "java/lang/Throwable", name := "fillInStackTrace", desc := "(I)Ljava/lang/Throwable;" } : Jvm.MethodName) ({ cls := "java/lang/Throwable", name := "fillInStackTrace", desc := "(I)Ljava/lang/Throwable;" } : Jvm.MethodName)) ∈ lw_all := lw_g (lw_at lw_m9 26 rfl) rfl
theorem q2066 : (Jvm.Cond.lays "java/util/ConcurrentModificationException" "java/lang/Throwable" "cause" "Ljava/lang/Throwable;") ∈ lw_all := lw_g (lw_at lw_m9 27 rfl) rfl
theorem q2067 : (Jvm.Cond.lays "java/util/ConcurrentModificationException" "java/lang/Throwable" "stackTrace" "[Ljava/lang/StackTraceElement;") ∈ lw_all := lw_g (lw_at lw_m9 28 rfl) rfl
theorem q2068 : (Jvm.Cond.lays "java/util/ConcurrentModificationException" "java/lang/Throwable" "suppressedExceptions" "Ljava/util/List;") ∈ lw_all := lw_g (lw_at lw_m9 29 rfl) rfl
theorem q2069 : (Jvm.Cond.lays "java/util/ConcurrentModificationException" "java/lang/Throwable" "detailMessage" "Ljava/lang/String;") ∈ lw_all := lw_g (lw_at lw_m9 30 rfl) rfl
theorem q2070 : (Jvm.Cond.lays "java/util/ConcurrentModificationException" "java/lang/Throwable" "backtrace" "Ljava/lang/Object;") ∈ lw_all := lw_g (lw_at lw_m9 31 rfl) rfl
theorem q2072 : (Jvm.Cond.instanceMethod ({ cls := "java/util/ConcurrentModificationException", name := "<init>", desc := "()V" } : Jvm.MethodName)) ∈ lw_all := lw_g (lw_at lw_m9 33 rfl) rfl
theorem q2073 : (Jvm.Cond.code ({ cls := "java/util/ConcurrentModificationException", name := "<init>", desc := "()V" } : Jvm.MethodName) prog_68_method_1_code (1 : Nat) (Option.none : Option Jvm.ClassFile.FieldType)) ∈ lw_all := lw_g (lw_at lw_m9 34 rfl) rfl
theorem q2074 : (Jvm.Cond.methodLink "java/util/ConcurrentModificationException" (1 : Nat) ({ cls := "java/lang/RuntimeException", name := "<init>", desc := "()V" } : Jvm.MethodName)) ∈ lw_all := lw_g (lw_at lw_m9 35 rfl) rfl
theorem q2075 : (Jvm.Cond.lays "java/util/ConcurrentModificationException" "java/lang/Throwable" "depth" "I") ∈ lw_all := lw_g (lw_at lw_m9 36 rfl) rfl
theorem q2076 : (Jvm.Cond.superclass "java/util/ConcurrentModificationException" "java/lang/RuntimeException") ∈ lw_all := lw_g (lw_at lw_m9 37 rfl) rfl
theorem q3588 : (Jvm.Cond.castable "java/util/ConcurrentModificationException" "java/lang/Object") ∈ lw_tbl := lw_at lw_m15 109 rfl
theorem in_J36 : ∀ w ∈ wsJ360, w ∈ lw_all := lw_in wsJ360 [2066, 2067, 2068, 2069, 2070, 2075] (by decide +kernel) (by decide +kernel)
/-! java/lang/Float -/
set_option maxRecDepth 100000
def RJ37 : String := "java/lang/Float"
abbrev cJ37_floatToIntBits : ByteArray := prog_35_method_24_code
def yJ37_floatToIntBits : MethodName := ⟨RJ37, "floatToIntBits", "(F)I"⟩
def dkwJ37_floatToIntBits_0 : List UInt8 := [34, 184, 0, 59, 154, 0, 8, 34, 184, 0, 74, 172, 18, 77, 172]
abbrev dktJ37_floatToIntBits_0 : List UInt8 := dkwJ37_floatToIntBits_0 ++ []
theorem dksJ37_floatToIntBits_0 : cJ37_floatToIntBits.data.toList.drop 0 = dktJ37_floatToIntBits_0 := by decide +kernel
theorem dJ37_floatToIntBits_0 : decode cJ37_floatToIntBits 0 = .ok (.fload_n 0, 1) := dk_34 (dk_at dksJ37_floatToIntBits_0 0 rfl rfl)
theorem dJ37_floatToIntBits_1 : decode cJ37_floatToIntBits 1 = .ok (.invokestatic 59, 3) := dk_184 0 59 (dk_at dksJ37_floatToIntBits_0 1 rfl rfl)
theorem dJ37_floatToIntBits_4 : decode cJ37_floatToIntBits 4 = .ok (.ifCond .ne 8, 3) := dk_154 0 8 (dk_at dksJ37_floatToIntBits_0 4 rfl rfl)
theorem dJ37_floatToIntBits_7 : decode cJ37_floatToIntBits 7 = .ok (.fload_n 0, 1) := dk_34 (dk_at dksJ37_floatToIntBits_0 7 rfl rfl)
theorem dJ37_floatToIntBits_8 : decode cJ37_floatToIntBits 8 = .ok (.invokestatic 74, 3) := dk_184 0 74 (dk_at dksJ37_floatToIntBits_0 8 rfl rfl)
theorem dJ37_floatToIntBits_11 : decode cJ37_floatToIntBits 11 = .ok (.ireturn, 1) := dk_172 (dk_at dksJ37_floatToIntBits_0 11 rfl rfl)
theorem dJ37_floatToIntBits_12 : decode cJ37_floatToIntBits 12 = .ok (.ldc 77, 2) := dk_18 77 (dk_at dksJ37_floatToIntBits_0 12 rfl rfl)
theorem dJ37_floatToIntBits_14 : decode cJ37_floatToIntBits 14 = .ok (.ireturn, 1) := dk_172 (dk_at dksJ37_floatToIntBits_0 14 rfl rfl)
abbrev cJ37_isNaN : ByteArray := prog_35_method_6_code
def yJ37_isNaN : MethodName := ⟨RJ37, "isNaN", "(F)Z"⟩
def dkwJ37_isNaN_0 : List UInt8 := [34, 34, 149, 153, 0, 7, 4, 167, 0, 4, 3, 172]
abbrev dktJ37_isNaN_0 : List UInt8 := dkwJ37_isNaN_0 ++ []
theorem dksJ37_isNaN_0 : cJ37_isNaN.data.toList.drop 0 = dktJ37_isNaN_0 := by decide +kernel
theorem dJ37_isNaN_0 : decode cJ37_isNaN 0 = .ok (.fload_n 0, 1) := dk_34 (dk_at dksJ37_isNaN_0 0 rfl rfl)
theorem dJ37_isNaN_1 : decode cJ37_isNaN 1 = .ok (.fload_n 0, 1) := dk_34 (dk_at dksJ37_isNaN_0 1 rfl rfl)
theorem dJ37_isNaN_2 : decode cJ37_isNaN 2 = .ok (.fcmp .l, 1) := dk_149 (dk_at dksJ37_isNaN_0 2 rfl rfl)
theorem dJ37_isNaN_3 : decode cJ37_isNaN 3 = .ok (.ifCond .eq 7, 3) := dk_153 0 7 (dk_at dksJ37_isNaN_0 3 rfl rfl)
theorem dJ37_isNaN_6 : decode cJ37_isNaN 6 = .ok (.iconst 1, 1) := dk_4 (dk_at dksJ37_isNaN_0 6 rfl rfl)
theorem dJ37_isNaN_7 : decode cJ37_isNaN 7 = .ok (.goto 4, 3) := dk_167 0 4 (dk_at dksJ37_isNaN_0 7 rfl rfl)
theorem dJ37_isNaN_10 : decode cJ37_isNaN 10 = .ok (.iconst 0, 1) := dk_3 (dk_at dksJ37_isNaN_0 10 rfl rfl)
theorem dJ37_isNaN_11 : decode cJ37_isNaN 11 = .ok (.ireturn, 1) := dk_172 (dk_at dksJ37_isNaN_0 11 rfl rfl)
theorem q174 : (Jvm.Cond.initialized "java/lang/Float") ∈ lw_all := lw_g (lw_at lw_m1 55 rfl) rfl
theorem q2485 : (Jvm.Cond.static ({ cls := "java/lang/Float", name := "floatToIntBits", desc := "(F)I" } : Jvm.MethodName)) ∈ lw_all := lw_g (lw_at lw_m10 206 rfl) rfl
theorem q2486 : (Jvm.Cond.code ({ cls := "java/lang/Float", name := "floatToIntBits", desc := "(F)I" } : Jvm.MethodName) prog_35_method_24_code (1 : Nat) (Option.some Jvm.ClassFile.FieldType.int)) ∈ lw_all := lw_g (lw_at lw_m10 207 rfl) rfl
theorem q2487 : (Jvm.Cond.methodLink "java/lang/Float" (59 : Nat) ({ cls := "java/lang/Float", name := "isNaN", desc := "(F)Z" } : Jvm.MethodName)) ∈ lw_all := lw_g (lw_at lw_m10 208 rfl) rfl
theorem q2488 : (Jvm.Cond.static ({ cls := "java/lang/Float", name := "isNaN", desc := "(F)Z" } : Jvm.MethodName)) ∈ lw_all := lw_g (lw_at lw_m10 209 rfl) rfl
theorem q2489 : (Jvm.Cond.code ({ cls := "java/lang/Float", name := "isNaN", desc := "(F)Z" } : Jvm.MethodName) prog_35_method_6_code (1 : Nat) (Option.some Jvm.ClassFile.FieldType.boolean)) ∈ lw_all := lw_g (lw_at lw_m10 210 rfl) rfl
theorem q2490 : (Jvm.Cond.methodLink "java/lang/Float" (74 : Nat) ({ cls := "java/lang/Float", name := "floatToRawIntBits", desc := "(F)I" } : Jvm.MethodName)) ∈ lw_all := lw_g (lw_at lw_m10 211 rfl) rfl
theorem q2491 : (Jvm.Cond.static ({ cls := "java/lang/Float", name := "floatToRawIntBits", desc := "(F)I" } : Jvm.MethodName)) ∈ lw_all := lw_g (lw_at lw_m10 212 rfl) rfl
theorem q2492 : (Jvm.Cond.native ({ cls := "java/lang/Float", name := "floatToRawIntBits", desc := "(F)I" } : Jvm.MethodName)) ∈ lw_all := lw_g (lw_at lw_m10 213 rfl) rfl
theorem q2493 : (Jvm.Cond.constant "java/lang/Float" (77 : Nat) (2143289344 : Int32)) ∈ lw_all := lw_g (lw_at lw_m10 214 rfl) rfl
theorem q3373 : (Jvm.Cond.static ({ cls := "java/lang/Float", name := "intBitsToFloat", desc := "(I)F" } : Jvm.MethodName)) ∈ lw_all := lw_g (lw_at lw_m14 134 rfl) rfl
theorem q3374 : (Jvm.Cond.native ({ cls := "java/lang/Float", name := "intBitsToFloat", desc := "(I)F" } : Jvm.MethodName)) ∈ lw_all := lw_g (lw_at lw_m14 135 rfl) rfl
/-! java/util/BitSet -/
set_option maxRecDepth 100000
def RJ38 : String := "java/util/BitSet"
def TJ38 : u_T := fun k => match k with
  | 0 => ("java/util/BitSet", "words", "[J", false)
  | 1 => ("java/util/BitSet", "wordsInUse", "I", false)
  | _ => ("java/util/BitSet", "sizeIsSticky", "Z", false)
def tyJ38 : Nat → FieldType := fun k => match k with
  | 0 => .array .long
  | 1 => .int
  | _ => .boolean
abbrev wsJ380 : List Cond := u_ws RJ38 TJ38 3
theorem nmJ38 : ∀ a, a < 3 → ∀ b, b < 3 → a ≠ b → (TJ38 a).2.1 ≠ (TJ38 b).2.1 := by decide +kernel
theorem tyJ38_ok : ∀ k, k < 3 → parseFieldDescriptor (TJ38 k).2.2.1 = some (tyJ38 k) := by decide +kernel
abbrev cJ38_init : ByteArray := prog_66_method_5_code
def yJ38_init : MethodName := ⟨RJ38, "<init>", "(I)V"⟩
def dkwJ38_init_2 : List UInt8 := [27, 182, 0, 27, 42, 4, 181, 0, 24, 177]
abbrev dktJ38_init_2 : List UInt8 := dkwJ38_init_2 ++ []
def dkwJ38_init_1 : List UInt8 := [187, 0, 33, 89, 183, 0, 35, 18, 36, 182, 0, 38, 27, 182, 0, 42, 182, 0, 45, 183, 0, 49, 191, 42]
abbrev dktJ38_init_1 : List UInt8 := dkwJ38_init_1 ++ dktJ38_init_2
def dkwJ38_init_0 : List UInt8 := [42, 183, 0, 21, 42, 3, 181, 0, 7, 42, 3, 181, 0, 24, 27, 156, 0, 30, 187, 0, 31, 89]
abbrev dktJ38_init_0 : List UInt8 := dkwJ38_init_0 ++ dktJ38_init_1
theorem dksJ38_init_0 : cJ38_init.data.toList.drop 0 = dktJ38_init_0 := by decide +kernel
theorem dksJ38_init_1 : cJ38_init.data.toList.drop 22 = dktJ38_init_1 := dk_seg dksJ38_init_0 22 rfl rfl
theorem dksJ38_init_2 : cJ38_init.data.toList.drop 46 = dktJ38_init_2 := dk_seg dksJ38_init_1 24 rfl rfl
theorem dJ38_init_0 : decode cJ38_init 0 = .ok (.aload_n 0, 1) := dk_42 (dk_at dksJ38_init_0 0 rfl rfl)
theorem dJ38_init_1 : decode cJ38_init 1 = .ok (.invokespecial 21, 3) := dk_183 0 21 (dk_at dksJ38_init_0 1 rfl rfl)
theorem dJ38_init_4 : decode cJ38_init 4 = .ok (.aload_n 0, 1) := dk_42 (dk_at dksJ38_init_0 4 rfl rfl)
theorem dJ38_init_5 : decode cJ38_init 5 = .ok (.iconst 0, 1) := dk_3 (dk_at dksJ38_init_0 5 rfl rfl)
theorem dJ38_init_6 : decode cJ38_init 6 = .ok (.putfield 7, 3) := dk_181 0 7 (dk_at dksJ38_init_0 6 rfl rfl)
theorem dJ38_init_9 : decode cJ38_init 9 = .ok (.aload_n 0, 1) := dk_42 (dk_at dksJ38_init_0 9 rfl rfl)
theorem dJ38_init_10 : decode cJ38_init 10 = .ok (.iconst 0, 1) := dk_3 (dk_at dksJ38_init_0 10 rfl rfl)
theorem dJ38_init_11 : decode cJ38_init 11 = .ok (.putfield 24, 3) := dk_181 0 24 (dk_at dksJ38_init_0 11 rfl rfl)
theorem dJ38_init_14 : decode cJ38_init 14 = .ok (.iload_n 1, 1) := dk_27 (dk_at dksJ38_init_0 14 rfl rfl)
theorem dJ38_init_15 : decode cJ38_init 15 = .ok (.ifCond .ge 30, 3) := dk_156 0 30 (dk_at dksJ38_init_0 15 rfl rfl)
theorem dJ38_init_18 : decode cJ38_init 18 = .ok (.new 31, 3) := dk_187 0 31 (dk_at dksJ38_init_0 18 rfl rfl)
theorem dJ38_init_21 : decode cJ38_init 21 = .ok (.dup, 1) := dk_89 (dk_at dksJ38_init_0 21 rfl rfl)
theorem dJ38_init_22 : decode cJ38_init 22 = .ok (.new 33, 3) := dk_187 0 33 (dk_at dksJ38_init_1 0 rfl rfl)
theorem dJ38_init_25 : decode cJ38_init 25 = .ok (.dup, 1) := dk_89 (dk_at dksJ38_init_1 3 rfl rfl)
theorem dJ38_init_26 : decode cJ38_init 26 = .ok (.invokespecial 35, 3) := dk_183 0 35 (dk_at dksJ38_init_1 4 rfl rfl)
theorem dJ38_init_29 : decode cJ38_init 29 = .ok (.ldc 36, 2) := dk_18 36 (dk_at dksJ38_init_1 7 rfl rfl)
theorem dJ38_init_31 : decode cJ38_init 31 = .ok (.invokevirtual 38, 3) := dk_182 0 38 (dk_at dksJ38_init_1 9 rfl rfl)
theorem dJ38_init_34 : decode cJ38_init 34 = .ok (.iload_n 1, 1) := dk_27 (dk_at dksJ38_init_1 12 rfl rfl)
theorem dJ38_init_35 : decode cJ38_init 35 = .ok (.invokevirtual 42, 3) := dk_182 0 42 (dk_at dksJ38_init_1 13 rfl rfl)
theorem dJ38_init_38 : decode cJ38_init 38 = .ok (.invokevirtual 45, 3) := dk_182 0 45 (dk_at dksJ38_init_1 16 rfl rfl)
theorem dJ38_init_41 : decode cJ38_init 41 = .ok (.invokespecial 49, 3) := dk_183 0 49 (dk_at dksJ38_init_1 19 rfl rfl)
theorem dJ38_init_44 : decode cJ38_init 44 = .ok (.athrow, 1) := dk_191 (dk_at dksJ38_init_1 22 rfl rfl)
theorem dJ38_init_45 : decode cJ38_init 45 = .ok (.aload_n 0, 1) := dk_42 (dk_at dksJ38_init_1 23 rfl rfl)
theorem dJ38_init_46 : decode cJ38_init 46 = .ok (.iload_n 1, 1) := dk_27 (dk_at dksJ38_init_2 0 rfl rfl)
theorem dJ38_init_47 : decode cJ38_init 47 = .ok (.invokevirtual 27, 3) := dk_182 0 27 (dk_at dksJ38_init_2 1 rfl rfl)
theorem dJ38_init_50 : decode cJ38_init 50 = .ok (.aload_n 0, 1) := dk_42 (dk_at dksJ38_init_2 4 rfl rfl)
theorem dJ38_init_51 : decode cJ38_init 51 = .ok (.iconst 1, 1) := dk_4 (dk_at dksJ38_init_2 5 rfl rfl)
theorem dJ38_init_52 : decode cJ38_init 52 = .ok (.putfield 24, 3) := dk_181 0 24 (dk_at dksJ38_init_2 6 rfl rfl)
theorem dJ38_init_55 : decode cJ38_init 55 = .ok (.return_, 1) := dk_177 (dk_at dksJ38_init_2 9 rfl rfl)
abbrev cJ38_initWords : ByteArray := prog_66_method_6_code
def yJ38_initWords : MethodName := ⟨RJ38, "initWords", "(I)V"⟩
def dkwJ38_initWords_0 : List UInt8 := [42, 27, 4, 100, 184, 0, 52, 4, 96, 188, 11, 181, 0, 11, 177]
abbrev dktJ38_initWords_0 : List UInt8 := dkwJ38_initWords_0 ++ []
theorem dksJ38_initWords_0 : cJ38_initWords.data.toList.drop 0 = dktJ38_initWords_0 := by decide +kernel
theorem dJ38_initWords_0 : decode cJ38_initWords 0 = .ok (.aload_n 0, 1) := dk_42 (dk_at dksJ38_initWords_0 0 rfl rfl)
theorem dJ38_initWords_1 : decode cJ38_initWords 1 = .ok (.iload_n 1, 1) := dk_27 (dk_at dksJ38_initWords_0 1 rfl rfl)
theorem dJ38_initWords_2 : decode cJ38_initWords 2 = .ok (.iconst 1, 1) := dk_4 (dk_at dksJ38_initWords_0 2 rfl rfl)
theorem dJ38_initWords_3 : decode cJ38_initWords 3 = .ok (.isub, 1) := dk_100 (dk_at dksJ38_initWords_0 3 rfl rfl)
theorem dJ38_initWords_4 : decode cJ38_initWords 4 = .ok (.invokestatic 52, 3) := dk_184 0 52 (dk_at dksJ38_initWords_0 4 rfl rfl)
theorem dJ38_initWords_7 : decode cJ38_initWords 7 = .ok (.iconst 1, 1) := dk_4 (dk_at dksJ38_initWords_0 7 rfl rfl)
theorem dJ38_initWords_8 : decode cJ38_initWords 8 = .ok (.iadd, 1) := dk_96 (dk_at dksJ38_initWords_0 8 rfl rfl)
theorem dJ38_initWords_9 : decode cJ38_initWords 9 = .ok (.newarray .long, 2) := dk_188_11 (dk_at dksJ38_initWords_0 9 rfl rfl)
theorem dJ38_initWords_11 : decode cJ38_initWords 11 = .ok (.putfield 11, 3) := dk_181 0 11 (dk_at dksJ38_initWords_0 11 rfl rfl)
theorem dJ38_initWords_14 : decode cJ38_initWords 14 = .ok (.return_, 1) := dk_177 (dk_at dksJ38_initWords_0 14 rfl rfl)
abbrev cJ38_wordIndex : ByteArray := prog_66_method_1_code
def yJ38_wordIndex : MethodName := ⟨RJ38, "wordIndex", "(I)I"⟩
def dkwJ38_wordIndex_0 : List UInt8 := [26, 16, 6, 122, 172]
abbrev dktJ38_wordIndex_0 : List UInt8 := dkwJ38_wordIndex_0 ++ []
theorem dksJ38_wordIndex_0 : cJ38_wordIndex.data.toList.drop 0 = dktJ38_wordIndex_0 := by decide +kernel
theorem dJ38_wordIndex_0 : decode cJ38_wordIndex 0 = .ok (.iload_n 0, 1) := dk_26 (dk_at dksJ38_wordIndex_0 0 rfl rfl)
theorem dJ38_wordIndex_1 : decode cJ38_wordIndex 1 = .ok (.bipush 6, 2) := dk_16 6 (dk_at dksJ38_wordIndex_0 1 rfl rfl)
theorem dJ38_wordIndex_3 : decode cJ38_wordIndex 3 = .ok (.ishr, 1) := dk_122 (dk_at dksJ38_wordIndex_0 3 rfl rfl)
theorem dJ38_wordIndex_4 : decode cJ38_wordIndex 4 = .ok (.ireturn, 1) := dk_172 (dk_at dksJ38_wordIndex_0 4 rfl rfl)
abbrev cJ38_get : ByteArray := prog_66_method_26_code
def yJ38_get : MethodName := ⟨RJ38, "get", "(I)Z"⟩
def dkwJ38_get_2 : List UInt8 := [42, 180, 0, 11, 28, 47, 10, 27, 121, 127, 9, 148, 153, 0, 7, 4, 167, 0, 4, 3, 172]
abbrev dktJ38_get_2 : List UInt8 := dkwJ38_get_2 ++ []
def dkwJ38_get_1 : List UInt8 := [182, 0, 45, 183, 0, 146, 191, 42, 182, 0, 56, 27, 184, 0, 52, 61, 28, 42, 180, 0, 7, 162, 0, 22]
abbrev dktJ38_get_1 : List UInt8 := dkwJ38_get_1 ++ dktJ38_get_2
def dkwJ38_get_0 : List UInt8 := [27, 156, 0, 30, 187, 0, 142, 89, 187, 0, 33, 89, 183, 0, 35, 18, 153, 182, 0, 38, 27, 182, 0, 42]
abbrev dktJ38_get_0 : List UInt8 := dkwJ38_get_0 ++ dktJ38_get_1
theorem dksJ38_get_0 : cJ38_get.data.toList.drop 0 = dktJ38_get_0 := by decide +kernel
theorem dksJ38_get_1 : cJ38_get.data.toList.drop 24 = dktJ38_get_1 := dk_seg dksJ38_get_0 24 rfl rfl
theorem dksJ38_get_2 : cJ38_get.data.toList.drop 48 = dktJ38_get_2 := dk_seg dksJ38_get_1 24 rfl rfl
theorem dJ38_get_0 : decode cJ38_get 0 = .ok (.iload_n 1, 1) := dk_27 (dk_at dksJ38_get_0 0 rfl rfl)
theorem dJ38_get_1 : decode cJ38_get 1 = .ok (.ifCond .ge 30, 3) := dk_156 0 30 (dk_at dksJ38_get_0 1 rfl rfl)
theorem dJ38_get_4 : decode cJ38_get 4 = .ok (.new 142, 3) := dk_187 0 142 (dk_at dksJ38_get_0 4 rfl rfl)
theorem dJ38_get_7 : decode cJ38_get 7 = .ok (.dup, 1) := dk_89 (dk_at dksJ38_get_0 7 rfl rfl)
theorem dJ38_get_8 : decode cJ38_get 8 = .ok (.new 33, 3) := dk_187 0 33 (dk_at dksJ38_get_0 8 rfl rfl)
theorem dJ38_get_11 : decode cJ38_get 11 = .ok (.dup, 1) := dk_89 (dk_at dksJ38_get_0 11 rfl rfl)
theorem dJ38_get_12 : decode cJ38_get 12 = .ok (.invokespecial 35, 3) := dk_183 0 35 (dk_at dksJ38_get_0 12 rfl rfl)
theorem dJ38_get_15 : decode cJ38_get 15 = .ok (.ldc 153, 2) := dk_18 153 (dk_at dksJ38_get_0 15 rfl rfl)
theorem dJ38_get_17 : decode cJ38_get 17 = .ok (.invokevirtual 38, 3) := dk_182 0 38 (dk_at dksJ38_get_0 17 rfl rfl)
theorem dJ38_get_20 : decode cJ38_get 20 = .ok (.iload_n 1, 1) := dk_27 (dk_at dksJ38_get_0 20 rfl rfl)
theorem dJ38_get_21 : decode cJ38_get 21 = .ok (.invokevirtual 42, 3) := dk_182 0 42 (dk_at dksJ38_get_0 21 rfl rfl)
theorem dJ38_get_24 : decode cJ38_get 24 = .ok (.invokevirtual 45, 3) := dk_182 0 45 (dk_at dksJ38_get_1 0 rfl rfl)
theorem dJ38_get_27 : decode cJ38_get 27 = .ok (.invokespecial 146, 3) := dk_183 0 146 (dk_at dksJ38_get_1 3 rfl rfl)
theorem dJ38_get_30 : decode cJ38_get 30 = .ok (.athrow, 1) := dk_191 (dk_at dksJ38_get_1 6 rfl rfl)
theorem dJ38_get_31 : decode cJ38_get 31 = .ok (.aload_n 0, 1) := dk_42 (dk_at dksJ38_get_1 7 rfl rfl)
theorem dJ38_get_32 : decode cJ38_get 32 = .ok (.invokevirtual 56, 3) := dk_182 0 56 (dk_at dksJ38_get_1 8 rfl rfl)
theorem dJ38_get_35 : decode cJ38_get 35 = .ok (.iload_n 1, 1) := dk_27 (dk_at dksJ38_get_1 11 rfl rfl)
theorem dJ38_get_36 : decode cJ38_get 36 = .ok (.invokestatic 52, 3) := dk_184 0 52 (dk_at dksJ38_get_1 12 rfl rfl)
theorem dJ38_get_39 : decode cJ38_get 39 = .ok (.istore_n 2, 1) := dk_61 (dk_at dksJ38_get_1 15 rfl rfl)
theorem dJ38_get_40 : decode cJ38_get 40 = .ok (.iload_n 2, 1) := dk_28 (dk_at dksJ38_get_1 16 rfl rfl)
theorem dJ38_get_41 : decode cJ38_get 41 = .ok (.aload_n 0, 1) := dk_42 (dk_at dksJ38_get_1 17 rfl rfl)
theorem dJ38_get_42 : decode cJ38_get 42 = .ok (.getfield 7, 3) := dk_180 0 7 (dk_at dksJ38_get_1 18 rfl rfl)
theorem dJ38_get_45 : decode cJ38_get 45 = .ok (.if_icmp .ge 22, 3) := dk_162 0 22 (dk_at dksJ38_get_1 21 rfl rfl)
theorem dJ38_get_48 : decode cJ38_get 48 = .ok (.aload_n 0, 1) := dk_42 (dk_at dksJ38_get_2 0 rfl rfl)
theorem dJ38_get_49 : decode cJ38_get 49 = .ok (.getfield 11, 3) := dk_180 0 11 (dk_at dksJ38_get_2 1 rfl rfl)
theorem dJ38_get_52 : decode cJ38_get 52 = .ok (.iload_n 2, 1) := dk_28 (dk_at dksJ38_get_2 4 rfl rfl)
theorem dJ38_get_53 : decode cJ38_get 53 = .ok (.laload, 1) := dk_47 (dk_at dksJ38_get_2 5 rfl rfl)
theorem dJ38_get_54 : decode cJ38_get 54 = .ok (.lconst 1, 1) := dk_10 (dk_at dksJ38_get_2 6 rfl rfl)
theorem dJ38_get_55 : decode cJ38_get 55 = .ok (.iload_n 1, 1) := dk_27 (dk_at dksJ38_get_2 7 rfl rfl)
theorem dJ38_get_56 : decode cJ38_get 56 = .ok (.lshl, 1) := dk_121 (dk_at dksJ38_get_2 8 rfl rfl)
theorem dJ38_get_57 : decode cJ38_get 57 = .ok (.land, 1) := dk_127 (dk_at dksJ38_get_2 9 rfl rfl)
theorem dJ38_get_58 : decode cJ38_get 58 = .ok (.lconst 0, 1) := dk_9 (dk_at dksJ38_get_2 10 rfl rfl)
theorem dJ38_get_59 : decode cJ38_get 59 = .ok (.lcmp, 1) := dk_148 (dk_at dksJ38_get_2 11 rfl rfl)
theorem dJ38_get_60 : decode cJ38_get 60 = .ok (.ifCond .eq 7, 3) := dk_153 0 7 (dk_at dksJ38_get_2 12 rfl rfl)
theorem dJ38_get_63 : decode cJ38_get 63 = .ok (.iconst 1, 1) := dk_4 (dk_at dksJ38_get_2 15 rfl rfl)
theorem dJ38_get_64 : decode cJ38_get 64 = .ok (.goto 4, 3) := dk_167 0 4 (dk_at dksJ38_get_2 16 rfl rfl)
theorem dJ38_get_67 : decode cJ38_get 67 = .ok (.iconst 0, 1) := dk_3 (dk_at dksJ38_get_2 19 rfl rfl)
theorem dJ38_get_68 : decode cJ38_get 68 = .ok (.ireturn, 1) := dk_172 (dk_at dksJ38_get_2 20 rfl rfl)
abbrev cJ38_checkInvariants : ByteArray := prog_66_method_2_code
def yJ38_checkInvariants : MethodName := ⟨RJ38, "checkInvariants", "()V"⟩
def dkwJ38_checkInvariants_4 : List UInt8 := [180, 0, 7, 47, 9, 148, 153, 0, 11, 187, 0, 15, 89, 183, 0, 17, 191, 177]
abbrev dktJ38_checkInvariants_4 : List UInt8 := dkwJ38_checkInvariants_4 ++ []
def dkwJ38_checkInvariants_3 : List UInt8 := [178, 0, 3, 154, 0, 37, 42, 180, 0, 7, 42, 180, 0, 11, 190, 159, 0, 25, 42, 180, 0, 11, 42]
abbrev dktJ38_checkInvariants_3 : List UInt8 := dkwJ38_checkInvariants_3 ++ dktJ38_checkInvariants_4
def dkwJ38_checkInvariants_2 : List UInt8 := [155, 0, 15, 42, 180, 0, 7, 42, 180, 0, 11, 190, 164, 0, 11, 187, 0, 15, 89, 183, 0, 17, 191]
abbrev dktJ38_checkInvariants_2 : List UInt8 := dkwJ38_checkInvariants_2 ++ dktJ38_checkInvariants_3
def dkwJ38_checkInvariants_1 : List UInt8 := [9, 148, 154, 0, 11, 187, 0, 15, 89, 183, 0, 17, 191, 178, 0, 3, 154, 0, 30, 42, 180, 0, 7]
abbrev dktJ38_checkInvariants_1 : List UInt8 := dkwJ38_checkInvariants_1 ++ dktJ38_checkInvariants_2
def dkwJ38_checkInvariants_0 : List UInt8 := [178, 0, 3, 154, 0, 34, 42, 180, 0, 7, 153, 0, 27, 42, 180, 0, 11, 42, 180, 0, 7, 4, 100, 47]
abbrev dktJ38_checkInvariants_0 : List UInt8 := dkwJ38_checkInvariants_0 ++ dktJ38_checkInvariants_1
theorem dksJ38_checkInvariants_0 : cJ38_checkInvariants.data.toList.drop 0 = dktJ38_checkInvariants_0 := by decide +kernel
theorem dksJ38_checkInvariants_1 : cJ38_checkInvariants.data.toList.drop 24 = dktJ38_checkInvariants_1 := dk_seg dksJ38_checkInvariants_0 24 rfl rfl
theorem dksJ38_checkInvariants_2 : cJ38_checkInvariants.data.toList.drop 47 = dktJ38_checkInvariants_2 := dk_seg dksJ38_checkInvariants_1 23 rfl rfl
theorem dksJ38_checkInvariants_3 : cJ38_checkInvariants.data.toList.drop 70 = dktJ38_checkInvariants_3 := dk_seg dksJ38_checkInvariants_2 23 rfl rfl
theorem dksJ38_checkInvariants_4 : cJ38_checkInvariants.data.toList.drop 93 = dktJ38_checkInvariants_4 := dk_seg dksJ38_checkInvariants_3 23 rfl rfl
theorem dJ38_checkInvariants_0 : decode cJ38_checkInvariants 0 = .ok (.getstatic 3, 3) := dk_178 0 3 (dk_at dksJ38_checkInvariants_0 0 rfl rfl)
theorem dJ38_checkInvariants_3 : decode cJ38_checkInvariants 3 = .ok (.ifCond .ne 34, 3) := dk_154 0 34 (dk_at dksJ38_checkInvariants_0 3 rfl rfl)
theorem dJ38_checkInvariants_6 : decode cJ38_checkInvariants 6 = .ok (.aload_n 0, 1) := dk_42 (dk_at dksJ38_checkInvariants_0 6 rfl rfl)
theorem dJ38_checkInvariants_7 : decode cJ38_checkInvariants 7 = .ok (.getfield 7, 3) := dk_180 0 7 (dk_at dksJ38_checkInvariants_0 7 rfl rfl)
theorem dJ38_checkInvariants_10 : decode cJ38_checkInvariants 10 = .ok (.ifCond .eq 27, 3) := dk_153 0 27 (dk_at dksJ38_checkInvariants_0 10 rfl rfl)
theorem dJ38_checkInvariants_13 : decode cJ38_checkInvariants 13 = .ok (.aload_n 0, 1) := dk_42 (dk_at dksJ38_checkInvariants_0 13 rfl rfl)
theorem dJ38_checkInvariants_14 : decode cJ38_checkInvariants 14 = .ok (.getfield 11, 3) := dk_180 0 11 (dk_at dksJ38_checkInvariants_0 14 rfl rfl)
theorem dJ38_checkInvariants_17 : decode cJ38_checkInvariants 17 = .ok (.aload_n 0, 1) := dk_42 (dk_at dksJ38_checkInvariants_0 17 rfl rfl)
theorem dJ38_checkInvariants_18 : decode cJ38_checkInvariants 18 = .ok (.getfield 7, 3) := dk_180 0 7 (dk_at dksJ38_checkInvariants_0 18 rfl rfl)
theorem dJ38_checkInvariants_21 : decode cJ38_checkInvariants 21 = .ok (.iconst 1, 1) := dk_4 (dk_at dksJ38_checkInvariants_0 21 rfl rfl)
theorem dJ38_checkInvariants_22 : decode cJ38_checkInvariants 22 = .ok (.isub, 1) := dk_100 (dk_at dksJ38_checkInvariants_0 22 rfl rfl)
theorem dJ38_checkInvariants_23 : decode cJ38_checkInvariants 23 = .ok (.laload, 1) := dk_47 (dk_at dksJ38_checkInvariants_0 23 rfl rfl)
theorem dJ38_checkInvariants_24 : decode cJ38_checkInvariants 24 = .ok (.lconst 0, 1) := dk_9 (dk_at dksJ38_checkInvariants_1 0 rfl rfl)
theorem dJ38_checkInvariants_25 : decode cJ38_checkInvariants 25 = .ok (.lcmp, 1) := dk_148 (dk_at dksJ38_checkInvariants_1 1 rfl rfl)
theorem dJ38_checkInvariants_26 : decode cJ38_checkInvariants 26 = .ok (.ifCond .ne 11, 3) := dk_154 0 11 (dk_at dksJ38_checkInvariants_1 2 rfl rfl)
theorem dJ38_checkInvariants_29 : decode cJ38_checkInvariants 29 = .ok (.new 15, 3) := dk_187 0 15 (dk_at dksJ38_checkInvariants_1 5 rfl rfl)
theorem dJ38_checkInvariants_32 : decode cJ38_checkInvariants 32 = .ok (.dup, 1) := dk_89 (dk_at dksJ38_checkInvariants_1 8 rfl rfl)
theorem dJ38_checkInvariants_33 : decode cJ38_checkInvariants 33 = .ok (.invokespecial 17, 3) := dk_183 0 17 (dk_at dksJ38_checkInvariants_1 9 rfl rfl)
theorem dJ38_checkInvariants_36 : decode cJ38_checkInvariants 36 = .ok (.athrow, 1) := dk_191 (dk_at dksJ38_checkInvariants_1 12 rfl rfl)
theorem dJ38_checkInvariants_37 : decode cJ38_checkInvariants 37 = .ok (.getstatic 3, 3) := dk_178 0 3 (dk_at dksJ38_checkInvariants_1 13 rfl rfl)
theorem dJ38_checkInvariants_40 : decode cJ38_checkInvariants 40 = .ok (.ifCond .ne 30, 3) := dk_154 0 30 (dk_at dksJ38_checkInvariants_1 16 rfl rfl)
theorem dJ38_checkInvariants_43 : decode cJ38_checkInvariants 43 = .ok (.aload_n 0, 1) := dk_42 (dk_at dksJ38_checkInvariants_1 19 rfl rfl)
theorem dJ38_checkInvariants_44 : decode cJ38_checkInvariants 44 = .ok (.getfield 7, 3) := dk_180 0 7 (dk_at dksJ38_checkInvariants_1 20 rfl rfl)
theorem dJ38_checkInvariants_47 : decode cJ38_checkInvariants 47 = .ok (.ifCond .lt 15, 3) := dk_155 0 15 (dk_at dksJ38_checkInvariants_2 0 rfl rfl)
theorem dJ38_checkInvariants_50 : decode cJ38_checkInvariants 50 = .ok (.aload_n 0, 1) := dk_42 (dk_at dksJ38_checkInvariants_2 3 rfl rfl)
theorem dJ38_checkInvariants_51 : decode cJ38_checkInvariants 51 = .ok (.getfield 7, 3) := dk_180 0 7 (dk_at dksJ38_checkInvariants_2 4 rfl rfl)
theorem dJ38_checkInvariants_54 : decode cJ38_checkInvariants 54 = .ok (.aload_n 0, 1) := dk_42 (dk_at dksJ38_checkInvariants_2 7 rfl rfl)
theorem dJ38_checkInvariants_55 : decode cJ38_checkInvariants 55 = .ok (.getfield 11, 3) := dk_180 0 11 (dk_at dksJ38_checkInvariants_2 8 rfl rfl)
theorem dJ38_checkInvariants_58 : decode cJ38_checkInvariants 58 = .ok (.arraylength, 1) := dk_190 (dk_at dksJ38_checkInvariants_2 11 rfl rfl)
theorem dJ38_checkInvariants_59 : decode cJ38_checkInvariants 59 = .ok (.if_icmp .le 11, 3) := dk_164 0 11 (dk_at dksJ38_checkInvariants_2 12 rfl rfl)
theorem dJ38_checkInvariants_62 : decode cJ38_checkInvariants 62 = .ok (.new 15, 3) := dk_187 0 15 (dk_at dksJ38_checkInvariants_2 15 rfl rfl)
theorem dJ38_checkInvariants_65 : decode cJ38_checkInvariants 65 = .ok (.dup, 1) := dk_89 (dk_at dksJ38_checkInvariants_2 18 rfl rfl)
theorem dJ38_checkInvariants_66 : decode cJ38_checkInvariants 66 = .ok (.invokespecial 17, 3) := dk_183 0 17 (dk_at dksJ38_checkInvariants_2 19 rfl rfl)
theorem dJ38_checkInvariants_69 : decode cJ38_checkInvariants 69 = .ok (.athrow, 1) := dk_191 (dk_at dksJ38_checkInvariants_2 22 rfl rfl)
theorem dJ38_checkInvariants_70 : decode cJ38_checkInvariants 70 = .ok (.getstatic 3, 3) := dk_178 0 3 (dk_at dksJ38_checkInvariants_3 0 rfl rfl)
theorem dJ38_checkInvariants_73 : decode cJ38_checkInvariants 73 = .ok (.ifCond .ne 37, 3) := dk_154 0 37 (dk_at dksJ38_checkInvariants_3 3 rfl rfl)
theorem dJ38_checkInvariants_76 : decode cJ38_checkInvariants 76 = .ok (.aload_n 0, 1) := dk_42 (dk_at dksJ38_checkInvariants_3 6 rfl rfl)
theorem dJ38_checkInvariants_77 : decode cJ38_checkInvariants 77 = .ok (.getfield 7, 3) := dk_180 0 7 (dk_at dksJ38_checkInvariants_3 7 rfl rfl)
theorem dJ38_checkInvariants_80 : decode cJ38_checkInvariants 80 = .ok (.aload_n 0, 1) := dk_42 (dk_at dksJ38_checkInvariants_3 10 rfl rfl)
theorem dJ38_checkInvariants_81 : decode cJ38_checkInvariants 81 = .ok (.getfield 11, 3) := dk_180 0 11 (dk_at dksJ38_checkInvariants_3 11 rfl rfl)
theorem dJ38_checkInvariants_84 : decode cJ38_checkInvariants 84 = .ok (.arraylength, 1) := dk_190 (dk_at dksJ38_checkInvariants_3 14 rfl rfl)
theorem dJ38_checkInvariants_85 : decode cJ38_checkInvariants 85 = .ok (.if_icmp .eq 25, 3) := dk_159 0 25 (dk_at dksJ38_checkInvariants_3 15 rfl rfl)
theorem dJ38_checkInvariants_88 : decode cJ38_checkInvariants 88 = .ok (.aload_n 0, 1) := dk_42 (dk_at dksJ38_checkInvariants_3 18 rfl rfl)
theorem dJ38_checkInvariants_89 : decode cJ38_checkInvariants 89 = .ok (.getfield 11, 3) := dk_180 0 11 (dk_at dksJ38_checkInvariants_3 19 rfl rfl)
theorem dJ38_checkInvariants_92 : decode cJ38_checkInvariants 92 = .ok (.aload_n 0, 1) := dk_42 (dk_at dksJ38_checkInvariants_3 22 rfl rfl)
theorem dJ38_checkInvariants_93 : decode cJ38_checkInvariants 93 = .ok (.getfield 7, 3) := dk_180 0 7 (dk_at dksJ38_checkInvariants_4 0 rfl rfl)
theorem dJ38_checkInvariants_96 : decode cJ38_checkInvariants 96 = .ok (.laload, 1) := dk_47 (dk_at dksJ38_checkInvariants_4 3 rfl rfl)
theorem dJ38_checkInvariants_97 : decode cJ38_checkInvariants 97 = .ok (.lconst 0, 1) := dk_9 (dk_at dksJ38_checkInvariants_4 4 rfl rfl)
theorem dJ38_checkInvariants_98 : decode cJ38_checkInvariants 98 = .ok (.lcmp, 1) := dk_148 (dk_at dksJ38_checkInvariants_4 5 rfl rfl)
theorem dJ38_checkInvariants_99 : decode cJ38_checkInvariants 99 = .ok (.ifCond .eq 11, 3) := dk_153 0 11 (dk_at dksJ38_checkInvariants_4 6 rfl rfl)
theorem dJ38_checkInvariants_102 : decode cJ38_checkInvariants 102 = .ok (.new 15, 3) := dk_187 0 15 (dk_at dksJ38_checkInvariants_4 9 rfl rfl)
theorem dJ38_checkInvariants_105 : decode cJ38_checkInvariants 105 = .ok (.dup, 1) := dk_89 (dk_at dksJ38_checkInvariants_4 12 rfl rfl)
theorem dJ38_checkInvariants_106 : decode cJ38_checkInvariants 106 = .ok (.invokespecial 17, 3) := dk_183 0 17 (dk_at dksJ38_checkInvariants_4 13 rfl rfl)
theorem dJ38_checkInvariants_109 : decode cJ38_checkInvariants 109 = .ok (.athrow, 1) := dk_191 (dk_at dksJ38_checkInvariants_4 16 rfl rfl)
theorem dJ38_checkInvariants_110 : decode cJ38_checkInvariants 110 = .ok (.return_, 1) := dk_177 (dk_at dksJ38_checkInvariants_4 17 rfl rfl)
abbrev cJ38_set : ByteArray := prog_66_method_19_code
def yJ38_set : MethodName := ⟨RJ38, "set", "(I)V"⟩
def dkwJ38_set_2 : List UInt8 := [10, 27, 121, 129, 80, 42, 182, 0, 56, 177]
abbrev dktJ38_set_2 : List UInt8 := dkwJ38_set_2 ++ []
def dkwJ38_set_1 : List UInt8 := [182, 0, 45, 183, 0, 146, 191, 27, 184, 0, 52, 61, 42, 28, 182, 0, 155, 42, 180, 0, 11, 28, 92, 47]
abbrev dktJ38_set_1 : List UInt8 := dkwJ38_set_1 ++ dktJ38_set_2
def dkwJ38_set_0 : List UInt8 := [27, 156, 0, 30, 187, 0, 142, 89, 187, 0, 33, 89, 183, 0, 35, 18, 153, 182, 0, 38, 27, 182, 0, 42]
abbrev dktJ38_set_0 : List UInt8 := dkwJ38_set_0 ++ dktJ38_set_1
theorem dksJ38_set_0 : cJ38_set.data.toList.drop 0 = dktJ38_set_0 := by decide +kernel
theorem dksJ38_set_1 : cJ38_set.data.toList.drop 24 = dktJ38_set_1 := dk_seg dksJ38_set_0 24 rfl rfl
theorem dksJ38_set_2 : cJ38_set.data.toList.drop 48 = dktJ38_set_2 := dk_seg dksJ38_set_1 24 rfl rfl
theorem dJ38_set_0 : decode cJ38_set 0 = .ok (.iload_n 1, 1) := dk_27 (dk_at dksJ38_set_0 0 rfl rfl)
theorem dJ38_set_1 : decode cJ38_set 1 = .ok (.ifCond .ge 30, 3) := dk_156 0 30 (dk_at dksJ38_set_0 1 rfl rfl)
theorem dJ38_set_4 : decode cJ38_set 4 = .ok (.new 142, 3) := dk_187 0 142 (dk_at dksJ38_set_0 4 rfl rfl)
theorem dJ38_set_7 : decode cJ38_set 7 = .ok (.dup, 1) := dk_89 (dk_at dksJ38_set_0 7 rfl rfl)
theorem dJ38_set_8 : decode cJ38_set 8 = .ok (.new 33, 3) := dk_187 0 33 (dk_at dksJ38_set_0 8 rfl rfl)
theorem dJ38_set_11 : decode cJ38_set 11 = .ok (.dup, 1) := dk_89 (dk_at dksJ38_set_0 11 rfl rfl)
theorem dJ38_set_12 : decode cJ38_set 12 = .ok (.invokespecial 35, 3) := dk_183 0 35 (dk_at dksJ38_set_0 12 rfl rfl)
theorem dJ38_set_15 : decode cJ38_set 15 = .ok (.ldc 153, 2) := dk_18 153 (dk_at dksJ38_set_0 15 rfl rfl)
theorem dJ38_set_17 : decode cJ38_set 17 = .ok (.invokevirtual 38, 3) := dk_182 0 38 (dk_at dksJ38_set_0 17 rfl rfl)
theorem dJ38_set_20 : decode cJ38_set 20 = .ok (.iload_n 1, 1) := dk_27 (dk_at dksJ38_set_0 20 rfl rfl)
theorem dJ38_set_21 : decode cJ38_set 21 = .ok (.invokevirtual 42, 3) := dk_182 0 42 (dk_at dksJ38_set_0 21 rfl rfl)
theorem dJ38_set_24 : decode cJ38_set 24 = .ok (.invokevirtual 45, 3) := dk_182 0 45 (dk_at dksJ38_set_1 0 rfl rfl)
theorem dJ38_set_27 : decode cJ38_set 27 = .ok (.invokespecial 146, 3) := dk_183 0 146 (dk_at dksJ38_set_1 3 rfl rfl)
theorem dJ38_set_30 : decode cJ38_set 30 = .ok (.athrow, 1) := dk_191 (dk_at dksJ38_set_1 6 rfl rfl)
theorem dJ38_set_31 : decode cJ38_set 31 = .ok (.iload_n 1, 1) := dk_27 (dk_at dksJ38_set_1 7 rfl rfl)
theorem dJ38_set_32 : decode cJ38_set 32 = .ok (.invokestatic 52, 3) := dk_184 0 52 (dk_at dksJ38_set_1 8 rfl rfl)
theorem dJ38_set_35 : decode cJ38_set 35 = .ok (.istore_n 2, 1) := dk_61 (dk_at dksJ38_set_1 11 rfl rfl)
theorem dJ38_set_36 : decode cJ38_set 36 = .ok (.aload_n 0, 1) := dk_42 (dk_at dksJ38_set_1 12 rfl rfl)
theorem dJ38_set_37 : decode cJ38_set 37 = .ok (.iload_n 2, 1) := dk_28 (dk_at dksJ38_set_1 13 rfl rfl)
theorem dJ38_set_38 : decode cJ38_set 38 = .ok (.invokevirtual 155, 3) := dk_182 0 155 (dk_at dksJ38_set_1 14 rfl rfl)
theorem dJ38_set_41 : decode cJ38_set 41 = .ok (.aload_n 0, 1) := dk_42 (dk_at dksJ38_set_1 17 rfl rfl)
theorem dJ38_set_42 : decode cJ38_set 42 = .ok (.getfield 11, 3) := dk_180 0 11 (dk_at dksJ38_set_1 18 rfl rfl)
theorem dJ38_set_45 : decode cJ38_set 45 = .ok (.iload_n 2, 1) := dk_28 (dk_at dksJ38_set_1 21 rfl rfl)
theorem dJ38_set_46 : decode cJ38_set 46 = .ok (.dup2, 1) := dk_92 (dk_at dksJ38_set_1 22 rfl rfl)
theorem dJ38_set_47 : decode cJ38_set 47 = .ok (.laload, 1) := dk_47 (dk_at dksJ38_set_1 23 rfl rfl)
theorem dJ38_set_48 : decode cJ38_set 48 = .ok (.lconst 1, 1) := dk_10 (dk_at dksJ38_set_2 0 rfl rfl)
theorem dJ38_set_49 : decode cJ38_set 49 = .ok (.iload_n 1, 1) := dk_27 (dk_at dksJ38_set_2 1 rfl rfl)
theorem dJ38_set_50 : decode cJ38_set 50 = .ok (.lshl, 1) := dk_121 (dk_at dksJ38_set_2 2 rfl rfl)
theorem dJ38_set_51 : decode cJ38_set 51 = .ok (.lor, 1) := dk_129 (dk_at dksJ38_set_2 3 rfl rfl)
theorem dJ38_set_52 : decode cJ38_set 52 = .ok (.lastore, 1) := dk_80 (dk_at dksJ38_set_2 4 rfl rfl)
theorem dJ38_set_53 : decode cJ38_set 53 = .ok (.aload_n 0, 1) := dk_42 (dk_at dksJ38_set_2 5 rfl rfl)
theorem dJ38_set_54 : decode cJ38_set 54 = .ok (.invokevirtual 56, 3) := dk_182 0 56 (dk_at dksJ38_set_2 6 rfl rfl)
theorem dJ38_set_57 : decode cJ38_set 57 = .ok (.return_, 1) := dk_177 (dk_at dksJ38_set_2 9 rfl rfl)
abbrev cJ38_expandTo : ByteArray := prog_66_method_15_code
def yJ38_expandTo : MethodName := ⟨RJ38, "expandTo", "(I)V"⟩
def dkwJ38_expandTo_0 : List UInt8 := [27, 4, 96, 61, 42, 180, 0, 7, 28, 162, 0, 13, 42, 28, 182, 0, 139, 42, 28, 181, 0, 7, 177]
abbrev dktJ38_expandTo_0 : List UInt8 := dkwJ38_expandTo_0 ++ []
theorem dksJ38_expandTo_0 : cJ38_expandTo.data.toList.drop 0 = dktJ38_expandTo_0 := by decide +kernel
theorem dJ38_expandTo_0 : decode cJ38_expandTo 0 = .ok (.iload_n 1, 1) := dk_27 (dk_at dksJ38_expandTo_0 0 rfl rfl)
theorem dJ38_expandTo_1 : decode cJ38_expandTo 1 = .ok (.iconst 1, 1) := dk_4 (dk_at dksJ38_expandTo_0 1 rfl rfl)
theorem dJ38_expandTo_2 : decode cJ38_expandTo 2 = .ok (.iadd, 1) := dk_96 (dk_at dksJ38_expandTo_0 2 rfl rfl)
theorem dJ38_expandTo_3 : decode cJ38_expandTo 3 = .ok (.istore_n 2, 1) := dk_61 (dk_at dksJ38_expandTo_0 3 rfl rfl)
theorem dJ38_expandTo_4 : decode cJ38_expandTo 4 = .ok (.aload_n 0, 1) := dk_42 (dk_at dksJ38_expandTo_0 4 rfl rfl)
theorem dJ38_expandTo_5 : decode cJ38_expandTo 5 = .ok (.getfield 7, 3) := dk_180 0 7 (dk_at dksJ38_expandTo_0 5 rfl rfl)
theorem dJ38_expandTo_8 : decode cJ38_expandTo 8 = .ok (.iload_n 2, 1) := dk_28 (dk_at dksJ38_expandTo_0 8 rfl rfl)
theorem dJ38_expandTo_9 : decode cJ38_expandTo 9 = .ok (.if_icmp .ge 13, 3) := dk_162 0 13 (dk_at dksJ38_expandTo_0 9 rfl rfl)
theorem dJ38_expandTo_12 : decode cJ38_expandTo 12 = .ok (.aload_n 0, 1) := dk_42 (dk_at dksJ38_expandTo_0 12 rfl rfl)
theorem dJ38_expandTo_13 : decode cJ38_expandTo 13 = .ok (.iload_n 2, 1) := dk_28 (dk_at dksJ38_expandTo_0 13 rfl rfl)
theorem dJ38_expandTo_14 : decode cJ38_expandTo 14 = .ok (.invokevirtual 139, 3) := dk_182 0 139 (dk_at dksJ38_expandTo_0 14 rfl rfl)
theorem dJ38_expandTo_17 : decode cJ38_expandTo 17 = .ok (.aload_n 0, 1) := dk_42 (dk_at dksJ38_expandTo_0 17 rfl rfl)
theorem dJ38_expandTo_18 : decode cJ38_expandTo 18 = .ok (.iload_n 2, 1) := dk_28 (dk_at dksJ38_expandTo_0 18 rfl rfl)
theorem dJ38_expandTo_19 : decode cJ38_expandTo 19 = .ok (.putfield 7, 3) := dk_181 0 7 (dk_at dksJ38_expandTo_0 19 rfl rfl)
theorem dJ38_expandTo_22 : decode cJ38_expandTo 22 = .ok (.return_, 1) := dk_177 (dk_at dksJ38_expandTo_0 22 rfl rfl)
abbrev cJ38_ensureCapacity : ByteArray := prog_66_method_14_code
def yJ38_ensureCapacity : MethodName := ⟨RJ38, "ensureCapacity", "(I)V"⟩
def dkwJ38_ensureCapacity_1 : List UInt8 := [180, 0, 11, 28, 184, 0, 59, 181, 0, 11, 42, 3, 181, 0, 24, 177]
abbrev dktJ38_ensureCapacity_1 : List UInt8 := dkwJ38_ensureCapacity_1 ++ []
def dkwJ38_ensureCapacity_0 : List UInt8 := [42, 180, 0, 11, 190, 27, 162, 0, 32, 5, 42, 180, 0, 11, 190, 104, 27, 184, 0, 133, 61, 42, 42]
abbrev dktJ38_ensureCapacity_0 : List UInt8 := dkwJ38_ensureCapacity_0 ++ dktJ38_ensureCapacity_1
theorem dksJ38_ensureCapacity_0 : cJ38_ensureCapacity.data.toList.drop 0 = dktJ38_ensureCapacity_0 := by decide +kernel
theorem dksJ38_ensureCapacity_1 : cJ38_ensureCapacity.data.toList.drop 23 = dktJ38_ensureCapacity_1 := dk_seg dksJ38_ensureCapacity_0 23 rfl rfl
theorem dJ38_ensureCapacity_0 : decode cJ38_ensureCapacity 0 = .ok (.aload_n 0, 1) := dk_42 (dk_at dksJ38_ensureCapacity_0 0 rfl rfl)
theorem dJ38_ensureCapacity_1 : decode cJ38_ensureCapacity 1 = .ok (.getfield 11, 3) := dk_180 0 11 (dk_at dksJ38_ensureCapacity_0 1 rfl rfl)
theorem dJ38_ensureCapacity_4 : decode cJ38_ensureCapacity 4 = .ok (.arraylength, 1) := dk_190 (dk_at dksJ38_ensureCapacity_0 4 rfl rfl)
theorem dJ38_ensureCapacity_5 : decode cJ38_ensureCapacity 5 = .ok (.iload_n 1, 1) := dk_27 (dk_at dksJ38_ensureCapacity_0 5 rfl rfl)
theorem dJ38_ensureCapacity_6 : decode cJ38_ensureCapacity 6 = .ok (.if_icmp .ge 32, 3) := dk_162 0 32 (dk_at dksJ38_ensureCapacity_0 6 rfl rfl)
theorem dJ38_ensureCapacity_9 : decode cJ38_ensureCapacity 9 = .ok (.iconst 2, 1) := dk_5 (dk_at dksJ38_ensureCapacity_0 9 rfl rfl)
theorem dJ38_ensureCapacity_10 : decode cJ38_ensureCapacity 10 = .ok (.aload_n 0, 1) := dk_42 (dk_at dksJ38_ensureCapacity_0 10 rfl rfl)
theorem dJ38_ensureCapacity_11 : decode cJ38_ensureCapacity 11 = .ok (.getfield 11, 3) := dk_180 0 11 (dk_at dksJ38_ensureCapacity_0 11 rfl rfl)
theorem dJ38_ensureCapacity_14 : decode cJ38_ensureCapacity 14 = .ok (.arraylength, 1) := dk_190 (dk_at dksJ38_ensureCapacity_0 14 rfl rfl)
theorem dJ38_ensureCapacity_15 : decode cJ38_ensureCapacity 15 = .ok (.imul, 1) := dk_104 (dk_at dksJ38_ensureCapacity_0 15 rfl rfl)
theorem dJ38_ensureCapacity_16 : decode cJ38_ensureCapacity 16 = .ok (.iload_n 1, 1) := dk_27 (dk_at dksJ38_ensureCapacity_0 16 rfl rfl)
theorem dJ38_ensureCapacity_17 : decode cJ38_ensureCapacity 17 = .ok (.invokestatic 133, 3) := dk_184 0 133 (dk_at dksJ38_ensureCapacity_0 17 rfl rfl)
theorem dJ38_ensureCapacity_20 : decode cJ38_ensureCapacity 20 = .ok (.istore_n 2, 1) := dk_61 (dk_at dksJ38_ensureCapacity_0 20 rfl rfl)
theorem dJ38_ensureCapacity_21 : decode cJ38_ensureCapacity 21 = .ok (.aload_n 0, 1) := dk_42 (dk_at dksJ38_ensureCapacity_0 21 rfl rfl)
theorem dJ38_ensureCapacity_22 : decode cJ38_ensureCapacity 22 = .ok (.aload_n 0, 1) := dk_42 (dk_at dksJ38_ensureCapacity_0 22 rfl rfl)
theorem dJ38_ensureCapacity_23 : decode cJ38_ensureCapacity 23 = .ok (.getfield 11, 3) := dk_180 0 11 (dk_at dksJ38_ensureCapacity_1 0 rfl rfl)
theorem dJ38_ensureCapacity_26 : decode cJ38_ensureCapacity 26 = .ok (.iload_n 2, 1) := dk_28 (dk_at dksJ38_ensureCapacity_1 3 rfl rfl)
theorem dJ38_ensureCapacity_27 : decode cJ38_ensureCapacity 27 = .ok (.invokestatic 59, 3) := dk_184 0 59 (dk_at dksJ38_ensureCapacity_1 4 rfl rfl)
theorem dJ38_ensureCapacity_30 : decode cJ38_ensureCapacity 30 = .ok (.putfield 11, 3) := dk_181 0 11 (dk_at dksJ38_ensureCapacity_1 7 rfl rfl)
theorem dJ38_ensureCapacity_33 : decode cJ38_ensureCapacity 33 = .ok (.aload_n 0, 1) := dk_42 (dk_at dksJ38_ensureCapacity_1 10 rfl rfl)
theorem dJ38_ensureCapacity_34 : decode cJ38_ensureCapacity 34 = .ok (.iconst 0, 1) := dk_3 (dk_at dksJ38_ensureCapacity_1 11 rfl rfl)
theorem dJ38_ensureCapacity_35 : decode cJ38_ensureCapacity 35 = .ok (.putfield 24, 3) := dk_181 0 24 (dk_at dksJ38_ensureCapacity_1 12 rfl rfl)
theorem dJ38_ensureCapacity_38 : decode cJ38_ensureCapacity 38 = .ok (.return_, 1) := dk_177 (dk_at dksJ38_ensureCapacity_1 15 rfl rfl)
abbrev cJ38_nextSetBit : ByteArray := prog_66_method_28_code
def yJ38_nextSetBit : MethodName := ⟨RJ38, "nextSetBit", "(I)I"⟩
def dkwJ38_nextSetBit_4 : List UInt8 := [28, 47, 66, 167, 255, 220]
abbrev dktJ38_nextSetBit_4 : List UInt8 := dkwJ38_nextSetBit_4 ++ []
def dkwJ38_nextSetBit_3 : List UInt8 := [104, 33, 184, 0, 182, 96, 172, 132, 2, 1, 28, 42, 180, 0, 7, 160, 0, 5, 2, 172, 42, 180, 0, 11]
abbrev dktJ38_nextSetBit_3 : List UInt8 := dkwJ38_nextSetBit_3 ++ dktJ38_nextSetBit_4
def dkwJ38_nextSetBit_2 : List UInt8 := [2, 172, 42, 180, 0, 11, 28, 47, 20, 0, 165, 27, 121, 127, 66, 33, 9, 148, 153, 0, 13, 28, 16, 64]
abbrev dktJ38_nextSetBit_2 : List UInt8 := dkwJ38_nextSetBit_2 ++ dktJ38_nextSetBit_3
def dkwJ38_nextSetBit_1 : List UInt8 := [182, 0, 45, 183, 0, 146, 191, 42, 182, 0, 56, 27, 184, 0, 52, 61, 28, 42, 180, 0, 7, 161, 0, 5]
abbrev dktJ38_nextSetBit_1 : List UInt8 := dkwJ38_nextSetBit_1 ++ dktJ38_nextSetBit_2
def dkwJ38_nextSetBit_0 : List UInt8 := [27, 156, 0, 30, 187, 0, 142, 89, 187, 0, 33, 89, 183, 0, 35, 18, 144, 182, 0, 38, 27, 182, 0, 42]
abbrev dktJ38_nextSetBit_0 : List UInt8 := dkwJ38_nextSetBit_0 ++ dktJ38_nextSetBit_1
theorem dksJ38_nextSetBit_0 : cJ38_nextSetBit.data.toList.drop 0 = dktJ38_nextSetBit_0 := by decide +kernel
theorem dksJ38_nextSetBit_1 : cJ38_nextSetBit.data.toList.drop 24 = dktJ38_nextSetBit_1 := dk_seg dksJ38_nextSetBit_0 24 rfl rfl
theorem dksJ38_nextSetBit_2 : cJ38_nextSetBit.data.toList.drop 48 = dktJ38_nextSetBit_2 := dk_seg dksJ38_nextSetBit_1 24 rfl rfl
theorem dksJ38_nextSetBit_3 : cJ38_nextSetBit.data.toList.drop 72 = dktJ38_nextSetBit_3 := dk_seg dksJ38_nextSetBit_2 24 rfl rfl
theorem dksJ38_nextSetBit_4 : cJ38_nextSetBit.data.toList.drop 96 = dktJ38_nextSetBit_4 := dk_seg dksJ38_nextSetBit_3 24 rfl rfl
theorem dJ38_nextSetBit_0 : decode cJ38_nextSetBit 0 = .ok (.iload_n 1, 1) := dk_27 (dk_at dksJ38_nextSetBit_0 0 rfl rfl)
theorem dJ38_nextSetBit_1 : decode cJ38_nextSetBit 1 = .ok (.ifCond .ge 30, 3) := dk_156 0 30 (dk_at dksJ38_nextSetBit_0 1 rfl rfl)
theorem dJ38_nextSetBit_4 : decode cJ38_nextSetBit 4 = .ok (.new 142, 3) := dk_187 0 142 (dk_at dksJ38_nextSetBit_0 4 rfl rfl)
theorem dJ38_nextSetBit_7 : decode cJ38_nextSetBit 7 = .ok (.dup, 1) := dk_89 (dk_at dksJ38_nextSetBit_0 7 rfl rfl)
theorem dJ38_nextSetBit_8 : decode cJ38_nextSetBit 8 = .ok (.new 33, 3) := dk_187 0 33 (dk_at dksJ38_nextSetBit_0 8 rfl rfl)
theorem dJ38_nextSetBit_11 : decode cJ38_nextSetBit 11 = .ok (.dup, 1) := dk_89 (dk_at dksJ38_nextSetBit_0 11 rfl rfl)
theorem dJ38_nextSetBit_12 : decode cJ38_nextSetBit 12 = .ok (.invokespecial 35, 3) := dk_183 0 35 (dk_at dksJ38_nextSetBit_0 12 rfl rfl)
theorem dJ38_nextSetBit_15 : decode cJ38_nextSetBit 15 = .ok (.ldc 144, 2) := dk_18 144 (dk_at dksJ38_nextSetBit_0 15 rfl rfl)
theorem dJ38_nextSetBit_17 : decode cJ38_nextSetBit 17 = .ok (.invokevirtual 38, 3) := dk_182 0 38 (dk_at dksJ38_nextSetBit_0 17 rfl rfl)
theorem dJ38_nextSetBit_20 : decode cJ38_nextSetBit 20 = .ok (.iload_n 1, 1) := dk_27 (dk_at dksJ38_nextSetBit_0 20 rfl rfl)
theorem dJ38_nextSetBit_21 : decode cJ38_nextSetBit 21 = .ok (.invokevirtual 42, 3) := dk_182 0 42 (dk_at dksJ38_nextSetBit_0 21 rfl rfl)
theorem dJ38_nextSetBit_24 : decode cJ38_nextSetBit 24 = .ok (.invokevirtual 45, 3) := dk_182 0 45 (dk_at dksJ38_nextSetBit_1 0 rfl rfl)
theorem dJ38_nextSetBit_27 : decode cJ38_nextSetBit 27 = .ok (.invokespecial 146, 3) := dk_183 0 146 (dk_at dksJ38_nextSetBit_1 3 rfl rfl)
theorem dJ38_nextSetBit_30 : decode cJ38_nextSetBit 30 = .ok (.athrow, 1) := dk_191 (dk_at dksJ38_nextSetBit_1 6 rfl rfl)
theorem dJ38_nextSetBit_31 : decode cJ38_nextSetBit 31 = .ok (.aload_n 0, 1) := dk_42 (dk_at dksJ38_nextSetBit_1 7 rfl rfl)
theorem dJ38_nextSetBit_32 : decode cJ38_nextSetBit 32 = .ok (.invokevirtual 56, 3) := dk_182 0 56 (dk_at dksJ38_nextSetBit_1 8 rfl rfl)
theorem dJ38_nextSetBit_35 : decode cJ38_nextSetBit 35 = .ok (.iload_n 1, 1) := dk_27 (dk_at dksJ38_nextSetBit_1 11 rfl rfl)
theorem dJ38_nextSetBit_36 : decode cJ38_nextSetBit 36 = .ok (.invokestatic 52, 3) := dk_184 0 52 (dk_at dksJ38_nextSetBit_1 12 rfl rfl)
theorem dJ38_nextSetBit_39 : decode cJ38_nextSetBit 39 = .ok (.istore_n 2, 1) := dk_61 (dk_at dksJ38_nextSetBit_1 15 rfl rfl)
theorem dJ38_nextSetBit_40 : decode cJ38_nextSetBit 40 = .ok (.iload_n 2, 1) := dk_28 (dk_at dksJ38_nextSetBit_1 16 rfl rfl)
theorem dJ38_nextSetBit_41 : decode cJ38_nextSetBit 41 = .ok (.aload_n 0, 1) := dk_42 (dk_at dksJ38_nextSetBit_1 17 rfl rfl)
theorem dJ38_nextSetBit_42 : decode cJ38_nextSetBit 42 = .ok (.getfield 7, 3) := dk_180 0 7 (dk_at dksJ38_nextSetBit_1 18 rfl rfl)
theorem dJ38_nextSetBit_45 : decode cJ38_nextSetBit 45 = .ok (.if_icmp .lt 5, 3) := dk_161 0 5 (dk_at dksJ38_nextSetBit_1 21 rfl rfl)
theorem dJ38_nextSetBit_48 : decode cJ38_nextSetBit 48 = .ok (.iconst (-1), 1) := dk_2 (dk_at dksJ38_nextSetBit_2 0 rfl rfl)
theorem dJ38_nextSetBit_49 : decode cJ38_nextSetBit 49 = .ok (.ireturn, 1) := dk_172 (dk_at dksJ38_nextSetBit_2 1 rfl rfl)
theorem dJ38_nextSetBit_50 : decode cJ38_nextSetBit 50 = .ok (.aload_n 0, 1) := dk_42 (dk_at dksJ38_nextSetBit_2 2 rfl rfl)
theorem dJ38_nextSetBit_51 : decode cJ38_nextSetBit 51 = .ok (.getfield 11, 3) := dk_180 0 11 (dk_at dksJ38_nextSetBit_2 3 rfl rfl)
theorem dJ38_nextSetBit_54 : decode cJ38_nextSetBit 54 = .ok (.iload_n 2, 1) := dk_28 (dk_at dksJ38_nextSetBit_2 6 rfl rfl)
theorem dJ38_nextSetBit_55 : decode cJ38_nextSetBit 55 = .ok (.laload, 1) := dk_47 (dk_at dksJ38_nextSetBit_2 7 rfl rfl)
theorem dJ38_nextSetBit_56 : decode cJ38_nextSetBit 56 = .ok (.ldc2_w 165, 3) := dk_20 0 165 (dk_at dksJ38_nextSetBit_2 8 rfl rfl)
theorem dJ38_nextSetBit_59 : decode cJ38_nextSetBit 59 = .ok (.iload_n 1, 1) := dk_27 (dk_at dksJ38_nextSetBit_2 11 rfl rfl)
theorem dJ38_nextSetBit_60 : decode cJ38_nextSetBit 60 = .ok (.lshl, 1) := dk_121 (dk_at dksJ38_nextSetBit_2 12 rfl rfl)
theorem dJ38_nextSetBit_61 : decode cJ38_nextSetBit 61 = .ok (.land, 1) := dk_127 (dk_at dksJ38_nextSetBit_2 13 rfl rfl)
theorem dJ38_nextSetBit_62 : decode cJ38_nextSetBit 62 = .ok (.lstore_n 3, 1) := dk_66 (dk_at dksJ38_nextSetBit_2 14 rfl rfl)
theorem dJ38_nextSetBit_63 : decode cJ38_nextSetBit 63 = .ok (.lload_n 3, 1) := dk_33 (dk_at dksJ38_nextSetBit_2 15 rfl rfl)
theorem dJ38_nextSetBit_64 : decode cJ38_nextSetBit 64 = .ok (.lconst 0, 1) := dk_9 (dk_at dksJ38_nextSetBit_2 16 rfl rfl)
theorem dJ38_nextSetBit_65 : decode cJ38_nextSetBit 65 = .ok (.lcmp, 1) := dk_148 (dk_at dksJ38_nextSetBit_2 17 rfl rfl)
theorem dJ38_nextSetBit_66 : decode cJ38_nextSetBit 66 = .ok (.ifCond .eq 13, 3) := dk_153 0 13 (dk_at dksJ38_nextSetBit_2 18 rfl rfl)
theorem dJ38_nextSetBit_69 : decode cJ38_nextSetBit 69 = .ok (.iload_n 2, 1) := dk_28 (dk_at dksJ38_nextSetBit_2 21 rfl rfl)
theorem dJ38_nextSetBit_70 : decode cJ38_nextSetBit 70 = .ok (.bipush 64, 2) := dk_16 64 (dk_at dksJ38_nextSetBit_2 22 rfl rfl)
theorem dJ38_nextSetBit_72 : decode cJ38_nextSetBit 72 = .ok (.imul, 1) := dk_104 (dk_at dksJ38_nextSetBit_3 0 rfl rfl)
theorem dJ38_nextSetBit_73 : decode cJ38_nextSetBit 73 = .ok (.lload_n 3, 1) := dk_33 (dk_at dksJ38_nextSetBit_3 1 rfl rfl)
theorem dJ38_nextSetBit_74 : decode cJ38_nextSetBit 74 = .ok (.invokestatic 182, 3) := dk_184 0 182 (dk_at dksJ38_nextSetBit_3 2 rfl rfl)
theorem dJ38_nextSetBit_77 : decode cJ38_nextSetBit 77 = .ok (.iadd, 1) := dk_96 (dk_at dksJ38_nextSetBit_3 5 rfl rfl)
theorem dJ38_nextSetBit_78 : decode cJ38_nextSetBit 78 = .ok (.ireturn, 1) := dk_172 (dk_at dksJ38_nextSetBit_3 6 rfl rfl)
theorem dJ38_nextSetBit_79 : decode cJ38_nextSetBit 79 = .ok (.iinc 2 1, 3) := dk_132 2 1 (dk_at dksJ38_nextSetBit_3 7 rfl rfl)
theorem dJ38_nextSetBit_82 : decode cJ38_nextSetBit 82 = .ok (.iload_n 2, 1) := dk_28 (dk_at dksJ38_nextSetBit_3 10 rfl rfl)
theorem dJ38_nextSetBit_83 : decode cJ38_nextSetBit 83 = .ok (.aload_n 0, 1) := dk_42 (dk_at dksJ38_nextSetBit_3 11 rfl rfl)
theorem dJ38_nextSetBit_84 : decode cJ38_nextSetBit 84 = .ok (.getfield 7, 3) := dk_180 0 7 (dk_at dksJ38_nextSetBit_3 12 rfl rfl)
theorem dJ38_nextSetBit_87 : decode cJ38_nextSetBit 87 = .ok (.if_icmp .ne 5, 3) := dk_160 0 5 (dk_at dksJ38_nextSetBit_3 15 rfl rfl)
theorem dJ38_nextSetBit_90 : decode cJ38_nextSetBit 90 = .ok (.iconst (-1), 1) := dk_2 (dk_at dksJ38_nextSetBit_3 18 rfl rfl)
theorem dJ38_nextSetBit_91 : decode cJ38_nextSetBit 91 = .ok (.ireturn, 1) := dk_172 (dk_at dksJ38_nextSetBit_3 19 rfl rfl)
theorem dJ38_nextSetBit_92 : decode cJ38_nextSetBit 92 = .ok (.aload_n 0, 1) := dk_42 (dk_at dksJ38_nextSetBit_3 20 rfl rfl)
theorem dJ38_nextSetBit_93 : decode cJ38_nextSetBit 93 = .ok (.getfield 11, 3) := dk_180 0 11 (dk_at dksJ38_nextSetBit_3 21 rfl rfl)
theorem dJ38_nextSetBit_96 : decode cJ38_nextSetBit 96 = .ok (.iload_n 2, 1) := dk_28 (dk_at dksJ38_nextSetBit_4 0 rfl rfl)
theorem dJ38_nextSetBit_97 : decode cJ38_nextSetBit 97 = .ok (.laload, 1) := dk_47 (dk_at dksJ38_nextSetBit_4 1 rfl rfl)
theorem dJ38_nextSetBit_98 : decode cJ38_nextSetBit 98 = .ok (.lstore_n 3, 1) := dk_66 (dk_at dksJ38_nextSetBit_4 2 rfl rfl)
theorem dJ38_nextSetBit_99 : decode cJ38_nextSetBit 99 = .ok (.goto (-36), 3) := dk_167 255 220 (dk_at dksJ38_nextSetBit_4 3 rfl rfl)
abbrev cJ38_set_2 : ByteArray := prog_66_method_20_code
def yJ38_set_2 : MethodName := ⟨RJ38, "set", "(IZ)V"⟩
def dkwJ38_set_2_0 : List UInt8 := [28, 153, 0, 11, 42, 27, 182, 0, 167, 167, 0, 8, 42, 27, 182, 0, 170, 177]
abbrev dktJ38_set_2_0 : List UInt8 := dkwJ38_set_2_0 ++ []
theorem dksJ38_set_2_0 : cJ38_set_2.data.toList.drop 0 = dktJ38_set_2_0 := by decide +kernel
theorem dJ38_set_2_0 : decode cJ38_set_2 0 = .ok (.iload_n 2, 1) := dk_28 (dk_at dksJ38_set_2_0 0 rfl rfl)
theorem dJ38_set_2_1 : decode cJ38_set_2 1 = .ok (.ifCond .eq 11, 3) := dk_153 0 11 (dk_at dksJ38_set_2_0 1 rfl rfl)
theorem dJ38_set_2_4 : decode cJ38_set_2 4 = .ok (.aload_n 0, 1) := dk_42 (dk_at dksJ38_set_2_0 4 rfl rfl)
theorem dJ38_set_2_5 : decode cJ38_set_2 5 = .ok (.iload_n 1, 1) := dk_27 (dk_at dksJ38_set_2_0 5 rfl rfl)
theorem dJ38_set_2_6 : decode cJ38_set_2 6 = .ok (.invokevirtual 167, 3) := dk_182 0 167 (dk_at dksJ38_set_2_0 6 rfl rfl)
theorem dJ38_set_2_9 : decode cJ38_set_2 9 = .ok (.goto 8, 3) := dk_167 0 8 (dk_at dksJ38_set_2_0 9 rfl rfl)
theorem dJ38_set_2_12 : decode cJ38_set_2 12 = .ok (.aload_n 0, 1) := dk_42 (dk_at dksJ38_set_2_0 12 rfl rfl)
theorem dJ38_set_2_13 : decode cJ38_set_2 13 = .ok (.iload_n 1, 1) := dk_27 (dk_at dksJ38_set_2_0 13 rfl rfl)
theorem dJ38_set_2_14 : decode cJ38_set_2 14 = .ok (.invokevirtual 170, 3) := dk_182 0 170 (dk_at dksJ38_set_2_0 14 rfl rfl)
theorem dJ38_set_2_17 : decode cJ38_set_2 17 = .ok (.return_, 1) := dk_177 (dk_at dksJ38_set_2_0 17 rfl rfl)
abbrev cJ38_clear : ByteArray := prog_66_method_23_code
def yJ38_clear : MethodName := ⟨RJ38, "clear", "(I)V"⟩
def dkwJ38_clear_2 : List UInt8 := [180, 0, 11, 28, 92, 47, 10, 27, 121, 20, 0, 165, 131, 127, 80, 42, 182, 0, 158, 42, 182, 0, 56, 177]
abbrev dktJ38_clear_2 : List UInt8 := dkwJ38_clear_2 ++ []
def dkwJ38_clear_1 : List UInt8 := [182, 0, 45, 183, 0, 146, 191, 27, 184, 0, 52, 61, 28, 42, 180, 0, 7, 161, 0, 4, 177, 42]
abbrev dktJ38_clear_1 : List UInt8 := dkwJ38_clear_1 ++ dktJ38_clear_2
def dkwJ38_clear_0 : List UInt8 := [27, 156, 0, 30, 187, 0, 142, 89, 187, 0, 33, 89, 183, 0, 35, 18, 153, 182, 0, 38, 27, 182, 0, 42]
abbrev dktJ38_clear_0 : List UInt8 := dkwJ38_clear_0 ++ dktJ38_clear_1
theorem dksJ38_clear_0 : cJ38_clear.data.toList.drop 0 = dktJ38_clear_0 := by decide +kernel
theorem dksJ38_clear_1 : cJ38_clear.data.toList.drop 24 = dktJ38_clear_1 := dk_seg dksJ38_clear_0 24 rfl rfl
theorem dksJ38_clear_2 : cJ38_clear.data.toList.drop 46 = dktJ38_clear_2 := dk_seg dksJ38_clear_1 22 rfl rfl
theorem dJ38_clear_0 : decode cJ38_clear 0 = .ok (.iload_n 1, 1) := dk_27 (dk_at dksJ38_clear_0 0 rfl rfl)
theorem dJ38_clear_1 : decode cJ38_clear 1 = .ok (.ifCond .ge 30, 3) := dk_156 0 30 (dk_at dksJ38_clear_0 1 rfl rfl)
theorem dJ38_clear_4 : decode cJ38_clear 4 = .ok (.new 142, 3) := dk_187 0 142 (dk_at dksJ38_clear_0 4 rfl rfl)
theorem dJ38_clear_7 : decode cJ38_clear 7 = .ok (.dup, 1) := dk_89 (dk_at dksJ38_clear_0 7 rfl rfl)
theorem dJ38_clear_8 : decode cJ38_clear 8 = .ok (.new 33, 3) := dk_187 0 33 (dk_at dksJ38_clear_0 8 rfl rfl)
theorem dJ38_clear_11 : decode cJ38_clear 11 = .ok (.dup, 1) := dk_89 (dk_at dksJ38_clear_0 11 rfl rfl)
theorem dJ38_clear_12 : decode cJ38_clear 12 = .ok (.invokespecial 35, 3) := dk_183 0 35 (dk_at dksJ38_clear_0 12 rfl rfl)
theorem dJ38_clear_15 : decode cJ38_clear 15 = .ok (.ldc 153, 2) := dk_18 153 (dk_at dksJ38_clear_0 15 rfl rfl)
theorem dJ38_clear_17 : decode cJ38_clear 17 = .ok (.invokevirtual 38, 3) := dk_182 0 38 (dk_at dksJ38_clear_0 17 rfl rfl)
theorem dJ38_clear_20 : decode cJ38_clear 20 = .ok (.iload_n 1, 1) := dk_27 (dk_at dksJ38_clear_0 20 rfl rfl)
theorem dJ38_clear_21 : decode cJ38_clear 21 = .ok (.invokevirtual 42, 3) := dk_182 0 42 (dk_at dksJ38_clear_0 21 rfl rfl)
theorem dJ38_clear_24 : decode cJ38_clear 24 = .ok (.invokevirtual 45, 3) := dk_182 0 45 (dk_at dksJ38_clear_1 0 rfl rfl)
theorem dJ38_clear_27 : decode cJ38_clear 27 = .ok (.invokespecial 146, 3) := dk_183 0 146 (dk_at dksJ38_clear_1 3 rfl rfl)
theorem dJ38_clear_30 : decode cJ38_clear 30 = .ok (.athrow, 1) := dk_191 (dk_at dksJ38_clear_1 6 rfl rfl)
theorem dJ38_clear_31 : decode cJ38_clear 31 = .ok (.iload_n 1, 1) := dk_27 (dk_at dksJ38_clear_1 7 rfl rfl)
theorem dJ38_clear_32 : decode cJ38_clear 32 = .ok (.invokestatic 52, 3) := dk_184 0 52 (dk_at dksJ38_clear_1 8 rfl rfl)
theorem dJ38_clear_35 : decode cJ38_clear 35 = .ok (.istore_n 2, 1) := dk_61 (dk_at dksJ38_clear_1 11 rfl rfl)
theorem dJ38_clear_36 : decode cJ38_clear 36 = .ok (.iload_n 2, 1) := dk_28 (dk_at dksJ38_clear_1 12 rfl rfl)
theorem dJ38_clear_37 : decode cJ38_clear 37 = .ok (.aload_n 0, 1) := dk_42 (dk_at dksJ38_clear_1 13 rfl rfl)
theorem dJ38_clear_38 : decode cJ38_clear 38 = .ok (.getfield 7, 3) := dk_180 0 7 (dk_at dksJ38_clear_1 14 rfl rfl)
theorem dJ38_clear_41 : decode cJ38_clear 41 = .ok (.if_icmp .lt 4, 3) := dk_161 0 4 (dk_at dksJ38_clear_1 17 rfl rfl)
theorem dJ38_clear_44 : decode cJ38_clear 44 = .ok (.return_, 1) := dk_177 (dk_at dksJ38_clear_1 20 rfl rfl)
theorem dJ38_clear_45 : decode cJ38_clear 45 = .ok (.aload_n 0, 1) := dk_42 (dk_at dksJ38_clear_1 21 rfl rfl)
theorem dJ38_clear_46 : decode cJ38_clear 46 = .ok (.getfield 11, 3) := dk_180 0 11 (dk_at dksJ38_clear_2 0 rfl rfl)
theorem dJ38_clear_49 : decode cJ38_clear 49 = .ok (.iload_n 2, 1) := dk_28 (dk_at dksJ38_clear_2 3 rfl rfl)
theorem dJ38_clear_50 : decode cJ38_clear 50 = .ok (.dup2, 1) := dk_92 (dk_at dksJ38_clear_2 4 rfl rfl)
theorem dJ38_clear_51 : decode cJ38_clear 51 = .ok (.laload, 1) := dk_47 (dk_at dksJ38_clear_2 5 rfl rfl)
theorem dJ38_clear_52 : decode cJ38_clear 52 = .ok (.lconst 1, 1) := dk_10 (dk_at dksJ38_clear_2 6 rfl rfl)
theorem dJ38_clear_53 : decode cJ38_clear 53 = .ok (.iload_n 1, 1) := dk_27 (dk_at dksJ38_clear_2 7 rfl rfl)
theorem dJ38_clear_54 : decode cJ38_clear 54 = .ok (.lshl, 1) := dk_121 (dk_at dksJ38_clear_2 8 rfl rfl)
theorem dJ38_clear_55 : decode cJ38_clear 55 = .ok (.ldc2_w 165, 3) := dk_20 0 165 (dk_at dksJ38_clear_2 9 rfl rfl)
theorem dJ38_clear_58 : decode cJ38_clear 58 = .ok (.lxor, 1) := dk_131 (dk_at dksJ38_clear_2 12 rfl rfl)
theorem dJ38_clear_59 : decode cJ38_clear 59 = .ok (.land, 1) := dk_127 (dk_at dksJ38_clear_2 13 rfl rfl)
theorem dJ38_clear_60 : decode cJ38_clear 60 = .ok (.lastore, 1) := dk_80 (dk_at dksJ38_clear_2 14 rfl rfl)
theorem dJ38_clear_61 : decode cJ38_clear 61 = .ok (.aload_n 0, 1) := dk_42 (dk_at dksJ38_clear_2 15 rfl rfl)
theorem dJ38_clear_62 : decode cJ38_clear 62 = .ok (.invokevirtual 158, 3) := dk_182 0 158 (dk_at dksJ38_clear_2 16 rfl rfl)
theorem dJ38_clear_65 : decode cJ38_clear 65 = .ok (.aload_n 0, 1) := dk_42 (dk_at dksJ38_clear_2 19 rfl rfl)
theorem dJ38_clear_66 : decode cJ38_clear 66 = .ok (.invokevirtual 56, 3) := dk_182 0 56 (dk_at dksJ38_clear_2 20 rfl rfl)
theorem dJ38_clear_69 : decode cJ38_clear 69 = .ok (.return_, 1) := dk_177 (dk_at dksJ38_clear_2 23 rfl rfl)
abbrev cJ38_recalculateWordsInUse : ByteArray := prog_66_method_3_code
def yJ38_recalculateWordsInUse : MethodName := ⟨RJ38, "recalculateWordsInUse", "()V"⟩
def dkwJ38_recalculateWordsInUse_1 : List UInt8 := [167, 0, 9, 132, 1, 255, 167, 255, 235, 42, 27, 4, 96, 181, 0, 7, 177]
abbrev dktJ38_recalculateWordsInUse_1 : List UInt8 := dkwJ38_recalculateWordsInUse_1 ++ []
def dkwJ38_recalculateWordsInUse_0 : List UInt8 := [42, 180, 0, 7, 4, 100, 60, 27, 155, 0, 23, 42, 180, 0, 11, 27, 47, 9, 148, 153, 0, 6]
abbrev dktJ38_recalculateWordsInUse_0 : List UInt8 := dkwJ38_recalculateWordsInUse_0 ++ dktJ38_recalculateWordsInUse_1
theorem dksJ38_recalculateWordsInUse_0 : cJ38_recalculateWordsInUse.data.toList.drop 0 = dktJ38_recalculateWordsInUse_0 := by decide +kernel
theorem dksJ38_recalculateWordsInUse_1 : cJ38_recalculateWordsInUse.data.toList.drop 22 = dktJ38_recalculateWordsInUse_1 := dk_seg dksJ38_recalculateWordsInUse_0 22 rfl rfl
theorem dJ38_recalculateWordsInUse_0 : decode cJ38_recalculateWordsInUse 0 = .ok (.aload_n 0, 1) := dk_42 (dk_at dksJ38_recalculateWordsInUse_0 0 rfl rfl)
theorem dJ38_recalculateWordsInUse_1 : decode cJ38_recalculateWordsInUse 1 = .ok (.getfield 7, 3) := dk_180 0 7 (dk_at dksJ38_recalculateWordsInUse_0 1 rfl rfl)
theorem dJ38_recalculateWordsInUse_4 : decode cJ38_recalculateWordsInUse 4 = .ok (.iconst 1, 1) := dk_4 (dk_at dksJ38_recalculateWordsInUse_0 4 rfl rfl)
theorem dJ38_recalculateWordsInUse_5 : decode cJ38_recalculateWordsInUse 5 = .ok (.isub, 1) := dk_100 (dk_at dksJ38_recalculateWordsInUse_0 5 rfl rfl)
theorem dJ38_recalculateWordsInUse_6 : decode cJ38_recalculateWordsInUse 6 = .ok (.istore_n 1, 1) := dk_60 (dk_at dksJ38_recalculateWordsInUse_0 6 rfl rfl)
theorem dJ38_recalculateWordsInUse_7 : decode cJ38_recalculateWordsInUse 7 = .ok (.iload_n 1, 1) := dk_27 (dk_at dksJ38_recalculateWordsInUse_0 7 rfl rfl)
theorem dJ38_recalculateWordsInUse_8 : decode cJ38_recalculateWordsInUse 8 = .ok (.ifCond .lt 23, 3) := dk_155 0 23 (dk_at dksJ38_recalculateWordsInUse_0 8 rfl rfl)
theorem dJ38_recalculateWordsInUse_11 : decode cJ38_recalculateWordsInUse 11 = .ok (.aload_n 0, 1) := dk_42 (dk_at dksJ38_recalculateWordsInUse_0 11 rfl rfl)
theorem dJ38_recalculateWordsInUse_12 : decode cJ38_recalculateWordsInUse 12 = .ok (.getfield 11, 3) := dk_180 0 11 (dk_at dksJ38_recalculateWordsInUse_0 12 rfl rfl)
theorem dJ38_recalculateWordsInUse_15 : decode cJ38_recalculateWordsInUse 15 = .ok (.iload_n 1, 1) := dk_27 (dk_at dksJ38_recalculateWordsInUse_0 15 rfl rfl)
theorem dJ38_recalculateWordsInUse_16 : decode cJ38_recalculateWordsInUse 16 = .ok (.laload, 1) := dk_47 (dk_at dksJ38_recalculateWordsInUse_0 16 rfl rfl)
theorem dJ38_recalculateWordsInUse_17 : decode cJ38_recalculateWordsInUse 17 = .ok (.lconst 0, 1) := dk_9 (dk_at dksJ38_recalculateWordsInUse_0 17 rfl rfl)
theorem dJ38_recalculateWordsInUse_18 : decode cJ38_recalculateWordsInUse 18 = .ok (.lcmp, 1) := dk_148 (dk_at dksJ38_recalculateWordsInUse_0 18 rfl rfl)
theorem dJ38_recalculateWordsInUse_19 : decode cJ38_recalculateWordsInUse 19 = .ok (.ifCond .eq 6, 3) := dk_153 0 6 (dk_at dksJ38_recalculateWordsInUse_0 19 rfl rfl)
theorem dJ38_recalculateWordsInUse_22 : decode cJ38_recalculateWordsInUse 22 = .ok (.goto 9, 3) := dk_167 0 9 (dk_at dksJ38_recalculateWordsInUse_1 0 rfl rfl)
theorem dJ38_recalculateWordsInUse_25 : decode cJ38_recalculateWordsInUse 25 = .ok (.iinc 1 (-1), 3) := dk_132 1 255 (dk_at dksJ38_recalculateWordsInUse_1 3 rfl rfl)
theorem dJ38_recalculateWordsInUse_28 : decode cJ38_recalculateWordsInUse 28 = .ok (.goto (-21), 3) := dk_167 255 235 (dk_at dksJ38_recalculateWordsInUse_1 6 rfl rfl)
theorem dJ38_recalculateWordsInUse_31 : decode cJ38_recalculateWordsInUse 31 = .ok (.aload_n 0, 1) := dk_42 (dk_at dksJ38_recalculateWordsInUse_1 9 rfl rfl)
theorem dJ38_recalculateWordsInUse_32 : decode cJ38_recalculateWordsInUse 32 = .ok (.iload_n 1, 1) := dk_27 (dk_at dksJ38_recalculateWordsInUse_1 10 rfl rfl)
theorem dJ38_recalculateWordsInUse_33 : decode cJ38_recalculateWordsInUse 33 = .ok (.iconst 1, 1) := dk_4 (dk_at dksJ38_recalculateWordsInUse_1 11 rfl rfl)
theorem dJ38_recalculateWordsInUse_34 : decode cJ38_recalculateWordsInUse 34 = .ok (.iadd, 1) := dk_96 (dk_at dksJ38_recalculateWordsInUse_1 12 rfl rfl)
theorem dJ38_recalculateWordsInUse_35 : decode cJ38_recalculateWordsInUse 35 = .ok (.putfield 7, 3) := dk_181 0 7 (dk_at dksJ38_recalculateWordsInUse_1 13 rfl rfl)
theorem dJ38_recalculateWordsInUse_38 : decode cJ38_recalculateWordsInUse 38 = .ok (.return_, 1) := dk_177 (dk_at dksJ38_recalculateWordsInUse_1 16 rfl rfl)
abbrev cJ38_cardinality : ByteArray := prog_66_method_35_code
def yJ38_cardinality : MethodName := ⟨RJ38, "cardinality", "()I"⟩
def dkwJ38_cardinality_1 : List UInt8 := [132, 2, 1, 167, 255, 233, 27, 172]
abbrev dktJ38_cardinality_1 : List UInt8 := dkwJ38_cardinality_1 ++ []
def dkwJ38_cardinality_0 : List UInt8 := [3, 60, 3, 61, 28, 42, 180, 0, 7, 162, 0, 21, 27, 42, 180, 0, 11, 28, 47, 184, 0, 196, 96, 60]
abbrev dktJ38_cardinality_0 : List UInt8 := dkwJ38_cardinality_0 ++ dktJ38_cardinality_1
theorem dksJ38_cardinality_0 : cJ38_cardinality.data.toList.drop 0 = dktJ38_cardinality_0 := by decide +kernel
theorem dksJ38_cardinality_1 : cJ38_cardinality.data.toList.drop 24 = dktJ38_cardinality_1 := dk_seg dksJ38_cardinality_0 24 rfl rfl
theorem dJ38_cardinality_0 : decode cJ38_cardinality 0 = .ok (.iconst 0, 1) := dk_3 (dk_at dksJ38_cardinality_0 0 rfl rfl)
theorem dJ38_cardinality_1 : decode cJ38_cardinality 1 = .ok (.istore_n 1, 1) := dk_60 (dk_at dksJ38_cardinality_0 1 rfl rfl)
theorem dJ38_cardinality_2 : decode cJ38_cardinality 2 = .ok (.iconst 0, 1) := dk_3 (dk_at dksJ38_cardinality_0 2 rfl rfl)
theorem dJ38_cardinality_3 : decode cJ38_cardinality 3 = .ok (.istore_n 2, 1) := dk_61 (dk_at dksJ38_cardinality_0 3 rfl rfl)
theorem dJ38_cardinality_4 : decode cJ38_cardinality 4 = .ok (.iload_n 2, 1) := dk_28 (dk_at dksJ38_cardinality_0 4 rfl rfl)
theorem dJ38_cardinality_5 : decode cJ38_cardinality 5 = .ok (.aload_n 0, 1) := dk_42 (dk_at dksJ38_cardinality_0 5 rfl rfl)
theorem dJ38_cardinality_6 : decode cJ38_cardinality 6 = .ok (.getfield 7, 3) := dk_180 0 7 (dk_at dksJ38_cardinality_0 6 rfl rfl)
theorem dJ38_cardinality_9 : decode cJ38_cardinality 9 = .ok (.if_icmp .ge 21, 3) := dk_162 0 21 (dk_at dksJ38_cardinality_0 9 rfl rfl)
theorem dJ38_cardinality_12 : decode cJ38_cardinality 12 = .ok (.iload_n 1, 1) := dk_27 (dk_at dksJ38_cardinality_0 12 rfl rfl)
theorem dJ38_cardinality_13 : decode cJ38_cardinality 13 = .ok (.aload_n 0, 1) := dk_42 (dk_at dksJ38_cardinality_0 13 rfl rfl)
theorem dJ38_cardinality_14 : decode cJ38_cardinality 14 = .ok (.getfield 11, 3) := dk_180 0 11 (dk_at dksJ38_cardinality_0 14 rfl rfl)
theorem dJ38_cardinality_17 : decode cJ38_cardinality 17 = .ok (.iload_n 2, 1) := dk_28 (dk_at dksJ38_cardinality_0 17 rfl rfl)
theorem dJ38_cardinality_18 : decode cJ38_cardinality 18 = .ok (.laload, 1) := dk_47 (dk_at dksJ38_cardinality_0 18 rfl rfl)
theorem dJ38_cardinality_19 : decode cJ38_cardinality 19 = .ok (.invokestatic 196, 3) := dk_184 0 196 (dk_at dksJ38_cardinality_0 19 rfl rfl)
theorem dJ38_cardinality_22 : decode cJ38_cardinality 22 = .ok (.iadd, 1) := dk_96 (dk_at dksJ38_cardinality_0 22 rfl rfl)
theorem dJ38_cardinality_23 : decode cJ38_cardinality 23 = .ok (.istore_n 1, 1) := dk_60 (dk_at dksJ38_cardinality_0 23 rfl rfl)
theorem dJ38_cardinality_24 : decode cJ38_cardinality 24 = .ok (.iinc 2 1, 3) := dk_132 2 1 (dk_at dksJ38_cardinality_1 0 rfl rfl)
theorem dJ38_cardinality_27 : decode cJ38_cardinality 27 = .ok (.goto (-23), 3) := dk_167 255 233 (dk_at dksJ38_cardinality_1 3 rfl rfl)
theorem dJ38_cardinality_30 : decode cJ38_cardinality 30 = .ok (.iload_n 1, 1) := dk_27 (dk_at dksJ38_cardinality_1 6 rfl rfl)
theorem dJ38_cardinality_31 : decode cJ38_cardinality 31 = .ok (.ireturn, 1) := dk_172 (dk_at dksJ38_cardinality_1 7 rfl rfl)
abbrev cJ38_or : ByteArray := prog_66_method_37_code
def yJ38_or : MethodName := ⟨RJ38, "or", "(Ljava/util/BitSet;)V"⟩
def dkwJ38_or_4 : List UInt8 := [180, 0, 7, 28, 100, 184, 0, 199, 42, 182, 0, 56, 177]
abbrev dktJ38_or_4 : List UInt8 := dkwJ38_or_4 ++ []
def dkwJ38_or_3 : List UInt8 := [167, 255, 233, 28, 43, 180, 0, 7, 162, 0, 22, 43, 180, 0, 11, 28, 42, 180, 0, 11, 28, 42]
abbrev dktJ38_or_3 : List UInt8 := dkwJ38_or_3 ++ dktJ38_or_4
def dkwJ38_or_2 : List UInt8 := [29, 28, 162, 0, 24, 42, 180, 0, 11, 29, 92, 47, 43, 180, 0, 11, 29, 47, 129, 80, 132, 3, 1]
abbrev dktJ38_or_2 : List UInt8 := dkwJ38_or_2 ++ dktJ38_or_3
def dkwJ38_or_1 : List UInt8 := [180, 0, 7, 162, 0, 19, 42, 43, 180, 0, 7, 182, 0, 139, 42, 43, 180, 0, 7, 181, 0, 7, 3, 62]
abbrev dktJ38_or_1 : List UInt8 := dkwJ38_or_1 ++ dktJ38_or_2
def dkwJ38_or_0 : List UInt8 := [42, 43, 166, 0, 4, 177, 42, 180, 0, 7, 43, 180, 0, 7, 184, 0, 193, 61, 42, 180, 0, 7, 43]
abbrev dktJ38_or_0 : List UInt8 := dkwJ38_or_0 ++ dktJ38_or_1
theorem dksJ38_or_0 : cJ38_or.data.toList.drop 0 = dktJ38_or_0 := by decide +kernel
theorem dksJ38_or_1 : cJ38_or.data.toList.drop 23 = dktJ38_or_1 := dk_seg dksJ38_or_0 23 rfl rfl
theorem dksJ38_or_2 : cJ38_or.data.toList.drop 47 = dktJ38_or_2 := dk_seg dksJ38_or_1 24 rfl rfl
theorem dksJ38_or_3 : cJ38_or.data.toList.drop 70 = dktJ38_or_3 := dk_seg dksJ38_or_2 23 rfl rfl
theorem dksJ38_or_4 : cJ38_or.data.toList.drop 92 = dktJ38_or_4 := dk_seg dksJ38_or_3 22 rfl rfl
theorem dJ38_or_0 : decode cJ38_or 0 = .ok (.aload_n 0, 1) := dk_42 (dk_at dksJ38_or_0 0 rfl rfl)
theorem dJ38_or_1 : decode cJ38_or 1 = .ok (.aload_n 1, 1) := dk_43 (dk_at dksJ38_or_0 1 rfl rfl)
theorem dJ38_or_2 : decode cJ38_or 2 = .ok (.if_acmp .ne 4, 3) := dk_166 0 4 (dk_at dksJ38_or_0 2 rfl rfl)
theorem dJ38_or_5 : decode cJ38_or 5 = .ok (.return_, 1) := dk_177 (dk_at dksJ38_or_0 5 rfl rfl)
theorem dJ38_or_6 : decode cJ38_or 6 = .ok (.aload_n 0, 1) := dk_42 (dk_at dksJ38_or_0 6 rfl rfl)
theorem dJ38_or_7 : decode cJ38_or 7 = .ok (.getfield 7, 3) := dk_180 0 7 (dk_at dksJ38_or_0 7 rfl rfl)
theorem dJ38_or_10 : decode cJ38_or 10 = .ok (.aload_n 1, 1) := dk_43 (dk_at dksJ38_or_0 10 rfl rfl)
theorem dJ38_or_11 : decode cJ38_or 11 = .ok (.getfield 7, 3) := dk_180 0 7 (dk_at dksJ38_or_0 11 rfl rfl)
theorem dJ38_or_14 : decode cJ38_or 14 = .ok (.invokestatic 193, 3) := dk_184 0 193 (dk_at dksJ38_or_0 14 rfl rfl)
theorem dJ38_or_17 : decode cJ38_or 17 = .ok (.istore_n 2, 1) := dk_61 (dk_at dksJ38_or_0 17 rfl rfl)
theorem dJ38_or_18 : decode cJ38_or 18 = .ok (.aload_n 0, 1) := dk_42 (dk_at dksJ38_or_0 18 rfl rfl)
theorem dJ38_or_19 : decode cJ38_or 19 = .ok (.getfield 7, 3) := dk_180 0 7 (dk_at dksJ38_or_0 19 rfl rfl)
theorem dJ38_or_22 : decode cJ38_or 22 = .ok (.aload_n 1, 1) := dk_43 (dk_at dksJ38_or_0 22 rfl rfl)
theorem dJ38_or_23 : decode cJ38_or 23 = .ok (.getfield 7, 3) := dk_180 0 7 (dk_at dksJ38_or_1 0 rfl rfl)
theorem dJ38_or_26 : decode cJ38_or 26 = .ok (.if_icmp .ge 19, 3) := dk_162 0 19 (dk_at dksJ38_or_1 3 rfl rfl)
theorem dJ38_or_29 : decode cJ38_or 29 = .ok (.aload_n 0, 1) := dk_42 (dk_at dksJ38_or_1 6 rfl rfl)
theorem dJ38_or_30 : decode cJ38_or 30 = .ok (.aload_n 1, 1) := dk_43 (dk_at dksJ38_or_1 7 rfl rfl)
theorem dJ38_or_31 : decode cJ38_or 31 = .ok (.getfield 7, 3) := dk_180 0 7 (dk_at dksJ38_or_1 8 rfl rfl)
theorem dJ38_or_34 : decode cJ38_or 34 = .ok (.invokevirtual 139, 3) := dk_182 0 139 (dk_at dksJ38_or_1 11 rfl rfl)
theorem dJ38_or_37 : decode cJ38_or 37 = .ok (.aload_n 0, 1) := dk_42 (dk_at dksJ38_or_1 14 rfl rfl)
theorem dJ38_or_38 : decode cJ38_or 38 = .ok (.aload_n 1, 1) := dk_43 (dk_at dksJ38_or_1 15 rfl rfl)
theorem dJ38_or_39 : decode cJ38_or 39 = .ok (.getfield 7, 3) := dk_180 0 7 (dk_at dksJ38_or_1 16 rfl rfl)
theorem dJ38_or_42 : decode cJ38_or 42 = .ok (.putfield 7, 3) := dk_181 0 7 (dk_at dksJ38_or_1 19 rfl rfl)
theorem dJ38_or_45 : decode cJ38_or 45 = .ok (.iconst 0, 1) := dk_3 (dk_at dksJ38_or_1 22 rfl rfl)
theorem dJ38_or_46 : decode cJ38_or 46 = .ok (.istore_n 3, 1) := dk_62 (dk_at dksJ38_or_1 23 rfl rfl)
theorem dJ38_or_47 : decode cJ38_or 47 = .ok (.iload_n 3, 1) := dk_29 (dk_at dksJ38_or_2 0 rfl rfl)
theorem dJ38_or_48 : decode cJ38_or 48 = .ok (.iload_n 2, 1) := dk_28 (dk_at dksJ38_or_2 1 rfl rfl)
theorem dJ38_or_49 : decode cJ38_or 49 = .ok (.if_icmp .ge 24, 3) := dk_162 0 24 (dk_at dksJ38_or_2 2 rfl rfl)
theorem dJ38_or_52 : decode cJ38_or 52 = .ok (.aload_n 0, 1) := dk_42 (dk_at dksJ38_or_2 5 rfl rfl)
theorem dJ38_or_53 : decode cJ38_or 53 = .ok (.getfield 11, 3) := dk_180 0 11 (dk_at dksJ38_or_2 6 rfl rfl)
theorem dJ38_or_56 : decode cJ38_or 56 = .ok (.iload_n 3, 1) := dk_29 (dk_at dksJ38_or_2 9 rfl rfl)
theorem dJ38_or_57 : decode cJ38_or 57 = .ok (.dup2, 1) := dk_92 (dk_at dksJ38_or_2 10 rfl rfl)
theorem dJ38_or_58 : decode cJ38_or 58 = .ok (.laload, 1) := dk_47 (dk_at dksJ38_or_2 11 rfl rfl)
theorem dJ38_or_59 : decode cJ38_or 59 = .ok (.aload_n 1, 1) := dk_43 (dk_at dksJ38_or_2 12 rfl rfl)
theorem dJ38_or_60 : decode cJ38_or 60 = .ok (.getfield 11, 3) := dk_180 0 11 (dk_at dksJ38_or_2 13 rfl rfl)
theorem dJ38_or_63 : decode cJ38_or 63 = .ok (.iload_n 3, 1) := dk_29 (dk_at dksJ38_or_2 16 rfl rfl)
theorem dJ38_or_64 : decode cJ38_or 64 = .ok (.laload, 1) := dk_47 (dk_at dksJ38_or_2 17 rfl rfl)
theorem dJ38_or_65 : decode cJ38_or 65 = .ok (.lor, 1) := dk_129 (dk_at dksJ38_or_2 18 rfl rfl)
theorem dJ38_or_66 : decode cJ38_or 66 = .ok (.lastore, 1) := dk_80 (dk_at dksJ38_or_2 19 rfl rfl)
theorem dJ38_or_67 : decode cJ38_or 67 = .ok (.iinc 3 1, 3) := dk_132 3 1 (dk_at dksJ38_or_2 20 rfl rfl)
theorem dJ38_or_70 : decode cJ38_or 70 = .ok (.goto (-23), 3) := dk_167 255 233 (dk_at dksJ38_or_3 0 rfl rfl)
theorem dJ38_or_73 : decode cJ38_or 73 = .ok (.iload_n 2, 1) := dk_28 (dk_at dksJ38_or_3 3 rfl rfl)
theorem dJ38_or_74 : decode cJ38_or 74 = .ok (.aload_n 1, 1) := dk_43 (dk_at dksJ38_or_3 4 rfl rfl)
theorem dJ38_or_75 : decode cJ38_or 75 = .ok (.getfield 7, 3) := dk_180 0 7 (dk_at dksJ38_or_3 5 rfl rfl)
theorem dJ38_or_78 : decode cJ38_or 78 = .ok (.if_icmp .ge 22, 3) := dk_162 0 22 (dk_at dksJ38_or_3 8 rfl rfl)
theorem dJ38_or_81 : decode cJ38_or 81 = .ok (.aload_n 1, 1) := dk_43 (dk_at dksJ38_or_3 11 rfl rfl)
theorem dJ38_or_82 : decode cJ38_or 82 = .ok (.getfield 11, 3) := dk_180 0 11 (dk_at dksJ38_or_3 12 rfl rfl)
theorem dJ38_or_85 : decode cJ38_or 85 = .ok (.iload_n 2, 1) := dk_28 (dk_at dksJ38_or_3 15 rfl rfl)
theorem dJ38_or_86 : decode cJ38_or 86 = .ok (.aload_n 0, 1) := dk_42 (dk_at dksJ38_or_3 16 rfl rfl)
theorem dJ38_or_87 : decode cJ38_or 87 = .ok (.getfield 11, 3) := dk_180 0 11 (dk_at dksJ38_or_3 17 rfl rfl)
theorem dJ38_or_90 : decode cJ38_or 90 = .ok (.iload_n 2, 1) := dk_28 (dk_at dksJ38_or_3 20 rfl rfl)
theorem dJ38_or_91 : decode cJ38_or 91 = .ok (.aload_n 0, 1) := dk_42 (dk_at dksJ38_or_3 21 rfl rfl)
theorem dJ38_or_92 : decode cJ38_or 92 = .ok (.getfield 7, 3) := dk_180 0 7 (dk_at dksJ38_or_4 0 rfl rfl)
theorem dJ38_or_95 : decode cJ38_or 95 = .ok (.iload_n 2, 1) := dk_28 (dk_at dksJ38_or_4 3 rfl rfl)
theorem dJ38_or_96 : decode cJ38_or 96 = .ok (.isub, 1) := dk_100 (dk_at dksJ38_or_4 4 rfl rfl)
theorem dJ38_or_97 : decode cJ38_or 97 = .ok (.invokestatic 199, 3) := dk_184 0 199 (dk_at dksJ38_or_4 5 rfl rfl)
theorem dJ38_or_100 : decode cJ38_or 100 = .ok (.aload_n 0, 1) := dk_42 (dk_at dksJ38_or_4 8 rfl rfl)
theorem dJ38_or_101 : decode cJ38_or 101 = .ok (.invokevirtual 56, 3) := dk_182 0 56 (dk_at dksJ38_or_4 9 rfl rfl)
theorem dJ38_or_104 : decode cJ38_or 104 = .ok (.return_, 1) := dk_177 (dk_at dksJ38_or_4 12 rfl rfl)
theorem q175 : (Jvm.Cond.initialized "java/util/BitSet") ∈ lw_all := lw_g (lw_at lw_m1 56 rfl) rfl
theorem q1111 : (Jvm.Cond.selects "java/util/BitSet" ({ cls := "java/lang/Object", name := "getClass", desc := "()Ljava/lang/Class;" } : Jvm.MethodName) ({ cls := "java/lang/Object", name := "getClass", desc := "()Ljava/lang/Class;" } : Jvm.MethodName)) ∈ lw_all := lw_g (lw_at lw_m5 32 rfl) rfl
theorem q2219 : (Jvm.Cond.instantiable "java/util/BitSet" (3 : Nat)) ∈ lw_all := lw_g (lw_at lw_m9 180 rfl) rfl
theorem q2221 : (Jvm.Cond.instanceMethod ({ cls := "java/util/BitSet", name := "<init>", desc := "(I)V" } : Jvm.MethodName)) ∈ lw_all := lw_g (lw_at lw_m9 182 rfl) rfl
theorem q2222 : (Jvm.Cond.code ({ cls := "java/util/BitSet", name := "<init>", desc := "(I)V" } : Jvm.MethodName) prog_66_method_5_code (2 : Nat) (Option.none : Option Jvm.ClassFile.FieldType)) ∈ lw_all := lw_g (lw_at lw_m9 183 rfl) rfl
theorem q2223 : (Jvm.Cond.methodLink "java/util/BitSet" (21 : Nat) ({ cls := "java/lang/Object", name := "<init>", desc := "()V" } : Jvm.MethodName)) ∈ lw_all := lw_g (lw_at lw_m9 184 rfl) rfl
theorem q2224 : (Jvm.Cond.methodLink "java/util/BitSet" (27 : Nat) ({ cls := "java/util/BitSet", name := "initWords", desc := "(I)V" } : Jvm.MethodName)) ∈ lw_all := lw_g (lw_at lw_m9 185 rfl) rfl
theorem q2225 : (Jvm.Cond.privateMethod ({ cls := "java/util/BitSet", name := "initWords", desc := "(I)V" } : Jvm.MethodName)) ∈ lw_tbl := lw_at lw_m9 186 rfl
theorem q2226 : (Jvm.Cond.instanceMethod ({ cls := "java/util/BitSet", name := "initWords", desc := "(I)V" } : Jvm.MethodName)) ∈ lw_all := lw_g (lw_at lw_m9 187 rfl) rfl
theorem q2227 : (Jvm.Cond.code ({ cls := "java/util/BitSet", name := "initWords", desc := "(I)V" } : Jvm.MethodName) prog_66_method_6_code (2 : Nat) (Option.none : Option Jvm.ClassFile.FieldType)) ∈ lw_all := lw_g (lw_at lw_m9 188 rfl) rfl
theorem q2228 : (Jvm.Cond.methodLink "java/util/BitSet" (52 : Nat) ({ cls := "java/util/BitSet", name := "wordIndex", desc := "(I)I" } : Jvm.MethodName)) ∈ lw_all := lw_g (lw_at lw_m9 189 rfl) rfl
theorem q2229 : (Jvm.Cond.static ({ cls := "java/util/BitSet", name := "wordIndex", desc := "(I)I" } : Jvm.MethodName)) ∈ lw_all := lw_g (lw_at lw_m9 190 rfl) rfl
theorem q2230 : (Jvm.Cond.code ({ cls := "java/util/BitSet", name := "wordIndex", desc := "(I)I" } : Jvm.MethodName) prog_66_method_1_code (1 : Nat) (Option.some Jvm.ClassFile.FieldType.int)) ∈ lw_all := lw_g (lw_at lw_m9 191 rfl) rfl
theorem q2231 : (Jvm.Cond.fieldLink "java/util/BitSet" (11 : Nat) "java/util/BitSet" "words" "[J") ∈ lw_all := lw_g (lw_at lw_m9 192 rfl) rfl
theorem q2232 : (Jvm.Cond.fieldLink "java/util/BitSet" (7 : Nat) "java/util/BitSet" "wordsInUse" "I") ∈ lw_all := lw_g (lw_at lw_m9 193 rfl) rfl
theorem q2233 : (Jvm.Cond.fieldLink "java/util/BitSet" (24 : Nat) "java/util/BitSet" "sizeIsSticky" "Z") ∈ lw_all := lw_g (lw_at lw_m9 194 rfl) rfl
theorem q2234 : (Jvm.Cond.lays "java/util/BitSet" "java/util/BitSet" "words" "[J") ∈ lw_all := lw_g (lw_at lw_m9 195 rfl) rfl
theorem q2235 : (Jvm.Cond.soleField "java/util/BitSet" "words") ∈ lw_all := lw_g (lw_at lw_m9 196 rfl) rfl
theorem q2236 : (Jvm.Cond.lays "java/util/BitSet" "java/util/BitSet" "wordsInUse" "I") ∈ lw_all := lw_g (lw_at lw_m9 197 rfl) rfl
theorem q2237 : (Jvm.Cond.soleField "java/util/BitSet" "wordsInUse") ∈ lw_all := lw_g (lw_at lw_m9 198 rfl) rfl
theorem q2238 : (Jvm.Cond.lays "java/util/BitSet" "java/util/BitSet" "sizeIsSticky" "Z") ∈ lw_all := lw_g (lw_at lw_m9 199 rfl) rfl
theorem q2239 : (Jvm.Cond.soleField "java/util/BitSet" "sizeIsSticky") ∈ lw_all := lw_g (lw_at lw_m9 200 rfl) rfl
theorem q2240 : (Jvm.Cond.superclass "java/util/BitSet" "java/lang/Object") ∈ lw_all := lw_g (lw_at lw_m9 201 rfl) rfl
theorem q2250 : (Jvm.Cond.instanceMethod ({ cls := "java/util/BitSet", name := "get", desc := "(I)Z" } : Jvm.MethodName)) ∈ lw_all := lw_g (lw_at lw_m9 211 rfl) rfl
theorem q2251 : (Jvm.Cond.selects "java/util/BitSet" ({ cls := "java/util/BitSet", name := "get", desc := "(I)Z" } : Jvm.MethodName) ({ cls := "java/util/BitSet", name := "get", desc := "(I)Z" } : Jvm.MethodName)) ∈ lw_all := lw_g (lw_at lw_m9 212 rfl) rfl
theorem q2252 : (Jvm.Cond.code ({ cls := "java/util/BitSet", name := "get", desc := "(I)Z" } : Jvm.MethodName) prog_66_method_26_code (3 : Nat) (Option.some Jvm.ClassFile.FieldType.boolean)) ∈ lw_all := lw_g (lw_at lw_m9 213 rfl) rfl
theorem q2253 : (Jvm.Cond.classLink "java/util/BitSet" (142 : Nat) "java/lang/IndexOutOfBoundsException") ∈ lw_all := lw_g (lw_at lw_m9 214 rfl) rfl
theorem q2254 : (Jvm.Cond.classLink "java/util/BitSet" (33 : Nat) "java/lang/StringBuilder") ∈ lw_all := lw_g (lw_at lw_m9 215 rfl) rfl
theorem q2255 : (Jvm.Cond.methodLink "java/util/BitSet" (35 : Nat) ({ cls := "java/lang/StringBuilder", name := "<init>", desc := "()V" } : Jvm.MethodName)) ∈ lw_all := lw_g (lw_at lw_m9 216 rfl) rfl
theorem q2256 : (Jvm.Cond.stringRef "java/util/BitSet" (153 : Nat) "bitIndex < 0: ") ∈ lw_tbl := lw_at lw_m9 217 rfl
theorem q2257 : (Jvm.Cond.methodLink "java/util/BitSet" (38 : Nat) ({ cls := "java/lang/StringBuilder", name := "append", desc := "(Ljava/lang/String;)Ljava/lang/StringBuilder;" } : Jvm.MethodName)) ∈ lw_all := lw_g (lw_at lw_m9 218 rfl) rfl
theorem q2258 : (Jvm.Cond.methodLink "java/util/BitSet" (42 : Nat) ({ cls := "java/lang/StringBuilder", name := "append", desc := "(I)Ljava/lang/StringBuilder;" } : Jvm.MethodName)) ∈ lw_all := lw_g (lw_at lw_m9 219 rfl) rfl
theorem q2259 : (Jvm.Cond.methodLink "java/util/BitSet" (45 : Nat) ({ cls := "java/lang/StringBuilder", name := "toString", desc := "()Ljava/lang/String;" } : Jvm.MethodName)) ∈ lw_all := lw_g (lw_at lw_m9 220 rfl) rfl
theorem q2260 : (Jvm.Cond.methodLink "java/util/BitSet" (146 : Nat) ({ cls := "java/lang/IndexOutOfBoundsException", name := "<init>", desc := "(Ljava/lang/String;)V" } : Jvm.MethodName)) ∈ lw_all := lw_g (lw_at lw_m9 221 rfl) rfl
theorem q2261 : (Jvm.Cond.methodLink "java/util/BitSet" (56 : Nat) ({ cls := "java/util/BitSet", name := "checkInvariants", desc := "()V" } : Jvm.MethodName)) ∈ lw_all := lw_g (lw_at lw_m9 222 rfl) rfl
theorem q2262 : (Jvm.Cond.privateMethod ({ cls := "java/util/BitSet", name := "checkInvariants", desc := "()V" } : Jvm.MethodName)) ∈ lw_tbl := lw_at lw_m9 223 rfl
theorem q2263 : (Jvm.Cond.instanceMethod ({ cls := "java/util/BitSet", name := "checkInvariants", desc := "()V" } : Jvm.MethodName)) ∈ lw_all := lw_g (lw_at lw_m9 224 rfl) rfl
theorem q2264 : (Jvm.Cond.code ({ cls := "java/util/BitSet", name := "checkInvariants", desc := "()V" } : Jvm.MethodName) prog_66_method_2_code (1 : Nat) (Option.none : Option Jvm.ClassFile.FieldType)) ∈ lw_all := lw_g (lw_at lw_m9 225 rfl) rfl
theorem q2265 : (Jvm.Cond.fieldLink "java/util/BitSet" (3 : Nat) "java/util/BitSet" "$assertionsDisabled" "Z") ∈ lw_all := lw_g (lw_at lw_m9 226 rfl) rfl
theorem q2266 : (Jvm.Cond.laysStatic "java/util/BitSet" "$assertionsDisabled" "Z") ∈ lw_tbl := lw_at lw_m9 227 rfl
theorem q2268 : (Jvm.Cond.instanceMethod ({ cls := "java/util/BitSet", name := "set", desc := "(I)V" } : Jvm.MethodName)) ∈ lw_all := lw_g (lw_at lw_m9 229 rfl) rfl
theorem q2269 : (Jvm.Cond.selects "java/util/BitSet" ({ cls := "java/util/BitSet", name := "set", desc := "(I)V" } : Jvm.MethodName) ({ cls := "java/util/BitSet", name := "set", desc := "(I)V" } : Jvm.MethodName)) ∈ lw_all := lw_g (lw_at lw_m9 230 rfl) rfl
theorem q2270 : (Jvm.Cond.code ({ cls := "java/util/BitSet", name := "set", desc := "(I)V" } : Jvm.MethodName) prog_66_method_19_code (3 : Nat) (Option.none : Option Jvm.ClassFile.FieldType)) ∈ lw_all := lw_g (lw_at lw_m9 231 rfl) rfl
theorem q2271 : (Jvm.Cond.methodLink "java/util/BitSet" (155 : Nat) ({ cls := "java/util/BitSet", name := "expandTo", desc := "(I)V" } : Jvm.MethodName)) ∈ lw_all := lw_g (lw_at lw_m9 232 rfl) rfl
theorem q2272 : (Jvm.Cond.privateMethod ({ cls := "java/util/BitSet", name := "expandTo", desc := "(I)V" } : Jvm.MethodName)) ∈ lw_tbl := lw_at lw_m9 233 rfl
theorem q2273 : (Jvm.Cond.instanceMethod ({ cls := "java/util/BitSet", name := "expandTo", desc := "(I)V" } : Jvm.MethodName)) ∈ lw_all := lw_g (lw_at lw_m9 234 rfl) rfl
theorem q2274 : (Jvm.Cond.code ({ cls := "java/util/BitSet", name := "expandTo", desc := "(I)V" } : Jvm.MethodName) prog_66_method_15_code (3 : Nat) (Option.none : Option Jvm.ClassFile.FieldType)) ∈ lw_all := lw_g (lw_at lw_m9 235 rfl) rfl
theorem q2275 : (Jvm.Cond.methodLink "java/util/BitSet" (139 : Nat) ({ cls := "java/util/BitSet", name := "ensureCapacity", desc := "(I)V" } : Jvm.MethodName)) ∈ lw_all := lw_g (lw_at lw_m9 236 rfl) rfl
theorem q2276 : (Jvm.Cond.privateMethod ({ cls := "java/util/BitSet", name := "ensureCapacity", desc := "(I)V" } : Jvm.MethodName)) ∈ lw_tbl := lw_at lw_m9 237 rfl
theorem q2277 : (Jvm.Cond.instanceMethod ({ cls := "java/util/BitSet", name := "ensureCapacity", desc := "(I)V" } : Jvm.MethodName)) ∈ lw_all := lw_g (lw_at lw_m9 238 rfl) rfl
theorem q2278 : (Jvm.Cond.code ({ cls := "java/util/BitSet", name := "ensureCapacity", desc := "(I)V" } : Jvm.MethodName) prog_66_method_14_code (3 : Nat) (Option.none : Option Jvm.ClassFile.FieldType)) ∈ lw_all := lw_g (lw_at lw_m9 239 rfl) rfl
theorem q2279 : (Jvm.Cond.methodLink "java/util/BitSet" (133 : Nat) ({ cls := "java/lang/Math", name := "max", desc := "(II)I" } : Jvm.MethodName)) ∈ lw_all := lw_g (lw_at lw_m10 0 rfl) rfl
theorem q2280 : (Jvm.Cond.methodLink "java/util/BitSet" (59 : Nat) ({ cls := "java/util/Arrays", name := "copyOf", desc := "([JI)[J" } : Jvm.MethodName)) ∈ lw_all := lw_g (lw_at lw_m10 1 rfl) rfl
theorem q2320 : (Jvm.Cond.instanceMethod ({ cls := "java/util/BitSet", name := "nextSetBit", desc := "(I)I" } : Jvm.MethodName)) ∈ lw_all := lw_g (lw_at lw_m10 41 rfl) rfl
theorem q2321 : (Jvm.Cond.selects "java/util/BitSet" ({ cls := "java/util/BitSet", name := "nextSetBit", desc := "(I)I" } : Jvm.MethodName) ({ cls := "java/util/BitSet", name := "nextSetBit", desc := "(I)I" } : Jvm.MethodName)) ∈ lw_all := lw_g (lw_at lw_m10 42 rfl) rfl
theorem q2322 : (Jvm.Cond.code ({ cls := "java/util/BitSet", name := "nextSetBit", desc := "(I)I" } : Jvm.MethodName) prog_66_method_28_code (5 : Nat) (Option.some Jvm.ClassFile.FieldType.int)) ∈ lw_all := lw_g (lw_at lw_m10 43 rfl) rfl
theorem q2323 : (Jvm.Cond.stringRef "java/util/BitSet" (144 : Nat) "fromIndex < 0: ") ∈ lw_tbl := lw_at lw_m10 44 rfl
theorem q2324 : (Jvm.Cond.constantLong "java/util/BitSet" (165 : Nat) (-1 : Int64)) ∈ lw_all := lw_g (lw_at lw_m10 45 rfl) rfl
theorem q2325 : (Jvm.Cond.methodLink "java/util/BitSet" (182 : Nat) ({ cls := "java/lang/Long", name := "numberOfTrailingZeros", desc := "(J)I" } : Jvm.MethodName)) ∈ lw_all := lw_g (lw_at lw_m10 46 rfl) rfl
theorem q2333 : (Jvm.Cond.instanceMethod ({ cls := "java/util/BitSet", name := "set", desc := "(IZ)V" } : Jvm.MethodName)) ∈ lw_all := lw_g (lw_at lw_m10 54 rfl) rfl
theorem q2334 : (Jvm.Cond.selects "java/util/BitSet" ({ cls := "java/util/BitSet", name := "set", desc := "(IZ)V" } : Jvm.MethodName) ({ cls := "java/util/BitSet", name := "set", desc := "(IZ)V" } : Jvm.MethodName)) ∈ lw_all := lw_g (lw_at lw_m10 55 rfl) rfl
theorem q2335 : (Jvm.Cond.code ({ cls := "java/util/BitSet", name := "set", desc := "(IZ)V" } : Jvm.MethodName) prog_66_method_20_code (3 : Nat) (Option.none : Option Jvm.ClassFile.FieldType)) ∈ lw_all := lw_g (lw_at lw_m10 56 rfl) rfl
theorem q2336 : (Jvm.Cond.methodLink "java/util/BitSet" (167 : Nat) ({ cls := "java/util/BitSet", name := "set", desc := "(I)V" } : Jvm.MethodName)) ∈ lw_all := lw_g (lw_at lw_m10 57 rfl) rfl
theorem q2337 : (Jvm.Cond.methodLink "java/util/BitSet" (170 : Nat) ({ cls := "java/util/BitSet", name := "clear", desc := "(I)V" } : Jvm.MethodName)) ∈ lw_all := lw_g (lw_at lw_m10 58 rfl) rfl
theorem q2338 : (Jvm.Cond.instanceMethod ({ cls := "java/util/BitSet", name := "clear", desc := "(I)V" } : Jvm.MethodName)) ∈ lw_all := lw_g (lw_at lw_m10 59 rfl) rfl
theorem q2339 : (Jvm.Cond.selects "java/util/BitSet" ({ cls := "java/util/BitSet", name := "clear", desc := "(I)V" } : Jvm.MethodName) ({ cls := "java/util/BitSet", name := "clear", desc := "(I)V" } : Jvm.MethodName)) ∈ lw_all := lw_g (lw_at lw_m10 60 rfl) rfl
theorem q2340 : (Jvm.Cond.code ({ cls := "java/util/BitSet", name := "clear", desc := "(I)V" } : Jvm.MethodName) prog_66_method_23_code (3 : Nat) (Option.none : Option Jvm.ClassFile.FieldType)) ∈ lw_all := lw_g (lw_at lw_m10 61 rfl) rfl
theorem q2341 : (Jvm.Cond.methodLink "java/util/BitSet" (158 : Nat) ({ cls := "java/util/BitSet", name := "recalculateWordsInUse", desc := "()V" } : Jvm.MethodName)) ∈ lw_all := lw_g (lw_at lw_m10 62 rfl) rfl
theorem q2342 : (Jvm.Cond.privateMethod ({ cls := "java/util/BitSet", name := "recalculateWordsInUse", desc := "()V" } : Jvm.MethodName)) ∈ lw_tbl := lw_at lw_m10 63 rfl
theorem q2343 : (Jvm.Cond.instanceMethod ({ cls := "java/util/BitSet", name := "recalculateWordsInUse", desc := "()V" } : Jvm.MethodName)) ∈ lw_all := lw_g (lw_at lw_m10 64 rfl) rfl
theorem q2344 : (Jvm.Cond.code ({ cls := "java/util/BitSet", name := "recalculateWordsInUse", desc := "()V" } : Jvm.MethodName) prog_66_method_3_code (2 : Nat) (Option.none : Option Jvm.ClassFile.FieldType)) ∈ lw_all := lw_g (lw_at lw_m10 65 rfl) rfl
theorem q2346 : (Jvm.Cond.instanceMethod ({ cls := "java/util/BitSet", name := "cardinality", desc := "()I" } : Jvm.MethodName)) ∈ lw_all := lw_g (lw_at lw_m10 67 rfl) rfl
theorem q2347 : (Jvm.Cond.selects "java/util/BitSet" ({ cls := "java/util/BitSet", name := "cardinality", desc := "()I" } : Jvm.MethodName) ({ cls := "java/util/BitSet", name := "cardinality", desc := "()I" } : Jvm.MethodName)) ∈ lw_all := lw_g (lw_at lw_m10 68 rfl) rfl
theorem q2348 : (Jvm.Cond.code ({ cls := "java/util/BitSet", name := "cardinality", desc := "()I" } : Jvm.MethodName) prog_66_method_35_code (3 : Nat) (Option.some Jvm.ClassFile.FieldType.int)) ∈ lw_all := lw_g (lw_at lw_m10 69 rfl) rfl
theorem q2349 : (Jvm.Cond.methodLink "java/util/BitSet" (196 : Nat) ({ cls := "java/lang/Long", name := "bitCount", desc := "(J)I" } : Jvm.MethodName)) ∈ lw_all := lw_g (lw_at lw_m10 70 rfl) rfl
theorem q2356 : (Jvm.Cond.instanceMethod ({ cls := "java/util/BitSet", name := "or", desc := "(Ljava/util/BitSet;)V" } : Jvm.MethodName)) ∈ lw_all := lw_g (lw_at lw_m10 77 rfl) rfl
theorem q2357 : (Jvm.Cond.selects "java/util/BitSet" ({ cls := "java/util/BitSet", name := "or", desc := "(Ljava/util/BitSet;)V" } : Jvm.MethodName) ({ cls := "java/util/BitSet", name := "or", desc := "(Ljava/util/BitSet;)V" } : Jvm.MethodName)) ∈ lw_all := lw_g (lw_at lw_m10 78 rfl) rfl
theorem q2358 : (Jvm.Cond.code ({ cls := "java/util/BitSet", name := "or", desc := "(Ljava/util/BitSet;)V" } : Jvm.MethodName) prog_66_method_37_code (4 : Nat) (Option.none : Option Jvm.ClassFile.FieldType)) ∈ lw_all := lw_g (lw_at lw_m10 79 rfl) rfl
theorem q2359 : (Jvm.Cond.methodLink "java/util/BitSet" (193 : Nat) ({ cls := "java/lang/Math", name := "min", desc := "(II)I" } : Jvm.MethodName)) ∈ lw_all := lw_g (lw_at lw_m10 80 rfl) rfl
theorem q2360 : (Jvm.Cond.methodLink "java/util/BitSet" (199 : Nat) ({ cls := "java/lang/System", name := "arraycopy", desc := "(Ljava/lang/Object;ILjava/lang/Object;II)V" } : Jvm.MethodName)) ∈ lw_all := lw_g (lw_at lw_m10 81 rfl) rfl
theorem q3589 : (Jvm.Cond.castable "java/util/BitSet" "java/lang/Object") ∈ lw_tbl := lw_at lw_m15 110 rfl
theorem in_J38 : ∀ w ∈ wsJ380, w ∈ lw_all := lw_in wsJ380 [2234, 2236, 2238] (by decide +kernel) (by decide +kernel)
/-! java/lang/Long -/
set_option maxRecDepth 100000
def RJ39 : String := "java/lang/Long"
abbrev cJ39_numberOfTrailingZeros : ByteArray := prog_42_method_49_code
def yJ39_numberOfTrailingZeros : MethodName := ⟨RJ39, "numberOfTrailingZeros", "(J)I"⟩
def dkwJ39_numberOfTrailingZeros_1 : List UInt8 := [184, 1, 55, 172]
abbrev dktJ39_numberOfTrailingZeros_1 : List UInt8 := dkwJ39_numberOfTrailingZeros_1 ++ []
def dkwJ39_numberOfTrailingZeros_0 : List UInt8 := [30, 136, 61, 28, 154, 0, 17, 16, 32, 30, 16, 32, 125, 136, 184, 1, 55, 96, 167, 0, 7, 28]
abbrev dktJ39_numberOfTrailingZeros_0 : List UInt8 := dkwJ39_numberOfTrailingZeros_0 ++ dktJ39_numberOfTrailingZeros_1
theorem dksJ39_numberOfTrailingZeros_0 : cJ39_numberOfTrailingZeros.data.toList.drop 0 = dktJ39_numberOfTrailingZeros_0 := by decide +kernel
theorem dksJ39_numberOfTrailingZeros_1 : cJ39_numberOfTrailingZeros.data.toList.drop 22 = dktJ39_numberOfTrailingZeros_1 := dk_seg dksJ39_numberOfTrailingZeros_0 22 rfl rfl
theorem dJ39_numberOfTrailingZeros_0 : decode cJ39_numberOfTrailingZeros 0 = .ok (.lload_n 0, 1) := dk_30 (dk_at dksJ39_numberOfTrailingZeros_0 0 rfl rfl)
theorem dJ39_numberOfTrailingZeros_1 : decode cJ39_numberOfTrailingZeros 1 = .ok (.l2i, 1) := dk_136 (dk_at dksJ39_numberOfTrailingZeros_0 1 rfl rfl)
theorem dJ39_numberOfTrailingZeros_2 : decode cJ39_numberOfTrailingZeros 2 = .ok (.istore_n 2, 1) := dk_61 (dk_at dksJ39_numberOfTrailingZeros_0 2 rfl rfl)
theorem dJ39_numberOfTrailingZeros_3 : decode cJ39_numberOfTrailingZeros 3 = .ok (.iload_n 2, 1) := dk_28 (dk_at dksJ39_numberOfTrailingZeros_0 3 rfl rfl)
theorem dJ39_numberOfTrailingZeros_4 : decode cJ39_numberOfTrailingZeros 4 = .ok (.ifCond .ne 17, 3) := dk_154 0 17 (dk_at dksJ39_numberOfTrailingZeros_0 4 rfl rfl)
theorem dJ39_numberOfTrailingZeros_7 : decode cJ39_numberOfTrailingZeros 7 = .ok (.bipush 32, 2) := dk_16 32 (dk_at dksJ39_numberOfTrailingZeros_0 7 rfl rfl)
theorem dJ39_numberOfTrailingZeros_9 : decode cJ39_numberOfTrailingZeros 9 = .ok (.lload_n 0, 1) := dk_30 (dk_at dksJ39_numberOfTrailingZeros_0 9 rfl rfl)
theorem dJ39_numberOfTrailingZeros_10 : decode cJ39_numberOfTrailingZeros 10 = .ok (.bipush 32, 2) := dk_16 32 (dk_at dksJ39_numberOfTrailingZeros_0 10 rfl rfl)
theorem dJ39_numberOfTrailingZeros_12 : decode cJ39_numberOfTrailingZeros 12 = .ok (.lushr, 1) := dk_125 (dk_at dksJ39_numberOfTrailingZeros_0 12 rfl rfl)
theorem dJ39_numberOfTrailingZeros_13 : decode cJ39_numberOfTrailingZeros 13 = .ok (.l2i, 1) := dk_136 (dk_at dksJ39_numberOfTrailingZeros_0 13 rfl rfl)
theorem dJ39_numberOfTrailingZeros_14 : decode cJ39_numberOfTrailingZeros 14 = .ok (.invokestatic 311, 3) := dk_184 1 55 (dk_at dksJ39_numberOfTrailingZeros_0 14 rfl rfl)
theorem dJ39_numberOfTrailingZeros_17 : decode cJ39_numberOfTrailingZeros 17 = .ok (.iadd, 1) := dk_96 (dk_at dksJ39_numberOfTrailingZeros_0 17 rfl rfl)
theorem dJ39_numberOfTrailingZeros_18 : decode cJ39_numberOfTrailingZeros 18 = .ok (.goto 7, 3) := dk_167 0 7 (dk_at dksJ39_numberOfTrailingZeros_0 18 rfl rfl)
theorem dJ39_numberOfTrailingZeros_21 : decode cJ39_numberOfTrailingZeros 21 = .ok (.iload_n 2, 1) := dk_28 (dk_at dksJ39_numberOfTrailingZeros_0 21 rfl rfl)
theorem dJ39_numberOfTrailingZeros_22 : decode cJ39_numberOfTrailingZeros 22 = .ok (.invokestatic 311, 3) := dk_184 1 55 (dk_at dksJ39_numberOfTrailingZeros_1 0 rfl rfl)
theorem dJ39_numberOfTrailingZeros_25 : decode cJ39_numberOfTrailingZeros 25 = .ok (.ireturn, 1) := dk_172 (dk_at dksJ39_numberOfTrailingZeros_1 3 rfl rfl)
abbrev cJ39_bitCount : ByteArray := prog_42_method_50_code
def yJ39_bitCount : MethodName := ⟨RJ39, "bitCount", "(J)I"⟩
def dkwJ39_bitCount_2 : List UInt8 := [30, 30, 16, 32, 125, 97, 63, 30, 136, 16, 127, 126, 172]
abbrev dktJ39_bitCount_2 : List UInt8 := dkwJ39_bitCount_2 ++ []
def dkwJ39_bitCount_1 : List UInt8 := [30, 30, 7, 125, 97, 20, 1, 62, 127, 63, 30, 30, 16, 8, 125, 97, 63, 30, 30, 16, 16, 125, 97, 63]
abbrev dktJ39_bitCount_1 : List UInt8 := dkwJ39_bitCount_1 ++ dktJ39_bitCount_2
def dkwJ39_bitCount_0 : List UInt8 := [30, 30, 4, 125, 20, 1, 58, 127, 101, 63, 30, 20, 1, 60, 127, 30, 5, 125, 20, 1, 60, 127, 97, 63]
abbrev dktJ39_bitCount_0 : List UInt8 := dkwJ39_bitCount_0 ++ dktJ39_bitCount_1
theorem dksJ39_bitCount_0 : cJ39_bitCount.data.toList.drop 0 = dktJ39_bitCount_0 := by decide +kernel
theorem dksJ39_bitCount_1 : cJ39_bitCount.data.toList.drop 24 = dktJ39_bitCount_1 := dk_seg dksJ39_bitCount_0 24 rfl rfl
theorem dksJ39_bitCount_2 : cJ39_bitCount.data.toList.drop 48 = dktJ39_bitCount_2 := dk_seg dksJ39_bitCount_1 24 rfl rfl
theorem dJ39_bitCount_0 : decode cJ39_bitCount 0 = .ok (.lload_n 0, 1) := dk_30 (dk_at dksJ39_bitCount_0 0 rfl rfl)
theorem dJ39_bitCount_1 : decode cJ39_bitCount 1 = .ok (.lload_n 0, 1) := dk_30 (dk_at dksJ39_bitCount_0 1 rfl rfl)
theorem dJ39_bitCount_2 : decode cJ39_bitCount 2 = .ok (.iconst 1, 1) := dk_4 (dk_at dksJ39_bitCount_0 2 rfl rfl)
theorem dJ39_bitCount_3 : decode cJ39_bitCount 3 = .ok (.lushr, 1) := dk_125 (dk_at dksJ39_bitCount_0 3 rfl rfl)
theorem dJ39_bitCount_4 : decode cJ39_bitCount 4 = .ok (.ldc2_w 314, 3) := dk_20 1 58 (dk_at dksJ39_bitCount_0 4 rfl rfl)
theorem dJ39_bitCount_7 : decode cJ39_bitCount 7 = .ok (.land, 1) := dk_127 (dk_at dksJ39_bitCount_0 7 rfl rfl)
theorem dJ39_bitCount_8 : decode cJ39_bitCount 8 = .ok (.lsub, 1) := dk_101 (dk_at dksJ39_bitCount_0 8 rfl rfl)
theorem dJ39_bitCount_9 : decode cJ39_bitCount 9 = .ok (.lstore_n 0, 1) := dk_63 (dk_at dksJ39_bitCount_0 9 rfl rfl)
theorem dJ39_bitCount_10 : decode cJ39_bitCount 10 = .ok (.lload_n 0, 1) := dk_30 (dk_at dksJ39_bitCount_0 10 rfl rfl)
theorem dJ39_bitCount_11 : decode cJ39_bitCount 11 = .ok (.ldc2_w 316, 3) := dk_20 1 60 (dk_at dksJ39_bitCount_0 11 rfl rfl)
theorem dJ39_bitCount_14 : decode cJ39_bitCount 14 = .ok (.land, 1) := dk_127 (dk_at dksJ39_bitCount_0 14 rfl rfl)
theorem dJ39_bitCount_15 : decode cJ39_bitCount 15 = .ok (.lload_n 0, 1) := dk_30 (dk_at dksJ39_bitCount_0 15 rfl rfl)
theorem dJ39_bitCount_16 : decode cJ39_bitCount 16 = .ok (.iconst 2, 1) := dk_5 (dk_at dksJ39_bitCount_0 16 rfl rfl)
theorem dJ39_bitCount_17 : decode cJ39_bitCount 17 = .ok (.lushr, 1) := dk_125 (dk_at dksJ39_bitCount_0 17 rfl rfl)
theorem dJ39_bitCount_18 : decode cJ39_bitCount 18 = .ok (.ldc2_w 316, 3) := dk_20 1 60 (dk_at dksJ39_bitCount_0 18 rfl rfl)
theorem dJ39_bitCount_21 : decode cJ39_bitCount 21 = .ok (.land, 1) := dk_127 (dk_at dksJ39_bitCount_0 21 rfl rfl)
theorem dJ39_bitCount_22 : decode cJ39_bitCount 22 = .ok (.ladd, 1) := dk_97 (dk_at dksJ39_bitCount_0 22 rfl rfl)
theorem dJ39_bitCount_23 : decode cJ39_bitCount 23 = .ok (.lstore_n 0, 1) := dk_63 (dk_at dksJ39_bitCount_0 23 rfl rfl)
theorem dJ39_bitCount_24 : decode cJ39_bitCount 24 = .ok (.lload_n 0, 1) := dk_30 (dk_at dksJ39_bitCount_1 0 rfl rfl)
theorem dJ39_bitCount_25 : decode cJ39_bitCount 25 = .ok (.lload_n 0, 1) := dk_30 (dk_at dksJ39_bitCount_1 1 rfl rfl)
theorem dJ39_bitCount_26 : decode cJ39_bitCount 26 = .ok (.iconst 4, 1) := dk_7 (dk_at dksJ39_bitCount_1 2 rfl rfl)
theorem dJ39_bitCount_27 : decode cJ39_bitCount 27 = .ok (.lushr, 1) := dk_125 (dk_at dksJ39_bitCount_1 3 rfl rfl)
theorem dJ39_bitCount_28 : decode cJ39_bitCount 28 = .ok (.ladd, 1) := dk_97 (dk_at dksJ39_bitCount_1 4 rfl rfl)
theorem dJ39_bitCount_29 : decode cJ39_bitCount 29 = .ok (.ldc2_w 318, 3) := dk_20 1 62 (dk_at dksJ39_bitCount_1 5 rfl rfl)
theorem dJ39_bitCount_32 : decode cJ39_bitCount 32 = .ok (.land, 1) := dk_127 (dk_at dksJ39_bitCount_1 8 rfl rfl)
theorem dJ39_bitCount_33 : decode cJ39_bitCount 33 = .ok (.lstore_n 0, 1) := dk_63 (dk_at dksJ39_bitCount_1 9 rfl rfl)
theorem dJ39_bitCount_34 : decode cJ39_bitCount 34 = .ok (.lload_n 0, 1) := dk_30 (dk_at dksJ39_bitCount_1 10 rfl rfl)
theorem dJ39_bitCount_35 : decode cJ39_bitCount 35 = .ok (.lload_n 0, 1) := dk_30 (dk_at dksJ39_bitCount_1 11 rfl rfl)
theorem dJ39_bitCount_36 : decode cJ39_bitCount 36 = .ok (.bipush 8, 2) := dk_16 8 (dk_at dksJ39_bitCount_1 12 rfl rfl)
theorem dJ39_bitCount_38 : decode cJ39_bitCount 38 = .ok (.lushr, 1) := dk_125 (dk_at dksJ39_bitCount_1 14 rfl rfl)
theorem dJ39_bitCount_39 : decode cJ39_bitCount 39 = .ok (.ladd, 1) := dk_97 (dk_at dksJ39_bitCount_1 15 rfl rfl)
theorem dJ39_bitCount_40 : decode cJ39_bitCount 40 = .ok (.lstore_n 0, 1) := dk_63 (dk_at dksJ39_bitCount_1 16 rfl rfl)
theorem dJ39_bitCount_41 : decode cJ39_bitCount 41 = .ok (.lload_n 0, 1) := dk_30 (dk_at dksJ39_bitCount_1 17 rfl rfl)
theorem dJ39_bitCount_42 : decode cJ39_bitCount 42 = .ok (.lload_n 0, 1) := dk_30 (dk_at dksJ39_bitCount_1 18 rfl rfl)
theorem dJ39_bitCount_43 : decode cJ39_bitCount 43 = .ok (.bipush 16, 2) := dk_16 16 (dk_at dksJ39_bitCount_1 19 rfl rfl)
theorem dJ39_bitCount_45 : decode cJ39_bitCount 45 = .ok (.lushr, 1) := dk_125 (dk_at dksJ39_bitCount_1 21 rfl rfl)
theorem dJ39_bitCount_46 : decode cJ39_bitCount 46 = .ok (.ladd, 1) := dk_97 (dk_at dksJ39_bitCount_1 22 rfl rfl)
theorem dJ39_bitCount_47 : decode cJ39_bitCount 47 = .ok (.lstore_n 0, 1) := dk_63 (dk_at dksJ39_bitCount_1 23 rfl rfl)
theorem dJ39_bitCount_48 : decode cJ39_bitCount 48 = .ok (.lload_n 0, 1) := dk_30 (dk_at dksJ39_bitCount_2 0 rfl rfl)
theorem dJ39_bitCount_49 : decode cJ39_bitCount 49 = .ok (.lload_n 0, 1) := dk_30 (dk_at dksJ39_bitCount_2 1 rfl rfl)
theorem dJ39_bitCount_50 : decode cJ39_bitCount 50 = .ok (.bipush 32, 2) := dk_16 32 (dk_at dksJ39_bitCount_2 2 rfl rfl)
theorem dJ39_bitCount_52 : decode cJ39_bitCount 52 = .ok (.lushr, 1) := dk_125 (dk_at dksJ39_bitCount_2 4 rfl rfl)
theorem dJ39_bitCount_53 : decode cJ39_bitCount 53 = .ok (.ladd, 1) := dk_97 (dk_at dksJ39_bitCount_2 5 rfl rfl)
theorem dJ39_bitCount_54 : decode cJ39_bitCount 54 = .ok (.lstore_n 0, 1) := dk_63 (dk_at dksJ39_bitCount_2 6 rfl rfl)
theorem dJ39_bitCount_55 : decode cJ39_bitCount 55 = .ok (.lload_n 0, 1) := dk_30 (dk_at dksJ39_bitCount_2 7 rfl rfl)
theorem dJ39_bitCount_56 : decode cJ39_bitCount 56 = .ok (.l2i, 1) := dk_136 (dk_at dksJ39_bitCount_2 8 rfl rfl)
theorem dJ39_bitCount_57 : decode cJ39_bitCount 57 = .ok (.bipush 127, 2) := dk_16 127 (dk_at dksJ39_bitCount_2 9 rfl rfl)
theorem dJ39_bitCount_59 : decode cJ39_bitCount 59 = .ok (.iand, 1) := dk_126 (dk_at dksJ39_bitCount_2 11 rfl rfl)
theorem dJ39_bitCount_60 : decode cJ39_bitCount 60 = .ok (.ireturn, 1) := dk_172 (dk_at dksJ39_bitCount_2 12 rfl rfl)
theorem q176 : (Jvm.Cond.initialized "java/lang/Long") ∈ lw_all := lw_g (lw_at lw_m1 57 rfl) rfl
theorem q2326 : (Jvm.Cond.static ({ cls := "java/lang/Long", name := "numberOfTrailingZeros", desc := "(J)I" } : Jvm.MethodName)) ∈ lw_all := lw_g (lw_at lw_m10 47 rfl) rfl
theorem q2327 : (Jvm.Cond.code ({ cls := "java/lang/Long", name := "numberOfTrailingZeros", desc := "(J)I" } : Jvm.MethodName) prog_42_method_49_code (3 : Nat) (Option.some Jvm.ClassFile.FieldType.int)) ∈ lw_all := lw_g (lw_at lw_m10 48 rfl) rfl
theorem q2328 : (Jvm.Cond.methodLink "java/lang/Long" (311 : Nat) ({ cls := "java/lang/Integer", name := "numberOfTrailingZeros", desc := "(I)I" } : Jvm.MethodName)) ∈ lw_all := lw_g (lw_at lw_m10 49 rfl) rfl
theorem q2350 : (Jvm.Cond.static ({ cls := "java/lang/Long", name := "bitCount", desc := "(J)I" } : Jvm.MethodName)) ∈ lw_all := lw_g (lw_at lw_m10 71 rfl) rfl
theorem q2351 : (Jvm.Cond.code ({ cls := "java/lang/Long", name := "bitCount", desc := "(J)I" } : Jvm.MethodName) prog_42_method_50_code (2 : Nat) (Option.some Jvm.ClassFile.FieldType.int)) ∈ lw_all := lw_g (lw_at lw_m10 72 rfl) rfl
theorem q2352 : (Jvm.Cond.constantLong "java/lang/Long" (314 : Nat) (6148914691236517205 : Int64)) ∈ lw_all := lw_g (lw_at lw_m10 73 rfl) rfl
theorem q2353 : (Jvm.Cond.constantLong "java/lang/Long" (316 : Nat) (3689348814741910323 : Int64)) ∈ lw_all := lw_g (lw_at lw_m10 74 rfl) rfl
theorem q2354 : (Jvm.Cond.constantLong "java/lang/Long" (318 : Nat) (1085102592571150095 : Int64)) ∈ lw_all := lw_g (lw_at lw_m10 75 rfl) rfl
/-! java/util/LinkedList$DescendingIterator -/
set_option maxRecDepth 100000
def RJ40 : String := "java/util/LinkedList$DescendingIterator"
def TJ40 : u_T := fun k => match k with
  | 0 => ("java/util/LinkedList$DescendingIterator", "itr", "Ljava/util/LinkedList$ListItr;", true)
  | _ => ("java/util/LinkedList$DescendingIterator", "this$0", "Ljava/util/LinkedList;", true)
def tyJ40 : Nat → FieldType := fun k => match k with
  | 0 => .object "java/util/LinkedList$ListItr"
  | _ => .object "java/util/LinkedList"
abbrev wsJ400 : List Cond := u_ws RJ40 TJ40 2
theorem nmJ40 : ∀ a, a < 2 → ∀ b, b < 2 → a ≠ b → (TJ40 a).2.1 ≠ (TJ40 b).2.1 := by decide +kernel
theorem tyJ40_ok : ∀ k, k < 2 → parseFieldDescriptor (TJ40 k).2.2.1 = some (tyJ40 k) := by decide +kernel
abbrev cJ40_hasNext : ByteArray := prog_78_method_2_code
def yJ40_hasNext : MethodName := ⟨RJ40, "hasNext", "()Z"⟩
def dkwJ40_hasNext_0 : List UInt8 := [42, 180, 0, 24, 182, 0, 28, 172]
abbrev dktJ40_hasNext_0 : List UInt8 := dkwJ40_hasNext_0 ++ []
theorem dksJ40_hasNext_0 : cJ40_hasNext.data.toList.drop 0 = dktJ40_hasNext_0 := by decide +kernel
theorem dJ40_hasNext_0 : decode cJ40_hasNext 0 = .ok (.aload_n 0, 1) := dk_42 (dk_at dksJ40_hasNext_0 0 rfl rfl)
theorem dJ40_hasNext_1 : decode cJ40_hasNext 1 = .ok (.getfield 24, 3) := dk_180 0 24 (dk_at dksJ40_hasNext_0 1 rfl rfl)
theorem dJ40_hasNext_4 : decode cJ40_hasNext 4 = .ok (.invokevirtual 28, 3) := dk_182 0 28 (dk_at dksJ40_hasNext_0 4 rfl rfl)
theorem dJ40_hasNext_7 : decode cJ40_hasNext 7 = .ok (.ireturn, 1) := dk_172 (dk_at dksJ40_hasNext_0 7 rfl rfl)
abbrev cJ40_next : ByteArray := prog_78_method_3_code
def yJ40_next : MethodName := ⟨RJ40, "next", "()Ljava/lang/Object;"⟩
def dkwJ40_next_0 : List UInt8 := [42, 180, 0, 24, 182, 0, 32, 176]
abbrev dktJ40_next_0 : List UInt8 := dkwJ40_next_0 ++ []
theorem dksJ40_next_0 : cJ40_next.data.toList.drop 0 = dktJ40_next_0 := by decide +kernel
theorem dJ40_next_0 : decode cJ40_next 0 = .ok (.aload_n 0, 1) := dk_42 (dk_at dksJ40_next_0 0 rfl rfl)
theorem dJ40_next_1 : decode cJ40_next 1 = .ok (.getfield 24, 3) := dk_180 0 24 (dk_at dksJ40_next_0 1 rfl rfl)
theorem dJ40_next_4 : decode cJ40_next 4 = .ok (.invokevirtual 32, 3) := dk_182 0 32 (dk_at dksJ40_next_0 4 rfl rfl)
theorem dJ40_next_7 : decode cJ40_next 7 = .ok (.areturn, 1) := dk_176 (dk_at dksJ40_next_0 7 rfl rfl)
abbrev cJ40_init : ByteArray := prog_78_method_1_code
def yJ40_init : MethodName := ⟨RJ40, "<init>", "(Ljava/util/LinkedList;)V"⟩
def dkwJ40_init_1 : List UInt8 := [182, 0, 15, 183, 0, 21, 181, 0, 24, 177]
abbrev dktJ40_init_1 : List UInt8 := dkwJ40_init_1 ++ []
def dkwJ40_init_0 : List UInt8 := [42, 43, 181, 0, 1, 42, 183, 0, 7, 42, 187, 0, 13, 89, 42, 180, 0, 1, 42, 180, 0, 1]
abbrev dktJ40_init_0 : List UInt8 := dkwJ40_init_0 ++ dktJ40_init_1
theorem dksJ40_init_0 : cJ40_init.data.toList.drop 0 = dktJ40_init_0 := by decide +kernel
theorem dksJ40_init_1 : cJ40_init.data.toList.drop 22 = dktJ40_init_1 := dk_seg dksJ40_init_0 22 rfl rfl
theorem dJ40_init_0 : decode cJ40_init 0 = .ok (.aload_n 0, 1) := dk_42 (dk_at dksJ40_init_0 0 rfl rfl)
theorem dJ40_init_1 : decode cJ40_init 1 = .ok (.aload_n 1, 1) := dk_43 (dk_at dksJ40_init_0 1 rfl rfl)
theorem dJ40_init_2 : decode cJ40_init 2 = .ok (.putfield 1, 3) := dk_181 0 1 (dk_at dksJ40_init_0 2 rfl rfl)
theorem dJ40_init_5 : decode cJ40_init 5 = .ok (.aload_n 0, 1) := dk_42 (dk_at dksJ40_init_0 5 rfl rfl)
theorem dJ40_init_6 : decode cJ40_init 6 = .ok (.invokespecial 7, 3) := dk_183 0 7 (dk_at dksJ40_init_0 6 rfl rfl)
theorem dJ40_init_9 : decode cJ40_init 9 = .ok (.aload_n 0, 1) := dk_42 (dk_at dksJ40_init_0 9 rfl rfl)
theorem dJ40_init_10 : decode cJ40_init 10 = .ok (.new 13, 3) := dk_187 0 13 (dk_at dksJ40_init_0 10 rfl rfl)
theorem dJ40_init_13 : decode cJ40_init 13 = .ok (.dup, 1) := dk_89 (dk_at dksJ40_init_0 13 rfl rfl)
theorem dJ40_init_14 : decode cJ40_init 14 = .ok (.aload_n 0, 1) := dk_42 (dk_at dksJ40_init_0 14 rfl rfl)
theorem dJ40_init_15 : decode cJ40_init 15 = .ok (.getfield 1, 3) := dk_180 0 1 (dk_at dksJ40_init_0 15 rfl rfl)
theorem dJ40_init_18 : decode cJ40_init 18 = .ok (.aload_n 0, 1) := dk_42 (dk_at dksJ40_init_0 18 rfl rfl)
theorem dJ40_init_19 : decode cJ40_init 19 = .ok (.getfield 1, 3) := dk_180 0 1 (dk_at dksJ40_init_0 19 rfl rfl)
theorem dJ40_init_22 : decode cJ40_init 22 = .ok (.invokevirtual 15, 3) := dk_182 0 15 (dk_at dksJ40_init_1 0 rfl rfl)
theorem dJ40_init_25 : decode cJ40_init 25 = .ok (.invokespecial 21, 3) := dk_183 0 21 (dk_at dksJ40_init_1 3 rfl rfl)
theorem dJ40_init_28 : decode cJ40_init 28 = .ok (.putfield 24, 3) := dk_181 0 24 (dk_at dksJ40_init_1 6 rfl rfl)
theorem dJ40_init_31 : decode cJ40_init 31 = .ok (.return_, 1) := dk_177 (dk_at dksJ40_init_1 9 rfl rfl)
abbrev cJ40_remove : ByteArray := prog_78_method_4_code
def yJ40_remove : MethodName := ⟨RJ40, "remove", "()V"⟩
def dkwJ40_remove_0 : List UInt8 := [42, 180, 0, 24, 182, 0, 36, 177]
abbrev dktJ40_remove_0 : List UInt8 := dkwJ40_remove_0 ++ []
theorem dksJ40_remove_0 : cJ40_remove.data.toList.drop 0 = dktJ40_remove_0 := by decide +kernel
theorem dJ40_remove_0 : decode cJ40_remove 0 = .ok (.aload_n 0, 1) := dk_42 (dk_at dksJ40_remove_0 0 rfl rfl)
theorem dJ40_remove_1 : decode cJ40_remove 1 = .ok (.getfield 24, 3) := dk_180 0 24 (dk_at dksJ40_remove_0 1 rfl rfl)
theorem dJ40_remove_4 : decode cJ40_remove 4 = .ok (.invokevirtual 36, 3) := dk_182 0 36 (dk_at dksJ40_remove_0 4 rfl rfl)
theorem dJ40_remove_7 : decode cJ40_remove 7 = .ok (.return_, 1) := dk_177 (dk_at dksJ40_remove_0 7 rfl rfl)
theorem q177 : (Jvm.Cond.initialized "java/util/LinkedList$DescendingIterator") ∈ lw_all := lw_g (lw_at lw_m1 58 rfl) rfl
theorem q1003 : (Jvm.Cond.castable "java/util/LinkedList$DescendingIterator" "java/util/Iterator") ∈ lw_tbl := lw_at lw_m4 164 rfl
theorem q1004 : (Jvm.Cond.selects "java/util/LinkedList$DescendingIterator" ({ cls := "java/util/Iterator", name := "hasNext", desc := "()Z" } : Jvm.MethodName) ({ cls := "java/util/LinkedList$DescendingIterator", name := "hasNext", desc := "()Z" } : Jvm.MethodName)) ∈ lw_all := lw_g (lw_at lw_m4 165 rfl) rfl
theorem q1005 : (Jvm.Cond.unhidden "java/util/LinkedList$DescendingIterator" "hasNext" "()Z") ∈ lw_tbl := lw_at lw_m4 166 rfl
theorem q1006 : (Jvm.Cond.instanceMethod ({ cls := "java/util/LinkedList$DescendingIterator", name := "hasNext", desc := "()Z" } : Jvm.MethodName)) ∈ lw_all := lw_g (lw_at lw_m4 167 rfl) rfl
theorem q1007 : (Jvm.Cond.publicMethod ({ cls := "java/util/LinkedList$DescendingIterator", name := "hasNext", desc := "()Z" } : Jvm.MethodName)) ∈ lw_tbl := lw_at lw_m4 168 rfl
theorem q1008 : (Jvm.Cond.code ({ cls := "java/util/LinkedList$DescendingIterator", name := "hasNext", desc := "()Z" } : Jvm.MethodName) prog_78_method_2_code (1 : Nat) (Option.some Jvm.ClassFile.FieldType.boolean)) ∈ lw_all := lw_g (lw_at lw_m4 169 rfl) rfl
theorem q1009 : (Jvm.Cond.methodLink "java/util/LinkedList$DescendingIterator" (28 : Nat) ({ cls := "java/util/LinkedList$ListItr", name := "hasPrevious", desc := "()Z" } : Jvm.MethodName)) ∈ lw_all := lw_g (lw_at lw_m4 170 rfl) rfl
theorem q1115 : (Jvm.Cond.selects "java/util/LinkedList$DescendingIterator" ({ cls := "java/lang/Object", name := "getClass", desc := "()Ljava/lang/Class;" } : Jvm.MethodName) ({ cls := "java/lang/Object", name := "getClass", desc := "()Ljava/lang/Class;" } : Jvm.MethodName)) ∈ lw_all := lw_g (lw_at lw_m5 36 rfl) rfl
theorem q1178 : (Jvm.Cond.selects "java/util/LinkedList$DescendingIterator" ({ cls := "java/util/Iterator", name := "next", desc := "()Ljava/lang/Object;" } : Jvm.MethodName) ({ cls := "java/util/LinkedList$DescendingIterator", name := "next", desc := "()Ljava/lang/Object;" } : Jvm.MethodName)) ∈ lw_all := lw_g (lw_at lw_m5 99 rfl) rfl
theorem q1179 : (Jvm.Cond.unhidden "java/util/LinkedList$DescendingIterator" "next" "()Ljava/lang/Object;") ∈ lw_tbl := lw_at lw_m5 100 rfl
theorem q1180 : (Jvm.Cond.instanceMethod ({ cls := "java/util/LinkedList$DescendingIterator", name := "next", desc := "()Ljava/lang/Object;" } : Jvm.MethodName)) ∈ lw_all := lw_g (lw_at lw_m5 101 rfl) rfl
theorem q1181 : (Jvm.Cond.publicMethod ({ cls := "java/util/LinkedList$DescendingIterator", name := "next", desc := "()Ljava/lang/Object;" } : Jvm.MethodName)) ∈ lw_tbl := lw_at lw_m5 102 rfl
theorem q1182 : (Jvm.Cond.code ({ cls := "java/util/LinkedList$DescendingIterator", name := "next", desc := "()Ljava/lang/Object;" } : Jvm.MethodName) prog_78_method_3_code (1 : Nat) (Option.some (Jvm.ClassFile.FieldType.object "java/lang/Object"))) ∈ lw_all := lw_g (lw_at lw_m5 103 rfl) rfl
theorem q1183 : (Jvm.Cond.methodLink "java/util/LinkedList$DescendingIterator" (32 : Nat) ({ cls := "java/util/LinkedList$ListItr", name := "previous", desc := "()Ljava/lang/Object;" } : Jvm.MethodName)) ∈ lw_all := lw_g (lw_at lw_m5 104 rfl) rfl
theorem q1307 : (Jvm.Cond.instantiable "java/util/LinkedList$DescendingIterator" (2 : Nat)) ∈ lw_all := lw_g (lw_at lw_m5 228 rfl) rfl
theorem q1309 : (Jvm.Cond.instanceMethod ({ cls := "java/util/LinkedList$DescendingIterator", name := "<init>", desc := "(Ljava/util/LinkedList;)V" } : Jvm.MethodName)) ∈ lw_all := lw_g (lw_at lw_m5 230 rfl) rfl
theorem q1310 : (Jvm.Cond.code ({ cls := "java/util/LinkedList$DescendingIterator", name := "<init>", desc := "(Ljava/util/LinkedList;)V" } : Jvm.MethodName) prog_78_method_1_code (2 : Nat) (Option.none : Option Jvm.ClassFile.FieldType)) ∈ lw_all := lw_g (lw_at lw_m5 231 rfl) rfl
theorem q1311 : (Jvm.Cond.methodLink "java/util/LinkedList$DescendingIterator" (7 : Nat) ({ cls := "java/lang/Object", name := "<init>", desc := "()V" } : Jvm.MethodName)) ∈ lw_all := lw_g (lw_at lw_m5 232 rfl) rfl
theorem q1312 : (Jvm.Cond.classLink "java/util/LinkedList$DescendingIterator" (13 : Nat) "java/util/LinkedList$ListItr") ∈ lw_all := lw_g (lw_at lw_m5 233 rfl) rfl
theorem q1313 : (Jvm.Cond.methodLink "java/util/LinkedList$DescendingIterator" (15 : Nat) ({ cls := "java/util/LinkedList", name := "size", desc := "()I" } : Jvm.MethodName)) ∈ lw_all := lw_g (lw_at lw_m5 234 rfl) rfl
theorem q1314 : (Jvm.Cond.methodLink "java/util/LinkedList$DescendingIterator" (21 : Nat) ({ cls := "java/util/LinkedList$ListItr", name := "<init>", desc := "(Ljava/util/LinkedList;I)V" } : Jvm.MethodName)) ∈ lw_all := lw_g (lw_at lw_m5 235 rfl) rfl
theorem q1315 : (Jvm.Cond.fieldLink "java/util/LinkedList$DescendingIterator" (24 : Nat) "java/util/LinkedList$DescendingIterator" "itr" "Ljava/util/LinkedList$ListItr;") ∈ lw_all := lw_g (lw_at lw_m5 236 rfl) rfl
theorem q1316 : (Jvm.Cond.fieldLink "java/util/LinkedList$DescendingIterator" (1 : Nat) "java/util/LinkedList$DescendingIterator" "this$0" "Ljava/util/LinkedList;") ∈ lw_all := lw_g (lw_at lw_m5 237 rfl) rfl
theorem q1317 : (Jvm.Cond.laysFinal "java/util/LinkedList$DescendingIterator" "java/util/LinkedList$DescendingIterator" "itr" "Ljava/util/LinkedList$ListItr;") ∈ lw_all := lw_g (lw_at lw_m5 238 rfl) rfl
theorem q1318 : (Jvm.Cond.soleField "java/util/LinkedList$DescendingIterator" "itr") ∈ lw_all := lw_g (lw_at lw_m5 239 rfl) rfl
theorem q1319 : (Jvm.Cond.laysFinal "java/util/LinkedList$DescendingIterator" "java/util/LinkedList$DescendingIterator" "this$0" "Ljava/util/LinkedList;") ∈ lw_all := lw_g (lw_at lw_m6 0 rfl) rfl
theorem q1320 : (Jvm.Cond.soleField "java/util/LinkedList$DescendingIterator" "this$0") ∈ lw_all := lw_g (lw_at lw_m6 1 rfl) rfl
theorem q1321 : (Jvm.Cond.superclass "java/util/LinkedList$DescendingIterator" "java/lang/Object") ∈ lw_all := lw_g (lw_at lw_m6 2 rfl) rfl
theorem q2087 : (Jvm.Cond.selects "java/util/LinkedList$DescendingIterator" ({ cls := "java/util/Iterator", name := "remove", desc := "()V" } : Jvm.MethodName) ({ cls := "java/util/LinkedList$DescendingIterator", name := "remove", desc := "()V" } : Jvm.MethodName)) ∈ lw_all := lw_g (lw_at lw_m9 48 rfl) rfl
theorem q2088 : (Jvm.Cond.unhidden "java/util/LinkedList$DescendingIterator" "remove" "()V") ∈ lw_tbl := lw_at lw_m9 49 rfl
theorem q2089 : (Jvm.Cond.instanceMethod ({ cls := "java/util/LinkedList$DescendingIterator", name := "remove", desc := "()V" } : Jvm.MethodName)) ∈ lw_all := lw_g (lw_at lw_m9 50 rfl) rfl
theorem q2090 : (Jvm.Cond.publicMethod ({ cls := "java/util/LinkedList$DescendingIterator", name := "remove", desc := "()V" } : Jvm.MethodName)) ∈ lw_tbl := lw_at lw_m9 51 rfl
theorem q2091 : (Jvm.Cond.code ({ cls := "java/util/LinkedList$DescendingIterator", name := "remove", desc := "()V" } : Jvm.MethodName) prog_78_method_4_code (1 : Nat) (Option.none : Option Jvm.ClassFile.FieldType)) ∈ lw_all := lw_g (lw_at lw_m9 52 rfl) rfl
theorem q2092 : (Jvm.Cond.methodLink "java/util/LinkedList$DescendingIterator" (36 : Nat) ({ cls := "java/util/LinkedList$ListItr", name := "remove", desc := "()V" } : Jvm.MethodName)) ∈ lw_all := lw_g (lw_at lw_m9 53 rfl) rfl
theorem q3590 : (Jvm.Cond.castable "java/util/LinkedList$DescendingIterator" "java/lang/Object") ∈ lw_tbl := lw_at lw_m15 111 rfl
theorem in_J40 : ∀ w ∈ wsJ400, w ∈ lw_all := lw_in wsJ400 [1317, 1319] (by decide +kernel) (by decide +kernel)
/-! java/lang/ArrayStoreException -/
set_option maxRecDepth 100000
def RJ41 : String := "java/lang/ArrayStoreException"
def TJ41 : u_T := fun k => match k with
  | 0 => ("java/lang/Throwable", "backtrace", "Ljava/lang/Object;", false)
  | 1 => ("java/lang/Throwable", "detailMessage", "Ljava/lang/String;", false)
  | 2 => ("java/lang/Throwable", "cause", "Ljava/lang/Throwable;", false)
  | 3 => ("java/lang/Throwable", "stackTrace", "[Ljava/lang/StackTraceElement;", false)
  | 4 => ("java/lang/Throwable", "depth", "I", false)
  | _ => ("java/lang/Throwable", "suppressedExceptions", "Ljava/util/List;", false)
def tyJ41 : Nat → FieldType := fun k => match k with
  | 0 => .object "java/lang/Object"
  | 1 => .object "java/lang/String"
  | 2 => .object "java/lang/Throwable"
  | 3 => .array (.object "java/lang/StackTraceElement")
  | 4 => .int
  | _ => .object "java/util/List"
abbrev wsJ410 : List Cond := u_ws RJ41 TJ41 6
theorem nmJ41 : ∀ a, a < 6 → ∀ b, b < 6 → a ≠ b → (TJ41 a).2.1 ≠ (TJ41 b).2.1 := by decide +kernel
theorem tyJ41_ok : ∀ k, k < 6 → parseFieldDescriptor (TJ41 k).2.2.1 = some (tyJ41 k) := by decide +kernel
abbrev cJ41_init : ByteArray := prog_30_method_2_code
def yJ41_init : MethodName := ⟨RJ41, "<init>", "(Ljava/lang/String;)V"⟩
def dkwJ41_init_0 : List UInt8 := [42, 43, 183, 0, 7, 177]
abbrev dktJ41_init_0 : List UInt8 := dkwJ41_init_0 ++ []
theorem dksJ41_init_0 : cJ41_init.data.toList.drop 0 = dktJ41_init_0 := by decide +kernel
theorem dJ41_init_0 : decode cJ41_init 0 = .ok (.aload_n 0, 1) := dk_42 (dk_at dksJ41_init_0 0 rfl rfl)
theorem dJ41_init_1 : decode cJ41_init 1 = .ok (.aload_n 1, 1) := dk_43 (dk_at dksJ41_init_0 1 rfl rfl)
theorem dJ41_init_2 : decode cJ41_init 2 = .ok (.invokespecial 7, 3) := dk_183 0 7 (dk_at dksJ41_init_0 2 rfl rfl)
theorem dJ41_init_5 : decode cJ41_init 5 = .ok (.return_, 1) := dk_177 (dk_at dksJ41_init_0 5 rfl rfl)
theorem q178 : (Jvm.Cond.initialized "java/lang/ArrayStoreException") ∈ lw_all := lw_g (lw_at lw_m1 59 rfl) rfl
theorem q310 : (Jvm.Cond.selects "java/lang/ArrayStoreException" ({ cls := "java/lang/Throwable", name := "fillInStackTrace", desc := "()Ljava/lang/Throwable;" } : Jvm.MethodName) ({ cls := "java/lang/Throwable", name := "fillInStackTrace", desc := "()Ljava/lang/Throwable;" } : Jvm.MethodName)) ∈ lw_all := lw_g (lw_at lw_m1 191 rfl) rfl
theorem q1065 : (Jvm.Cond.selects "java/lang/ArrayStoreException" ({ cls := "java/lang/Throwable", name := "toString", desc := "()Ljava/lang/String;" } : Jvm.MethodName) ({ cls := "java/lang/Throwable", name := "toString", desc := "()Ljava/lang/String;" } : Jvm.MethodName)) ∈ lw_all := lw_g (lw_at lw_m4 226 rfl) rfl
theorem q1098 : (Jvm.Cond.selects "java/lang/ArrayStoreException" ({ cls := "java/lang/Object", name := "getClass", desc := "()Ljava/lang/Class;" } : Jvm.MethodName) ({ cls := "java/lang/Object", name := "getClass", desc := "()Ljava/lang/Class;" } : Jvm.MethodName)) ∈ lw_all := lw_g (lw_at lw_m5 19 rfl) rfl
theorem q1126 : (Jvm.Cond.selects "java/lang/ArrayStoreException" ({ cls := "java/lang/Throwable", name := "getLocalizedMessage", desc := "()Ljava/lang/String;" } : Jvm.MethodName) ({ cls := "java/lang/Throwable", name := "getLocalizedMessage", desc := "()Ljava/lang/String;" } : Jvm.MethodName)) ∈ lw_all := lw_g (lw_at lw_m5 47 rfl) rfl
theorem q1141 : (Jvm.Cond.selects "java/lang/ArrayStoreException" ({ cls := "java/lang/Throwable", name := "getMessage", desc := "()Ljava/lang/String;" } : Jvm.MethodName) ({ cls := "java/lang/Throwable", name := "getMessage", desc := "()Ljava/lang/String;" } : Jvm.MethodName)) ∈ lw_all := lw_g (lw_at lw_m5 62 rfl) rfl
theorem q2520 : (Jvm.Cond.instantiable "java/lang/ArrayStoreException" (6 : Nat)) ∈ lw_all := lw_g (lw_at lw_m11 1 rfl) rfl
theorem q2521 : (Jvm.Cond.instanceMethod ({ cls := "java/lang/ArrayStoreException", name := "<init>", desc := "(Ljava/lang/String;)V" } : Jvm.MethodName)) ∈ lw_all := lw_g (lw_at lw_m11 2 rfl) rfl
theorem q2522 : (Jvm.Cond.code ({ cls := "java/lang/ArrayStoreException", name := "<init>", desc := "(Ljava/lang/String;)V" } : Jvm.MethodName) prog_30_method_2_code (2 : Nat) (Option.none : Option Jvm.ClassFile.FieldType)) ∈ lw_all := lw_g (lw_at lw_m11 3 rfl) rfl
theorem q2523 : (Jvm.Cond.methodLink "java/lang/ArrayStoreException" (7 : Nat) ({ cls := "java/lang/RuntimeException", name := "<init>", desc := "(Ljava/lang/String;)V" } : Jvm.MethodName)) ∈ lw_all := lw_g (lw_at lw_m11 4 rfl) rfl
theorem q2524 : (Jvm.Cond.lays "java/lang/ArrayStoreException" "java/lang/Throwable" "backtrace" "Ljava/lang/Object;") ∈ lw_all := lw_g (lw_at lw_m11 5 rfl) rfl
theorem q2525 : (Jvm.Cond.lays "java/lang/ArrayStoreException" "java/lang/Throwable" "detailMessage" "Ljava/lang/String;") ∈ lw_all := lw_g (lw_at lw_m11 6 rfl) rfl
theorem q2526 : (Jvm.Cond.lays "java/lang/ArrayStoreException" "java/lang/Throwable" "cause" "Ljava/lang/Throwable;") ∈ lw_all := lw_g (lw_at lw_m11 7 rfl) rfl
theorem q2527 : (Jvm.Cond.lays "java/lang/ArrayStoreException" "java/lang/Throwable" "stackTrace" "[Ljava/lang/StackTraceElement;") ∈ lw_all := lw_g (lw_at lw_m11 8 rfl) rfl
theorem q2528 : (Jvm.Cond.lays "java/lang/ArrayStoreException" "java/lang/Throwable" "depth" "I") ∈ lw_all := lw_g (lw_at lw_m11 9 rfl) rfl
theorem q2529 : (Jvm.Cond.lays "java/lang/ArrayStoreException" "java/lang/Throwable" "suppressedExceptions" "Ljava/util/List;") ∈ lw_all := lw_g (lw_at lw_m11 10 rfl) rfl
theorem q2530 : (Jvm.Cond.superclass "java/lang/ArrayStoreException" "java/lang/RuntimeException") ∈ lw_all := lw_g (lw_at lw_m11 11 rfl) rfl
theorem q2531 : (Jvm.Cond.castable "java/lang/ArrayStoreException" "java/lang/ArrayStoreException") ∈ lw_tbl := lw_at lw_m11 12 rfl
theorem q2532 : (Jvm.Cond.selects "java/lang/ArrayStoreException" ({ cls := "java/lang/Throwable", name := "fillInStackTrace", desc := "(I)Ljava/lang/Throwable;" } : Jvm.MethodName) ({ cls := "java/lang/Throwable", name := "fillInStackTrace", desc := "(I)Ljava/lang/Throwable;" } : Jvm.MethodName)) ∈ lw_all := lw_g (lw_at lw_m11 13 rfl) rfl
theorem q3591 : (Jvm.Cond.castable "java/lang/ArrayStoreException" "java/lang/Object") ∈ lw_tbl := lw_at lw_m15 112 rfl
theorem in_J41 : ∀ w ∈ wsJ410, w ∈ lw_all := lw_in wsJ410 [2524, 2525, 2526, 2527, 2528, 2529] (by decide +kernel) (by decide +kernel)
/-! java/lang/StringIndexOutOfBoundsException -/
set_option maxRecDepth 100000
def RJ42 : String := "java/lang/StringIndexOutOfBoundsException"
def TJ42 : u_T := fun k => match k with
  | 0 => ("java/lang/Throwable", "backtrace", "Ljava/lang/Object;", false)
  | 1 => ("java/lang/Throwable", "detailMessage", "Ljava/lang/String;", false)
  | 2 => ("java/lang/Throwable", "cause", "Ljava/lang/Throwable;", false)
  | 3 => ("java/lang/Throwable", "stackTrace", "[Ljava/lang/StackTraceElement;", false)
  | 4 => ("java/lang/Throwable", "depth", "I", false)
  | _ => ("java/lang/Throwable", "suppressedExceptions", "Ljava/util/List;", false)
def tyJ42 : Nat → FieldType := fun k => match k with
  | 0 => .object "java/lang/Object"
  | 1 => .object "java/lang/String"
  | 2 => .object "java/lang/Throwable"
  | 3 => .array (.object "java/lang/StackTraceElement")
  | 4 => .int
  | _ => .object "java/util/List"
abbrev wsJ420 : List Cond := u_ws RJ42 TJ42 6
theorem nmJ42 : ∀ a, a < 6 → ∀ b, b < 6 → a ≠ b → (TJ42 a).2.1 ≠ (TJ42 b).2.1 := by decide +kernel
theorem tyJ42_ok : ∀ k, k < 6 → parseFieldDescriptor (TJ42 k).2.2.1 = some (tyJ42 k) := by decide +kernel
abbrev cJ42_init : ByteArray := prog_48_method_3_code
def yJ42_init : MethodName := ⟨RJ42, "<init>", "(I)V"⟩
def dkwJ42_init_0 : List UInt8 := [42, 187, 0, 10, 89, 183, 0, 12, 18, 13, 182, 0, 15, 27, 182, 0, 19, 182, 0, 22, 183, 0, 7, 177]
abbrev dktJ42_init_0 : List UInt8 := dkwJ42_init_0 ++ []
theorem dksJ42_init_0 : cJ42_init.data.toList.drop 0 = dktJ42_init_0 := by decide +kernel
theorem dJ42_init_0 : decode cJ42_init 0 = .ok (.aload_n 0, 1) := dk_42 (dk_at dksJ42_init_0 0 rfl rfl)
theorem dJ42_init_1 : decode cJ42_init 1 = .ok (.new 10, 3) := dk_187 0 10 (dk_at dksJ42_init_0 1 rfl rfl)
theorem dJ42_init_4 : decode cJ42_init 4 = .ok (.dup, 1) := dk_89 (dk_at dksJ42_init_0 4 rfl rfl)
theorem dJ42_init_5 : decode cJ42_init 5 = .ok (.invokespecial 12, 3) := dk_183 0 12 (dk_at dksJ42_init_0 5 rfl rfl)
theorem dJ42_init_8 : decode cJ42_init 8 = .ok (.ldc 13, 2) := dk_18 13 (dk_at dksJ42_init_0 8 rfl rfl)
theorem dJ42_init_10 : decode cJ42_init 10 = .ok (.invokevirtual 15, 3) := dk_182 0 15 (dk_at dksJ42_init_0 10 rfl rfl)
theorem dJ42_init_13 : decode cJ42_init 13 = .ok (.iload_n 1, 1) := dk_27 (dk_at dksJ42_init_0 13 rfl rfl)
theorem dJ42_init_14 : decode cJ42_init 14 = .ok (.invokevirtual 19, 3) := dk_182 0 19 (dk_at dksJ42_init_0 14 rfl rfl)
theorem dJ42_init_17 : decode cJ42_init 17 = .ok (.invokevirtual 22, 3) := dk_182 0 22 (dk_at dksJ42_init_0 17 rfl rfl)
theorem dJ42_init_20 : decode cJ42_init 20 = .ok (.invokespecial 7, 3) := dk_183 0 7 (dk_at dksJ42_init_0 20 rfl rfl)
theorem dJ42_init_23 : decode cJ42_init 23 = .ok (.return_, 1) := dk_177 (dk_at dksJ42_init_0 23 rfl rfl)
theorem q186 : (Jvm.Cond.initialized "java/lang/StringIndexOutOfBoundsException") ∈ lw_all := lw_g (lw_at lw_m1 67 rfl) rfl
theorem q313 : (Jvm.Cond.selects "java/lang/StringIndexOutOfBoundsException" ({ cls := "java/lang/Throwable", name := "fillInStackTrace", desc := "()Ljava/lang/Throwable;" } : Jvm.MethodName) ({ cls := "java/lang/Throwable", name := "fillInStackTrace", desc := "()Ljava/lang/Throwable;" } : Jvm.MethodName)) ∈ lw_all := lw_g (lw_at lw_m1 194 rfl) rfl
theorem q1069 : (Jvm.Cond.selects "java/lang/StringIndexOutOfBoundsException" ({ cls := "java/lang/Throwable", name := "toString", desc := "()Ljava/lang/String;" } : Jvm.MethodName) ({ cls := "java/lang/Throwable", name := "toString", desc := "()Ljava/lang/String;" } : Jvm.MethodName)) ∈ lw_all := lw_g (lw_at lw_m4 230 rfl) rfl
theorem q1105 : (Jvm.Cond.selects "java/lang/StringIndexOutOfBoundsException" ({ cls := "java/lang/Object", name := "getClass", desc := "()Ljava/lang/Class;" } : Jvm.MethodName) ({ cls := "java/lang/Object", name := "getClass", desc := "()Ljava/lang/Class;" } : Jvm.MethodName)) ∈ lw_all := lw_g (lw_at lw_m5 26 rfl) rfl
theorem q1130 : (Jvm.Cond.selects "java/lang/StringIndexOutOfBoundsException" ({ cls := "java/lang/Throwable", name := "getLocalizedMessage", desc := "()Ljava/lang/String;" } : Jvm.MethodName) ({ cls := "java/lang/Throwable", name := "getLocalizedMessage", desc := "()Ljava/lang/String;" } : Jvm.MethodName)) ∈ lw_all := lw_g (lw_at lw_m5 51 rfl) rfl
theorem q1145 : (Jvm.Cond.selects "java/lang/StringIndexOutOfBoundsException" ({ cls := "java/lang/Throwable", name := "getMessage", desc := "()Ljava/lang/String;" } : Jvm.MethodName) ({ cls := "java/lang/Throwable", name := "getMessage", desc := "()Ljava/lang/String;" } : Jvm.MethodName)) ∈ lw_all := lw_g (lw_at lw_m5 66 rfl) rfl
theorem q2744 : (Jvm.Cond.instantiable "java/lang/StringIndexOutOfBoundsException" (6 : Nat)) ∈ lw_all := lw_g (lw_at lw_m11 225 rfl) rfl
theorem q2746 : (Jvm.Cond.instanceMethod ({ cls := "java/lang/StringIndexOutOfBoundsException", name := "<init>", desc := "(I)V" } : Jvm.MethodName)) ∈ lw_all := lw_g (lw_at lw_m11 227 rfl) rfl
theorem q2747 : (Jvm.Cond.code ({ cls := "java/lang/StringIndexOutOfBoundsException", name := "<init>", desc := "(I)V" } : Jvm.MethodName) prog_48_method_3_code (2 : Nat) (Option.none : Option Jvm.ClassFile.FieldType)) ∈ lw_all := lw_g (lw_at lw_m11 228 rfl) rfl
theorem q2748 : (Jvm.Cond.classLink "java/lang/StringIndexOutOfBoundsException" (10 : Nat) "java/lang/StringBuilder") ∈ lw_all := lw_g (lw_at lw_m11 229 rfl) rfl
theorem q2749 : (Jvm.Cond.methodLink "java/lang/StringIndexOutOfBoundsException" (12 : Nat) ({ cls := "java/lang/StringBuilder", name := "<init>", desc := "()V" } : Jvm.MethodName)) ∈ lw_all := lw_g (lw_at lw_m11 230 rfl) rfl
theorem q2750 : (Jvm.Cond.stringRef "java/lang/StringIndexOutOfBoundsException" (13 : Nat) "String index out of range: ") ∈ lw_tbl := lw_at lw_m11 231 rfl
theorem q2751 : (Jvm.Cond.methodLink "java/lang/StringIndexOutOfBoundsException" (15 : Nat) ({ cls := "java/lang/StringBuilder", name := "append", desc := "(Ljava/lang/String;)Ljava/lang/StringBuilder;" } : Jvm.MethodName)) ∈ lw_all := lw_g (lw_at lw_m11 232 rfl) rfl
theorem q2752 : (Jvm.Cond.methodLink "java/lang/StringIndexOutOfBoundsException" (19 : Nat) ({ cls := "java/lang/StringBuilder", name := "append", desc := "(I)Ljava/lang/StringBuilder;" } : Jvm.MethodName)) ∈ lw_all := lw_g (lw_at lw_m11 233 rfl) rfl
theorem q2753 : (Jvm.Cond.methodLink "java/lang/StringIndexOutOfBoundsException" (22 : Nat) ({ cls := "java/lang/StringBuilder", name := "toString", desc := "()Ljava/lang/String;" } : Jvm.MethodName)) ∈ lw_all := lw_g (lw_at lw_m11 234 rfl) rfl
theorem q2754 : (Jvm.Cond.methodLink "java/lang/StringIndexOutOfBoundsException" (7 : Nat) ({ cls := "java/lang/IndexOutOfBoundsException", name := "<init>", desc := "(Ljava/lang/String;)V" } : Jvm.MethodName)) ∈ lw_all := lw_g (lw_at lw_m11 235 rfl) rfl
theorem q2755 : (Jvm.Cond.lays "java/lang/StringIndexOutOfBoundsException" "java/lang/Throwable" "backtrace" "Ljava/lang/Object;") ∈ lw_all := lw_g (lw_at lw_m11 236 rfl) rfl
theorem q2756 : (Jvm.Cond.lays "java/lang/StringIndexOutOfBoundsException" "java/lang/Throwable" "detailMessage" "Ljava/lang/String;") ∈ lw_all := lw_g (lw_at lw_m11 237 rfl) rfl
theorem q2757 : (Jvm.Cond.lays "java/lang/StringIndexOutOfBoundsException" "java/lang/Throwable" "cause" "Ljava/lang/Throwable;") ∈ lw_all := lw_g (lw_at lw_m11 238 rfl) rfl
theorem q2758 : (Jvm.Cond.lays "java/lang/StringIndexOutOfBoundsException" "java/lang/Throwable" "stackTrace" "[Ljava/lang/StackTraceElement;") ∈ lw_all := lw_g (lw_at lw_m11 239 rfl) rfl
theorem q2759 : (Jvm.Cond.lays "java/lang/StringIndexOutOfBoundsException" "java/lang/Throwable" "depth" "I") ∈ lw_all := lw_g (lw_at lw_m12 0 rfl) rfl
theorem q2760 : (Jvm.Cond.lays "java/lang/StringIndexOutOfBoundsException" "java/lang/Throwable" "suppressedExceptions" "Ljava/util/List;") ∈ lw_all := lw_g (lw_at lw_m12 1 rfl) rfl
theorem q2761 : (Jvm.Cond.superclass "java/lang/StringIndexOutOfBoundsException" "java/lang/IndexOutOfBoundsException") ∈ lw_all := lw_g (lw_at lw_m12 2 rfl) rfl
theorem q3550 : (Jvm.Cond.castable "java/lang/StringIndexOutOfBoundsException" "java/lang/IndexOutOfBoundsException") ∈ lw_tbl := lw_at lw_m15 71 rfl
theorem q3598 : (Jvm.Cond.castable "java/lang/StringIndexOutOfBoundsException" "java/lang/Object") ∈ lw_tbl := lw_at lw_m15 119 rfl
theorem in_J42 : ∀ w ∈ wsJ420, w ∈ lw_all := lw_in wsJ420 [2755, 2756, 2757, 2758, 2759, 2760] (by decide +kernel) (by decide +kernel)
/-! java/lang/Object -/
set_option maxRecDepth 100000
def RJ43 : String := "java/lang/Object"
abbrev cJ43_init : ByteArray := object_method_1_code
def yJ43_init : MethodName := ⟨RJ43, "<init>", "()V"⟩
theorem dJ43_init_0 : decode cJ43_init 0 = .ok (.return_, 1) := by decide +kernel
theorem q197 : (Jvm.Cond.instanceMethod ({ cls := "java/lang/Object", name := "<init>", desc := "()V" } : Jvm.MethodName)) ∈ lw_all := lw_g (lw_at lw_m1 78 rfl) rfl
theorem q198 : (Jvm.Cond.code ({ cls := "java/lang/Object", name := "<init>", desc := "()V" } : Jvm.MethodName) object_method_1_code (1 : Nat) (Option.none : Option Jvm.ClassFile.FieldType)) ∈ lw_all := lw_g (lw_at lw_m1 79 rfl) rfl
theorem q392 : (Jvm.Cond.native ({ cls := "java/lang/Object", name := "clone", desc := "()Ljava/lang/Object;" } : Jvm.MethodName)) ∈ lw_all := lw_g (lw_at lw_m2 33 rfl) rfl
theorem q393 : (Jvm.Cond.instanceMethod ({ cls := "java/lang/Object", name := "clone", desc := "()Ljava/lang/Object;" } : Jvm.MethodName)) ∈ lw_all := lw_g (lw_at lw_m2 34 rfl) rfl
theorem q1075 : (Jvm.Cond.instanceMethod ({ cls := "java/lang/Object", name := "getClass", desc := "()Ljava/lang/Class;" } : Jvm.MethodName)) ∈ lw_all := lw_g (lw_at lw_m4 236 rfl) rfl
theorem q1076 : (Jvm.Cond.sameMethod "java/lang/Object" "java/lang/Object" "getClass" "()Ljava/lang/Class;") ∈ lw_all := lw_g (lw_at lw_m4 237 rfl) rfl
theorem q1119 : (Jvm.Cond.native ({ cls := "java/lang/Object", name := "getClass", desc := "()Ljava/lang/Class;" } : Jvm.MethodName)) ∈ lw_all := lw_g (lw_at lw_m5 40 rfl) rfl
theorem q3548 : (Jvm.Cond.initialized "java/lang/Object") ∈ lw_all := lw_g (lw_at lw_m15 69 rfl) rfl
theorem q3605 : (Jvm.Cond.declares ({ cls := "java/lang/Object", name := "getClass", desc := "()Ljava/lang/Class;" } : Jvm.MethodName)) ∈ lw_tbl := lw_at lw_m15 126 rfl
