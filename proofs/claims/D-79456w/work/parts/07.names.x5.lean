/-! CrumblingWallLaw -/
set_option maxRecDepth 100000
def RX0 : String := "CrumblingWallLaw"
abbrev cX0_hold : ByteArray := method_3_code
def yX0_hold : MethodName := ⟨RX0, "hold", "(LCrumblingWall;IIII[J)I"⟩
def dkwX0_hold_1 : List UInt8 := [172, 58, 6, 6, 172, 3, 172]
abbrev dktX0_hold_1 : List UInt8 := dkwX0_hold_1 ++ []
def dkwX0_hold_0 : List UInt8 := [25, 5, 3, 42, 27, 28, 29, 21, 4, 182, 0, 7, 133, 80, 167, 0, 15, 58, 6, 4, 172, 58, 6, 5]
abbrev dktX0_hold_0 : List UInt8 := dkwX0_hold_0 ++ dktX0_hold_1
theorem dksX0_hold_0 : cX0_hold.data.toList.drop 0 = dktX0_hold_0 := by decide +kernel
theorem dksX0_hold_1 : cX0_hold.data.toList.drop 24 = dktX0_hold_1 := dk_seg dksX0_hold_0 24 rfl rfl
theorem dX0_hold_0 : decode cX0_hold 0 = .ok (.aload 5, 2) := dk_25 5 (dk_at dksX0_hold_0 0 rfl rfl)
theorem dX0_hold_2 : decode cX0_hold 2 = .ok (.iconst 0, 1) := dk_3 (dk_at dksX0_hold_0 2 rfl rfl)
theorem dX0_hold_3 : decode cX0_hold 3 = .ok (.aload_n 0, 1) := dk_42 (dk_at dksX0_hold_0 3 rfl rfl)
theorem dX0_hold_4 : decode cX0_hold 4 = .ok (.iload_n 1, 1) := dk_27 (dk_at dksX0_hold_0 4 rfl rfl)
theorem dX0_hold_5 : decode cX0_hold 5 = .ok (.iload_n 2, 1) := dk_28 (dk_at dksX0_hold_0 5 rfl rfl)
theorem dX0_hold_6 : decode cX0_hold 6 = .ok (.iload_n 3, 1) := dk_29 (dk_at dksX0_hold_0 6 rfl rfl)
theorem dX0_hold_7 : decode cX0_hold 7 = .ok (.iload 4, 2) := dk_21 4 (dk_at dksX0_hold_0 7 rfl rfl)
theorem dX0_hold_9 : decode cX0_hold 9 = .ok (.invokevirtual 7, 3) := dk_182 0 7 (dk_at dksX0_hold_0 9 rfl rfl)
theorem dX0_hold_12 : decode cX0_hold 12 = .ok (.i2l, 1) := dk_133 (dk_at dksX0_hold_0 12 rfl rfl)
theorem dX0_hold_13 : decode cX0_hold 13 = .ok (.lastore, 1) := dk_80 (dk_at dksX0_hold_0 13 rfl rfl)
theorem dX0_hold_14 : decode cX0_hold 14 = .ok (.goto 15, 3) := dk_167 0 15 (dk_at dksX0_hold_0 14 rfl rfl)
theorem dX0_hold_17 : decode cX0_hold 17 = .ok (.astore 6, 2) := dk_58 6 (dk_at dksX0_hold_0 17 rfl rfl)
theorem dX0_hold_19 : decode cX0_hold 19 = .ok (.iconst 1, 1) := dk_4 (dk_at dksX0_hold_0 19 rfl rfl)
theorem dX0_hold_20 : decode cX0_hold 20 = .ok (.ireturn, 1) := dk_172 (dk_at dksX0_hold_0 20 rfl rfl)
theorem dX0_hold_21 : decode cX0_hold 21 = .ok (.astore 6, 2) := dk_58 6 (dk_at dksX0_hold_0 21 rfl rfl)
theorem dX0_hold_23 : decode cX0_hold 23 = .ok (.iconst 2, 1) := dk_5 (dk_at dksX0_hold_0 23 rfl rfl)
theorem dX0_hold_24 : decode cX0_hold 24 = .ok (.ireturn, 1) := dk_172 (dk_at dksX0_hold_1 0 rfl rfl)
theorem dX0_hold_25 : decode cX0_hold 25 = .ok (.astore 6, 2) := dk_58 6 (dk_at dksX0_hold_1 1 rfl rfl)
theorem dX0_hold_27 : decode cX0_hold 27 = .ok (.iconst 3, 1) := dk_6 (dk_at dksX0_hold_1 3 rfl rfl)
theorem dX0_hold_28 : decode cX0_hold 28 = .ok (.ireturn, 1) := dk_172 (dk_at dksX0_hold_1 4 rfl rfl)
theorem dX0_hold_29 : decode cX0_hold 29 = .ok (.iconst 0, 1) := dk_3 (dk_at dksX0_hold_1 5 rfl rfl)
theorem dX0_hold_30 : decode cX0_hold 30 = .ok (.ireturn, 1) := dk_172 (dk_at dksX0_hold_1 6 rfl rfl)
abbrev cX0_set : ByteArray := method_4_code
def yX0_set : MethodName := ⟨RX0, "set", "(LCrumblingWall;II[J)I"⟩
def dkwX0_set_0 : List UInt8 := [45, 3, 42, 27, 28, 182, 0, 19, 133, 80, 167, 0, 11, 58, 4, 4, 172, 58, 4, 5, 172, 3, 172]
abbrev dktX0_set_0 : List UInt8 := dkwX0_set_0 ++ []
theorem dksX0_set_0 : cX0_set.data.toList.drop 0 = dktX0_set_0 := by decide +kernel
theorem dX0_set_0 : decode cX0_set 0 = .ok (.aload_n 3, 1) := dk_45 (dk_at dksX0_set_0 0 rfl rfl)
theorem dX0_set_1 : decode cX0_set 1 = .ok (.iconst 0, 1) := dk_3 (dk_at dksX0_set_0 1 rfl rfl)
theorem dX0_set_2 : decode cX0_set 2 = .ok (.aload_n 0, 1) := dk_42 (dk_at dksX0_set_0 2 rfl rfl)
theorem dX0_set_3 : decode cX0_set 3 = .ok (.iload_n 1, 1) := dk_27 (dk_at dksX0_set_0 3 rfl rfl)
theorem dX0_set_4 : decode cX0_set 4 = .ok (.iload_n 2, 1) := dk_28 (dk_at dksX0_set_0 4 rfl rfl)
theorem dX0_set_5 : decode cX0_set 5 = .ok (.invokevirtual 19, 3) := dk_182 0 19 (dk_at dksX0_set_0 5 rfl rfl)
theorem dX0_set_8 : decode cX0_set 8 = .ok (.i2l, 1) := dk_133 (dk_at dksX0_set_0 8 rfl rfl)
theorem dX0_set_9 : decode cX0_set 9 = .ok (.lastore, 1) := dk_80 (dk_at dksX0_set_0 9 rfl rfl)
theorem dX0_set_10 : decode cX0_set 10 = .ok (.goto 11, 3) := dk_167 0 11 (dk_at dksX0_set_0 10 rfl rfl)
theorem dX0_set_13 : decode cX0_set 13 = .ok (.astore 4, 2) := dk_58 4 (dk_at dksX0_set_0 13 rfl rfl)
theorem dX0_set_15 : decode cX0_set 15 = .ok (.iconst 1, 1) := dk_4 (dk_at dksX0_set_0 15 rfl rfl)
theorem dX0_set_16 : decode cX0_set 16 = .ok (.ireturn, 1) := dk_172 (dk_at dksX0_set_0 16 rfl rfl)
theorem dX0_set_17 : decode cX0_set 17 = .ok (.astore 4, 2) := dk_58 4 (dk_at dksX0_set_0 17 rfl rfl)
theorem dX0_set_19 : decode cX0_set 19 = .ok (.iconst 2, 1) := dk_5 (dk_at dksX0_set_0 19 rfl rfl)
theorem dX0_set_20 : decode cX0_set 20 = .ok (.ireturn, 1) := dk_172 (dk_at dksX0_set_0 20 rfl rfl)
theorem dX0_set_21 : decode cX0_set 21 = .ok (.iconst 0, 1) := dk_3 (dk_at dksX0_set_0 21 rfl rfl)
theorem dX0_set_22 : decode cX0_set 22 = .ok (.ireturn, 1) := dk_172 (dk_at dksX0_set_0 22 rfl rfl)
abbrev cX0_holdOf : ByteArray := method_5_code
def yX0_holdOf : MethodName := ⟨RX0, "holdOf", "(LCrumblingWall;II[J)I"⟩
def dkwX0_holdOf_0 : List UInt8 := [45, 3, 42, 27, 28, 182, 0, 23, 133, 80, 167, 0, 11, 58, 4, 4, 172, 58, 4, 5, 172, 3, 172]
abbrev dktX0_holdOf_0 : List UInt8 := dkwX0_holdOf_0 ++ []
theorem dksX0_holdOf_0 : cX0_holdOf.data.toList.drop 0 = dktX0_holdOf_0 := by decide +kernel
theorem dX0_holdOf_0 : decode cX0_holdOf 0 = .ok (.aload_n 3, 1) := dk_45 (dk_at dksX0_holdOf_0 0 rfl rfl)
theorem dX0_holdOf_1 : decode cX0_holdOf 1 = .ok (.iconst 0, 1) := dk_3 (dk_at dksX0_holdOf_0 1 rfl rfl)
theorem dX0_holdOf_2 : decode cX0_holdOf 2 = .ok (.aload_n 0, 1) := dk_42 (dk_at dksX0_holdOf_0 2 rfl rfl)
theorem dX0_holdOf_3 : decode cX0_holdOf 3 = .ok (.iload_n 1, 1) := dk_27 (dk_at dksX0_holdOf_0 3 rfl rfl)
theorem dX0_holdOf_4 : decode cX0_holdOf 4 = .ok (.iload_n 2, 1) := dk_28 (dk_at dksX0_holdOf_0 4 rfl rfl)
theorem dX0_holdOf_5 : decode cX0_holdOf 5 = .ok (.invokevirtual 23, 3) := dk_182 0 23 (dk_at dksX0_holdOf_0 5 rfl rfl)
theorem dX0_holdOf_8 : decode cX0_holdOf 8 = .ok (.i2l, 1) := dk_133 (dk_at dksX0_holdOf_0 8 rfl rfl)
theorem dX0_holdOf_9 : decode cX0_holdOf 9 = .ok (.lastore, 1) := dk_80 (dk_at dksX0_holdOf_0 9 rfl rfl)
theorem dX0_holdOf_10 : decode cX0_holdOf 10 = .ok (.goto 11, 3) := dk_167 0 11 (dk_at dksX0_holdOf_0 10 rfl rfl)
theorem dX0_holdOf_13 : decode cX0_holdOf 13 = .ok (.astore 4, 2) := dk_58 4 (dk_at dksX0_holdOf_0 13 rfl rfl)
theorem dX0_holdOf_15 : decode cX0_holdOf 15 = .ok (.iconst 1, 1) := dk_4 (dk_at dksX0_holdOf_0 15 rfl rfl)
theorem dX0_holdOf_16 : decode cX0_holdOf 16 = .ok (.ireturn, 1) := dk_172 (dk_at dksX0_holdOf_0 16 rfl rfl)
theorem dX0_holdOf_17 : decode cX0_holdOf 17 = .ok (.astore 4, 2) := dk_58 4 (dk_at dksX0_holdOf_0 17 rfl rfl)
theorem dX0_holdOf_19 : decode cX0_holdOf 19 = .ok (.iconst 2, 1) := dk_5 (dk_at dksX0_holdOf_0 19 rfl rfl)
theorem dX0_holdOf_20 : decode cX0_holdOf 20 = .ok (.ireturn, 1) := dk_172 (dk_at dksX0_holdOf_0 20 rfl rfl)
theorem dX0_holdOf_21 : decode cX0_holdOf 21 = .ok (.iconst 0, 1) := dk_3 (dk_at dksX0_holdOf_0 21 rfl rfl)
theorem dX0_holdOf_22 : decode cX0_holdOf 22 = .ok (.ireturn, 1) := dk_172 (dk_at dksX0_holdOf_0 22 rfl rfl)
abbrev cX0_lamp : ByteArray := method_6_code
def yX0_lamp : MethodName := ⟨RX0, "lamp", "(LCrumblingWall;III[J)I"⟩
def dkwX0_lamp_1 : List UInt8 := [58, 5, 6, 172, 58, 5, 7, 172, 3, 172]
abbrev dktX0_lamp_1 : List UInt8 := dkwX0_lamp_1 ++ []
def dkwX0_lamp_0 : List UInt8 := [25, 4, 3, 42, 27, 28, 29, 182, 0, 28, 133, 80, 167, 0, 19, 58, 5, 4, 172, 58, 5, 5, 172]
abbrev dktX0_lamp_0 : List UInt8 := dkwX0_lamp_0 ++ dktX0_lamp_1
theorem dksX0_lamp_0 : cX0_lamp.data.toList.drop 0 = dktX0_lamp_0 := by decide +kernel
theorem dksX0_lamp_1 : cX0_lamp.data.toList.drop 23 = dktX0_lamp_1 := dk_seg dksX0_lamp_0 23 rfl rfl
theorem dX0_lamp_0 : decode cX0_lamp 0 = .ok (.aload 4, 2) := dk_25 4 (dk_at dksX0_lamp_0 0 rfl rfl)
theorem dX0_lamp_2 : decode cX0_lamp 2 = .ok (.iconst 0, 1) := dk_3 (dk_at dksX0_lamp_0 2 rfl rfl)
theorem dX0_lamp_3 : decode cX0_lamp 3 = .ok (.aload_n 0, 1) := dk_42 (dk_at dksX0_lamp_0 3 rfl rfl)
theorem dX0_lamp_4 : decode cX0_lamp 4 = .ok (.iload_n 1, 1) := dk_27 (dk_at dksX0_lamp_0 4 rfl rfl)
theorem dX0_lamp_5 : decode cX0_lamp 5 = .ok (.iload_n 2, 1) := dk_28 (dk_at dksX0_lamp_0 5 rfl rfl)
theorem dX0_lamp_6 : decode cX0_lamp 6 = .ok (.iload_n 3, 1) := dk_29 (dk_at dksX0_lamp_0 6 rfl rfl)
theorem dX0_lamp_7 : decode cX0_lamp 7 = .ok (.invokevirtual 28, 3) := dk_182 0 28 (dk_at dksX0_lamp_0 7 rfl rfl)
theorem dX0_lamp_10 : decode cX0_lamp 10 = .ok (.i2l, 1) := dk_133 (dk_at dksX0_lamp_0 10 rfl rfl)
theorem dX0_lamp_11 : decode cX0_lamp 11 = .ok (.lastore, 1) := dk_80 (dk_at dksX0_lamp_0 11 rfl rfl)
theorem dX0_lamp_12 : decode cX0_lamp 12 = .ok (.goto 19, 3) := dk_167 0 19 (dk_at dksX0_lamp_0 12 rfl rfl)
theorem dX0_lamp_15 : decode cX0_lamp 15 = .ok (.astore 5, 2) := dk_58 5 (dk_at dksX0_lamp_0 15 rfl rfl)
theorem dX0_lamp_17 : decode cX0_lamp 17 = .ok (.iconst 1, 1) := dk_4 (dk_at dksX0_lamp_0 17 rfl rfl)
theorem dX0_lamp_18 : decode cX0_lamp 18 = .ok (.ireturn, 1) := dk_172 (dk_at dksX0_lamp_0 18 rfl rfl)
theorem dX0_lamp_19 : decode cX0_lamp 19 = .ok (.astore 5, 2) := dk_58 5 (dk_at dksX0_lamp_0 19 rfl rfl)
theorem dX0_lamp_21 : decode cX0_lamp 21 = .ok (.iconst 2, 1) := dk_5 (dk_at dksX0_lamp_0 21 rfl rfl)
theorem dX0_lamp_22 : decode cX0_lamp 22 = .ok (.ireturn, 1) := dk_172 (dk_at dksX0_lamp_0 22 rfl rfl)
theorem dX0_lamp_23 : decode cX0_lamp 23 = .ok (.astore 5, 2) := dk_58 5 (dk_at dksX0_lamp_1 0 rfl rfl)
theorem dX0_lamp_25 : decode cX0_lamp 25 = .ok (.iconst 3, 1) := dk_6 (dk_at dksX0_lamp_1 2 rfl rfl)
theorem dX0_lamp_26 : decode cX0_lamp 26 = .ok (.ireturn, 1) := dk_172 (dk_at dksX0_lamp_1 3 rfl rfl)
theorem dX0_lamp_27 : decode cX0_lamp 27 = .ok (.astore 5, 2) := dk_58 5 (dk_at dksX0_lamp_1 4 rfl rfl)
theorem dX0_lamp_29 : decode cX0_lamp 29 = .ok (.iconst 4, 1) := dk_7 (dk_at dksX0_lamp_1 6 rfl rfl)
theorem dX0_lamp_30 : decode cX0_lamp 30 = .ok (.ireturn, 1) := dk_172 (dk_at dksX0_lamp_1 7 rfl rfl)
theorem dX0_lamp_31 : decode cX0_lamp 31 = .ok (.iconst 0, 1) := dk_3 (dk_at dksX0_lamp_1 8 rfl rfl)
theorem dX0_lamp_32 : decode cX0_lamp 32 = .ok (.ireturn, 1) := dk_172 (dk_at dksX0_lamp_1 9 rfl rfl)
abbrev cX0_lampOf : ByteArray := method_7_code
def yX0_lampOf : MethodName := ⟨RX0, "lampOf", "(LCrumblingWall;II[J)I"⟩
def dkwX0_lampOf_0 : List UInt8 := [45, 3, 42, 27, 28, 182, 0, 32, 133, 80, 167, 0, 11, 58, 4, 4, 172, 58, 4, 5, 172, 3, 172]
abbrev dktX0_lampOf_0 : List UInt8 := dkwX0_lampOf_0 ++ []
theorem dksX0_lampOf_0 : cX0_lampOf.data.toList.drop 0 = dktX0_lampOf_0 := by decide +kernel
theorem dX0_lampOf_0 : decode cX0_lampOf 0 = .ok (.aload_n 3, 1) := dk_45 (dk_at dksX0_lampOf_0 0 rfl rfl)
theorem dX0_lampOf_1 : decode cX0_lampOf 1 = .ok (.iconst 0, 1) := dk_3 (dk_at dksX0_lampOf_0 1 rfl rfl)
theorem dX0_lampOf_2 : decode cX0_lampOf 2 = .ok (.aload_n 0, 1) := dk_42 (dk_at dksX0_lampOf_0 2 rfl rfl)
theorem dX0_lampOf_3 : decode cX0_lampOf 3 = .ok (.iload_n 1, 1) := dk_27 (dk_at dksX0_lampOf_0 3 rfl rfl)
theorem dX0_lampOf_4 : decode cX0_lampOf 4 = .ok (.iload_n 2, 1) := dk_28 (dk_at dksX0_lampOf_0 4 rfl rfl)
theorem dX0_lampOf_5 : decode cX0_lampOf 5 = .ok (.invokevirtual 32, 3) := dk_182 0 32 (dk_at dksX0_lampOf_0 5 rfl rfl)
theorem dX0_lampOf_8 : decode cX0_lampOf 8 = .ok (.i2l, 1) := dk_133 (dk_at dksX0_lampOf_0 8 rfl rfl)
theorem dX0_lampOf_9 : decode cX0_lampOf 9 = .ok (.lastore, 1) := dk_80 (dk_at dksX0_lampOf_0 9 rfl rfl)
theorem dX0_lampOf_10 : decode cX0_lampOf 10 = .ok (.goto 11, 3) := dk_167 0 11 (dk_at dksX0_lampOf_0 10 rfl rfl)
theorem dX0_lampOf_13 : decode cX0_lampOf 13 = .ok (.astore 4, 2) := dk_58 4 (dk_at dksX0_lampOf_0 13 rfl rfl)
theorem dX0_lampOf_15 : decode cX0_lampOf 15 = .ok (.iconst 1, 1) := dk_4 (dk_at dksX0_lampOf_0 15 rfl rfl)
theorem dX0_lampOf_16 : decode cX0_lampOf 16 = .ok (.ireturn, 1) := dk_172 (dk_at dksX0_lampOf_0 16 rfl rfl)
theorem dX0_lampOf_17 : decode cX0_lampOf 17 = .ok (.astore 4, 2) := dk_58 4 (dk_at dksX0_lampOf_0 17 rfl rfl)
theorem dX0_lampOf_19 : decode cX0_lampOf 19 = .ok (.iconst 2, 1) := dk_5 (dk_at dksX0_lampOf_0 19 rfl rfl)
theorem dX0_lampOf_20 : decode cX0_lampOf 20 = .ok (.ireturn, 1) := dk_172 (dk_at dksX0_lampOf_0 20 rfl rfl)
theorem dX0_lampOf_21 : decode cX0_lampOf 21 = .ok (.iconst 0, 1) := dk_3 (dk_at dksX0_lampOf_0 21 rfl rfl)
theorem dX0_lampOf_22 : decode cX0_lampOf 22 = .ok (.ireturn, 1) := dk_172 (dk_at dksX0_lampOf_0 22 rfl rfl)
abbrev cX0_climberOf : ByteArray := method_8_code
def yX0_climberOf : MethodName := ⟨RX0, "climberOf", "(LCrumblingWall;II[J)I"⟩
def dkwX0_climberOf_0 : List UInt8 := [45, 3, 42, 27, 28, 182, 0, 35, 133, 80, 167, 0, 11, 58, 4, 4, 172, 58, 4, 5, 172, 3, 172]
abbrev dktX0_climberOf_0 : List UInt8 := dkwX0_climberOf_0 ++ []
theorem dksX0_climberOf_0 : cX0_climberOf.data.toList.drop 0 = dktX0_climberOf_0 := by decide +kernel
theorem dX0_climberOf_0 : decode cX0_climberOf 0 = .ok (.aload_n 3, 1) := dk_45 (dk_at dksX0_climberOf_0 0 rfl rfl)
theorem dX0_climberOf_1 : decode cX0_climberOf 1 = .ok (.iconst 0, 1) := dk_3 (dk_at dksX0_climberOf_0 1 rfl rfl)
theorem dX0_climberOf_2 : decode cX0_climberOf 2 = .ok (.aload_n 0, 1) := dk_42 (dk_at dksX0_climberOf_0 2 rfl rfl)
theorem dX0_climberOf_3 : decode cX0_climberOf 3 = .ok (.iload_n 1, 1) := dk_27 (dk_at dksX0_climberOf_0 3 rfl rfl)
theorem dX0_climberOf_4 : decode cX0_climberOf 4 = .ok (.iload_n 2, 1) := dk_28 (dk_at dksX0_climberOf_0 4 rfl rfl)
theorem dX0_climberOf_5 : decode cX0_climberOf 5 = .ok (.invokevirtual 35, 3) := dk_182 0 35 (dk_at dksX0_climberOf_0 5 rfl rfl)
theorem dX0_climberOf_8 : decode cX0_climberOf 8 = .ok (.i2l, 1) := dk_133 (dk_at dksX0_climberOf_0 8 rfl rfl)
theorem dX0_climberOf_9 : decode cX0_climberOf 9 = .ok (.lastore, 1) := dk_80 (dk_at dksX0_climberOf_0 9 rfl rfl)
theorem dX0_climberOf_10 : decode cX0_climberOf 10 = .ok (.goto 11, 3) := dk_167 0 11 (dk_at dksX0_climberOf_0 10 rfl rfl)
theorem dX0_climberOf_13 : decode cX0_climberOf 13 = .ok (.astore 4, 2) := dk_58 4 (dk_at dksX0_climberOf_0 13 rfl rfl)
theorem dX0_climberOf_15 : decode cX0_climberOf 15 = .ok (.iconst 1, 1) := dk_4 (dk_at dksX0_climberOf_0 15 rfl rfl)
theorem dX0_climberOf_16 : decode cX0_climberOf 16 = .ok (.ireturn, 1) := dk_172 (dk_at dksX0_climberOf_0 16 rfl rfl)
theorem dX0_climberOf_17 : decode cX0_climberOf 17 = .ok (.astore 4, 2) := dk_58 4 (dk_at dksX0_climberOf_0 17 rfl rfl)
theorem dX0_climberOf_19 : decode cX0_climberOf 19 = .ok (.iconst 2, 1) := dk_5 (dk_at dksX0_climberOf_0 19 rfl rfl)
theorem dX0_climberOf_20 : decode cX0_climberOf 20 = .ok (.ireturn, 1) := dk_172 (dk_at dksX0_climberOf_0 20 rfl rfl)
theorem dX0_climberOf_21 : decode cX0_climberOf 21 = .ok (.iconst 0, 1) := dk_3 (dk_at dksX0_climberOf_0 21 rfl rfl)
theorem dX0_climberOf_22 : decode cX0_climberOf 22 = .ok (.ireturn, 1) := dk_172 (dk_at dksX0_climberOf_0 22 rfl rfl)
abbrev cX0_move : ByteArray := method_9_code
def yX0_move : MethodName := ⟨RX0, "move", "(LCrumblingWall;II[J)I"⟩
def dkwX0_move_0 : List UInt8 := [45, 3, 42, 27, 28, 182, 0, 38, 133, 80, 167, 0, 11, 58, 4, 4, 172, 58, 4, 5, 172, 3, 172]
abbrev dktX0_move_0 : List UInt8 := dkwX0_move_0 ++ []
theorem dksX0_move_0 : cX0_move.data.toList.drop 0 = dktX0_move_0 := by decide +kernel
theorem dX0_move_0 : decode cX0_move 0 = .ok (.aload_n 3, 1) := dk_45 (dk_at dksX0_move_0 0 rfl rfl)
theorem dX0_move_1 : decode cX0_move 1 = .ok (.iconst 0, 1) := dk_3 (dk_at dksX0_move_0 1 rfl rfl)
theorem dX0_move_2 : decode cX0_move 2 = .ok (.aload_n 0, 1) := dk_42 (dk_at dksX0_move_0 2 rfl rfl)
theorem dX0_move_3 : decode cX0_move 3 = .ok (.iload_n 1, 1) := dk_27 (dk_at dksX0_move_0 3 rfl rfl)
theorem dX0_move_4 : decode cX0_move 4 = .ok (.iload_n 2, 1) := dk_28 (dk_at dksX0_move_0 4 rfl rfl)
theorem dX0_move_5 : decode cX0_move 5 = .ok (.invokevirtual 38, 3) := dk_182 0 38 (dk_at dksX0_move_0 5 rfl rfl)
theorem dX0_move_8 : decode cX0_move 8 = .ok (.i2l, 1) := dk_133 (dk_at dksX0_move_0 8 rfl rfl)
theorem dX0_move_9 : decode cX0_move 9 = .ok (.lastore, 1) := dk_80 (dk_at dksX0_move_0 9 rfl rfl)
theorem dX0_move_10 : decode cX0_move 10 = .ok (.goto 11, 3) := dk_167 0 11 (dk_at dksX0_move_0 10 rfl rfl)
theorem dX0_move_13 : decode cX0_move 13 = .ok (.astore 4, 2) := dk_58 4 (dk_at dksX0_move_0 13 rfl rfl)
theorem dX0_move_15 : decode cX0_move 15 = .ok (.iconst 1, 1) := dk_4 (dk_at dksX0_move_0 15 rfl rfl)
theorem dX0_move_16 : decode cX0_move 16 = .ok (.ireturn, 1) := dk_172 (dk_at dksX0_move_0 16 rfl rfl)
theorem dX0_move_17 : decode cX0_move 17 = .ok (.astore 4, 2) := dk_58 4 (dk_at dksX0_move_0 17 rfl rfl)
theorem dX0_move_19 : decode cX0_move 19 = .ok (.iconst 2, 1) := dk_5 (dk_at dksX0_move_0 19 rfl rfl)
theorem dX0_move_20 : decode cX0_move 20 = .ok (.ireturn, 1) := dk_172 (dk_at dksX0_move_0 20 rfl rfl)
theorem dX0_move_21 : decode cX0_move 21 = .ok (.iconst 0, 1) := dk_3 (dk_at dksX0_move_0 21 rfl rfl)
theorem dX0_move_22 : decode cX0_move 22 = .ok (.ireturn, 1) := dk_172 (dk_at dksX0_move_0 22 rfl rfl)
abbrev cX0_rest : ByteArray := method_10_code
def yX0_rest : MethodName := ⟨RX0, "rest", "(LCrumblingWall;I[J)I"⟩
def dkwX0_rest_0 : List UInt8 := [44, 3, 42, 27, 182, 0, 41, 133, 80, 167, 0, 9, 78, 4, 172, 78, 5, 172, 3, 172]
abbrev dktX0_rest_0 : List UInt8 := dkwX0_rest_0 ++ []
theorem dksX0_rest_0 : cX0_rest.data.toList.drop 0 = dktX0_rest_0 := by decide +kernel
theorem dX0_rest_0 : decode cX0_rest 0 = .ok (.aload_n 2, 1) := dk_44 (dk_at dksX0_rest_0 0 rfl rfl)
theorem dX0_rest_1 : decode cX0_rest 1 = .ok (.iconst 0, 1) := dk_3 (dk_at dksX0_rest_0 1 rfl rfl)
theorem dX0_rest_2 : decode cX0_rest 2 = .ok (.aload_n 0, 1) := dk_42 (dk_at dksX0_rest_0 2 rfl rfl)
theorem dX0_rest_3 : decode cX0_rest 3 = .ok (.iload_n 1, 1) := dk_27 (dk_at dksX0_rest_0 3 rfl rfl)
theorem dX0_rest_4 : decode cX0_rest 4 = .ok (.invokevirtual 41, 3) := dk_182 0 41 (dk_at dksX0_rest_0 4 rfl rfl)
theorem dX0_rest_7 : decode cX0_rest 7 = .ok (.i2l, 1) := dk_133 (dk_at dksX0_rest_0 7 rfl rfl)
theorem dX0_rest_8 : decode cX0_rest 8 = .ok (.lastore, 1) := dk_80 (dk_at dksX0_rest_0 8 rfl rfl)
theorem dX0_rest_9 : decode cX0_rest 9 = .ok (.goto 9, 3) := dk_167 0 9 (dk_at dksX0_rest_0 9 rfl rfl)
theorem dX0_rest_12 : decode cX0_rest 12 = .ok (.astore_n 3, 1) := dk_78 (dk_at dksX0_rest_0 12 rfl rfl)
theorem dX0_rest_13 : decode cX0_rest 13 = .ok (.iconst 1, 1) := dk_4 (dk_at dksX0_rest_0 13 rfl rfl)
theorem dX0_rest_14 : decode cX0_rest 14 = .ok (.ireturn, 1) := dk_172 (dk_at dksX0_rest_0 14 rfl rfl)
theorem dX0_rest_15 : decode cX0_rest 15 = .ok (.astore_n 3, 1) := dk_78 (dk_at dksX0_rest_0 15 rfl rfl)
theorem dX0_rest_16 : decode cX0_rest 16 = .ok (.iconst 2, 1) := dk_5 (dk_at dksX0_rest_0 16 rfl rfl)
theorem dX0_rest_17 : decode cX0_rest 17 = .ok (.ireturn, 1) := dk_172 (dk_at dksX0_rest_0 17 rfl rfl)
theorem dX0_rest_18 : decode cX0_rest 18 = .ok (.iconst 0, 1) := dk_3 (dk_at dksX0_rest_0 18 rfl rfl)
theorem dX0_rest_19 : decode cX0_rest 19 = .ok (.ireturn, 1) := dk_172 (dk_at dksX0_rest_0 19 rfl rfl)
abbrev cX0_why : ByteArray := method_11_code
def yX0_why : MethodName := ⟨RX0, "why", "(LCrumblingWall;IIZ[J)I"⟩
def dkwX0_why_0 : List UInt8 := [25, 4, 3, 42, 27, 28, 29, 182, 0, 45, 133, 80, 167, 0, 7, 58, 5, 4, 172, 3, 172]
abbrev dktX0_why_0 : List UInt8 := dkwX0_why_0 ++ []
theorem dksX0_why_0 : cX0_why.data.toList.drop 0 = dktX0_why_0 := by decide +kernel
theorem dX0_why_0 : decode cX0_why 0 = .ok (.aload 4, 2) := dk_25 4 (dk_at dksX0_why_0 0 rfl rfl)
theorem dX0_why_2 : decode cX0_why 2 = .ok (.iconst 0, 1) := dk_3 (dk_at dksX0_why_0 2 rfl rfl)
theorem dX0_why_3 : decode cX0_why 3 = .ok (.aload_n 0, 1) := dk_42 (dk_at dksX0_why_0 3 rfl rfl)
theorem dX0_why_4 : decode cX0_why 4 = .ok (.iload_n 1, 1) := dk_27 (dk_at dksX0_why_0 4 rfl rfl)
theorem dX0_why_5 : decode cX0_why 5 = .ok (.iload_n 2, 1) := dk_28 (dk_at dksX0_why_0 5 rfl rfl)
theorem dX0_why_6 : decode cX0_why 6 = .ok (.iload_n 3, 1) := dk_29 (dk_at dksX0_why_0 6 rfl rfl)
theorem dX0_why_7 : decode cX0_why 7 = .ok (.invokevirtual 45, 3) := dk_182 0 45 (dk_at dksX0_why_0 7 rfl rfl)
theorem dX0_why_10 : decode cX0_why 10 = .ok (.i2l, 1) := dk_133 (dk_at dksX0_why_0 10 rfl rfl)
theorem dX0_why_11 : decode cX0_why 11 = .ok (.lastore, 1) := dk_80 (dk_at dksX0_why_0 11 rfl rfl)
theorem dX0_why_12 : decode cX0_why 12 = .ok (.goto 7, 3) := dk_167 0 7 (dk_at dksX0_why_0 12 rfl rfl)
theorem dX0_why_15 : decode cX0_why 15 = .ok (.astore 5, 2) := dk_58 5 (dk_at dksX0_why_0 15 rfl rfl)
theorem dX0_why_17 : decode cX0_why 17 = .ok (.iconst 1, 1) := dk_4 (dk_at dksX0_why_0 17 rfl rfl)
theorem dX0_why_18 : decode cX0_why 18 = .ok (.ireturn, 1) := dk_172 (dk_at dksX0_why_0 18 rfl rfl)
theorem dX0_why_19 : decode cX0_why 19 = .ok (.iconst 0, 1) := dk_3 (dk_at dksX0_why_0 19 rfl rfl)
theorem dX0_why_20 : decode cX0_why 20 = .ok (.ireturn, 1) := dk_172 (dk_at dksX0_why_0 20 rfl rfl)
abbrev cX0_moves : ByteArray := method_12_code
def yX0_moves : MethodName := ⟨RX0, "moves", "(LCrumblingWall;I[J)I"⟩
def dkwX0_moves_0 : List UInt8 := [44, 3, 42, 27, 182, 0, 49, 133, 80, 167, 0, 6, 78, 4, 172, 3, 172]
abbrev dktX0_moves_0 : List UInt8 := dkwX0_moves_0 ++ []
theorem dksX0_moves_0 : cX0_moves.data.toList.drop 0 = dktX0_moves_0 := by decide +kernel
theorem dX0_moves_0 : decode cX0_moves 0 = .ok (.aload_n 2, 1) := dk_44 (dk_at dksX0_moves_0 0 rfl rfl)
theorem dX0_moves_1 : decode cX0_moves 1 = .ok (.iconst 0, 1) := dk_3 (dk_at dksX0_moves_0 1 rfl rfl)
theorem dX0_moves_2 : decode cX0_moves 2 = .ok (.aload_n 0, 1) := dk_42 (dk_at dksX0_moves_0 2 rfl rfl)
theorem dX0_moves_3 : decode cX0_moves 3 = .ok (.iload_n 1, 1) := dk_27 (dk_at dksX0_moves_0 3 rfl rfl)
theorem dX0_moves_4 : decode cX0_moves 4 = .ok (.invokevirtual 49, 3) := dk_182 0 49 (dk_at dksX0_moves_0 4 rfl rfl)
theorem dX0_moves_7 : decode cX0_moves 7 = .ok (.i2l, 1) := dk_133 (dk_at dksX0_moves_0 7 rfl rfl)
theorem dX0_moves_8 : decode cX0_moves 8 = .ok (.lastore, 1) := dk_80 (dk_at dksX0_moves_0 8 rfl rfl)
theorem dX0_moves_9 : decode cX0_moves 9 = .ok (.goto 6, 3) := dk_167 0 6 (dk_at dksX0_moves_0 9 rfl rfl)
theorem dX0_moves_12 : decode cX0_moves 12 = .ok (.astore_n 3, 1) := dk_78 (dk_at dksX0_moves_0 12 rfl rfl)
theorem dX0_moves_13 : decode cX0_moves 13 = .ok (.iconst 1, 1) := dk_4 (dk_at dksX0_moves_0 13 rfl rfl)
theorem dX0_moves_14 : decode cX0_moves 14 = .ok (.ireturn, 1) := dk_172 (dk_at dksX0_moves_0 14 rfl rfl)
theorem dX0_moves_15 : decode cX0_moves 15 = .ok (.iconst 0, 1) := dk_3 (dk_at dksX0_moves_0 15 rfl rfl)
theorem dX0_moves_16 : decode cX0_moves 16 = .ok (.ireturn, 1) := dk_172 (dk_at dksX0_moves_0 16 rfl rfl)
abbrev cX0_leastRests : ByteArray := method_13_code
def yX0_leastRests : MethodName := ⟨RX0, "leastRests", "(LCrumblingWall;II[J)I"⟩
def dkwX0_leastRests_0 : List UInt8 := [45, 3, 42, 27, 28, 182, 0, 52, 133, 80, 167, 0, 11, 58, 4, 4, 172, 58, 4, 5, 172, 3, 172]
abbrev dktX0_leastRests_0 : List UInt8 := dkwX0_leastRests_0 ++ []
theorem dksX0_leastRests_0 : cX0_leastRests.data.toList.drop 0 = dktX0_leastRests_0 := by decide +kernel
theorem dX0_leastRests_0 : decode cX0_leastRests 0 = .ok (.aload_n 3, 1) := dk_45 (dk_at dksX0_leastRests_0 0 rfl rfl)
theorem dX0_leastRests_1 : decode cX0_leastRests 1 = .ok (.iconst 0, 1) := dk_3 (dk_at dksX0_leastRests_0 1 rfl rfl)
theorem dX0_leastRests_2 : decode cX0_leastRests 2 = .ok (.aload_n 0, 1) := dk_42 (dk_at dksX0_leastRests_0 2 rfl rfl)
theorem dX0_leastRests_3 : decode cX0_leastRests 3 = .ok (.iload_n 1, 1) := dk_27 (dk_at dksX0_leastRests_0 3 rfl rfl)
theorem dX0_leastRests_4 : decode cX0_leastRests 4 = .ok (.iload_n 2, 1) := dk_28 (dk_at dksX0_leastRests_0 4 rfl rfl)
theorem dX0_leastRests_5 : decode cX0_leastRests 5 = .ok (.invokevirtual 52, 3) := dk_182 0 52 (dk_at dksX0_leastRests_0 5 rfl rfl)
theorem dX0_leastRests_8 : decode cX0_leastRests 8 = .ok (.i2l, 1) := dk_133 (dk_at dksX0_leastRests_0 8 rfl rfl)
theorem dX0_leastRests_9 : decode cX0_leastRests 9 = .ok (.lastore, 1) := dk_80 (dk_at dksX0_leastRests_0 9 rfl rfl)
theorem dX0_leastRests_10 : decode cX0_leastRests 10 = .ok (.goto 11, 3) := dk_167 0 11 (dk_at dksX0_leastRests_0 10 rfl rfl)
theorem dX0_leastRests_13 : decode cX0_leastRests 13 = .ok (.astore 4, 2) := dk_58 4 (dk_at dksX0_leastRests_0 13 rfl rfl)
theorem dX0_leastRests_15 : decode cX0_leastRests 15 = .ok (.iconst 1, 1) := dk_4 (dk_at dksX0_leastRests_0 15 rfl rfl)
theorem dX0_leastRests_16 : decode cX0_leastRests 16 = .ok (.ireturn, 1) := dk_172 (dk_at dksX0_leastRests_0 16 rfl rfl)
theorem dX0_leastRests_17 : decode cX0_leastRests 17 = .ok (.astore 4, 2) := dk_58 4 (dk_at dksX0_leastRests_0 17 rfl rfl)
theorem dX0_leastRests_19 : decode cX0_leastRests 19 = .ok (.iconst 2, 1) := dk_5 (dk_at dksX0_leastRests_0 19 rfl rfl)
theorem dX0_leastRests_20 : decode cX0_leastRests 20 = .ok (.ireturn, 1) := dk_172 (dk_at dksX0_leastRests_0 20 rfl rfl)
theorem dX0_leastRests_21 : decode cX0_leastRests 21 = .ok (.iconst 0, 1) := dk_3 (dk_at dksX0_leastRests_0 21 rfl rfl)
theorem dX0_leastRests_22 : decode cX0_leastRests 22 = .ok (.ireturn, 1) := dk_172 (dk_at dksX0_leastRests_0 22 rfl rfl)
abbrev cX0_leastMoves : ByteArray := method_14_code
def yX0_leastMoves : MethodName := ⟨RX0, "leastMoves", "(LCrumblingWall;II[J)I"⟩
def dkwX0_leastMoves_0 : List UInt8 := [45, 3, 42, 27, 28, 182, 0, 57, 133, 80, 167, 0, 11, 58, 4, 4, 172, 58, 4, 5, 172, 3, 172]
abbrev dktX0_leastMoves_0 : List UInt8 := dkwX0_leastMoves_0 ++ []
theorem dksX0_leastMoves_0 : cX0_leastMoves.data.toList.drop 0 = dktX0_leastMoves_0 := by decide +kernel
theorem dX0_leastMoves_0 : decode cX0_leastMoves 0 = .ok (.aload_n 3, 1) := dk_45 (dk_at dksX0_leastMoves_0 0 rfl rfl)
theorem dX0_leastMoves_1 : decode cX0_leastMoves 1 = .ok (.iconst 0, 1) := dk_3 (dk_at dksX0_leastMoves_0 1 rfl rfl)
theorem dX0_leastMoves_2 : decode cX0_leastMoves 2 = .ok (.aload_n 0, 1) := dk_42 (dk_at dksX0_leastMoves_0 2 rfl rfl)
theorem dX0_leastMoves_3 : decode cX0_leastMoves 3 = .ok (.iload_n 1, 1) := dk_27 (dk_at dksX0_leastMoves_0 3 rfl rfl)
theorem dX0_leastMoves_4 : decode cX0_leastMoves 4 = .ok (.iload_n 2, 1) := dk_28 (dk_at dksX0_leastMoves_0 4 rfl rfl)
theorem dX0_leastMoves_5 : decode cX0_leastMoves 5 = .ok (.invokevirtual 57, 3) := dk_182 0 57 (dk_at dksX0_leastMoves_0 5 rfl rfl)
theorem dX0_leastMoves_8 : decode cX0_leastMoves 8 = .ok (.i2l, 1) := dk_133 (dk_at dksX0_leastMoves_0 8 rfl rfl)
theorem dX0_leastMoves_9 : decode cX0_leastMoves 9 = .ok (.lastore, 1) := dk_80 (dk_at dksX0_leastMoves_0 9 rfl rfl)
theorem dX0_leastMoves_10 : decode cX0_leastMoves 10 = .ok (.goto 11, 3) := dk_167 0 11 (dk_at dksX0_leastMoves_0 10 rfl rfl)
theorem dX0_leastMoves_13 : decode cX0_leastMoves 13 = .ok (.astore 4, 2) := dk_58 4 (dk_at dksX0_leastMoves_0 13 rfl rfl)
theorem dX0_leastMoves_15 : decode cX0_leastMoves 15 = .ok (.iconst 1, 1) := dk_4 (dk_at dksX0_leastMoves_0 15 rfl rfl)
theorem dX0_leastMoves_16 : decode cX0_leastMoves 16 = .ok (.ireturn, 1) := dk_172 (dk_at dksX0_leastMoves_0 16 rfl rfl)
theorem dX0_leastMoves_17 : decode cX0_leastMoves 17 = .ok (.astore 4, 2) := dk_58 4 (dk_at dksX0_leastMoves_0 17 rfl rfl)
theorem dX0_leastMoves_19 : decode cX0_leastMoves 19 = .ok (.iconst 2, 1) := dk_5 (dk_at dksX0_leastMoves_0 19 rfl rfl)
theorem dX0_leastMoves_20 : decode cX0_leastMoves 20 = .ok (.ireturn, 1) := dk_172 (dk_at dksX0_leastMoves_0 20 rfl rfl)
theorem dX0_leastMoves_21 : decode cX0_leastMoves 21 = .ok (.iconst 0, 1) := dk_3 (dk_at dksX0_leastMoves_0 21 rfl rfl)
theorem dX0_leastMoves_22 : decode cX0_leastMoves 22 = .ok (.ireturn, 1) := dk_172 (dk_at dksX0_leastMoves_0 22 rfl rfl)
abbrev cX0_clip : ByteArray := method_15_code
def yX0_clip : MethodName := ⟨RX0, "clip", "(LCrumblingWall;[J)I"⟩
def dkwX0_clip_0 : List UInt8 := [43, 3, 42, 182, 0, 60, 133, 80, 167, 0, 6, 77, 4, 172, 3, 172]
abbrev dktX0_clip_0 : List UInt8 := dkwX0_clip_0 ++ []
theorem dksX0_clip_0 : cX0_clip.data.toList.drop 0 = dktX0_clip_0 := by decide +kernel
theorem dX0_clip_0 : decode cX0_clip 0 = .ok (.aload_n 1, 1) := dk_43 (dk_at dksX0_clip_0 0 rfl rfl)
theorem dX0_clip_1 : decode cX0_clip 1 = .ok (.iconst 0, 1) := dk_3 (dk_at dksX0_clip_0 1 rfl rfl)
theorem dX0_clip_2 : decode cX0_clip 2 = .ok (.aload_n 0, 1) := dk_42 (dk_at dksX0_clip_0 2 rfl rfl)
theorem dX0_clip_3 : decode cX0_clip 3 = .ok (.invokevirtual 60, 3) := dk_182 0 60 (dk_at dksX0_clip_0 3 rfl rfl)
theorem dX0_clip_6 : decode cX0_clip 6 = .ok (.i2l, 1) := dk_133 (dk_at dksX0_clip_0 6 rfl rfl)
theorem dX0_clip_7 : decode cX0_clip 7 = .ok (.lastore, 1) := dk_80 (dk_at dksX0_clip_0 7 rfl rfl)
theorem dX0_clip_8 : decode cX0_clip 8 = .ok (.goto 6, 3) := dk_167 0 6 (dk_at dksX0_clip_0 8 rfl rfl)
theorem dX0_clip_11 : decode cX0_clip 11 = .ok (.astore_n 2, 1) := dk_77 (dk_at dksX0_clip_0 11 rfl rfl)
theorem dX0_clip_12 : decode cX0_clip 12 = .ok (.iconst 1, 1) := dk_4 (dk_at dksX0_clip_0 12 rfl rfl)
theorem dX0_clip_13 : decode cX0_clip 13 = .ok (.ireturn, 1) := dk_172 (dk_at dksX0_clip_0 13 rfl rfl)
theorem dX0_clip_14 : decode cX0_clip 14 = .ok (.iconst 0, 1) := dk_3 (dk_at dksX0_clip_0 14 rfl rfl)
theorem dX0_clip_15 : decode cX0_clip 15 = .ok (.ireturn, 1) := dk_172 (dk_at dksX0_clip_0 15 rfl rfl)
abbrev cX0_unclip : ByteArray := method_16_code
def yX0_unclip : MethodName := ⟨RX0, "unclip", "(LCrumblingWall;[J)I"⟩
def dkwX0_unclip_0 : List UInt8 := [43, 3, 42, 182, 0, 64, 133, 80, 167, 0, 6, 77, 4, 172, 3, 172]
abbrev dktX0_unclip_0 : List UInt8 := dkwX0_unclip_0 ++ []
theorem dksX0_unclip_0 : cX0_unclip.data.toList.drop 0 = dktX0_unclip_0 := by decide +kernel
theorem dX0_unclip_0 : decode cX0_unclip 0 = .ok (.aload_n 1, 1) := dk_43 (dk_at dksX0_unclip_0 0 rfl rfl)
theorem dX0_unclip_1 : decode cX0_unclip 1 = .ok (.iconst 0, 1) := dk_3 (dk_at dksX0_unclip_0 1 rfl rfl)
theorem dX0_unclip_2 : decode cX0_unclip 2 = .ok (.aload_n 0, 1) := dk_42 (dk_at dksX0_unclip_0 2 rfl rfl)
theorem dX0_unclip_3 : decode cX0_unclip 3 = .ok (.invokevirtual 64, 3) := dk_182 0 64 (dk_at dksX0_unclip_0 3 rfl rfl)
theorem dX0_unclip_6 : decode cX0_unclip 6 = .ok (.i2l, 1) := dk_133 (dk_at dksX0_unclip_0 6 rfl rfl)
theorem dX0_unclip_7 : decode cX0_unclip 7 = .ok (.lastore, 1) := dk_80 (dk_at dksX0_unclip_0 7 rfl rfl)
theorem dX0_unclip_8 : decode cX0_unclip 8 = .ok (.goto 6, 3) := dk_167 0 6 (dk_at dksX0_unclip_0 8 rfl rfl)
theorem dX0_unclip_11 : decode cX0_unclip 11 = .ok (.astore_n 2, 1) := dk_77 (dk_at dksX0_unclip_0 11 rfl rfl)
theorem dX0_unclip_12 : decode cX0_unclip 12 = .ok (.iconst 1, 1) := dk_4 (dk_at dksX0_unclip_0 12 rfl rfl)
theorem dX0_unclip_13 : decode cX0_unclip 13 = .ok (.ireturn, 1) := dk_172 (dk_at dksX0_unclip_0 13 rfl rfl)
theorem dX0_unclip_14 : decode cX0_unclip 14 = .ok (.iconst 0, 1) := dk_3 (dk_at dksX0_unclip_0 14 rfl rfl)
theorem dX0_unclip_15 : decode cX0_unclip 15 = .ok (.ireturn, 1) := dk_172 (dk_at dksX0_unclip_0 15 rfl rfl)
abbrev cX0_anchor : ByteArray := method_17_code
def yX0_anchor : MethodName := ⟨RX0, "anchor", "(LCrumblingWall;I[J)I"⟩
def dkwX0_anchor_0 : List UInt8 := [44, 3, 42, 27, 182, 0, 67, 133, 80, 167, 0, 6, 78, 4, 172, 3, 172]
abbrev dktX0_anchor_0 : List UInt8 := dkwX0_anchor_0 ++ []
theorem dksX0_anchor_0 : cX0_anchor.data.toList.drop 0 = dktX0_anchor_0 := by decide +kernel
theorem dX0_anchor_0 : decode cX0_anchor 0 = .ok (.aload_n 2, 1) := dk_44 (dk_at dksX0_anchor_0 0 rfl rfl)
theorem dX0_anchor_1 : decode cX0_anchor 1 = .ok (.iconst 0, 1) := dk_3 (dk_at dksX0_anchor_0 1 rfl rfl)
theorem dX0_anchor_2 : decode cX0_anchor 2 = .ok (.aload_n 0, 1) := dk_42 (dk_at dksX0_anchor_0 2 rfl rfl)
theorem dX0_anchor_3 : decode cX0_anchor 3 = .ok (.iload_n 1, 1) := dk_27 (dk_at dksX0_anchor_0 3 rfl rfl)
theorem dX0_anchor_4 : decode cX0_anchor 4 = .ok (.invokevirtual 67, 3) := dk_182 0 67 (dk_at dksX0_anchor_0 4 rfl rfl)
theorem dX0_anchor_7 : decode cX0_anchor 7 = .ok (.i2l, 1) := dk_133 (dk_at dksX0_anchor_0 7 rfl rfl)
theorem dX0_anchor_8 : decode cX0_anchor 8 = .ok (.lastore, 1) := dk_80 (dk_at dksX0_anchor_0 8 rfl rfl)
theorem dX0_anchor_9 : decode cX0_anchor 9 = .ok (.goto 6, 3) := dk_167 0 6 (dk_at dksX0_anchor_0 9 rfl rfl)
theorem dX0_anchor_12 : decode cX0_anchor 12 = .ok (.astore_n 3, 1) := dk_78 (dk_at dksX0_anchor_0 12 rfl rfl)
theorem dX0_anchor_13 : decode cX0_anchor 13 = .ok (.iconst 1, 1) := dk_4 (dk_at dksX0_anchor_0 13 rfl rfl)
theorem dX0_anchor_14 : decode cX0_anchor 14 = .ok (.ireturn, 1) := dk_172 (dk_at dksX0_anchor_0 14 rfl rfl)
theorem dX0_anchor_15 : decode cX0_anchor 15 = .ok (.iconst 0, 1) := dk_3 (dk_at dksX0_anchor_0 15 rfl rfl)
theorem dX0_anchor_16 : decode cX0_anchor 16 = .ok (.ireturn, 1) := dk_172 (dk_at dksX0_anchor_0 16 rfl rfl)
abbrev cX0_take : ByteArray := method_18_code
def yX0_take : MethodName := ⟨RX0, "take", "(LCrumblingWall;II[J)I"⟩
def dkwX0_take_0 : List UInt8 := [45, 3, 42, 27, 28, 182, 0, 70, 133, 80, 167, 0, 11, 58, 4, 4, 172, 58, 4, 5, 172, 3, 172]
abbrev dktX0_take_0 : List UInt8 := dkwX0_take_0 ++ []
theorem dksX0_take_0 : cX0_take.data.toList.drop 0 = dktX0_take_0 := by decide +kernel
theorem dX0_take_0 : decode cX0_take 0 = .ok (.aload_n 3, 1) := dk_45 (dk_at dksX0_take_0 0 rfl rfl)
theorem dX0_take_1 : decode cX0_take 1 = .ok (.iconst 0, 1) := dk_3 (dk_at dksX0_take_0 1 rfl rfl)
theorem dX0_take_2 : decode cX0_take 2 = .ok (.aload_n 0, 1) := dk_42 (dk_at dksX0_take_0 2 rfl rfl)
theorem dX0_take_3 : decode cX0_take 3 = .ok (.iload_n 1, 1) := dk_27 (dk_at dksX0_take_0 3 rfl rfl)
theorem dX0_take_4 : decode cX0_take 4 = .ok (.iload_n 2, 1) := dk_28 (dk_at dksX0_take_0 4 rfl rfl)
theorem dX0_take_5 : decode cX0_take 5 = .ok (.invokevirtual 70, 3) := dk_182 0 70 (dk_at dksX0_take_0 5 rfl rfl)
theorem dX0_take_8 : decode cX0_take 8 = .ok (.i2l, 1) := dk_133 (dk_at dksX0_take_0 8 rfl rfl)
theorem dX0_take_9 : decode cX0_take 9 = .ok (.lastore, 1) := dk_80 (dk_at dksX0_take_0 9 rfl rfl)
theorem dX0_take_10 : decode cX0_take 10 = .ok (.goto 11, 3) := dk_167 0 11 (dk_at dksX0_take_0 10 rfl rfl)
theorem dX0_take_13 : decode cX0_take 13 = .ok (.astore 4, 2) := dk_58 4 (dk_at dksX0_take_0 13 rfl rfl)
theorem dX0_take_15 : decode cX0_take 15 = .ok (.iconst 1, 1) := dk_4 (dk_at dksX0_take_0 15 rfl rfl)
theorem dX0_take_16 : decode cX0_take 16 = .ok (.ireturn, 1) := dk_172 (dk_at dksX0_take_0 16 rfl rfl)
theorem dX0_take_17 : decode cX0_take 17 = .ok (.astore 4, 2) := dk_58 4 (dk_at dksX0_take_0 17 rfl rfl)
theorem dX0_take_19 : decode cX0_take 19 = .ok (.iconst 2, 1) := dk_5 (dk_at dksX0_take_0 19 rfl rfl)
theorem dX0_take_20 : decode cX0_take 20 = .ok (.ireturn, 1) := dk_172 (dk_at dksX0_take_0 20 rfl rfl)
theorem dX0_take_21 : decode cX0_take 21 = .ok (.iconst 0, 1) := dk_3 (dk_at dksX0_take_0 21 rfl rfl)
theorem dX0_take_22 : decode cX0_take 22 = .ok (.ireturn, 1) := dk_172 (dk_at dksX0_take_0 22 rfl rfl)
abbrev cX0_put : ByteArray := method_19_code
def yX0_put : MethodName := ⟨RX0, "put", "(LCrumblingWall;II[J)I"⟩
def dkwX0_put_0 : List UInt8 := [45, 3, 42, 27, 28, 182, 0, 73, 133, 80, 167, 0, 11, 58, 4, 4, 172, 58, 4, 5, 172, 3, 172]
abbrev dktX0_put_0 : List UInt8 := dkwX0_put_0 ++ []
theorem dksX0_put_0 : cX0_put.data.toList.drop 0 = dktX0_put_0 := by decide +kernel
theorem dX0_put_0 : decode cX0_put 0 = .ok (.aload_n 3, 1) := dk_45 (dk_at dksX0_put_0 0 rfl rfl)
theorem dX0_put_1 : decode cX0_put 1 = .ok (.iconst 0, 1) := dk_3 (dk_at dksX0_put_0 1 rfl rfl)
theorem dX0_put_2 : decode cX0_put 2 = .ok (.aload_n 0, 1) := dk_42 (dk_at dksX0_put_0 2 rfl rfl)
theorem dX0_put_3 : decode cX0_put 3 = .ok (.iload_n 1, 1) := dk_27 (dk_at dksX0_put_0 3 rfl rfl)
theorem dX0_put_4 : decode cX0_put 4 = .ok (.iload_n 2, 1) := dk_28 (dk_at dksX0_put_0 4 rfl rfl)
theorem dX0_put_5 : decode cX0_put 5 = .ok (.invokevirtual 73, 3) := dk_182 0 73 (dk_at dksX0_put_0 5 rfl rfl)
theorem dX0_put_8 : decode cX0_put 8 = .ok (.i2l, 1) := dk_133 (dk_at dksX0_put_0 8 rfl rfl)
theorem dX0_put_9 : decode cX0_put 9 = .ok (.lastore, 1) := dk_80 (dk_at dksX0_put_0 9 rfl rfl)
theorem dX0_put_10 : decode cX0_put 10 = .ok (.goto 11, 3) := dk_167 0 11 (dk_at dksX0_put_0 10 rfl rfl)
theorem dX0_put_13 : decode cX0_put 13 = .ok (.astore 4, 2) := dk_58 4 (dk_at dksX0_put_0 13 rfl rfl)
theorem dX0_put_15 : decode cX0_put 15 = .ok (.iconst 1, 1) := dk_4 (dk_at dksX0_put_0 15 rfl rfl)
theorem dX0_put_16 : decode cX0_put 16 = .ok (.ireturn, 1) := dk_172 (dk_at dksX0_put_0 16 rfl rfl)
theorem dX0_put_17 : decode cX0_put 17 = .ok (.astore 4, 2) := dk_58 4 (dk_at dksX0_put_0 17 rfl rfl)
theorem dX0_put_19 : decode cX0_put 19 = .ok (.iconst 2, 1) := dk_5 (dk_at dksX0_put_0 19 rfl rfl)
theorem dX0_put_20 : decode cX0_put 20 = .ok (.ireturn, 1) := dk_172 (dk_at dksX0_put_0 20 rfl rfl)
theorem dX0_put_21 : decode cX0_put 21 = .ok (.iconst 0, 1) := dk_3 (dk_at dksX0_put_0 21 rfl rfl)
theorem dX0_put_22 : decode cX0_put 22 = .ok (.ireturn, 1) := dk_172 (dk_at dksX0_put_0 22 rfl rfl)
abbrev cX0_light : ByteArray := method_20_code
def yX0_light : MethodName := ⟨RX0, "light", "(LCrumblingWall;II[J)I"⟩
def dkwX0_light_0 : List UInt8 := [45, 3, 42, 27, 28, 182, 0, 76, 133, 80, 167, 0, 11, 58, 4, 4, 172, 58, 4, 5, 172, 3, 172]
abbrev dktX0_light_0 : List UInt8 := dkwX0_light_0 ++ []
theorem dksX0_light_0 : cX0_light.data.toList.drop 0 = dktX0_light_0 := by decide +kernel
theorem dX0_light_0 : decode cX0_light 0 = .ok (.aload_n 3, 1) := dk_45 (dk_at dksX0_light_0 0 rfl rfl)
theorem dX0_light_1 : decode cX0_light 1 = .ok (.iconst 0, 1) := dk_3 (dk_at dksX0_light_0 1 rfl rfl)
theorem dX0_light_2 : decode cX0_light 2 = .ok (.aload_n 0, 1) := dk_42 (dk_at dksX0_light_0 2 rfl rfl)
theorem dX0_light_3 : decode cX0_light 3 = .ok (.iload_n 1, 1) := dk_27 (dk_at dksX0_light_0 3 rfl rfl)
theorem dX0_light_4 : decode cX0_light 4 = .ok (.iload_n 2, 1) := dk_28 (dk_at dksX0_light_0 4 rfl rfl)
theorem dX0_light_5 : decode cX0_light 5 = .ok (.invokevirtual 76, 3) := dk_182 0 76 (dk_at dksX0_light_0 5 rfl rfl)
theorem dX0_light_8 : decode cX0_light 8 = .ok (.i2l, 1) := dk_133 (dk_at dksX0_light_0 8 rfl rfl)
theorem dX0_light_9 : decode cX0_light 9 = .ok (.lastore, 1) := dk_80 (dk_at dksX0_light_0 9 rfl rfl)
theorem dX0_light_10 : decode cX0_light 10 = .ok (.goto 11, 3) := dk_167 0 11 (dk_at dksX0_light_0 10 rfl rfl)
theorem dX0_light_13 : decode cX0_light 13 = .ok (.astore 4, 2) := dk_58 4 (dk_at dksX0_light_0 13 rfl rfl)
theorem dX0_light_15 : decode cX0_light 15 = .ok (.iconst 1, 1) := dk_4 (dk_at dksX0_light_0 15 rfl rfl)
theorem dX0_light_16 : decode cX0_light 16 = .ok (.ireturn, 1) := dk_172 (dk_at dksX0_light_0 16 rfl rfl)
theorem dX0_light_17 : decode cX0_light 17 = .ok (.astore 4, 2) := dk_58 4 (dk_at dksX0_light_0 17 rfl rfl)
theorem dX0_light_19 : decode cX0_light 19 = .ok (.iconst 2, 1) := dk_5 (dk_at dksX0_light_0 19 rfl rfl)
theorem dX0_light_20 : decode cX0_light 20 = .ok (.ireturn, 1) := dk_172 (dk_at dksX0_light_0 20 rfl rfl)
theorem dX0_light_21 : decode cX0_light 21 = .ok (.iconst 0, 1) := dk_3 (dk_at dksX0_light_0 21 rfl rfl)
theorem dX0_light_22 : decode cX0_light 22 = .ok (.ireturn, 1) := dk_172 (dk_at dksX0_light_0 22 rfl rfl)
abbrev cX0_force : ByteArray := method_21_code
def yX0_force : MethodName := ⟨RX0, "force", "(LCrumblingWall;I[D)I"⟩
def dkwX0_force_0 : List UInt8 := [44, 3, 42, 27, 182, 0, 79, 141, 82, 167, 0, 6, 78, 4, 172, 3, 172]
abbrev dktX0_force_0 : List UInt8 := dkwX0_force_0 ++ []
theorem dksX0_force_0 : cX0_force.data.toList.drop 0 = dktX0_force_0 := by decide +kernel
theorem dX0_force_0 : decode cX0_force 0 = .ok (.aload_n 2, 1) := dk_44 (dk_at dksX0_force_0 0 rfl rfl)
theorem dX0_force_1 : decode cX0_force 1 = .ok (.iconst 0, 1) := dk_3 (dk_at dksX0_force_0 1 rfl rfl)
theorem dX0_force_2 : decode cX0_force 2 = .ok (.aload_n 0, 1) := dk_42 (dk_at dksX0_force_0 2 rfl rfl)
theorem dX0_force_3 : decode cX0_force 3 = .ok (.iload_n 1, 1) := dk_27 (dk_at dksX0_force_0 3 rfl rfl)
theorem dX0_force_4 : decode cX0_force 4 = .ok (.invokevirtual 79, 3) := dk_182 0 79 (dk_at dksX0_force_0 4 rfl rfl)
theorem dX0_force_7 : decode cX0_force 7 = .ok (.f2d, 1) := dk_141 (dk_at dksX0_force_0 7 rfl rfl)
theorem dX0_force_8 : decode cX0_force 8 = .ok (.dastore, 1) := dk_82 (dk_at dksX0_force_0 8 rfl rfl)
theorem dX0_force_9 : decode cX0_force 9 = .ok (.goto 6, 3) := dk_167 0 6 (dk_at dksX0_force_0 9 rfl rfl)
theorem dX0_force_12 : decode cX0_force 12 = .ok (.astore_n 3, 1) := dk_78 (dk_at dksX0_force_0 12 rfl rfl)
theorem dX0_force_13 : decode cX0_force 13 = .ok (.iconst 1, 1) := dk_4 (dk_at dksX0_force_0 13 rfl rfl)
theorem dX0_force_14 : decode cX0_force 14 = .ok (.ireturn, 1) := dk_172 (dk_at dksX0_force_0 14 rfl rfl)
theorem dX0_force_15 : decode cX0_force 15 = .ok (.iconst 0, 1) := dk_3 (dk_at dksX0_force_0 15 rfl rfl)
theorem dX0_force_16 : decode cX0_force 16 = .ok (.ireturn, 1) := dk_172 (dk_at dksX0_force_0 16 rfl rfl)
abbrev cX0_keep : ByteArray := method_22_code
def yX0_keep : MethodName := ⟨RX0, "keep", "(LCrumblingWall;I[J)I"⟩
def dkwX0_keep_0 : List UInt8 := [44, 3, 42, 27, 182, 0, 83, 133, 80, 167, 0, 6, 78, 4, 172, 3, 172]
abbrev dktX0_keep_0 : List UInt8 := dkwX0_keep_0 ++ []
theorem dksX0_keep_0 : cX0_keep.data.toList.drop 0 = dktX0_keep_0 := by decide +kernel
theorem dX0_keep_0 : decode cX0_keep 0 = .ok (.aload_n 2, 1) := dk_44 (dk_at dksX0_keep_0 0 rfl rfl)
theorem dX0_keep_1 : decode cX0_keep 1 = .ok (.iconst 0, 1) := dk_3 (dk_at dksX0_keep_0 1 rfl rfl)
theorem dX0_keep_2 : decode cX0_keep 2 = .ok (.aload_n 0, 1) := dk_42 (dk_at dksX0_keep_0 2 rfl rfl)
theorem dX0_keep_3 : decode cX0_keep 3 = .ok (.iload_n 1, 1) := dk_27 (dk_at dksX0_keep_0 3 rfl rfl)
theorem dX0_keep_4 : decode cX0_keep 4 = .ok (.invokevirtual 83, 3) := dk_182 0 83 (dk_at dksX0_keep_0 4 rfl rfl)
theorem dX0_keep_7 : decode cX0_keep 7 = .ok (.i2l, 1) := dk_133 (dk_at dksX0_keep_0 7 rfl rfl)
theorem dX0_keep_8 : decode cX0_keep 8 = .ok (.lastore, 1) := dk_80 (dk_at dksX0_keep_0 8 rfl rfl)
theorem dX0_keep_9 : decode cX0_keep 9 = .ok (.goto 6, 3) := dk_167 0 6 (dk_at dksX0_keep_0 9 rfl rfl)
theorem dX0_keep_12 : decode cX0_keep 12 = .ok (.astore_n 3, 1) := dk_78 (dk_at dksX0_keep_0 12 rfl rfl)
theorem dX0_keep_13 : decode cX0_keep 13 = .ok (.iconst 1, 1) := dk_4 (dk_at dksX0_keep_0 13 rfl rfl)
theorem dX0_keep_14 : decode cX0_keep 14 = .ok (.ireturn, 1) := dk_172 (dk_at dksX0_keep_0 14 rfl rfl)
theorem dX0_keep_15 : decode cX0_keep 15 = .ok (.iconst 0, 1) := dk_3 (dk_at dksX0_keep_0 15 rfl rfl)
theorem dX0_keep_16 : decode cX0_keep 16 = .ok (.ireturn, 1) := dk_172 (dk_at dksX0_keep_0 16 rfl rfl)
abbrev cX0_scale : ByteArray := method_23_code
def yX0_scale : MethodName := ⟨RX0, "scale", "(LCrumblingWall;III[J)I"⟩
def dkwX0_scale_1 : List UInt8 := [58, 5, 6, 172, 3, 172]
abbrev dktX0_scale_1 : List UInt8 := dkwX0_scale_1 ++ []
def dkwX0_scale_0 : List UInt8 := [25, 4, 3, 42, 27, 28, 29, 182, 0, 86, 133, 80, 167, 0, 15, 58, 5, 4, 172, 58, 5, 5, 172]
abbrev dktX0_scale_0 : List UInt8 := dkwX0_scale_0 ++ dktX0_scale_1
theorem dksX0_scale_0 : cX0_scale.data.toList.drop 0 = dktX0_scale_0 := by decide +kernel
theorem dksX0_scale_1 : cX0_scale.data.toList.drop 23 = dktX0_scale_1 := dk_seg dksX0_scale_0 23 rfl rfl
theorem dX0_scale_0 : decode cX0_scale 0 = .ok (.aload 4, 2) := dk_25 4 (dk_at dksX0_scale_0 0 rfl rfl)
theorem dX0_scale_2 : decode cX0_scale 2 = .ok (.iconst 0, 1) := dk_3 (dk_at dksX0_scale_0 2 rfl rfl)
theorem dX0_scale_3 : decode cX0_scale 3 = .ok (.aload_n 0, 1) := dk_42 (dk_at dksX0_scale_0 3 rfl rfl)
theorem dX0_scale_4 : decode cX0_scale 4 = .ok (.iload_n 1, 1) := dk_27 (dk_at dksX0_scale_0 4 rfl rfl)
theorem dX0_scale_5 : decode cX0_scale 5 = .ok (.iload_n 2, 1) := dk_28 (dk_at dksX0_scale_0 5 rfl rfl)
theorem dX0_scale_6 : decode cX0_scale 6 = .ok (.iload_n 3, 1) := dk_29 (dk_at dksX0_scale_0 6 rfl rfl)
theorem dX0_scale_7 : decode cX0_scale 7 = .ok (.invokevirtual 86, 3) := dk_182 0 86 (dk_at dksX0_scale_0 7 rfl rfl)
theorem dX0_scale_10 : decode cX0_scale 10 = .ok (.i2l, 1) := dk_133 (dk_at dksX0_scale_0 10 rfl rfl)
theorem dX0_scale_11 : decode cX0_scale 11 = .ok (.lastore, 1) := dk_80 (dk_at dksX0_scale_0 11 rfl rfl)
theorem dX0_scale_12 : decode cX0_scale 12 = .ok (.goto 15, 3) := dk_167 0 15 (dk_at dksX0_scale_0 12 rfl rfl)
theorem dX0_scale_15 : decode cX0_scale 15 = .ok (.astore 5, 2) := dk_58 5 (dk_at dksX0_scale_0 15 rfl rfl)
theorem dX0_scale_17 : decode cX0_scale 17 = .ok (.iconst 1, 1) := dk_4 (dk_at dksX0_scale_0 17 rfl rfl)
theorem dX0_scale_18 : decode cX0_scale 18 = .ok (.ireturn, 1) := dk_172 (dk_at dksX0_scale_0 18 rfl rfl)
theorem dX0_scale_19 : decode cX0_scale 19 = .ok (.astore 5, 2) := dk_58 5 (dk_at dksX0_scale_0 19 rfl rfl)
theorem dX0_scale_21 : decode cX0_scale 21 = .ok (.iconst 2, 1) := dk_5 (dk_at dksX0_scale_0 21 rfl rfl)
theorem dX0_scale_22 : decode cX0_scale 22 = .ok (.ireturn, 1) := dk_172 (dk_at dksX0_scale_0 22 rfl rfl)
theorem dX0_scale_23 : decode cX0_scale 23 = .ok (.astore 5, 2) := dk_58 5 (dk_at dksX0_scale_1 0 rfl rfl)
theorem dX0_scale_25 : decode cX0_scale 25 = .ok (.iconst 3, 1) := dk_6 (dk_at dksX0_scale_1 2 rfl rfl)
theorem dX0_scale_26 : decode cX0_scale 26 = .ok (.ireturn, 1) := dk_172 (dk_at dksX0_scale_1 3 rfl rfl)
theorem dX0_scale_27 : decode cX0_scale 27 = .ok (.iconst 0, 1) := dk_3 (dk_at dksX0_scale_1 4 rfl rfl)
theorem dX0_scale_28 : decode cX0_scale 28 = .ok (.ireturn, 1) := dk_172 (dk_at dksX0_scale_1 5 rfl rfl)
abbrev cX0_element : ByteArray := method_24_code
def yX0_element : MethodName := ⟨RX0, "element", "(LCrumblingWall;II[J)I"⟩
def dkwX0_element_1 : List UInt8 := [172, 3, 172]
abbrev dktX0_element_1 : List UInt8 := dkwX0_element_1 ++ []
def dkwX0_element_0 : List UInt8 := [45, 3, 42, 27, 28, 182, 0, 89, 133, 80, 167, 0, 15, 58, 4, 4, 172, 58, 4, 5, 172, 58, 4, 6]
abbrev dktX0_element_0 : List UInt8 := dkwX0_element_0 ++ dktX0_element_1
theorem dksX0_element_0 : cX0_element.data.toList.drop 0 = dktX0_element_0 := by decide +kernel
theorem dksX0_element_1 : cX0_element.data.toList.drop 24 = dktX0_element_1 := dk_seg dksX0_element_0 24 rfl rfl
theorem dX0_element_0 : decode cX0_element 0 = .ok (.aload_n 3, 1) := dk_45 (dk_at dksX0_element_0 0 rfl rfl)
theorem dX0_element_1 : decode cX0_element 1 = .ok (.iconst 0, 1) := dk_3 (dk_at dksX0_element_0 1 rfl rfl)
theorem dX0_element_2 : decode cX0_element 2 = .ok (.aload_n 0, 1) := dk_42 (dk_at dksX0_element_0 2 rfl rfl)
theorem dX0_element_3 : decode cX0_element 3 = .ok (.iload_n 1, 1) := dk_27 (dk_at dksX0_element_0 3 rfl rfl)
theorem dX0_element_4 : decode cX0_element 4 = .ok (.iload_n 2, 1) := dk_28 (dk_at dksX0_element_0 4 rfl rfl)
theorem dX0_element_5 : decode cX0_element 5 = .ok (.invokevirtual 89, 3) := dk_182 0 89 (dk_at dksX0_element_0 5 rfl rfl)
theorem dX0_element_8 : decode cX0_element 8 = .ok (.i2l, 1) := dk_133 (dk_at dksX0_element_0 8 rfl rfl)
theorem dX0_element_9 : decode cX0_element 9 = .ok (.lastore, 1) := dk_80 (dk_at dksX0_element_0 9 rfl rfl)
theorem dX0_element_10 : decode cX0_element 10 = .ok (.goto 15, 3) := dk_167 0 15 (dk_at dksX0_element_0 10 rfl rfl)
theorem dX0_element_13 : decode cX0_element 13 = .ok (.astore 4, 2) := dk_58 4 (dk_at dksX0_element_0 13 rfl rfl)
theorem dX0_element_15 : decode cX0_element 15 = .ok (.iconst 1, 1) := dk_4 (dk_at dksX0_element_0 15 rfl rfl)
theorem dX0_element_16 : decode cX0_element 16 = .ok (.ireturn, 1) := dk_172 (dk_at dksX0_element_0 16 rfl rfl)
theorem dX0_element_17 : decode cX0_element 17 = .ok (.astore 4, 2) := dk_58 4 (dk_at dksX0_element_0 17 rfl rfl)
theorem dX0_element_19 : decode cX0_element 19 = .ok (.iconst 2, 1) := dk_5 (dk_at dksX0_element_0 19 rfl rfl)
theorem dX0_element_20 : decode cX0_element 20 = .ok (.ireturn, 1) := dk_172 (dk_at dksX0_element_0 20 rfl rfl)
theorem dX0_element_21 : decode cX0_element 21 = .ok (.astore 4, 2) := dk_58 4 (dk_at dksX0_element_0 21 rfl rfl)
theorem dX0_element_23 : decode cX0_element 23 = .ok (.iconst 3, 1) := dk_6 (dk_at dksX0_element_0 23 rfl rfl)
theorem dX0_element_24 : decode cX0_element 24 = .ok (.ireturn, 1) := dk_172 (dk_at dksX0_element_1 0 rfl rfl)
theorem dX0_element_25 : decode cX0_element 25 = .ok (.iconst 0, 1) := dk_3 (dk_at dksX0_element_1 1 rfl rfl)
theorem dX0_element_26 : decode cX0_element 26 = .ok (.ireturn, 1) := dk_172 (dk_at dksX0_element_1 2 rfl rfl)
abbrev cX0_rack : ByteArray := method_25_code
def yX0_rack : MethodName := ⟨RX0, "rack", "(LCrumblingWall;I[J)I"⟩
def dkwX0_rack_0 : List UInt8 := [44, 3, 42, 27, 182, 0, 92, 133, 80, 167, 0, 6, 78, 4, 172, 3, 172]
abbrev dktX0_rack_0 : List UInt8 := dkwX0_rack_0 ++ []
theorem dksX0_rack_0 : cX0_rack.data.toList.drop 0 = dktX0_rack_0 := by decide +kernel
theorem dX0_rack_0 : decode cX0_rack 0 = .ok (.aload_n 2, 1) := dk_44 (dk_at dksX0_rack_0 0 rfl rfl)
theorem dX0_rack_1 : decode cX0_rack 1 = .ok (.iconst 0, 1) := dk_3 (dk_at dksX0_rack_0 1 rfl rfl)
theorem dX0_rack_2 : decode cX0_rack 2 = .ok (.aload_n 0, 1) := dk_42 (dk_at dksX0_rack_0 2 rfl rfl)
theorem dX0_rack_3 : decode cX0_rack 3 = .ok (.iload_n 1, 1) := dk_27 (dk_at dksX0_rack_0 3 rfl rfl)
theorem dX0_rack_4 : decode cX0_rack 4 = .ok (.invokevirtual 92, 3) := dk_182 0 92 (dk_at dksX0_rack_0 4 rfl rfl)
theorem dX0_rack_7 : decode cX0_rack 7 = .ok (.i2l, 1) := dk_133 (dk_at dksX0_rack_0 7 rfl rfl)
theorem dX0_rack_8 : decode cX0_rack 8 = .ok (.lastore, 1) := dk_80 (dk_at dksX0_rack_0 8 rfl rfl)
theorem dX0_rack_9 : decode cX0_rack 9 = .ok (.goto 6, 3) := dk_167 0 6 (dk_at dksX0_rack_0 9 rfl rfl)
theorem dX0_rack_12 : decode cX0_rack 12 = .ok (.astore_n 3, 1) := dk_78 (dk_at dksX0_rack_0 12 rfl rfl)
theorem dX0_rack_13 : decode cX0_rack 13 = .ok (.iconst 1, 1) := dk_4 (dk_at dksX0_rack_0 13 rfl rfl)
theorem dX0_rack_14 : decode cX0_rack 14 = .ok (.ireturn, 1) := dk_172 (dk_at dksX0_rack_0 14 rfl rfl)
theorem dX0_rack_15 : decode cX0_rack 15 = .ok (.iconst 0, 1) := dk_3 (dk_at dksX0_rack_0 15 rfl rfl)
theorem dX0_rack_16 : decode cX0_rack 16 = .ok (.ireturn, 1) := dk_172 (dk_at dksX0_rack_0 16 rfl rfl)
abbrev cX0_note : ByteArray := method_26_code
def yX0_note : MethodName := ⟨RX0, "note", "(LCrumblingWall;II[J)I"⟩
def dkwX0_note_0 : List UInt8 := [45, 3, 42, 27, 28, 182, 0, 95, 133, 80, 167, 0, 11, 58, 4, 4, 172, 58, 4, 5, 172, 3, 172]
abbrev dktX0_note_0 : List UInt8 := dkwX0_note_0 ++ []
theorem dksX0_note_0 : cX0_note.data.toList.drop 0 = dktX0_note_0 := by decide +kernel
theorem dX0_note_0 : decode cX0_note 0 = .ok (.aload_n 3, 1) := dk_45 (dk_at dksX0_note_0 0 rfl rfl)
theorem dX0_note_1 : decode cX0_note 1 = .ok (.iconst 0, 1) := dk_3 (dk_at dksX0_note_0 1 rfl rfl)
theorem dX0_note_2 : decode cX0_note 2 = .ok (.aload_n 0, 1) := dk_42 (dk_at dksX0_note_0 2 rfl rfl)
theorem dX0_note_3 : decode cX0_note 3 = .ok (.iload_n 1, 1) := dk_27 (dk_at dksX0_note_0 3 rfl rfl)
theorem dX0_note_4 : decode cX0_note 4 = .ok (.iload_n 2, 1) := dk_28 (dk_at dksX0_note_0 4 rfl rfl)
theorem dX0_note_5 : decode cX0_note 5 = .ok (.invokevirtual 95, 3) := dk_182 0 95 (dk_at dksX0_note_0 5 rfl rfl)
theorem dX0_note_8 : decode cX0_note 8 = .ok (.i2l, 1) := dk_133 (dk_at dksX0_note_0 8 rfl rfl)
theorem dX0_note_9 : decode cX0_note 9 = .ok (.lastore, 1) := dk_80 (dk_at dksX0_note_0 9 rfl rfl)
theorem dX0_note_10 : decode cX0_note 10 = .ok (.goto 11, 3) := dk_167 0 11 (dk_at dksX0_note_0 10 rfl rfl)
theorem dX0_note_13 : decode cX0_note 13 = .ok (.astore 4, 2) := dk_58 4 (dk_at dksX0_note_0 13 rfl rfl)
theorem dX0_note_15 : decode cX0_note 15 = .ok (.iconst 1, 1) := dk_4 (dk_at dksX0_note_0 15 rfl rfl)
theorem dX0_note_16 : decode cX0_note 16 = .ok (.ireturn, 1) := dk_172 (dk_at dksX0_note_0 16 rfl rfl)
theorem dX0_note_17 : decode cX0_note 17 = .ok (.astore 4, 2) := dk_58 4 (dk_at dksX0_note_0 17 rfl rfl)
theorem dX0_note_19 : decode cX0_note 19 = .ok (.iconst 2, 1) := dk_5 (dk_at dksX0_note_0 19 rfl rfl)
theorem dX0_note_20 : decode cX0_note 20 = .ok (.ireturn, 1) := dk_172 (dk_at dksX0_note_0 20 rfl rfl)
theorem dX0_note_21 : decode cX0_note 21 = .ok (.iconst 0, 1) := dk_3 (dk_at dksX0_note_0 21 rfl rfl)
theorem dX0_note_22 : decode cX0_note 22 = .ok (.ireturn, 1) := dk_172 (dk_at dksX0_note_0 22 rfl rfl)
abbrev cX0_append : ByteArray := method_27_code
def yX0_append : MethodName := ⟨RX0, "append", "(LCrumblingWall;C[J)I"⟩
def dkwX0_append_0 : List UInt8 := [44, 3, 42, 27, 182, 0, 98, 133, 80, 167, 0, 6, 78, 4, 172, 3, 172]
abbrev dktX0_append_0 : List UInt8 := dkwX0_append_0 ++ []
theorem dksX0_append_0 : cX0_append.data.toList.drop 0 = dktX0_append_0 := by decide +kernel
theorem dX0_append_0 : decode cX0_append 0 = .ok (.aload_n 2, 1) := dk_44 (dk_at dksX0_append_0 0 rfl rfl)
theorem dX0_append_1 : decode cX0_append 1 = .ok (.iconst 0, 1) := dk_3 (dk_at dksX0_append_0 1 rfl rfl)
theorem dX0_append_2 : decode cX0_append 2 = .ok (.aload_n 0, 1) := dk_42 (dk_at dksX0_append_0 2 rfl rfl)
theorem dX0_append_3 : decode cX0_append 3 = .ok (.iload_n 1, 1) := dk_27 (dk_at dksX0_append_0 3 rfl rfl)
theorem dX0_append_4 : decode cX0_append 4 = .ok (.invokevirtual 98, 3) := dk_182 0 98 (dk_at dksX0_append_0 4 rfl rfl)
theorem dX0_append_7 : decode cX0_append 7 = .ok (.i2l, 1) := dk_133 (dk_at dksX0_append_0 7 rfl rfl)
theorem dX0_append_8 : decode cX0_append 8 = .ok (.lastore, 1) := dk_80 (dk_at dksX0_append_0 8 rfl rfl)
theorem dX0_append_9 : decode cX0_append 9 = .ok (.goto 6, 3) := dk_167 0 6 (dk_at dksX0_append_0 9 rfl rfl)
theorem dX0_append_12 : decode cX0_append 12 = .ok (.astore_n 3, 1) := dk_78 (dk_at dksX0_append_0 12 rfl rfl)
theorem dX0_append_13 : decode cX0_append 13 = .ok (.iconst 1, 1) := dk_4 (dk_at dksX0_append_0 13 rfl rfl)
theorem dX0_append_14 : decode cX0_append 14 = .ok (.ireturn, 1) := dk_172 (dk_at dksX0_append_0 14 rfl rfl)
theorem dX0_append_15 : decode cX0_append 15 = .ok (.iconst 0, 1) := dk_3 (dk_at dksX0_append_0 15 rfl rfl)
theorem dX0_append_16 : decode cX0_append 16 = .ok (.ireturn, 1) := dk_172 (dk_at dksX0_append_0 16 rfl rfl)
abbrev cX0_tries : ByteArray := method_28_code
def yX0_tries : MethodName := ⟨RX0, "tries", "(LCrumblingWall;[J)I"⟩
def dkwX0_tries_0 : List UInt8 := [43, 3, 42, 182, 0, 102, 133, 80, 167, 0, 6, 77, 4, 172, 3, 172]
abbrev dktX0_tries_0 : List UInt8 := dkwX0_tries_0 ++ []
theorem dksX0_tries_0 : cX0_tries.data.toList.drop 0 = dktX0_tries_0 := by decide +kernel
theorem dX0_tries_0 : decode cX0_tries 0 = .ok (.aload_n 1, 1) := dk_43 (dk_at dksX0_tries_0 0 rfl rfl)
theorem dX0_tries_1 : decode cX0_tries 1 = .ok (.iconst 0, 1) := dk_3 (dk_at dksX0_tries_0 1 rfl rfl)
theorem dX0_tries_2 : decode cX0_tries 2 = .ok (.aload_n 0, 1) := dk_42 (dk_at dksX0_tries_0 2 rfl rfl)
theorem dX0_tries_3 : decode cX0_tries 3 = .ok (.invokevirtual 102, 3) := dk_182 0 102 (dk_at dksX0_tries_0 3 rfl rfl)
theorem dX0_tries_6 : decode cX0_tries 6 = .ok (.i2l, 1) := dk_133 (dk_at dksX0_tries_0 6 rfl rfl)
theorem dX0_tries_7 : decode cX0_tries 7 = .ok (.lastore, 1) := dk_80 (dk_at dksX0_tries_0 7 rfl rfl)
theorem dX0_tries_8 : decode cX0_tries 8 = .ok (.goto 6, 3) := dk_167 0 6 (dk_at dksX0_tries_0 8 rfl rfl)
theorem dX0_tries_11 : decode cX0_tries 11 = .ok (.astore_n 2, 1) := dk_77 (dk_at dksX0_tries_0 11 rfl rfl)
theorem dX0_tries_12 : decode cX0_tries 12 = .ok (.iconst 1, 1) := dk_4 (dk_at dksX0_tries_0 12 rfl rfl)
theorem dX0_tries_13 : decode cX0_tries 13 = .ok (.ireturn, 1) := dk_172 (dk_at dksX0_tries_0 13 rfl rfl)
theorem dX0_tries_14 : decode cX0_tries 14 = .ok (.iconst 0, 1) := dk_3 (dk_at dksX0_tries_0 14 rfl rfl)
theorem dX0_tries_15 : decode cX0_tries 15 = .ok (.ireturn, 1) := dk_172 (dk_at dksX0_tries_0 15 rfl rfl)
abbrev cX0_run : ByteArray := method_29_code
def yX0_run : MethodName := ⟨RX0, "run", "(LCrumblingWall;[J)I"⟩
def dkwX0_run_0 : List UInt8 := [43, 3, 42, 182, 0, 105, 133, 80, 167, 0, 12, 77, 4, 172, 77, 5, 172, 77, 6, 172, 3, 172]
abbrev dktX0_run_0 : List UInt8 := dkwX0_run_0 ++ []
theorem dksX0_run_0 : cX0_run.data.toList.drop 0 = dktX0_run_0 := by decide +kernel
theorem dX0_run_0 : decode cX0_run 0 = .ok (.aload_n 1, 1) := dk_43 (dk_at dksX0_run_0 0 rfl rfl)
theorem dX0_run_1 : decode cX0_run 1 = .ok (.iconst 0, 1) := dk_3 (dk_at dksX0_run_0 1 rfl rfl)
theorem dX0_run_2 : decode cX0_run 2 = .ok (.aload_n 0, 1) := dk_42 (dk_at dksX0_run_0 2 rfl rfl)
theorem dX0_run_3 : decode cX0_run 3 = .ok (.invokevirtual 105, 3) := dk_182 0 105 (dk_at dksX0_run_0 3 rfl rfl)
theorem dX0_run_6 : decode cX0_run 6 = .ok (.i2l, 1) := dk_133 (dk_at dksX0_run_0 6 rfl rfl)
theorem dX0_run_7 : decode cX0_run 7 = .ok (.lastore, 1) := dk_80 (dk_at dksX0_run_0 7 rfl rfl)
theorem dX0_run_8 : decode cX0_run 8 = .ok (.goto 12, 3) := dk_167 0 12 (dk_at dksX0_run_0 8 rfl rfl)
theorem dX0_run_11 : decode cX0_run 11 = .ok (.astore_n 2, 1) := dk_77 (dk_at dksX0_run_0 11 rfl rfl)
theorem dX0_run_12 : decode cX0_run 12 = .ok (.iconst 1, 1) := dk_4 (dk_at dksX0_run_0 12 rfl rfl)
theorem dX0_run_13 : decode cX0_run 13 = .ok (.ireturn, 1) := dk_172 (dk_at dksX0_run_0 13 rfl rfl)
theorem dX0_run_14 : decode cX0_run 14 = .ok (.astore_n 2, 1) := dk_77 (dk_at dksX0_run_0 14 rfl rfl)
theorem dX0_run_15 : decode cX0_run 15 = .ok (.iconst 2, 1) := dk_5 (dk_at dksX0_run_0 15 rfl rfl)
theorem dX0_run_16 : decode cX0_run 16 = .ok (.ireturn, 1) := dk_172 (dk_at dksX0_run_0 16 rfl rfl)
theorem dX0_run_17 : decode cX0_run 17 = .ok (.astore_n 2, 1) := dk_77 (dk_at dksX0_run_0 17 rfl rfl)
theorem dX0_run_18 : decode cX0_run 18 = .ok (.iconst 3, 1) := dk_6 (dk_at dksX0_run_0 18 rfl rfl)
theorem dX0_run_19 : decode cX0_run 19 = .ok (.ireturn, 1) := dk_172 (dk_at dksX0_run_0 19 rfl rfl)
theorem dX0_run_20 : decode cX0_run 20 = .ok (.iconst 0, 1) := dk_3 (dk_at dksX0_run_0 20 rfl rfl)
theorem dX0_run_21 : decode cX0_run 21 = .ok (.ireturn, 1) := dk_172 (dk_at dksX0_run_0 21 rfl rfl)
abbrev cX0_errorPosition : ByteArray := method_30_code
def yX0_errorPosition : MethodName := ⟨RX0, "errorPosition", "(LCrumblingWall;[J)I"⟩
def dkwX0_errorPosition_0 : List UInt8 := [43, 3, 42, 182, 0, 108, 133, 80, 167, 0, 6, 77, 4, 172, 3, 172]
abbrev dktX0_errorPosition_0 : List UInt8 := dkwX0_errorPosition_0 ++ []
theorem dksX0_errorPosition_0 : cX0_errorPosition.data.toList.drop 0 = dktX0_errorPosition_0 := by decide +kernel
theorem dX0_errorPosition_0 : decode cX0_errorPosition 0 = .ok (.aload_n 1, 1) := dk_43 (dk_at dksX0_errorPosition_0 0 rfl rfl)
theorem dX0_errorPosition_1 : decode cX0_errorPosition 1 = .ok (.iconst 0, 1) := dk_3 (dk_at dksX0_errorPosition_0 1 rfl rfl)
theorem dX0_errorPosition_2 : decode cX0_errorPosition 2 = .ok (.aload_n 0, 1) := dk_42 (dk_at dksX0_errorPosition_0 2 rfl rfl)
theorem dX0_errorPosition_3 : decode cX0_errorPosition 3 = .ok (.invokevirtual 108, 3) := dk_182 0 108 (dk_at dksX0_errorPosition_0 3 rfl rfl)
theorem dX0_errorPosition_6 : decode cX0_errorPosition 6 = .ok (.i2l, 1) := dk_133 (dk_at dksX0_errorPosition_0 6 rfl rfl)
theorem dX0_errorPosition_7 : decode cX0_errorPosition 7 = .ok (.lastore, 1) := dk_80 (dk_at dksX0_errorPosition_0 7 rfl rfl)
theorem dX0_errorPosition_8 : decode cX0_errorPosition 8 = .ok (.goto 6, 3) := dk_167 0 6 (dk_at dksX0_errorPosition_0 8 rfl rfl)
theorem dX0_errorPosition_11 : decode cX0_errorPosition 11 = .ok (.astore_n 2, 1) := dk_77 (dk_at dksX0_errorPosition_0 11 rfl rfl)
theorem dX0_errorPosition_12 : decode cX0_errorPosition 12 = .ok (.iconst 1, 1) := dk_4 (dk_at dksX0_errorPosition_0 12 rfl rfl)
theorem dX0_errorPosition_13 : decode cX0_errorPosition 13 = .ok (.ireturn, 1) := dk_172 (dk_at dksX0_errorPosition_0 13 rfl rfl)
theorem dX0_errorPosition_14 : decode cX0_errorPosition 14 = .ok (.iconst 0, 1) := dk_3 (dk_at dksX0_errorPosition_0 14 rfl rfl)
theorem dX0_errorPosition_15 : decode cX0_errorPosition 15 = .ok (.ireturn, 1) := dk_172 (dk_at dksX0_errorPosition_0 15 rfl rfl)
abbrev cX0_reason : ByteArray := method_31_code
def yX0_reason : MethodName := ⟨RX0, "reason", "(LCrumblingWall;Z[J)I"⟩
def dkwX0_reason_0 : List UInt8 := [44, 3, 42, 27, 182, 0, 111, 133, 80, 167, 0, 6, 78, 4, 172, 3, 172]
abbrev dktX0_reason_0 : List UInt8 := dkwX0_reason_0 ++ []
theorem dksX0_reason_0 : cX0_reason.data.toList.drop 0 = dktX0_reason_0 := by decide +kernel
theorem dX0_reason_0 : decode cX0_reason 0 = .ok (.aload_n 2, 1) := dk_44 (dk_at dksX0_reason_0 0 rfl rfl)
theorem dX0_reason_1 : decode cX0_reason 1 = .ok (.iconst 0, 1) := dk_3 (dk_at dksX0_reason_0 1 rfl rfl)
theorem dX0_reason_2 : decode cX0_reason 2 = .ok (.aload_n 0, 1) := dk_42 (dk_at dksX0_reason_0 2 rfl rfl)
theorem dX0_reason_3 : decode cX0_reason 3 = .ok (.iload_n 1, 1) := dk_27 (dk_at dksX0_reason_0 3 rfl rfl)
theorem dX0_reason_4 : decode cX0_reason 4 = .ok (.invokevirtual 111, 3) := dk_182 0 111 (dk_at dksX0_reason_0 4 rfl rfl)
theorem dX0_reason_7 : decode cX0_reason 7 = .ok (.i2l, 1) := dk_133 (dk_at dksX0_reason_0 7 rfl rfl)
theorem dX0_reason_8 : decode cX0_reason 8 = .ok (.lastore, 1) := dk_80 (dk_at dksX0_reason_0 8 rfl rfl)
theorem dX0_reason_9 : decode cX0_reason 9 = .ok (.goto 6, 3) := dk_167 0 6 (dk_at dksX0_reason_0 9 rfl rfl)
theorem dX0_reason_12 : decode cX0_reason 12 = .ok (.astore_n 3, 1) := dk_78 (dk_at dksX0_reason_0 12 rfl rfl)
theorem dX0_reason_13 : decode cX0_reason 13 = .ok (.iconst 1, 1) := dk_4 (dk_at dksX0_reason_0 13 rfl rfl)
theorem dX0_reason_14 : decode cX0_reason 14 = .ok (.ireturn, 1) := dk_172 (dk_at dksX0_reason_0 14 rfl rfl)
theorem dX0_reason_15 : decode cX0_reason 15 = .ok (.iconst 0, 1) := dk_3 (dk_at dksX0_reason_0 15 rfl rfl)
theorem dX0_reason_16 : decode cX0_reason 16 = .ok (.ireturn, 1) := dk_172 (dk_at dksX0_reason_0 16 rfl rfl)
abbrev cX0_account : ByteArray := method_32_code
def yX0_account : MethodName := ⟨RX0, "account", "(LCrumblingWall;I[J)I"⟩
def dkwX0_account_0 : List UInt8 := [44, 3, 42, 27, 182, 0, 115, 133, 80, 167, 0, 6, 78, 4, 172, 3, 172]
abbrev dktX0_account_0 : List UInt8 := dkwX0_account_0 ++ []
theorem dksX0_account_0 : cX0_account.data.toList.drop 0 = dktX0_account_0 := by decide +kernel
theorem dX0_account_0 : decode cX0_account 0 = .ok (.aload_n 2, 1) := dk_44 (dk_at dksX0_account_0 0 rfl rfl)
theorem dX0_account_1 : decode cX0_account 1 = .ok (.iconst 0, 1) := dk_3 (dk_at dksX0_account_0 1 rfl rfl)
theorem dX0_account_2 : decode cX0_account 2 = .ok (.aload_n 0, 1) := dk_42 (dk_at dksX0_account_0 2 rfl rfl)
theorem dX0_account_3 : decode cX0_account 3 = .ok (.iload_n 1, 1) := dk_27 (dk_at dksX0_account_0 3 rfl rfl)
theorem dX0_account_4 : decode cX0_account 4 = .ok (.invokevirtual 115, 3) := dk_182 0 115 (dk_at dksX0_account_0 4 rfl rfl)
theorem dX0_account_7 : decode cX0_account 7 = .ok (.i2l, 1) := dk_133 (dk_at dksX0_account_0 7 rfl rfl)
theorem dX0_account_8 : decode cX0_account 8 = .ok (.lastore, 1) := dk_80 (dk_at dksX0_account_0 8 rfl rfl)
theorem dX0_account_9 : decode cX0_account 9 = .ok (.goto 6, 3) := dk_167 0 6 (dk_at dksX0_account_0 9 rfl rfl)
theorem dX0_account_12 : decode cX0_account 12 = .ok (.astore_n 3, 1) := dk_78 (dk_at dksX0_account_0 12 rfl rfl)
theorem dX0_account_13 : decode cX0_account 13 = .ok (.iconst 1, 1) := dk_4 (dk_at dksX0_account_0 13 rfl rfl)
theorem dX0_account_14 : decode cX0_account 14 = .ok (.ireturn, 1) := dk_172 (dk_at dksX0_account_0 14 rfl rfl)
theorem dX0_account_15 : decode cX0_account 15 = .ok (.iconst 0, 1) := dk_3 (dk_at dksX0_account_0 15 rfl rfl)
theorem dX0_account_16 : decode cX0_account 16 = .ok (.ireturn, 1) := dk_172 (dk_at dksX0_account_0 16 rfl rfl)
abbrev cX0_undo : ByteArray := method_33_code
def yX0_undo : MethodName := ⟨RX0, "undo", "(LCrumblingWall;[J)I"⟩
def dkwX0_undo_0 : List UInt8 := [43, 3, 42, 182, 0, 118, 133, 80, 167, 0, 6, 77, 4, 172, 3, 172]
abbrev dktX0_undo_0 : List UInt8 := dkwX0_undo_0 ++ []
theorem dksX0_undo_0 : cX0_undo.data.toList.drop 0 = dktX0_undo_0 := by decide +kernel
theorem dX0_undo_0 : decode cX0_undo 0 = .ok (.aload_n 1, 1) := dk_43 (dk_at dksX0_undo_0 0 rfl rfl)
theorem dX0_undo_1 : decode cX0_undo 1 = .ok (.iconst 0, 1) := dk_3 (dk_at dksX0_undo_0 1 rfl rfl)
theorem dX0_undo_2 : decode cX0_undo 2 = .ok (.aload_n 0, 1) := dk_42 (dk_at dksX0_undo_0 2 rfl rfl)
theorem dX0_undo_3 : decode cX0_undo 3 = .ok (.invokevirtual 118, 3) := dk_182 0 118 (dk_at dksX0_undo_0 3 rfl rfl)
theorem dX0_undo_6 : decode cX0_undo 6 = .ok (.i2l, 1) := dk_133 (dk_at dksX0_undo_0 6 rfl rfl)
theorem dX0_undo_7 : decode cX0_undo 7 = .ok (.lastore, 1) := dk_80 (dk_at dksX0_undo_0 7 rfl rfl)
theorem dX0_undo_8 : decode cX0_undo 8 = .ok (.goto 6, 3) := dk_167 0 6 (dk_at dksX0_undo_0 8 rfl rfl)
theorem dX0_undo_11 : decode cX0_undo 11 = .ok (.astore_n 2, 1) := dk_77 (dk_at dksX0_undo_0 11 rfl rfl)
theorem dX0_undo_12 : decode cX0_undo 12 = .ok (.iconst 1, 1) := dk_4 (dk_at dksX0_undo_0 12 rfl rfl)
theorem dX0_undo_13 : decode cX0_undo 13 = .ok (.ireturn, 1) := dk_172 (dk_at dksX0_undo_0 13 rfl rfl)
theorem dX0_undo_14 : decode cX0_undo 14 = .ok (.iconst 0, 1) := dk_3 (dk_at dksX0_undo_0 14 rfl rfl)
theorem dX0_undo_15 : decode cX0_undo 15 = .ok (.ireturn, 1) := dk_172 (dk_at dksX0_undo_0 15 rfl rfl)
abbrev cX0_restore : ByteArray := method_34_code
def yX0_restore : MethodName := ⟨RX0, "restore", "(LCrumblingWall;[J)I"⟩
def dkwX0_restore_0 : List UInt8 := [43, 3, 42, 182, 0, 121, 133, 80, 167, 0, 6, 77, 4, 172, 3, 172]
abbrev dktX0_restore_0 : List UInt8 := dkwX0_restore_0 ++ []
theorem dksX0_restore_0 : cX0_restore.data.toList.drop 0 = dktX0_restore_0 := by decide +kernel
theorem dX0_restore_0 : decode cX0_restore 0 = .ok (.aload_n 1, 1) := dk_43 (dk_at dksX0_restore_0 0 rfl rfl)
theorem dX0_restore_1 : decode cX0_restore 1 = .ok (.iconst 0, 1) := dk_3 (dk_at dksX0_restore_0 1 rfl rfl)
theorem dX0_restore_2 : decode cX0_restore 2 = .ok (.aload_n 0, 1) := dk_42 (dk_at dksX0_restore_0 2 rfl rfl)
theorem dX0_restore_3 : decode cX0_restore 3 = .ok (.invokevirtual 121, 3) := dk_182 0 121 (dk_at dksX0_restore_0 3 rfl rfl)
theorem dX0_restore_6 : decode cX0_restore 6 = .ok (.i2l, 1) := dk_133 (dk_at dksX0_restore_0 6 rfl rfl)
theorem dX0_restore_7 : decode cX0_restore 7 = .ok (.lastore, 1) := dk_80 (dk_at dksX0_restore_0 7 rfl rfl)
theorem dX0_restore_8 : decode cX0_restore 8 = .ok (.goto 6, 3) := dk_167 0 6 (dk_at dksX0_restore_0 8 rfl rfl)
theorem dX0_restore_11 : decode cX0_restore 11 = .ok (.astore_n 2, 1) := dk_77 (dk_at dksX0_restore_0 11 rfl rfl)
theorem dX0_restore_12 : decode cX0_restore 12 = .ok (.iconst 1, 1) := dk_4 (dk_at dksX0_restore_0 12 rfl rfl)
theorem dX0_restore_13 : decode cX0_restore 13 = .ok (.ireturn, 1) := dk_172 (dk_at dksX0_restore_0 13 rfl rfl)
theorem dX0_restore_14 : decode cX0_restore 14 = .ok (.iconst 0, 1) := dk_3 (dk_at dksX0_restore_0 14 rfl rfl)
theorem dX0_restore_15 : decode cX0_restore 15 = .ok (.ireturn, 1) := dk_172 (dk_at dksX0_restore_0 15 rfl rfl)
theorem q119 : (Jvm.Cond.initialized "CrumblingWallLaw") ∈ lw_all := lw_g (lw_at lw_m1 0 rfl) rfl
theorem q191 : (Jvm.Cond.classLink "CrumblingWallLaw" (8 : Nat) "CrumblingWall") ∈ lw_all := lw_g (lw_at lw_m1 72 rfl) rfl
theorem q193 : (Jvm.Cond.methodLink "CrumblingWallLaw" (124 : Nat) ({ cls := "CrumblingWall", name := "<init>", desc := "()V" } : Jvm.MethodName)) ∈ lw_all := lw_g (lw_at lw_m1 74 rfl) rfl
theorem q762 : (Jvm.Cond.methodLink "CrumblingWallLaw" (181 : Nat) ({ cls := "CrumblingWall", name := "anchors", desc := "()I" } : Jvm.MethodName)) ∈ lw_all := lw_g (lw_at lw_m3 163 rfl) rfl
theorem q770 : (Jvm.Cond.methodLink "CrumblingWallLaw" (188 : Nat) ({ cls := "CrumblingWall", name := "rope", desc := "()I" } : Jvm.MethodName)) ∈ lw_all := lw_g (lw_at lw_m3 171 rfl) rfl
theorem q1294 : (Jvm.Cond.methodLink "CrumblingWallLaw" (192 : Nat) ({ cls := "CrumblingWall", name := "ropeAgain", desc := "()I" } : Jvm.MethodName)) ∈ lw_all := lw_g (lw_at lw_m5 215 rfl) rfl
theorem q1344 : (Jvm.Cond.methodLink "CrumblingWallLaw" (224 : Nat) ({ cls := "CrumblingWall", name := "left", desc := "()I" } : Jvm.MethodName)) ∈ lw_all := lw_g (lw_at lw_m6 25 rfl) rfl
theorem q1374 : (Jvm.Cond.methodLink "CrumblingWallLaw" (251 : Nat) ({ cls := "CrumblingWall", name := "save", desc := "()I" } : Jvm.MethodName)) ∈ lw_all := lw_g (lw_at lw_m6 55 rfl) rfl
theorem q1627 : (Jvm.Cond.methodLink "CrumblingWallLaw" (128 : Nat) ({ cls := "CrumblingWallLaw", name := "hold", desc := "(LCrumblingWall;IIII[J)I" } : Jvm.MethodName)) ∈ lw_all := lw_g (lw_at lw_m7 68 rfl) rfl
theorem q1628 : (Jvm.Cond.static ({ cls := "CrumblingWallLaw", name := "hold", desc := "(LCrumblingWall;IIII[J)I" } : Jvm.MethodName)) ∈ lw_all := lw_g (lw_at lw_m7 69 rfl) rfl
theorem q1629 : (Jvm.Cond.codeWith ({ cls := "CrumblingWallLaw", name := "hold", desc := "(LCrumblingWall;IIII[J)I" } : Jvm.MethodName) method_3_code (7 : Nat) (Option.some Jvm.ClassFile.FieldType.int) [((0 : Nat), (14 : Nat), (17 : Nat), (13 : Nat)), ((0 : Nat), (14 : Nat), (21 : Nat), (15 : Nat)), ((0 : Nat), (14 : Nat), (25 : Nat), (17 : Nat))]) ∈ lw_all := lw_g (lw_at lw_m7 70 rfl) rfl
theorem q1630 : (Jvm.Cond.classLink "CrumblingWallLaw" (13 : Nat) "java/lang/IllegalArgumentException") ∈ lw_all := lw_g (lw_at lw_m7 71 rfl) rfl
theorem q1631 : (Jvm.Cond.classLink "CrumblingWallLaw" (15 : Nat) "java/lang/IllegalStateException") ∈ lw_all := lw_g (lw_at lw_m7 72 rfl) rfl
theorem q1632 : (Jvm.Cond.classLink "CrumblingWallLaw" (17 : Nat) "java/lang/UnsupportedOperationException") ∈ lw_all := lw_g (lw_at lw_m7 73 rfl) rfl
theorem q1633 : (Jvm.Cond.methodLink "CrumblingWallLaw" (7 : Nat) ({ cls := "CrumblingWall", name := "hold", desc := "(IIII)I" } : Jvm.MethodName)) ∈ lw_all := lw_g (lw_at lw_m7 74 rfl) rfl
theorem q1778 : (Jvm.Cond.methodLink "CrumblingWallLaw" (137 : Nat) ({ cls := "CrumblingWallLaw", name := "set", desc := "(LCrumblingWall;II[J)I" } : Jvm.MethodName)) ∈ lw_all := lw_g (lw_at lw_m7 219 rfl) rfl
theorem q1779 : (Jvm.Cond.static ({ cls := "CrumblingWallLaw", name := "set", desc := "(LCrumblingWall;II[J)I" } : Jvm.MethodName)) ∈ lw_all := lw_g (lw_at lw_m7 220 rfl) rfl
theorem q1780 : (Jvm.Cond.codeWith ({ cls := "CrumblingWallLaw", name := "set", desc := "(LCrumblingWall;II[J)I" } : Jvm.MethodName) method_4_code (5 : Nat) (Option.some Jvm.ClassFile.FieldType.int) [((0 : Nat), (10 : Nat), (13 : Nat), (13 : Nat)), ((0 : Nat), (10 : Nat), (17 : Nat), (17 : Nat))]) ∈ lw_all := lw_g (lw_at lw_m7 221 rfl) rfl
theorem q1781 : (Jvm.Cond.methodLink "CrumblingWallLaw" (19 : Nat) ({ cls := "CrumblingWall", name := "set", desc := "(II)I" } : Jvm.MethodName)) ∈ lw_all := lw_g (lw_at lw_m7 222 rfl) rfl
theorem q1792 : (Jvm.Cond.methodLink "CrumblingWallLaw" (141 : Nat) ({ cls := "CrumblingWallLaw", name := "holdOf", desc := "(LCrumblingWall;II[J)I" } : Jvm.MethodName)) ∈ lw_all := lw_g (lw_at lw_m7 233 rfl) rfl
theorem q1793 : (Jvm.Cond.static ({ cls := "CrumblingWallLaw", name := "holdOf", desc := "(LCrumblingWall;II[J)I" } : Jvm.MethodName)) ∈ lw_all := lw_g (lw_at lw_m7 234 rfl) rfl
theorem q1794 : (Jvm.Cond.codeWith ({ cls := "CrumblingWallLaw", name := "holdOf", desc := "(LCrumblingWall;II[J)I" } : Jvm.MethodName) method_5_code (5 : Nat) (Option.some Jvm.ClassFile.FieldType.int) [((0 : Nat), (10 : Nat), (13 : Nat), (26 : Nat)), ((0 : Nat), (10 : Nat), (17 : Nat), (13 : Nat))]) ∈ lw_all := lw_g (lw_at lw_m7 235 rfl) rfl
theorem q1795 : (Jvm.Cond.classLink "CrumblingWallLaw" (26 : Nat) "java/lang/IndexOutOfBoundsException") ∈ lw_all := lw_g (lw_at lw_m7 236 rfl) rfl
theorem q1811 : (Jvm.Cond.methodLink "CrumblingWallLaw" (23 : Nat) ({ cls := "CrumblingWall", name := "holdOf", desc := "(II)I" } : Jvm.MethodName)) ∈ lw_all := lw_g (lw_at lw_m8 12 rfl) rfl
theorem q1875 : (Jvm.Cond.methodLink "CrumblingWallLaw" (144 : Nat) ({ cls := "CrumblingWallLaw", name := "lamp", desc := "(LCrumblingWall;III[J)I" } : Jvm.MethodName)) ∈ lw_all := lw_g (lw_at lw_m8 76 rfl) rfl
theorem q1876 : (Jvm.Cond.static ({ cls := "CrumblingWallLaw", name := "lamp", desc := "(LCrumblingWall;III[J)I" } : Jvm.MethodName)) ∈ lw_all := lw_g (lw_at lw_m8 77 rfl) rfl
theorem q1877 : (Jvm.Cond.codeWith ({ cls := "CrumblingWallLaw", name := "lamp", desc := "(LCrumblingWall;III[J)I" } : Jvm.MethodName) method_6_code (6 : Nat) (Option.some Jvm.ClassFile.FieldType.int) [((0 : Nat), (12 : Nat), (15 : Nat), (26 : Nat)), ((0 : Nat), (12 : Nat), (19 : Nat), (13 : Nat)), ((0 : Nat), (12 : Nat), (23 : Nat), (15 : Nat)), ((0 : Nat), (12 : Nat), (27 : Nat), (17 : Nat))]) ∈ lw_all := lw_g (lw_at lw_m8 78 rfl) rfl
theorem q1878 : (Jvm.Cond.methodLink "CrumblingWallLaw" (28 : Nat) ({ cls := "CrumblingWall", name := "lamp", desc := "(III)I" } : Jvm.MethodName)) ∈ lw_all := lw_g (lw_at lw_m8 79 rfl) rfl
theorem q1889 : (Jvm.Cond.methodLink "CrumblingWallLaw" (148 : Nat) ({ cls := "CrumblingWallLaw", name := "lampOf", desc := "(LCrumblingWall;II[J)I" } : Jvm.MethodName)) ∈ lw_all := lw_g (lw_at lw_m8 90 rfl) rfl
theorem q1890 : (Jvm.Cond.static ({ cls := "CrumblingWallLaw", name := "lampOf", desc := "(LCrumblingWall;II[J)I" } : Jvm.MethodName)) ∈ lw_all := lw_g (lw_at lw_m8 91 rfl) rfl
theorem q1891 : (Jvm.Cond.codeWith ({ cls := "CrumblingWallLaw", name := "lampOf", desc := "(LCrumblingWall;II[J)I" } : Jvm.MethodName) method_7_code (5 : Nat) (Option.some Jvm.ClassFile.FieldType.int) [((0 : Nat), (10 : Nat), (13 : Nat), (26 : Nat)), ((0 : Nat), (10 : Nat), (17 : Nat), (13 : Nat))]) ∈ lw_all := lw_g (lw_at lw_m8 92 rfl) rfl
theorem q1892 : (Jvm.Cond.methodLink "CrumblingWallLaw" (32 : Nat) ({ cls := "CrumblingWall", name := "lampOf", desc := "(II)I" } : Jvm.MethodName)) ∈ lw_all := lw_g (lw_at lw_m8 93 rfl) rfl
theorem q1901 : (Jvm.Cond.methodLink "CrumblingWallLaw" (151 : Nat) ({ cls := "CrumblingWallLaw", name := "climberOf", desc := "(LCrumblingWall;II[J)I" } : Jvm.MethodName)) ∈ lw_all := lw_g (lw_at lw_m8 102 rfl) rfl
theorem q1902 : (Jvm.Cond.static ({ cls := "CrumblingWallLaw", name := "climberOf", desc := "(LCrumblingWall;II[J)I" } : Jvm.MethodName)) ∈ lw_all := lw_g (lw_at lw_m8 103 rfl) rfl
theorem q1903 : (Jvm.Cond.codeWith ({ cls := "CrumblingWallLaw", name := "climberOf", desc := "(LCrumblingWall;II[J)I" } : Jvm.MethodName) method_8_code (5 : Nat) (Option.some Jvm.ClassFile.FieldType.int) [((0 : Nat), (10 : Nat), (13 : Nat), (26 : Nat)), ((0 : Nat), (10 : Nat), (17 : Nat), (13 : Nat))]) ∈ lw_all := lw_g (lw_at lw_m8 104 rfl) rfl
theorem q1904 : (Jvm.Cond.methodLink "CrumblingWallLaw" (35 : Nat) ({ cls := "CrumblingWall", name := "climberOf", desc := "(II)I" } : Jvm.MethodName)) ∈ lw_all := lw_g (lw_at lw_m8 105 rfl) rfl
theorem q1921 : (Jvm.Cond.methodLink "CrumblingWallLaw" (154 : Nat) ({ cls := "CrumblingWallLaw", name := "move", desc := "(LCrumblingWall;II[J)I" } : Jvm.MethodName)) ∈ lw_all := lw_g (lw_at lw_m8 122 rfl) rfl
theorem q1922 : (Jvm.Cond.static ({ cls := "CrumblingWallLaw", name := "move", desc := "(LCrumblingWall;II[J)I" } : Jvm.MethodName)) ∈ lw_all := lw_g (lw_at lw_m8 123 rfl) rfl
theorem q1923 : (Jvm.Cond.codeWith ({ cls := "CrumblingWallLaw", name := "move", desc := "(LCrumblingWall;II[J)I" } : Jvm.MethodName) method_9_code (5 : Nat) (Option.some Jvm.ClassFile.FieldType.int) [((0 : Nat), (10 : Nat), (13 : Nat), (26 : Nat)), ((0 : Nat), (10 : Nat), (17 : Nat), (17 : Nat))]) ∈ lw_all := lw_g (lw_at lw_m8 124 rfl) rfl
theorem q1924 : (Jvm.Cond.methodLink "CrumblingWallLaw" (38 : Nat) ({ cls := "CrumblingWall", name := "move", desc := "(II)I" } : Jvm.MethodName)) ∈ lw_all := lw_g (lw_at lw_m8 125 rfl) rfl
theorem q2149 : (Jvm.Cond.methodLink "CrumblingWallLaw" (157 : Nat) ({ cls := "CrumblingWallLaw", name := "rest", desc := "(LCrumblingWall;I[J)I" } : Jvm.MethodName)) ∈ lw_all := lw_g (lw_at lw_m9 110 rfl) rfl
theorem q2150 : (Jvm.Cond.static ({ cls := "CrumblingWallLaw", name := "rest", desc := "(LCrumblingWall;I[J)I" } : Jvm.MethodName)) ∈ lw_all := lw_g (lw_at lw_m9 111 rfl) rfl
theorem q2151 : (Jvm.Cond.codeWith ({ cls := "CrumblingWallLaw", name := "rest", desc := "(LCrumblingWall;I[J)I" } : Jvm.MethodName) method_10_code (4 : Nat) (Option.some Jvm.ClassFile.FieldType.int) [((0 : Nat), (9 : Nat), (12 : Nat), (26 : Nat)), ((0 : Nat), (9 : Nat), (15 : Nat), (17 : Nat))]) ∈ lw_all := lw_g (lw_at lw_m9 112 rfl) rfl
theorem q2152 : (Jvm.Cond.methodLink "CrumblingWallLaw" (41 : Nat) ({ cls := "CrumblingWall", name := "rest", desc := "(I)I" } : Jvm.MethodName)) ∈ lw_all := lw_g (lw_at lw_m9 113 rfl) rfl
theorem q2188 : (Jvm.Cond.methodLink "CrumblingWallLaw" (161 : Nat) ({ cls := "CrumblingWallLaw", name := "why", desc := "(LCrumblingWall;IIZ[J)I" } : Jvm.MethodName)) ∈ lw_all := lw_g (lw_at lw_m9 149 rfl) rfl
theorem q2189 : (Jvm.Cond.static ({ cls := "CrumblingWallLaw", name := "why", desc := "(LCrumblingWall;IIZ[J)I" } : Jvm.MethodName)) ∈ lw_all := lw_g (lw_at lw_m9 150 rfl) rfl
theorem q2190 : (Jvm.Cond.codeWith ({ cls := "CrumblingWallLaw", name := "why", desc := "(LCrumblingWall;IIZ[J)I" } : Jvm.MethodName) method_11_code (6 : Nat) (Option.some Jvm.ClassFile.FieldType.int) [((0 : Nat), (12 : Nat), (15 : Nat), (26 : Nat))]) ∈ lw_all := lw_g (lw_at lw_m9 151 rfl) rfl
theorem q2191 : (Jvm.Cond.methodLink "CrumblingWallLaw" (45 : Nat) ({ cls := "CrumblingWall", name := "why", desc := "(IIZ)I" } : Jvm.MethodName)) ∈ lw_all := lw_g (lw_at lw_m9 152 rfl) rfl
theorem q2196 : (Jvm.Cond.methodLink "CrumblingWallLaw" (165 : Nat) ({ cls := "CrumblingWallLaw", name := "moves", desc := "(LCrumblingWall;I[J)I" } : Jvm.MethodName)) ∈ lw_all := lw_g (lw_at lw_m9 157 rfl) rfl
theorem q2197 : (Jvm.Cond.static ({ cls := "CrumblingWallLaw", name := "moves", desc := "(LCrumblingWall;I[J)I" } : Jvm.MethodName)) ∈ lw_all := lw_g (lw_at lw_m9 158 rfl) rfl
theorem q2198 : (Jvm.Cond.codeWith ({ cls := "CrumblingWallLaw", name := "moves", desc := "(LCrumblingWall;I[J)I" } : Jvm.MethodName) method_12_code (4 : Nat) (Option.some Jvm.ClassFile.FieldType.int) [((0 : Nat), (9 : Nat), (12 : Nat), (26 : Nat))]) ∈ lw_all := lw_g (lw_at lw_m9 159 rfl) rfl
theorem q2199 : (Jvm.Cond.methodLink "CrumblingWallLaw" (49 : Nat) ({ cls := "CrumblingWall", name := "moves", desc := "(I)I" } : Jvm.MethodName)) ∈ lw_all := lw_g (lw_at lw_m9 160 rfl) rfl
theorem q2204 : (Jvm.Cond.methodLink "CrumblingWallLaw" (168 : Nat) ({ cls := "CrumblingWallLaw", name := "leastRests", desc := "(LCrumblingWall;II[J)I" } : Jvm.MethodName)) ∈ lw_all := lw_g (lw_at lw_m9 165 rfl) rfl
theorem q2205 : (Jvm.Cond.static ({ cls := "CrumblingWallLaw", name := "leastRests", desc := "(LCrumblingWall;II[J)I" } : Jvm.MethodName)) ∈ lw_all := lw_g (lw_at lw_m9 166 rfl) rfl
theorem q2206 : (Jvm.Cond.codeWith ({ cls := "CrumblingWallLaw", name := "leastRests", desc := "(LCrumblingWall;II[J)I" } : Jvm.MethodName) method_13_code (5 : Nat) (Option.some Jvm.ClassFile.FieldType.int) [((0 : Nat), (10 : Nat), (13 : Nat), (26 : Nat)), ((0 : Nat), (10 : Nat), (17 : Nat), (55 : Nat))]) ∈ lw_all := lw_g (lw_at lw_m9 167 rfl) rfl
theorem q2207 : (Jvm.Cond.classLink "CrumblingWallLaw" (55 : Nat) "java/util/NoSuchElementException") ∈ lw_all := lw_g (lw_at lw_m9 168 rfl) rfl
theorem q2208 : (Jvm.Cond.methodLink "CrumblingWallLaw" (52 : Nat) ({ cls := "CrumblingWall", name := "leastRests", desc := "(II)I" } : Jvm.MethodName)) ∈ lw_all := lw_g (lw_at lw_m9 169 rfl) rfl
theorem q2312 : (Jvm.Cond.methodLink "CrumblingWallLaw" (171 : Nat) ({ cls := "CrumblingWallLaw", name := "leastMoves", desc := "(LCrumblingWall;II[J)I" } : Jvm.MethodName)) ∈ lw_all := lw_g (lw_at lw_m10 33 rfl) rfl
theorem q2313 : (Jvm.Cond.static ({ cls := "CrumblingWallLaw", name := "leastMoves", desc := "(LCrumblingWall;II[J)I" } : Jvm.MethodName)) ∈ lw_all := lw_g (lw_at lw_m10 34 rfl) rfl
theorem q2314 : (Jvm.Cond.codeWith ({ cls := "CrumblingWallLaw", name := "leastMoves", desc := "(LCrumblingWall;II[J)I" } : Jvm.MethodName) method_14_code (5 : Nat) (Option.some Jvm.ClassFile.FieldType.int) [((0 : Nat), (10 : Nat), (13 : Nat), (26 : Nat)), ((0 : Nat), (10 : Nat), (17 : Nat), (55 : Nat))]) ∈ lw_all := lw_g (lw_at lw_m10 35 rfl) rfl
theorem q2315 : (Jvm.Cond.methodLink "CrumblingWallLaw" (57 : Nat) ({ cls := "CrumblingWall", name := "leastMoves", desc := "(II)I" } : Jvm.MethodName)) ∈ lw_all := lw_g (lw_at lw_m10 36 rfl) rfl
theorem q2361 : (Jvm.Cond.methodLink "CrumblingWallLaw" (174 : Nat) ({ cls := "CrumblingWallLaw", name := "clip", desc := "(LCrumblingWall;[J)I" } : Jvm.MethodName)) ∈ lw_all := lw_g (lw_at lw_m10 82 rfl) rfl
theorem q2362 : (Jvm.Cond.static ({ cls := "CrumblingWallLaw", name := "clip", desc := "(LCrumblingWall;[J)I" } : Jvm.MethodName)) ∈ lw_all := lw_g (lw_at lw_m10 83 rfl) rfl
theorem q2363 : (Jvm.Cond.codeWith ({ cls := "CrumblingWallLaw", name := "clip", desc := "(LCrumblingWall;[J)I" } : Jvm.MethodName) method_15_code (3 : Nat) (Option.some Jvm.ClassFile.FieldType.int) [((0 : Nat), (8 : Nat), (11 : Nat), (17 : Nat))]) ∈ lw_all := lw_g (lw_at lw_m10 84 rfl) rfl
theorem q2364 : (Jvm.Cond.methodLink "CrumblingWallLaw" (60 : Nat) ({ cls := "CrumblingWall", name := "clip", desc := "()I" } : Jvm.MethodName)) ∈ lw_all := lw_g (lw_at lw_m10 85 rfl) rfl
theorem q2373 : (Jvm.Cond.methodLink "CrumblingWallLaw" (178 : Nat) ({ cls := "CrumblingWallLaw", name := "unclip", desc := "(LCrumblingWall;[J)I" } : Jvm.MethodName)) ∈ lw_all := lw_g (lw_at lw_m10 94 rfl) rfl
theorem q2374 : (Jvm.Cond.static ({ cls := "CrumblingWallLaw", name := "unclip", desc := "(LCrumblingWall;[J)I" } : Jvm.MethodName)) ∈ lw_all := lw_g (lw_at lw_m10 95 rfl) rfl
theorem q2375 : (Jvm.Cond.codeWith ({ cls := "CrumblingWallLaw", name := "unclip", desc := "(LCrumblingWall;[J)I" } : Jvm.MethodName) method_16_code (3 : Nat) (Option.some Jvm.ClassFile.FieldType.int) [((0 : Nat), (8 : Nat), (11 : Nat), (17 : Nat))]) ∈ lw_all := lw_g (lw_at lw_m10 96 rfl) rfl
theorem q2376 : (Jvm.Cond.methodLink "CrumblingWallLaw" (64 : Nat) ({ cls := "CrumblingWall", name := "unclip", desc := "()I" } : Jvm.MethodName)) ∈ lw_all := lw_g (lw_at lw_m10 97 rfl) rfl
theorem q2392 : (Jvm.Cond.methodLink "CrumblingWallLaw" (185 : Nat) ({ cls := "CrumblingWallLaw", name := "anchor", desc := "(LCrumblingWall;I[J)I" } : Jvm.MethodName)) ∈ lw_all := lw_g (lw_at lw_m10 113 rfl) rfl
theorem q2393 : (Jvm.Cond.static ({ cls := "CrumblingWallLaw", name := "anchor", desc := "(LCrumblingWall;I[J)I" } : Jvm.MethodName)) ∈ lw_all := lw_g (lw_at lw_m10 114 rfl) rfl
theorem q2394 : (Jvm.Cond.codeWith ({ cls := "CrumblingWallLaw", name := "anchor", desc := "(LCrumblingWall;I[J)I" } : Jvm.MethodName) method_17_code (4 : Nat) (Option.some Jvm.ClassFile.FieldType.int) [((0 : Nat), (9 : Nat), (12 : Nat), (55 : Nat))]) ∈ lw_all := lw_g (lw_at lw_m10 115 rfl) rfl
theorem q2395 : (Jvm.Cond.methodLink "CrumblingWallLaw" (67 : Nat) ({ cls := "CrumblingWall", name := "anchor", desc := "(I)I" } : Jvm.MethodName)) ∈ lw_all := lw_g (lw_at lw_m10 116 rfl) rfl
theorem q2402 : (Jvm.Cond.methodLink "CrumblingWallLaw" (196 : Nat) ({ cls := "CrumblingWallLaw", name := "take", desc := "(LCrumblingWall;II[J)I" } : Jvm.MethodName)) ∈ lw_all := lw_g (lw_at lw_m10 123 rfl) rfl
theorem q2403 : (Jvm.Cond.static ({ cls := "CrumblingWallLaw", name := "take", desc := "(LCrumblingWall;II[J)I" } : Jvm.MethodName)) ∈ lw_all := lw_g (lw_at lw_m10 124 rfl) rfl
theorem q2404 : (Jvm.Cond.codeWith ({ cls := "CrumblingWallLaw", name := "take", desc := "(LCrumblingWall;II[J)I" } : Jvm.MethodName) method_18_code (5 : Nat) (Option.some Jvm.ClassFile.FieldType.int) [((0 : Nat), (10 : Nat), (13 : Nat), (26 : Nat)), ((0 : Nat), (10 : Nat), (17 : Nat), (17 : Nat))]) ∈ lw_all := lw_g (lw_at lw_m10 125 rfl) rfl
theorem q2405 : (Jvm.Cond.methodLink "CrumblingWallLaw" (70 : Nat) ({ cls := "CrumblingWall", name := "take", desc := "(II)I" } : Jvm.MethodName)) ∈ lw_all := lw_g (lw_at lw_m10 126 rfl) rfl
theorem q2421 : (Jvm.Cond.methodLink "CrumblingWallLaw" (199 : Nat) ({ cls := "CrumblingWallLaw", name := "put", desc := "(LCrumblingWall;II[J)I" } : Jvm.MethodName)) ∈ lw_all := lw_g (lw_at lw_m10 142 rfl) rfl
theorem q2422 : (Jvm.Cond.static ({ cls := "CrumblingWallLaw", name := "put", desc := "(LCrumblingWall;II[J)I" } : Jvm.MethodName)) ∈ lw_all := lw_g (lw_at lw_m10 143 rfl) rfl
theorem q2423 : (Jvm.Cond.codeWith ({ cls := "CrumblingWallLaw", name := "put", desc := "(LCrumblingWall;II[J)I" } : Jvm.MethodName) method_19_code (5 : Nat) (Option.some Jvm.ClassFile.FieldType.int) [((0 : Nat), (10 : Nat), (13 : Nat), (26 : Nat)), ((0 : Nat), (10 : Nat), (17 : Nat), (17 : Nat))]) ∈ lw_all := lw_g (lw_at lw_m10 144 rfl) rfl
theorem q2424 : (Jvm.Cond.methodLink "CrumblingWallLaw" (73 : Nat) ({ cls := "CrumblingWall", name := "put", desc := "(II)I" } : Jvm.MethodName)) ∈ lw_all := lw_g (lw_at lw_m10 145 rfl) rfl
theorem q2436 : (Jvm.Cond.methodLink "CrumblingWallLaw" (202 : Nat) ({ cls := "CrumblingWallLaw", name := "light", desc := "(LCrumblingWall;II[J)I" } : Jvm.MethodName)) ∈ lw_all := lw_g (lw_at lw_m10 157 rfl) rfl
theorem q2437 : (Jvm.Cond.static ({ cls := "CrumblingWallLaw", name := "light", desc := "(LCrumblingWall;II[J)I" } : Jvm.MethodName)) ∈ lw_all := lw_g (lw_at lw_m10 158 rfl) rfl
theorem q2438 : (Jvm.Cond.codeWith ({ cls := "CrumblingWallLaw", name := "light", desc := "(LCrumblingWall;II[J)I" } : Jvm.MethodName) method_20_code (5 : Nat) (Option.some Jvm.ClassFile.FieldType.int) [((0 : Nat), (10 : Nat), (13 : Nat), (26 : Nat)), ((0 : Nat), (10 : Nat), (17 : Nat), (17 : Nat))]) ∈ lw_all := lw_g (lw_at lw_m10 159 rfl) rfl
theorem q2439 : (Jvm.Cond.methodLink "CrumblingWallLaw" (76 : Nat) ({ cls := "CrumblingWall", name := "light", desc := "(II)I" } : Jvm.MethodName)) ∈ lw_all := lw_g (lw_at lw_m10 160 rfl) rfl
theorem q2447 : (Jvm.Cond.methodLink "CrumblingWallLaw" (205 : Nat) ({ cls := "CrumblingWallLaw", name := "force", desc := "(LCrumblingWall;I[D)I" } : Jvm.MethodName)) ∈ lw_all := lw_g (lw_at lw_m10 168 rfl) rfl
theorem q2448 : (Jvm.Cond.static ({ cls := "CrumblingWallLaw", name := "force", desc := "(LCrumblingWall;I[D)I" } : Jvm.MethodName)) ∈ lw_all := lw_g (lw_at lw_m10 169 rfl) rfl
theorem q2449 : (Jvm.Cond.codeWith ({ cls := "CrumblingWallLaw", name := "force", desc := "(LCrumblingWall;I[D)I" } : Jvm.MethodName) method_21_code (4 : Nat) (Option.some Jvm.ClassFile.FieldType.int) [((0 : Nat), (9 : Nat), (12 : Nat), (55 : Nat))]) ∈ lw_all := lw_g (lw_at lw_m10 170 rfl) rfl
theorem q2450 : (Jvm.Cond.methodLink "CrumblingWallLaw" (79 : Nat) ({ cls := "CrumblingWall", name := "force", desc := "(I)F" } : Jvm.MethodName)) ∈ lw_all := lw_g (lw_at lw_m10 171 rfl) rfl
theorem q2454 : (Jvm.Cond.methodLink "CrumblingWallLaw" (209 : Nat) ({ cls := "CrumblingWallLaw", name := "keep", desc := "(LCrumblingWall;I[J)I" } : Jvm.MethodName)) ∈ lw_all := lw_g (lw_at lw_m10 175 rfl) rfl
theorem q2455 : (Jvm.Cond.static ({ cls := "CrumblingWallLaw", name := "keep", desc := "(LCrumblingWall;I[J)I" } : Jvm.MethodName)) ∈ lw_all := lw_g (lw_at lw_m10 176 rfl) rfl
theorem q2456 : (Jvm.Cond.codeWith ({ cls := "CrumblingWallLaw", name := "keep", desc := "(LCrumblingWall;I[J)I" } : Jvm.MethodName) method_22_code (4 : Nat) (Option.some Jvm.ClassFile.FieldType.int) [((0 : Nat), (9 : Nat), (12 : Nat), (26 : Nat))]) ∈ lw_all := lw_g (lw_at lw_m10 177 rfl) rfl
theorem q2457 : (Jvm.Cond.methodLink "CrumblingWallLaw" (83 : Nat) ({ cls := "CrumblingWall", name := "keep", desc := "(I)I" } : Jvm.MethodName)) ∈ lw_all := lw_g (lw_at lw_m10 178 rfl) rfl
theorem q2465 : (Jvm.Cond.methodLink "CrumblingWallLaw" (212 : Nat) ({ cls := "CrumblingWallLaw", name := "scale", desc := "(LCrumblingWall;III[J)I" } : Jvm.MethodName)) ∈ lw_all := lw_g (lw_at lw_m10 186 rfl) rfl
theorem q2466 : (Jvm.Cond.static ({ cls := "CrumblingWallLaw", name := "scale", desc := "(LCrumblingWall;III[J)I" } : Jvm.MethodName)) ∈ lw_all := lw_g (lw_at lw_m10 187 rfl) rfl
theorem q2467 : (Jvm.Cond.codeWith ({ cls := "CrumblingWallLaw", name := "scale", desc := "(LCrumblingWall;III[J)I" } : Jvm.MethodName) method_23_code (6 : Nat) (Option.some Jvm.ClassFile.FieldType.int) [((0 : Nat), (12 : Nat), (15 : Nat), (26 : Nat)), ((0 : Nat), (12 : Nat), (19 : Nat), (13 : Nat)), ((0 : Nat), (12 : Nat), (23 : Nat), (15 : Nat))]) ∈ lw_all := lw_g (lw_at lw_m10 188 rfl) rfl
theorem q2468 : (Jvm.Cond.methodLink "CrumblingWallLaw" (86 : Nat) ({ cls := "CrumblingWall", name := "scale", desc := "(III)I" } : Jvm.MethodName)) ∈ lw_all := lw_g (lw_at lw_m10 189 rfl) rfl
theorem q2477 : (Jvm.Cond.methodLink "CrumblingWallLaw" (215 : Nat) ({ cls := "CrumblingWallLaw", name := "element", desc := "(LCrumblingWall;II[J)I" } : Jvm.MethodName)) ∈ lw_all := lw_g (lw_at lw_m10 198 rfl) rfl
theorem q2478 : (Jvm.Cond.static ({ cls := "CrumblingWallLaw", name := "element", desc := "(LCrumblingWall;II[J)I" } : Jvm.MethodName)) ∈ lw_all := lw_g (lw_at lw_m10 199 rfl) rfl
theorem q2479 : (Jvm.Cond.codeWith ({ cls := "CrumblingWallLaw", name := "element", desc := "(LCrumblingWall;II[J)I" } : Jvm.MethodName) method_24_code (5 : Nat) (Option.some Jvm.ClassFile.FieldType.int) [((0 : Nat), (10 : Nat), (13 : Nat), (26 : Nat)), ((0 : Nat), (10 : Nat), (17 : Nat), (15 : Nat)), ((0 : Nat), (10 : Nat), (21 : Nat), (55 : Nat))]) ∈ lw_all := lw_g (lw_at lw_m10 200 rfl) rfl
theorem q2480 : (Jvm.Cond.methodLink "CrumblingWallLaw" (89 : Nat) ({ cls := "CrumblingWall", name := "element", desc := "(II)I" } : Jvm.MethodName)) ∈ lw_all := lw_g (lw_at lw_m10 201 rfl) rfl
theorem q2494 : (Jvm.Cond.methodLink "CrumblingWallLaw" (218 : Nat) ({ cls := "CrumblingWallLaw", name := "rack", desc := "(LCrumblingWall;I[J)I" } : Jvm.MethodName)) ∈ lw_all := lw_g (lw_at lw_m10 215 rfl) rfl
theorem q2495 : (Jvm.Cond.static ({ cls := "CrumblingWallLaw", name := "rack", desc := "(LCrumblingWall;I[J)I" } : Jvm.MethodName)) ∈ lw_all := lw_g (lw_at lw_m10 216 rfl) rfl
theorem q2496 : (Jvm.Cond.codeWith ({ cls := "CrumblingWallLaw", name := "rack", desc := "(LCrumblingWall;I[J)I" } : Jvm.MethodName) method_25_code (4 : Nat) (Option.some Jvm.ClassFile.FieldType.int) [((0 : Nat), (9 : Nat), (12 : Nat), (13 : Nat))]) ∈ lw_all := lw_g (lw_at lw_m10 217 rfl) rfl
theorem q2497 : (Jvm.Cond.methodLink "CrumblingWallLaw" (92 : Nat) ({ cls := "CrumblingWall", name := "rack", desc := "(I)I" } : Jvm.MethodName)) ∈ lw_all := lw_g (lw_at lw_m10 218 rfl) rfl
theorem q2512 : (Jvm.Cond.methodLink "CrumblingWallLaw" (221 : Nat) ({ cls := "CrumblingWallLaw", name := "note", desc := "(LCrumblingWall;II[J)I" } : Jvm.MethodName)) ∈ lw_all := lw_g (lw_at lw_m10 233 rfl) rfl
theorem q2513 : (Jvm.Cond.static ({ cls := "CrumblingWallLaw", name := "note", desc := "(LCrumblingWall;II[J)I" } : Jvm.MethodName)) ∈ lw_all := lw_g (lw_at lw_m10 234 rfl) rfl
theorem q2514 : (Jvm.Cond.codeWith ({ cls := "CrumblingWallLaw", name := "note", desc := "(LCrumblingWall;II[J)I" } : Jvm.MethodName) method_26_code (5 : Nat) (Option.some Jvm.ClassFile.FieldType.int) [((0 : Nat), (10 : Nat), (13 : Nat), (26 : Nat)), ((0 : Nat), (10 : Nat), (17 : Nat), (17 : Nat))]) ∈ lw_all := lw_g (lw_at lw_m10 235 rfl) rfl
theorem q2515 : (Jvm.Cond.methodLink "CrumblingWallLaw" (95 : Nat) ({ cls := "CrumblingWall", name := "note", desc := "(II)I" } : Jvm.MethodName)) ∈ lw_all := lw_g (lw_at lw_m10 236 rfl) rfl
theorem q2533 : (Jvm.Cond.methodLink "CrumblingWallLaw" (228 : Nat) ({ cls := "CrumblingWallLaw", name := "append", desc := "(LCrumblingWall;C[J)I" } : Jvm.MethodName)) ∈ lw_all := lw_g (lw_at lw_m11 14 rfl) rfl
theorem q2534 : (Jvm.Cond.static ({ cls := "CrumblingWallLaw", name := "append", desc := "(LCrumblingWall;C[J)I" } : Jvm.MethodName)) ∈ lw_all := lw_g (lw_at lw_m11 15 rfl) rfl
theorem q2535 : (Jvm.Cond.codeWith ({ cls := "CrumblingWallLaw", name := "append", desc := "(LCrumblingWall;C[J)I" } : Jvm.MethodName) method_27_code (4 : Nat) (Option.some Jvm.ClassFile.FieldType.int) [((0 : Nat), (9 : Nat), (12 : Nat), (15 : Nat))]) ∈ lw_all := lw_g (lw_at lw_m11 16 rfl) rfl
theorem q2536 : (Jvm.Cond.methodLink "CrumblingWallLaw" (98 : Nat) ({ cls := "CrumblingWall", name := "append", desc := "(C)I" } : Jvm.MethodName)) ∈ lw_all := lw_g (lw_at lw_m11 17 rfl) rfl
theorem q2561 : (Jvm.Cond.methodLink "CrumblingWallLaw" (232 : Nat) ({ cls := "CrumblingWallLaw", name := "tries", desc := "(LCrumblingWall;[J)I" } : Jvm.MethodName)) ∈ lw_all := lw_g (lw_at lw_m11 42 rfl) rfl
theorem q2562 : (Jvm.Cond.static ({ cls := "CrumblingWallLaw", name := "tries", desc := "(LCrumblingWall;[J)I" } : Jvm.MethodName)) ∈ lw_all := lw_g (lw_at lw_m11 43 rfl) rfl
theorem q2563 : (Jvm.Cond.codeWith ({ cls := "CrumblingWallLaw", name := "tries", desc := "(LCrumblingWall;[J)I" } : Jvm.MethodName) method_28_code (3 : Nat) (Option.some Jvm.ClassFile.FieldType.int) [((0 : Nat), (8 : Nat), (11 : Nat), (13 : Nat))]) ∈ lw_all := lw_g (lw_at lw_m11 44 rfl) rfl
theorem q2564 : (Jvm.Cond.methodLink "CrumblingWallLaw" (102 : Nat) ({ cls := "CrumblingWall", name := "tries", desc := "()I" } : Jvm.MethodName)) ∈ lw_all := lw_g (lw_at lw_m11 45 rfl) rfl
theorem q2827 : (Jvm.Cond.methodLink "CrumblingWallLaw" (235 : Nat) ({ cls := "CrumblingWallLaw", name := "run", desc := "(LCrumblingWall;[J)I" } : Jvm.MethodName)) ∈ lw_all := lw_g (lw_at lw_m12 68 rfl) rfl
theorem q2828 : (Jvm.Cond.static ({ cls := "CrumblingWallLaw", name := "run", desc := "(LCrumblingWall;[J)I" } : Jvm.MethodName)) ∈ lw_all := lw_g (lw_at lw_m12 69 rfl) rfl
theorem q2829 : (Jvm.Cond.codeWith ({ cls := "CrumblingWallLaw", name := "run", desc := "(LCrumblingWall;[J)I" } : Jvm.MethodName) method_29_code (3 : Nat) (Option.some Jvm.ClassFile.FieldType.int) [((0 : Nat), (8 : Nat), (11 : Nat), (13 : Nat)), ((0 : Nat), (8 : Nat), (14 : Nat), (26 : Nat)), ((0 : Nat), (8 : Nat), (17 : Nat), (17 : Nat))]) ∈ lw_all := lw_g (lw_at lw_m12 70 rfl) rfl
theorem q2830 : (Jvm.Cond.methodLink "CrumblingWallLaw" (105 : Nat) ({ cls := "CrumblingWall", name := "run", desc := "()I" } : Jvm.MethodName)) ∈ lw_all := lw_g (lw_at lw_m12 71 rfl) rfl
theorem q2834 : (Jvm.Cond.methodLink "CrumblingWallLaw" (238 : Nat) ({ cls := "CrumblingWallLaw", name := "errorPosition", desc := "(LCrumblingWall;[J)I" } : Jvm.MethodName)) ∈ lw_all := lw_g (lw_at lw_m12 75 rfl) rfl
theorem q2835 : (Jvm.Cond.static ({ cls := "CrumblingWallLaw", name := "errorPosition", desc := "(LCrumblingWall;[J)I" } : Jvm.MethodName)) ∈ lw_all := lw_g (lw_at lw_m12 76 rfl) rfl
theorem q2836 : (Jvm.Cond.codeWith ({ cls := "CrumblingWallLaw", name := "errorPosition", desc := "(LCrumblingWall;[J)I" } : Jvm.MethodName) method_30_code (3 : Nat) (Option.some Jvm.ClassFile.FieldType.int) [((0 : Nat), (8 : Nat), (11 : Nat), (55 : Nat))]) ∈ lw_all := lw_g (lw_at lw_m12 77 rfl) rfl
theorem q2837 : (Jvm.Cond.methodLink "CrumblingWallLaw" (108 : Nat) ({ cls := "CrumblingWall", name := "errorPosition", desc := "()I" } : Jvm.MethodName)) ∈ lw_all := lw_g (lw_at lw_m12 78 rfl) rfl
theorem q2841 : (Jvm.Cond.methodLink "CrumblingWallLaw" (241 : Nat) ({ cls := "CrumblingWallLaw", name := "reason", desc := "(LCrumblingWall;Z[J)I" } : Jvm.MethodName)) ∈ lw_all := lw_g (lw_at lw_m12 82 rfl) rfl
theorem q2842 : (Jvm.Cond.static ({ cls := "CrumblingWallLaw", name := "reason", desc := "(LCrumblingWall;Z[J)I" } : Jvm.MethodName)) ∈ lw_all := lw_g (lw_at lw_m12 83 rfl) rfl
theorem q2843 : (Jvm.Cond.codeWith ({ cls := "CrumblingWallLaw", name := "reason", desc := "(LCrumblingWall;Z[J)I" } : Jvm.MethodName) method_31_code (4 : Nat) (Option.some Jvm.ClassFile.FieldType.int) [((0 : Nat), (9 : Nat), (12 : Nat), (55 : Nat))]) ∈ lw_all := lw_g (lw_at lw_m12 84 rfl) rfl
theorem q2844 : (Jvm.Cond.methodLink "CrumblingWallLaw" (111 : Nat) ({ cls := "CrumblingWall", name := "reason", desc := "(Z)I" } : Jvm.MethodName)) ∈ lw_all := lw_g (lw_at lw_m12 85 rfl) rfl
theorem q2848 : (Jvm.Cond.methodLink "CrumblingWallLaw" (245 : Nat) ({ cls := "CrumblingWallLaw", name := "account", desc := "(LCrumblingWall;I[J)I" } : Jvm.MethodName)) ∈ lw_all := lw_g (lw_at lw_m12 89 rfl) rfl
theorem q2849 : (Jvm.Cond.static ({ cls := "CrumblingWallLaw", name := "account", desc := "(LCrumblingWall;I[J)I" } : Jvm.MethodName)) ∈ lw_all := lw_g (lw_at lw_m12 90 rfl) rfl
theorem q2850 : (Jvm.Cond.codeWith ({ cls := "CrumblingWallLaw", name := "account", desc := "(LCrumblingWall;I[J)I" } : Jvm.MethodName) method_32_code (4 : Nat) (Option.some Jvm.ClassFile.FieldType.int) [((0 : Nat), (9 : Nat), (12 : Nat), (13 : Nat))]) ∈ lw_all := lw_g (lw_at lw_m12 91 rfl) rfl
theorem q2851 : (Jvm.Cond.methodLink "CrumblingWallLaw" (115 : Nat) ({ cls := "CrumblingWall", name := "account", desc := "(I)I" } : Jvm.MethodName)) ∈ lw_all := lw_g (lw_at lw_m12 92 rfl) rfl
theorem q2913 : (Jvm.Cond.methodLink "CrumblingWallLaw" (248 : Nat) ({ cls := "CrumblingWallLaw", name := "undo", desc := "(LCrumblingWall;[J)I" } : Jvm.MethodName)) ∈ lw_all := lw_g (lw_at lw_m12 154 rfl) rfl
theorem q2914 : (Jvm.Cond.static ({ cls := "CrumblingWallLaw", name := "undo", desc := "(LCrumblingWall;[J)I" } : Jvm.MethodName)) ∈ lw_all := lw_g (lw_at lw_m12 155 rfl) rfl
theorem q2915 : (Jvm.Cond.codeWith ({ cls := "CrumblingWallLaw", name := "undo", desc := "(LCrumblingWall;[J)I" } : Jvm.MethodName) method_33_code (3 : Nat) (Option.some Jvm.ClassFile.FieldType.int) [((0 : Nat), (8 : Nat), (11 : Nat), (15 : Nat))]) ∈ lw_all := lw_g (lw_at lw_m12 156 rfl) rfl
theorem q2916 : (Jvm.Cond.methodLink "CrumblingWallLaw" (118 : Nat) ({ cls := "CrumblingWall", name := "undo", desc := "()I" } : Jvm.MethodName)) ∈ lw_all := lw_g (lw_at lw_m12 157 rfl) rfl
theorem q2932 : (Jvm.Cond.methodLink "CrumblingWallLaw" (255 : Nat) ({ cls := "CrumblingWallLaw", name := "restore", desc := "(LCrumblingWall;[J)I" } : Jvm.MethodName)) ∈ lw_all := lw_g (lw_at lw_m12 173 rfl) rfl
theorem q2933 : (Jvm.Cond.static ({ cls := "CrumblingWallLaw", name := "restore", desc := "(LCrumblingWall;[J)I" } : Jvm.MethodName)) ∈ lw_all := lw_g (lw_at lw_m12 174 rfl) rfl
theorem q2934 : (Jvm.Cond.codeWith ({ cls := "CrumblingWallLaw", name := "restore", desc := "(LCrumblingWall;[J)I" } : Jvm.MethodName) method_34_code (3 : Nat) (Option.some Jvm.ClassFile.FieldType.int) [((0 : Nat), (8 : Nat), (11 : Nat), (15 : Nat))]) ∈ lw_all := lw_g (lw_at lw_m12 175 rfl) rfl
theorem q2935 : (Jvm.Cond.methodLink "CrumblingWallLaw" (121 : Nat) ({ cls := "CrumblingWall", name := "restore", desc := "()I" } : Jvm.MethodName)) ∈ lw_all := lw_g (lw_at lw_m12 176 rfl) rfl
theorem q2946 : (Jvm.Cond.classLink "CrumblingWallLaw" (125 : Nat) "CrumblingWallModel") ∈ lw_all := lw_g (lw_at lw_m12 187 rfl) rfl
theorem q2948 : (Jvm.Cond.methodLink "CrumblingWallLaw" (127 : Nat) ({ cls := "CrumblingWallModel", name := "<init>", desc := "()V" } : Jvm.MethodName)) ∈ lw_all := lw_g (lw_at lw_m12 189 rfl) rfl
theorem q3045 : (Jvm.Cond.methodLink "CrumblingWallLaw" (134 : Nat) ({ cls := "CrumblingWallModel", name := "thrown", desc := "()I" } : Jvm.MethodName)) ∈ lw_all := lw_g (lw_at lw_m13 46 rfl) rfl
theorem q3049 : (Jvm.Cond.methodLink "CrumblingWallLaw" (133 : Nat) ({ cls := "CrumblingWallModel", name := "hold", desc := "(IIII)I" } : Jvm.MethodName)) ∈ lw_all := lw_g (lw_at lw_m13 50 rfl) rfl
theorem q3087 : (Jvm.Cond.methodLink "CrumblingWallLaw" (140 : Nat) ({ cls := "CrumblingWallModel", name := "set", desc := "(II)I" } : Jvm.MethodName)) ∈ lw_all := lw_g (lw_at lw_m13 88 rfl) rfl
theorem q3114 : (Jvm.Cond.methodLink "CrumblingWallLaw" (143 : Nat) ({ cls := "CrumblingWallModel", name := "holdOf", desc := "(II)I" } : Jvm.MethodName)) ∈ lw_all := lw_g (lw_at lw_m13 115 rfl) rfl
theorem q3153 : (Jvm.Cond.methodLink "CrumblingWallLaw" (147 : Nat) ({ cls := "CrumblingWallModel", name := "lamp", desc := "(III)I" } : Jvm.MethodName)) ∈ lw_all := lw_g (lw_at lw_m13 154 rfl) rfl
theorem q3161 : (Jvm.Cond.methodLink "CrumblingWallLaw" (150 : Nat) ({ cls := "CrumblingWallModel", name := "lampOf", desc := "(II)I" } : Jvm.MethodName)) ∈ lw_all := lw_g (lw_at lw_m13 162 rfl) rfl
theorem q3169 : (Jvm.Cond.methodLink "CrumblingWallLaw" (177 : Nat) ({ cls := "CrumblingWallModel", name := "clip", desc := "()I" } : Jvm.MethodName)) ∈ lw_all := lw_g (lw_at lw_m13 170 rfl) rfl
theorem q3185 : (Jvm.Cond.methodLink "CrumblingWallLaw" (180 : Nat) ({ cls := "CrumblingWallModel", name := "unclip", desc := "()I" } : Jvm.MethodName)) ∈ lw_all := lw_g (lw_at lw_m13 186 rfl) rfl
theorem q3197 : (Jvm.Cond.methodLink "CrumblingWallLaw" (184 : Nat) ({ cls := "CrumblingWallModel", name := "anchors", desc := "()I" } : Jvm.MethodName)) ∈ lw_all := lw_g (lw_at lw_m13 198 rfl) rfl
theorem q3201 : (Jvm.Cond.methodLink "CrumblingWallLaw" (187 : Nat) ({ cls := "CrumblingWallModel", name := "anchor", desc := "(I)I" } : Jvm.MethodName)) ∈ lw_all := lw_g (lw_at lw_m13 202 rfl) rfl
theorem q3205 : (Jvm.Cond.methodLink "CrumblingWallLaw" (191 : Nat) ({ cls := "CrumblingWallModel", name := "rope", desc := "()I" } : Jvm.MethodName)) ∈ lw_all := lw_g (lw_at lw_m13 206 rfl) rfl
theorem q3209 : (Jvm.Cond.methodLink "CrumblingWallLaw" (195 : Nat) ({ cls := "CrumblingWallModel", name := "ropeAgain", desc := "()I" } : Jvm.MethodName)) ∈ lw_all := lw_g (lw_at lw_m13 210 rfl) rfl
theorem q3213 : (Jvm.Cond.methodLink "CrumblingWallLaw" (153 : Nat) ({ cls := "CrumblingWallModel", name := "climberOf", desc := "(II)I" } : Jvm.MethodName)) ∈ lw_all := lw_g (lw_at lw_m13 214 rfl) rfl
theorem q3228 : (Jvm.Cond.methodLink "CrumblingWallLaw" (156 : Nat) ({ cls := "CrumblingWallModel", name := "move", desc := "(II)I" } : Jvm.MethodName)) ∈ lw_all := lw_g (lw_at lw_m13 229 rfl) rfl
theorem q3293 : (Jvm.Cond.methodLink "CrumblingWallLaw" (160 : Nat) ({ cls := "CrumblingWallModel", name := "rest", desc := "(I)I" } : Jvm.MethodName)) ∈ lw_all := lw_g (lw_at lw_m14 54 rfl) rfl
theorem q3308 : (Jvm.Cond.methodLink "CrumblingWallLaw" (164 : Nat) ({ cls := "CrumblingWallModel", name := "why", desc := "(IIZ)I" } : Jvm.MethodName)) ∈ lw_all := lw_g (lw_at lw_m14 69 rfl) rfl
theorem q3312 : (Jvm.Cond.methodLink "CrumblingWallLaw" (167 : Nat) ({ cls := "CrumblingWallModel", name := "moves", desc := "(I)I" } : Jvm.MethodName)) ∈ lw_all := lw_g (lw_at lw_m14 73 rfl) rfl
theorem q3316 : (Jvm.Cond.methodLink "CrumblingWallLaw" (170 : Nat) ({ cls := "CrumblingWallModel", name := "leastRests", desc := "(II)I" } : Jvm.MethodName)) ∈ lw_all := lw_g (lw_at lw_m14 77 rfl) rfl
theorem q3332 : (Jvm.Cond.methodLink "CrumblingWallLaw" (173 : Nat) ({ cls := "CrumblingWallModel", name := "leastMoves", desc := "(II)I" } : Jvm.MethodName)) ∈ lw_all := lw_g (lw_at lw_m14 93 rfl) rfl
theorem q3336 : (Jvm.Cond.methodLink "CrumblingWallLaw" (198 : Nat) ({ cls := "CrumblingWallModel", name := "take", desc := "(II)I" } : Jvm.MethodName)) ∈ lw_all := lw_g (lw_at lw_m14 97 rfl) rfl
theorem q3348 : (Jvm.Cond.methodLink "CrumblingWallLaw" (201 : Nat) ({ cls := "CrumblingWallModel", name := "put", desc := "(II)I" } : Jvm.MethodName)) ∈ lw_all := lw_g (lw_at lw_m14 109 rfl) rfl
theorem q3360 : (Jvm.Cond.methodLink "CrumblingWallLaw" (204 : Nat) ({ cls := "CrumblingWallModel", name := "light", desc := "(II)I" } : Jvm.MethodName)) ∈ lw_all := lw_g (lw_at lw_m14 121 rfl) rfl
theorem q3368 : (Jvm.Cond.methodLink "CrumblingWallLaw" (208 : Nat) ({ cls := "CrumblingWallModel", name := "force", desc := "(I)F" } : Jvm.MethodName)) ∈ lw_all := lw_g (lw_at lw_m14 129 rfl) rfl
theorem q3375 : (Jvm.Cond.methodLink "CrumblingWallLaw" (211 : Nat) ({ cls := "CrumblingWallModel", name := "keep", desc := "(I)I" } : Jvm.MethodName)) ∈ lw_all := lw_g (lw_at lw_m14 136 rfl) rfl
theorem q3382 : (Jvm.Cond.methodLink "CrumblingWallLaw" (214 : Nat) ({ cls := "CrumblingWallModel", name := "scale", desc := "(III)I" } : Jvm.MethodName)) ∈ lw_all := lw_g (lw_at lw_m14 143 rfl) rfl
theorem q3387 : (Jvm.Cond.methodLink "CrumblingWallLaw" (217 : Nat) ({ cls := "CrumblingWallModel", name := "element", desc := "(II)I" } : Jvm.MethodName)) ∈ lw_all := lw_g (lw_at lw_m14 148 rfl) rfl
theorem q3391 : (Jvm.Cond.methodLink "CrumblingWallLaw" (220 : Nat) ({ cls := "CrumblingWallModel", name := "rack", desc := "(I)I" } : Jvm.MethodName)) ∈ lw_all := lw_g (lw_at lw_m14 152 rfl) rfl
theorem q3399 : (Jvm.Cond.methodLink "CrumblingWallLaw" (223 : Nat) ({ cls := "CrumblingWallModel", name := "note", desc := "(II)I" } : Jvm.MethodName)) ∈ lw_all := lw_g (lw_at lw_m14 160 rfl) rfl
theorem q3403 : (Jvm.Cond.methodLink "CrumblingWallLaw" (227 : Nat) ({ cls := "CrumblingWallModel", name := "left", desc := "()I" } : Jvm.MethodName)) ∈ lw_all := lw_g (lw_at lw_m14 164 rfl) rfl
theorem q3407 : (Jvm.Cond.methodLink "CrumblingWallLaw" (231 : Nat) ({ cls := "CrumblingWallModel", name := "append", desc := "(C)I" } : Jvm.MethodName)) ∈ lw_all := lw_g (lw_at lw_m14 168 rfl) rfl
theorem q3411 : (Jvm.Cond.methodLink "CrumblingWallLaw" (234 : Nat) ({ cls := "CrumblingWallModel", name := "tries", desc := "()I" } : Jvm.MethodName)) ∈ lw_all := lw_g (lw_at lw_m14 172 rfl) rfl
theorem q3463 : (Jvm.Cond.methodLink "CrumblingWallLaw" (237 : Nat) ({ cls := "CrumblingWallModel", name := "run", desc := "()I" } : Jvm.MethodName)) ∈ lw_all := lw_g (lw_at lw_m14 224 rfl) rfl
theorem q3467 : (Jvm.Cond.methodLink "CrumblingWallLaw" (240 : Nat) ({ cls := "CrumblingWallModel", name := "errorPosition", desc := "()I" } : Jvm.MethodName)) ∈ lw_all := lw_g (lw_at lw_m14 228 rfl) rfl
theorem q3471 : (Jvm.Cond.methodLink "CrumblingWallLaw" (244 : Nat) ({ cls := "CrumblingWallModel", name := "reason", desc := "(Z)I" } : Jvm.MethodName)) ∈ lw_all := lw_g (lw_at lw_m14 232 rfl) rfl
theorem q3475 : (Jvm.Cond.methodLink "CrumblingWallLaw" (247 : Nat) ({ cls := "CrumblingWallModel", name := "account", desc := "(I)I" } : Jvm.MethodName)) ∈ lw_all := lw_g (lw_at lw_m14 236 rfl) rfl
theorem q3487 : (Jvm.Cond.methodLink "CrumblingWallLaw" (250 : Nat) ({ cls := "CrumblingWallModel", name := "undo", desc := "()I" } : Jvm.MethodName)) ∈ lw_all := lw_g (lw_at lw_m15 8 rfl) rfl
theorem q3491 : (Jvm.Cond.methodLink "CrumblingWallLaw" (254 : Nat) ({ cls := "CrumblingWallModel", name := "save", desc := "()I" } : Jvm.MethodName)) ∈ lw_all := lw_g (lw_at lw_m15 12 rfl) rfl
theorem q3495 : (Jvm.Cond.methodLink "CrumblingWallLaw" (257 : Nat) ({ cls := "CrumblingWallModel", name := "restore", desc := "()I" } : Jvm.MethodName)) ∈ lw_all := lw_g (lw_at lw_m15 16 rfl) rfl
/-! CrumblingWallModel -/
set_option maxRecDepth 100000
def RX5 : String := "CrumblingWallModel"
def TX5 : u_T := fun k => match k with
  | 0 => ("CrumblingWallModel", "thrown", "I", false)
  | 1 => ("CrumblingWallModel", "reason", "I", false)
  | 2 => ("CrumblingWallModel", "detail", "I", false)
  | 3 => ("CrumblingWallModel", "why", "I", false)
  | 4 => ("CrumblingWallModel", "whyDetail", "I", false)
  | 5 => ("CrumblingWallModel", "w", "[I", true)
  | 6 => ("CrumblingWallModel", "undos", "[I", true)
  | 7 => ("CrumblingWallModel", "savedRow", "[I", true)
  | 8 => ("CrumblingWallModel", "before", "[I", true)
  | 9 => ("CrumblingWallModel", "changes", "I", false)
  | 10 => ("CrumblingWallModel", "firstChange", "I", false)
  | 11 => ("CrumblingWallModel", "isSaved", "Z", false)
  | 12 => ("CrumblingWallModel", "crumbled", "[I", true)
  | 13 => ("CrumblingWallModel", "crumbledMany", "I", false)
  | 14 => ("CrumblingWallModel", "best", "[I", true)
  | 15 => ("CrumblingWallModel", "rest", "[I", true)
  | 16 => ("CrumblingWallModel", "rows", "[F", true)
  | 17 => ("CrumblingWallModel", "rowMany", "[I", true)
  | 18 => ("CrumblingWallModel", "isThere", "[Z", true)
  | 19 => ("CrumblingWallModel", "racked", "[I", true)
  | 20 => ("CrumblingWallModel", "rackKind", "I", false)
  | 21 => ("CrumblingWallModel", "text", "[C", true)
  | 22 => ("CrumblingWallModel", "sign", "[I", true)
  | 23 => ("CrumblingWallModel", "who", "[I", true)
  | 24 => ("CrumblingWallModel", "which", "[I", true)
  | 25 => ("CrumblingWallModel", "length", "I", false)
  | 26 => ("CrumblingWallModel", "at", "I", false)
  | 27 => ("CrumblingWallModel", "steps", "I", false)
  | 28 => ("CrumblingWallModel", "errorAt", "I", false)
  | _ => ("CrumblingWallModel", "failure", "I", false)
def tyX5 : Nat → FieldType := fun k => match k with
  | 0 => .int
  | 1 => .int
  | 2 => .int
  | 3 => .int
  | 4 => .int
  | 5 => .array .int
  | 6 => .array .int
  | 7 => .array .int
  | 8 => .array .int
  | 9 => .int
  | 10 => .int
  | 11 => .boolean
  | 12 => .array .int
  | 13 => .int
  | 14 => .array .int
  | 15 => .array .int
  | 16 => .array .float
  | 17 => .array .int
  | 18 => .array .boolean
  | 19 => .array .int
  | 20 => .int
  | 21 => .array .char
  | 22 => .array .int
  | 23 => .array .int
  | 24 => .array .int
  | 25 => .int
  | 26 => .int
  | 27 => .int
  | 28 => .int
  | _ => .int
abbrev wsX50 : List Cond := u_ws RX5 TX5 30
set_option maxRecDepth 100000 in
theorem nmX5 : ∀ a, a < 30 → ∀ b, b < 30 → a ≠ b → (TX5 a).2.1 ≠ (TX5 b).2.1 := by decide +kernel
set_option maxRecDepth 100000 in
theorem tyX5_ok : ∀ k, k < 30 → parseFieldDescriptor (TX5 k).2.2.1 = some (tyX5 k) := by decide +kernel
abbrev cX5_init : ByteArray := prog_25_method_1_code
def yX5_init : MethodName := ⟨RX5, "<init>", "()V"⟩
def dkwX5_init_9 : List UInt8 := [162, 0, 16, 42, 180, 0, 42, 27, 2, 79, 132, 1, 1, 167, 255, 240, 177]
abbrev dktX5_init_9 : List UInt8 := dkwX5_init_9 ++ []
def dkwX5_init_8 : List UInt8 := [16, 125, 6, 27, 104, 96, 5, 96, 16, 20, 79, 132, 1, 1, 167, 255, 221, 3, 60, 27, 16, 6]
abbrev dktX5_init_8 : List UInt8 := dkwX5_init_8 ++ dktX5_init_9
def dkwX5_init_7 : List UInt8 := [79, 3, 60, 27, 5, 162, 0, 36, 42, 180, 0, 7, 16, 125, 6, 27, 104, 96, 2, 79, 42, 180, 0, 7]
abbrev dktX5_init_7 : List UInt8 := dkwX5_init_7 ++ dktX5_init_8
def dkwX5_init_6 : List UInt8 := [180, 0, 7, 16, 101, 6, 79, 42, 180, 0, 7, 16, 102, 16, 21, 79, 42, 180, 0, 7, 16, 103, 16, 30]
abbrev dktX5_init_6 : List UInt8 := dkwX5_init_6 ++ dktX5_init_7
def dkwX5_init_5 : List UInt8 := [42, 16, 31, 188, 10, 181, 0, 56, 42, 16, 31, 188, 10, 181, 0, 59, 42, 2, 181, 0, 62, 42]
abbrev dktX5_init_5 : List UInt8 := dkwX5_init_5 ++ dktX5_init_6
def dkwX5_init_4 : List UInt8 := [181, 0, 42, 42, 7, 181, 0, 45, 42, 16, 60, 188, 5, 181, 0, 49, 42, 16, 31, 188, 10, 181, 0, 53]
abbrev dktX5_init_4 : List UInt8 := dkwX5_init_4 ++ dktX5_init_5
def dkwX5_init_3 : List UInt8 := [181, 0, 31, 42, 6, 188, 10, 181, 0, 35, 42, 6, 188, 4, 181, 0, 38, 42, 16, 6, 188, 10]
abbrev dktX5_init_3 : List UInt8 := dkwX5_init_3 ++ dktX5_init_4
def dkwX5_init_2 : List UInt8 := [181, 0, 22, 42, 16, 21, 188, 10, 181, 0, 25, 42, 16, 21, 188, 10, 181, 0, 28, 42, 16, 48, 188, 6]
abbrev dktX5_init_2 : List UInt8 := dkwX5_init_2 ++ dktX5_init_3
def dkwX5_init_1 : List UInt8 := [17, 0, 170, 188, 10, 181, 0, 16, 42, 17, 0, 170, 188, 10, 181, 0, 19, 42, 16, 24, 188, 10]
abbrev dktX5_init_1 : List UInt8 := dkwX5_init_1 ++ dktX5_init_2
def dkwX5_init_0 : List UInt8 := [42, 183, 0, 1, 42, 17, 0, 170, 188, 10, 181, 0, 7, 42, 17, 5, 80, 188, 10, 181, 0, 13, 42]
abbrev dktX5_init_0 : List UInt8 := dkwX5_init_0 ++ dktX5_init_1
theorem dksX5_init_0 : cX5_init.data.toList.drop 0 = dktX5_init_0 := by decide +kernel
theorem dksX5_init_1 : cX5_init.data.toList.drop 23 = dktX5_init_1 := dk_seg dksX5_init_0 23 rfl rfl
theorem dksX5_init_2 : cX5_init.data.toList.drop 45 = dktX5_init_2 := dk_seg dksX5_init_1 22 rfl rfl
theorem dksX5_init_3 : cX5_init.data.toList.drop 69 = dktX5_init_3 := dk_seg dksX5_init_2 24 rfl rfl
theorem dksX5_init_4 : cX5_init.data.toList.drop 91 = dktX5_init_4 := dk_seg dksX5_init_3 22 rfl rfl
theorem dksX5_init_5 : cX5_init.data.toList.drop 115 = dktX5_init_5 := dk_seg dksX5_init_4 24 rfl rfl
theorem dksX5_init_6 : cX5_init.data.toList.drop 137 = dktX5_init_6 := dk_seg dksX5_init_5 22 rfl rfl
theorem dksX5_init_7 : cX5_init.data.toList.drop 161 = dktX5_init_7 := dk_seg dksX5_init_6 24 rfl rfl
theorem dksX5_init_8 : cX5_init.data.toList.drop 185 = dktX5_init_8 := dk_seg dksX5_init_7 24 rfl rfl
theorem dksX5_init_9 : cX5_init.data.toList.drop 207 = dktX5_init_9 := dk_seg dksX5_init_8 22 rfl rfl
theorem dX5_init_0 : decode cX5_init 0 = .ok (.aload_n 0, 1) := dk_42 (dk_at dksX5_init_0 0 rfl rfl)
theorem dX5_init_1 : decode cX5_init 1 = .ok (.invokespecial 1, 3) := dk_183 0 1 (dk_at dksX5_init_0 1 rfl rfl)
theorem dX5_init_4 : decode cX5_init 4 = .ok (.aload_n 0, 1) := dk_42 (dk_at dksX5_init_0 4 rfl rfl)
theorem dX5_init_5 : decode cX5_init 5 = .ok (.sipush 170, 3) := dk_17 0 170 (dk_at dksX5_init_0 5 rfl rfl)
theorem dX5_init_8 : decode cX5_init 8 = .ok (.newarray .int, 2) := dk_188_10 (dk_at dksX5_init_0 8 rfl rfl)
theorem dX5_init_10 : decode cX5_init 10 = .ok (.putfield 7, 3) := dk_181 0 7 (dk_at dksX5_init_0 10 rfl rfl)
theorem dX5_init_13 : decode cX5_init 13 = .ok (.aload_n 0, 1) := dk_42 (dk_at dksX5_init_0 13 rfl rfl)
theorem dX5_init_14 : decode cX5_init 14 = .ok (.sipush 1360, 3) := dk_17 5 80 (dk_at dksX5_init_0 14 rfl rfl)
theorem dX5_init_17 : decode cX5_init 17 = .ok (.newarray .int, 2) := dk_188_10 (dk_at dksX5_init_0 17 rfl rfl)
theorem dX5_init_19 : decode cX5_init 19 = .ok (.putfield 13, 3) := dk_181 0 13 (dk_at dksX5_init_0 19 rfl rfl)
theorem dX5_init_22 : decode cX5_init 22 = .ok (.aload_n 0, 1) := dk_42 (dk_at dksX5_init_0 22 rfl rfl)
theorem dX5_init_23 : decode cX5_init 23 = .ok (.sipush 170, 3) := dk_17 0 170 (dk_at dksX5_init_1 0 rfl rfl)
theorem dX5_init_26 : decode cX5_init 26 = .ok (.newarray .int, 2) := dk_188_10 (dk_at dksX5_init_1 3 rfl rfl)
theorem dX5_init_28 : decode cX5_init 28 = .ok (.putfield 16, 3) := dk_181 0 16 (dk_at dksX5_init_1 5 rfl rfl)
theorem dX5_init_31 : decode cX5_init 31 = .ok (.aload_n 0, 1) := dk_42 (dk_at dksX5_init_1 8 rfl rfl)
theorem dX5_init_32 : decode cX5_init 32 = .ok (.sipush 170, 3) := dk_17 0 170 (dk_at dksX5_init_1 9 rfl rfl)
theorem dX5_init_35 : decode cX5_init 35 = .ok (.newarray .int, 2) := dk_188_10 (dk_at dksX5_init_1 12 rfl rfl)
theorem dX5_init_37 : decode cX5_init 37 = .ok (.putfield 19, 3) := dk_181 0 19 (dk_at dksX5_init_1 14 rfl rfl)
theorem dX5_init_40 : decode cX5_init 40 = .ok (.aload_n 0, 1) := dk_42 (dk_at dksX5_init_1 17 rfl rfl)
theorem dX5_init_41 : decode cX5_init 41 = .ok (.bipush 24, 2) := dk_16 24 (dk_at dksX5_init_1 18 rfl rfl)
theorem dX5_init_43 : decode cX5_init 43 = .ok (.newarray .int, 2) := dk_188_10 (dk_at dksX5_init_1 20 rfl rfl)
theorem dX5_init_45 : decode cX5_init 45 = .ok (.putfield 22, 3) := dk_181 0 22 (dk_at dksX5_init_2 0 rfl rfl)
theorem dX5_init_48 : decode cX5_init 48 = .ok (.aload_n 0, 1) := dk_42 (dk_at dksX5_init_2 3 rfl rfl)
theorem dX5_init_49 : decode cX5_init 49 = .ok (.bipush 21, 2) := dk_16 21 (dk_at dksX5_init_2 4 rfl rfl)
theorem dX5_init_51 : decode cX5_init 51 = .ok (.newarray .int, 2) := dk_188_10 (dk_at dksX5_init_2 6 rfl rfl)
theorem dX5_init_53 : decode cX5_init 53 = .ok (.putfield 25, 3) := dk_181 0 25 (dk_at dksX5_init_2 8 rfl rfl)
theorem dX5_init_56 : decode cX5_init 56 = .ok (.aload_n 0, 1) := dk_42 (dk_at dksX5_init_2 11 rfl rfl)
theorem dX5_init_57 : decode cX5_init 57 = .ok (.bipush 21, 2) := dk_16 21 (dk_at dksX5_init_2 12 rfl rfl)
theorem dX5_init_59 : decode cX5_init 59 = .ok (.newarray .int, 2) := dk_188_10 (dk_at dksX5_init_2 14 rfl rfl)
theorem dX5_init_61 : decode cX5_init 61 = .ok (.putfield 28, 3) := dk_181 0 28 (dk_at dksX5_init_2 16 rfl rfl)
theorem dX5_init_64 : decode cX5_init 64 = .ok (.aload_n 0, 1) := dk_42 (dk_at dksX5_init_2 19 rfl rfl)
theorem dX5_init_65 : decode cX5_init 65 = .ok (.bipush 48, 2) := dk_16 48 (dk_at dksX5_init_2 20 rfl rfl)
theorem dX5_init_67 : decode cX5_init 67 = .ok (.newarray .float, 2) := dk_188_6 (dk_at dksX5_init_2 22 rfl rfl)
theorem dX5_init_69 : decode cX5_init 69 = .ok (.putfield 31, 3) := dk_181 0 31 (dk_at dksX5_init_3 0 rfl rfl)
theorem dX5_init_72 : decode cX5_init 72 = .ok (.aload_n 0, 1) := dk_42 (dk_at dksX5_init_3 3 rfl rfl)
theorem dX5_init_73 : decode cX5_init 73 = .ok (.iconst 3, 1) := dk_6 (dk_at dksX5_init_3 4 rfl rfl)
theorem dX5_init_74 : decode cX5_init 74 = .ok (.newarray .int, 2) := dk_188_10 (dk_at dksX5_init_3 5 rfl rfl)
theorem dX5_init_76 : decode cX5_init 76 = .ok (.putfield 35, 3) := dk_181 0 35 (dk_at dksX5_init_3 7 rfl rfl)
theorem dX5_init_79 : decode cX5_init 79 = .ok (.aload_n 0, 1) := dk_42 (dk_at dksX5_init_3 10 rfl rfl)
theorem dX5_init_80 : decode cX5_init 80 = .ok (.iconst 3, 1) := dk_6 (dk_at dksX5_init_3 11 rfl rfl)
theorem dX5_init_81 : decode cX5_init 81 = .ok (.newarray .boolean, 2) := dk_188_4 (dk_at dksX5_init_3 12 rfl rfl)
theorem dX5_init_83 : decode cX5_init 83 = .ok (.putfield 38, 3) := dk_181 0 38 (dk_at dksX5_init_3 14 rfl rfl)
theorem dX5_init_86 : decode cX5_init 86 = .ok (.aload_n 0, 1) := dk_42 (dk_at dksX5_init_3 17 rfl rfl)
theorem dX5_init_87 : decode cX5_init 87 = .ok (.bipush 6, 2) := dk_16 6 (dk_at dksX5_init_3 18 rfl rfl)
theorem dX5_init_89 : decode cX5_init 89 = .ok (.newarray .int, 2) := dk_188_10 (dk_at dksX5_init_3 20 rfl rfl)
theorem dX5_init_91 : decode cX5_init 91 = .ok (.putfield 42, 3) := dk_181 0 42 (dk_at dksX5_init_4 0 rfl rfl)
theorem dX5_init_94 : decode cX5_init 94 = .ok (.aload_n 0, 1) := dk_42 (dk_at dksX5_init_4 3 rfl rfl)
theorem dX5_init_95 : decode cX5_init 95 = .ok (.iconst 4, 1) := dk_7 (dk_at dksX5_init_4 4 rfl rfl)
theorem dX5_init_96 : decode cX5_init 96 = .ok (.putfield 45, 3) := dk_181 0 45 (dk_at dksX5_init_4 5 rfl rfl)
theorem dX5_init_99 : decode cX5_init 99 = .ok (.aload_n 0, 1) := dk_42 (dk_at dksX5_init_4 8 rfl rfl)
theorem dX5_init_100 : decode cX5_init 100 = .ok (.bipush 60, 2) := dk_16 60 (dk_at dksX5_init_4 9 rfl rfl)
theorem dX5_init_102 : decode cX5_init 102 = .ok (.newarray .char, 2) := dk_188_5 (dk_at dksX5_init_4 11 rfl rfl)
theorem dX5_init_104 : decode cX5_init 104 = .ok (.putfield 49, 3) := dk_181 0 49 (dk_at dksX5_init_4 13 rfl rfl)
theorem dX5_init_107 : decode cX5_init 107 = .ok (.aload_n 0, 1) := dk_42 (dk_at dksX5_init_4 16 rfl rfl)
theorem dX5_init_108 : decode cX5_init 108 = .ok (.bipush 31, 2) := dk_16 31 (dk_at dksX5_init_4 17 rfl rfl)
theorem dX5_init_110 : decode cX5_init 110 = .ok (.newarray .int, 2) := dk_188_10 (dk_at dksX5_init_4 19 rfl rfl)
theorem dX5_init_112 : decode cX5_init 112 = .ok (.putfield 53, 3) := dk_181 0 53 (dk_at dksX5_init_4 21 rfl rfl)
theorem dX5_init_115 : decode cX5_init 115 = .ok (.aload_n 0, 1) := dk_42 (dk_at dksX5_init_5 0 rfl rfl)
theorem dX5_init_116 : decode cX5_init 116 = .ok (.bipush 31, 2) := dk_16 31 (dk_at dksX5_init_5 1 rfl rfl)
theorem dX5_init_118 : decode cX5_init 118 = .ok (.newarray .int, 2) := dk_188_10 (dk_at dksX5_init_5 3 rfl rfl)
theorem dX5_init_120 : decode cX5_init 120 = .ok (.putfield 56, 3) := dk_181 0 56 (dk_at dksX5_init_5 5 rfl rfl)
theorem dX5_init_123 : decode cX5_init 123 = .ok (.aload_n 0, 1) := dk_42 (dk_at dksX5_init_5 8 rfl rfl)
theorem dX5_init_124 : decode cX5_init 124 = .ok (.bipush 31, 2) := dk_16 31 (dk_at dksX5_init_5 9 rfl rfl)
theorem dX5_init_126 : decode cX5_init 126 = .ok (.newarray .int, 2) := dk_188_10 (dk_at dksX5_init_5 11 rfl rfl)
theorem dX5_init_128 : decode cX5_init 128 = .ok (.putfield 59, 3) := dk_181 0 59 (dk_at dksX5_init_5 13 rfl rfl)
theorem dX5_init_131 : decode cX5_init 131 = .ok (.aload_n 0, 1) := dk_42 (dk_at dksX5_init_5 16 rfl rfl)
theorem dX5_init_132 : decode cX5_init 132 = .ok (.iconst (-1), 1) := dk_2 (dk_at dksX5_init_5 17 rfl rfl)
theorem dX5_init_133 : decode cX5_init 133 = .ok (.putfield 62, 3) := dk_181 0 62 (dk_at dksX5_init_5 18 rfl rfl)
theorem dX5_init_136 : decode cX5_init 136 = .ok (.aload_n 0, 1) := dk_42 (dk_at dksX5_init_5 21 rfl rfl)
theorem dX5_init_137 : decode cX5_init 137 = .ok (.getfield 7, 3) := dk_180 0 7 (dk_at dksX5_init_6 0 rfl rfl)
theorem dX5_init_140 : decode cX5_init 140 = .ok (.bipush 101, 2) := dk_16 101 (dk_at dksX5_init_6 3 rfl rfl)
theorem dX5_init_142 : decode cX5_init 142 = .ok (.iconst 3, 1) := dk_6 (dk_at dksX5_init_6 5 rfl rfl)
theorem dX5_init_143 : decode cX5_init 143 = .ok (.iastore, 1) := dk_79 (dk_at dksX5_init_6 6 rfl rfl)
theorem dX5_init_144 : decode cX5_init 144 = .ok (.aload_n 0, 1) := dk_42 (dk_at dksX5_init_6 7 rfl rfl)
theorem dX5_init_145 : decode cX5_init 145 = .ok (.getfield 7, 3) := dk_180 0 7 (dk_at dksX5_init_6 8 rfl rfl)
theorem dX5_init_148 : decode cX5_init 148 = .ok (.bipush 102, 2) := dk_16 102 (dk_at dksX5_init_6 11 rfl rfl)
theorem dX5_init_150 : decode cX5_init 150 = .ok (.bipush 21, 2) := dk_16 21 (dk_at dksX5_init_6 13 rfl rfl)
theorem dX5_init_152 : decode cX5_init 152 = .ok (.iastore, 1) := dk_79 (dk_at dksX5_init_6 15 rfl rfl)
theorem dX5_init_153 : decode cX5_init 153 = .ok (.aload_n 0, 1) := dk_42 (dk_at dksX5_init_6 16 rfl rfl)
theorem dX5_init_154 : decode cX5_init 154 = .ok (.getfield 7, 3) := dk_180 0 7 (dk_at dksX5_init_6 17 rfl rfl)
theorem dX5_init_157 : decode cX5_init 157 = .ok (.bipush 103, 2) := dk_16 103 (dk_at dksX5_init_6 20 rfl rfl)
theorem dX5_init_159 : decode cX5_init 159 = .ok (.bipush 30, 2) := dk_16 30 (dk_at dksX5_init_6 22 rfl rfl)
theorem dX5_init_161 : decode cX5_init 161 = .ok (.iastore, 1) := dk_79 (dk_at dksX5_init_7 0 rfl rfl)
theorem dX5_init_162 : decode cX5_init 162 = .ok (.iconst 0, 1) := dk_3 (dk_at dksX5_init_7 1 rfl rfl)
theorem dX5_init_163 : decode cX5_init 163 = .ok (.istore_n 1, 1) := dk_60 (dk_at dksX5_init_7 2 rfl rfl)
theorem dX5_init_164 : decode cX5_init 164 = .ok (.iload_n 1, 1) := dk_27 (dk_at dksX5_init_7 3 rfl rfl)
theorem dX5_init_165 : decode cX5_init 165 = .ok (.iconst 2, 1) := dk_5 (dk_at dksX5_init_7 4 rfl rfl)
theorem dX5_init_166 : decode cX5_init 166 = .ok (.if_icmp .ge 36, 3) := dk_162 0 36 (dk_at dksX5_init_7 5 rfl rfl)
theorem dX5_init_169 : decode cX5_init 169 = .ok (.aload_n 0, 1) := dk_42 (dk_at dksX5_init_7 8 rfl rfl)
theorem dX5_init_170 : decode cX5_init 170 = .ok (.getfield 7, 3) := dk_180 0 7 (dk_at dksX5_init_7 9 rfl rfl)
theorem dX5_init_173 : decode cX5_init 173 = .ok (.bipush 125, 2) := dk_16 125 (dk_at dksX5_init_7 12 rfl rfl)
theorem dX5_init_175 : decode cX5_init 175 = .ok (.iconst 3, 1) := dk_6 (dk_at dksX5_init_7 14 rfl rfl)
theorem dX5_init_176 : decode cX5_init 176 = .ok (.iload_n 1, 1) := dk_27 (dk_at dksX5_init_7 15 rfl rfl)
theorem dX5_init_177 : decode cX5_init 177 = .ok (.imul, 1) := dk_104 (dk_at dksX5_init_7 16 rfl rfl)
theorem dX5_init_178 : decode cX5_init 178 = .ok (.iadd, 1) := dk_96 (dk_at dksX5_init_7 17 rfl rfl)
theorem dX5_init_179 : decode cX5_init 179 = .ok (.iconst (-1), 1) := dk_2 (dk_at dksX5_init_7 18 rfl rfl)
theorem dX5_init_180 : decode cX5_init 180 = .ok (.iastore, 1) := dk_79 (dk_at dksX5_init_7 19 rfl rfl)
theorem dX5_init_181 : decode cX5_init 181 = .ok (.aload_n 0, 1) := dk_42 (dk_at dksX5_init_7 20 rfl rfl)
theorem dX5_init_182 : decode cX5_init 182 = .ok (.getfield 7, 3) := dk_180 0 7 (dk_at dksX5_init_7 21 rfl rfl)
theorem dX5_init_185 : decode cX5_init 185 = .ok (.bipush 125, 2) := dk_16 125 (dk_at dksX5_init_8 0 rfl rfl)
theorem dX5_init_187 : decode cX5_init 187 = .ok (.iconst 3, 1) := dk_6 (dk_at dksX5_init_8 2 rfl rfl)
theorem dX5_init_188 : decode cX5_init 188 = .ok (.iload_n 1, 1) := dk_27 (dk_at dksX5_init_8 3 rfl rfl)
theorem dX5_init_189 : decode cX5_init 189 = .ok (.imul, 1) := dk_104 (dk_at dksX5_init_8 4 rfl rfl)
theorem dX5_init_190 : decode cX5_init 190 = .ok (.iadd, 1) := dk_96 (dk_at dksX5_init_8 5 rfl rfl)
theorem dX5_init_191 : decode cX5_init 191 = .ok (.iconst 2, 1) := dk_5 (dk_at dksX5_init_8 6 rfl rfl)
theorem dX5_init_192 : decode cX5_init 192 = .ok (.iadd, 1) := dk_96 (dk_at dksX5_init_8 7 rfl rfl)
theorem dX5_init_193 : decode cX5_init 193 = .ok (.bipush 20, 2) := dk_16 20 (dk_at dksX5_init_8 8 rfl rfl)
theorem dX5_init_195 : decode cX5_init 195 = .ok (.iastore, 1) := dk_79 (dk_at dksX5_init_8 10 rfl rfl)
theorem dX5_init_196 : decode cX5_init 196 = .ok (.iinc 1 1, 3) := dk_132 1 1 (dk_at dksX5_init_8 11 rfl rfl)
theorem dX5_init_199 : decode cX5_init 199 = .ok (.goto (-35), 3) := dk_167 255 221 (dk_at dksX5_init_8 14 rfl rfl)
theorem dX5_init_202 : decode cX5_init 202 = .ok (.iconst 0, 1) := dk_3 (dk_at dksX5_init_8 17 rfl rfl)
theorem dX5_init_203 : decode cX5_init 203 = .ok (.istore_n 1, 1) := dk_60 (dk_at dksX5_init_8 18 rfl rfl)
theorem dX5_init_204 : decode cX5_init 204 = .ok (.iload_n 1, 1) := dk_27 (dk_at dksX5_init_8 19 rfl rfl)
theorem dX5_init_205 : decode cX5_init 205 = .ok (.bipush 6, 2) := dk_16 6 (dk_at dksX5_init_8 20 rfl rfl)
theorem dX5_init_207 : decode cX5_init 207 = .ok (.if_icmp .ge 16, 3) := dk_162 0 16 (dk_at dksX5_init_9 0 rfl rfl)
theorem dX5_init_210 : decode cX5_init 210 = .ok (.aload_n 0, 1) := dk_42 (dk_at dksX5_init_9 3 rfl rfl)
theorem dX5_init_211 : decode cX5_init 211 = .ok (.getfield 42, 3) := dk_180 0 42 (dk_at dksX5_init_9 4 rfl rfl)
theorem dX5_init_214 : decode cX5_init 214 = .ok (.iload_n 1, 1) := dk_27 (dk_at dksX5_init_9 7 rfl rfl)
theorem dX5_init_215 : decode cX5_init 215 = .ok (.iconst (-1), 1) := dk_2 (dk_at dksX5_init_9 8 rfl rfl)
theorem dX5_init_216 : decode cX5_init 216 = .ok (.iastore, 1) := dk_79 (dk_at dksX5_init_9 9 rfl rfl)
theorem dX5_init_217 : decode cX5_init 217 = .ok (.iinc 1 1, 3) := dk_132 1 1 (dk_at dksX5_init_9 10 rfl rfl)
theorem dX5_init_220 : decode cX5_init 220 = .ok (.goto (-16), 3) := dk_167 255 240 (dk_at dksX5_init_9 13 rfl rfl)
theorem dX5_init_223 : decode cX5_init 223 = .ok (.return_, 1) := dk_177 (dk_at dksX5_init_9 16 rfl rfl)
abbrev cX5_thrown : ByteArray := prog_25_method_2_code
def yX5_thrown : MethodName := ⟨RX5, "thrown", "()I"⟩
theorem dX5_thrown_0 : decode cX5_thrown 0 = .ok (.aload_n 0, 1) := by decide +kernel
theorem dX5_thrown_1 : decode cX5_thrown 1 = .ok (.getfield 65, 3) := by decide +kernel
theorem dX5_thrown_4 : decode cX5_thrown 4 = .ok (.ireturn, 1) := by decide +kernel
abbrev cX5_hold : ByteArray := prog_25_method_30_code
def yX5_hold : MethodName := ⟨RX5, "hold", "(IIII)I"⟩
def dkwX5_hold_7 : List UInt8 := [184, 0, 90, 21, 4, 79, 42, 180, 0, 7, 21, 6, 7, 184, 0, 90, 3, 79, 21, 6, 172]
abbrev dktX5_hold_7 : List UInt8 := dkwX5_hold_7 ++ []
def dkwX5_hold_6 : List UInt8 := [184, 0, 90, 28, 79, 42, 180, 0, 7, 21, 6, 5, 184, 0, 90, 29, 79, 42, 180, 0, 7, 21, 6, 6]
abbrev dktX5_hold_6 : List UInt8 := dkwX5_hold_6 ++ dktX5_hold_7
def dkwX5_hold_5 : List UInt8 := [92, 46, 4, 96, 79, 42, 180, 0, 7, 21, 6, 3, 184, 0, 90, 27, 79, 42, 180, 0, 7, 21, 6, 4]
abbrev dktX5_hold_5 : List UInt8 := dkwX5_hold_5 ++ dktX5_hold_6
def dkwX5_hold_4 : List UInt8 := [181, 0, 65, 42, 182, 0, 136, 42, 182, 0, 139, 42, 180, 0, 7, 3, 46, 54, 6, 42, 180, 0, 7, 3]
abbrev dktX5_hold_4 : List UInt8 := dkwX5_hold_4 ++ dktX5_hold_5
def dkwX5_hold_3 : List UInt8 := [21, 5, 155, 0, 20, 42, 16, 16, 21, 5, 182, 0, 129, 153, 0, 9, 42, 6, 182, 0, 133, 172, 42, 3]
abbrev dktX5_hold_3 : List UInt8 := dkwX5_hold_3 ++ dktX5_hold_4
def dkwX5_hold_2 : List UInt8 := [180, 0, 7, 3, 46, 16, 20, 160, 0, 9, 42, 5, 182, 0, 80, 172, 42, 27, 28, 182, 0, 126, 54, 5]
abbrev dktX5_hold_2 : List UInt8 := dkwX5_hold_2 ++ dktX5_hold_3
def dkwX5_hold_1 : List UInt8 := [184, 0, 97, 153, 0, 14, 21, 4, 4, 16, 9, 184, 0, 97, 154, 0, 9, 42, 4, 182, 0, 80, 172, 42]
abbrev dktX5_hold_1 : List UInt8 := dkwX5_hold_1 ++ dktX5_hold_2
def dkwX5_hold_0 : List UInt8 := [27, 3, 16, 9, 184, 0, 97, 153, 0, 33, 28, 4, 16, 20, 184, 0, 97, 153, 0, 23, 29, 3, 6]
abbrev dktX5_hold_0 : List UInt8 := dkwX5_hold_0 ++ dktX5_hold_1
theorem dksX5_hold_0 : cX5_hold.data.toList.drop 0 = dktX5_hold_0 := by decide +kernel
theorem dksX5_hold_1 : cX5_hold.data.toList.drop 23 = dktX5_hold_1 := dk_seg dksX5_hold_0 23 rfl rfl
theorem dksX5_hold_2 : cX5_hold.data.toList.drop 47 = dktX5_hold_2 := dk_seg dksX5_hold_1 24 rfl rfl
theorem dksX5_hold_3 : cX5_hold.data.toList.drop 71 = dktX5_hold_3 := dk_seg dksX5_hold_2 24 rfl rfl
theorem dksX5_hold_4 : cX5_hold.data.toList.drop 95 = dktX5_hold_4 := dk_seg dksX5_hold_3 24 rfl rfl
theorem dksX5_hold_5 : cX5_hold.data.toList.drop 119 = dktX5_hold_5 := dk_seg dksX5_hold_4 24 rfl rfl
theorem dksX5_hold_6 : cX5_hold.data.toList.drop 143 = dktX5_hold_6 := dk_seg dksX5_hold_5 24 rfl rfl
theorem dksX5_hold_7 : cX5_hold.data.toList.drop 167 = dktX5_hold_7 := dk_seg dksX5_hold_6 24 rfl rfl
theorem dX5_hold_0 : decode cX5_hold 0 = .ok (.iload_n 1, 1) := dk_27 (dk_at dksX5_hold_0 0 rfl rfl)
theorem dX5_hold_1 : decode cX5_hold 1 = .ok (.iconst 0, 1) := dk_3 (dk_at dksX5_hold_0 1 rfl rfl)
theorem dX5_hold_2 : decode cX5_hold 2 = .ok (.bipush 9, 2) := dk_16 9 (dk_at dksX5_hold_0 2 rfl rfl)
theorem dX5_hold_4 : decode cX5_hold 4 = .ok (.invokestatic 97, 3) := dk_184 0 97 (dk_at dksX5_hold_0 4 rfl rfl)
theorem dX5_hold_7 : decode cX5_hold 7 = .ok (.ifCond .eq 33, 3) := dk_153 0 33 (dk_at dksX5_hold_0 7 rfl rfl)
theorem dX5_hold_10 : decode cX5_hold 10 = .ok (.iload_n 2, 1) := dk_28 (dk_at dksX5_hold_0 10 rfl rfl)
theorem dX5_hold_11 : decode cX5_hold 11 = .ok (.iconst 1, 1) := dk_4 (dk_at dksX5_hold_0 11 rfl rfl)
theorem dX5_hold_12 : decode cX5_hold 12 = .ok (.bipush 20, 2) := dk_16 20 (dk_at dksX5_hold_0 12 rfl rfl)
theorem dX5_hold_14 : decode cX5_hold 14 = .ok (.invokestatic 97, 3) := dk_184 0 97 (dk_at dksX5_hold_0 14 rfl rfl)
theorem dX5_hold_17 : decode cX5_hold 17 = .ok (.ifCond .eq 23, 3) := dk_153 0 23 (dk_at dksX5_hold_0 17 rfl rfl)
theorem dX5_hold_20 : decode cX5_hold 20 = .ok (.iload_n 3, 1) := dk_29 (dk_at dksX5_hold_0 20 rfl rfl)
theorem dX5_hold_21 : decode cX5_hold 21 = .ok (.iconst 0, 1) := dk_3 (dk_at dksX5_hold_0 21 rfl rfl)
theorem dX5_hold_22 : decode cX5_hold 22 = .ok (.iconst 3, 1) := dk_6 (dk_at dksX5_hold_0 22 rfl rfl)
theorem dX5_hold_23 : decode cX5_hold 23 = .ok (.invokestatic 97, 3) := dk_184 0 97 (dk_at dksX5_hold_1 0 rfl rfl)
theorem dX5_hold_26 : decode cX5_hold 26 = .ok (.ifCond .eq 14, 3) := dk_153 0 14 (dk_at dksX5_hold_1 3 rfl rfl)
theorem dX5_hold_29 : decode cX5_hold 29 = .ok (.iload 4, 2) := dk_21 4 (dk_at dksX5_hold_1 6 rfl rfl)
theorem dX5_hold_31 : decode cX5_hold 31 = .ok (.iconst 1, 1) := dk_4 (dk_at dksX5_hold_1 8 rfl rfl)
theorem dX5_hold_32 : decode cX5_hold 32 = .ok (.bipush 9, 2) := dk_16 9 (dk_at dksX5_hold_1 9 rfl rfl)
theorem dX5_hold_34 : decode cX5_hold 34 = .ok (.invokestatic 97, 3) := dk_184 0 97 (dk_at dksX5_hold_1 11 rfl rfl)
theorem dX5_hold_37 : decode cX5_hold 37 = .ok (.ifCond .ne 9, 3) := dk_154 0 9 (dk_at dksX5_hold_1 14 rfl rfl)
theorem dX5_hold_40 : decode cX5_hold 40 = .ok (.aload_n 0, 1) := dk_42 (dk_at dksX5_hold_1 17 rfl rfl)
theorem dX5_hold_41 : decode cX5_hold 41 = .ok (.iconst 1, 1) := dk_4 (dk_at dksX5_hold_1 18 rfl rfl)
theorem dX5_hold_42 : decode cX5_hold 42 = .ok (.invokevirtual 80, 3) := dk_182 0 80 (dk_at dksX5_hold_1 19 rfl rfl)
theorem dX5_hold_45 : decode cX5_hold 45 = .ok (.ireturn, 1) := dk_172 (dk_at dksX5_hold_1 22 rfl rfl)
theorem dX5_hold_46 : decode cX5_hold 46 = .ok (.aload_n 0, 1) := dk_42 (dk_at dksX5_hold_1 23 rfl rfl)
theorem dX5_hold_47 : decode cX5_hold 47 = .ok (.getfield 7, 3) := dk_180 0 7 (dk_at dksX5_hold_2 0 rfl rfl)
theorem dX5_hold_50 : decode cX5_hold 50 = .ok (.iconst 0, 1) := dk_3 (dk_at dksX5_hold_2 3 rfl rfl)
theorem dX5_hold_51 : decode cX5_hold 51 = .ok (.iaload, 1) := dk_46 (dk_at dksX5_hold_2 4 rfl rfl)
theorem dX5_hold_52 : decode cX5_hold 52 = .ok (.bipush 20, 2) := dk_16 20 (dk_at dksX5_hold_2 5 rfl rfl)
theorem dX5_hold_54 : decode cX5_hold 54 = .ok (.if_icmp .ne 9, 3) := dk_160 0 9 (dk_at dksX5_hold_2 7 rfl rfl)
theorem dX5_hold_57 : decode cX5_hold 57 = .ok (.aload_n 0, 1) := dk_42 (dk_at dksX5_hold_2 10 rfl rfl)
theorem dX5_hold_58 : decode cX5_hold 58 = .ok (.iconst 2, 1) := dk_5 (dk_at dksX5_hold_2 11 rfl rfl)
theorem dX5_hold_59 : decode cX5_hold 59 = .ok (.invokevirtual 80, 3) := dk_182 0 80 (dk_at dksX5_hold_2 12 rfl rfl)
theorem dX5_hold_62 : decode cX5_hold 62 = .ok (.ireturn, 1) := dk_172 (dk_at dksX5_hold_2 15 rfl rfl)
theorem dX5_hold_63 : decode cX5_hold 63 = .ok (.aload_n 0, 1) := dk_42 (dk_at dksX5_hold_2 16 rfl rfl)
theorem dX5_hold_64 : decode cX5_hold 64 = .ok (.iload_n 1, 1) := dk_27 (dk_at dksX5_hold_2 17 rfl rfl)
theorem dX5_hold_65 : decode cX5_hold 65 = .ok (.iload_n 2, 1) := dk_28 (dk_at dksX5_hold_2 18 rfl rfl)
theorem dX5_hold_66 : decode cX5_hold 66 = .ok (.invokevirtual 126, 3) := dk_182 0 126 (dk_at dksX5_hold_2 19 rfl rfl)
theorem dX5_hold_69 : decode cX5_hold 69 = .ok (.istore 5, 2) := dk_54 5 (dk_at dksX5_hold_2 22 rfl rfl)
theorem dX5_hold_71 : decode cX5_hold 71 = .ok (.iload 5, 2) := dk_21 5 (dk_at dksX5_hold_3 0 rfl rfl)
theorem dX5_hold_73 : decode cX5_hold 73 = .ok (.ifCond .lt 20, 3) := dk_155 0 20 (dk_at dksX5_hold_3 2 rfl rfl)
theorem dX5_hold_76 : decode cX5_hold 76 = .ok (.aload_n 0, 1) := dk_42 (dk_at dksX5_hold_3 5 rfl rfl)
theorem dX5_hold_77 : decode cX5_hold 77 = .ok (.bipush 16, 2) := dk_16 16 (dk_at dksX5_hold_3 6 rfl rfl)
theorem dX5_hold_79 : decode cX5_hold 79 = .ok (.iload 5, 2) := dk_21 5 (dk_at dksX5_hold_3 8 rfl rfl)
theorem dX5_hold_81 : decode cX5_hold 81 = .ok (.invokevirtual 129, 3) := dk_182 0 129 (dk_at dksX5_hold_3 10 rfl rfl)
theorem dX5_hold_84 : decode cX5_hold 84 = .ok (.ifCond .eq 9, 3) := dk_153 0 9 (dk_at dksX5_hold_3 13 rfl rfl)
theorem dX5_hold_87 : decode cX5_hold 87 = .ok (.aload_n 0, 1) := dk_42 (dk_at dksX5_hold_3 16 rfl rfl)
theorem dX5_hold_88 : decode cX5_hold 88 = .ok (.iconst 3, 1) := dk_6 (dk_at dksX5_hold_3 17 rfl rfl)
theorem dX5_hold_89 : decode cX5_hold 89 = .ok (.invokevirtual 133, 3) := dk_182 0 133 (dk_at dksX5_hold_3 18 rfl rfl)
theorem dX5_hold_92 : decode cX5_hold 92 = .ok (.ireturn, 1) := dk_172 (dk_at dksX5_hold_3 21 rfl rfl)
theorem dX5_hold_93 : decode cX5_hold 93 = .ok (.aload_n 0, 1) := dk_42 (dk_at dksX5_hold_3 22 rfl rfl)
theorem dX5_hold_94 : decode cX5_hold 94 = .ok (.iconst 0, 1) := dk_3 (dk_at dksX5_hold_3 23 rfl rfl)
theorem dX5_hold_95 : decode cX5_hold 95 = .ok (.putfield 65, 3) := dk_181 0 65 (dk_at dksX5_hold_4 0 rfl rfl)
theorem dX5_hold_98 : decode cX5_hold 98 = .ok (.aload_n 0, 1) := dk_42 (dk_at dksX5_hold_4 3 rfl rfl)
theorem dX5_hold_99 : decode cX5_hold 99 = .ok (.invokevirtual 136, 3) := dk_182 0 136 (dk_at dksX5_hold_4 4 rfl rfl)
theorem dX5_hold_102 : decode cX5_hold 102 = .ok (.aload_n 0, 1) := dk_42 (dk_at dksX5_hold_4 7 rfl rfl)
theorem dX5_hold_103 : decode cX5_hold 103 = .ok (.invokevirtual 139, 3) := dk_182 0 139 (dk_at dksX5_hold_4 8 rfl rfl)
theorem dX5_hold_106 : decode cX5_hold 106 = .ok (.aload_n 0, 1) := dk_42 (dk_at dksX5_hold_4 11 rfl rfl)
theorem dX5_hold_107 : decode cX5_hold 107 = .ok (.getfield 7, 3) := dk_180 0 7 (dk_at dksX5_hold_4 12 rfl rfl)
theorem dX5_hold_110 : decode cX5_hold 110 = .ok (.iconst 0, 1) := dk_3 (dk_at dksX5_hold_4 15 rfl rfl)
theorem dX5_hold_111 : decode cX5_hold 111 = .ok (.iaload, 1) := dk_46 (dk_at dksX5_hold_4 16 rfl rfl)
theorem dX5_hold_112 : decode cX5_hold 112 = .ok (.istore 6, 2) := dk_54 6 (dk_at dksX5_hold_4 17 rfl rfl)
theorem dX5_hold_114 : decode cX5_hold 114 = .ok (.aload_n 0, 1) := dk_42 (dk_at dksX5_hold_4 19 rfl rfl)
theorem dX5_hold_115 : decode cX5_hold 115 = .ok (.getfield 7, 3) := dk_180 0 7 (dk_at dksX5_hold_4 20 rfl rfl)
theorem dX5_hold_118 : decode cX5_hold 118 = .ok (.iconst 0, 1) := dk_3 (dk_at dksX5_hold_4 23 rfl rfl)
theorem dX5_hold_119 : decode cX5_hold 119 = .ok (.dup2, 1) := dk_92 (dk_at dksX5_hold_5 0 rfl rfl)
theorem dX5_hold_120 : decode cX5_hold 120 = .ok (.iaload, 1) := dk_46 (dk_at dksX5_hold_5 1 rfl rfl)
theorem dX5_hold_121 : decode cX5_hold 121 = .ok (.iconst 1, 1) := dk_4 (dk_at dksX5_hold_5 2 rfl rfl)
theorem dX5_hold_122 : decode cX5_hold 122 = .ok (.iadd, 1) := dk_96 (dk_at dksX5_hold_5 3 rfl rfl)
theorem dX5_hold_123 : decode cX5_hold 123 = .ok (.iastore, 1) := dk_79 (dk_at dksX5_hold_5 4 rfl rfl)
theorem dX5_hold_124 : decode cX5_hold 124 = .ok (.aload_n 0, 1) := dk_42 (dk_at dksX5_hold_5 5 rfl rfl)
theorem dX5_hold_125 : decode cX5_hold 125 = .ok (.getfield 7, 3) := dk_180 0 7 (dk_at dksX5_hold_5 6 rfl rfl)
theorem dX5_hold_128 : decode cX5_hold 128 = .ok (.iload 6, 2) := dk_21 6 (dk_at dksX5_hold_5 9 rfl rfl)
theorem dX5_hold_130 : decode cX5_hold 130 = .ok (.iconst 0, 1) := dk_3 (dk_at dksX5_hold_5 11 rfl rfl)
theorem dX5_hold_131 : decode cX5_hold 131 = .ok (.invokestatic 90, 3) := dk_184 0 90 (dk_at dksX5_hold_5 12 rfl rfl)
theorem dX5_hold_134 : decode cX5_hold 134 = .ok (.iload_n 1, 1) := dk_27 (dk_at dksX5_hold_5 15 rfl rfl)
theorem dX5_hold_135 : decode cX5_hold 135 = .ok (.iastore, 1) := dk_79 (dk_at dksX5_hold_5 16 rfl rfl)
theorem dX5_hold_136 : decode cX5_hold 136 = .ok (.aload_n 0, 1) := dk_42 (dk_at dksX5_hold_5 17 rfl rfl)
theorem dX5_hold_137 : decode cX5_hold 137 = .ok (.getfield 7, 3) := dk_180 0 7 (dk_at dksX5_hold_5 18 rfl rfl)
theorem dX5_hold_140 : decode cX5_hold 140 = .ok (.iload 6, 2) := dk_21 6 (dk_at dksX5_hold_5 21 rfl rfl)
theorem dX5_hold_142 : decode cX5_hold 142 = .ok (.iconst 1, 1) := dk_4 (dk_at dksX5_hold_5 23 rfl rfl)
theorem dX5_hold_143 : decode cX5_hold 143 = .ok (.invokestatic 90, 3) := dk_184 0 90 (dk_at dksX5_hold_6 0 rfl rfl)
theorem dX5_hold_146 : decode cX5_hold 146 = .ok (.iload_n 2, 1) := dk_28 (dk_at dksX5_hold_6 3 rfl rfl)
theorem dX5_hold_147 : decode cX5_hold 147 = .ok (.iastore, 1) := dk_79 (dk_at dksX5_hold_6 4 rfl rfl)
theorem dX5_hold_148 : decode cX5_hold 148 = .ok (.aload_n 0, 1) := dk_42 (dk_at dksX5_hold_6 5 rfl rfl)
theorem dX5_hold_149 : decode cX5_hold 149 = .ok (.getfield 7, 3) := dk_180 0 7 (dk_at dksX5_hold_6 6 rfl rfl)
theorem dX5_hold_152 : decode cX5_hold 152 = .ok (.iload 6, 2) := dk_21 6 (dk_at dksX5_hold_6 9 rfl rfl)
theorem dX5_hold_154 : decode cX5_hold 154 = .ok (.iconst 2, 1) := dk_5 (dk_at dksX5_hold_6 11 rfl rfl)
theorem dX5_hold_155 : decode cX5_hold 155 = .ok (.invokestatic 90, 3) := dk_184 0 90 (dk_at dksX5_hold_6 12 rfl rfl)
theorem dX5_hold_158 : decode cX5_hold 158 = .ok (.iload_n 3, 1) := dk_29 (dk_at dksX5_hold_6 15 rfl rfl)
theorem dX5_hold_159 : decode cX5_hold 159 = .ok (.iastore, 1) := dk_79 (dk_at dksX5_hold_6 16 rfl rfl)
theorem dX5_hold_160 : decode cX5_hold 160 = .ok (.aload_n 0, 1) := dk_42 (dk_at dksX5_hold_6 17 rfl rfl)
theorem dX5_hold_161 : decode cX5_hold 161 = .ok (.getfield 7, 3) := dk_180 0 7 (dk_at dksX5_hold_6 18 rfl rfl)
theorem dX5_hold_164 : decode cX5_hold 164 = .ok (.iload 6, 2) := dk_21 6 (dk_at dksX5_hold_6 21 rfl rfl)
theorem dX5_hold_166 : decode cX5_hold 166 = .ok (.iconst 3, 1) := dk_6 (dk_at dksX5_hold_6 23 rfl rfl)
theorem dX5_hold_167 : decode cX5_hold 167 = .ok (.invokestatic 90, 3) := dk_184 0 90 (dk_at dksX5_hold_7 0 rfl rfl)
theorem dX5_hold_170 : decode cX5_hold 170 = .ok (.iload 4, 2) := dk_21 4 (dk_at dksX5_hold_7 3 rfl rfl)
theorem dX5_hold_172 : decode cX5_hold 172 = .ok (.iastore, 1) := dk_79 (dk_at dksX5_hold_7 5 rfl rfl)
theorem dX5_hold_173 : decode cX5_hold 173 = .ok (.aload_n 0, 1) := dk_42 (dk_at dksX5_hold_7 6 rfl rfl)
theorem dX5_hold_174 : decode cX5_hold 174 = .ok (.getfield 7, 3) := dk_180 0 7 (dk_at dksX5_hold_7 7 rfl rfl)
theorem dX5_hold_177 : decode cX5_hold 177 = .ok (.iload 6, 2) := dk_21 6 (dk_at dksX5_hold_7 10 rfl rfl)
theorem dX5_hold_179 : decode cX5_hold 179 = .ok (.iconst 4, 1) := dk_7 (dk_at dksX5_hold_7 12 rfl rfl)
theorem dX5_hold_180 : decode cX5_hold 180 = .ok (.invokestatic 90, 3) := dk_184 0 90 (dk_at dksX5_hold_7 13 rfl rfl)
theorem dX5_hold_183 : decode cX5_hold 183 = .ok (.iconst 0, 1) := dk_3 (dk_at dksX5_hold_7 16 rfl rfl)
theorem dX5_hold_184 : decode cX5_hold 184 = .ok (.iastore, 1) := dk_79 (dk_at dksX5_hold_7 17 rfl rfl)
theorem dX5_hold_185 : decode cX5_hold 185 = .ok (.iload 6, 2) := dk_21 6 (dk_at dksX5_hold_7 18 rfl rfl)
theorem dX5_hold_187 : decode cX5_hold 187 = .ok (.ireturn, 1) := dk_172 (dk_at dksX5_hold_7 20 rfl rfl)
abbrev cX5_isBetween : ByteArray := prog_25_method_6_code
def yX5_isBetween : MethodName := ⟨RX5, "isBetween", "(III)Z"⟩
def dkwX5_isBetween_0 : List UInt8 := [27, 26, 163, 0, 12, 26, 28, 163, 0, 7, 4, 167, 0, 4, 3, 172]
abbrev dktX5_isBetween_0 : List UInt8 := dkwX5_isBetween_0 ++ []
theorem dksX5_isBetween_0 : cX5_isBetween.data.toList.drop 0 = dktX5_isBetween_0 := by decide +kernel
theorem dX5_isBetween_0 : decode cX5_isBetween 0 = .ok (.iload_n 1, 1) := dk_27 (dk_at dksX5_isBetween_0 0 rfl rfl)
theorem dX5_isBetween_1 : decode cX5_isBetween 1 = .ok (.iload_n 0, 1) := dk_26 (dk_at dksX5_isBetween_0 1 rfl rfl)
theorem dX5_isBetween_2 : decode cX5_isBetween 2 = .ok (.if_icmp .gt 12, 3) := dk_163 0 12 (dk_at dksX5_isBetween_0 2 rfl rfl)
theorem dX5_isBetween_5 : decode cX5_isBetween 5 = .ok (.iload_n 0, 1) := dk_26 (dk_at dksX5_isBetween_0 5 rfl rfl)
theorem dX5_isBetween_6 : decode cX5_isBetween 6 = .ok (.iload_n 2, 1) := dk_28 (dk_at dksX5_isBetween_0 6 rfl rfl)
theorem dX5_isBetween_7 : decode cX5_isBetween 7 = .ok (.if_icmp .gt 7, 3) := dk_163 0 7 (dk_at dksX5_isBetween_0 7 rfl rfl)
theorem dX5_isBetween_10 : decode cX5_isBetween 10 = .ok (.iconst 1, 1) := dk_4 (dk_at dksX5_isBetween_0 10 rfl rfl)
theorem dX5_isBetween_11 : decode cX5_isBetween 11 = .ok (.goto 4, 3) := dk_167 0 4 (dk_at dksX5_isBetween_0 11 rfl rfl)
theorem dX5_isBetween_14 : decode cX5_isBetween 14 = .ok (.iconst 0, 1) := dk_3 (dk_at dksX5_isBetween_0 14 rfl rfl)
theorem dX5_isBetween_15 : decode cX5_isBetween 15 = .ok (.ireturn, 1) := dk_172 (dk_at dksX5_isBetween_0 15 rfl rfl)
abbrev cX5_fails : ByteArray := prog_25_method_3_code
def yX5_fails : MethodName := ⟨RX5, "fails", "(I)I"⟩
def dkwX5_fails_0 : List UInt8 := [42, 27, 181, 0, 65, 3, 172]
abbrev dktX5_fails_0 : List UInt8 := dkwX5_fails_0 ++ []
theorem dksX5_fails_0 : cX5_fails.data.toList.drop 0 = dktX5_fails_0 := by decide +kernel
theorem dX5_fails_0 : decode cX5_fails 0 = .ok (.aload_n 0, 1) := dk_42 (dk_at dksX5_fails_0 0 rfl rfl)
theorem dX5_fails_1 : decode cX5_fails 1 = .ok (.iload_n 1, 1) := dk_27 (dk_at dksX5_fails_0 1 rfl rfl)
theorem dX5_fails_2 : decode cX5_fails 2 = .ok (.putfield 65, 3) := dk_181 0 65 (dk_at dksX5_fails_0 2 rfl rfl)
theorem dX5_fails_5 : decode cX5_fails 5 = .ok (.iconst 0, 1) := dk_3 (dk_at dksX5_fails_0 5 rfl rfl)
theorem dX5_fails_6 : decode cX5_fails 6 = .ok (.ireturn, 1) := dk_172 (dk_at dksX5_fails_0 6 rfl rfl)
abbrev cX5_holdAt : ByteArray := prog_25_method_29_code
def yX5_holdAt : MethodName := ⟨RX5, "holdAt", "(II)I"⟩
def dkwX5_holdAt_1 : List UInt8 := [4, 182, 0, 101, 28, 160, 0, 5, 29, 172, 132, 3, 1, 167, 255, 221, 2, 172]
abbrev dktX5_holdAt_1 : List UInt8 := dkwX5_holdAt_1 ++ []
def dkwX5_holdAt_0 : List UInt8 := [3, 62, 29, 42, 180, 0, 7, 3, 46, 162, 0, 31, 42, 29, 3, 182, 0, 101, 27, 160, 0, 15, 42, 29]
abbrev dktX5_holdAt_0 : List UInt8 := dkwX5_holdAt_0 ++ dktX5_holdAt_1
theorem dksX5_holdAt_0 : cX5_holdAt.data.toList.drop 0 = dktX5_holdAt_0 := by decide +kernel
theorem dksX5_holdAt_1 : cX5_holdAt.data.toList.drop 24 = dktX5_holdAt_1 := dk_seg dksX5_holdAt_0 24 rfl rfl
theorem dX5_holdAt_0 : decode cX5_holdAt 0 = .ok (.iconst 0, 1) := dk_3 (dk_at dksX5_holdAt_0 0 rfl rfl)
theorem dX5_holdAt_1 : decode cX5_holdAt 1 = .ok (.istore_n 3, 1) := dk_62 (dk_at dksX5_holdAt_0 1 rfl rfl)
theorem dX5_holdAt_2 : decode cX5_holdAt 2 = .ok (.iload_n 3, 1) := dk_29 (dk_at dksX5_holdAt_0 2 rfl rfl)
theorem dX5_holdAt_3 : decode cX5_holdAt 3 = .ok (.aload_n 0, 1) := dk_42 (dk_at dksX5_holdAt_0 3 rfl rfl)
theorem dX5_holdAt_4 : decode cX5_holdAt 4 = .ok (.getfield 7, 3) := dk_180 0 7 (dk_at dksX5_holdAt_0 4 rfl rfl)
theorem dX5_holdAt_7 : decode cX5_holdAt 7 = .ok (.iconst 0, 1) := dk_3 (dk_at dksX5_holdAt_0 7 rfl rfl)
theorem dX5_holdAt_8 : decode cX5_holdAt 8 = .ok (.iaload, 1) := dk_46 (dk_at dksX5_holdAt_0 8 rfl rfl)
theorem dX5_holdAt_9 : decode cX5_holdAt 9 = .ok (.if_icmp .ge 31, 3) := dk_162 0 31 (dk_at dksX5_holdAt_0 9 rfl rfl)
theorem dX5_holdAt_12 : decode cX5_holdAt 12 = .ok (.aload_n 0, 1) := dk_42 (dk_at dksX5_holdAt_0 12 rfl rfl)
theorem dX5_holdAt_13 : decode cX5_holdAt 13 = .ok (.iload_n 3, 1) := dk_29 (dk_at dksX5_holdAt_0 13 rfl rfl)
theorem dX5_holdAt_14 : decode cX5_holdAt 14 = .ok (.iconst 0, 1) := dk_3 (dk_at dksX5_holdAt_0 14 rfl rfl)
theorem dX5_holdAt_15 : decode cX5_holdAt 15 = .ok (.invokevirtual 101, 3) := dk_182 0 101 (dk_at dksX5_holdAt_0 15 rfl rfl)
theorem dX5_holdAt_18 : decode cX5_holdAt 18 = .ok (.iload_n 1, 1) := dk_27 (dk_at dksX5_holdAt_0 18 rfl rfl)
theorem dX5_holdAt_19 : decode cX5_holdAt 19 = .ok (.if_icmp .ne 15, 3) := dk_160 0 15 (dk_at dksX5_holdAt_0 19 rfl rfl)
theorem dX5_holdAt_22 : decode cX5_holdAt 22 = .ok (.aload_n 0, 1) := dk_42 (dk_at dksX5_holdAt_0 22 rfl rfl)
theorem dX5_holdAt_23 : decode cX5_holdAt 23 = .ok (.iload_n 3, 1) := dk_29 (dk_at dksX5_holdAt_0 23 rfl rfl)
theorem dX5_holdAt_24 : decode cX5_holdAt 24 = .ok (.iconst 1, 1) := dk_4 (dk_at dksX5_holdAt_1 0 rfl rfl)
theorem dX5_holdAt_25 : decode cX5_holdAt 25 = .ok (.invokevirtual 101, 3) := dk_182 0 101 (dk_at dksX5_holdAt_1 1 rfl rfl)
theorem dX5_holdAt_28 : decode cX5_holdAt 28 = .ok (.iload_n 2, 1) := dk_28 (dk_at dksX5_holdAt_1 4 rfl rfl)
theorem dX5_holdAt_29 : decode cX5_holdAt 29 = .ok (.if_icmp .ne 5, 3) := dk_160 0 5 (dk_at dksX5_holdAt_1 5 rfl rfl)
theorem dX5_holdAt_32 : decode cX5_holdAt 32 = .ok (.iload_n 3, 1) := dk_29 (dk_at dksX5_holdAt_1 8 rfl rfl)
theorem dX5_holdAt_33 : decode cX5_holdAt 33 = .ok (.ireturn, 1) := dk_172 (dk_at dksX5_holdAt_1 9 rfl rfl)
theorem dX5_holdAt_34 : decode cX5_holdAt 34 = .ok (.iinc 3 1, 3) := dk_132 3 1 (dk_at dksX5_holdAt_1 10 rfl rfl)
theorem dX5_holdAt_37 : decode cX5_holdAt 37 = .ok (.goto (-35), 3) := dk_167 255 221 (dk_at dksX5_holdAt_1 13 rfl rfl)
theorem dX5_holdAt_40 : decode cX5_holdAt 40 = .ok (.iconst (-1), 1) := dk_2 (dk_at dksX5_holdAt_1 16 rfl rfl)
theorem dX5_holdAt_41 : decode cX5_holdAt 41 = .ok (.ireturn, 1) := dk_172 (dk_at dksX5_holdAt_1 17 rfl rfl)
abbrev cX5_ofHold : ByteArray := prog_25_method_13_code
def yX5_ofHold : MethodName := ⟨RX5, "ofHold", "(II)I"⟩
def dkwX5_ofHold_0 : List UInt8 := [42, 180, 0, 7, 27, 28, 184, 0, 90, 46, 172]
abbrev dktX5_ofHold_0 : List UInt8 := dkwX5_ofHold_0 ++ []
theorem dksX5_ofHold_0 : cX5_ofHold.data.toList.drop 0 = dktX5_ofHold_0 := by decide +kernel
theorem dX5_ofHold_0 : decode cX5_ofHold 0 = .ok (.aload_n 0, 1) := dk_42 (dk_at dksX5_ofHold_0 0 rfl rfl)
theorem dX5_ofHold_1 : decode cX5_ofHold 1 = .ok (.getfield 7, 3) := dk_180 0 7 (dk_at dksX5_ofHold_0 1 rfl rfl)
theorem dX5_ofHold_4 : decode cX5_ofHold 4 = .ok (.iload_n 1, 1) := dk_27 (dk_at dksX5_ofHold_0 4 rfl rfl)
theorem dX5_ofHold_5 : decode cX5_ofHold 5 = .ok (.iload_n 2, 1) := dk_28 (dk_at dksX5_ofHold_0 5 rfl rfl)
theorem dX5_ofHold_6 : decode cX5_ofHold 6 = .ok (.invokestatic 90, 3) := dk_184 0 90 (dk_at dksX5_ofHold_0 6 rfl rfl)
theorem dX5_ofHold_9 : decode cX5_ofHold 9 = .ok (.iaload, 1) := dk_46 (dk_at dksX5_ofHold_0 9 rfl rfl)
theorem dX5_ofHold_10 : decode cX5_ofHold 10 = .ok (.ireturn, 1) := dk_172 (dk_at dksX5_ofHold_0 10 rfl rfl)
abbrev cX5_atHold : ByteArray := prog_25_method_11_code
def yX5_atHold : MethodName := ⟨RX5, "atHold", "(II)I"⟩
def dkwX5_atHold_0 : List UInt8 := [4, 8, 26, 104, 96, 27, 96, 172]
abbrev dktX5_atHold_0 : List UInt8 := dkwX5_atHold_0 ++ []
theorem dksX5_atHold_0 : cX5_atHold.data.toList.drop 0 = dktX5_atHold_0 := by decide +kernel
theorem dX5_atHold_0 : decode cX5_atHold 0 = .ok (.iconst 1, 1) := dk_4 (dk_at dksX5_atHold_0 0 rfl rfl)
theorem dX5_atHold_1 : decode cX5_atHold 1 = .ok (.iconst 5, 1) := dk_8 (dk_at dksX5_atHold_0 1 rfl rfl)
theorem dX5_atHold_2 : decode cX5_atHold 2 = .ok (.iload_n 0, 1) := dk_26 (dk_at dksX5_atHold_0 2 rfl rfl)
theorem dX5_atHold_3 : decode cX5_atHold 3 = .ok (.imul, 1) := dk_104 (dk_at dksX5_atHold_0 3 rfl rfl)
theorem dX5_atHold_4 : decode cX5_atHold 4 = .ok (.iadd, 1) := dk_96 (dk_at dksX5_atHold_0 4 rfl rfl)
theorem dX5_atHold_5 : decode cX5_atHold 5 = .ok (.iload_n 1, 1) := dk_27 (dk_at dksX5_atHold_0 5 rfl rfl)
theorem dX5_atHold_6 : decode cX5_atHold 6 = .ok (.iadd, 1) := dk_96 (dk_at dksX5_atHold_0 6 rfl rfl)
theorem dX5_atHold_7 : decode cX5_atHold 7 = .ok (.ireturn, 1) := dk_172 (dk_at dksX5_atHold_0 7 rfl rfl)
abbrev cX5_hinders : ByteArray := prog_25_method_5_code
def yX5_hinders : MethodName := ⟨RX5, "hinders", "(II)Z"⟩
def dkwX5_hinders_0 : List UInt8 := [42, 27, 181, 0, 68, 42, 28, 181, 0, 74, 4, 172]
abbrev dktX5_hinders_0 : List UInt8 := dkwX5_hinders_0 ++ []
theorem dksX5_hinders_0 : cX5_hinders.data.toList.drop 0 = dktX5_hinders_0 := by decide +kernel
theorem dX5_hinders_0 : decode cX5_hinders 0 = .ok (.aload_n 0, 1) := dk_42 (dk_at dksX5_hinders_0 0 rfl rfl)
theorem dX5_hinders_1 : decode cX5_hinders 1 = .ok (.iload_n 1, 1) := dk_27 (dk_at dksX5_hinders_0 1 rfl rfl)
theorem dX5_hinders_2 : decode cX5_hinders 2 = .ok (.putfield 68, 3) := dk_181 0 68 (dk_at dksX5_hinders_0 2 rfl rfl)
theorem dX5_hinders_5 : decode cX5_hinders 5 = .ok (.aload_n 0, 1) := dk_42 (dk_at dksX5_hinders_0 5 rfl rfl)
theorem dX5_hinders_6 : decode cX5_hinders 6 = .ok (.iload_n 2, 1) := dk_28 (dk_at dksX5_hinders_0 6 rfl rfl)
theorem dX5_hinders_7 : decode cX5_hinders 7 = .ok (.putfield 74, 3) := dk_181 0 74 (dk_at dksX5_hinders_0 7 rfl rfl)
theorem dX5_hinders_10 : decode cX5_hinders 10 = .ok (.iconst 1, 1) := dk_4 (dk_at dksX5_hinders_0 10 rfl rfl)
theorem dX5_hinders_11 : decode cX5_hinders 11 = .ok (.ireturn, 1) := dk_172 (dk_at dksX5_hinders_0 11 rfl rfl)
abbrev cX5_refuses : ByteArray := prog_25_method_4_code
def yX5_refuses : MethodName := ⟨RX5, "refuses", "(I)I"⟩
def dkwX5_refuses_0 : List UInt8 := [42, 42, 180, 0, 68, 181, 0, 71, 42, 42, 180, 0, 74, 181, 0, 77, 42, 27, 182, 0, 80, 172]
abbrev dktX5_refuses_0 : List UInt8 := dkwX5_refuses_0 ++ []
theorem dksX5_refuses_0 : cX5_refuses.data.toList.drop 0 = dktX5_refuses_0 := by decide +kernel
theorem dX5_refuses_0 : decode cX5_refuses 0 = .ok (.aload_n 0, 1) := dk_42 (dk_at dksX5_refuses_0 0 rfl rfl)
theorem dX5_refuses_1 : decode cX5_refuses 1 = .ok (.aload_n 0, 1) := dk_42 (dk_at dksX5_refuses_0 1 rfl rfl)
theorem dX5_refuses_2 : decode cX5_refuses 2 = .ok (.getfield 68, 3) := dk_180 0 68 (dk_at dksX5_refuses_0 2 rfl rfl)
theorem dX5_refuses_5 : decode cX5_refuses 5 = .ok (.putfield 71, 3) := dk_181 0 71 (dk_at dksX5_refuses_0 5 rfl rfl)
theorem dX5_refuses_8 : decode cX5_refuses 8 = .ok (.aload_n 0, 1) := dk_42 (dk_at dksX5_refuses_0 8 rfl rfl)
theorem dX5_refuses_9 : decode cX5_refuses 9 = .ok (.aload_n 0, 1) := dk_42 (dk_at dksX5_refuses_0 9 rfl rfl)
theorem dX5_refuses_10 : decode cX5_refuses 10 = .ok (.getfield 74, 3) := dk_180 0 74 (dk_at dksX5_refuses_0 10 rfl rfl)
theorem dX5_refuses_13 : decode cX5_refuses 13 = .ok (.putfield 77, 3) := dk_181 0 77 (dk_at dksX5_refuses_0 13 rfl rfl)
theorem dX5_refuses_16 : decode cX5_refuses 16 = .ok (.aload_n 0, 1) := dk_42 (dk_at dksX5_refuses_0 16 rfl rfl)
theorem dX5_refuses_17 : decode cX5_refuses 17 = .ok (.iload_n 1, 1) := dk_27 (dk_at dksX5_refuses_0 17 rfl rfl)
theorem dX5_refuses_18 : decode cX5_refuses 18 = .ok (.invokevirtual 80, 3) := dk_182 0 80 (dk_at dksX5_refuses_0 18 rfl rfl)
theorem dX5_refuses_21 : decode cX5_refuses 21 = .ok (.ireturn, 1) := dk_172 (dk_at dksX5_refuses_0 21 rfl rfl)
abbrev cX5_notes : ByteArray := prog_25_method_9_code
def yX5_notes : MethodName := ⟨RX5, "notes", "()V"⟩
def dkwX5_notes_1 : List UInt8 := [167, 255, 234, 177]
abbrev dktX5_notes_1 : List UInt8 := dkwX5_notes_1 ++ []
def dkwX5_notes_0 : List UInt8 := [3, 60, 27, 17, 0, 170, 162, 0, 21, 42, 180, 0, 19, 27, 42, 180, 0, 7, 27, 46, 79, 132, 1, 1]
abbrev dktX5_notes_0 : List UInt8 := dkwX5_notes_0 ++ dktX5_notes_1
theorem dksX5_notes_0 : cX5_notes.data.toList.drop 0 = dktX5_notes_0 := by decide +kernel
theorem dksX5_notes_1 : cX5_notes.data.toList.drop 24 = dktX5_notes_1 := dk_seg dksX5_notes_0 24 rfl rfl
theorem dX5_notes_0 : decode cX5_notes 0 = .ok (.iconst 0, 1) := dk_3 (dk_at dksX5_notes_0 0 rfl rfl)
theorem dX5_notes_1 : decode cX5_notes 1 = .ok (.istore_n 1, 1) := dk_60 (dk_at dksX5_notes_0 1 rfl rfl)
theorem dX5_notes_2 : decode cX5_notes 2 = .ok (.iload_n 1, 1) := dk_27 (dk_at dksX5_notes_0 2 rfl rfl)
theorem dX5_notes_3 : decode cX5_notes 3 = .ok (.sipush 170, 3) := dk_17 0 170 (dk_at dksX5_notes_0 3 rfl rfl)
theorem dX5_notes_6 : decode cX5_notes 6 = .ok (.if_icmp .ge 21, 3) := dk_162 0 21 (dk_at dksX5_notes_0 6 rfl rfl)
theorem dX5_notes_9 : decode cX5_notes 9 = .ok (.aload_n 0, 1) := dk_42 (dk_at dksX5_notes_0 9 rfl rfl)
theorem dX5_notes_10 : decode cX5_notes 10 = .ok (.getfield 19, 3) := dk_180 0 19 (dk_at dksX5_notes_0 10 rfl rfl)
theorem dX5_notes_13 : decode cX5_notes 13 = .ok (.iload_n 1, 1) := dk_27 (dk_at dksX5_notes_0 13 rfl rfl)
theorem dX5_notes_14 : decode cX5_notes 14 = .ok (.aload_n 0, 1) := dk_42 (dk_at dksX5_notes_0 14 rfl rfl)
theorem dX5_notes_15 : decode cX5_notes 15 = .ok (.getfield 7, 3) := dk_180 0 7 (dk_at dksX5_notes_0 15 rfl rfl)
theorem dX5_notes_18 : decode cX5_notes 18 = .ok (.iload_n 1, 1) := dk_27 (dk_at dksX5_notes_0 18 rfl rfl)
theorem dX5_notes_19 : decode cX5_notes 19 = .ok (.iaload, 1) := dk_46 (dk_at dksX5_notes_0 19 rfl rfl)
theorem dX5_notes_20 : decode cX5_notes 20 = .ok (.iastore, 1) := dk_79 (dk_at dksX5_notes_0 20 rfl rfl)
theorem dX5_notes_21 : decode cX5_notes 21 = .ok (.iinc 1 1, 3) := dk_132 1 1 (dk_at dksX5_notes_0 21 rfl rfl)
theorem dX5_notes_24 : decode cX5_notes 24 = .ok (.goto (-22), 3) := dk_167 255 234 (dk_at dksX5_notes_1 0 rfl rfl)
theorem dX5_notes_27 : decode cX5_notes 27 = .ok (.return_, 1) := dk_177 (dk_at dksX5_notes_1 3 rfl rfl)
abbrev cX5_remembers : ByteArray := prog_25_method_8_code
def yX5_remembers : MethodName := ⟨RX5, "remembers", "()V"⟩
def dkwX5_remembers_3 : List UInt8 := [132, 2, 1, 167, 255, 232, 42, 89, 180, 0, 84, 4, 96, 181, 0, 84, 177]
abbrev dktX5_remembers_3 : List UInt8 := dkwX5_remembers_3 ++ []
def dkwX5_remembers_2 : List UInt8 := [60, 3, 61, 28, 17, 0, 170, 162, 0, 23, 42, 180, 0, 13, 27, 28, 96, 42, 180, 0, 19, 28, 46, 79]
abbrev dktX5_remembers_2 : List UInt8 := dkwX5_remembers_2 ++ dktX5_remembers_3
def dkwX5_remembers_1 : List UInt8 := [180, 0, 84, 4, 100, 181, 0, 84, 17, 0, 170, 42, 180, 0, 87, 42, 180, 0, 84, 96, 16, 8, 112, 104]
abbrev dktX5_remembers_1 : List UInt8 := dkwX5_remembers_1 ++ dktX5_remembers_2
def dkwX5_remembers_0 : List UInt8 := [42, 180, 0, 84, 16, 8, 160, 0, 26, 42, 42, 180, 0, 87, 4, 96, 16, 8, 112, 181, 0, 87, 42, 89]
abbrev dktX5_remembers_0 : List UInt8 := dkwX5_remembers_0 ++ dktX5_remembers_1
theorem dksX5_remembers_0 : cX5_remembers.data.toList.drop 0 = dktX5_remembers_0 := by decide +kernel
theorem dksX5_remembers_1 : cX5_remembers.data.toList.drop 24 = dktX5_remembers_1 := dk_seg dksX5_remembers_0 24 rfl rfl
theorem dksX5_remembers_2 : cX5_remembers.data.toList.drop 48 = dktX5_remembers_2 := dk_seg dksX5_remembers_1 24 rfl rfl
theorem dksX5_remembers_3 : cX5_remembers.data.toList.drop 72 = dktX5_remembers_3 := dk_seg dksX5_remembers_2 24 rfl rfl
theorem dX5_remembers_0 : decode cX5_remembers 0 = .ok (.aload_n 0, 1) := dk_42 (dk_at dksX5_remembers_0 0 rfl rfl)
theorem dX5_remembers_1 : decode cX5_remembers 1 = .ok (.getfield 84, 3) := dk_180 0 84 (dk_at dksX5_remembers_0 1 rfl rfl)
theorem dX5_remembers_4 : decode cX5_remembers 4 = .ok (.bipush 8, 2) := dk_16 8 (dk_at dksX5_remembers_0 4 rfl rfl)
theorem dX5_remembers_6 : decode cX5_remembers 6 = .ok (.if_icmp .ne 26, 3) := dk_160 0 26 (dk_at dksX5_remembers_0 6 rfl rfl)
theorem dX5_remembers_9 : decode cX5_remembers 9 = .ok (.aload_n 0, 1) := dk_42 (dk_at dksX5_remembers_0 9 rfl rfl)
theorem dX5_remembers_10 : decode cX5_remembers 10 = .ok (.aload_n 0, 1) := dk_42 (dk_at dksX5_remembers_0 10 rfl rfl)
theorem dX5_remembers_11 : decode cX5_remembers 11 = .ok (.getfield 87, 3) := dk_180 0 87 (dk_at dksX5_remembers_0 11 rfl rfl)
theorem dX5_remembers_14 : decode cX5_remembers 14 = .ok (.iconst 1, 1) := dk_4 (dk_at dksX5_remembers_0 14 rfl rfl)
theorem dX5_remembers_15 : decode cX5_remembers 15 = .ok (.iadd, 1) := dk_96 (dk_at dksX5_remembers_0 15 rfl rfl)
theorem dX5_remembers_16 : decode cX5_remembers 16 = .ok (.bipush 8, 2) := dk_16 8 (dk_at dksX5_remembers_0 16 rfl rfl)
theorem dX5_remembers_18 : decode cX5_remembers 18 = .ok (.irem, 1) := dk_112 (dk_at dksX5_remembers_0 18 rfl rfl)
theorem dX5_remembers_19 : decode cX5_remembers 19 = .ok (.putfield 87, 3) := dk_181 0 87 (dk_at dksX5_remembers_0 19 rfl rfl)
theorem dX5_remembers_22 : decode cX5_remembers 22 = .ok (.aload_n 0, 1) := dk_42 (dk_at dksX5_remembers_0 22 rfl rfl)
theorem dX5_remembers_23 : decode cX5_remembers 23 = .ok (.dup, 1) := dk_89 (dk_at dksX5_remembers_0 23 rfl rfl)
theorem dX5_remembers_24 : decode cX5_remembers 24 = .ok (.getfield 84, 3) := dk_180 0 84 (dk_at dksX5_remembers_1 0 rfl rfl)
theorem dX5_remembers_27 : decode cX5_remembers 27 = .ok (.iconst 1, 1) := dk_4 (dk_at dksX5_remembers_1 3 rfl rfl)
theorem dX5_remembers_28 : decode cX5_remembers 28 = .ok (.isub, 1) := dk_100 (dk_at dksX5_remembers_1 4 rfl rfl)
theorem dX5_remembers_29 : decode cX5_remembers 29 = .ok (.putfield 84, 3) := dk_181 0 84 (dk_at dksX5_remembers_1 5 rfl rfl)
theorem dX5_remembers_32 : decode cX5_remembers 32 = .ok (.sipush 170, 3) := dk_17 0 170 (dk_at dksX5_remembers_1 8 rfl rfl)
theorem dX5_remembers_35 : decode cX5_remembers 35 = .ok (.aload_n 0, 1) := dk_42 (dk_at dksX5_remembers_1 11 rfl rfl)
theorem dX5_remembers_36 : decode cX5_remembers 36 = .ok (.getfield 87, 3) := dk_180 0 87 (dk_at dksX5_remembers_1 12 rfl rfl)
theorem dX5_remembers_39 : decode cX5_remembers 39 = .ok (.aload_n 0, 1) := dk_42 (dk_at dksX5_remembers_1 15 rfl rfl)
theorem dX5_remembers_40 : decode cX5_remembers 40 = .ok (.getfield 84, 3) := dk_180 0 84 (dk_at dksX5_remembers_1 16 rfl rfl)
theorem dX5_remembers_43 : decode cX5_remembers 43 = .ok (.iadd, 1) := dk_96 (dk_at dksX5_remembers_1 19 rfl rfl)
theorem dX5_remembers_44 : decode cX5_remembers 44 = .ok (.bipush 8, 2) := dk_16 8 (dk_at dksX5_remembers_1 20 rfl rfl)
theorem dX5_remembers_46 : decode cX5_remembers 46 = .ok (.irem, 1) := dk_112 (dk_at dksX5_remembers_1 22 rfl rfl)
theorem dX5_remembers_47 : decode cX5_remembers 47 = .ok (.imul, 1) := dk_104 (dk_at dksX5_remembers_1 23 rfl rfl)
theorem dX5_remembers_48 : decode cX5_remembers 48 = .ok (.istore_n 1, 1) := dk_60 (dk_at dksX5_remembers_2 0 rfl rfl)
theorem dX5_remembers_49 : decode cX5_remembers 49 = .ok (.iconst 0, 1) := dk_3 (dk_at dksX5_remembers_2 1 rfl rfl)
theorem dX5_remembers_50 : decode cX5_remembers 50 = .ok (.istore_n 2, 1) := dk_61 (dk_at dksX5_remembers_2 2 rfl rfl)
theorem dX5_remembers_51 : decode cX5_remembers 51 = .ok (.iload_n 2, 1) := dk_28 (dk_at dksX5_remembers_2 3 rfl rfl)
theorem dX5_remembers_52 : decode cX5_remembers 52 = .ok (.sipush 170, 3) := dk_17 0 170 (dk_at dksX5_remembers_2 4 rfl rfl)
theorem dX5_remembers_55 : decode cX5_remembers 55 = .ok (.if_icmp .ge 23, 3) := dk_162 0 23 (dk_at dksX5_remembers_2 7 rfl rfl)
theorem dX5_remembers_58 : decode cX5_remembers 58 = .ok (.aload_n 0, 1) := dk_42 (dk_at dksX5_remembers_2 10 rfl rfl)
theorem dX5_remembers_59 : decode cX5_remembers 59 = .ok (.getfield 13, 3) := dk_180 0 13 (dk_at dksX5_remembers_2 11 rfl rfl)
theorem dX5_remembers_62 : decode cX5_remembers 62 = .ok (.iload_n 1, 1) := dk_27 (dk_at dksX5_remembers_2 14 rfl rfl)
theorem dX5_remembers_63 : decode cX5_remembers 63 = .ok (.iload_n 2, 1) := dk_28 (dk_at dksX5_remembers_2 15 rfl rfl)
theorem dX5_remembers_64 : decode cX5_remembers 64 = .ok (.iadd, 1) := dk_96 (dk_at dksX5_remembers_2 16 rfl rfl)
theorem dX5_remembers_65 : decode cX5_remembers 65 = .ok (.aload_n 0, 1) := dk_42 (dk_at dksX5_remembers_2 17 rfl rfl)
theorem dX5_remembers_66 : decode cX5_remembers 66 = .ok (.getfield 19, 3) := dk_180 0 19 (dk_at dksX5_remembers_2 18 rfl rfl)
theorem dX5_remembers_69 : decode cX5_remembers 69 = .ok (.iload_n 2, 1) := dk_28 (dk_at dksX5_remembers_2 21 rfl rfl)
theorem dX5_remembers_70 : decode cX5_remembers 70 = .ok (.iaload, 1) := dk_46 (dk_at dksX5_remembers_2 22 rfl rfl)
theorem dX5_remembers_71 : decode cX5_remembers 71 = .ok (.iastore, 1) := dk_79 (dk_at dksX5_remembers_2 23 rfl rfl)
theorem dX5_remembers_72 : decode cX5_remembers 72 = .ok (.iinc 2 1, 3) := dk_132 2 1 (dk_at dksX5_remembers_3 0 rfl rfl)
theorem dX5_remembers_75 : decode cX5_remembers 75 = .ok (.goto (-24), 3) := dk_167 255 232 (dk_at dksX5_remembers_3 3 rfl rfl)
theorem dX5_remembers_78 : decode cX5_remembers 78 = .ok (.aload_n 0, 1) := dk_42 (dk_at dksX5_remembers_3 6 rfl rfl)
theorem dX5_remembers_79 : decode cX5_remembers 79 = .ok (.dup, 1) := dk_89 (dk_at dksX5_remembers_3 7 rfl rfl)
theorem dX5_remembers_80 : decode cX5_remembers 80 = .ok (.getfield 84, 3) := dk_180 0 84 (dk_at dksX5_remembers_3 8 rfl rfl)
theorem dX5_remembers_83 : decode cX5_remembers 83 = .ok (.iconst 1, 1) := dk_4 (dk_at dksX5_remembers_3 11 rfl rfl)
theorem dX5_remembers_84 : decode cX5_remembers 84 = .ok (.iadd, 1) := dk_96 (dk_at dksX5_remembers_3 12 rfl rfl)
theorem dX5_remembers_85 : decode cX5_remembers 85 = .ok (.putfield 84, 3) := dk_181 0 84 (dk_at dksX5_remembers_3 13 rfl rfl)
theorem dX5_remembers_88 : decode cX5_remembers 88 = .ok (.return_, 1) := dk_177 (dk_at dksX5_remembers_3 16 rfl rfl)
abbrev cX5_set : ByteArray := prog_25_method_31_code
def yX5_set : MethodName := ⟨RX5, "set", "(II)I"⟩
def dkwX5_set_5 : List UInt8 := [180, 0, 7, 16, 101, 27, 96, 28, 79, 21, 4, 172]
abbrev dktX5_set_5 : List UInt8 := dkwX5_set_5 ++ []
def dkwX5_set_4 : List UInt8 := [3, 181, 0, 65, 42, 182, 0, 136, 42, 182, 0, 139, 42, 180, 0, 7, 16, 101, 27, 96, 46, 54, 4, 42]
abbrev dktX5_set_4 : List UInt8 := dkwX5_set_4 ++ dktX5_set_5
def dkwX5_set_3 : List UInt8 := [28, 164, 0, 22, 42, 16, 17, 42, 182, 0, 142, 182, 0, 129, 153, 0, 9, 42, 5, 182, 0, 133, 172, 42]
abbrev dktX5_set_3 : List UInt8 := dkwX5_set_3 ++ dktX5_set_4
def dkwX5_set_2 : List UInt8 := [167, 0, 4, 3, 62, 29, 154, 0, 9, 42, 4, 182, 0, 80, 172, 27, 5, 160, 0, 30, 42, 182, 0, 142]
abbrev dktX5_set_2 : List UInt8 := dkwX5_set_2 ++ dktX5_set_3
def dkwX5_set_1 : List UInt8 := [184, 0, 97, 167, 0, 23, 27, 5, 160, 0, 17, 28, 8, 16, 60, 184, 0, 97, 153, 0, 7, 4]
abbrev dktX5_set_1 : List UInt8 := dkwX5_set_1 ++ dktX5_set_2
def dkwX5_set_0 : List UInt8 := [27, 154, 0, 13, 28, 4, 16, 6, 184, 0, 97, 167, 0, 38, 27, 4, 160, 0, 13, 28, 3, 16, 21]
abbrev dktX5_set_0 : List UInt8 := dkwX5_set_0 ++ dktX5_set_1
theorem dksX5_set_0 : cX5_set.data.toList.drop 0 = dktX5_set_0 := by decide +kernel
theorem dksX5_set_1 : cX5_set.data.toList.drop 23 = dktX5_set_1 := dk_seg dksX5_set_0 23 rfl rfl
theorem dksX5_set_2 : cX5_set.data.toList.drop 45 = dktX5_set_2 := dk_seg dksX5_set_1 22 rfl rfl
theorem dksX5_set_3 : cX5_set.data.toList.drop 69 = dktX5_set_3 := dk_seg dksX5_set_2 24 rfl rfl
theorem dksX5_set_4 : cX5_set.data.toList.drop 93 = dktX5_set_4 := dk_seg dksX5_set_3 24 rfl rfl
theorem dksX5_set_5 : cX5_set.data.toList.drop 117 = dktX5_set_5 := dk_seg dksX5_set_4 24 rfl rfl
theorem dX5_set_0 : decode cX5_set 0 = .ok (.iload_n 1, 1) := dk_27 (dk_at dksX5_set_0 0 rfl rfl)
theorem dX5_set_1 : decode cX5_set 1 = .ok (.ifCond .ne 13, 3) := dk_154 0 13 (dk_at dksX5_set_0 1 rfl rfl)
theorem dX5_set_4 : decode cX5_set 4 = .ok (.iload_n 2, 1) := dk_28 (dk_at dksX5_set_0 4 rfl rfl)
theorem dX5_set_5 : decode cX5_set 5 = .ok (.iconst 1, 1) := dk_4 (dk_at dksX5_set_0 5 rfl rfl)
theorem dX5_set_6 : decode cX5_set 6 = .ok (.bipush 6, 2) := dk_16 6 (dk_at dksX5_set_0 6 rfl rfl)
theorem dX5_set_8 : decode cX5_set 8 = .ok (.invokestatic 97, 3) := dk_184 0 97 (dk_at dksX5_set_0 8 rfl rfl)
theorem dX5_set_11 : decode cX5_set 11 = .ok (.goto 38, 3) := dk_167 0 38 (dk_at dksX5_set_0 11 rfl rfl)
theorem dX5_set_14 : decode cX5_set 14 = .ok (.iload_n 1, 1) := dk_27 (dk_at dksX5_set_0 14 rfl rfl)
theorem dX5_set_15 : decode cX5_set 15 = .ok (.iconst 1, 1) := dk_4 (dk_at dksX5_set_0 15 rfl rfl)
theorem dX5_set_16 : decode cX5_set 16 = .ok (.if_icmp .ne 13, 3) := dk_160 0 13 (dk_at dksX5_set_0 16 rfl rfl)
theorem dX5_set_19 : decode cX5_set 19 = .ok (.iload_n 2, 1) := dk_28 (dk_at dksX5_set_0 19 rfl rfl)
theorem dX5_set_20 : decode cX5_set 20 = .ok (.iconst 0, 1) := dk_3 (dk_at dksX5_set_0 20 rfl rfl)
theorem dX5_set_21 : decode cX5_set 21 = .ok (.bipush 21, 2) := dk_16 21 (dk_at dksX5_set_0 21 rfl rfl)
theorem dX5_set_23 : decode cX5_set 23 = .ok (.invokestatic 97, 3) := dk_184 0 97 (dk_at dksX5_set_1 0 rfl rfl)
theorem dX5_set_26 : decode cX5_set 26 = .ok (.goto 23, 3) := dk_167 0 23 (dk_at dksX5_set_1 3 rfl rfl)
theorem dX5_set_29 : decode cX5_set 29 = .ok (.iload_n 1, 1) := dk_27 (dk_at dksX5_set_1 6 rfl rfl)
theorem dX5_set_30 : decode cX5_set 30 = .ok (.iconst 2, 1) := dk_5 (dk_at dksX5_set_1 7 rfl rfl)
theorem dX5_set_31 : decode cX5_set 31 = .ok (.if_icmp .ne 17, 3) := dk_160 0 17 (dk_at dksX5_set_1 8 rfl rfl)
theorem dX5_set_34 : decode cX5_set 34 = .ok (.iload_n 2, 1) := dk_28 (dk_at dksX5_set_1 11 rfl rfl)
theorem dX5_set_35 : decode cX5_set 35 = .ok (.iconst 5, 1) := dk_8 (dk_at dksX5_set_1 12 rfl rfl)
theorem dX5_set_36 : decode cX5_set 36 = .ok (.bipush 60, 2) := dk_16 60 (dk_at dksX5_set_1 13 rfl rfl)
theorem dX5_set_38 : decode cX5_set 38 = .ok (.invokestatic 97, 3) := dk_184 0 97 (dk_at dksX5_set_1 15 rfl rfl)
theorem dX5_set_41 : decode cX5_set 41 = .ok (.ifCond .eq 7, 3) := dk_153 0 7 (dk_at dksX5_set_1 18 rfl rfl)
theorem dX5_set_44 : decode cX5_set 44 = .ok (.iconst 1, 1) := dk_4 (dk_at dksX5_set_1 21 rfl rfl)
theorem dX5_set_45 : decode cX5_set 45 = .ok (.goto 4, 3) := dk_167 0 4 (dk_at dksX5_set_2 0 rfl rfl)
theorem dX5_set_48 : decode cX5_set 48 = .ok (.iconst 0, 1) := dk_3 (dk_at dksX5_set_2 3 rfl rfl)
theorem dX5_set_49 : decode cX5_set 49 = .ok (.istore_n 3, 1) := dk_62 (dk_at dksX5_set_2 4 rfl rfl)
theorem dX5_set_50 : decode cX5_set 50 = .ok (.iload_n 3, 1) := dk_29 (dk_at dksX5_set_2 5 rfl rfl)
theorem dX5_set_51 : decode cX5_set 51 = .ok (.ifCond .ne 9, 3) := dk_154 0 9 (dk_at dksX5_set_2 6 rfl rfl)
theorem dX5_set_54 : decode cX5_set 54 = .ok (.aload_n 0, 1) := dk_42 (dk_at dksX5_set_2 9 rfl rfl)
theorem dX5_set_55 : decode cX5_set 55 = .ok (.iconst 1, 1) := dk_4 (dk_at dksX5_set_2 10 rfl rfl)
theorem dX5_set_56 : decode cX5_set 56 = .ok (.invokevirtual 80, 3) := dk_182 0 80 (dk_at dksX5_set_2 11 rfl rfl)
theorem dX5_set_59 : decode cX5_set 59 = .ok (.ireturn, 1) := dk_172 (dk_at dksX5_set_2 14 rfl rfl)
theorem dX5_set_60 : decode cX5_set 60 = .ok (.iload_n 1, 1) := dk_27 (dk_at dksX5_set_2 15 rfl rfl)
theorem dX5_set_61 : decode cX5_set 61 = .ok (.iconst 2, 1) := dk_5 (dk_at dksX5_set_2 16 rfl rfl)
theorem dX5_set_62 : decode cX5_set 62 = .ok (.if_icmp .ne 30, 3) := dk_160 0 30 (dk_at dksX5_set_2 17 rfl rfl)
theorem dX5_set_65 : decode cX5_set 65 = .ok (.aload_n 0, 1) := dk_42 (dk_at dksX5_set_2 20 rfl rfl)
theorem dX5_set_66 : decode cX5_set 66 = .ok (.invokevirtual 142, 3) := dk_182 0 142 (dk_at dksX5_set_2 21 rfl rfl)
theorem dX5_set_69 : decode cX5_set 69 = .ok (.iload_n 2, 1) := dk_28 (dk_at dksX5_set_3 0 rfl rfl)
theorem dX5_set_70 : decode cX5_set 70 = .ok (.if_icmp .le 22, 3) := dk_164 0 22 (dk_at dksX5_set_3 1 rfl rfl)
theorem dX5_set_73 : decode cX5_set 73 = .ok (.aload_n 0, 1) := dk_42 (dk_at dksX5_set_3 4 rfl rfl)
theorem dX5_set_74 : decode cX5_set 74 = .ok (.bipush 17, 2) := dk_16 17 (dk_at dksX5_set_3 5 rfl rfl)
theorem dX5_set_76 : decode cX5_set 76 = .ok (.aload_n 0, 1) := dk_42 (dk_at dksX5_set_3 7 rfl rfl)
theorem dX5_set_77 : decode cX5_set 77 = .ok (.invokevirtual 142, 3) := dk_182 0 142 (dk_at dksX5_set_3 8 rfl rfl)
theorem dX5_set_80 : decode cX5_set 80 = .ok (.invokevirtual 129, 3) := dk_182 0 129 (dk_at dksX5_set_3 11 rfl rfl)
theorem dX5_set_83 : decode cX5_set 83 = .ok (.ifCond .eq 9, 3) := dk_153 0 9 (dk_at dksX5_set_3 14 rfl rfl)
theorem dX5_set_86 : decode cX5_set 86 = .ok (.aload_n 0, 1) := dk_42 (dk_at dksX5_set_3 17 rfl rfl)
theorem dX5_set_87 : decode cX5_set 87 = .ok (.iconst 2, 1) := dk_5 (dk_at dksX5_set_3 18 rfl rfl)
theorem dX5_set_88 : decode cX5_set 88 = .ok (.invokevirtual 133, 3) := dk_182 0 133 (dk_at dksX5_set_3 19 rfl rfl)
theorem dX5_set_91 : decode cX5_set 91 = .ok (.ireturn, 1) := dk_172 (dk_at dksX5_set_3 22 rfl rfl)
theorem dX5_set_92 : decode cX5_set 92 = .ok (.aload_n 0, 1) := dk_42 (dk_at dksX5_set_3 23 rfl rfl)
theorem dX5_set_93 : decode cX5_set 93 = .ok (.iconst 0, 1) := dk_3 (dk_at dksX5_set_4 0 rfl rfl)
theorem dX5_set_94 : decode cX5_set 94 = .ok (.putfield 65, 3) := dk_181 0 65 (dk_at dksX5_set_4 1 rfl rfl)
theorem dX5_set_97 : decode cX5_set 97 = .ok (.aload_n 0, 1) := dk_42 (dk_at dksX5_set_4 4 rfl rfl)
theorem dX5_set_98 : decode cX5_set 98 = .ok (.invokevirtual 136, 3) := dk_182 0 136 (dk_at dksX5_set_4 5 rfl rfl)
theorem dX5_set_101 : decode cX5_set 101 = .ok (.aload_n 0, 1) := dk_42 (dk_at dksX5_set_4 8 rfl rfl)
theorem dX5_set_102 : decode cX5_set 102 = .ok (.invokevirtual 139, 3) := dk_182 0 139 (dk_at dksX5_set_4 9 rfl rfl)
theorem dX5_set_105 : decode cX5_set 105 = .ok (.aload_n 0, 1) := dk_42 (dk_at dksX5_set_4 12 rfl rfl)
theorem dX5_set_106 : decode cX5_set 106 = .ok (.getfield 7, 3) := dk_180 0 7 (dk_at dksX5_set_4 13 rfl rfl)
theorem dX5_set_109 : decode cX5_set 109 = .ok (.bipush 101, 2) := dk_16 101 (dk_at dksX5_set_4 16 rfl rfl)
theorem dX5_set_111 : decode cX5_set 111 = .ok (.iload_n 1, 1) := dk_27 (dk_at dksX5_set_4 18 rfl rfl)
theorem dX5_set_112 : decode cX5_set 112 = .ok (.iadd, 1) := dk_96 (dk_at dksX5_set_4 19 rfl rfl)
theorem dX5_set_113 : decode cX5_set 113 = .ok (.iaload, 1) := dk_46 (dk_at dksX5_set_4 20 rfl rfl)
theorem dX5_set_114 : decode cX5_set 114 = .ok (.istore 4, 2) := dk_54 4 (dk_at dksX5_set_4 21 rfl rfl)
theorem dX5_set_116 : decode cX5_set 116 = .ok (.aload_n 0, 1) := dk_42 (dk_at dksX5_set_4 23 rfl rfl)
theorem dX5_set_117 : decode cX5_set 117 = .ok (.getfield 7, 3) := dk_180 0 7 (dk_at dksX5_set_5 0 rfl rfl)
theorem dX5_set_120 : decode cX5_set 120 = .ok (.bipush 101, 2) := dk_16 101 (dk_at dksX5_set_5 3 rfl rfl)
theorem dX5_set_122 : decode cX5_set 122 = .ok (.iload_n 1, 1) := dk_27 (dk_at dksX5_set_5 5 rfl rfl)
theorem dX5_set_123 : decode cX5_set 123 = .ok (.iadd, 1) := dk_96 (dk_at dksX5_set_5 6 rfl rfl)
theorem dX5_set_124 : decode cX5_set 124 = .ok (.iload_n 2, 1) := dk_28 (dk_at dksX5_set_5 7 rfl rfl)
theorem dX5_set_125 : decode cX5_set 125 = .ok (.iastore, 1) := dk_79 (dk_at dksX5_set_5 8 rfl rfl)
theorem dX5_set_126 : decode cX5_set 126 = .ok (.iload 4, 2) := dk_21 4 (dk_at dksX5_set_5 9 rfl rfl)
theorem dX5_set_128 : decode cX5_set 128 = .ok (.ireturn, 1) := dk_172 (dk_at dksX5_set_5 11 rfl rfl)
abbrev cX5_ropeOut : ByteArray := prog_25_method_39_code
def yX5_ropeOut : MethodName := ⟨RX5, "ropeOut", "()I"⟩
def dkwX5_ropeOut_0 : List UInt8 := [42, 42, 4, 182, 0, 113, 42, 3, 182, 0, 113, 182, 0, 167, 172]
abbrev dktX5_ropeOut_0 : List UInt8 := dkwX5_ropeOut_0 ++ []
theorem dksX5_ropeOut_0 : cX5_ropeOut.data.toList.drop 0 = dktX5_ropeOut_0 := by decide +kernel
theorem dX5_ropeOut_0 : decode cX5_ropeOut 0 = .ok (.aload_n 0, 1) := dk_42 (dk_at dksX5_ropeOut_0 0 rfl rfl)
theorem dX5_ropeOut_1 : decode cX5_ropeOut 1 = .ok (.aload_n 0, 1) := dk_42 (dk_at dksX5_ropeOut_0 1 rfl rfl)
theorem dX5_ropeOut_2 : decode cX5_ropeOut 2 = .ok (.iconst 1, 1) := dk_4 (dk_at dksX5_ropeOut_0 2 rfl rfl)
theorem dX5_ropeOut_3 : decode cX5_ropeOut 3 = .ok (.invokevirtual 113, 3) := dk_182 0 113 (dk_at dksX5_ropeOut_0 3 rfl rfl)
theorem dX5_ropeOut_6 : decode cX5_ropeOut 6 = .ok (.aload_n 0, 1) := dk_42 (dk_at dksX5_ropeOut_0 6 rfl rfl)
theorem dX5_ropeOut_7 : decode cX5_ropeOut 7 = .ok (.iconst 0, 1) := dk_3 (dk_at dksX5_ropeOut_0 7 rfl rfl)
theorem dX5_ropeOut_8 : decode cX5_ropeOut 8 = .ok (.invokevirtual 113, 3) := dk_182 0 113 (dk_at dksX5_ropeOut_0 8 rfl rfl)
theorem dX5_ropeOut_11 : decode cX5_ropeOut 11 = .ok (.invokevirtual 167, 3) := dk_182 0 167 (dk_at dksX5_ropeOut_0 11 rfl rfl)
theorem dX5_ropeOut_14 : decode cX5_ropeOut 14 = .ok (.ireturn, 1) := dk_172 (dk_at dksX5_ropeOut_0 14 rfl rfl)
abbrev cX5_place : ByteArray := prog_25_method_23_code
def yX5_place : MethodName := ⟨RX5, "place", "(I)I"⟩
def dkwX5_place_0 : List UInt8 := [42, 27, 3, 182, 0, 107, 172]
abbrev dktX5_place_0 : List UInt8 := dkwX5_place_0 ++ []
theorem dksX5_place_0 : cX5_place.data.toList.drop 0 = dktX5_place_0 := by decide +kernel
theorem dX5_place_0 : decode cX5_place 0 = .ok (.aload_n 0, 1) := dk_42 (dk_at dksX5_place_0 0 rfl rfl)
theorem dX5_place_1 : decode cX5_place 1 = .ok (.iload_n 1, 1) := dk_27 (dk_at dksX5_place_0 1 rfl rfl)
theorem dX5_place_2 : decode cX5_place 2 = .ok (.iconst 0, 1) := dk_3 (dk_at dksX5_place_0 2 rfl rfl)
theorem dX5_place_3 : decode cX5_place 3 = .ok (.invokevirtual 107, 3) := dk_182 0 107 (dk_at dksX5_place_0 3 rfl rfl)
theorem dX5_place_6 : decode cX5_place 6 = .ok (.ireturn, 1) := dk_172 (dk_at dksX5_place_0 6 rfl rfl)
abbrev cX5_ofClimber : ByteArray := prog_25_method_15_code
def yX5_ofClimber : MethodName := ⟨RX5, "ofClimber", "(II)I"⟩
def dkwX5_ofClimber_0 : List UInt8 := [42, 180, 0, 7, 16, 125, 6, 27, 104, 96, 28, 96, 46, 172]
abbrev dktX5_ofClimber_0 : List UInt8 := dkwX5_ofClimber_0 ++ []
theorem dksX5_ofClimber_0 : cX5_ofClimber.data.toList.drop 0 = dktX5_ofClimber_0 := by decide +kernel
theorem dX5_ofClimber_0 : decode cX5_ofClimber 0 = .ok (.aload_n 0, 1) := dk_42 (dk_at dksX5_ofClimber_0 0 rfl rfl)
theorem dX5_ofClimber_1 : decode cX5_ofClimber 1 = .ok (.getfield 7, 3) := dk_180 0 7 (dk_at dksX5_ofClimber_0 1 rfl rfl)
theorem dX5_ofClimber_4 : decode cX5_ofClimber 4 = .ok (.bipush 125, 2) := dk_16 125 (dk_at dksX5_ofClimber_0 4 rfl rfl)
theorem dX5_ofClimber_6 : decode cX5_ofClimber 6 = .ok (.iconst 3, 1) := dk_6 (dk_at dksX5_ofClimber_0 6 rfl rfl)
theorem dX5_ofClimber_7 : decode cX5_ofClimber 7 = .ok (.iload_n 1, 1) := dk_27 (dk_at dksX5_ofClimber_0 7 rfl rfl)
theorem dX5_ofClimber_8 : decode cX5_ofClimber 8 = .ok (.imul, 1) := dk_104 (dk_at dksX5_ofClimber_0 8 rfl rfl)
theorem dX5_ofClimber_9 : decode cX5_ofClimber 9 = .ok (.iadd, 1) := dk_96 (dk_at dksX5_ofClimber_0 9 rfl rfl)
theorem dX5_ofClimber_10 : decode cX5_ofClimber 10 = .ok (.iload_n 2, 1) := dk_28 (dk_at dksX5_ofClimber_0 10 rfl rfl)
theorem dX5_ofClimber_11 : decode cX5_ofClimber 11 = .ok (.iadd, 1) := dk_96 (dk_at dksX5_ofClimber_0 11 rfl rfl)
theorem dX5_ofClimber_12 : decode cX5_ofClimber 12 = .ok (.iaload, 1) := dk_46 (dk_at dksX5_ofClimber_0 12 rfl rfl)
theorem dX5_ofClimber_13 : decode cX5_ofClimber 13 = .ok (.ireturn, 1) := dk_172 (dk_at dksX5_ofClimber_0 13 rfl rfl)
abbrev cX5_ropeWith : ByteArray := prog_25_method_38_code
def yX5_ropeWith : MethodName := ⟨RX5, "ropeWith", "(II)I"⟩
def dkwX5_ropeWith_3 : List UInt8 := [172]
abbrev dktX5_ropeWith_3 : List UInt8 := dkwX5_ropeWith_3 ++ []
def dkwX5_ropeWith_2 : List UInt8 := [17, 0, 132, 21, 5, 96, 46, 54, 4, 132, 5, 1, 167, 255, 207, 29, 42, 21, 4, 28, 182, 0, 119, 96]
abbrev dktX5_ropeWith_2 : List UInt8 := dkwX5_ropeWith_2 ++ dktX5_ropeWith_3
def dkwX5_ropeWith_1 : List UInt8 := [21, 4, 42, 180, 0, 7, 17, 0, 132, 21, 5, 96, 46, 182, 0, 119, 96, 62, 42, 180, 0, 7]
abbrev dktX5_ropeWith_1 : List UInt8 := dkwX5_ropeWith_1 ++ dktX5_ropeWith_2
def dkwX5_ropeWith_0 : List UInt8 := [3, 62, 27, 54, 4, 3, 54, 5, 21, 5, 42, 180, 0, 7, 17, 0, 131, 46, 162, 0, 42, 29, 42]
abbrev dktX5_ropeWith_0 : List UInt8 := dkwX5_ropeWith_0 ++ dktX5_ropeWith_1
theorem dksX5_ropeWith_0 : cX5_ropeWith.data.toList.drop 0 = dktX5_ropeWith_0 := by decide +kernel
theorem dksX5_ropeWith_1 : cX5_ropeWith.data.toList.drop 23 = dktX5_ropeWith_1 := dk_seg dksX5_ropeWith_0 23 rfl rfl
theorem dksX5_ropeWith_2 : cX5_ropeWith.data.toList.drop 45 = dktX5_ropeWith_2 := dk_seg dksX5_ropeWith_1 22 rfl rfl
theorem dksX5_ropeWith_3 : cX5_ropeWith.data.toList.drop 69 = dktX5_ropeWith_3 := dk_seg dksX5_ropeWith_2 24 rfl rfl
theorem dX5_ropeWith_0 : decode cX5_ropeWith 0 = .ok (.iconst 0, 1) := dk_3 (dk_at dksX5_ropeWith_0 0 rfl rfl)
theorem dX5_ropeWith_1 : decode cX5_ropeWith 1 = .ok (.istore_n 3, 1) := dk_62 (dk_at dksX5_ropeWith_0 1 rfl rfl)
theorem dX5_ropeWith_2 : decode cX5_ropeWith 2 = .ok (.iload_n 1, 1) := dk_27 (dk_at dksX5_ropeWith_0 2 rfl rfl)
theorem dX5_ropeWith_3 : decode cX5_ropeWith 3 = .ok (.istore 4, 2) := dk_54 4 (dk_at dksX5_ropeWith_0 3 rfl rfl)
theorem dX5_ropeWith_5 : decode cX5_ropeWith 5 = .ok (.iconst 0, 1) := dk_3 (dk_at dksX5_ropeWith_0 5 rfl rfl)
theorem dX5_ropeWith_6 : decode cX5_ropeWith 6 = .ok (.istore 5, 2) := dk_54 5 (dk_at dksX5_ropeWith_0 6 rfl rfl)
theorem dX5_ropeWith_8 : decode cX5_ropeWith 8 = .ok (.iload 5, 2) := dk_21 5 (dk_at dksX5_ropeWith_0 8 rfl rfl)
theorem dX5_ropeWith_10 : decode cX5_ropeWith 10 = .ok (.aload_n 0, 1) := dk_42 (dk_at dksX5_ropeWith_0 10 rfl rfl)
theorem dX5_ropeWith_11 : decode cX5_ropeWith 11 = .ok (.getfield 7, 3) := dk_180 0 7 (dk_at dksX5_ropeWith_0 11 rfl rfl)
theorem dX5_ropeWith_14 : decode cX5_ropeWith 14 = .ok (.sipush 131, 3) := dk_17 0 131 (dk_at dksX5_ropeWith_0 14 rfl rfl)
theorem dX5_ropeWith_17 : decode cX5_ropeWith 17 = .ok (.iaload, 1) := dk_46 (dk_at dksX5_ropeWith_0 17 rfl rfl)
theorem dX5_ropeWith_18 : decode cX5_ropeWith 18 = .ok (.if_icmp .ge 42, 3) := dk_162 0 42 (dk_at dksX5_ropeWith_0 18 rfl rfl)
theorem dX5_ropeWith_21 : decode cX5_ropeWith 21 = .ok (.iload_n 3, 1) := dk_29 (dk_at dksX5_ropeWith_0 21 rfl rfl)
theorem dX5_ropeWith_22 : decode cX5_ropeWith 22 = .ok (.aload_n 0, 1) := dk_42 (dk_at dksX5_ropeWith_0 22 rfl rfl)
theorem dX5_ropeWith_23 : decode cX5_ropeWith 23 = .ok (.iload 4, 2) := dk_21 4 (dk_at dksX5_ropeWith_1 0 rfl rfl)
theorem dX5_ropeWith_25 : decode cX5_ropeWith 25 = .ok (.aload_n 0, 1) := dk_42 (dk_at dksX5_ropeWith_1 2 rfl rfl)
theorem dX5_ropeWith_26 : decode cX5_ropeWith 26 = .ok (.getfield 7, 3) := dk_180 0 7 (dk_at dksX5_ropeWith_1 3 rfl rfl)
theorem dX5_ropeWith_29 : decode cX5_ropeWith 29 = .ok (.sipush 132, 3) := dk_17 0 132 (dk_at dksX5_ropeWith_1 6 rfl rfl)
theorem dX5_ropeWith_32 : decode cX5_ropeWith 32 = .ok (.iload 5, 2) := dk_21 5 (dk_at dksX5_ropeWith_1 9 rfl rfl)
theorem dX5_ropeWith_34 : decode cX5_ropeWith 34 = .ok (.iadd, 1) := dk_96 (dk_at dksX5_ropeWith_1 11 rfl rfl)
theorem dX5_ropeWith_35 : decode cX5_ropeWith 35 = .ok (.iaload, 1) := dk_46 (dk_at dksX5_ropeWith_1 12 rfl rfl)
theorem dX5_ropeWith_36 : decode cX5_ropeWith 36 = .ok (.invokevirtual 119, 3) := dk_182 0 119 (dk_at dksX5_ropeWith_1 13 rfl rfl)
theorem dX5_ropeWith_39 : decode cX5_ropeWith 39 = .ok (.iadd, 1) := dk_96 (dk_at dksX5_ropeWith_1 16 rfl rfl)
theorem dX5_ropeWith_40 : decode cX5_ropeWith 40 = .ok (.istore_n 3, 1) := dk_62 (dk_at dksX5_ropeWith_1 17 rfl rfl)
theorem dX5_ropeWith_41 : decode cX5_ropeWith 41 = .ok (.aload_n 0, 1) := dk_42 (dk_at dksX5_ropeWith_1 18 rfl rfl)
theorem dX5_ropeWith_42 : decode cX5_ropeWith 42 = .ok (.getfield 7, 3) := dk_180 0 7 (dk_at dksX5_ropeWith_1 19 rfl rfl)
theorem dX5_ropeWith_45 : decode cX5_ropeWith 45 = .ok (.sipush 132, 3) := dk_17 0 132 (dk_at dksX5_ropeWith_2 0 rfl rfl)
theorem dX5_ropeWith_48 : decode cX5_ropeWith 48 = .ok (.iload 5, 2) := dk_21 5 (dk_at dksX5_ropeWith_2 3 rfl rfl)
theorem dX5_ropeWith_50 : decode cX5_ropeWith 50 = .ok (.iadd, 1) := dk_96 (dk_at dksX5_ropeWith_2 5 rfl rfl)
theorem dX5_ropeWith_51 : decode cX5_ropeWith 51 = .ok (.iaload, 1) := dk_46 (dk_at dksX5_ropeWith_2 6 rfl rfl)
theorem dX5_ropeWith_52 : decode cX5_ropeWith 52 = .ok (.istore 4, 2) := dk_54 4 (dk_at dksX5_ropeWith_2 7 rfl rfl)
theorem dX5_ropeWith_54 : decode cX5_ropeWith 54 = .ok (.iinc 5 1, 3) := dk_132 5 1 (dk_at dksX5_ropeWith_2 9 rfl rfl)
theorem dX5_ropeWith_57 : decode cX5_ropeWith 57 = .ok (.goto (-49), 3) := dk_167 255 207 (dk_at dksX5_ropeWith_2 12 rfl rfl)
theorem dX5_ropeWith_60 : decode cX5_ropeWith 60 = .ok (.iload_n 3, 1) := dk_29 (dk_at dksX5_ropeWith_2 15 rfl rfl)
theorem dX5_ropeWith_61 : decode cX5_ropeWith 61 = .ok (.aload_n 0, 1) := dk_42 (dk_at dksX5_ropeWith_2 16 rfl rfl)
theorem dX5_ropeWith_62 : decode cX5_ropeWith 62 = .ok (.iload 4, 2) := dk_21 4 (dk_at dksX5_ropeWith_2 17 rfl rfl)
theorem dX5_ropeWith_64 : decode cX5_ropeWith 64 = .ok (.iload_n 2, 1) := dk_28 (dk_at dksX5_ropeWith_2 19 rfl rfl)
theorem dX5_ropeWith_65 : decode cX5_ropeWith 65 = .ok (.invokevirtual 119, 3) := dk_182 0 119 (dk_at dksX5_ropeWith_2 20 rfl rfl)
theorem dX5_ropeWith_68 : decode cX5_ropeWith 68 = .ok (.iadd, 1) := dk_96 (dk_at dksX5_ropeWith_2 23 rfl rfl)
theorem dX5_ropeWith_69 : decode cX5_ropeWith 69 = .ok (.ireturn, 1) := dk_172 (dk_at dksX5_ropeWith_3 0 rfl rfl)
abbrev cX5_distance : ByteArray := prog_25_method_22_code
def yX5_distance : MethodName := ⟨RX5, "distance", "(II)I"⟩
def dkwX5_distance_2 : List UInt8 := [100, 184, 0, 104, 42, 27, 4, 182, 0, 101, 42, 28, 4, 182, 0, 101, 100, 184, 0, 104, 96, 172]
abbrev dktX5_distance_2 : List UInt8 := dkwX5_distance_2 ++ []
def dkwX5_distance_1 : List UInt8 := [28, 2, 160, 0, 10, 42, 27, 4, 182, 0, 101, 172, 42, 27, 3, 182, 0, 101, 42, 28, 3, 182, 0, 101]
abbrev dktX5_distance_1 : List UInt8 := dkwX5_distance_1 ++ dktX5_distance_2
def dkwX5_distance_0 : List UInt8 := [27, 2, 160, 0, 10, 28, 2, 160, 0, 5, 3, 172, 27, 2, 160, 0, 10, 42, 28, 4, 182, 0, 101, 172]
abbrev dktX5_distance_0 : List UInt8 := dkwX5_distance_0 ++ dktX5_distance_1
theorem dksX5_distance_0 : cX5_distance.data.toList.drop 0 = dktX5_distance_0 := by decide +kernel
theorem dksX5_distance_1 : cX5_distance.data.toList.drop 24 = dktX5_distance_1 := dk_seg dksX5_distance_0 24 rfl rfl
theorem dksX5_distance_2 : cX5_distance.data.toList.drop 48 = dktX5_distance_2 := dk_seg dksX5_distance_1 24 rfl rfl
theorem dX5_distance_0 : decode cX5_distance 0 = .ok (.iload_n 1, 1) := dk_27 (dk_at dksX5_distance_0 0 rfl rfl)
theorem dX5_distance_1 : decode cX5_distance 1 = .ok (.iconst (-1), 1) := dk_2 (dk_at dksX5_distance_0 1 rfl rfl)
theorem dX5_distance_2 : decode cX5_distance 2 = .ok (.if_icmp .ne 10, 3) := dk_160 0 10 (dk_at dksX5_distance_0 2 rfl rfl)
theorem dX5_distance_5 : decode cX5_distance 5 = .ok (.iload_n 2, 1) := dk_28 (dk_at dksX5_distance_0 5 rfl rfl)
theorem dX5_distance_6 : decode cX5_distance 6 = .ok (.iconst (-1), 1) := dk_2 (dk_at dksX5_distance_0 6 rfl rfl)
theorem dX5_distance_7 : decode cX5_distance 7 = .ok (.if_icmp .ne 5, 3) := dk_160 0 5 (dk_at dksX5_distance_0 7 rfl rfl)
theorem dX5_distance_10 : decode cX5_distance 10 = .ok (.iconst 0, 1) := dk_3 (dk_at dksX5_distance_0 10 rfl rfl)
theorem dX5_distance_11 : decode cX5_distance 11 = .ok (.ireturn, 1) := dk_172 (dk_at dksX5_distance_0 11 rfl rfl)
theorem dX5_distance_12 : decode cX5_distance 12 = .ok (.iload_n 1, 1) := dk_27 (dk_at dksX5_distance_0 12 rfl rfl)
theorem dX5_distance_13 : decode cX5_distance 13 = .ok (.iconst (-1), 1) := dk_2 (dk_at dksX5_distance_0 13 rfl rfl)
theorem dX5_distance_14 : decode cX5_distance 14 = .ok (.if_icmp .ne 10, 3) := dk_160 0 10 (dk_at dksX5_distance_0 14 rfl rfl)
theorem dX5_distance_17 : decode cX5_distance 17 = .ok (.aload_n 0, 1) := dk_42 (dk_at dksX5_distance_0 17 rfl rfl)
theorem dX5_distance_18 : decode cX5_distance 18 = .ok (.iload_n 2, 1) := dk_28 (dk_at dksX5_distance_0 18 rfl rfl)
theorem dX5_distance_19 : decode cX5_distance 19 = .ok (.iconst 1, 1) := dk_4 (dk_at dksX5_distance_0 19 rfl rfl)
theorem dX5_distance_20 : decode cX5_distance 20 = .ok (.invokevirtual 101, 3) := dk_182 0 101 (dk_at dksX5_distance_0 20 rfl rfl)
theorem dX5_distance_23 : decode cX5_distance 23 = .ok (.ireturn, 1) := dk_172 (dk_at dksX5_distance_0 23 rfl rfl)
theorem dX5_distance_24 : decode cX5_distance 24 = .ok (.iload_n 2, 1) := dk_28 (dk_at dksX5_distance_1 0 rfl rfl)
theorem dX5_distance_25 : decode cX5_distance 25 = .ok (.iconst (-1), 1) := dk_2 (dk_at dksX5_distance_1 1 rfl rfl)
theorem dX5_distance_26 : decode cX5_distance 26 = .ok (.if_icmp .ne 10, 3) := dk_160 0 10 (dk_at dksX5_distance_1 2 rfl rfl)
theorem dX5_distance_29 : decode cX5_distance 29 = .ok (.aload_n 0, 1) := dk_42 (dk_at dksX5_distance_1 5 rfl rfl)
theorem dX5_distance_30 : decode cX5_distance 30 = .ok (.iload_n 1, 1) := dk_27 (dk_at dksX5_distance_1 6 rfl rfl)
theorem dX5_distance_31 : decode cX5_distance 31 = .ok (.iconst 1, 1) := dk_4 (dk_at dksX5_distance_1 7 rfl rfl)
theorem dX5_distance_32 : decode cX5_distance 32 = .ok (.invokevirtual 101, 3) := dk_182 0 101 (dk_at dksX5_distance_1 8 rfl rfl)
theorem dX5_distance_35 : decode cX5_distance 35 = .ok (.ireturn, 1) := dk_172 (dk_at dksX5_distance_1 11 rfl rfl)
theorem dX5_distance_36 : decode cX5_distance 36 = .ok (.aload_n 0, 1) := dk_42 (dk_at dksX5_distance_1 12 rfl rfl)
theorem dX5_distance_37 : decode cX5_distance 37 = .ok (.iload_n 1, 1) := dk_27 (dk_at dksX5_distance_1 13 rfl rfl)
theorem dX5_distance_38 : decode cX5_distance 38 = .ok (.iconst 0, 1) := dk_3 (dk_at dksX5_distance_1 14 rfl rfl)
theorem dX5_distance_39 : decode cX5_distance 39 = .ok (.invokevirtual 101, 3) := dk_182 0 101 (dk_at dksX5_distance_1 15 rfl rfl)
theorem dX5_distance_42 : decode cX5_distance 42 = .ok (.aload_n 0, 1) := dk_42 (dk_at dksX5_distance_1 18 rfl rfl)
theorem dX5_distance_43 : decode cX5_distance 43 = .ok (.iload_n 2, 1) := dk_28 (dk_at dksX5_distance_1 19 rfl rfl)
theorem dX5_distance_44 : decode cX5_distance 44 = .ok (.iconst 0, 1) := dk_3 (dk_at dksX5_distance_1 20 rfl rfl)
theorem dX5_distance_45 : decode cX5_distance 45 = .ok (.invokevirtual 101, 3) := dk_182 0 101 (dk_at dksX5_distance_1 21 rfl rfl)
theorem dX5_distance_48 : decode cX5_distance 48 = .ok (.isub, 1) := dk_100 (dk_at dksX5_distance_2 0 rfl rfl)
theorem dX5_distance_49 : decode cX5_distance 49 = .ok (.invokestatic 104, 3) := dk_184 0 104 (dk_at dksX5_distance_2 1 rfl rfl)
theorem dX5_distance_52 : decode cX5_distance 52 = .ok (.aload_n 0, 1) := dk_42 (dk_at dksX5_distance_2 4 rfl rfl)
theorem dX5_distance_53 : decode cX5_distance 53 = .ok (.iload_n 1, 1) := dk_27 (dk_at dksX5_distance_2 5 rfl rfl)
theorem dX5_distance_54 : decode cX5_distance 54 = .ok (.iconst 1, 1) := dk_4 (dk_at dksX5_distance_2 6 rfl rfl)
theorem dX5_distance_55 : decode cX5_distance 55 = .ok (.invokevirtual 101, 3) := dk_182 0 101 (dk_at dksX5_distance_2 7 rfl rfl)
theorem dX5_distance_58 : decode cX5_distance 58 = .ok (.aload_n 0, 1) := dk_42 (dk_at dksX5_distance_2 10 rfl rfl)
theorem dX5_distance_59 : decode cX5_distance 59 = .ok (.iload_n 2, 1) := dk_28 (dk_at dksX5_distance_2 11 rfl rfl)
theorem dX5_distance_60 : decode cX5_distance 60 = .ok (.iconst 1, 1) := dk_4 (dk_at dksX5_distance_2 12 rfl rfl)
theorem dX5_distance_61 : decode cX5_distance 61 = .ok (.invokevirtual 101, 3) := dk_182 0 101 (dk_at dksX5_distance_2 13 rfl rfl)
theorem dX5_distance_64 : decode cX5_distance 64 = .ok (.isub, 1) := dk_100 (dk_at dksX5_distance_2 16 rfl rfl)
theorem dX5_distance_65 : decode cX5_distance 65 = .ok (.invokestatic 104, 3) := dk_184 0 104 (dk_at dksX5_distance_2 17 rfl rfl)
theorem dX5_distance_68 : decode cX5_distance 68 = .ok (.iadd, 1) := dk_96 (dk_at dksX5_distance_2 20 rfl rfl)
theorem dX5_distance_69 : decode cX5_distance 69 = .ok (.ireturn, 1) := dk_172 (dk_at dksX5_distance_2 21 rfl rfl)
abbrev cX5_size : ByteArray := prog_25_method_7_code
def yX5_size : MethodName := ⟨RX5, "size", "(I)I"⟩
def dkwX5_size_0 : List UInt8 := [26, 156, 0, 8, 26, 116, 167, 0, 4, 26, 172]
abbrev dktX5_size_0 : List UInt8 := dkwX5_size_0 ++ []
theorem dksX5_size_0 : cX5_size.data.toList.drop 0 = dktX5_size_0 := by decide +kernel
theorem dX5_size_0 : decode cX5_size 0 = .ok (.iload_n 0, 1) := dk_26 (dk_at dksX5_size_0 0 rfl rfl)
theorem dX5_size_1 : decode cX5_size 1 = .ok (.ifCond .ge 8, 3) := dk_156 0 8 (dk_at dksX5_size_0 1 rfl rfl)
theorem dX5_size_4 : decode cX5_size 4 = .ok (.iload_n 0, 1) := dk_26 (dk_at dksX5_size_0 4 rfl rfl)
theorem dX5_size_5 : decode cX5_size 5 = .ok (.ineg, 1) := dk_116 (dk_at dksX5_size_0 5 rfl rfl)
theorem dX5_size_6 : decode cX5_size 6 = .ok (.goto 4, 3) := dk_167 0 4 (dk_at dksX5_size_0 6 rfl rfl)
theorem dX5_size_9 : decode cX5_size 9 = .ok (.iload_n 0, 1) := dk_26 (dk_at dksX5_size_0 9 rfl rfl)
theorem dX5_size_10 : decode cX5_size 10 = .ok (.ireturn, 1) := dk_172 (dk_at dksX5_size_0 10 rfl rfl)
abbrev cX5_holdOf : ByteArray := prog_25_method_35_code
def yX5_holdOf : MethodName := ⟨RX5, "holdOf", "(II)I"⟩
def dkwX5_holdOf_5 : List UInt8 := [27, 28, 182, 0, 101, 172]
abbrev dktX5_holdOf_5 : List UInt8 := dkwX5_holdOf_5 ++ []
def dkwX5_holdOf_4 : List UInt8 := [167, 0, 4, 3, 172, 42, 27, 182, 0, 152, 172, 42, 27, 182, 0, 155, 172, 42, 27, 182, 0, 158, 172, 42]
abbrev dktX5_holdOf_4 : List UInt8 := dkwX5_holdOf_4 ++ dktX5_holdOf_5
def dkwX5_holdOf_3 : List UInt8 := [42, 27, 182, 0, 122, 153, 0, 7, 4, 167, 0, 4, 3, 172, 42, 27, 182, 0, 149, 153, 0, 7, 4]
abbrev dktX5_holdOf_3 : List UInt8 := dkwX5_holdOf_3 ++ dktX5_holdOf_4
def dkwX5_holdOf_2 : List UInt8 := [170, 0, 0, 0, 0, 0, 0, 82, 0, 0, 0, 5, 0, 0, 0, 9, 0, 0, 0, 36, 0, 0, 0, 50, 0, 0, 0, 64, 0, 0, 0, 70, 0, 0, 0, 76]
abbrev dktX5_holdOf_2 : List UInt8 := dkwX5_holdOf_2 ++ dktX5_holdOf_3
def dkwX5_holdOf_1 : List UInt8 := [42, 5, 182, 0, 80, 172, 42, 3, 181, 0, 65, 28]
abbrev dktX5_holdOf_1 : List UInt8 := dkwX5_holdOf_1 ++ dktX5_holdOf_2
def dkwX5_holdOf_0 : List UInt8 := [42, 27, 182, 0, 146, 154, 0, 9, 42, 4, 182, 0, 80, 172, 28, 3, 16, 9, 184, 0, 97, 154, 0, 9]
abbrev dktX5_holdOf_0 : List UInt8 := dkwX5_holdOf_0 ++ dktX5_holdOf_1
theorem dksX5_holdOf_0 : cX5_holdOf.data.toList.drop 0 = dktX5_holdOf_0 := by decide +kernel
theorem dksX5_holdOf_1 : cX5_holdOf.data.toList.drop 24 = dktX5_holdOf_1 := dk_seg dksX5_holdOf_0 24 rfl rfl
theorem dksX5_holdOf_2 : cX5_holdOf.data.toList.drop 36 = dktX5_holdOf_2 := dk_seg dksX5_holdOf_1 12 rfl rfl
theorem dksX5_holdOf_3 : cX5_holdOf.data.toList.drop 72 = dktX5_holdOf_3 := dk_seg dksX5_holdOf_2 36 rfl rfl
theorem dksX5_holdOf_4 : cX5_holdOf.data.toList.drop 95 = dktX5_holdOf_4 := dk_seg dksX5_holdOf_3 23 rfl rfl
theorem dksX5_holdOf_5 : cX5_holdOf.data.toList.drop 119 = dktX5_holdOf_5 := dk_seg dksX5_holdOf_4 24 rfl rfl
theorem dX5_holdOf_0 : decode cX5_holdOf 0 = .ok (.aload_n 0, 1) := dk_42 (dk_at dksX5_holdOf_0 0 rfl rfl)
theorem dX5_holdOf_1 : decode cX5_holdOf 1 = .ok (.iload_n 1, 1) := dk_27 (dk_at dksX5_holdOf_0 1 rfl rfl)
theorem dX5_holdOf_2 : decode cX5_holdOf 2 = .ok (.invokevirtual 146, 3) := dk_182 0 146 (dk_at dksX5_holdOf_0 2 rfl rfl)
theorem dX5_holdOf_5 : decode cX5_holdOf 5 = .ok (.ifCond .ne 9, 3) := dk_154 0 9 (dk_at dksX5_holdOf_0 5 rfl rfl)
theorem dX5_holdOf_8 : decode cX5_holdOf 8 = .ok (.aload_n 0, 1) := dk_42 (dk_at dksX5_holdOf_0 8 rfl rfl)
theorem dX5_holdOf_9 : decode cX5_holdOf 9 = .ok (.iconst 1, 1) := dk_4 (dk_at dksX5_holdOf_0 9 rfl rfl)
theorem dX5_holdOf_10 : decode cX5_holdOf 10 = .ok (.invokevirtual 80, 3) := dk_182 0 80 (dk_at dksX5_holdOf_0 10 rfl rfl)
theorem dX5_holdOf_13 : decode cX5_holdOf 13 = .ok (.ireturn, 1) := dk_172 (dk_at dksX5_holdOf_0 13 rfl rfl)
theorem dX5_holdOf_14 : decode cX5_holdOf 14 = .ok (.iload_n 2, 1) := dk_28 (dk_at dksX5_holdOf_0 14 rfl rfl)
theorem dX5_holdOf_15 : decode cX5_holdOf 15 = .ok (.iconst 0, 1) := dk_3 (dk_at dksX5_holdOf_0 15 rfl rfl)
theorem dX5_holdOf_16 : decode cX5_holdOf 16 = .ok (.bipush 9, 2) := dk_16 9 (dk_at dksX5_holdOf_0 16 rfl rfl)
theorem dX5_holdOf_18 : decode cX5_holdOf 18 = .ok (.invokestatic 97, 3) := dk_184 0 97 (dk_at dksX5_holdOf_0 18 rfl rfl)
theorem dX5_holdOf_21 : decode cX5_holdOf 21 = .ok (.ifCond .ne 9, 3) := dk_154 0 9 (dk_at dksX5_holdOf_0 21 rfl rfl)
theorem dX5_holdOf_24 : decode cX5_holdOf 24 = .ok (.aload_n 0, 1) := dk_42 (dk_at dksX5_holdOf_1 0 rfl rfl)
theorem dX5_holdOf_25 : decode cX5_holdOf 25 = .ok (.iconst 2, 1) := dk_5 (dk_at dksX5_holdOf_1 1 rfl rfl)
theorem dX5_holdOf_26 : decode cX5_holdOf 26 = .ok (.invokevirtual 80, 3) := dk_182 0 80 (dk_at dksX5_holdOf_1 2 rfl rfl)
theorem dX5_holdOf_29 : decode cX5_holdOf 29 = .ok (.ireturn, 1) := dk_172 (dk_at dksX5_holdOf_1 5 rfl rfl)
theorem dX5_holdOf_30 : decode cX5_holdOf 30 = .ok (.aload_n 0, 1) := dk_42 (dk_at dksX5_holdOf_1 6 rfl rfl)
theorem dX5_holdOf_31 : decode cX5_holdOf 31 = .ok (.iconst 0, 1) := dk_3 (dk_at dksX5_holdOf_1 7 rfl rfl)
theorem dX5_holdOf_32 : decode cX5_holdOf 32 = .ok (.putfield 65, 3) := dk_181 0 65 (dk_at dksX5_holdOf_1 8 rfl rfl)
theorem dX5_holdOf_35 : decode cX5_holdOf 35 = .ok (.iload_n 2, 1) := dk_28 (dk_at dksX5_holdOf_1 11 rfl rfl)
theorem dX5_holdOf_36 : decode cX5_holdOf 36 = .ok (.tableswitch 82 5 9 #[36, 50, 64, 70, 76], 36) := by decide +kernel
theorem dX5_holdOf_72 : decode cX5_holdOf 72 = .ok (.aload_n 0, 1) := dk_42 (dk_at dksX5_holdOf_3 0 rfl rfl)
theorem dX5_holdOf_73 : decode cX5_holdOf 73 = .ok (.iload_n 1, 1) := dk_27 (dk_at dksX5_holdOf_3 1 rfl rfl)
theorem dX5_holdOf_74 : decode cX5_holdOf 74 = .ok (.invokevirtual 122, 3) := dk_182 0 122 (dk_at dksX5_holdOf_3 2 rfl rfl)
theorem dX5_holdOf_77 : decode cX5_holdOf 77 = .ok (.ifCond .eq 7, 3) := dk_153 0 7 (dk_at dksX5_holdOf_3 5 rfl rfl)
theorem dX5_holdOf_80 : decode cX5_holdOf 80 = .ok (.iconst 1, 1) := dk_4 (dk_at dksX5_holdOf_3 8 rfl rfl)
theorem dX5_holdOf_81 : decode cX5_holdOf 81 = .ok (.goto 4, 3) := dk_167 0 4 (dk_at dksX5_holdOf_3 9 rfl rfl)
theorem dX5_holdOf_84 : decode cX5_holdOf 84 = .ok (.iconst 0, 1) := dk_3 (dk_at dksX5_holdOf_3 12 rfl rfl)
theorem dX5_holdOf_85 : decode cX5_holdOf 85 = .ok (.ireturn, 1) := dk_172 (dk_at dksX5_holdOf_3 13 rfl rfl)
theorem dX5_holdOf_86 : decode cX5_holdOf 86 = .ok (.aload_n 0, 1) := dk_42 (dk_at dksX5_holdOf_3 14 rfl rfl)
theorem dX5_holdOf_87 : decode cX5_holdOf 87 = .ok (.iload_n 1, 1) := dk_27 (dk_at dksX5_holdOf_3 15 rfl rfl)
theorem dX5_holdOf_88 : decode cX5_holdOf 88 = .ok (.invokevirtual 149, 3) := dk_182 0 149 (dk_at dksX5_holdOf_3 16 rfl rfl)
theorem dX5_holdOf_91 : decode cX5_holdOf 91 = .ok (.ifCond .eq 7, 3) := dk_153 0 7 (dk_at dksX5_holdOf_3 19 rfl rfl)
theorem dX5_holdOf_94 : decode cX5_holdOf 94 = .ok (.iconst 1, 1) := dk_4 (dk_at dksX5_holdOf_3 22 rfl rfl)
theorem dX5_holdOf_95 : decode cX5_holdOf 95 = .ok (.goto 4, 3) := dk_167 0 4 (dk_at dksX5_holdOf_4 0 rfl rfl)
theorem dX5_holdOf_98 : decode cX5_holdOf 98 = .ok (.iconst 0, 1) := dk_3 (dk_at dksX5_holdOf_4 3 rfl rfl)
theorem dX5_holdOf_99 : decode cX5_holdOf 99 = .ok (.ireturn, 1) := dk_172 (dk_at dksX5_holdOf_4 4 rfl rfl)
theorem dX5_holdOf_100 : decode cX5_holdOf 100 = .ok (.aload_n 0, 1) := dk_42 (dk_at dksX5_holdOf_4 5 rfl rfl)
theorem dX5_holdOf_101 : decode cX5_holdOf 101 = .ok (.iload_n 1, 1) := dk_27 (dk_at dksX5_holdOf_4 6 rfl rfl)
theorem dX5_holdOf_102 : decode cX5_holdOf 102 = .ok (.invokevirtual 152, 3) := dk_182 0 152 (dk_at dksX5_holdOf_4 7 rfl rfl)
theorem dX5_holdOf_105 : decode cX5_holdOf 105 = .ok (.ireturn, 1) := dk_172 (dk_at dksX5_holdOf_4 10 rfl rfl)
theorem dX5_holdOf_106 : decode cX5_holdOf 106 = .ok (.aload_n 0, 1) := dk_42 (dk_at dksX5_holdOf_4 11 rfl rfl)
theorem dX5_holdOf_107 : decode cX5_holdOf 107 = .ok (.iload_n 1, 1) := dk_27 (dk_at dksX5_holdOf_4 12 rfl rfl)
theorem dX5_holdOf_108 : decode cX5_holdOf 108 = .ok (.invokevirtual 155, 3) := dk_182 0 155 (dk_at dksX5_holdOf_4 13 rfl rfl)
theorem dX5_holdOf_111 : decode cX5_holdOf 111 = .ok (.ireturn, 1) := dk_172 (dk_at dksX5_holdOf_4 16 rfl rfl)
theorem dX5_holdOf_112 : decode cX5_holdOf 112 = .ok (.aload_n 0, 1) := dk_42 (dk_at dksX5_holdOf_4 17 rfl rfl)
theorem dX5_holdOf_113 : decode cX5_holdOf 113 = .ok (.iload_n 1, 1) := dk_27 (dk_at dksX5_holdOf_4 18 rfl rfl)
theorem dX5_holdOf_114 : decode cX5_holdOf 114 = .ok (.invokevirtual 158, 3) := dk_182 0 158 (dk_at dksX5_holdOf_4 19 rfl rfl)
theorem dX5_holdOf_117 : decode cX5_holdOf 117 = .ok (.ireturn, 1) := dk_172 (dk_at dksX5_holdOf_4 22 rfl rfl)
theorem dX5_holdOf_118 : decode cX5_holdOf 118 = .ok (.aload_n 0, 1) := dk_42 (dk_at dksX5_holdOf_4 23 rfl rfl)
theorem dX5_holdOf_119 : decode cX5_holdOf 119 = .ok (.iload_n 1, 1) := dk_27 (dk_at dksX5_holdOf_5 0 rfl rfl)
theorem dX5_holdOf_120 : decode cX5_holdOf 120 = .ok (.iload_n 2, 1) := dk_28 (dk_at dksX5_holdOf_5 1 rfl rfl)
theorem dX5_holdOf_121 : decode cX5_holdOf 121 = .ok (.invokevirtual 101, 3) := dk_182 0 101 (dk_at dksX5_holdOf_5 2 rfl rfl)
theorem dX5_holdOf_124 : decode cX5_holdOf 124 = .ok (.ireturn, 1) := dk_172 (dk_at dksX5_holdOf_5 5 rfl rfl)
abbrev cX5_isHold : ByteArray := prog_25_method_17_code
def yX5_isHold : MethodName := ⟨RX5, "isHold", "(I)Z"⟩
def dkwX5_isHold_0 : List UInt8 := [27, 3, 42, 180, 0, 7, 3, 46, 4, 100, 184, 0, 97, 172]
abbrev dktX5_isHold_0 : List UInt8 := dkwX5_isHold_0 ++ []
theorem dksX5_isHold_0 : cX5_isHold.data.toList.drop 0 = dktX5_isHold_0 := by decide +kernel
theorem dX5_isHold_0 : decode cX5_isHold 0 = .ok (.iload_n 1, 1) := dk_27 (dk_at dksX5_isHold_0 0 rfl rfl)
theorem dX5_isHold_1 : decode cX5_isHold 1 = .ok (.iconst 0, 1) := dk_3 (dk_at dksX5_isHold_0 1 rfl rfl)
theorem dX5_isHold_2 : decode cX5_isHold 2 = .ok (.aload_n 0, 1) := dk_42 (dk_at dksX5_isHold_0 2 rfl rfl)
theorem dX5_isHold_3 : decode cX5_isHold 3 = .ok (.getfield 7, 3) := dk_180 0 7 (dk_at dksX5_isHold_0 3 rfl rfl)
theorem dX5_isHold_6 : decode cX5_isHold 6 = .ok (.iconst 0, 1) := dk_3 (dk_at dksX5_isHold_0 6 rfl rfl)
theorem dX5_isHold_7 : decode cX5_isHold 7 = .ok (.iaload, 1) := dk_46 (dk_at dksX5_isHold_0 7 rfl rfl)
theorem dX5_isHold_8 : decode cX5_isHold 8 = .ok (.iconst 1, 1) := dk_4 (dk_at dksX5_isHold_0 8 rfl rfl)
theorem dX5_isHold_9 : decode cX5_isHold 9 = .ok (.isub, 1) := dk_100 (dk_at dksX5_isHold_0 9 rfl rfl)
theorem dX5_isHold_10 : decode cX5_isHold 10 = .ok (.invokestatic 97, 3) := dk_184 0 97 (dk_at dksX5_isHold_0 10 rfl rfl)
theorem dX5_isHold_13 : decode cX5_isHold 13 = .ok (.ireturn, 1) := dk_172 (dk_at dksX5_isHold_0 13 rfl rfl)
abbrev cX5_hasCrumbled : ByteArray := prog_25_method_21_code
def yX5_hasCrumbled : MethodName := ⟨RX5, "hasCrumbled", "(I)Z"⟩
def dkwX5_hasCrumbled_0 : List UInt8 := [42, 27, 7, 182, 0, 101, 42, 27, 6, 182, 0, 101, 161, 0, 7, 4, 167, 0, 4, 3, 172]
abbrev dktX5_hasCrumbled_0 : List UInt8 := dkwX5_hasCrumbled_0 ++ []
theorem dksX5_hasCrumbled_0 : cX5_hasCrumbled.data.toList.drop 0 = dktX5_hasCrumbled_0 := by decide +kernel
theorem dX5_hasCrumbled_0 : decode cX5_hasCrumbled 0 = .ok (.aload_n 0, 1) := dk_42 (dk_at dksX5_hasCrumbled_0 0 rfl rfl)
theorem dX5_hasCrumbled_1 : decode cX5_hasCrumbled 1 = .ok (.iload_n 1, 1) := dk_27 (dk_at dksX5_hasCrumbled_0 1 rfl rfl)
theorem dX5_hasCrumbled_2 : decode cX5_hasCrumbled 2 = .ok (.iconst 4, 1) := dk_7 (dk_at dksX5_hasCrumbled_0 2 rfl rfl)
theorem dX5_hasCrumbled_3 : decode cX5_hasCrumbled 3 = .ok (.invokevirtual 101, 3) := dk_182 0 101 (dk_at dksX5_hasCrumbled_0 3 rfl rfl)
theorem dX5_hasCrumbled_6 : decode cX5_hasCrumbled 6 = .ok (.aload_n 0, 1) := dk_42 (dk_at dksX5_hasCrumbled_0 6 rfl rfl)
theorem dX5_hasCrumbled_7 : decode cX5_hasCrumbled 7 = .ok (.iload_n 1, 1) := dk_27 (dk_at dksX5_hasCrumbled_0 7 rfl rfl)
theorem dX5_hasCrumbled_8 : decode cX5_hasCrumbled 8 = .ok (.iconst 3, 1) := dk_6 (dk_at dksX5_hasCrumbled_0 8 rfl rfl)
theorem dX5_hasCrumbled_9 : decode cX5_hasCrumbled 9 = .ok (.invokevirtual 101, 3) := dk_182 0 101 (dk_at dksX5_hasCrumbled_0 9 rfl rfl)
theorem dX5_hasCrumbled_12 : decode cX5_hasCrumbled 12 = .ok (.if_icmp .lt 7, 3) := dk_161 0 7 (dk_at dksX5_hasCrumbled_0 12 rfl rfl)
theorem dX5_hasCrumbled_15 : decode cX5_hasCrumbled 15 = .ok (.iconst 1, 1) := dk_4 (dk_at dksX5_hasCrumbled_0 15 rfl rfl)
theorem dX5_hasCrumbled_16 : decode cX5_hasCrumbled 16 = .ok (.goto 4, 3) := dk_167 0 4 (dk_at dksX5_hasCrumbled_0 16 rfl rfl)
theorem dX5_hasCrumbled_19 : decode cX5_hasCrumbled 19 = .ok (.iconst 0, 1) := dk_3 (dk_at dksX5_hasCrumbled_0 19 rfl rfl)
theorem dX5_hasCrumbled_20 : decode cX5_hasCrumbled 20 = .ok (.ireturn, 1) := dk_172 (dk_at dksX5_hasCrumbled_0 20 rfl rfl)
abbrev cX5_isBright : ByteArray := prog_25_method_25_code
def yX5_isBright : MethodName := ⟨RX5, "isBright", "(I)Z"⟩
def dkwX5_isBright_3 : List UInt8 := [132, 3, 1, 167, 255, 205, 28, 172]
abbrev dktX5_isBright_3 : List UInt8 := dkwX5_isBright_3 ++ []
def dkwX5_isBright_2 : List UInt8 := [29, 182, 0, 116, 27, 182, 0, 119, 42, 29, 5, 182, 0, 110, 163, 0, 7, 4, 167, 0, 4, 3, 128, 61]
abbrev dktX5_isBright_2 : List UInt8 := dkwX5_isBright_2 ++ dktX5_isBright_3
def dkwX5_isBright_1 : List UInt8 := [29, 42, 180, 0, 7, 16, 104, 46, 162, 0, 46, 28, 42, 29, 7, 182, 0, 110, 4, 160, 0, 26, 42, 42]
abbrev dktX5_isBright_1 : List UInt8 := dkwX5_isBright_1 ++ dktX5_isBright_2
def dkwX5_isBright_0 : List UInt8 := [42, 27, 4, 182, 0, 101, 42, 180, 0, 7, 16, 102, 46, 162, 0, 7, 4, 167, 0, 4, 3, 61, 3, 62]
abbrev dktX5_isBright_0 : List UInt8 := dkwX5_isBright_0 ++ dktX5_isBright_1
theorem dksX5_isBright_0 : cX5_isBright.data.toList.drop 0 = dktX5_isBright_0 := by decide +kernel
theorem dksX5_isBright_1 : cX5_isBright.data.toList.drop 24 = dktX5_isBright_1 := dk_seg dksX5_isBright_0 24 rfl rfl
theorem dksX5_isBright_2 : cX5_isBright.data.toList.drop 48 = dktX5_isBright_2 := dk_seg dksX5_isBright_1 24 rfl rfl
theorem dksX5_isBright_3 : cX5_isBright.data.toList.drop 72 = dktX5_isBright_3 := dk_seg dksX5_isBright_2 24 rfl rfl
theorem dX5_isBright_0 : decode cX5_isBright 0 = .ok (.aload_n 0, 1) := dk_42 (dk_at dksX5_isBright_0 0 rfl rfl)
theorem dX5_isBright_1 : decode cX5_isBright 1 = .ok (.iload_n 1, 1) := dk_27 (dk_at dksX5_isBright_0 1 rfl rfl)
theorem dX5_isBright_2 : decode cX5_isBright 2 = .ok (.iconst 1, 1) := dk_4 (dk_at dksX5_isBright_0 2 rfl rfl)
theorem dX5_isBright_3 : decode cX5_isBright 3 = .ok (.invokevirtual 101, 3) := dk_182 0 101 (dk_at dksX5_isBright_0 3 rfl rfl)
theorem dX5_isBright_6 : decode cX5_isBright 6 = .ok (.aload_n 0, 1) := dk_42 (dk_at dksX5_isBright_0 6 rfl rfl)
theorem dX5_isBright_7 : decode cX5_isBright 7 = .ok (.getfield 7, 3) := dk_180 0 7 (dk_at dksX5_isBright_0 7 rfl rfl)
theorem dX5_isBright_10 : decode cX5_isBright 10 = .ok (.bipush 102, 2) := dk_16 102 (dk_at dksX5_isBright_0 10 rfl rfl)
theorem dX5_isBright_12 : decode cX5_isBright 12 = .ok (.iaload, 1) := dk_46 (dk_at dksX5_isBright_0 12 rfl rfl)
theorem dX5_isBright_13 : decode cX5_isBright 13 = .ok (.if_icmp .ge 7, 3) := dk_162 0 7 (dk_at dksX5_isBright_0 13 rfl rfl)
theorem dX5_isBright_16 : decode cX5_isBright 16 = .ok (.iconst 1, 1) := dk_4 (dk_at dksX5_isBright_0 16 rfl rfl)
theorem dX5_isBright_17 : decode cX5_isBright 17 = .ok (.goto 4, 3) := dk_167 0 4 (dk_at dksX5_isBright_0 17 rfl rfl)
theorem dX5_isBright_20 : decode cX5_isBright 20 = .ok (.iconst 0, 1) := dk_3 (dk_at dksX5_isBright_0 20 rfl rfl)
theorem dX5_isBright_21 : decode cX5_isBright 21 = .ok (.istore_n 2, 1) := dk_61 (dk_at dksX5_isBright_0 21 rfl rfl)
theorem dX5_isBright_22 : decode cX5_isBright 22 = .ok (.iconst 0, 1) := dk_3 (dk_at dksX5_isBright_0 22 rfl rfl)
theorem dX5_isBright_23 : decode cX5_isBright 23 = .ok (.istore_n 3, 1) := dk_62 (dk_at dksX5_isBright_0 23 rfl rfl)
theorem dX5_isBright_24 : decode cX5_isBright 24 = .ok (.iload_n 3, 1) := dk_29 (dk_at dksX5_isBright_1 0 rfl rfl)
theorem dX5_isBright_25 : decode cX5_isBright 25 = .ok (.aload_n 0, 1) := dk_42 (dk_at dksX5_isBright_1 1 rfl rfl)
theorem dX5_isBright_26 : decode cX5_isBright 26 = .ok (.getfield 7, 3) := dk_180 0 7 (dk_at dksX5_isBright_1 2 rfl rfl)
theorem dX5_isBright_29 : decode cX5_isBright 29 = .ok (.bipush 104, 2) := dk_16 104 (dk_at dksX5_isBright_1 5 rfl rfl)
theorem dX5_isBright_31 : decode cX5_isBright 31 = .ok (.iaload, 1) := dk_46 (dk_at dksX5_isBright_1 7 rfl rfl)
theorem dX5_isBright_32 : decode cX5_isBright 32 = .ok (.if_icmp .ge 46, 3) := dk_162 0 46 (dk_at dksX5_isBright_1 8 rfl rfl)
theorem dX5_isBright_35 : decode cX5_isBright 35 = .ok (.iload_n 2, 1) := dk_28 (dk_at dksX5_isBright_1 11 rfl rfl)
theorem dX5_isBright_36 : decode cX5_isBright 36 = .ok (.aload_n 0, 1) := dk_42 (dk_at dksX5_isBright_1 12 rfl rfl)
theorem dX5_isBright_37 : decode cX5_isBright 37 = .ok (.iload_n 3, 1) := dk_29 (dk_at dksX5_isBright_1 13 rfl rfl)
theorem dX5_isBright_38 : decode cX5_isBright 38 = .ok (.iconst 4, 1) := dk_7 (dk_at dksX5_isBright_1 14 rfl rfl)
theorem dX5_isBright_39 : decode cX5_isBright 39 = .ok (.invokevirtual 110, 3) := dk_182 0 110 (dk_at dksX5_isBright_1 15 rfl rfl)
theorem dX5_isBright_42 : decode cX5_isBright 42 = .ok (.iconst 1, 1) := dk_4 (dk_at dksX5_isBright_1 18 rfl rfl)
theorem dX5_isBright_43 : decode cX5_isBright 43 = .ok (.if_icmp .ne 26, 3) := dk_160 0 26 (dk_at dksX5_isBright_1 19 rfl rfl)
theorem dX5_isBright_46 : decode cX5_isBright 46 = .ok (.aload_n 0, 1) := dk_42 (dk_at dksX5_isBright_1 22 rfl rfl)
theorem dX5_isBright_47 : decode cX5_isBright 47 = .ok (.aload_n 0, 1) := dk_42 (dk_at dksX5_isBright_1 23 rfl rfl)
theorem dX5_isBright_48 : decode cX5_isBright 48 = .ok (.iload_n 3, 1) := dk_29 (dk_at dksX5_isBright_2 0 rfl rfl)
theorem dX5_isBright_49 : decode cX5_isBright 49 = .ok (.invokevirtual 116, 3) := dk_182 0 116 (dk_at dksX5_isBright_2 1 rfl rfl)
theorem dX5_isBright_52 : decode cX5_isBright 52 = .ok (.iload_n 1, 1) := dk_27 (dk_at dksX5_isBright_2 4 rfl rfl)
theorem dX5_isBright_53 : decode cX5_isBright 53 = .ok (.invokevirtual 119, 3) := dk_182 0 119 (dk_at dksX5_isBright_2 5 rfl rfl)
theorem dX5_isBright_56 : decode cX5_isBright 56 = .ok (.aload_n 0, 1) := dk_42 (dk_at dksX5_isBright_2 8 rfl rfl)
theorem dX5_isBright_57 : decode cX5_isBright 57 = .ok (.iload_n 3, 1) := dk_29 (dk_at dksX5_isBright_2 9 rfl rfl)
theorem dX5_isBright_58 : decode cX5_isBright 58 = .ok (.iconst 2, 1) := dk_5 (dk_at dksX5_isBright_2 10 rfl rfl)
theorem dX5_isBright_59 : decode cX5_isBright 59 = .ok (.invokevirtual 110, 3) := dk_182 0 110 (dk_at dksX5_isBright_2 11 rfl rfl)
theorem dX5_isBright_62 : decode cX5_isBright 62 = .ok (.if_icmp .gt 7, 3) := dk_163 0 7 (dk_at dksX5_isBright_2 14 rfl rfl)
theorem dX5_isBright_65 : decode cX5_isBright 65 = .ok (.iconst 1, 1) := dk_4 (dk_at dksX5_isBright_2 17 rfl rfl)
theorem dX5_isBright_66 : decode cX5_isBright 66 = .ok (.goto 4, 3) := dk_167 0 4 (dk_at dksX5_isBright_2 18 rfl rfl)
theorem dX5_isBright_69 : decode cX5_isBright 69 = .ok (.iconst 0, 1) := dk_3 (dk_at dksX5_isBright_2 21 rfl rfl)
theorem dX5_isBright_70 : decode cX5_isBright 70 = .ok (.ior, 1) := dk_128 (dk_at dksX5_isBright_2 22 rfl rfl)
theorem dX5_isBright_71 : decode cX5_isBright 71 = .ok (.istore_n 2, 1) := dk_61 (dk_at dksX5_isBright_2 23 rfl rfl)
theorem dX5_isBright_72 : decode cX5_isBright 72 = .ok (.iinc 3 1, 3) := dk_132 3 1 (dk_at dksX5_isBright_3 0 rfl rfl)
theorem dX5_isBright_75 : decode cX5_isBright 75 = .ok (.goto (-51), 3) := dk_167 255 205 (dk_at dksX5_isBright_3 3 rfl rfl)
theorem dX5_isBright_78 : decode cX5_isBright 78 = .ok (.iload_n 2, 1) := dk_28 (dk_at dksX5_isBright_3 6 rfl rfl)
theorem dX5_isBright_79 : decode cX5_isBright 79 = .ok (.ireturn, 1) := dk_172 (dk_at dksX5_isBright_3 7 rfl rfl)
abbrev cX5_ofLamp : ByteArray := prog_25_method_14_code
def yX5_ofLamp : MethodName := ⟨RX5, "ofLamp", "(II)I"⟩
def dkwX5_ofLamp_0 : List UInt8 := [42, 180, 0, 7, 27, 28, 184, 0, 94, 46, 172]
abbrev dktX5_ofLamp_0 : List UInt8 := dkwX5_ofLamp_0 ++ []
theorem dksX5_ofLamp_0 : cX5_ofLamp.data.toList.drop 0 = dktX5_ofLamp_0 := by decide +kernel
theorem dX5_ofLamp_0 : decode cX5_ofLamp 0 = .ok (.aload_n 0, 1) := dk_42 (dk_at dksX5_ofLamp_0 0 rfl rfl)
theorem dX5_ofLamp_1 : decode cX5_ofLamp 1 = .ok (.getfield 7, 3) := dk_180 0 7 (dk_at dksX5_ofLamp_0 1 rfl rfl)
theorem dX5_ofLamp_4 : decode cX5_ofLamp 4 = .ok (.iload_n 1, 1) := dk_27 (dk_at dksX5_ofLamp_0 4 rfl rfl)
theorem dX5_ofLamp_5 : decode cX5_ofLamp 5 = .ok (.iload_n 2, 1) := dk_28 (dk_at dksX5_ofLamp_0 5 rfl rfl)
theorem dX5_ofLamp_6 : decode cX5_ofLamp 6 = .ok (.invokestatic 94, 3) := dk_184 0 94 (dk_at dksX5_ofLamp_0 6 rfl rfl)
theorem dX5_ofLamp_9 : decode cX5_ofLamp 9 = .ok (.iaload, 1) := dk_46 (dk_at dksX5_ofLamp_0 9 rfl rfl)
theorem dX5_ofLamp_10 : decode cX5_ofLamp 10 = .ok (.ireturn, 1) := dk_172 (dk_at dksX5_ofLamp_0 10 rfl rfl)
abbrev cX5_atLamp : ByteArray := prog_25_method_12_code
def yX5_atLamp : MethodName := ⟨RX5, "atLamp", "(II)I"⟩
def dkwX5_atLamp_0 : List UInt8 := [16, 105, 8, 26, 104, 96, 27, 96, 172]
abbrev dktX5_atLamp_0 : List UInt8 := dkwX5_atLamp_0 ++ []
theorem dksX5_atLamp_0 : cX5_atLamp.data.toList.drop 0 = dktX5_atLamp_0 := by decide +kernel
theorem dX5_atLamp_0 : decode cX5_atLamp 0 = .ok (.bipush 105, 2) := dk_16 105 (dk_at dksX5_atLamp_0 0 rfl rfl)
theorem dX5_atLamp_2 : decode cX5_atLamp 2 = .ok (.iconst 5, 1) := dk_8 (dk_at dksX5_atLamp_0 2 rfl rfl)
theorem dX5_atLamp_3 : decode cX5_atLamp 3 = .ok (.iload_n 0, 1) := dk_26 (dk_at dksX5_atLamp_0 3 rfl rfl)
theorem dX5_atLamp_4 : decode cX5_atLamp 4 = .ok (.imul, 1) := dk_104 (dk_at dksX5_atLamp_0 4 rfl rfl)
theorem dX5_atLamp_5 : decode cX5_atLamp 5 = .ok (.iadd, 1) := dk_96 (dk_at dksX5_atLamp_0 5 rfl rfl)
theorem dX5_atLamp_6 : decode cX5_atLamp 6 = .ok (.iload_n 1, 1) := dk_27 (dk_at dksX5_atLamp_0 6 rfl rfl)
theorem dX5_atLamp_7 : decode cX5_atLamp 7 = .ok (.iadd, 1) := dk_96 (dk_at dksX5_atLamp_0 7 rfl rfl)
theorem dX5_atLamp_8 : decode cX5_atLamp 8 = .ok (.ireturn, 1) := dk_172 (dk_at dksX5_atLamp_0 8 rfl rfl)
abbrev cX5_lampPlace : ByteArray := prog_25_method_24_code
def yX5_lampPlace : MethodName := ⟨RX5, "lampPlace", "(I)I"⟩
def dkwX5_lampPlace_1 : List UInt8 := [3, 182, 0, 110, 172]
abbrev dktX5_lampPlace_1 : List UInt8 := dkwX5_lampPlace_1 ++ []
def dkwX5_lampPlace_0 : List UInt8 := [42, 27, 4, 182, 0, 110, 155, 0, 16, 42, 42, 27, 4, 182, 0, 110, 182, 0, 113, 167, 0, 9, 42, 27]
abbrev dktX5_lampPlace_0 : List UInt8 := dkwX5_lampPlace_0 ++ dktX5_lampPlace_1
theorem dksX5_lampPlace_0 : cX5_lampPlace.data.toList.drop 0 = dktX5_lampPlace_0 := by decide +kernel
theorem dksX5_lampPlace_1 : cX5_lampPlace.data.toList.drop 24 = dktX5_lampPlace_1 := dk_seg dksX5_lampPlace_0 24 rfl rfl
theorem dX5_lampPlace_0 : decode cX5_lampPlace 0 = .ok (.aload_n 0, 1) := dk_42 (dk_at dksX5_lampPlace_0 0 rfl rfl)
theorem dX5_lampPlace_1 : decode cX5_lampPlace 1 = .ok (.iload_n 1, 1) := dk_27 (dk_at dksX5_lampPlace_0 1 rfl rfl)
theorem dX5_lampPlace_2 : decode cX5_lampPlace 2 = .ok (.iconst 1, 1) := dk_4 (dk_at dksX5_lampPlace_0 2 rfl rfl)
theorem dX5_lampPlace_3 : decode cX5_lampPlace 3 = .ok (.invokevirtual 110, 3) := dk_182 0 110 (dk_at dksX5_lampPlace_0 3 rfl rfl)
theorem dX5_lampPlace_6 : decode cX5_lampPlace 6 = .ok (.ifCond .lt 16, 3) := dk_155 0 16 (dk_at dksX5_lampPlace_0 6 rfl rfl)
theorem dX5_lampPlace_9 : decode cX5_lampPlace 9 = .ok (.aload_n 0, 1) := dk_42 (dk_at dksX5_lampPlace_0 9 rfl rfl)
theorem dX5_lampPlace_10 : decode cX5_lampPlace 10 = .ok (.aload_n 0, 1) := dk_42 (dk_at dksX5_lampPlace_0 10 rfl rfl)
theorem dX5_lampPlace_11 : decode cX5_lampPlace 11 = .ok (.iload_n 1, 1) := dk_27 (dk_at dksX5_lampPlace_0 11 rfl rfl)
theorem dX5_lampPlace_12 : decode cX5_lampPlace 12 = .ok (.iconst 1, 1) := dk_4 (dk_at dksX5_lampPlace_0 12 rfl rfl)
theorem dX5_lampPlace_13 : decode cX5_lampPlace 13 = .ok (.invokevirtual 110, 3) := dk_182 0 110 (dk_at dksX5_lampPlace_0 13 rfl rfl)
theorem dX5_lampPlace_16 : decode cX5_lampPlace 16 = .ok (.invokevirtual 113, 3) := dk_182 0 113 (dk_at dksX5_lampPlace_0 16 rfl rfl)
theorem dX5_lampPlace_19 : decode cX5_lampPlace 19 = .ok (.goto 9, 3) := dk_167 0 9 (dk_at dksX5_lampPlace_0 19 rfl rfl)
theorem dX5_lampPlace_22 : decode cX5_lampPlace 22 = .ok (.aload_n 0, 1) := dk_42 (dk_at dksX5_lampPlace_0 22 rfl rfl)
theorem dX5_lampPlace_23 : decode cX5_lampPlace 23 = .ok (.iload_n 1, 1) := dk_27 (dk_at dksX5_lampPlace_0 23 rfl rfl)
theorem dX5_lampPlace_24 : decode cX5_lampPlace 24 = .ok (.iconst 0, 1) := dk_3 (dk_at dksX5_lampPlace_1 0 rfl rfl)
theorem dX5_lampPlace_25 : decode cX5_lampPlace 25 = .ok (.invokevirtual 110, 3) := dk_182 0 110 (dk_at dksX5_lampPlace_1 1 rfl rfl)
theorem dX5_lampPlace_28 : decode cX5_lampPlace 28 = .ok (.ireturn, 1) := dk_172 (dk_at dksX5_lampPlace_1 4 rfl rfl)
abbrev cX5_climbersAt : ByteArray := prog_25_method_32_code
def yX5_climbersAt : MethodName := ⟨RX5, "climbersAt", "(I)I"⟩
def dkwX5_climbersAt_1 : List UInt8 := [167, 0, 4, 3, 96, 172]
abbrev dktX5_climbersAt_1 : List UInt8 := dkwX5_climbersAt_1 ++ []
def dkwX5_climbersAt_0 : List UInt8 := [42, 3, 182, 0, 113, 27, 160, 0, 7, 4, 167, 0, 4, 3, 42, 4, 182, 0, 113, 27, 160, 0, 7, 5]
abbrev dktX5_climbersAt_0 : List UInt8 := dkwX5_climbersAt_0 ++ dktX5_climbersAt_1
theorem dksX5_climbersAt_0 : cX5_climbersAt.data.toList.drop 0 = dktX5_climbersAt_0 := by decide +kernel
theorem dksX5_climbersAt_1 : cX5_climbersAt.data.toList.drop 24 = dktX5_climbersAt_1 := dk_seg dksX5_climbersAt_0 24 rfl rfl
theorem dX5_climbersAt_0 : decode cX5_climbersAt 0 = .ok (.aload_n 0, 1) := dk_42 (dk_at dksX5_climbersAt_0 0 rfl rfl)
theorem dX5_climbersAt_1 : decode cX5_climbersAt 1 = .ok (.iconst 0, 1) := dk_3 (dk_at dksX5_climbersAt_0 1 rfl rfl)
theorem dX5_climbersAt_2 : decode cX5_climbersAt 2 = .ok (.invokevirtual 113, 3) := dk_182 0 113 (dk_at dksX5_climbersAt_0 2 rfl rfl)
theorem dX5_climbersAt_5 : decode cX5_climbersAt 5 = .ok (.iload_n 1, 1) := dk_27 (dk_at dksX5_climbersAt_0 5 rfl rfl)
theorem dX5_climbersAt_6 : decode cX5_climbersAt 6 = .ok (.if_icmp .ne 7, 3) := dk_160 0 7 (dk_at dksX5_climbersAt_0 6 rfl rfl)
theorem dX5_climbersAt_9 : decode cX5_climbersAt 9 = .ok (.iconst 1, 1) := dk_4 (dk_at dksX5_climbersAt_0 9 rfl rfl)
theorem dX5_climbersAt_10 : decode cX5_climbersAt 10 = .ok (.goto 4, 3) := dk_167 0 4 (dk_at dksX5_climbersAt_0 10 rfl rfl)
theorem dX5_climbersAt_13 : decode cX5_climbersAt 13 = .ok (.iconst 0, 1) := dk_3 (dk_at dksX5_climbersAt_0 13 rfl rfl)
theorem dX5_climbersAt_14 : decode cX5_climbersAt 14 = .ok (.aload_n 0, 1) := dk_42 (dk_at dksX5_climbersAt_0 14 rfl rfl)
theorem dX5_climbersAt_15 : decode cX5_climbersAt 15 = .ok (.iconst 1, 1) := dk_4 (dk_at dksX5_climbersAt_0 15 rfl rfl)
theorem dX5_climbersAt_16 : decode cX5_climbersAt 16 = .ok (.invokevirtual 113, 3) := dk_182 0 113 (dk_at dksX5_climbersAt_0 16 rfl rfl)
theorem dX5_climbersAt_19 : decode cX5_climbersAt 19 = .ok (.iload_n 1, 1) := dk_27 (dk_at dksX5_climbersAt_0 19 rfl rfl)
theorem dX5_climbersAt_20 : decode cX5_climbersAt 20 = .ok (.if_icmp .ne 7, 3) := dk_160 0 7 (dk_at dksX5_climbersAt_0 20 rfl rfl)
theorem dX5_climbersAt_23 : decode cX5_climbersAt 23 = .ok (.iconst 2, 1) := dk_5 (dk_at dksX5_climbersAt_0 23 rfl rfl)
theorem dX5_climbersAt_24 : decode cX5_climbersAt 24 = .ok (.goto 4, 3) := dk_167 0 4 (dk_at dksX5_climbersAt_1 0 rfl rfl)
theorem dX5_climbersAt_27 : decode cX5_climbersAt 27 = .ok (.iconst 0, 1) := dk_3 (dk_at dksX5_climbersAt_1 3 rfl rfl)
theorem dX5_climbersAt_28 : decode cX5_climbersAt 28 = .ok (.iadd, 1) := dk_96 (dk_at dksX5_climbersAt_1 4 rfl rfl)
theorem dX5_climbersAt_29 : decode cX5_climbersAt 29 = .ok (.ireturn, 1) := dk_172 (dk_at dksX5_climbersAt_1 5 rfl rfl)
abbrev cX5_lampsAt : ByteArray := prog_25_method_33_code
def yX5_lampsAt : MethodName := ⟨RX5, "lampsAt", "(I)I"⟩
def dkwX5_lampsAt_2 : List UInt8 := [132, 3, 1, 167, 255, 213, 28, 172]
abbrev dktX5_lampsAt_2 : List UInt8 := dkwX5_lampsAt_2 ++ []
def dkwX5_lampsAt_1 : List UInt8 := [156, 0, 19, 42, 29, 3, 182, 0, 110, 27, 160, 0, 9, 4, 29, 120, 167, 0, 4, 3, 128, 61]
abbrev dktX5_lampsAt_1 : List UInt8 := dkwX5_lampsAt_1 ++ dktX5_lampsAt_2
def dkwX5_lampsAt_0 : List UInt8 := [3, 61, 3, 62, 29, 42, 180, 0, 7, 16, 104, 46, 162, 0, 38, 28, 42, 29, 4, 182, 0, 110]
abbrev dktX5_lampsAt_0 : List UInt8 := dkwX5_lampsAt_0 ++ dktX5_lampsAt_1
theorem dksX5_lampsAt_0 : cX5_lampsAt.data.toList.drop 0 = dktX5_lampsAt_0 := by decide +kernel
theorem dksX5_lampsAt_1 : cX5_lampsAt.data.toList.drop 22 = dktX5_lampsAt_1 := dk_seg dksX5_lampsAt_0 22 rfl rfl
theorem dksX5_lampsAt_2 : cX5_lampsAt.data.toList.drop 44 = dktX5_lampsAt_2 := dk_seg dksX5_lampsAt_1 22 rfl rfl
theorem dX5_lampsAt_0 : decode cX5_lampsAt 0 = .ok (.iconst 0, 1) := dk_3 (dk_at dksX5_lampsAt_0 0 rfl rfl)
theorem dX5_lampsAt_1 : decode cX5_lampsAt 1 = .ok (.istore_n 2, 1) := dk_61 (dk_at dksX5_lampsAt_0 1 rfl rfl)
theorem dX5_lampsAt_2 : decode cX5_lampsAt 2 = .ok (.iconst 0, 1) := dk_3 (dk_at dksX5_lampsAt_0 2 rfl rfl)
theorem dX5_lampsAt_3 : decode cX5_lampsAt 3 = .ok (.istore_n 3, 1) := dk_62 (dk_at dksX5_lampsAt_0 3 rfl rfl)
theorem dX5_lampsAt_4 : decode cX5_lampsAt 4 = .ok (.iload_n 3, 1) := dk_29 (dk_at dksX5_lampsAt_0 4 rfl rfl)
theorem dX5_lampsAt_5 : decode cX5_lampsAt 5 = .ok (.aload_n 0, 1) := dk_42 (dk_at dksX5_lampsAt_0 5 rfl rfl)
theorem dX5_lampsAt_6 : decode cX5_lampsAt 6 = .ok (.getfield 7, 3) := dk_180 0 7 (dk_at dksX5_lampsAt_0 6 rfl rfl)
theorem dX5_lampsAt_9 : decode cX5_lampsAt 9 = .ok (.bipush 104, 2) := dk_16 104 (dk_at dksX5_lampsAt_0 9 rfl rfl)
theorem dX5_lampsAt_11 : decode cX5_lampsAt 11 = .ok (.iaload, 1) := dk_46 (dk_at dksX5_lampsAt_0 11 rfl rfl)
theorem dX5_lampsAt_12 : decode cX5_lampsAt 12 = .ok (.if_icmp .ge 38, 3) := dk_162 0 38 (dk_at dksX5_lampsAt_0 12 rfl rfl)
theorem dX5_lampsAt_15 : decode cX5_lampsAt 15 = .ok (.iload_n 2, 1) := dk_28 (dk_at dksX5_lampsAt_0 15 rfl rfl)
theorem dX5_lampsAt_16 : decode cX5_lampsAt 16 = .ok (.aload_n 0, 1) := dk_42 (dk_at dksX5_lampsAt_0 16 rfl rfl)
theorem dX5_lampsAt_17 : decode cX5_lampsAt 17 = .ok (.iload_n 3, 1) := dk_29 (dk_at dksX5_lampsAt_0 17 rfl rfl)
theorem dX5_lampsAt_18 : decode cX5_lampsAt 18 = .ok (.iconst 1, 1) := dk_4 (dk_at dksX5_lampsAt_0 18 rfl rfl)
theorem dX5_lampsAt_19 : decode cX5_lampsAt 19 = .ok (.invokevirtual 110, 3) := dk_182 0 110 (dk_at dksX5_lampsAt_0 19 rfl rfl)
theorem dX5_lampsAt_22 : decode cX5_lampsAt 22 = .ok (.ifCond .ge 19, 3) := dk_156 0 19 (dk_at dksX5_lampsAt_1 0 rfl rfl)
theorem dX5_lampsAt_25 : decode cX5_lampsAt 25 = .ok (.aload_n 0, 1) := dk_42 (dk_at dksX5_lampsAt_1 3 rfl rfl)
theorem dX5_lampsAt_26 : decode cX5_lampsAt 26 = .ok (.iload_n 3, 1) := dk_29 (dk_at dksX5_lampsAt_1 4 rfl rfl)
theorem dX5_lampsAt_27 : decode cX5_lampsAt 27 = .ok (.iconst 0, 1) := dk_3 (dk_at dksX5_lampsAt_1 5 rfl rfl)
theorem dX5_lampsAt_28 : decode cX5_lampsAt 28 = .ok (.invokevirtual 110, 3) := dk_182 0 110 (dk_at dksX5_lampsAt_1 6 rfl rfl)
theorem dX5_lampsAt_31 : decode cX5_lampsAt 31 = .ok (.iload_n 1, 1) := dk_27 (dk_at dksX5_lampsAt_1 9 rfl rfl)
theorem dX5_lampsAt_32 : decode cX5_lampsAt 32 = .ok (.if_icmp .ne 9, 3) := dk_160 0 9 (dk_at dksX5_lampsAt_1 10 rfl rfl)
theorem dX5_lampsAt_35 : decode cX5_lampsAt 35 = .ok (.iconst 1, 1) := dk_4 (dk_at dksX5_lampsAt_1 13 rfl rfl)
theorem dX5_lampsAt_36 : decode cX5_lampsAt 36 = .ok (.iload_n 3, 1) := dk_29 (dk_at dksX5_lampsAt_1 14 rfl rfl)
theorem dX5_lampsAt_37 : decode cX5_lampsAt 37 = .ok (.ishl, 1) := dk_120 (dk_at dksX5_lampsAt_1 15 rfl rfl)
theorem dX5_lampsAt_38 : decode cX5_lampsAt 38 = .ok (.goto 4, 3) := dk_167 0 4 (dk_at dksX5_lampsAt_1 16 rfl rfl)
theorem dX5_lampsAt_41 : decode cX5_lampsAt 41 = .ok (.iconst 0, 1) := dk_3 (dk_at dksX5_lampsAt_1 19 rfl rfl)
theorem dX5_lampsAt_42 : decode cX5_lampsAt 42 = .ok (.ior, 1) := dk_128 (dk_at dksX5_lampsAt_1 20 rfl rfl)
theorem dX5_lampsAt_43 : decode cX5_lampsAt 43 = .ok (.istore_n 2, 1) := dk_61 (dk_at dksX5_lampsAt_1 21 rfl rfl)
theorem dX5_lampsAt_44 : decode cX5_lampsAt 44 = .ok (.iinc 3 1, 3) := dk_132 3 1 (dk_at dksX5_lampsAt_2 0 rfl rfl)
theorem dX5_lampsAt_47 : decode cX5_lampsAt 47 = .ok (.goto (-43), 3) := dk_167 255 213 (dk_at dksX5_lampsAt_2 3 rfl rfl)
theorem dX5_lampsAt_50 : decode cX5_lampsAt 50 = .ok (.iload_n 2, 1) := dk_28 (dk_at dksX5_lampsAt_2 6 rfl rfl)
theorem dX5_lampsAt_51 : decode cX5_lampsAt 51 = .ok (.ireturn, 1) := dk_172 (dk_at dksX5_lampsAt_2 7 rfl rfl)
abbrev cX5_anchorsAt : ByteArray := prog_25_method_34_code
def yX5_anchorsAt : MethodName := ⟨RX5, "anchorsAt", "(I)I"⟩
def dkwX5_anchorsAt_1 : List UInt8 := [29, 96, 46, 27, 160, 0, 7, 4, 167, 0, 4, 3, 96, 61, 132, 3, 1, 167, 255, 219, 28, 172]
abbrev dktX5_anchorsAt_1 : List UInt8 := dkwX5_anchorsAt_1 ++ []
def dkwX5_anchorsAt_0 : List UInt8 := [3, 61, 3, 62, 29, 42, 180, 0, 7, 17, 0, 131, 46, 162, 0, 31, 28, 42, 180, 0, 7, 17, 0, 132]
abbrev dktX5_anchorsAt_0 : List UInt8 := dkwX5_anchorsAt_0 ++ dktX5_anchorsAt_1
theorem dksX5_anchorsAt_0 : cX5_anchorsAt.data.toList.drop 0 = dktX5_anchorsAt_0 := by decide +kernel
theorem dksX5_anchorsAt_1 : cX5_anchorsAt.data.toList.drop 24 = dktX5_anchorsAt_1 := dk_seg dksX5_anchorsAt_0 24 rfl rfl
theorem dX5_anchorsAt_0 : decode cX5_anchorsAt 0 = .ok (.iconst 0, 1) := dk_3 (dk_at dksX5_anchorsAt_0 0 rfl rfl)
theorem dX5_anchorsAt_1 : decode cX5_anchorsAt 1 = .ok (.istore_n 2, 1) := dk_61 (dk_at dksX5_anchorsAt_0 1 rfl rfl)
theorem dX5_anchorsAt_2 : decode cX5_anchorsAt 2 = .ok (.iconst 0, 1) := dk_3 (dk_at dksX5_anchorsAt_0 2 rfl rfl)
theorem dX5_anchorsAt_3 : decode cX5_anchorsAt 3 = .ok (.istore_n 3, 1) := dk_62 (dk_at dksX5_anchorsAt_0 3 rfl rfl)
theorem dX5_anchorsAt_4 : decode cX5_anchorsAt 4 = .ok (.iload_n 3, 1) := dk_29 (dk_at dksX5_anchorsAt_0 4 rfl rfl)
theorem dX5_anchorsAt_5 : decode cX5_anchorsAt 5 = .ok (.aload_n 0, 1) := dk_42 (dk_at dksX5_anchorsAt_0 5 rfl rfl)
theorem dX5_anchorsAt_6 : decode cX5_anchorsAt 6 = .ok (.getfield 7, 3) := dk_180 0 7 (dk_at dksX5_anchorsAt_0 6 rfl rfl)
theorem dX5_anchorsAt_9 : decode cX5_anchorsAt 9 = .ok (.sipush 131, 3) := dk_17 0 131 (dk_at dksX5_anchorsAt_0 9 rfl rfl)
theorem dX5_anchorsAt_12 : decode cX5_anchorsAt 12 = .ok (.iaload, 1) := dk_46 (dk_at dksX5_anchorsAt_0 12 rfl rfl)
theorem dX5_anchorsAt_13 : decode cX5_anchorsAt 13 = .ok (.if_icmp .ge 31, 3) := dk_162 0 31 (dk_at dksX5_anchorsAt_0 13 rfl rfl)
theorem dX5_anchorsAt_16 : decode cX5_anchorsAt 16 = .ok (.iload_n 2, 1) := dk_28 (dk_at dksX5_anchorsAt_0 16 rfl rfl)
theorem dX5_anchorsAt_17 : decode cX5_anchorsAt 17 = .ok (.aload_n 0, 1) := dk_42 (dk_at dksX5_anchorsAt_0 17 rfl rfl)
theorem dX5_anchorsAt_18 : decode cX5_anchorsAt 18 = .ok (.getfield 7, 3) := dk_180 0 7 (dk_at dksX5_anchorsAt_0 18 rfl rfl)
theorem dX5_anchorsAt_21 : decode cX5_anchorsAt 21 = .ok (.sipush 132, 3) := dk_17 0 132 (dk_at dksX5_anchorsAt_0 21 rfl rfl)
theorem dX5_anchorsAt_24 : decode cX5_anchorsAt 24 = .ok (.iload_n 3, 1) := dk_29 (dk_at dksX5_anchorsAt_1 0 rfl rfl)
theorem dX5_anchorsAt_25 : decode cX5_anchorsAt 25 = .ok (.iadd, 1) := dk_96 (dk_at dksX5_anchorsAt_1 1 rfl rfl)
theorem dX5_anchorsAt_26 : decode cX5_anchorsAt 26 = .ok (.iaload, 1) := dk_46 (dk_at dksX5_anchorsAt_1 2 rfl rfl)
theorem dX5_anchorsAt_27 : decode cX5_anchorsAt 27 = .ok (.iload_n 1, 1) := dk_27 (dk_at dksX5_anchorsAt_1 3 rfl rfl)
theorem dX5_anchorsAt_28 : decode cX5_anchorsAt 28 = .ok (.if_icmp .ne 7, 3) := dk_160 0 7 (dk_at dksX5_anchorsAt_1 4 rfl rfl)
theorem dX5_anchorsAt_31 : decode cX5_anchorsAt 31 = .ok (.iconst 1, 1) := dk_4 (dk_at dksX5_anchorsAt_1 7 rfl rfl)
theorem dX5_anchorsAt_32 : decode cX5_anchorsAt 32 = .ok (.goto 4, 3) := dk_167 0 4 (dk_at dksX5_anchorsAt_1 8 rfl rfl)
theorem dX5_anchorsAt_35 : decode cX5_anchorsAt 35 = .ok (.iconst 0, 1) := dk_3 (dk_at dksX5_anchorsAt_1 11 rfl rfl)
theorem dX5_anchorsAt_36 : decode cX5_anchorsAt 36 = .ok (.iadd, 1) := dk_96 (dk_at dksX5_anchorsAt_1 12 rfl rfl)
theorem dX5_anchorsAt_37 : decode cX5_anchorsAt 37 = .ok (.istore_n 2, 1) := dk_61 (dk_at dksX5_anchorsAt_1 13 rfl rfl)
theorem dX5_anchorsAt_38 : decode cX5_anchorsAt 38 = .ok (.iinc 3 1, 3) := dk_132 3 1 (dk_at dksX5_anchorsAt_1 14 rfl rfl)
theorem dX5_anchorsAt_41 : decode cX5_anchorsAt 41 = .ok (.goto (-37), 3) := dk_167 255 219 (dk_at dksX5_anchorsAt_1 17 rfl rfl)
theorem dX5_anchorsAt_44 : decode cX5_anchorsAt 44 = .ok (.iload_n 2, 1) := dk_28 (dk_at dksX5_anchorsAt_1 20 rfl rfl)
theorem dX5_anchorsAt_45 : decode cX5_anchorsAt 45 = .ok (.ireturn, 1) := dk_172 (dk_at dksX5_anchorsAt_1 21 rfl rfl)
abbrev cX5_lamp : ByteArray := prog_25_method_36_code
def yX5_lamp : MethodName := ⟨RX5, "lamp", "(III)I"⟩
def dkwX5_lamp_7 : List UInt8 := [180, 0, 7, 21, 4, 7, 184, 0, 94, 3, 79, 21, 4, 172]
abbrev dktX5_lamp_7 : List UInt8 := dkwX5_lamp_7 ++ []
def dkwX5_lamp_6 : List UInt8 := [180, 0, 7, 21, 4, 5, 184, 0, 94, 28, 79, 42, 180, 0, 7, 21, 4, 6, 184, 0, 94, 29, 79, 42]
abbrev dktX5_lamp_6 : List UInt8 := dkwX5_lamp_6 ++ dktX5_lamp_7
def dkwX5_lamp_5 : List UInt8 := [180, 0, 7, 21, 4, 3, 184, 0, 94, 27, 79, 42, 180, 0, 7, 21, 4, 4, 184, 0, 94, 2, 79, 42]
abbrev dktX5_lamp_5 : List UInt8 := dkwX5_lamp_5 ++ dktX5_lamp_6
def dkwX5_lamp_4 : List UInt8 := [182, 0, 139, 42, 180, 0, 7, 16, 104, 46, 54, 4, 42, 180, 0, 7, 16, 104, 92, 46, 4, 96, 79, 42]
abbrev dktX5_lamp_4 : List UInt8 := dkwX5_lamp_4 ++ dktX5_lamp_5
def dkwX5_lamp_3 : List UInt8 := [27, 182, 0, 129, 153, 0, 9, 42, 7, 182, 0, 133, 172, 42, 3, 181, 0, 65, 42, 182, 0, 136, 42]
abbrev dktX5_lamp_3 : List UInt8 := dkwX5_lamp_3 ++ dktX5_lamp_4
def dkwX5_lamp_2 : List UInt8 := [160, 0, 9, 42, 6, 182, 0, 80, 172, 27, 2, 159, 0, 26, 42, 27, 182, 0, 122, 153, 0, 18, 42, 5]
abbrev dktX5_lamp_2 : List UInt8 := dkwX5_lamp_2 ++ dktX5_lamp_3
def dkwX5_lamp_1 : List UInt8 := [29, 3, 16, 60, 184, 0, 97, 154, 0, 9, 42, 5, 182, 0, 80, 172, 42, 180, 0, 7, 16, 104, 46, 7]
abbrev dktX5_lamp_1 : List UInt8 := dkwX5_lamp_1 ++ dktX5_lamp_2
def dkwX5_lamp_0 : List UInt8 := [42, 27, 182, 0, 161, 154, 0, 9, 42, 4, 182, 0, 80, 172, 28, 4, 16, 6, 184, 0, 97, 153, 0, 13]
abbrev dktX5_lamp_0 : List UInt8 := dkwX5_lamp_0 ++ dktX5_lamp_1
theorem dksX5_lamp_0 : cX5_lamp.data.toList.drop 0 = dktX5_lamp_0 := by decide +kernel
theorem dksX5_lamp_1 : cX5_lamp.data.toList.drop 24 = dktX5_lamp_1 := dk_seg dksX5_lamp_0 24 rfl rfl
theorem dksX5_lamp_2 : cX5_lamp.data.toList.drop 48 = dktX5_lamp_2 := dk_seg dksX5_lamp_1 24 rfl rfl
theorem dksX5_lamp_3 : cX5_lamp.data.toList.drop 72 = dktX5_lamp_3 := dk_seg dksX5_lamp_2 24 rfl rfl
theorem dksX5_lamp_4 : cX5_lamp.data.toList.drop 95 = dktX5_lamp_4 := dk_seg dksX5_lamp_3 23 rfl rfl
theorem dksX5_lamp_5 : cX5_lamp.data.toList.drop 119 = dktX5_lamp_5 := dk_seg dksX5_lamp_4 24 rfl rfl
theorem dksX5_lamp_6 : cX5_lamp.data.toList.drop 143 = dktX5_lamp_6 := dk_seg dksX5_lamp_5 24 rfl rfl
theorem dksX5_lamp_7 : cX5_lamp.data.toList.drop 167 = dktX5_lamp_7 := dk_seg dksX5_lamp_6 24 rfl rfl
theorem dX5_lamp_0 : decode cX5_lamp 0 = .ok (.aload_n 0, 1) := dk_42 (dk_at dksX5_lamp_0 0 rfl rfl)
theorem dX5_lamp_1 : decode cX5_lamp 1 = .ok (.iload_n 1, 1) := dk_27 (dk_at dksX5_lamp_0 1 rfl rfl)
theorem dX5_lamp_2 : decode cX5_lamp 2 = .ok (.invokevirtual 161, 3) := dk_182 0 161 (dk_at dksX5_lamp_0 2 rfl rfl)
theorem dX5_lamp_5 : decode cX5_lamp 5 = .ok (.ifCond .ne 9, 3) := dk_154 0 9 (dk_at dksX5_lamp_0 5 rfl rfl)
theorem dX5_lamp_8 : decode cX5_lamp 8 = .ok (.aload_n 0, 1) := dk_42 (dk_at dksX5_lamp_0 8 rfl rfl)
theorem dX5_lamp_9 : decode cX5_lamp 9 = .ok (.iconst 1, 1) := dk_4 (dk_at dksX5_lamp_0 9 rfl rfl)
theorem dX5_lamp_10 : decode cX5_lamp 10 = .ok (.invokevirtual 80, 3) := dk_182 0 80 (dk_at dksX5_lamp_0 10 rfl rfl)
theorem dX5_lamp_13 : decode cX5_lamp 13 = .ok (.ireturn, 1) := dk_172 (dk_at dksX5_lamp_0 13 rfl rfl)
theorem dX5_lamp_14 : decode cX5_lamp 14 = .ok (.iload_n 2, 1) := dk_28 (dk_at dksX5_lamp_0 14 rfl rfl)
theorem dX5_lamp_15 : decode cX5_lamp 15 = .ok (.iconst 1, 1) := dk_4 (dk_at dksX5_lamp_0 15 rfl rfl)
theorem dX5_lamp_16 : decode cX5_lamp 16 = .ok (.bipush 6, 2) := dk_16 6 (dk_at dksX5_lamp_0 16 rfl rfl)
theorem dX5_lamp_18 : decode cX5_lamp 18 = .ok (.invokestatic 97, 3) := dk_184 0 97 (dk_at dksX5_lamp_0 18 rfl rfl)
theorem dX5_lamp_21 : decode cX5_lamp 21 = .ok (.ifCond .eq 13, 3) := dk_153 0 13 (dk_at dksX5_lamp_0 21 rfl rfl)
theorem dX5_lamp_24 : decode cX5_lamp 24 = .ok (.iload_n 3, 1) := dk_29 (dk_at dksX5_lamp_1 0 rfl rfl)
theorem dX5_lamp_25 : decode cX5_lamp 25 = .ok (.iconst 0, 1) := dk_3 (dk_at dksX5_lamp_1 1 rfl rfl)
theorem dX5_lamp_26 : decode cX5_lamp 26 = .ok (.bipush 60, 2) := dk_16 60 (dk_at dksX5_lamp_1 2 rfl rfl)
theorem dX5_lamp_28 : decode cX5_lamp 28 = .ok (.invokestatic 97, 3) := dk_184 0 97 (dk_at dksX5_lamp_1 4 rfl rfl)
theorem dX5_lamp_31 : decode cX5_lamp 31 = .ok (.ifCond .ne 9, 3) := dk_154 0 9 (dk_at dksX5_lamp_1 7 rfl rfl)
theorem dX5_lamp_34 : decode cX5_lamp 34 = .ok (.aload_n 0, 1) := dk_42 (dk_at dksX5_lamp_1 10 rfl rfl)
theorem dX5_lamp_35 : decode cX5_lamp 35 = .ok (.iconst 2, 1) := dk_5 (dk_at dksX5_lamp_1 11 rfl rfl)
theorem dX5_lamp_36 : decode cX5_lamp 36 = .ok (.invokevirtual 80, 3) := dk_182 0 80 (dk_at dksX5_lamp_1 12 rfl rfl)
theorem dX5_lamp_39 : decode cX5_lamp 39 = .ok (.ireturn, 1) := dk_172 (dk_at dksX5_lamp_1 15 rfl rfl)
theorem dX5_lamp_40 : decode cX5_lamp 40 = .ok (.aload_n 0, 1) := dk_42 (dk_at dksX5_lamp_1 16 rfl rfl)
theorem dX5_lamp_41 : decode cX5_lamp 41 = .ok (.getfield 7, 3) := dk_180 0 7 (dk_at dksX5_lamp_1 17 rfl rfl)
theorem dX5_lamp_44 : decode cX5_lamp 44 = .ok (.bipush 104, 2) := dk_16 104 (dk_at dksX5_lamp_1 20 rfl rfl)
theorem dX5_lamp_46 : decode cX5_lamp 46 = .ok (.iaload, 1) := dk_46 (dk_at dksX5_lamp_1 22 rfl rfl)
theorem dX5_lamp_47 : decode cX5_lamp 47 = .ok (.iconst 4, 1) := dk_7 (dk_at dksX5_lamp_1 23 rfl rfl)
theorem dX5_lamp_48 : decode cX5_lamp 48 = .ok (.if_icmp .ne 9, 3) := dk_160 0 9 (dk_at dksX5_lamp_2 0 rfl rfl)
theorem dX5_lamp_51 : decode cX5_lamp 51 = .ok (.aload_n 0, 1) := dk_42 (dk_at dksX5_lamp_2 3 rfl rfl)
theorem dX5_lamp_52 : decode cX5_lamp 52 = .ok (.iconst 3, 1) := dk_6 (dk_at dksX5_lamp_2 4 rfl rfl)
theorem dX5_lamp_53 : decode cX5_lamp 53 = .ok (.invokevirtual 80, 3) := dk_182 0 80 (dk_at dksX5_lamp_2 5 rfl rfl)
theorem dX5_lamp_56 : decode cX5_lamp 56 = .ok (.ireturn, 1) := dk_172 (dk_at dksX5_lamp_2 8 rfl rfl)
theorem dX5_lamp_57 : decode cX5_lamp 57 = .ok (.iload_n 1, 1) := dk_27 (dk_at dksX5_lamp_2 9 rfl rfl)
theorem dX5_lamp_58 : decode cX5_lamp 58 = .ok (.iconst (-1), 1) := dk_2 (dk_at dksX5_lamp_2 10 rfl rfl)
theorem dX5_lamp_59 : decode cX5_lamp 59 = .ok (.if_icmp .eq 26, 3) := dk_159 0 26 (dk_at dksX5_lamp_2 11 rfl rfl)
theorem dX5_lamp_62 : decode cX5_lamp 62 = .ok (.aload_n 0, 1) := dk_42 (dk_at dksX5_lamp_2 14 rfl rfl)
theorem dX5_lamp_63 : decode cX5_lamp 63 = .ok (.iload_n 1, 1) := dk_27 (dk_at dksX5_lamp_2 15 rfl rfl)
theorem dX5_lamp_64 : decode cX5_lamp 64 = .ok (.invokevirtual 122, 3) := dk_182 0 122 (dk_at dksX5_lamp_2 16 rfl rfl)
theorem dX5_lamp_67 : decode cX5_lamp 67 = .ok (.ifCond .eq 18, 3) := dk_153 0 18 (dk_at dksX5_lamp_2 19 rfl rfl)
theorem dX5_lamp_70 : decode cX5_lamp 70 = .ok (.aload_n 0, 1) := dk_42 (dk_at dksX5_lamp_2 22 rfl rfl)
theorem dX5_lamp_71 : decode cX5_lamp 71 = .ok (.iconst 2, 1) := dk_5 (dk_at dksX5_lamp_2 23 rfl rfl)
theorem dX5_lamp_72 : decode cX5_lamp 72 = .ok (.iload_n 1, 1) := dk_27 (dk_at dksX5_lamp_3 0 rfl rfl)
theorem dX5_lamp_73 : decode cX5_lamp 73 = .ok (.invokevirtual 129, 3) := dk_182 0 129 (dk_at dksX5_lamp_3 1 rfl rfl)
theorem dX5_lamp_76 : decode cX5_lamp 76 = .ok (.ifCond .eq 9, 3) := dk_153 0 9 (dk_at dksX5_lamp_3 4 rfl rfl)
theorem dX5_lamp_79 : decode cX5_lamp 79 = .ok (.aload_n 0, 1) := dk_42 (dk_at dksX5_lamp_3 7 rfl rfl)
theorem dX5_lamp_80 : decode cX5_lamp 80 = .ok (.iconst 4, 1) := dk_7 (dk_at dksX5_lamp_3 8 rfl rfl)
theorem dX5_lamp_81 : decode cX5_lamp 81 = .ok (.invokevirtual 133, 3) := dk_182 0 133 (dk_at dksX5_lamp_3 9 rfl rfl)
theorem dX5_lamp_84 : decode cX5_lamp 84 = .ok (.ireturn, 1) := dk_172 (dk_at dksX5_lamp_3 12 rfl rfl)
theorem dX5_lamp_85 : decode cX5_lamp 85 = .ok (.aload_n 0, 1) := dk_42 (dk_at dksX5_lamp_3 13 rfl rfl)
theorem dX5_lamp_86 : decode cX5_lamp 86 = .ok (.iconst 0, 1) := dk_3 (dk_at dksX5_lamp_3 14 rfl rfl)
theorem dX5_lamp_87 : decode cX5_lamp 87 = .ok (.putfield 65, 3) := dk_181 0 65 (dk_at dksX5_lamp_3 15 rfl rfl)
theorem dX5_lamp_90 : decode cX5_lamp 90 = .ok (.aload_n 0, 1) := dk_42 (dk_at dksX5_lamp_3 18 rfl rfl)
theorem dX5_lamp_91 : decode cX5_lamp 91 = .ok (.invokevirtual 136, 3) := dk_182 0 136 (dk_at dksX5_lamp_3 19 rfl rfl)
theorem dX5_lamp_94 : decode cX5_lamp 94 = .ok (.aload_n 0, 1) := dk_42 (dk_at dksX5_lamp_3 22 rfl rfl)
theorem dX5_lamp_95 : decode cX5_lamp 95 = .ok (.invokevirtual 139, 3) := dk_182 0 139 (dk_at dksX5_lamp_4 0 rfl rfl)
theorem dX5_lamp_98 : decode cX5_lamp 98 = .ok (.aload_n 0, 1) := dk_42 (dk_at dksX5_lamp_4 3 rfl rfl)
theorem dX5_lamp_99 : decode cX5_lamp 99 = .ok (.getfield 7, 3) := dk_180 0 7 (dk_at dksX5_lamp_4 4 rfl rfl)
theorem dX5_lamp_102 : decode cX5_lamp 102 = .ok (.bipush 104, 2) := dk_16 104 (dk_at dksX5_lamp_4 7 rfl rfl)
theorem dX5_lamp_104 : decode cX5_lamp 104 = .ok (.iaload, 1) := dk_46 (dk_at dksX5_lamp_4 9 rfl rfl)
theorem dX5_lamp_105 : decode cX5_lamp 105 = .ok (.istore 4, 2) := dk_54 4 (dk_at dksX5_lamp_4 10 rfl rfl)
theorem dX5_lamp_107 : decode cX5_lamp 107 = .ok (.aload_n 0, 1) := dk_42 (dk_at dksX5_lamp_4 12 rfl rfl)
theorem dX5_lamp_108 : decode cX5_lamp 108 = .ok (.getfield 7, 3) := dk_180 0 7 (dk_at dksX5_lamp_4 13 rfl rfl)
theorem dX5_lamp_111 : decode cX5_lamp 111 = .ok (.bipush 104, 2) := dk_16 104 (dk_at dksX5_lamp_4 16 rfl rfl)
theorem dX5_lamp_113 : decode cX5_lamp 113 = .ok (.dup2, 1) := dk_92 (dk_at dksX5_lamp_4 18 rfl rfl)
theorem dX5_lamp_114 : decode cX5_lamp 114 = .ok (.iaload, 1) := dk_46 (dk_at dksX5_lamp_4 19 rfl rfl)
theorem dX5_lamp_115 : decode cX5_lamp 115 = .ok (.iconst 1, 1) := dk_4 (dk_at dksX5_lamp_4 20 rfl rfl)
theorem dX5_lamp_116 : decode cX5_lamp 116 = .ok (.iadd, 1) := dk_96 (dk_at dksX5_lamp_4 21 rfl rfl)
theorem dX5_lamp_117 : decode cX5_lamp 117 = .ok (.iastore, 1) := dk_79 (dk_at dksX5_lamp_4 22 rfl rfl)
theorem dX5_lamp_118 : decode cX5_lamp 118 = .ok (.aload_n 0, 1) := dk_42 (dk_at dksX5_lamp_4 23 rfl rfl)
theorem dX5_lamp_119 : decode cX5_lamp 119 = .ok (.getfield 7, 3) := dk_180 0 7 (dk_at dksX5_lamp_5 0 rfl rfl)
theorem dX5_lamp_122 : decode cX5_lamp 122 = .ok (.iload 4, 2) := dk_21 4 (dk_at dksX5_lamp_5 3 rfl rfl)
theorem dX5_lamp_124 : decode cX5_lamp 124 = .ok (.iconst 0, 1) := dk_3 (dk_at dksX5_lamp_5 5 rfl rfl)
theorem dX5_lamp_125 : decode cX5_lamp 125 = .ok (.invokestatic 94, 3) := dk_184 0 94 (dk_at dksX5_lamp_5 6 rfl rfl)
theorem dX5_lamp_128 : decode cX5_lamp 128 = .ok (.iload_n 1, 1) := dk_27 (dk_at dksX5_lamp_5 9 rfl rfl)
theorem dX5_lamp_129 : decode cX5_lamp 129 = .ok (.iastore, 1) := dk_79 (dk_at dksX5_lamp_5 10 rfl rfl)
theorem dX5_lamp_130 : decode cX5_lamp 130 = .ok (.aload_n 0, 1) := dk_42 (dk_at dksX5_lamp_5 11 rfl rfl)
theorem dX5_lamp_131 : decode cX5_lamp 131 = .ok (.getfield 7, 3) := dk_180 0 7 (dk_at dksX5_lamp_5 12 rfl rfl)
theorem dX5_lamp_134 : decode cX5_lamp 134 = .ok (.iload 4, 2) := dk_21 4 (dk_at dksX5_lamp_5 15 rfl rfl)
theorem dX5_lamp_136 : decode cX5_lamp 136 = .ok (.iconst 1, 1) := dk_4 (dk_at dksX5_lamp_5 17 rfl rfl)
theorem dX5_lamp_137 : decode cX5_lamp 137 = .ok (.invokestatic 94, 3) := dk_184 0 94 (dk_at dksX5_lamp_5 18 rfl rfl)
theorem dX5_lamp_140 : decode cX5_lamp 140 = .ok (.iconst (-1), 1) := dk_2 (dk_at dksX5_lamp_5 21 rfl rfl)
theorem dX5_lamp_141 : decode cX5_lamp 141 = .ok (.iastore, 1) := dk_79 (dk_at dksX5_lamp_5 22 rfl rfl)
theorem dX5_lamp_142 : decode cX5_lamp 142 = .ok (.aload_n 0, 1) := dk_42 (dk_at dksX5_lamp_5 23 rfl rfl)
theorem dX5_lamp_143 : decode cX5_lamp 143 = .ok (.getfield 7, 3) := dk_180 0 7 (dk_at dksX5_lamp_6 0 rfl rfl)
theorem dX5_lamp_146 : decode cX5_lamp 146 = .ok (.iload 4, 2) := dk_21 4 (dk_at dksX5_lamp_6 3 rfl rfl)
theorem dX5_lamp_148 : decode cX5_lamp 148 = .ok (.iconst 2, 1) := dk_5 (dk_at dksX5_lamp_6 5 rfl rfl)
theorem dX5_lamp_149 : decode cX5_lamp 149 = .ok (.invokestatic 94, 3) := dk_184 0 94 (dk_at dksX5_lamp_6 6 rfl rfl)
theorem dX5_lamp_152 : decode cX5_lamp 152 = .ok (.iload_n 2, 1) := dk_28 (dk_at dksX5_lamp_6 9 rfl rfl)
theorem dX5_lamp_153 : decode cX5_lamp 153 = .ok (.iastore, 1) := dk_79 (dk_at dksX5_lamp_6 10 rfl rfl)
theorem dX5_lamp_154 : decode cX5_lamp 154 = .ok (.aload_n 0, 1) := dk_42 (dk_at dksX5_lamp_6 11 rfl rfl)
theorem dX5_lamp_155 : decode cX5_lamp 155 = .ok (.getfield 7, 3) := dk_180 0 7 (dk_at dksX5_lamp_6 12 rfl rfl)
theorem dX5_lamp_158 : decode cX5_lamp 158 = .ok (.iload 4, 2) := dk_21 4 (dk_at dksX5_lamp_6 15 rfl rfl)
theorem dX5_lamp_160 : decode cX5_lamp 160 = .ok (.iconst 3, 1) := dk_6 (dk_at dksX5_lamp_6 17 rfl rfl)
theorem dX5_lamp_161 : decode cX5_lamp 161 = .ok (.invokestatic 94, 3) := dk_184 0 94 (dk_at dksX5_lamp_6 18 rfl rfl)
theorem dX5_lamp_164 : decode cX5_lamp 164 = .ok (.iload_n 3, 1) := dk_29 (dk_at dksX5_lamp_6 21 rfl rfl)
theorem dX5_lamp_165 : decode cX5_lamp 165 = .ok (.iastore, 1) := dk_79 (dk_at dksX5_lamp_6 22 rfl rfl)
theorem dX5_lamp_166 : decode cX5_lamp 166 = .ok (.aload_n 0, 1) := dk_42 (dk_at dksX5_lamp_6 23 rfl rfl)
theorem dX5_lamp_167 : decode cX5_lamp 167 = .ok (.getfield 7, 3) := dk_180 0 7 (dk_at dksX5_lamp_7 0 rfl rfl)
theorem dX5_lamp_170 : decode cX5_lamp 170 = .ok (.iload 4, 2) := dk_21 4 (dk_at dksX5_lamp_7 3 rfl rfl)
theorem dX5_lamp_172 : decode cX5_lamp 172 = .ok (.iconst 4, 1) := dk_7 (dk_at dksX5_lamp_7 5 rfl rfl)
theorem dX5_lamp_173 : decode cX5_lamp 173 = .ok (.invokestatic 94, 3) := dk_184 0 94 (dk_at dksX5_lamp_7 6 rfl rfl)
theorem dX5_lamp_176 : decode cX5_lamp 176 = .ok (.iconst 0, 1) := dk_3 (dk_at dksX5_lamp_7 9 rfl rfl)
theorem dX5_lamp_177 : decode cX5_lamp 177 = .ok (.iastore, 1) := dk_79 (dk_at dksX5_lamp_7 10 rfl rfl)
theorem dX5_lamp_178 : decode cX5_lamp 178 = .ok (.iload 4, 2) := dk_21 4 (dk_at dksX5_lamp_7 11 rfl rfl)
theorem dX5_lamp_180 : decode cX5_lamp 180 = .ok (.ireturn, 1) := dk_172 (dk_at dksX5_lamp_7 13 rfl rfl)
abbrev cX5_isPlace : ByteArray := prog_25_method_18_code
def yX5_isPlace : MethodName := ⟨RX5, "isPlace", "(I)Z"⟩
def dkwX5_isPlace_0 : List UInt8 := [27, 2, 42, 180, 0, 7, 3, 46, 4, 100, 184, 0, 97, 172]
abbrev dktX5_isPlace_0 : List UInt8 := dkwX5_isPlace_0 ++ []
theorem dksX5_isPlace_0 : cX5_isPlace.data.toList.drop 0 = dktX5_isPlace_0 := by decide +kernel
theorem dX5_isPlace_0 : decode cX5_isPlace 0 = .ok (.iload_n 1, 1) := dk_27 (dk_at dksX5_isPlace_0 0 rfl rfl)
theorem dX5_isPlace_1 : decode cX5_isPlace 1 = .ok (.iconst (-1), 1) := dk_2 (dk_at dksX5_isPlace_0 1 rfl rfl)
theorem dX5_isPlace_2 : decode cX5_isPlace 2 = .ok (.aload_n 0, 1) := dk_42 (dk_at dksX5_isPlace_0 2 rfl rfl)
theorem dX5_isPlace_3 : decode cX5_isPlace 3 = .ok (.getfield 7, 3) := dk_180 0 7 (dk_at dksX5_isPlace_0 3 rfl rfl)
theorem dX5_isPlace_6 : decode cX5_isPlace 6 = .ok (.iconst 0, 1) := dk_3 (dk_at dksX5_isPlace_0 6 rfl rfl)
theorem dX5_isPlace_7 : decode cX5_isPlace 7 = .ok (.iaload, 1) := dk_46 (dk_at dksX5_isPlace_0 7 rfl rfl)
theorem dX5_isPlace_8 : decode cX5_isPlace 8 = .ok (.iconst 1, 1) := dk_4 (dk_at dksX5_isPlace_0 8 rfl rfl)
theorem dX5_isPlace_9 : decode cX5_isPlace 9 = .ok (.isub, 1) := dk_100 (dk_at dksX5_isPlace_0 9 rfl rfl)
theorem dX5_isPlace_10 : decode cX5_isPlace 10 = .ok (.invokestatic 97, 3) := dk_184 0 97 (dk_at dksX5_isPlace_0 10 rfl rfl)
theorem dX5_isPlace_13 : decode cX5_isPlace 13 = .ok (.ireturn, 1) := dk_172 (dk_at dksX5_isPlace_0 13 rfl rfl)
abbrev cX5_lampOf : ByteArray := prog_25_method_37_code
def yX5_lampOf : MethodName := ⟨RX5, "lampOf", "(II)I"⟩
def dkwX5_lampOf_2 : List UInt8 := [28, 182, 0, 110, 172]
abbrev dktX5_lampOf_2 : List UInt8 := dkwX5_lampOf_2 ++ []
def dkwX5_lampOf_1 : List UInt8 := [5, 182, 0, 80, 172, 42, 3, 181, 0, 65, 28, 154, 0, 11, 42, 27, 182, 0, 116, 167, 0, 9, 42, 27]
abbrev dktX5_lampOf_1 : List UInt8 := dkwX5_lampOf_1 ++ dktX5_lampOf_2
def dkwX5_lampOf_0 : List UInt8 := [42, 27, 182, 0, 164, 154, 0, 9, 42, 4, 182, 0, 80, 172, 28, 3, 7, 184, 0, 97, 154, 0, 9, 42]
abbrev dktX5_lampOf_0 : List UInt8 := dkwX5_lampOf_0 ++ dktX5_lampOf_1
theorem dksX5_lampOf_0 : cX5_lampOf.data.toList.drop 0 = dktX5_lampOf_0 := by decide +kernel
theorem dksX5_lampOf_1 : cX5_lampOf.data.toList.drop 24 = dktX5_lampOf_1 := dk_seg dksX5_lampOf_0 24 rfl rfl
theorem dksX5_lampOf_2 : cX5_lampOf.data.toList.drop 48 = dktX5_lampOf_2 := dk_seg dksX5_lampOf_1 24 rfl rfl
theorem dX5_lampOf_0 : decode cX5_lampOf 0 = .ok (.aload_n 0, 1) := dk_42 (dk_at dksX5_lampOf_0 0 rfl rfl)
theorem dX5_lampOf_1 : decode cX5_lampOf 1 = .ok (.iload_n 1, 1) := dk_27 (dk_at dksX5_lampOf_0 1 rfl rfl)
theorem dX5_lampOf_2 : decode cX5_lampOf 2 = .ok (.invokevirtual 164, 3) := dk_182 0 164 (dk_at dksX5_lampOf_0 2 rfl rfl)
theorem dX5_lampOf_5 : decode cX5_lampOf 5 = .ok (.ifCond .ne 9, 3) := dk_154 0 9 (dk_at dksX5_lampOf_0 5 rfl rfl)
theorem dX5_lampOf_8 : decode cX5_lampOf 8 = .ok (.aload_n 0, 1) := dk_42 (dk_at dksX5_lampOf_0 8 rfl rfl)
theorem dX5_lampOf_9 : decode cX5_lampOf 9 = .ok (.iconst 1, 1) := dk_4 (dk_at dksX5_lampOf_0 9 rfl rfl)
theorem dX5_lampOf_10 : decode cX5_lampOf 10 = .ok (.invokevirtual 80, 3) := dk_182 0 80 (dk_at dksX5_lampOf_0 10 rfl rfl)
theorem dX5_lampOf_13 : decode cX5_lampOf 13 = .ok (.ireturn, 1) := dk_172 (dk_at dksX5_lampOf_0 13 rfl rfl)
theorem dX5_lampOf_14 : decode cX5_lampOf 14 = .ok (.iload_n 2, 1) := dk_28 (dk_at dksX5_lampOf_0 14 rfl rfl)
theorem dX5_lampOf_15 : decode cX5_lampOf 15 = .ok (.iconst 0, 1) := dk_3 (dk_at dksX5_lampOf_0 15 rfl rfl)
theorem dX5_lampOf_16 : decode cX5_lampOf 16 = .ok (.iconst 4, 1) := dk_7 (dk_at dksX5_lampOf_0 16 rfl rfl)
theorem dX5_lampOf_17 : decode cX5_lampOf 17 = .ok (.invokestatic 97, 3) := dk_184 0 97 (dk_at dksX5_lampOf_0 17 rfl rfl)
theorem dX5_lampOf_20 : decode cX5_lampOf 20 = .ok (.ifCond .ne 9, 3) := dk_154 0 9 (dk_at dksX5_lampOf_0 20 rfl rfl)
theorem dX5_lampOf_23 : decode cX5_lampOf 23 = .ok (.aload_n 0, 1) := dk_42 (dk_at dksX5_lampOf_0 23 rfl rfl)
theorem dX5_lampOf_24 : decode cX5_lampOf 24 = .ok (.iconst 2, 1) := dk_5 (dk_at dksX5_lampOf_1 0 rfl rfl)
theorem dX5_lampOf_25 : decode cX5_lampOf 25 = .ok (.invokevirtual 80, 3) := dk_182 0 80 (dk_at dksX5_lampOf_1 1 rfl rfl)
theorem dX5_lampOf_28 : decode cX5_lampOf 28 = .ok (.ireturn, 1) := dk_172 (dk_at dksX5_lampOf_1 4 rfl rfl)
theorem dX5_lampOf_29 : decode cX5_lampOf 29 = .ok (.aload_n 0, 1) := dk_42 (dk_at dksX5_lampOf_1 5 rfl rfl)
theorem dX5_lampOf_30 : decode cX5_lampOf 30 = .ok (.iconst 0, 1) := dk_3 (dk_at dksX5_lampOf_1 6 rfl rfl)
theorem dX5_lampOf_31 : decode cX5_lampOf 31 = .ok (.putfield 65, 3) := dk_181 0 65 (dk_at dksX5_lampOf_1 7 rfl rfl)
theorem dX5_lampOf_34 : decode cX5_lampOf 34 = .ok (.iload_n 2, 1) := dk_28 (dk_at dksX5_lampOf_1 10 rfl rfl)
theorem dX5_lampOf_35 : decode cX5_lampOf 35 = .ok (.ifCond .ne 11, 3) := dk_154 0 11 (dk_at dksX5_lampOf_1 11 rfl rfl)
theorem dX5_lampOf_38 : decode cX5_lampOf 38 = .ok (.aload_n 0, 1) := dk_42 (dk_at dksX5_lampOf_1 14 rfl rfl)
theorem dX5_lampOf_39 : decode cX5_lampOf 39 = .ok (.iload_n 1, 1) := dk_27 (dk_at dksX5_lampOf_1 15 rfl rfl)
theorem dX5_lampOf_40 : decode cX5_lampOf 40 = .ok (.invokevirtual 116, 3) := dk_182 0 116 (dk_at dksX5_lampOf_1 16 rfl rfl)
theorem dX5_lampOf_43 : decode cX5_lampOf 43 = .ok (.goto 9, 3) := dk_167 0 9 (dk_at dksX5_lampOf_1 19 rfl rfl)
theorem dX5_lampOf_46 : decode cX5_lampOf 46 = .ok (.aload_n 0, 1) := dk_42 (dk_at dksX5_lampOf_1 22 rfl rfl)
theorem dX5_lampOf_47 : decode cX5_lampOf 47 = .ok (.iload_n 1, 1) := dk_27 (dk_at dksX5_lampOf_1 23 rfl rfl)
theorem dX5_lampOf_48 : decode cX5_lampOf 48 = .ok (.iload_n 2, 1) := dk_28 (dk_at dksX5_lampOf_2 0 rfl rfl)
theorem dX5_lampOf_49 : decode cX5_lampOf 49 = .ok (.invokevirtual 110, 3) := dk_182 0 110 (dk_at dksX5_lampOf_2 1 rfl rfl)
theorem dX5_lampOf_52 : decode cX5_lampOf 52 = .ok (.ireturn, 1) := dk_172 (dk_at dksX5_lampOf_2 4 rfl rfl)
abbrev cX5_isLamp : ByteArray := prog_25_method_19_code
def yX5_isLamp : MethodName := ⟨RX5, "isLamp", "(I)Z"⟩
def dkwX5_isLamp_0 : List UInt8 := [27, 3, 42, 180, 0, 7, 16, 104, 46, 4, 100, 184, 0, 97, 172]
abbrev dktX5_isLamp_0 : List UInt8 := dkwX5_isLamp_0 ++ []
theorem dksX5_isLamp_0 : cX5_isLamp.data.toList.drop 0 = dktX5_isLamp_0 := by decide +kernel
theorem dX5_isLamp_0 : decode cX5_isLamp 0 = .ok (.iload_n 1, 1) := dk_27 (dk_at dksX5_isLamp_0 0 rfl rfl)
theorem dX5_isLamp_1 : decode cX5_isLamp 1 = .ok (.iconst 0, 1) := dk_3 (dk_at dksX5_isLamp_0 1 rfl rfl)
theorem dX5_isLamp_2 : decode cX5_isLamp 2 = .ok (.aload_n 0, 1) := dk_42 (dk_at dksX5_isLamp_0 2 rfl rfl)
theorem dX5_isLamp_3 : decode cX5_isLamp 3 = .ok (.getfield 7, 3) := dk_180 0 7 (dk_at dksX5_isLamp_0 3 rfl rfl)
theorem dX5_isLamp_6 : decode cX5_isLamp 6 = .ok (.bipush 104, 2) := dk_16 104 (dk_at dksX5_isLamp_0 6 rfl rfl)
theorem dX5_isLamp_8 : decode cX5_isLamp 8 = .ok (.iaload, 1) := dk_46 (dk_at dksX5_isLamp_0 8 rfl rfl)
theorem dX5_isLamp_9 : decode cX5_isLamp 9 = .ok (.iconst 1, 1) := dk_4 (dk_at dksX5_isLamp_0 9 rfl rfl)
theorem dX5_isLamp_10 : decode cX5_isLamp 10 = .ok (.isub, 1) := dk_100 (dk_at dksX5_isLamp_0 10 rfl rfl)
theorem dX5_isLamp_11 : decode cX5_isLamp 11 = .ok (.invokestatic 97, 3) := dk_184 0 97 (dk_at dksX5_isLamp_0 11 rfl rfl)
theorem dX5_isLamp_14 : decode cX5_isLamp 14 = .ok (.ireturn, 1) := dk_172 (dk_at dksX5_isLamp_0 14 rfl rfl)
abbrev cX5_clip : ByteArray := prog_25_method_41_code
def yX5_clip : MethodName := ⟨RX5, "clip", "()I"⟩
def dkwX5_clip_1 : List UInt8 := [182, 0, 139, 42, 182, 0, 174, 42, 180, 0, 7, 17, 0, 131, 46, 172]
abbrev dktX5_clip_1 : List UInt8 := dkwX5_clip_1 ++ []
def dkwX5_clip_0 : List UInt8 := [42, 182, 0, 170, 153, 0, 9, 42, 4, 182, 0, 133, 172, 42, 3, 181, 0, 65, 42, 182, 0, 136, 42]
abbrev dktX5_clip_0 : List UInt8 := dkwX5_clip_0 ++ dktX5_clip_1
theorem dksX5_clip_0 : cX5_clip.data.toList.drop 0 = dktX5_clip_0 := by decide +kernel
theorem dksX5_clip_1 : cX5_clip.data.toList.drop 23 = dktX5_clip_1 := dk_seg dksX5_clip_0 23 rfl rfl
theorem dX5_clip_0 : decode cX5_clip 0 = .ok (.aload_n 0, 1) := dk_42 (dk_at dksX5_clip_0 0 rfl rfl)
theorem dX5_clip_1 : decode cX5_clip 1 = .ok (.invokevirtual 170, 3) := dk_182 0 170 (dk_at dksX5_clip_0 1 rfl rfl)
theorem dX5_clip_4 : decode cX5_clip 4 = .ok (.ifCond .eq 9, 3) := dk_153 0 9 (dk_at dksX5_clip_0 4 rfl rfl)
theorem dX5_clip_7 : decode cX5_clip 7 = .ok (.aload_n 0, 1) := dk_42 (dk_at dksX5_clip_0 7 rfl rfl)
theorem dX5_clip_8 : decode cX5_clip 8 = .ok (.iconst 1, 1) := dk_4 (dk_at dksX5_clip_0 8 rfl rfl)
theorem dX5_clip_9 : decode cX5_clip 9 = .ok (.invokevirtual 133, 3) := dk_182 0 133 (dk_at dksX5_clip_0 9 rfl rfl)
theorem dX5_clip_12 : decode cX5_clip 12 = .ok (.ireturn, 1) := dk_172 (dk_at dksX5_clip_0 12 rfl rfl)
theorem dX5_clip_13 : decode cX5_clip 13 = .ok (.aload_n 0, 1) := dk_42 (dk_at dksX5_clip_0 13 rfl rfl)
theorem dX5_clip_14 : decode cX5_clip 14 = .ok (.iconst 0, 1) := dk_3 (dk_at dksX5_clip_0 14 rfl rfl)
theorem dX5_clip_15 : decode cX5_clip 15 = .ok (.putfield 65, 3) := dk_181 0 65 (dk_at dksX5_clip_0 15 rfl rfl)
theorem dX5_clip_18 : decode cX5_clip 18 = .ok (.aload_n 0, 1) := dk_42 (dk_at dksX5_clip_0 18 rfl rfl)
theorem dX5_clip_19 : decode cX5_clip 19 = .ok (.invokevirtual 136, 3) := dk_182 0 136 (dk_at dksX5_clip_0 19 rfl rfl)
theorem dX5_clip_22 : decode cX5_clip 22 = .ok (.aload_n 0, 1) := dk_42 (dk_at dksX5_clip_0 22 rfl rfl)
theorem dX5_clip_23 : decode cX5_clip 23 = .ok (.invokevirtual 139, 3) := dk_182 0 139 (dk_at dksX5_clip_1 0 rfl rfl)
theorem dX5_clip_26 : decode cX5_clip 26 = .ok (.aload_n 0, 1) := dk_42 (dk_at dksX5_clip_1 3 rfl rfl)
theorem dX5_clip_27 : decode cX5_clip 27 = .ok (.invokevirtual 174, 3) := dk_182 0 174 (dk_at dksX5_clip_1 4 rfl rfl)
theorem dX5_clip_30 : decode cX5_clip 30 = .ok (.aload_n 0, 1) := dk_42 (dk_at dksX5_clip_1 7 rfl rfl)
theorem dX5_clip_31 : decode cX5_clip 31 = .ok (.getfield 7, 3) := dk_180 0 7 (dk_at dksX5_clip_1 8 rfl rfl)
theorem dX5_clip_34 : decode cX5_clip 34 = .ok (.sipush 131, 3) := dk_17 0 131 (dk_at dksX5_clip_1 11 rfl rfl)
theorem dX5_clip_37 : decode cX5_clip 37 = .ok (.iaload, 1) := dk_46 (dk_at dksX5_clip_1 14 rfl rfl)
theorem dX5_clip_38 : decode cX5_clip 38 = .ok (.ireturn, 1) := dk_172 (dk_at dksX5_clip_1 15 rfl rfl)
abbrev cX5_mayNotClip : ByteArray := prog_25_method_44_code
def yX5_mayNotClip : MethodName := ⟨RX5, "mayNotClip", "()Z"⟩
def dkwX5_mayNotClip_3 : List UInt8 := [16, 7, 160, 0, 17, 42, 16, 12, 3, 182, 0, 129, 153, 0, 7, 4, 167, 0, 4, 3, 172]
abbrev dktX5_mayNotClip_3 : List UInt8 := dkwX5_mayNotClip_3 ++ []
def dkwX5_mayNotClip_2 : List UInt8 := [180, 0, 7, 17, 0, 132, 28, 96, 46, 27, 160, 0, 13, 42, 16, 11, 27, 182, 0, 129, 154, 0, 19, 28]
abbrev dktX5_mayNotClip_2 : List UInt8 := dkwX5_mayNotClip_2 ++ dktX5_mayNotClip_3
def dkwX5_mayNotClip_1 : List UInt8 := [154, 0, 62, 27, 2, 160, 0, 13, 42, 16, 10, 3, 182, 0, 129, 154, 0, 47, 28, 155, 0, 27, 42]
abbrev dktX5_mayNotClip_1 : List UInt8 := dkwX5_mayNotClip_1 ++ dktX5_mayNotClip_2
def dkwX5_mayNotClip_0 : List UInt8 := [42, 3, 182, 0, 113, 60, 42, 180, 0, 7, 17, 0, 131, 46, 4, 100, 61, 42, 3, 4, 182, 0, 177]
abbrev dktX5_mayNotClip_0 : List UInt8 := dkwX5_mayNotClip_0 ++ dktX5_mayNotClip_1
theorem dksX5_mayNotClip_0 : cX5_mayNotClip.data.toList.drop 0 = dktX5_mayNotClip_0 := by decide +kernel
theorem dksX5_mayNotClip_1 : cX5_mayNotClip.data.toList.drop 23 = dktX5_mayNotClip_1 := dk_seg dksX5_mayNotClip_0 23 rfl rfl
theorem dksX5_mayNotClip_2 : cX5_mayNotClip.data.toList.drop 46 = dktX5_mayNotClip_2 := dk_seg dksX5_mayNotClip_1 23 rfl rfl
theorem dksX5_mayNotClip_3 : cX5_mayNotClip.data.toList.drop 70 = dktX5_mayNotClip_3 := dk_seg dksX5_mayNotClip_2 24 rfl rfl
theorem dX5_mayNotClip_0 : decode cX5_mayNotClip 0 = .ok (.aload_n 0, 1) := dk_42 (dk_at dksX5_mayNotClip_0 0 rfl rfl)
theorem dX5_mayNotClip_1 : decode cX5_mayNotClip 1 = .ok (.iconst 0, 1) := dk_3 (dk_at dksX5_mayNotClip_0 1 rfl rfl)
theorem dX5_mayNotClip_2 : decode cX5_mayNotClip 2 = .ok (.invokevirtual 113, 3) := dk_182 0 113 (dk_at dksX5_mayNotClip_0 2 rfl rfl)
theorem dX5_mayNotClip_5 : decode cX5_mayNotClip 5 = .ok (.istore_n 1, 1) := dk_60 (dk_at dksX5_mayNotClip_0 5 rfl rfl)
theorem dX5_mayNotClip_6 : decode cX5_mayNotClip 6 = .ok (.aload_n 0, 1) := dk_42 (dk_at dksX5_mayNotClip_0 6 rfl rfl)
theorem dX5_mayNotClip_7 : decode cX5_mayNotClip 7 = .ok (.getfield 7, 3) := dk_180 0 7 (dk_at dksX5_mayNotClip_0 7 rfl rfl)
theorem dX5_mayNotClip_10 : decode cX5_mayNotClip 10 = .ok (.sipush 131, 3) := dk_17 0 131 (dk_at dksX5_mayNotClip_0 10 rfl rfl)
theorem dX5_mayNotClip_13 : decode cX5_mayNotClip 13 = .ok (.iaload, 1) := dk_46 (dk_at dksX5_mayNotClip_0 13 rfl rfl)
theorem dX5_mayNotClip_14 : decode cX5_mayNotClip 14 = .ok (.iconst 1, 1) := dk_4 (dk_at dksX5_mayNotClip_0 14 rfl rfl)
theorem dX5_mayNotClip_15 : decode cX5_mayNotClip 15 = .ok (.isub, 1) := dk_100 (dk_at dksX5_mayNotClip_0 15 rfl rfl)
theorem dX5_mayNotClip_16 : decode cX5_mayNotClip 16 = .ok (.istore_n 2, 1) := dk_61 (dk_at dksX5_mayNotClip_0 16 rfl rfl)
theorem dX5_mayNotClip_17 : decode cX5_mayNotClip 17 = .ok (.aload_n 0, 1) := dk_42 (dk_at dksX5_mayNotClip_0 17 rfl rfl)
theorem dX5_mayNotClip_18 : decode cX5_mayNotClip 18 = .ok (.iconst 0, 1) := dk_3 (dk_at dksX5_mayNotClip_0 18 rfl rfl)
theorem dX5_mayNotClip_19 : decode cX5_mayNotClip 19 = .ok (.iconst 1, 1) := dk_4 (dk_at dksX5_mayNotClip_0 19 rfl rfl)
theorem dX5_mayNotClip_20 : decode cX5_mayNotClip 20 = .ok (.invokevirtual 177, 3) := dk_182 0 177 (dk_at dksX5_mayNotClip_0 20 rfl rfl)
theorem dX5_mayNotClip_23 : decode cX5_mayNotClip 23 = .ok (.ifCond .ne 62, 3) := dk_154 0 62 (dk_at dksX5_mayNotClip_1 0 rfl rfl)
theorem dX5_mayNotClip_26 : decode cX5_mayNotClip 26 = .ok (.iload_n 1, 1) := dk_27 (dk_at dksX5_mayNotClip_1 3 rfl rfl)
theorem dX5_mayNotClip_27 : decode cX5_mayNotClip 27 = .ok (.iconst (-1), 1) := dk_2 (dk_at dksX5_mayNotClip_1 4 rfl rfl)
theorem dX5_mayNotClip_28 : decode cX5_mayNotClip 28 = .ok (.if_icmp .ne 13, 3) := dk_160 0 13 (dk_at dksX5_mayNotClip_1 5 rfl rfl)
theorem dX5_mayNotClip_31 : decode cX5_mayNotClip 31 = .ok (.aload_n 0, 1) := dk_42 (dk_at dksX5_mayNotClip_1 8 rfl rfl)
theorem dX5_mayNotClip_32 : decode cX5_mayNotClip 32 = .ok (.bipush 10, 2) := dk_16 10 (dk_at dksX5_mayNotClip_1 9 rfl rfl)
theorem dX5_mayNotClip_34 : decode cX5_mayNotClip 34 = .ok (.iconst 0, 1) := dk_3 (dk_at dksX5_mayNotClip_1 11 rfl rfl)
theorem dX5_mayNotClip_35 : decode cX5_mayNotClip 35 = .ok (.invokevirtual 129, 3) := dk_182 0 129 (dk_at dksX5_mayNotClip_1 12 rfl rfl)
theorem dX5_mayNotClip_38 : decode cX5_mayNotClip 38 = .ok (.ifCond .ne 47, 3) := dk_154 0 47 (dk_at dksX5_mayNotClip_1 15 rfl rfl)
theorem dX5_mayNotClip_41 : decode cX5_mayNotClip 41 = .ok (.iload_n 2, 1) := dk_28 (dk_at dksX5_mayNotClip_1 18 rfl rfl)
theorem dX5_mayNotClip_42 : decode cX5_mayNotClip 42 = .ok (.ifCond .lt 27, 3) := dk_155 0 27 (dk_at dksX5_mayNotClip_1 19 rfl rfl)
theorem dX5_mayNotClip_45 : decode cX5_mayNotClip 45 = .ok (.aload_n 0, 1) := dk_42 (dk_at dksX5_mayNotClip_1 22 rfl rfl)
theorem dX5_mayNotClip_46 : decode cX5_mayNotClip 46 = .ok (.getfield 7, 3) := dk_180 0 7 (dk_at dksX5_mayNotClip_2 0 rfl rfl)
theorem dX5_mayNotClip_49 : decode cX5_mayNotClip 49 = .ok (.sipush 132, 3) := dk_17 0 132 (dk_at dksX5_mayNotClip_2 3 rfl rfl)
theorem dX5_mayNotClip_52 : decode cX5_mayNotClip 52 = .ok (.iload_n 2, 1) := dk_28 (dk_at dksX5_mayNotClip_2 6 rfl rfl)
theorem dX5_mayNotClip_53 : decode cX5_mayNotClip 53 = .ok (.iadd, 1) := dk_96 (dk_at dksX5_mayNotClip_2 7 rfl rfl)
theorem dX5_mayNotClip_54 : decode cX5_mayNotClip 54 = .ok (.iaload, 1) := dk_46 (dk_at dksX5_mayNotClip_2 8 rfl rfl)
theorem dX5_mayNotClip_55 : decode cX5_mayNotClip 55 = .ok (.iload_n 1, 1) := dk_27 (dk_at dksX5_mayNotClip_2 9 rfl rfl)
theorem dX5_mayNotClip_56 : decode cX5_mayNotClip 56 = .ok (.if_icmp .ne 13, 3) := dk_160 0 13 (dk_at dksX5_mayNotClip_2 10 rfl rfl)
theorem dX5_mayNotClip_59 : decode cX5_mayNotClip 59 = .ok (.aload_n 0, 1) := dk_42 (dk_at dksX5_mayNotClip_2 13 rfl rfl)
theorem dX5_mayNotClip_60 : decode cX5_mayNotClip 60 = .ok (.bipush 11, 2) := dk_16 11 (dk_at dksX5_mayNotClip_2 14 rfl rfl)
theorem dX5_mayNotClip_62 : decode cX5_mayNotClip 62 = .ok (.iload_n 1, 1) := dk_27 (dk_at dksX5_mayNotClip_2 16 rfl rfl)
theorem dX5_mayNotClip_63 : decode cX5_mayNotClip 63 = .ok (.invokevirtual 129, 3) := dk_182 0 129 (dk_at dksX5_mayNotClip_2 17 rfl rfl)
theorem dX5_mayNotClip_66 : decode cX5_mayNotClip 66 = .ok (.ifCond .ne 19, 3) := dk_154 0 19 (dk_at dksX5_mayNotClip_2 20 rfl rfl)
theorem dX5_mayNotClip_69 : decode cX5_mayNotClip 69 = .ok (.iload_n 2, 1) := dk_28 (dk_at dksX5_mayNotClip_2 23 rfl rfl)
theorem dX5_mayNotClip_70 : decode cX5_mayNotClip 70 = .ok (.bipush 7, 2) := dk_16 7 (dk_at dksX5_mayNotClip_3 0 rfl rfl)
theorem dX5_mayNotClip_72 : decode cX5_mayNotClip 72 = .ok (.if_icmp .ne 17, 3) := dk_160 0 17 (dk_at dksX5_mayNotClip_3 2 rfl rfl)
theorem dX5_mayNotClip_75 : decode cX5_mayNotClip 75 = .ok (.aload_n 0, 1) := dk_42 (dk_at dksX5_mayNotClip_3 5 rfl rfl)
theorem dX5_mayNotClip_76 : decode cX5_mayNotClip 76 = .ok (.bipush 12, 2) := dk_16 12 (dk_at dksX5_mayNotClip_3 6 rfl rfl)
theorem dX5_mayNotClip_78 : decode cX5_mayNotClip 78 = .ok (.iconst 0, 1) := dk_3 (dk_at dksX5_mayNotClip_3 8 rfl rfl)
theorem dX5_mayNotClip_79 : decode cX5_mayNotClip 79 = .ok (.invokevirtual 129, 3) := dk_182 0 129 (dk_at dksX5_mayNotClip_3 9 rfl rfl)
theorem dX5_mayNotClip_82 : decode cX5_mayNotClip 82 = .ok (.ifCond .eq 7, 3) := dk_153 0 7 (dk_at dksX5_mayNotClip_3 12 rfl rfl)
theorem dX5_mayNotClip_85 : decode cX5_mayNotClip 85 = .ok (.iconst 1, 1) := dk_4 (dk_at dksX5_mayNotClip_3 15 rfl rfl)
theorem dX5_mayNotClip_86 : decode cX5_mayNotClip 86 = .ok (.goto 4, 3) := dk_167 0 4 (dk_at dksX5_mayNotClip_3 16 rfl rfl)
theorem dX5_mayNotClip_89 : decode cX5_mayNotClip 89 = .ok (.iconst 0, 1) := dk_3 (dk_at dksX5_mayNotClip_3 19 rfl rfl)
theorem dX5_mayNotClip_90 : decode cX5_mayNotClip 90 = .ok (.ireturn, 1) := dk_172 (dk_at dksX5_mayNotClip_3 20 rfl rfl)
abbrev cX5_mayNotAct : ByteArray := prog_25_method_43_code
def yX5_mayNotAct : MethodName := ⟨RX5, "mayNotAct", "(IZ)Z"⟩
def dkwX5_mayNotAct_2 : List UInt8 := [172]
abbrev dktX5_mayNotAct_2 : List UInt8 := dkwX5_mayNotAct_2 ++ []
def dkwX5_mayNotAct_1 : List UInt8 := [27, 4, 182, 0, 107, 4, 160, 0, 17, 42, 16, 9, 3, 182, 0, 129, 153, 0, 7, 4, 167, 0, 4, 3]
abbrev dktX5_mayNotAct_1 : List UInt8 := dkwX5_mayNotAct_1 ++ dktX5_mayNotAct_2
def dkwX5_mayNotAct_0 : List UInt8 := [42, 27, 4, 182, 0, 107, 5, 160, 0, 12, 42, 4, 3, 182, 0, 129, 154, 0, 27, 28, 153, 0, 27, 42]
abbrev dktX5_mayNotAct_0 : List UInt8 := dkwX5_mayNotAct_0 ++ dktX5_mayNotAct_1
theorem dksX5_mayNotAct_0 : cX5_mayNotAct.data.toList.drop 0 = dktX5_mayNotAct_0 := by decide +kernel
theorem dksX5_mayNotAct_1 : cX5_mayNotAct.data.toList.drop 24 = dktX5_mayNotAct_1 := dk_seg dksX5_mayNotAct_0 24 rfl rfl
theorem dksX5_mayNotAct_2 : cX5_mayNotAct.data.toList.drop 48 = dktX5_mayNotAct_2 := dk_seg dksX5_mayNotAct_1 24 rfl rfl
theorem dX5_mayNotAct_0 : decode cX5_mayNotAct 0 = .ok (.aload_n 0, 1) := dk_42 (dk_at dksX5_mayNotAct_0 0 rfl rfl)
theorem dX5_mayNotAct_1 : decode cX5_mayNotAct 1 = .ok (.iload_n 1, 1) := dk_27 (dk_at dksX5_mayNotAct_0 1 rfl rfl)
theorem dX5_mayNotAct_2 : decode cX5_mayNotAct 2 = .ok (.iconst 1, 1) := dk_4 (dk_at dksX5_mayNotAct_0 2 rfl rfl)
theorem dX5_mayNotAct_3 : decode cX5_mayNotAct 3 = .ok (.invokevirtual 107, 3) := dk_182 0 107 (dk_at dksX5_mayNotAct_0 3 rfl rfl)
theorem dX5_mayNotAct_6 : decode cX5_mayNotAct 6 = .ok (.iconst 2, 1) := dk_5 (dk_at dksX5_mayNotAct_0 6 rfl rfl)
theorem dX5_mayNotAct_7 : decode cX5_mayNotAct 7 = .ok (.if_icmp .ne 12, 3) := dk_160 0 12 (dk_at dksX5_mayNotAct_0 7 rfl rfl)
theorem dX5_mayNotAct_10 : decode cX5_mayNotAct 10 = .ok (.aload_n 0, 1) := dk_42 (dk_at dksX5_mayNotAct_0 10 rfl rfl)
theorem dX5_mayNotAct_11 : decode cX5_mayNotAct 11 = .ok (.iconst 1, 1) := dk_4 (dk_at dksX5_mayNotAct_0 11 rfl rfl)
theorem dX5_mayNotAct_12 : decode cX5_mayNotAct 12 = .ok (.iconst 0, 1) := dk_3 (dk_at dksX5_mayNotAct_0 12 rfl rfl)
theorem dX5_mayNotAct_13 : decode cX5_mayNotAct 13 = .ok (.invokevirtual 129, 3) := dk_182 0 129 (dk_at dksX5_mayNotAct_0 13 rfl rfl)
theorem dX5_mayNotAct_16 : decode cX5_mayNotAct 16 = .ok (.ifCond .ne 27, 3) := dk_154 0 27 (dk_at dksX5_mayNotAct_0 16 rfl rfl)
theorem dX5_mayNotAct_19 : decode cX5_mayNotAct 19 = .ok (.iload_n 2, 1) := dk_28 (dk_at dksX5_mayNotAct_0 19 rfl rfl)
theorem dX5_mayNotAct_20 : decode cX5_mayNotAct 20 = .ok (.ifCond .eq 27, 3) := dk_153 0 27 (dk_at dksX5_mayNotAct_0 20 rfl rfl)
theorem dX5_mayNotAct_23 : decode cX5_mayNotAct 23 = .ok (.aload_n 0, 1) := dk_42 (dk_at dksX5_mayNotAct_0 23 rfl rfl)
theorem dX5_mayNotAct_24 : decode cX5_mayNotAct 24 = .ok (.iload_n 1, 1) := dk_27 (dk_at dksX5_mayNotAct_1 0 rfl rfl)
theorem dX5_mayNotAct_25 : decode cX5_mayNotAct 25 = .ok (.iconst 1, 1) := dk_4 (dk_at dksX5_mayNotAct_1 1 rfl rfl)
theorem dX5_mayNotAct_26 : decode cX5_mayNotAct 26 = .ok (.invokevirtual 107, 3) := dk_182 0 107 (dk_at dksX5_mayNotAct_1 2 rfl rfl)
theorem dX5_mayNotAct_29 : decode cX5_mayNotAct 29 = .ok (.iconst 1, 1) := dk_4 (dk_at dksX5_mayNotAct_1 5 rfl rfl)
theorem dX5_mayNotAct_30 : decode cX5_mayNotAct 30 = .ok (.if_icmp .ne 17, 3) := dk_160 0 17 (dk_at dksX5_mayNotAct_1 6 rfl rfl)
theorem dX5_mayNotAct_33 : decode cX5_mayNotAct 33 = .ok (.aload_n 0, 1) := dk_42 (dk_at dksX5_mayNotAct_1 9 rfl rfl)
theorem dX5_mayNotAct_34 : decode cX5_mayNotAct 34 = .ok (.bipush 9, 2) := dk_16 9 (dk_at dksX5_mayNotAct_1 10 rfl rfl)
theorem dX5_mayNotAct_36 : decode cX5_mayNotAct 36 = .ok (.iconst 0, 1) := dk_3 (dk_at dksX5_mayNotAct_1 12 rfl rfl)
theorem dX5_mayNotAct_37 : decode cX5_mayNotAct 37 = .ok (.invokevirtual 129, 3) := dk_182 0 129 (dk_at dksX5_mayNotAct_1 13 rfl rfl)
theorem dX5_mayNotAct_40 : decode cX5_mayNotAct 40 = .ok (.ifCond .eq 7, 3) := dk_153 0 7 (dk_at dksX5_mayNotAct_1 16 rfl rfl)
theorem dX5_mayNotAct_43 : decode cX5_mayNotAct 43 = .ok (.iconst 1, 1) := dk_4 (dk_at dksX5_mayNotAct_1 19 rfl rfl)
theorem dX5_mayNotAct_44 : decode cX5_mayNotAct 44 = .ok (.goto 4, 3) := dk_167 0 4 (dk_at dksX5_mayNotAct_1 20 rfl rfl)
theorem dX5_mayNotAct_47 : decode cX5_mayNotAct 47 = .ok (.iconst 0, 1) := dk_3 (dk_at dksX5_mayNotAct_1 23 rfl rfl)
theorem dX5_mayNotAct_48 : decode cX5_mayNotAct 48 = .ok (.ireturn, 1) := dk_172 (dk_at dksX5_mayNotAct_2 0 rfl rfl)
abbrev cX5_clips : ByteArray := prog_25_method_42_code
def yX5_clips : MethodName := ⟨RX5, "clips", "()V"⟩
def dkwX5_clips_1 : List UInt8 := [180, 0, 7, 17, 0, 131, 92, 46, 4, 96, 79, 177]
abbrev dktX5_clips_1 : List UInt8 := dkwX5_clips_1 ++ []
def dkwX5_clips_0 : List UInt8 := [42, 180, 0, 7, 17, 0, 132, 42, 180, 0, 7, 17, 0, 131, 46, 96, 42, 3, 182, 0, 113, 79, 42]
abbrev dktX5_clips_0 : List UInt8 := dkwX5_clips_0 ++ dktX5_clips_1
theorem dksX5_clips_0 : cX5_clips.data.toList.drop 0 = dktX5_clips_0 := by decide +kernel
theorem dksX5_clips_1 : cX5_clips.data.toList.drop 23 = dktX5_clips_1 := dk_seg dksX5_clips_0 23 rfl rfl
theorem dX5_clips_0 : decode cX5_clips 0 = .ok (.aload_n 0, 1) := dk_42 (dk_at dksX5_clips_0 0 rfl rfl)
theorem dX5_clips_1 : decode cX5_clips 1 = .ok (.getfield 7, 3) := dk_180 0 7 (dk_at dksX5_clips_0 1 rfl rfl)
theorem dX5_clips_4 : decode cX5_clips 4 = .ok (.sipush 132, 3) := dk_17 0 132 (dk_at dksX5_clips_0 4 rfl rfl)
theorem dX5_clips_7 : decode cX5_clips 7 = .ok (.aload_n 0, 1) := dk_42 (dk_at dksX5_clips_0 7 rfl rfl)
theorem dX5_clips_8 : decode cX5_clips 8 = .ok (.getfield 7, 3) := dk_180 0 7 (dk_at dksX5_clips_0 8 rfl rfl)
theorem dX5_clips_11 : decode cX5_clips 11 = .ok (.sipush 131, 3) := dk_17 0 131 (dk_at dksX5_clips_0 11 rfl rfl)
theorem dX5_clips_14 : decode cX5_clips 14 = .ok (.iaload, 1) := dk_46 (dk_at dksX5_clips_0 14 rfl rfl)
theorem dX5_clips_15 : decode cX5_clips 15 = .ok (.iadd, 1) := dk_96 (dk_at dksX5_clips_0 15 rfl rfl)
theorem dX5_clips_16 : decode cX5_clips 16 = .ok (.aload_n 0, 1) := dk_42 (dk_at dksX5_clips_0 16 rfl rfl)
theorem dX5_clips_17 : decode cX5_clips 17 = .ok (.iconst 0, 1) := dk_3 (dk_at dksX5_clips_0 17 rfl rfl)
theorem dX5_clips_18 : decode cX5_clips 18 = .ok (.invokevirtual 113, 3) := dk_182 0 113 (dk_at dksX5_clips_0 18 rfl rfl)
theorem dX5_clips_21 : decode cX5_clips 21 = .ok (.iastore, 1) := dk_79 (dk_at dksX5_clips_0 21 rfl rfl)
theorem dX5_clips_22 : decode cX5_clips 22 = .ok (.aload_n 0, 1) := dk_42 (dk_at dksX5_clips_0 22 rfl rfl)
theorem dX5_clips_23 : decode cX5_clips 23 = .ok (.getfield 7, 3) := dk_180 0 7 (dk_at dksX5_clips_1 0 rfl rfl)
theorem dX5_clips_26 : decode cX5_clips 26 = .ok (.sipush 131, 3) := dk_17 0 131 (dk_at dksX5_clips_1 3 rfl rfl)
theorem dX5_clips_29 : decode cX5_clips 29 = .ok (.dup2, 1) := dk_92 (dk_at dksX5_clips_1 6 rfl rfl)
theorem dX5_clips_30 : decode cX5_clips 30 = .ok (.iaload, 1) := dk_46 (dk_at dksX5_clips_1 7 rfl rfl)
theorem dX5_clips_31 : decode cX5_clips 31 = .ok (.iconst 1, 1) := dk_4 (dk_at dksX5_clips_1 8 rfl rfl)
theorem dX5_clips_32 : decode cX5_clips 32 = .ok (.iadd, 1) := dk_96 (dk_at dksX5_clips_1 9 rfl rfl)
theorem dX5_clips_33 : decode cX5_clips 33 = .ok (.iastore, 1) := dk_79 (dk_at dksX5_clips_1 10 rfl rfl)
theorem dX5_clips_34 : decode cX5_clips 34 = .ok (.return_, 1) := dk_177 (dk_at dksX5_clips_1 11 rfl rfl)
abbrev cX5_unclip : ByteArray := prog_25_method_47_code
def yX5_unclip : MethodName := ⟨RX5, "unclip", "()I"⟩
def dkwX5_unclip_1 : List UInt8 := [182, 0, 139, 42, 182, 0, 184, 42, 180, 0, 7, 17, 0, 131, 46, 172]
abbrev dktX5_unclip_1 : List UInt8 := dkwX5_unclip_1 ++ []
def dkwX5_unclip_0 : List UInt8 := [42, 182, 0, 181, 153, 0, 9, 42, 4, 182, 0, 133, 172, 42, 3, 181, 0, 65, 42, 182, 0, 136, 42]
abbrev dktX5_unclip_0 : List UInt8 := dkwX5_unclip_0 ++ dktX5_unclip_1
theorem dksX5_unclip_0 : cX5_unclip.data.toList.drop 0 = dktX5_unclip_0 := by decide +kernel
theorem dksX5_unclip_1 : cX5_unclip.data.toList.drop 23 = dktX5_unclip_1 := dk_seg dksX5_unclip_0 23 rfl rfl
theorem dX5_unclip_0 : decode cX5_unclip 0 = .ok (.aload_n 0, 1) := dk_42 (dk_at dksX5_unclip_0 0 rfl rfl)
theorem dX5_unclip_1 : decode cX5_unclip 1 = .ok (.invokevirtual 181, 3) := dk_182 0 181 (dk_at dksX5_unclip_0 1 rfl rfl)
theorem dX5_unclip_4 : decode cX5_unclip 4 = .ok (.ifCond .eq 9, 3) := dk_153 0 9 (dk_at dksX5_unclip_0 4 rfl rfl)
theorem dX5_unclip_7 : decode cX5_unclip 7 = .ok (.aload_n 0, 1) := dk_42 (dk_at dksX5_unclip_0 7 rfl rfl)
theorem dX5_unclip_8 : decode cX5_unclip 8 = .ok (.iconst 1, 1) := dk_4 (dk_at dksX5_unclip_0 8 rfl rfl)
theorem dX5_unclip_9 : decode cX5_unclip 9 = .ok (.invokevirtual 133, 3) := dk_182 0 133 (dk_at dksX5_unclip_0 9 rfl rfl)
theorem dX5_unclip_12 : decode cX5_unclip 12 = .ok (.ireturn, 1) := dk_172 (dk_at dksX5_unclip_0 12 rfl rfl)
theorem dX5_unclip_13 : decode cX5_unclip 13 = .ok (.aload_n 0, 1) := dk_42 (dk_at dksX5_unclip_0 13 rfl rfl)
theorem dX5_unclip_14 : decode cX5_unclip 14 = .ok (.iconst 0, 1) := dk_3 (dk_at dksX5_unclip_0 14 rfl rfl)
theorem dX5_unclip_15 : decode cX5_unclip 15 = .ok (.putfield 65, 3) := dk_181 0 65 (dk_at dksX5_unclip_0 15 rfl rfl)
theorem dX5_unclip_18 : decode cX5_unclip 18 = .ok (.aload_n 0, 1) := dk_42 (dk_at dksX5_unclip_0 18 rfl rfl)
theorem dX5_unclip_19 : decode cX5_unclip 19 = .ok (.invokevirtual 136, 3) := dk_182 0 136 (dk_at dksX5_unclip_0 19 rfl rfl)
theorem dX5_unclip_22 : decode cX5_unclip 22 = .ok (.aload_n 0, 1) := dk_42 (dk_at dksX5_unclip_0 22 rfl rfl)
theorem dX5_unclip_23 : decode cX5_unclip 23 = .ok (.invokevirtual 139, 3) := dk_182 0 139 (dk_at dksX5_unclip_1 0 rfl rfl)
theorem dX5_unclip_26 : decode cX5_unclip 26 = .ok (.aload_n 0, 1) := dk_42 (dk_at dksX5_unclip_1 3 rfl rfl)
theorem dX5_unclip_27 : decode cX5_unclip 27 = .ok (.invokevirtual 184, 3) := dk_182 0 184 (dk_at dksX5_unclip_1 4 rfl rfl)
theorem dX5_unclip_30 : decode cX5_unclip 30 = .ok (.aload_n 0, 1) := dk_42 (dk_at dksX5_unclip_1 7 rfl rfl)
theorem dX5_unclip_31 : decode cX5_unclip 31 = .ok (.getfield 7, 3) := dk_180 0 7 (dk_at dksX5_unclip_1 8 rfl rfl)
theorem dX5_unclip_34 : decode cX5_unclip 34 = .ok (.sipush 131, 3) := dk_17 0 131 (dk_at dksX5_unclip_1 11 rfl rfl)
theorem dX5_unclip_37 : decode cX5_unclip 37 = .ok (.iaload, 1) := dk_46 (dk_at dksX5_unclip_1 14 rfl rfl)
theorem dX5_unclip_38 : decode cX5_unclip 38 = .ok (.ireturn, 1) := dk_172 (dk_at dksX5_unclip_1 15 rfl rfl)
abbrev cX5_mayNotUnclip : ByteArray := prog_25_method_45_code
def yX5_mayNotUnclip : MethodName := ⟨RX5, "mayNotUnclip", "()Z"⟩
def dkwX5_mayNotUnclip_2 : List UInt8 := [46, 27, 159, 0, 17, 42, 16, 11, 27, 182, 0, 129, 153, 0, 7, 4, 167, 0, 4, 3, 172]
abbrev dktX5_mayNotUnclip_2 : List UInt8 := dkwX5_mayNotUnclip_2 ++ []
def dkwX5_mayNotUnclip_1 : List UInt8 := [182, 0, 129, 154, 0, 36, 42, 180, 0, 7, 17, 0, 131, 46, 153, 0, 15, 42, 180, 0, 7, 17, 0, 132]
abbrev dktX5_mayNotUnclip_1 : List UInt8 := dkwX5_mayNotUnclip_1 ++ dktX5_mayNotUnclip_2
def dkwX5_mayNotUnclip_0 : List UInt8 := [42, 4, 182, 0, 113, 60, 42, 4, 4, 182, 0, 177, 154, 0, 51, 27, 2, 160, 0, 13, 42, 16, 10, 3]
abbrev dktX5_mayNotUnclip_0 : List UInt8 := dkwX5_mayNotUnclip_0 ++ dktX5_mayNotUnclip_1
theorem dksX5_mayNotUnclip_0 : cX5_mayNotUnclip.data.toList.drop 0 = dktX5_mayNotUnclip_0 := by decide +kernel
theorem dksX5_mayNotUnclip_1 : cX5_mayNotUnclip.data.toList.drop 24 = dktX5_mayNotUnclip_1 := dk_seg dksX5_mayNotUnclip_0 24 rfl rfl
theorem dksX5_mayNotUnclip_2 : cX5_mayNotUnclip.data.toList.drop 48 = dktX5_mayNotUnclip_2 := dk_seg dksX5_mayNotUnclip_1 24 rfl rfl
theorem dX5_mayNotUnclip_0 : decode cX5_mayNotUnclip 0 = .ok (.aload_n 0, 1) := dk_42 (dk_at dksX5_mayNotUnclip_0 0 rfl rfl)
theorem dX5_mayNotUnclip_1 : decode cX5_mayNotUnclip 1 = .ok (.iconst 1, 1) := dk_4 (dk_at dksX5_mayNotUnclip_0 1 rfl rfl)
theorem dX5_mayNotUnclip_2 : decode cX5_mayNotUnclip 2 = .ok (.invokevirtual 113, 3) := dk_182 0 113 (dk_at dksX5_mayNotUnclip_0 2 rfl rfl)
theorem dX5_mayNotUnclip_5 : decode cX5_mayNotUnclip 5 = .ok (.istore_n 1, 1) := dk_60 (dk_at dksX5_mayNotUnclip_0 5 rfl rfl)
theorem dX5_mayNotUnclip_6 : decode cX5_mayNotUnclip 6 = .ok (.aload_n 0, 1) := dk_42 (dk_at dksX5_mayNotUnclip_0 6 rfl rfl)
theorem dX5_mayNotUnclip_7 : decode cX5_mayNotUnclip 7 = .ok (.iconst 1, 1) := dk_4 (dk_at dksX5_mayNotUnclip_0 7 rfl rfl)
theorem dX5_mayNotUnclip_8 : decode cX5_mayNotUnclip 8 = .ok (.iconst 1, 1) := dk_4 (dk_at dksX5_mayNotUnclip_0 8 rfl rfl)
theorem dX5_mayNotUnclip_9 : decode cX5_mayNotUnclip 9 = .ok (.invokevirtual 177, 3) := dk_182 0 177 (dk_at dksX5_mayNotUnclip_0 9 rfl rfl)
theorem dX5_mayNotUnclip_12 : decode cX5_mayNotUnclip 12 = .ok (.ifCond .ne 51, 3) := dk_154 0 51 (dk_at dksX5_mayNotUnclip_0 12 rfl rfl)
theorem dX5_mayNotUnclip_15 : decode cX5_mayNotUnclip 15 = .ok (.iload_n 1, 1) := dk_27 (dk_at dksX5_mayNotUnclip_0 15 rfl rfl)
theorem dX5_mayNotUnclip_16 : decode cX5_mayNotUnclip 16 = .ok (.iconst (-1), 1) := dk_2 (dk_at dksX5_mayNotUnclip_0 16 rfl rfl)
theorem dX5_mayNotUnclip_17 : decode cX5_mayNotUnclip 17 = .ok (.if_icmp .ne 13, 3) := dk_160 0 13 (dk_at dksX5_mayNotUnclip_0 17 rfl rfl)
theorem dX5_mayNotUnclip_20 : decode cX5_mayNotUnclip 20 = .ok (.aload_n 0, 1) := dk_42 (dk_at dksX5_mayNotUnclip_0 20 rfl rfl)
theorem dX5_mayNotUnclip_21 : decode cX5_mayNotUnclip 21 = .ok (.bipush 10, 2) := dk_16 10 (dk_at dksX5_mayNotUnclip_0 21 rfl rfl)
theorem dX5_mayNotUnclip_23 : decode cX5_mayNotUnclip 23 = .ok (.iconst 0, 1) := dk_3 (dk_at dksX5_mayNotUnclip_0 23 rfl rfl)
theorem dX5_mayNotUnclip_24 : decode cX5_mayNotUnclip 24 = .ok (.invokevirtual 129, 3) := dk_182 0 129 (dk_at dksX5_mayNotUnclip_1 0 rfl rfl)
theorem dX5_mayNotUnclip_27 : decode cX5_mayNotUnclip 27 = .ok (.ifCond .ne 36, 3) := dk_154 0 36 (dk_at dksX5_mayNotUnclip_1 3 rfl rfl)
theorem dX5_mayNotUnclip_30 : decode cX5_mayNotUnclip 30 = .ok (.aload_n 0, 1) := dk_42 (dk_at dksX5_mayNotUnclip_1 6 rfl rfl)
theorem dX5_mayNotUnclip_31 : decode cX5_mayNotUnclip 31 = .ok (.getfield 7, 3) := dk_180 0 7 (dk_at dksX5_mayNotUnclip_1 7 rfl rfl)
theorem dX5_mayNotUnclip_34 : decode cX5_mayNotUnclip 34 = .ok (.sipush 131, 3) := dk_17 0 131 (dk_at dksX5_mayNotUnclip_1 10 rfl rfl)
theorem dX5_mayNotUnclip_37 : decode cX5_mayNotUnclip 37 = .ok (.iaload, 1) := dk_46 (dk_at dksX5_mayNotUnclip_1 13 rfl rfl)
theorem dX5_mayNotUnclip_38 : decode cX5_mayNotUnclip 38 = .ok (.ifCond .eq 15, 3) := dk_153 0 15 (dk_at dksX5_mayNotUnclip_1 14 rfl rfl)
theorem dX5_mayNotUnclip_41 : decode cX5_mayNotUnclip 41 = .ok (.aload_n 0, 1) := dk_42 (dk_at dksX5_mayNotUnclip_1 17 rfl rfl)
theorem dX5_mayNotUnclip_42 : decode cX5_mayNotUnclip 42 = .ok (.getfield 7, 3) := dk_180 0 7 (dk_at dksX5_mayNotUnclip_1 18 rfl rfl)
theorem dX5_mayNotUnclip_45 : decode cX5_mayNotUnclip 45 = .ok (.sipush 132, 3) := dk_17 0 132 (dk_at dksX5_mayNotUnclip_1 21 rfl rfl)
theorem dX5_mayNotUnclip_48 : decode cX5_mayNotUnclip 48 = .ok (.iaload, 1) := dk_46 (dk_at dksX5_mayNotUnclip_2 0 rfl rfl)
theorem dX5_mayNotUnclip_49 : decode cX5_mayNotUnclip 49 = .ok (.iload_n 1, 1) := dk_27 (dk_at dksX5_mayNotUnclip_2 1 rfl rfl)
theorem dX5_mayNotUnclip_50 : decode cX5_mayNotUnclip 50 = .ok (.if_icmp .eq 17, 3) := dk_159 0 17 (dk_at dksX5_mayNotUnclip_2 2 rfl rfl)
theorem dX5_mayNotUnclip_53 : decode cX5_mayNotUnclip 53 = .ok (.aload_n 0, 1) := dk_42 (dk_at dksX5_mayNotUnclip_2 5 rfl rfl)
theorem dX5_mayNotUnclip_54 : decode cX5_mayNotUnclip 54 = .ok (.bipush 11, 2) := dk_16 11 (dk_at dksX5_mayNotUnclip_2 6 rfl rfl)
theorem dX5_mayNotUnclip_56 : decode cX5_mayNotUnclip 56 = .ok (.iload_n 1, 1) := dk_27 (dk_at dksX5_mayNotUnclip_2 8 rfl rfl)
theorem dX5_mayNotUnclip_57 : decode cX5_mayNotUnclip 57 = .ok (.invokevirtual 129, 3) := dk_182 0 129 (dk_at dksX5_mayNotUnclip_2 9 rfl rfl)
theorem dX5_mayNotUnclip_60 : decode cX5_mayNotUnclip 60 = .ok (.ifCond .eq 7, 3) := dk_153 0 7 (dk_at dksX5_mayNotUnclip_2 12 rfl rfl)
theorem dX5_mayNotUnclip_63 : decode cX5_mayNotUnclip 63 = .ok (.iconst 1, 1) := dk_4 (dk_at dksX5_mayNotUnclip_2 15 rfl rfl)
theorem dX5_mayNotUnclip_64 : decode cX5_mayNotUnclip 64 = .ok (.goto 4, 3) := dk_167 0 4 (dk_at dksX5_mayNotUnclip_2 16 rfl rfl)
theorem dX5_mayNotUnclip_67 : decode cX5_mayNotUnclip 67 = .ok (.iconst 0, 1) := dk_3 (dk_at dksX5_mayNotUnclip_2 19 rfl rfl)
theorem dX5_mayNotUnclip_68 : decode cX5_mayNotUnclip 68 = .ok (.ireturn, 1) := dk_172 (dk_at dksX5_mayNotUnclip_2 20 rfl rfl)
abbrev cX5_unclips : ByteArray := prog_25_method_46_code
def yX5_unclips : MethodName := ⟨RX5, "unclips", "()V"⟩
def dkwX5_unclips_2 : List UInt8 := [79, 132, 1, 1, 167, 255, 219, 177]
abbrev dktX5_unclips_2 : List UInt8 := dkwX5_unclips_2 ++ []
def dkwX5_unclips_1 : List UInt8 := [162, 0, 31, 42, 180, 0, 7, 17, 0, 132, 27, 96, 42, 180, 0, 7, 17, 0, 132, 27, 96, 4, 96, 46]
abbrev dktX5_unclips_1 : List UInt8 := dkwX5_unclips_1 ++ dktX5_unclips_2
def dkwX5_unclips_0 : List UInt8 := [42, 180, 0, 7, 17, 0, 131, 92, 46, 4, 100, 79, 3, 60, 27, 42, 180, 0, 7, 17, 0, 131, 46]
abbrev dktX5_unclips_0 : List UInt8 := dkwX5_unclips_0 ++ dktX5_unclips_1
theorem dksX5_unclips_0 : cX5_unclips.data.toList.drop 0 = dktX5_unclips_0 := by decide +kernel
theorem dksX5_unclips_1 : cX5_unclips.data.toList.drop 23 = dktX5_unclips_1 := dk_seg dksX5_unclips_0 23 rfl rfl
theorem dksX5_unclips_2 : cX5_unclips.data.toList.drop 47 = dktX5_unclips_2 := dk_seg dksX5_unclips_1 24 rfl rfl
theorem dX5_unclips_0 : decode cX5_unclips 0 = .ok (.aload_n 0, 1) := dk_42 (dk_at dksX5_unclips_0 0 rfl rfl)
theorem dX5_unclips_1 : decode cX5_unclips 1 = .ok (.getfield 7, 3) := dk_180 0 7 (dk_at dksX5_unclips_0 1 rfl rfl)
theorem dX5_unclips_4 : decode cX5_unclips 4 = .ok (.sipush 131, 3) := dk_17 0 131 (dk_at dksX5_unclips_0 4 rfl rfl)
theorem dX5_unclips_7 : decode cX5_unclips 7 = .ok (.dup2, 1) := dk_92 (dk_at dksX5_unclips_0 7 rfl rfl)
theorem dX5_unclips_8 : decode cX5_unclips 8 = .ok (.iaload, 1) := dk_46 (dk_at dksX5_unclips_0 8 rfl rfl)
theorem dX5_unclips_9 : decode cX5_unclips 9 = .ok (.iconst 1, 1) := dk_4 (dk_at dksX5_unclips_0 9 rfl rfl)
theorem dX5_unclips_10 : decode cX5_unclips 10 = .ok (.isub, 1) := dk_100 (dk_at dksX5_unclips_0 10 rfl rfl)
theorem dX5_unclips_11 : decode cX5_unclips 11 = .ok (.iastore, 1) := dk_79 (dk_at dksX5_unclips_0 11 rfl rfl)
theorem dX5_unclips_12 : decode cX5_unclips 12 = .ok (.iconst 0, 1) := dk_3 (dk_at dksX5_unclips_0 12 rfl rfl)
theorem dX5_unclips_13 : decode cX5_unclips 13 = .ok (.istore_n 1, 1) := dk_60 (dk_at dksX5_unclips_0 13 rfl rfl)
theorem dX5_unclips_14 : decode cX5_unclips 14 = .ok (.iload_n 1, 1) := dk_27 (dk_at dksX5_unclips_0 14 rfl rfl)
theorem dX5_unclips_15 : decode cX5_unclips 15 = .ok (.aload_n 0, 1) := dk_42 (dk_at dksX5_unclips_0 15 rfl rfl)
theorem dX5_unclips_16 : decode cX5_unclips 16 = .ok (.getfield 7, 3) := dk_180 0 7 (dk_at dksX5_unclips_0 16 rfl rfl)
theorem dX5_unclips_19 : decode cX5_unclips 19 = .ok (.sipush 131, 3) := dk_17 0 131 (dk_at dksX5_unclips_0 19 rfl rfl)
theorem dX5_unclips_22 : decode cX5_unclips 22 = .ok (.iaload, 1) := dk_46 (dk_at dksX5_unclips_0 22 rfl rfl)
theorem dX5_unclips_23 : decode cX5_unclips 23 = .ok (.if_icmp .ge 31, 3) := dk_162 0 31 (dk_at dksX5_unclips_1 0 rfl rfl)
theorem dX5_unclips_26 : decode cX5_unclips 26 = .ok (.aload_n 0, 1) := dk_42 (dk_at dksX5_unclips_1 3 rfl rfl)
theorem dX5_unclips_27 : decode cX5_unclips 27 = .ok (.getfield 7, 3) := dk_180 0 7 (dk_at dksX5_unclips_1 4 rfl rfl)
theorem dX5_unclips_30 : decode cX5_unclips 30 = .ok (.sipush 132, 3) := dk_17 0 132 (dk_at dksX5_unclips_1 7 rfl rfl)
theorem dX5_unclips_33 : decode cX5_unclips 33 = .ok (.iload_n 1, 1) := dk_27 (dk_at dksX5_unclips_1 10 rfl rfl)
theorem dX5_unclips_34 : decode cX5_unclips 34 = .ok (.iadd, 1) := dk_96 (dk_at dksX5_unclips_1 11 rfl rfl)
theorem dX5_unclips_35 : decode cX5_unclips 35 = .ok (.aload_n 0, 1) := dk_42 (dk_at dksX5_unclips_1 12 rfl rfl)
theorem dX5_unclips_36 : decode cX5_unclips 36 = .ok (.getfield 7, 3) := dk_180 0 7 (dk_at dksX5_unclips_1 13 rfl rfl)
theorem dX5_unclips_39 : decode cX5_unclips 39 = .ok (.sipush 132, 3) := dk_17 0 132 (dk_at dksX5_unclips_1 16 rfl rfl)
theorem dX5_unclips_42 : decode cX5_unclips 42 = .ok (.iload_n 1, 1) := dk_27 (dk_at dksX5_unclips_1 19 rfl rfl)
theorem dX5_unclips_43 : decode cX5_unclips 43 = .ok (.iadd, 1) := dk_96 (dk_at dksX5_unclips_1 20 rfl rfl)
theorem dX5_unclips_44 : decode cX5_unclips 44 = .ok (.iconst 1, 1) := dk_4 (dk_at dksX5_unclips_1 21 rfl rfl)
theorem dX5_unclips_45 : decode cX5_unclips 45 = .ok (.iadd, 1) := dk_96 (dk_at dksX5_unclips_1 22 rfl rfl)
theorem dX5_unclips_46 : decode cX5_unclips 46 = .ok (.iaload, 1) := dk_46 (dk_at dksX5_unclips_1 23 rfl rfl)
theorem dX5_unclips_47 : decode cX5_unclips 47 = .ok (.iastore, 1) := dk_79 (dk_at dksX5_unclips_2 0 rfl rfl)
theorem dX5_unclips_48 : decode cX5_unclips 48 = .ok (.iinc 1 1, 3) := dk_132 1 1 (dk_at dksX5_unclips_2 1 rfl rfl)
theorem dX5_unclips_51 : decode cX5_unclips 51 = .ok (.goto (-37), 3) := dk_167 255 219 (dk_at dksX5_unclips_2 4 rfl rfl)
theorem dX5_unclips_54 : decode cX5_unclips 54 = .ok (.return_, 1) := dk_177 (dk_at dksX5_unclips_2 7 rfl rfl)
abbrev cX5_anchors : ByteArray := prog_25_method_48_code
def yX5_anchors : MethodName := ⟨RX5, "anchors", "()I"⟩
def dkwX5_anchors_0 : List UInt8 := [42, 3, 181, 0, 65, 42, 180, 0, 7, 17, 0, 131, 46, 172]
abbrev dktX5_anchors_0 : List UInt8 := dkwX5_anchors_0 ++ []
theorem dksX5_anchors_0 : cX5_anchors.data.toList.drop 0 = dktX5_anchors_0 := by decide +kernel
theorem dX5_anchors_0 : decode cX5_anchors 0 = .ok (.aload_n 0, 1) := dk_42 (dk_at dksX5_anchors_0 0 rfl rfl)
theorem dX5_anchors_1 : decode cX5_anchors 1 = .ok (.iconst 0, 1) := dk_3 (dk_at dksX5_anchors_0 1 rfl rfl)
theorem dX5_anchors_2 : decode cX5_anchors 2 = .ok (.putfield 65, 3) := dk_181 0 65 (dk_at dksX5_anchors_0 2 rfl rfl)
theorem dX5_anchors_5 : decode cX5_anchors 5 = .ok (.aload_n 0, 1) := dk_42 (dk_at dksX5_anchors_0 5 rfl rfl)
theorem dX5_anchors_6 : decode cX5_anchors 6 = .ok (.getfield 7, 3) := dk_180 0 7 (dk_at dksX5_anchors_0 6 rfl rfl)
theorem dX5_anchors_9 : decode cX5_anchors 9 = .ok (.sipush 131, 3) := dk_17 0 131 (dk_at dksX5_anchors_0 9 rfl rfl)
theorem dX5_anchors_12 : decode cX5_anchors 12 = .ok (.iaload, 1) := dk_46 (dk_at dksX5_anchors_0 12 rfl rfl)
theorem dX5_anchors_13 : decode cX5_anchors 13 = .ok (.ireturn, 1) := dk_172 (dk_at dksX5_anchors_0 13 rfl rfl)
abbrev cX5_anchor : ByteArray := prog_25_method_49_code
def yX5_anchor : MethodName := ⟨RX5, "anchor", "(I)I"⟩
def dkwX5_anchor_1 : List UInt8 := [42, 3, 181, 0, 65, 42, 180, 0, 7, 17, 0, 132, 27, 96, 46, 172]
abbrev dktX5_anchor_1 : List UInt8 := dkwX5_anchor_1 ++ []
def dkwX5_anchor_0 : List UInt8 := [27, 3, 42, 180, 0, 7, 17, 0, 131, 46, 4, 100, 184, 0, 97, 154, 0, 9, 42, 4, 182, 0, 80, 172]
abbrev dktX5_anchor_0 : List UInt8 := dkwX5_anchor_0 ++ dktX5_anchor_1
theorem dksX5_anchor_0 : cX5_anchor.data.toList.drop 0 = dktX5_anchor_0 := by decide +kernel
theorem dksX5_anchor_1 : cX5_anchor.data.toList.drop 24 = dktX5_anchor_1 := dk_seg dksX5_anchor_0 24 rfl rfl
theorem dX5_anchor_0 : decode cX5_anchor 0 = .ok (.iload_n 1, 1) := dk_27 (dk_at dksX5_anchor_0 0 rfl rfl)
theorem dX5_anchor_1 : decode cX5_anchor 1 = .ok (.iconst 0, 1) := dk_3 (dk_at dksX5_anchor_0 1 rfl rfl)
theorem dX5_anchor_2 : decode cX5_anchor 2 = .ok (.aload_n 0, 1) := dk_42 (dk_at dksX5_anchor_0 2 rfl rfl)
theorem dX5_anchor_3 : decode cX5_anchor 3 = .ok (.getfield 7, 3) := dk_180 0 7 (dk_at dksX5_anchor_0 3 rfl rfl)
theorem dX5_anchor_6 : decode cX5_anchor 6 = .ok (.sipush 131, 3) := dk_17 0 131 (dk_at dksX5_anchor_0 6 rfl rfl)
theorem dX5_anchor_9 : decode cX5_anchor 9 = .ok (.iaload, 1) := dk_46 (dk_at dksX5_anchor_0 9 rfl rfl)
theorem dX5_anchor_10 : decode cX5_anchor 10 = .ok (.iconst 1, 1) := dk_4 (dk_at dksX5_anchor_0 10 rfl rfl)
theorem dX5_anchor_11 : decode cX5_anchor 11 = .ok (.isub, 1) := dk_100 (dk_at dksX5_anchor_0 11 rfl rfl)
theorem dX5_anchor_12 : decode cX5_anchor 12 = .ok (.invokestatic 97, 3) := dk_184 0 97 (dk_at dksX5_anchor_0 12 rfl rfl)
theorem dX5_anchor_15 : decode cX5_anchor 15 = .ok (.ifCond .ne 9, 3) := dk_154 0 9 (dk_at dksX5_anchor_0 15 rfl rfl)
theorem dX5_anchor_18 : decode cX5_anchor 18 = .ok (.aload_n 0, 1) := dk_42 (dk_at dksX5_anchor_0 18 rfl rfl)
theorem dX5_anchor_19 : decode cX5_anchor 19 = .ok (.iconst 1, 1) := dk_4 (dk_at dksX5_anchor_0 19 rfl rfl)
theorem dX5_anchor_20 : decode cX5_anchor 20 = .ok (.invokevirtual 80, 3) := dk_182 0 80 (dk_at dksX5_anchor_0 20 rfl rfl)
theorem dX5_anchor_23 : decode cX5_anchor 23 = .ok (.ireturn, 1) := dk_172 (dk_at dksX5_anchor_0 23 rfl rfl)
theorem dX5_anchor_24 : decode cX5_anchor 24 = .ok (.aload_n 0, 1) := dk_42 (dk_at dksX5_anchor_1 0 rfl rfl)
theorem dX5_anchor_25 : decode cX5_anchor 25 = .ok (.iconst 0, 1) := dk_3 (dk_at dksX5_anchor_1 1 rfl rfl)
theorem dX5_anchor_26 : decode cX5_anchor 26 = .ok (.putfield 65, 3) := dk_181 0 65 (dk_at dksX5_anchor_1 2 rfl rfl)
theorem dX5_anchor_29 : decode cX5_anchor 29 = .ok (.aload_n 0, 1) := dk_42 (dk_at dksX5_anchor_1 5 rfl rfl)
theorem dX5_anchor_30 : decode cX5_anchor 30 = .ok (.getfield 7, 3) := dk_180 0 7 (dk_at dksX5_anchor_1 6 rfl rfl)
theorem dX5_anchor_33 : decode cX5_anchor 33 = .ok (.sipush 132, 3) := dk_17 0 132 (dk_at dksX5_anchor_1 9 rfl rfl)
theorem dX5_anchor_36 : decode cX5_anchor 36 = .ok (.iload_n 1, 1) := dk_27 (dk_at dksX5_anchor_1 12 rfl rfl)
theorem dX5_anchor_37 : decode cX5_anchor 37 = .ok (.iadd, 1) := dk_96 (dk_at dksX5_anchor_1 13 rfl rfl)
theorem dX5_anchor_38 : decode cX5_anchor 38 = .ok (.iaload, 1) := dk_46 (dk_at dksX5_anchor_1 14 rfl rfl)
theorem dX5_anchor_39 : decode cX5_anchor 39 = .ok (.ireturn, 1) := dk_172 (dk_at dksX5_anchor_1 15 rfl rfl)
abbrev cX5_rope : ByteArray := prog_25_method_50_code
def yX5_rope : MethodName := ⟨RX5, "rope", "()I"⟩
def dkwX5_rope_0 : List UInt8 := [42, 3, 181, 0, 65, 42, 182, 0, 142, 172]
abbrev dktX5_rope_0 : List UInt8 := dkwX5_rope_0 ++ []
theorem dksX5_rope_0 : cX5_rope.data.toList.drop 0 = dktX5_rope_0 := by decide +kernel
theorem dX5_rope_0 : decode cX5_rope 0 = .ok (.aload_n 0, 1) := dk_42 (dk_at dksX5_rope_0 0 rfl rfl)
theorem dX5_rope_1 : decode cX5_rope 1 = .ok (.iconst 0, 1) := dk_3 (dk_at dksX5_rope_0 1 rfl rfl)
theorem dX5_rope_2 : decode cX5_rope 2 = .ok (.putfield 65, 3) := dk_181 0 65 (dk_at dksX5_rope_0 2 rfl rfl)
theorem dX5_rope_5 : decode cX5_rope 5 = .ok (.aload_n 0, 1) := dk_42 (dk_at dksX5_rope_0 5 rfl rfl)
theorem dX5_rope_6 : decode cX5_rope 6 = .ok (.invokevirtual 142, 3) := dk_182 0 142 (dk_at dksX5_rope_0 6 rfl rfl)
theorem dX5_rope_9 : decode cX5_rope 9 = .ok (.ireturn, 1) := dk_172 (dk_at dksX5_rope_0 9 rfl rfl)
abbrev cX5_ropeAgain : ByteArray := prog_25_method_51_code
def yX5_ropeAgain : MethodName := ⟨RX5, "ropeAgain", "()I"⟩
def dkwX5_ropeAgain_0 : List UInt8 := [42, 3, 181, 0, 65, 42, 182, 0, 142, 172]
abbrev dktX5_ropeAgain_0 : List UInt8 := dkwX5_ropeAgain_0 ++ []
theorem dksX5_ropeAgain_0 : cX5_ropeAgain.data.toList.drop 0 = dktX5_ropeAgain_0 := by decide +kernel
theorem dX5_ropeAgain_0 : decode cX5_ropeAgain 0 = .ok (.aload_n 0, 1) := dk_42 (dk_at dksX5_ropeAgain_0 0 rfl rfl)
theorem dX5_ropeAgain_1 : decode cX5_ropeAgain 1 = .ok (.iconst 0, 1) := dk_3 (dk_at dksX5_ropeAgain_0 1 rfl rfl)
theorem dX5_ropeAgain_2 : decode cX5_ropeAgain 2 = .ok (.putfield 65, 3) := dk_181 0 65 (dk_at dksX5_ropeAgain_0 2 rfl rfl)
theorem dX5_ropeAgain_5 : decode cX5_ropeAgain 5 = .ok (.aload_n 0, 1) := dk_42 (dk_at dksX5_ropeAgain_0 5 rfl rfl)
theorem dX5_ropeAgain_6 : decode cX5_ropeAgain 6 = .ok (.invokevirtual 142, 3) := dk_182 0 142 (dk_at dksX5_ropeAgain_0 6 rfl rfl)
theorem dX5_ropeAgain_9 : decode cX5_ropeAgain 9 = .ok (.ireturn, 1) := dk_172 (dk_at dksX5_ropeAgain_0 9 rfl rfl)
abbrev cX5_climberOf : ByteArray := prog_25_method_52_code
def yX5_climberOf : MethodName := ⟨RX5, "climberOf", "(II)I"⟩
def dkwX5_climberOf_3 : List UInt8 := [3, 172]
abbrev dktX5_climberOf_3 : List UInt8 := dkwX5_climberOf_3 ++ []
def dkwX5_climberOf_2 : List UInt8 := [6, 160, 0, 11, 42, 27, 182, 0, 190, 167, 0, 16, 42, 27, 182, 0, 193, 153, 0, 7, 4, 167, 0, 4]
abbrev dktX5_climberOf_2 : List UInt8 := dkwX5_climberOf_2 ++ dktX5_climberOf_3
def dkwX5_climberOf_1 : List UInt8 := [182, 0, 80, 172, 42, 3, 181, 0, 65, 28, 6, 162, 0, 12, 42, 27, 28, 182, 0, 107, 167, 0, 29, 28]
abbrev dktX5_climberOf_1 : List UInt8 := dkwX5_climberOf_1 ++ dktX5_climberOf_2
def dkwX5_climberOf_0 : List UInt8 := [27, 184, 0, 187, 154, 0, 9, 42, 4, 182, 0, 80, 172, 28, 3, 7, 184, 0, 97, 154, 0, 9, 42, 5]
abbrev dktX5_climberOf_0 : List UInt8 := dkwX5_climberOf_0 ++ dktX5_climberOf_1
theorem dksX5_climberOf_0 : cX5_climberOf.data.toList.drop 0 = dktX5_climberOf_0 := by decide +kernel
theorem dksX5_climberOf_1 : cX5_climberOf.data.toList.drop 24 = dktX5_climberOf_1 := dk_seg dksX5_climberOf_0 24 rfl rfl
theorem dksX5_climberOf_2 : cX5_climberOf.data.toList.drop 48 = dktX5_climberOf_2 := dk_seg dksX5_climberOf_1 24 rfl rfl
theorem dksX5_climberOf_3 : cX5_climberOf.data.toList.drop 72 = dktX5_climberOf_3 := dk_seg dksX5_climberOf_2 24 rfl rfl
theorem dX5_climberOf_0 : decode cX5_climberOf 0 = .ok (.iload_n 1, 1) := dk_27 (dk_at dksX5_climberOf_0 0 rfl rfl)
theorem dX5_climberOf_1 : decode cX5_climberOf 1 = .ok (.invokestatic 187, 3) := dk_184 0 187 (dk_at dksX5_climberOf_0 1 rfl rfl)
theorem dX5_climberOf_4 : decode cX5_climberOf 4 = .ok (.ifCond .ne 9, 3) := dk_154 0 9 (dk_at dksX5_climberOf_0 4 rfl rfl)
theorem dX5_climberOf_7 : decode cX5_climberOf 7 = .ok (.aload_n 0, 1) := dk_42 (dk_at dksX5_climberOf_0 7 rfl rfl)
theorem dX5_climberOf_8 : decode cX5_climberOf 8 = .ok (.iconst 1, 1) := dk_4 (dk_at dksX5_climberOf_0 8 rfl rfl)
theorem dX5_climberOf_9 : decode cX5_climberOf 9 = .ok (.invokevirtual 80, 3) := dk_182 0 80 (dk_at dksX5_climberOf_0 9 rfl rfl)
theorem dX5_climberOf_12 : decode cX5_climberOf 12 = .ok (.ireturn, 1) := dk_172 (dk_at dksX5_climberOf_0 12 rfl rfl)
theorem dX5_climberOf_13 : decode cX5_climberOf 13 = .ok (.iload_n 2, 1) := dk_28 (dk_at dksX5_climberOf_0 13 rfl rfl)
theorem dX5_climberOf_14 : decode cX5_climberOf 14 = .ok (.iconst 0, 1) := dk_3 (dk_at dksX5_climberOf_0 14 rfl rfl)
theorem dX5_climberOf_15 : decode cX5_climberOf 15 = .ok (.iconst 4, 1) := dk_7 (dk_at dksX5_climberOf_0 15 rfl rfl)
theorem dX5_climberOf_16 : decode cX5_climberOf 16 = .ok (.invokestatic 97, 3) := dk_184 0 97 (dk_at dksX5_climberOf_0 16 rfl rfl)
theorem dX5_climberOf_19 : decode cX5_climberOf 19 = .ok (.ifCond .ne 9, 3) := dk_154 0 9 (dk_at dksX5_climberOf_0 19 rfl rfl)
theorem dX5_climberOf_22 : decode cX5_climberOf 22 = .ok (.aload_n 0, 1) := dk_42 (dk_at dksX5_climberOf_0 22 rfl rfl)
theorem dX5_climberOf_23 : decode cX5_climberOf 23 = .ok (.iconst 2, 1) := dk_5 (dk_at dksX5_climberOf_0 23 rfl rfl)
theorem dX5_climberOf_24 : decode cX5_climberOf 24 = .ok (.invokevirtual 80, 3) := dk_182 0 80 (dk_at dksX5_climberOf_1 0 rfl rfl)
theorem dX5_climberOf_27 : decode cX5_climberOf 27 = .ok (.ireturn, 1) := dk_172 (dk_at dksX5_climberOf_1 3 rfl rfl)
theorem dX5_climberOf_28 : decode cX5_climberOf 28 = .ok (.aload_n 0, 1) := dk_42 (dk_at dksX5_climberOf_1 4 rfl rfl)
theorem dX5_climberOf_29 : decode cX5_climberOf 29 = .ok (.iconst 0, 1) := dk_3 (dk_at dksX5_climberOf_1 5 rfl rfl)
theorem dX5_climberOf_30 : decode cX5_climberOf 30 = .ok (.putfield 65, 3) := dk_181 0 65 (dk_at dksX5_climberOf_1 6 rfl rfl)
theorem dX5_climberOf_33 : decode cX5_climberOf 33 = .ok (.iload_n 2, 1) := dk_28 (dk_at dksX5_climberOf_1 9 rfl rfl)
theorem dX5_climberOf_34 : decode cX5_climberOf 34 = .ok (.iconst 3, 1) := dk_6 (dk_at dksX5_climberOf_1 10 rfl rfl)
theorem dX5_climberOf_35 : decode cX5_climberOf 35 = .ok (.if_icmp .ge 12, 3) := dk_162 0 12 (dk_at dksX5_climberOf_1 11 rfl rfl)
theorem dX5_climberOf_38 : decode cX5_climberOf 38 = .ok (.aload_n 0, 1) := dk_42 (dk_at dksX5_climberOf_1 14 rfl rfl)
theorem dX5_climberOf_39 : decode cX5_climberOf 39 = .ok (.iload_n 1, 1) := dk_27 (dk_at dksX5_climberOf_1 15 rfl rfl)
theorem dX5_climberOf_40 : decode cX5_climberOf 40 = .ok (.iload_n 2, 1) := dk_28 (dk_at dksX5_climberOf_1 16 rfl rfl)
theorem dX5_climberOf_41 : decode cX5_climberOf 41 = .ok (.invokevirtual 107, 3) := dk_182 0 107 (dk_at dksX5_climberOf_1 17 rfl rfl)
theorem dX5_climberOf_44 : decode cX5_climberOf 44 = .ok (.goto 29, 3) := dk_167 0 29 (dk_at dksX5_climberOf_1 20 rfl rfl)
theorem dX5_climberOf_47 : decode cX5_climberOf 47 = .ok (.iload_n 2, 1) := dk_28 (dk_at dksX5_climberOf_1 23 rfl rfl)
theorem dX5_climberOf_48 : decode cX5_climberOf 48 = .ok (.iconst 3, 1) := dk_6 (dk_at dksX5_climberOf_2 0 rfl rfl)
theorem dX5_climberOf_49 : decode cX5_climberOf 49 = .ok (.if_icmp .ne 11, 3) := dk_160 0 11 (dk_at dksX5_climberOf_2 1 rfl rfl)
theorem dX5_climberOf_52 : decode cX5_climberOf 52 = .ok (.aload_n 0, 1) := dk_42 (dk_at dksX5_climberOf_2 4 rfl rfl)
theorem dX5_climberOf_53 : decode cX5_climberOf 53 = .ok (.iload_n 1, 1) := dk_27 (dk_at dksX5_climberOf_2 5 rfl rfl)
theorem dX5_climberOf_54 : decode cX5_climberOf 54 = .ok (.invokevirtual 190, 3) := dk_182 0 190 (dk_at dksX5_climberOf_2 6 rfl rfl)
theorem dX5_climberOf_57 : decode cX5_climberOf 57 = .ok (.goto 16, 3) := dk_167 0 16 (dk_at dksX5_climberOf_2 9 rfl rfl)
theorem dX5_climberOf_60 : decode cX5_climberOf 60 = .ok (.aload_n 0, 1) := dk_42 (dk_at dksX5_climberOf_2 12 rfl rfl)
theorem dX5_climberOf_61 : decode cX5_climberOf 61 = .ok (.iload_n 1, 1) := dk_27 (dk_at dksX5_climberOf_2 13 rfl rfl)
theorem dX5_climberOf_62 : decode cX5_climberOf 62 = .ok (.invokevirtual 193, 3) := dk_182 0 193 (dk_at dksX5_climberOf_2 14 rfl rfl)
theorem dX5_climberOf_65 : decode cX5_climberOf 65 = .ok (.ifCond .eq 7, 3) := dk_153 0 7 (dk_at dksX5_climberOf_2 17 rfl rfl)
theorem dX5_climberOf_68 : decode cX5_climberOf 68 = .ok (.iconst 1, 1) := dk_4 (dk_at dksX5_climberOf_2 20 rfl rfl)
theorem dX5_climberOf_69 : decode cX5_climberOf 69 = .ok (.goto 4, 3) := dk_167 0 4 (dk_at dksX5_climberOf_2 21 rfl rfl)
theorem dX5_climberOf_72 : decode cX5_climberOf 72 = .ok (.iconst 0, 1) := dk_3 (dk_at dksX5_climberOf_3 0 rfl rfl)
theorem dX5_climberOf_73 : decode cX5_climberOf 73 = .ok (.ireturn, 1) := dk_172 (dk_at dksX5_climberOf_3 1 rfl rfl)
abbrev cX5_isClimber : ByteArray := prog_25_method_20_code
def yX5_isClimber : MethodName := ⟨RX5, "isClimber", "(I)Z"⟩
def dkwX5_isClimber_0 : List UInt8 := [26, 153, 0, 8, 26, 4, 160, 0, 7, 4, 167, 0, 4, 3, 172]
abbrev dktX5_isClimber_0 : List UInt8 := dkwX5_isClimber_0 ++ []
theorem dksX5_isClimber_0 : cX5_isClimber.data.toList.drop 0 = dktX5_isClimber_0 := by decide +kernel
theorem dX5_isClimber_0 : decode cX5_isClimber 0 = .ok (.iload_n 0, 1) := dk_26 (dk_at dksX5_isClimber_0 0 rfl rfl)
theorem dX5_isClimber_1 : decode cX5_isClimber 1 = .ok (.ifCond .eq 8, 3) := dk_153 0 8 (dk_at dksX5_isClimber_0 1 rfl rfl)
theorem dX5_isClimber_4 : decode cX5_isClimber 4 = .ok (.iload_n 0, 1) := dk_26 (dk_at dksX5_isClimber_0 4 rfl rfl)
theorem dX5_isClimber_5 : decode cX5_isClimber 5 = .ok (.iconst 1, 1) := dk_4 (dk_at dksX5_isClimber_0 5 rfl rfl)
theorem dX5_isClimber_6 : decode cX5_isClimber 6 = .ok (.if_icmp .ne 7, 3) := dk_160 0 7 (dk_at dksX5_isClimber_0 6 rfl rfl)
theorem dX5_isClimber_9 : decode cX5_isClimber 9 = .ok (.iconst 1, 1) := dk_4 (dk_at dksX5_isClimber_0 9 rfl rfl)
theorem dX5_isClimber_10 : decode cX5_isClimber 10 = .ok (.goto 4, 3) := dk_167 0 4 (dk_at dksX5_isClimber_0 10 rfl rfl)
theorem dX5_isClimber_13 : decode cX5_isClimber 13 = .ok (.iconst 0, 1) := dk_3 (dk_at dksX5_isClimber_0 13 rfl rfl)
theorem dX5_isClimber_14 : decode cX5_isClimber 14 = .ok (.ireturn, 1) := dk_172 (dk_at dksX5_isClimber_0 14 rfl rfl)
abbrev cX5_carried : ByteArray := prog_25_method_26_code
def yX5_carried : MethodName := ⟨RX5, "carried", "(I)I"⟩
def dkwX5_carried_1 : List UInt8 := [160, 0, 9, 4, 29, 120, 167, 0, 4, 3, 128, 61, 132, 3, 1, 167, 255, 222, 28, 172]
abbrev dktX5_carried_1 : List UInt8 := dkwX5_carried_1 ++ []
def dkwX5_carried_0 : List UInt8 := [3, 61, 3, 62, 29, 42, 180, 0, 7, 16, 104, 46, 162, 0, 29, 28, 42, 29, 4, 182, 0, 110, 27]
abbrev dktX5_carried_0 : List UInt8 := dkwX5_carried_0 ++ dktX5_carried_1
theorem dksX5_carried_0 : cX5_carried.data.toList.drop 0 = dktX5_carried_0 := by decide +kernel
theorem dksX5_carried_1 : cX5_carried.data.toList.drop 23 = dktX5_carried_1 := dk_seg dksX5_carried_0 23 rfl rfl
theorem dX5_carried_0 : decode cX5_carried 0 = .ok (.iconst 0, 1) := dk_3 (dk_at dksX5_carried_0 0 rfl rfl)
theorem dX5_carried_1 : decode cX5_carried 1 = .ok (.istore_n 2, 1) := dk_61 (dk_at dksX5_carried_0 1 rfl rfl)
theorem dX5_carried_2 : decode cX5_carried 2 = .ok (.iconst 0, 1) := dk_3 (dk_at dksX5_carried_0 2 rfl rfl)
theorem dX5_carried_3 : decode cX5_carried 3 = .ok (.istore_n 3, 1) := dk_62 (dk_at dksX5_carried_0 3 rfl rfl)
theorem dX5_carried_4 : decode cX5_carried 4 = .ok (.iload_n 3, 1) := dk_29 (dk_at dksX5_carried_0 4 rfl rfl)
theorem dX5_carried_5 : decode cX5_carried 5 = .ok (.aload_n 0, 1) := dk_42 (dk_at dksX5_carried_0 5 rfl rfl)
theorem dX5_carried_6 : decode cX5_carried 6 = .ok (.getfield 7, 3) := dk_180 0 7 (dk_at dksX5_carried_0 6 rfl rfl)
theorem dX5_carried_9 : decode cX5_carried 9 = .ok (.bipush 104, 2) := dk_16 104 (dk_at dksX5_carried_0 9 rfl rfl)
theorem dX5_carried_11 : decode cX5_carried 11 = .ok (.iaload, 1) := dk_46 (dk_at dksX5_carried_0 11 rfl rfl)
theorem dX5_carried_12 : decode cX5_carried 12 = .ok (.if_icmp .ge 29, 3) := dk_162 0 29 (dk_at dksX5_carried_0 12 rfl rfl)
theorem dX5_carried_15 : decode cX5_carried 15 = .ok (.iload_n 2, 1) := dk_28 (dk_at dksX5_carried_0 15 rfl rfl)
theorem dX5_carried_16 : decode cX5_carried 16 = .ok (.aload_n 0, 1) := dk_42 (dk_at dksX5_carried_0 16 rfl rfl)
theorem dX5_carried_17 : decode cX5_carried 17 = .ok (.iload_n 3, 1) := dk_29 (dk_at dksX5_carried_0 17 rfl rfl)
theorem dX5_carried_18 : decode cX5_carried 18 = .ok (.iconst 1, 1) := dk_4 (dk_at dksX5_carried_0 18 rfl rfl)
theorem dX5_carried_19 : decode cX5_carried 19 = .ok (.invokevirtual 110, 3) := dk_182 0 110 (dk_at dksX5_carried_0 19 rfl rfl)
theorem dX5_carried_22 : decode cX5_carried 22 = .ok (.iload_n 1, 1) := dk_27 (dk_at dksX5_carried_0 22 rfl rfl)
theorem dX5_carried_23 : decode cX5_carried 23 = .ok (.if_icmp .ne 9, 3) := dk_160 0 9 (dk_at dksX5_carried_1 0 rfl rfl)
theorem dX5_carried_26 : decode cX5_carried 26 = .ok (.iconst 1, 1) := dk_4 (dk_at dksX5_carried_1 3 rfl rfl)
theorem dX5_carried_27 : decode cX5_carried 27 = .ok (.iload_n 3, 1) := dk_29 (dk_at dksX5_carried_1 4 rfl rfl)
theorem dX5_carried_28 : decode cX5_carried 28 = .ok (.ishl, 1) := dk_120 (dk_at dksX5_carried_1 5 rfl rfl)
theorem dX5_carried_29 : decode cX5_carried 29 = .ok (.goto 4, 3) := dk_167 0 4 (dk_at dksX5_carried_1 6 rfl rfl)
theorem dX5_carried_32 : decode cX5_carried 32 = .ok (.iconst 0, 1) := dk_3 (dk_at dksX5_carried_1 9 rfl rfl)
theorem dX5_carried_33 : decode cX5_carried 33 = .ok (.ior, 1) := dk_128 (dk_at dksX5_carried_1 10 rfl rfl)
theorem dX5_carried_34 : decode cX5_carried 34 = .ok (.istore_n 2, 1) := dk_61 (dk_at dksX5_carried_1 11 rfl rfl)
theorem dX5_carried_35 : decode cX5_carried 35 = .ok (.iinc 3 1, 3) := dk_132 3 1 (dk_at dksX5_carried_1 12 rfl rfl)
theorem dX5_carried_38 : decode cX5_carried 38 = .ok (.goto (-34), 3) := dk_167 255 222 (dk_at dksX5_carried_1 15 rfl rfl)
theorem dX5_carried_41 : decode cX5_carried 41 = .ok (.iload_n 2, 1) := dk_28 (dk_at dksX5_carried_1 18 rfl rfl)
theorem dX5_carried_42 : decode cX5_carried 42 = .ok (.ireturn, 1) := dk_172 (dk_at dksX5_carried_1 19 rfl rfl)
abbrev cX5_isSecure : ByteArray := prog_25_method_28_code
def yX5_isSecure : MethodName := ⟨RX5, "isSecure", "(I)Z"⟩
def dkwX5_isSecure_1 : List UInt8 := [182, 0, 122, 154, 0, 7, 4, 167, 0, 4, 3, 172]
abbrev dktX5_isSecure_1 : List UInt8 := dkwX5_isSecure_1 ++ []
def dkwX5_isSecure_0 : List UInt8 := [42, 27, 4, 182, 0, 107, 154, 0, 28, 42, 27, 182, 0, 113, 2, 159, 0, 15, 42, 42, 27, 182, 0, 113]
abbrev dktX5_isSecure_0 : List UInt8 := dkwX5_isSecure_0 ++ dktX5_isSecure_1
theorem dksX5_isSecure_0 : cX5_isSecure.data.toList.drop 0 = dktX5_isSecure_0 := by decide +kernel
theorem dksX5_isSecure_1 : cX5_isSecure.data.toList.drop 24 = dktX5_isSecure_1 := dk_seg dksX5_isSecure_0 24 rfl rfl
theorem dX5_isSecure_0 : decode cX5_isSecure 0 = .ok (.aload_n 0, 1) := dk_42 (dk_at dksX5_isSecure_0 0 rfl rfl)
theorem dX5_isSecure_1 : decode cX5_isSecure 1 = .ok (.iload_n 1, 1) := dk_27 (dk_at dksX5_isSecure_0 1 rfl rfl)
theorem dX5_isSecure_2 : decode cX5_isSecure 2 = .ok (.iconst 1, 1) := dk_4 (dk_at dksX5_isSecure_0 2 rfl rfl)
theorem dX5_isSecure_3 : decode cX5_isSecure 3 = .ok (.invokevirtual 107, 3) := dk_182 0 107 (dk_at dksX5_isSecure_0 3 rfl rfl)
theorem dX5_isSecure_6 : decode cX5_isSecure 6 = .ok (.ifCond .ne 28, 3) := dk_154 0 28 (dk_at dksX5_isSecure_0 6 rfl rfl)
theorem dX5_isSecure_9 : decode cX5_isSecure 9 = .ok (.aload_n 0, 1) := dk_42 (dk_at dksX5_isSecure_0 9 rfl rfl)
theorem dX5_isSecure_10 : decode cX5_isSecure 10 = .ok (.iload_n 1, 1) := dk_27 (dk_at dksX5_isSecure_0 10 rfl rfl)
theorem dX5_isSecure_11 : decode cX5_isSecure 11 = .ok (.invokevirtual 113, 3) := dk_182 0 113 (dk_at dksX5_isSecure_0 11 rfl rfl)
theorem dX5_isSecure_14 : decode cX5_isSecure 14 = .ok (.iconst (-1), 1) := dk_2 (dk_at dksX5_isSecure_0 14 rfl rfl)
theorem dX5_isSecure_15 : decode cX5_isSecure 15 = .ok (.if_icmp .eq 15, 3) := dk_159 0 15 (dk_at dksX5_isSecure_0 15 rfl rfl)
theorem dX5_isSecure_18 : decode cX5_isSecure 18 = .ok (.aload_n 0, 1) := dk_42 (dk_at dksX5_isSecure_0 18 rfl rfl)
theorem dX5_isSecure_19 : decode cX5_isSecure 19 = .ok (.aload_n 0, 1) := dk_42 (dk_at dksX5_isSecure_0 19 rfl rfl)
theorem dX5_isSecure_20 : decode cX5_isSecure 20 = .ok (.iload_n 1, 1) := dk_27 (dk_at dksX5_isSecure_0 20 rfl rfl)
theorem dX5_isSecure_21 : decode cX5_isSecure 21 = .ok (.invokevirtual 113, 3) := dk_182 0 113 (dk_at dksX5_isSecure_0 21 rfl rfl)
theorem dX5_isSecure_24 : decode cX5_isSecure 24 = .ok (.invokevirtual 122, 3) := dk_182 0 122 (dk_at dksX5_isSecure_1 0 rfl rfl)
theorem dX5_isSecure_27 : decode cX5_isSecure 27 = .ok (.ifCond .ne 7, 3) := dk_154 0 7 (dk_at dksX5_isSecure_1 3 rfl rfl)
theorem dX5_isSecure_30 : decode cX5_isSecure 30 = .ok (.iconst 1, 1) := dk_4 (dk_at dksX5_isSecure_1 6 rfl rfl)
theorem dX5_isSecure_31 : decode cX5_isSecure 31 = .ok (.goto 4, 3) := dk_167 0 4 (dk_at dksX5_isSecure_1 7 rfl rfl)
theorem dX5_isSecure_34 : decode cX5_isSecure 34 = .ok (.iconst 0, 1) := dk_3 (dk_at dksX5_isSecure_1 10 rfl rfl)
theorem dX5_isSecure_35 : decode cX5_isSecure 35 = .ok (.ireturn, 1) := dk_172 (dk_at dksX5_isSecure_1 11 rfl rfl)
abbrev cX5_move : ByteArray := prog_25_method_65_code
def yX5_move : MethodName := ⟨RX5, "move", "(II)I"⟩
def dkwX5_move_2 : List UInt8 := [182, 0, 139, 42, 27, 28, 182, 0, 252, 42, 27, 4, 182, 0, 107, 172]
abbrev dktX5_move_2 : List UInt8 := dkwX5_move_2 ++ []
def dkwX5_move_1 : List UInt8 := [182, 0, 249, 153, 0, 9, 42, 5, 182, 0, 133, 172, 42, 3, 181, 0, 65, 42, 182, 0, 136, 42]
abbrev dktX5_move_1 : List UInt8 := dkwX5_move_1 ++ dktX5_move_2
def dkwX5_move_0 : List UInt8 := [27, 184, 0, 187, 153, 0, 11, 42, 28, 182, 0, 161, 154, 0, 9, 42, 4, 182, 0, 80, 172, 42, 27, 28]
abbrev dktX5_move_0 : List UInt8 := dkwX5_move_0 ++ dktX5_move_1
theorem dksX5_move_0 : cX5_move.data.toList.drop 0 = dktX5_move_0 := by decide +kernel
theorem dksX5_move_1 : cX5_move.data.toList.drop 24 = dktX5_move_1 := dk_seg dksX5_move_0 24 rfl rfl
theorem dksX5_move_2 : cX5_move.data.toList.drop 46 = dktX5_move_2 := dk_seg dksX5_move_1 22 rfl rfl
theorem dX5_move_0 : decode cX5_move 0 = .ok (.iload_n 1, 1) := dk_27 (dk_at dksX5_move_0 0 rfl rfl)
theorem dX5_move_1 : decode cX5_move 1 = .ok (.invokestatic 187, 3) := dk_184 0 187 (dk_at dksX5_move_0 1 rfl rfl)
theorem dX5_move_4 : decode cX5_move 4 = .ok (.ifCond .eq 11, 3) := dk_153 0 11 (dk_at dksX5_move_0 4 rfl rfl)
theorem dX5_move_7 : decode cX5_move 7 = .ok (.aload_n 0, 1) := dk_42 (dk_at dksX5_move_0 7 rfl rfl)
theorem dX5_move_8 : decode cX5_move 8 = .ok (.iload_n 2, 1) := dk_28 (dk_at dksX5_move_0 8 rfl rfl)
theorem dX5_move_9 : decode cX5_move 9 = .ok (.invokevirtual 161, 3) := dk_182 0 161 (dk_at dksX5_move_0 9 rfl rfl)
theorem dX5_move_12 : decode cX5_move 12 = .ok (.ifCond .ne 9, 3) := dk_154 0 9 (dk_at dksX5_move_0 12 rfl rfl)
theorem dX5_move_15 : decode cX5_move 15 = .ok (.aload_n 0, 1) := dk_42 (dk_at dksX5_move_0 15 rfl rfl)
theorem dX5_move_16 : decode cX5_move 16 = .ok (.iconst 1, 1) := dk_4 (dk_at dksX5_move_0 16 rfl rfl)
theorem dX5_move_17 : decode cX5_move 17 = .ok (.invokevirtual 80, 3) := dk_182 0 80 (dk_at dksX5_move_0 17 rfl rfl)
theorem dX5_move_20 : decode cX5_move 20 = .ok (.ireturn, 1) := dk_172 (dk_at dksX5_move_0 20 rfl rfl)
theorem dX5_move_21 : decode cX5_move 21 = .ok (.aload_n 0, 1) := dk_42 (dk_at dksX5_move_0 21 rfl rfl)
theorem dX5_move_22 : decode cX5_move 22 = .ok (.iload_n 1, 1) := dk_27 (dk_at dksX5_move_0 22 rfl rfl)
theorem dX5_move_23 : decode cX5_move 23 = .ok (.iload_n 2, 1) := dk_28 (dk_at dksX5_move_0 23 rfl rfl)
theorem dX5_move_24 : decode cX5_move 24 = .ok (.invokevirtual 249, 3) := dk_182 0 249 (dk_at dksX5_move_1 0 rfl rfl)
theorem dX5_move_27 : decode cX5_move 27 = .ok (.ifCond .eq 9, 3) := dk_153 0 9 (dk_at dksX5_move_1 3 rfl rfl)
theorem dX5_move_30 : decode cX5_move 30 = .ok (.aload_n 0, 1) := dk_42 (dk_at dksX5_move_1 6 rfl rfl)
theorem dX5_move_31 : decode cX5_move 31 = .ok (.iconst 2, 1) := dk_5 (dk_at dksX5_move_1 7 rfl rfl)
theorem dX5_move_32 : decode cX5_move 32 = .ok (.invokevirtual 133, 3) := dk_182 0 133 (dk_at dksX5_move_1 8 rfl rfl)
theorem dX5_move_35 : decode cX5_move 35 = .ok (.ireturn, 1) := dk_172 (dk_at dksX5_move_1 11 rfl rfl)
theorem dX5_move_36 : decode cX5_move 36 = .ok (.aload_n 0, 1) := dk_42 (dk_at dksX5_move_1 12 rfl rfl)
theorem dX5_move_37 : decode cX5_move 37 = .ok (.iconst 0, 1) := dk_3 (dk_at dksX5_move_1 13 rfl rfl)
theorem dX5_move_38 : decode cX5_move 38 = .ok (.putfield 65, 3) := dk_181 0 65 (dk_at dksX5_move_1 14 rfl rfl)
theorem dX5_move_41 : decode cX5_move 41 = .ok (.aload_n 0, 1) := dk_42 (dk_at dksX5_move_1 17 rfl rfl)
theorem dX5_move_42 : decode cX5_move 42 = .ok (.invokevirtual 136, 3) := dk_182 0 136 (dk_at dksX5_move_1 18 rfl rfl)
theorem dX5_move_45 : decode cX5_move 45 = .ok (.aload_n 0, 1) := dk_42 (dk_at dksX5_move_1 21 rfl rfl)
theorem dX5_move_46 : decode cX5_move 46 = .ok (.invokevirtual 139, 3) := dk_182 0 139 (dk_at dksX5_move_2 0 rfl rfl)
theorem dX5_move_49 : decode cX5_move 49 = .ok (.aload_n 0, 1) := dk_42 (dk_at dksX5_move_2 3 rfl rfl)
theorem dX5_move_50 : decode cX5_move 50 = .ok (.iload_n 1, 1) := dk_27 (dk_at dksX5_move_2 4 rfl rfl)
theorem dX5_move_51 : decode cX5_move 51 = .ok (.iload_n 2, 1) := dk_28 (dk_at dksX5_move_2 5 rfl rfl)
theorem dX5_move_52 : decode cX5_move 52 = .ok (.invokevirtual 252, 3) := dk_182 0 252 (dk_at dksX5_move_2 6 rfl rfl)
theorem dX5_move_55 : decode cX5_move 55 = .ok (.aload_n 0, 1) := dk_42 (dk_at dksX5_move_2 9 rfl rfl)
theorem dX5_move_56 : decode cX5_move 56 = .ok (.iload_n 1, 1) := dk_27 (dk_at dksX5_move_2 10 rfl rfl)
theorem dX5_move_57 : decode cX5_move 57 = .ok (.iconst 1, 1) := dk_4 (dk_at dksX5_move_2 11 rfl rfl)
theorem dX5_move_58 : decode cX5_move 58 = .ok (.invokevirtual 107, 3) := dk_182 0 107 (dk_at dksX5_move_2 12 rfl rfl)
theorem dX5_move_61 : decode cX5_move 61 = .ok (.ireturn, 1) := dk_172 (dk_at dksX5_move_2 15 rfl rfl)
abbrev cX5_mayNotMove : ByteArray := prog_25_method_54_code
def yX5_mayNotMove : MethodName := ⟨RX5, "mayNotMove", "(II)Z"⟩
def dkwX5_mayNotMove_9 : List UInt8 := [164, 0, 18, 42, 16, 8, 21, 5, 182, 0, 129, 153, 0, 7, 4, 167, 0, 4, 3, 172]
abbrev dktX5_mayNotMove_9 : List UInt8 := dkwX5_mayNotMove_9 ++ []
def dkwX5_mayNotMove_8 : List UInt8 := [42, 16, 7, 42, 27, 28, 182, 0, 199, 182, 0, 129, 172, 21, 5, 42, 180, 0, 7, 16, 103, 46]
abbrev dktX5_mayNotMove_8 : List UInt8 := dkwX5_mayNotMove_8 ++ dktX5_mayNotMove_9
def dkwX5_mayNotMove_7 : List UInt8 := [16, 6, 4, 27, 100, 182, 0, 129, 172, 42, 27, 5, 182, 0, 107, 42, 27, 28, 182, 0, 199, 162, 0, 16]
abbrev dktX5_mayNotMove_7 : List UInt8 := dkwX5_mayNotMove_7 ++ dktX5_mayNotMove_8
def dkwX5_mayNotMove_6 : List UInt8 := [182, 0, 101, 182, 0, 129, 172, 29, 153, 0, 24, 42, 4, 27, 100, 182, 0, 113, 28, 160, 0, 13, 42]
abbrev dktX5_mayNotMove_6 : List UInt8 := dkwX5_mayNotMove_6 ++ dktX5_mayNotMove_7
def dkwX5_mayNotMove_5 : List UInt8 := [21, 4, 182, 0, 129, 172, 29, 153, 0, 23, 42, 28, 182, 0, 149, 154, 0, 15, 42, 8, 42, 28, 4]
abbrev dktX5_mayNotMove_5 : List UInt8 := dkwX5_mayNotMove_5 ++ dktX5_mayNotMove_6
def dkwX5_mayNotMove_4 : List UInt8 := [160, 0, 10, 42, 6, 28, 182, 0, 129, 172, 21, 4, 42, 180, 0, 7, 16, 101, 46, 164, 0, 11, 42, 7]
abbrev dktX5_mayNotMove_4 : List UInt8 := dkwX5_mayNotMove_4 ++ dktX5_mayNotMove_5
def dkwX5_mayNotMove_3 : List UInt8 := [153, 0, 18, 42, 28, 182, 0, 122, 153, 0, 10, 42, 5, 28, 182, 0, 129, 172, 42, 27, 182, 0, 113, 28]
abbrev dktX5_mayNotMove_3 : List UInt8 := dkwX5_mayNotMove_3 ++ dktX5_mayNotMove_4
def dkwX5_mayNotMove_2 : List UInt8 := [182, 0, 167, 54, 5, 42, 27, 4, 182, 0, 107, 5, 160, 0, 10, 42, 4, 3, 182, 0, 129, 172, 29]
abbrev dktX5_mayNotMove_2 : List UInt8 := dkwX5_mayNotMove_2 ++ dktX5_mayNotMove_3
def dkwX5_mayNotMove_1 : List UInt8 := [154, 0, 16, 42, 42, 4, 182, 0, 113, 28, 182, 0, 167, 167, 0, 13, 42, 28, 42, 3, 182, 0, 113]
abbrev dktX5_mayNotMove_1 : List UInt8 := dkwX5_mayNotMove_1 ++ dktX5_mayNotMove_2
def dkwX5_mayNotMove_0 : List UInt8 := [28, 2, 159, 0, 7, 4, 167, 0, 4, 3, 62, 42, 42, 27, 182, 0, 113, 28, 182, 0, 119, 54, 4, 27]
abbrev dktX5_mayNotMove_0 : List UInt8 := dkwX5_mayNotMove_0 ++ dktX5_mayNotMove_1
theorem dksX5_mayNotMove_0 : cX5_mayNotMove.data.toList.drop 0 = dktX5_mayNotMove_0 := by decide +kernel
theorem dksX5_mayNotMove_1 : cX5_mayNotMove.data.toList.drop 24 = dktX5_mayNotMove_1 := dk_seg dksX5_mayNotMove_0 24 rfl rfl
theorem dksX5_mayNotMove_2 : cX5_mayNotMove.data.toList.drop 47 = dktX5_mayNotMove_2 := dk_seg dksX5_mayNotMove_1 23 rfl rfl
theorem dksX5_mayNotMove_3 : cX5_mayNotMove.data.toList.drop 70 = dktX5_mayNotMove_3 := dk_seg dksX5_mayNotMove_2 23 rfl rfl
theorem dksX5_mayNotMove_4 : cX5_mayNotMove.data.toList.drop 94 = dktX5_mayNotMove_4 := dk_seg dksX5_mayNotMove_3 24 rfl rfl
theorem dksX5_mayNotMove_5 : cX5_mayNotMove.data.toList.drop 118 = dktX5_mayNotMove_5 := dk_seg dksX5_mayNotMove_4 24 rfl rfl
theorem dksX5_mayNotMove_6 : cX5_mayNotMove.data.toList.drop 141 = dktX5_mayNotMove_6 := dk_seg dksX5_mayNotMove_5 23 rfl rfl
theorem dksX5_mayNotMove_7 : cX5_mayNotMove.data.toList.drop 164 = dktX5_mayNotMove_7 := dk_seg dksX5_mayNotMove_6 23 rfl rfl
theorem dksX5_mayNotMove_8 : cX5_mayNotMove.data.toList.drop 188 = dktX5_mayNotMove_8 := dk_seg dksX5_mayNotMove_7 24 rfl rfl
theorem dksX5_mayNotMove_9 : cX5_mayNotMove.data.toList.drop 210 = dktX5_mayNotMove_9 := dk_seg dksX5_mayNotMove_8 22 rfl rfl
theorem dX5_mayNotMove_0 : decode cX5_mayNotMove 0 = .ok (.iload_n 2, 1) := dk_28 (dk_at dksX5_mayNotMove_0 0 rfl rfl)
theorem dX5_mayNotMove_1 : decode cX5_mayNotMove 1 = .ok (.iconst (-1), 1) := dk_2 (dk_at dksX5_mayNotMove_0 1 rfl rfl)
theorem dX5_mayNotMove_2 : decode cX5_mayNotMove 2 = .ok (.if_icmp .eq 7, 3) := dk_159 0 7 (dk_at dksX5_mayNotMove_0 2 rfl rfl)
theorem dX5_mayNotMove_5 : decode cX5_mayNotMove 5 = .ok (.iconst 1, 1) := dk_4 (dk_at dksX5_mayNotMove_0 5 rfl rfl)
theorem dX5_mayNotMove_6 : decode cX5_mayNotMove 6 = .ok (.goto 4, 3) := dk_167 0 4 (dk_at dksX5_mayNotMove_0 6 rfl rfl)
theorem dX5_mayNotMove_9 : decode cX5_mayNotMove 9 = .ok (.iconst 0, 1) := dk_3 (dk_at dksX5_mayNotMove_0 9 rfl rfl)
theorem dX5_mayNotMove_10 : decode cX5_mayNotMove 10 = .ok (.istore_n 3, 1) := dk_62 (dk_at dksX5_mayNotMove_0 10 rfl rfl)
theorem dX5_mayNotMove_11 : decode cX5_mayNotMove 11 = .ok (.aload_n 0, 1) := dk_42 (dk_at dksX5_mayNotMove_0 11 rfl rfl)
theorem dX5_mayNotMove_12 : decode cX5_mayNotMove 12 = .ok (.aload_n 0, 1) := dk_42 (dk_at dksX5_mayNotMove_0 12 rfl rfl)
theorem dX5_mayNotMove_13 : decode cX5_mayNotMove 13 = .ok (.iload_n 1, 1) := dk_27 (dk_at dksX5_mayNotMove_0 13 rfl rfl)
theorem dX5_mayNotMove_14 : decode cX5_mayNotMove 14 = .ok (.invokevirtual 113, 3) := dk_182 0 113 (dk_at dksX5_mayNotMove_0 14 rfl rfl)
theorem dX5_mayNotMove_17 : decode cX5_mayNotMove 17 = .ok (.iload_n 2, 1) := dk_28 (dk_at dksX5_mayNotMove_0 17 rfl rfl)
theorem dX5_mayNotMove_18 : decode cX5_mayNotMove 18 = .ok (.invokevirtual 119, 3) := dk_182 0 119 (dk_at dksX5_mayNotMove_0 18 rfl rfl)
theorem dX5_mayNotMove_21 : decode cX5_mayNotMove 21 = .ok (.istore 4, 2) := dk_54 4 (dk_at dksX5_mayNotMove_0 21 rfl rfl)
theorem dX5_mayNotMove_23 : decode cX5_mayNotMove 23 = .ok (.iload_n 1, 1) := dk_27 (dk_at dksX5_mayNotMove_0 23 rfl rfl)
theorem dX5_mayNotMove_24 : decode cX5_mayNotMove 24 = .ok (.ifCond .ne 16, 3) := dk_154 0 16 (dk_at dksX5_mayNotMove_1 0 rfl rfl)
theorem dX5_mayNotMove_27 : decode cX5_mayNotMove 27 = .ok (.aload_n 0, 1) := dk_42 (dk_at dksX5_mayNotMove_1 3 rfl rfl)
theorem dX5_mayNotMove_28 : decode cX5_mayNotMove 28 = .ok (.aload_n 0, 1) := dk_42 (dk_at dksX5_mayNotMove_1 4 rfl rfl)
theorem dX5_mayNotMove_29 : decode cX5_mayNotMove 29 = .ok (.iconst 1, 1) := dk_4 (dk_at dksX5_mayNotMove_1 5 rfl rfl)
theorem dX5_mayNotMove_30 : decode cX5_mayNotMove 30 = .ok (.invokevirtual 113, 3) := dk_182 0 113 (dk_at dksX5_mayNotMove_1 6 rfl rfl)
theorem dX5_mayNotMove_33 : decode cX5_mayNotMove 33 = .ok (.iload_n 2, 1) := dk_28 (dk_at dksX5_mayNotMove_1 9 rfl rfl)
theorem dX5_mayNotMove_34 : decode cX5_mayNotMove 34 = .ok (.invokevirtual 167, 3) := dk_182 0 167 (dk_at dksX5_mayNotMove_1 10 rfl rfl)
theorem dX5_mayNotMove_37 : decode cX5_mayNotMove 37 = .ok (.goto 13, 3) := dk_167 0 13 (dk_at dksX5_mayNotMove_1 13 rfl rfl)
theorem dX5_mayNotMove_40 : decode cX5_mayNotMove 40 = .ok (.aload_n 0, 1) := dk_42 (dk_at dksX5_mayNotMove_1 16 rfl rfl)
theorem dX5_mayNotMove_41 : decode cX5_mayNotMove 41 = .ok (.iload_n 2, 1) := dk_28 (dk_at dksX5_mayNotMove_1 17 rfl rfl)
theorem dX5_mayNotMove_42 : decode cX5_mayNotMove 42 = .ok (.aload_n 0, 1) := dk_42 (dk_at dksX5_mayNotMove_1 18 rfl rfl)
theorem dX5_mayNotMove_43 : decode cX5_mayNotMove 43 = .ok (.iconst 0, 1) := dk_3 (dk_at dksX5_mayNotMove_1 19 rfl rfl)
theorem dX5_mayNotMove_44 : decode cX5_mayNotMove 44 = .ok (.invokevirtual 113, 3) := dk_182 0 113 (dk_at dksX5_mayNotMove_1 20 rfl rfl)
theorem dX5_mayNotMove_47 : decode cX5_mayNotMove 47 = .ok (.invokevirtual 167, 3) := dk_182 0 167 (dk_at dksX5_mayNotMove_2 0 rfl rfl)
theorem dX5_mayNotMove_50 : decode cX5_mayNotMove 50 = .ok (.istore 5, 2) := dk_54 5 (dk_at dksX5_mayNotMove_2 3 rfl rfl)
theorem dX5_mayNotMove_52 : decode cX5_mayNotMove 52 = .ok (.aload_n 0, 1) := dk_42 (dk_at dksX5_mayNotMove_2 5 rfl rfl)
theorem dX5_mayNotMove_53 : decode cX5_mayNotMove 53 = .ok (.iload_n 1, 1) := dk_27 (dk_at dksX5_mayNotMove_2 6 rfl rfl)
theorem dX5_mayNotMove_54 : decode cX5_mayNotMove 54 = .ok (.iconst 1, 1) := dk_4 (dk_at dksX5_mayNotMove_2 7 rfl rfl)
theorem dX5_mayNotMove_55 : decode cX5_mayNotMove 55 = .ok (.invokevirtual 107, 3) := dk_182 0 107 (dk_at dksX5_mayNotMove_2 8 rfl rfl)
theorem dX5_mayNotMove_58 : decode cX5_mayNotMove 58 = .ok (.iconst 2, 1) := dk_5 (dk_at dksX5_mayNotMove_2 11 rfl rfl)
theorem dX5_mayNotMove_59 : decode cX5_mayNotMove 59 = .ok (.if_icmp .ne 10, 3) := dk_160 0 10 (dk_at dksX5_mayNotMove_2 12 rfl rfl)
theorem dX5_mayNotMove_62 : decode cX5_mayNotMove 62 = .ok (.aload_n 0, 1) := dk_42 (dk_at dksX5_mayNotMove_2 15 rfl rfl)
theorem dX5_mayNotMove_63 : decode cX5_mayNotMove 63 = .ok (.iconst 1, 1) := dk_4 (dk_at dksX5_mayNotMove_2 16 rfl rfl)
theorem dX5_mayNotMove_64 : decode cX5_mayNotMove 64 = .ok (.iconst 0, 1) := dk_3 (dk_at dksX5_mayNotMove_2 17 rfl rfl)
theorem dX5_mayNotMove_65 : decode cX5_mayNotMove 65 = .ok (.invokevirtual 129, 3) := dk_182 0 129 (dk_at dksX5_mayNotMove_2 18 rfl rfl)
theorem dX5_mayNotMove_68 : decode cX5_mayNotMove 68 = .ok (.ireturn, 1) := dk_172 (dk_at dksX5_mayNotMove_2 21 rfl rfl)
theorem dX5_mayNotMove_69 : decode cX5_mayNotMove 69 = .ok (.iload_n 3, 1) := dk_29 (dk_at dksX5_mayNotMove_2 22 rfl rfl)
theorem dX5_mayNotMove_70 : decode cX5_mayNotMove 70 = .ok (.ifCond .eq 18, 3) := dk_153 0 18 (dk_at dksX5_mayNotMove_3 0 rfl rfl)
theorem dX5_mayNotMove_73 : decode cX5_mayNotMove 73 = .ok (.aload_n 0, 1) := dk_42 (dk_at dksX5_mayNotMove_3 3 rfl rfl)
theorem dX5_mayNotMove_74 : decode cX5_mayNotMove 74 = .ok (.iload_n 2, 1) := dk_28 (dk_at dksX5_mayNotMove_3 4 rfl rfl)
theorem dX5_mayNotMove_75 : decode cX5_mayNotMove 75 = .ok (.invokevirtual 122, 3) := dk_182 0 122 (dk_at dksX5_mayNotMove_3 5 rfl rfl)
theorem dX5_mayNotMove_78 : decode cX5_mayNotMove 78 = .ok (.ifCond .eq 10, 3) := dk_153 0 10 (dk_at dksX5_mayNotMove_3 8 rfl rfl)
theorem dX5_mayNotMove_81 : decode cX5_mayNotMove 81 = .ok (.aload_n 0, 1) := dk_42 (dk_at dksX5_mayNotMove_3 11 rfl rfl)
theorem dX5_mayNotMove_82 : decode cX5_mayNotMove 82 = .ok (.iconst 2, 1) := dk_5 (dk_at dksX5_mayNotMove_3 12 rfl rfl)
theorem dX5_mayNotMove_83 : decode cX5_mayNotMove 83 = .ok (.iload_n 2, 1) := dk_28 (dk_at dksX5_mayNotMove_3 13 rfl rfl)
theorem dX5_mayNotMove_84 : decode cX5_mayNotMove 84 = .ok (.invokevirtual 129, 3) := dk_182 0 129 (dk_at dksX5_mayNotMove_3 14 rfl rfl)
theorem dX5_mayNotMove_87 : decode cX5_mayNotMove 87 = .ok (.ireturn, 1) := dk_172 (dk_at dksX5_mayNotMove_3 17 rfl rfl)
theorem dX5_mayNotMove_88 : decode cX5_mayNotMove 88 = .ok (.aload_n 0, 1) := dk_42 (dk_at dksX5_mayNotMove_3 18 rfl rfl)
theorem dX5_mayNotMove_89 : decode cX5_mayNotMove 89 = .ok (.iload_n 1, 1) := dk_27 (dk_at dksX5_mayNotMove_3 19 rfl rfl)
theorem dX5_mayNotMove_90 : decode cX5_mayNotMove 90 = .ok (.invokevirtual 113, 3) := dk_182 0 113 (dk_at dksX5_mayNotMove_3 20 rfl rfl)
theorem dX5_mayNotMove_93 : decode cX5_mayNotMove 93 = .ok (.iload_n 2, 1) := dk_28 (dk_at dksX5_mayNotMove_3 23 rfl rfl)
theorem dX5_mayNotMove_94 : decode cX5_mayNotMove 94 = .ok (.if_icmp .ne 10, 3) := dk_160 0 10 (dk_at dksX5_mayNotMove_4 0 rfl rfl)
theorem dX5_mayNotMove_97 : decode cX5_mayNotMove 97 = .ok (.aload_n 0, 1) := dk_42 (dk_at dksX5_mayNotMove_4 3 rfl rfl)
theorem dX5_mayNotMove_98 : decode cX5_mayNotMove 98 = .ok (.iconst 3, 1) := dk_6 (dk_at dksX5_mayNotMove_4 4 rfl rfl)
theorem dX5_mayNotMove_99 : decode cX5_mayNotMove 99 = .ok (.iload_n 2, 1) := dk_28 (dk_at dksX5_mayNotMove_4 5 rfl rfl)
theorem dX5_mayNotMove_100 : decode cX5_mayNotMove 100 = .ok (.invokevirtual 129, 3) := dk_182 0 129 (dk_at dksX5_mayNotMove_4 6 rfl rfl)
theorem dX5_mayNotMove_103 : decode cX5_mayNotMove 103 = .ok (.ireturn, 1) := dk_172 (dk_at dksX5_mayNotMove_4 9 rfl rfl)
theorem dX5_mayNotMove_104 : decode cX5_mayNotMove 104 = .ok (.iload 4, 2) := dk_21 4 (dk_at dksX5_mayNotMove_4 10 rfl rfl)
theorem dX5_mayNotMove_106 : decode cX5_mayNotMove 106 = .ok (.aload_n 0, 1) := dk_42 (dk_at dksX5_mayNotMove_4 12 rfl rfl)
theorem dX5_mayNotMove_107 : decode cX5_mayNotMove 107 = .ok (.getfield 7, 3) := dk_180 0 7 (dk_at dksX5_mayNotMove_4 13 rfl rfl)
theorem dX5_mayNotMove_110 : decode cX5_mayNotMove 110 = .ok (.bipush 101, 2) := dk_16 101 (dk_at dksX5_mayNotMove_4 16 rfl rfl)
theorem dX5_mayNotMove_112 : decode cX5_mayNotMove 112 = .ok (.iaload, 1) := dk_46 (dk_at dksX5_mayNotMove_4 18 rfl rfl)
theorem dX5_mayNotMove_113 : decode cX5_mayNotMove 113 = .ok (.if_icmp .le 11, 3) := dk_164 0 11 (dk_at dksX5_mayNotMove_4 19 rfl rfl)
theorem dX5_mayNotMove_116 : decode cX5_mayNotMove 116 = .ok (.aload_n 0, 1) := dk_42 (dk_at dksX5_mayNotMove_4 22 rfl rfl)
theorem dX5_mayNotMove_117 : decode cX5_mayNotMove 117 = .ok (.iconst 4, 1) := dk_7 (dk_at dksX5_mayNotMove_4 23 rfl rfl)
theorem dX5_mayNotMove_118 : decode cX5_mayNotMove 118 = .ok (.iload 4, 2) := dk_21 4 (dk_at dksX5_mayNotMove_5 0 rfl rfl)
theorem dX5_mayNotMove_120 : decode cX5_mayNotMove 120 = .ok (.invokevirtual 129, 3) := dk_182 0 129 (dk_at dksX5_mayNotMove_5 2 rfl rfl)
theorem dX5_mayNotMove_123 : decode cX5_mayNotMove 123 = .ok (.ireturn, 1) := dk_172 (dk_at dksX5_mayNotMove_5 5 rfl rfl)
theorem dX5_mayNotMove_124 : decode cX5_mayNotMove 124 = .ok (.iload_n 3, 1) := dk_29 (dk_at dksX5_mayNotMove_5 6 rfl rfl)
theorem dX5_mayNotMove_125 : decode cX5_mayNotMove 125 = .ok (.ifCond .eq 23, 3) := dk_153 0 23 (dk_at dksX5_mayNotMove_5 7 rfl rfl)
theorem dX5_mayNotMove_128 : decode cX5_mayNotMove 128 = .ok (.aload_n 0, 1) := dk_42 (dk_at dksX5_mayNotMove_5 10 rfl rfl)
theorem dX5_mayNotMove_129 : decode cX5_mayNotMove 129 = .ok (.iload_n 2, 1) := dk_28 (dk_at dksX5_mayNotMove_5 11 rfl rfl)
theorem dX5_mayNotMove_130 : decode cX5_mayNotMove 130 = .ok (.invokevirtual 149, 3) := dk_182 0 149 (dk_at dksX5_mayNotMove_5 12 rfl rfl)
theorem dX5_mayNotMove_133 : decode cX5_mayNotMove 133 = .ok (.ifCond .ne 15, 3) := dk_154 0 15 (dk_at dksX5_mayNotMove_5 15 rfl rfl)
theorem dX5_mayNotMove_136 : decode cX5_mayNotMove 136 = .ok (.aload_n 0, 1) := dk_42 (dk_at dksX5_mayNotMove_5 18 rfl rfl)
theorem dX5_mayNotMove_137 : decode cX5_mayNotMove 137 = .ok (.iconst 5, 1) := dk_8 (dk_at dksX5_mayNotMove_5 19 rfl rfl)
theorem dX5_mayNotMove_138 : decode cX5_mayNotMove 138 = .ok (.aload_n 0, 1) := dk_42 (dk_at dksX5_mayNotMove_5 20 rfl rfl)
theorem dX5_mayNotMove_139 : decode cX5_mayNotMove 139 = .ok (.iload_n 2, 1) := dk_28 (dk_at dksX5_mayNotMove_5 21 rfl rfl)
theorem dX5_mayNotMove_140 : decode cX5_mayNotMove 140 = .ok (.iconst 1, 1) := dk_4 (dk_at dksX5_mayNotMove_5 22 rfl rfl)
theorem dX5_mayNotMove_141 : decode cX5_mayNotMove 141 = .ok (.invokevirtual 101, 3) := dk_182 0 101 (dk_at dksX5_mayNotMove_6 0 rfl rfl)
theorem dX5_mayNotMove_144 : decode cX5_mayNotMove 144 = .ok (.invokevirtual 129, 3) := dk_182 0 129 (dk_at dksX5_mayNotMove_6 3 rfl rfl)
theorem dX5_mayNotMove_147 : decode cX5_mayNotMove 147 = .ok (.ireturn, 1) := dk_172 (dk_at dksX5_mayNotMove_6 6 rfl rfl)
theorem dX5_mayNotMove_148 : decode cX5_mayNotMove 148 = .ok (.iload_n 3, 1) := dk_29 (dk_at dksX5_mayNotMove_6 7 rfl rfl)
theorem dX5_mayNotMove_149 : decode cX5_mayNotMove 149 = .ok (.ifCond .eq 24, 3) := dk_153 0 24 (dk_at dksX5_mayNotMove_6 8 rfl rfl)
theorem dX5_mayNotMove_152 : decode cX5_mayNotMove 152 = .ok (.aload_n 0, 1) := dk_42 (dk_at dksX5_mayNotMove_6 11 rfl rfl)
theorem dX5_mayNotMove_153 : decode cX5_mayNotMove 153 = .ok (.iconst 1, 1) := dk_4 (dk_at dksX5_mayNotMove_6 12 rfl rfl)
theorem dX5_mayNotMove_154 : decode cX5_mayNotMove 154 = .ok (.iload_n 1, 1) := dk_27 (dk_at dksX5_mayNotMove_6 13 rfl rfl)
theorem dX5_mayNotMove_155 : decode cX5_mayNotMove 155 = .ok (.isub, 1) := dk_100 (dk_at dksX5_mayNotMove_6 14 rfl rfl)
theorem dX5_mayNotMove_156 : decode cX5_mayNotMove 156 = .ok (.invokevirtual 113, 3) := dk_182 0 113 (dk_at dksX5_mayNotMove_6 15 rfl rfl)
theorem dX5_mayNotMove_159 : decode cX5_mayNotMove 159 = .ok (.iload_n 2, 1) := dk_28 (dk_at dksX5_mayNotMove_6 18 rfl rfl)
theorem dX5_mayNotMove_160 : decode cX5_mayNotMove 160 = .ok (.if_icmp .ne 13, 3) := dk_160 0 13 (dk_at dksX5_mayNotMove_6 19 rfl rfl)
theorem dX5_mayNotMove_163 : decode cX5_mayNotMove 163 = .ok (.aload_n 0, 1) := dk_42 (dk_at dksX5_mayNotMove_6 22 rfl rfl)
theorem dX5_mayNotMove_164 : decode cX5_mayNotMove 164 = .ok (.bipush 6, 2) := dk_16 6 (dk_at dksX5_mayNotMove_7 0 rfl rfl)
theorem dX5_mayNotMove_166 : decode cX5_mayNotMove 166 = .ok (.iconst 1, 1) := dk_4 (dk_at dksX5_mayNotMove_7 2 rfl rfl)
theorem dX5_mayNotMove_167 : decode cX5_mayNotMove 167 = .ok (.iload_n 1, 1) := dk_27 (dk_at dksX5_mayNotMove_7 3 rfl rfl)
theorem dX5_mayNotMove_168 : decode cX5_mayNotMove 168 = .ok (.isub, 1) := dk_100 (dk_at dksX5_mayNotMove_7 4 rfl rfl)
theorem dX5_mayNotMove_169 : decode cX5_mayNotMove 169 = .ok (.invokevirtual 129, 3) := dk_182 0 129 (dk_at dksX5_mayNotMove_7 5 rfl rfl)
theorem dX5_mayNotMove_172 : decode cX5_mayNotMove 172 = .ok (.ireturn, 1) := dk_172 (dk_at dksX5_mayNotMove_7 8 rfl rfl)
theorem dX5_mayNotMove_173 : decode cX5_mayNotMove 173 = .ok (.aload_n 0, 1) := dk_42 (dk_at dksX5_mayNotMove_7 9 rfl rfl)
theorem dX5_mayNotMove_174 : decode cX5_mayNotMove 174 = .ok (.iload_n 1, 1) := dk_27 (dk_at dksX5_mayNotMove_7 10 rfl rfl)
theorem dX5_mayNotMove_175 : decode cX5_mayNotMove 175 = .ok (.iconst 2, 1) := dk_5 (dk_at dksX5_mayNotMove_7 11 rfl rfl)
theorem dX5_mayNotMove_176 : decode cX5_mayNotMove 176 = .ok (.invokevirtual 107, 3) := dk_182 0 107 (dk_at dksX5_mayNotMove_7 12 rfl rfl)
theorem dX5_mayNotMove_179 : decode cX5_mayNotMove 179 = .ok (.aload_n 0, 1) := dk_42 (dk_at dksX5_mayNotMove_7 15 rfl rfl)
theorem dX5_mayNotMove_180 : decode cX5_mayNotMove 180 = .ok (.iload_n 1, 1) := dk_27 (dk_at dksX5_mayNotMove_7 16 rfl rfl)
theorem dX5_mayNotMove_181 : decode cX5_mayNotMove 181 = .ok (.iload_n 2, 1) := dk_28 (dk_at dksX5_mayNotMove_7 17 rfl rfl)
theorem dX5_mayNotMove_182 : decode cX5_mayNotMove 182 = .ok (.invokevirtual 199, 3) := dk_182 0 199 (dk_at dksX5_mayNotMove_7 18 rfl rfl)
theorem dX5_mayNotMove_185 : decode cX5_mayNotMove 185 = .ok (.if_icmp .ge 16, 3) := dk_162 0 16 (dk_at dksX5_mayNotMove_7 21 rfl rfl)
theorem dX5_mayNotMove_188 : decode cX5_mayNotMove 188 = .ok (.aload_n 0, 1) := dk_42 (dk_at dksX5_mayNotMove_8 0 rfl rfl)
theorem dX5_mayNotMove_189 : decode cX5_mayNotMove 189 = .ok (.bipush 7, 2) := dk_16 7 (dk_at dksX5_mayNotMove_8 1 rfl rfl)
theorem dX5_mayNotMove_191 : decode cX5_mayNotMove 191 = .ok (.aload_n 0, 1) := dk_42 (dk_at dksX5_mayNotMove_8 3 rfl rfl)
theorem dX5_mayNotMove_192 : decode cX5_mayNotMove 192 = .ok (.iload_n 1, 1) := dk_27 (dk_at dksX5_mayNotMove_8 4 rfl rfl)
theorem dX5_mayNotMove_193 : decode cX5_mayNotMove 193 = .ok (.iload_n 2, 1) := dk_28 (dk_at dksX5_mayNotMove_8 5 rfl rfl)
theorem dX5_mayNotMove_194 : decode cX5_mayNotMove 194 = .ok (.invokevirtual 199, 3) := dk_182 0 199 (dk_at dksX5_mayNotMove_8 6 rfl rfl)
theorem dX5_mayNotMove_197 : decode cX5_mayNotMove 197 = .ok (.invokevirtual 129, 3) := dk_182 0 129 (dk_at dksX5_mayNotMove_8 9 rfl rfl)
theorem dX5_mayNotMove_200 : decode cX5_mayNotMove 200 = .ok (.ireturn, 1) := dk_172 (dk_at dksX5_mayNotMove_8 12 rfl rfl)
theorem dX5_mayNotMove_201 : decode cX5_mayNotMove 201 = .ok (.iload 5, 2) := dk_21 5 (dk_at dksX5_mayNotMove_8 13 rfl rfl)
theorem dX5_mayNotMove_203 : decode cX5_mayNotMove 203 = .ok (.aload_n 0, 1) := dk_42 (dk_at dksX5_mayNotMove_8 15 rfl rfl)
theorem dX5_mayNotMove_204 : decode cX5_mayNotMove 204 = .ok (.getfield 7, 3) := dk_180 0 7 (dk_at dksX5_mayNotMove_8 16 rfl rfl)
theorem dX5_mayNotMove_207 : decode cX5_mayNotMove 207 = .ok (.bipush 103, 2) := dk_16 103 (dk_at dksX5_mayNotMove_8 19 rfl rfl)
theorem dX5_mayNotMove_209 : decode cX5_mayNotMove 209 = .ok (.iaload, 1) := dk_46 (dk_at dksX5_mayNotMove_8 21 rfl rfl)
theorem dX5_mayNotMove_210 : decode cX5_mayNotMove 210 = .ok (.if_icmp .le 18, 3) := dk_164 0 18 (dk_at dksX5_mayNotMove_9 0 rfl rfl)
theorem dX5_mayNotMove_213 : decode cX5_mayNotMove 213 = .ok (.aload_n 0, 1) := dk_42 (dk_at dksX5_mayNotMove_9 3 rfl rfl)
theorem dX5_mayNotMove_214 : decode cX5_mayNotMove 214 = .ok (.bipush 8, 2) := dk_16 8 (dk_at dksX5_mayNotMove_9 4 rfl rfl)
theorem dX5_mayNotMove_216 : decode cX5_mayNotMove 216 = .ok (.iload 5, 2) := dk_21 5 (dk_at dksX5_mayNotMove_9 6 rfl rfl)
theorem dX5_mayNotMove_218 : decode cX5_mayNotMove 218 = .ok (.invokevirtual 129, 3) := dk_182 0 129 (dk_at dksX5_mayNotMove_9 8 rfl rfl)
theorem dX5_mayNotMove_221 : decode cX5_mayNotMove 221 = .ok (.ifCond .eq 7, 3) := dk_153 0 7 (dk_at dksX5_mayNotMove_9 11 rfl rfl)
theorem dX5_mayNotMove_224 : decode cX5_mayNotMove 224 = .ok (.iconst 1, 1) := dk_4 (dk_at dksX5_mayNotMove_9 14 rfl rfl)
theorem dX5_mayNotMove_225 : decode cX5_mayNotMove 225 = .ok (.goto 4, 3) := dk_167 0 4 (dk_at dksX5_mayNotMove_9 15 rfl rfl)
theorem dX5_mayNotMove_228 : decode cX5_mayNotMove 228 = .ok (.iconst 0, 1) := dk_3 (dk_at dksX5_mayNotMove_9 18 rfl rfl)
theorem dX5_mayNotMove_229 : decode cX5_mayNotMove 229 = .ok (.ireturn, 1) := dk_172 (dk_at dksX5_mayNotMove_9 19 rfl rfl)
abbrev cX5_costOf : ByteArray := prog_25_method_53_code
def yX5_costOf : MethodName := ⟨RX5, "costOf", "(II)I"⟩
def dkwX5_costOf_0 : List UInt8 := [42, 42, 27, 182, 0, 113, 28, 182, 0, 119, 42, 27, 182, 0, 190, 184, 0, 196, 96, 172]
abbrev dktX5_costOf_0 : List UInt8 := dkwX5_costOf_0 ++ []
theorem dksX5_costOf_0 : cX5_costOf.data.toList.drop 0 = dktX5_costOf_0 := by decide +kernel
theorem dX5_costOf_0 : decode cX5_costOf 0 = .ok (.aload_n 0, 1) := dk_42 (dk_at dksX5_costOf_0 0 rfl rfl)
theorem dX5_costOf_1 : decode cX5_costOf 1 = .ok (.aload_n 0, 1) := dk_42 (dk_at dksX5_costOf_0 1 rfl rfl)
theorem dX5_costOf_2 : decode cX5_costOf 2 = .ok (.iload_n 1, 1) := dk_27 (dk_at dksX5_costOf_0 2 rfl rfl)
theorem dX5_costOf_3 : decode cX5_costOf 3 = .ok (.invokevirtual 113, 3) := dk_182 0 113 (dk_at dksX5_costOf_0 3 rfl rfl)
theorem dX5_costOf_6 : decode cX5_costOf 6 = .ok (.iload_n 2, 1) := dk_28 (dk_at dksX5_costOf_0 6 rfl rfl)
theorem dX5_costOf_7 : decode cX5_costOf 7 = .ok (.invokevirtual 119, 3) := dk_182 0 119 (dk_at dksX5_costOf_0 7 rfl rfl)
theorem dX5_costOf_10 : decode cX5_costOf 10 = .ok (.aload_n 0, 1) := dk_42 (dk_at dksX5_costOf_0 10 rfl rfl)
theorem dX5_costOf_11 : decode cX5_costOf 11 = .ok (.iload_n 1, 1) := dk_27 (dk_at dksX5_costOf_0 11 rfl rfl)
theorem dX5_costOf_12 : decode cX5_costOf 12 = .ok (.invokevirtual 190, 3) := dk_182 0 190 (dk_at dksX5_costOf_0 12 rfl rfl)
theorem dX5_costOf_15 : decode cX5_costOf 15 = .ok (.invokestatic 196, 3) := dk_184 0 196 (dk_at dksX5_costOf_0 15 rfl rfl)
theorem dX5_costOf_18 : decode cX5_costOf 18 = .ok (.iadd, 1) := dk_96 (dk_at dksX5_costOf_0 18 rfl rfl)
theorem dX5_costOf_19 : decode cX5_costOf 19 = .ok (.ireturn, 1) := dk_172 (dk_at dksX5_costOf_0 19 rfl rfl)
abbrev cX5_bits : ByteArray := prog_25_method_27_code
def yX5_bits : MethodName := ⟨RX5, "bits", "(I)I"⟩
def dkwX5_bits_1 : List UInt8 := [27, 172]
abbrev dktX5_bits_1 : List UInt8 := dkwX5_bits_1 ++ []
def dkwX5_bits_0 : List UInt8 := [3, 60, 3, 61, 28, 16, 20, 162, 0, 17, 27, 26, 28, 122, 4, 126, 96, 60, 132, 2, 1, 167, 255, 239]
abbrev dktX5_bits_0 : List UInt8 := dkwX5_bits_0 ++ dktX5_bits_1
theorem dksX5_bits_0 : cX5_bits.data.toList.drop 0 = dktX5_bits_0 := by decide +kernel
theorem dksX5_bits_1 : cX5_bits.data.toList.drop 24 = dktX5_bits_1 := dk_seg dksX5_bits_0 24 rfl rfl
theorem dX5_bits_0 : decode cX5_bits 0 = .ok (.iconst 0, 1) := dk_3 (dk_at dksX5_bits_0 0 rfl rfl)
theorem dX5_bits_1 : decode cX5_bits 1 = .ok (.istore_n 1, 1) := dk_60 (dk_at dksX5_bits_0 1 rfl rfl)
theorem dX5_bits_2 : decode cX5_bits 2 = .ok (.iconst 0, 1) := dk_3 (dk_at dksX5_bits_0 2 rfl rfl)
theorem dX5_bits_3 : decode cX5_bits 3 = .ok (.istore_n 2, 1) := dk_61 (dk_at dksX5_bits_0 3 rfl rfl)
theorem dX5_bits_4 : decode cX5_bits 4 = .ok (.iload_n 2, 1) := dk_28 (dk_at dksX5_bits_0 4 rfl rfl)
theorem dX5_bits_5 : decode cX5_bits 5 = .ok (.bipush 20, 2) := dk_16 20 (dk_at dksX5_bits_0 5 rfl rfl)
theorem dX5_bits_7 : decode cX5_bits 7 = .ok (.if_icmp .ge 17, 3) := dk_162 0 17 (dk_at dksX5_bits_0 7 rfl rfl)
theorem dX5_bits_10 : decode cX5_bits 10 = .ok (.iload_n 1, 1) := dk_27 (dk_at dksX5_bits_0 10 rfl rfl)
theorem dX5_bits_11 : decode cX5_bits 11 = .ok (.iload_n 0, 1) := dk_26 (dk_at dksX5_bits_0 11 rfl rfl)
theorem dX5_bits_12 : decode cX5_bits 12 = .ok (.iload_n 2, 1) := dk_28 (dk_at dksX5_bits_0 12 rfl rfl)
theorem dX5_bits_13 : decode cX5_bits 13 = .ok (.ishr, 1) := dk_122 (dk_at dksX5_bits_0 13 rfl rfl)
theorem dX5_bits_14 : decode cX5_bits 14 = .ok (.iconst 1, 1) := dk_4 (dk_at dksX5_bits_0 14 rfl rfl)
theorem dX5_bits_15 : decode cX5_bits 15 = .ok (.iand, 1) := dk_126 (dk_at dksX5_bits_0 15 rfl rfl)
theorem dX5_bits_16 : decode cX5_bits 16 = .ok (.iadd, 1) := dk_96 (dk_at dksX5_bits_0 16 rfl rfl)
theorem dX5_bits_17 : decode cX5_bits 17 = .ok (.istore_n 1, 1) := dk_60 (dk_at dksX5_bits_0 17 rfl rfl)
theorem dX5_bits_18 : decode cX5_bits 18 = .ok (.iinc 2 1, 3) := dk_132 2 1 (dk_at dksX5_bits_0 18 rfl rfl)
theorem dX5_bits_21 : decode cX5_bits 21 = .ok (.goto (-17), 3) := dk_167 255 239 (dk_at dksX5_bits_0 21 rfl rfl)
theorem dX5_bits_24 : decode cX5_bits 24 = .ok (.iload_n 1, 1) := dk_27 (dk_at dksX5_bits_1 0 rfl rfl)
theorem dX5_bits_25 : decode cX5_bits 25 = .ok (.ireturn, 1) := dk_172 (dk_at dksX5_bits_1 1 rfl rfl)
abbrev cX5_movesTo : ByteArray := prog_25_method_57_code
def yX5_movesTo : MethodName := ⟨RX5, "movesTo", "(II)V"⟩
def dkwX5_movesTo_3 : List UInt8 := [182, 0, 122, 153, 0, 8, 42, 28, 182, 0, 209, 42, 182, 0, 213, 177]
abbrev dktX5_movesTo_3 : List UInt8 := dkwX5_movesTo_3 ++ []
def dkwX5_movesTo_2 : List UInt8 := [159, 0, 35, 42, 180, 0, 7, 28, 7, 184, 0, 90, 92, 46, 42, 28, 27, 182, 0, 206, 96, 79, 42, 28]
abbrev dktX5_movesTo_2 : List UInt8 := dkwX5_movesTo_2 ++ dktX5_movesTo_3
def dkwX5_movesTo_1 : List UInt8 := [182, 0, 202, 42, 27, 4, 3, 182, 0, 202, 42, 180, 0, 7, 17, 0, 141, 92, 46, 4, 96, 79, 28, 2]
abbrev dktX5_movesTo_1 : List UInt8 := dkwX5_movesTo_1 ++ dktX5_movesTo_2
def dkwX5_movesTo_0 : List UInt8 := [42, 27, 5, 42, 27, 5, 182, 0, 107, 42, 27, 28, 182, 0, 199, 100, 182, 0, 202, 42, 27, 3, 28]
abbrev dktX5_movesTo_0 : List UInt8 := dkwX5_movesTo_0 ++ dktX5_movesTo_1
theorem dksX5_movesTo_0 : cX5_movesTo.data.toList.drop 0 = dktX5_movesTo_0 := by decide +kernel
theorem dksX5_movesTo_1 : cX5_movesTo.data.toList.drop 23 = dktX5_movesTo_1 := dk_seg dksX5_movesTo_0 23 rfl rfl
theorem dksX5_movesTo_2 : cX5_movesTo.data.toList.drop 47 = dktX5_movesTo_2 := dk_seg dksX5_movesTo_1 24 rfl rfl
theorem dksX5_movesTo_3 : cX5_movesTo.data.toList.drop 71 = dktX5_movesTo_3 := dk_seg dksX5_movesTo_2 24 rfl rfl
theorem dX5_movesTo_0 : decode cX5_movesTo 0 = .ok (.aload_n 0, 1) := dk_42 (dk_at dksX5_movesTo_0 0 rfl rfl)
theorem dX5_movesTo_1 : decode cX5_movesTo 1 = .ok (.iload_n 1, 1) := dk_27 (dk_at dksX5_movesTo_0 1 rfl rfl)
theorem dX5_movesTo_2 : decode cX5_movesTo 2 = .ok (.iconst 2, 1) := dk_5 (dk_at dksX5_movesTo_0 2 rfl rfl)
theorem dX5_movesTo_3 : decode cX5_movesTo 3 = .ok (.aload_n 0, 1) := dk_42 (dk_at dksX5_movesTo_0 3 rfl rfl)
theorem dX5_movesTo_4 : decode cX5_movesTo 4 = .ok (.iload_n 1, 1) := dk_27 (dk_at dksX5_movesTo_0 4 rfl rfl)
theorem dX5_movesTo_5 : decode cX5_movesTo 5 = .ok (.iconst 2, 1) := dk_5 (dk_at dksX5_movesTo_0 5 rfl rfl)
theorem dX5_movesTo_6 : decode cX5_movesTo 6 = .ok (.invokevirtual 107, 3) := dk_182 0 107 (dk_at dksX5_movesTo_0 6 rfl rfl)
theorem dX5_movesTo_9 : decode cX5_movesTo 9 = .ok (.aload_n 0, 1) := dk_42 (dk_at dksX5_movesTo_0 9 rfl rfl)
theorem dX5_movesTo_10 : decode cX5_movesTo 10 = .ok (.iload_n 1, 1) := dk_27 (dk_at dksX5_movesTo_0 10 rfl rfl)
theorem dX5_movesTo_11 : decode cX5_movesTo 11 = .ok (.iload_n 2, 1) := dk_28 (dk_at dksX5_movesTo_0 11 rfl rfl)
theorem dX5_movesTo_12 : decode cX5_movesTo 12 = .ok (.invokevirtual 199, 3) := dk_182 0 199 (dk_at dksX5_movesTo_0 12 rfl rfl)
theorem dX5_movesTo_15 : decode cX5_movesTo 15 = .ok (.isub, 1) := dk_100 (dk_at dksX5_movesTo_0 15 rfl rfl)
theorem dX5_movesTo_16 : decode cX5_movesTo 16 = .ok (.invokevirtual 202, 3) := dk_182 0 202 (dk_at dksX5_movesTo_0 16 rfl rfl)
theorem dX5_movesTo_19 : decode cX5_movesTo 19 = .ok (.aload_n 0, 1) := dk_42 (dk_at dksX5_movesTo_0 19 rfl rfl)
theorem dX5_movesTo_20 : decode cX5_movesTo 20 = .ok (.iload_n 1, 1) := dk_27 (dk_at dksX5_movesTo_0 20 rfl rfl)
theorem dX5_movesTo_21 : decode cX5_movesTo 21 = .ok (.iconst 0, 1) := dk_3 (dk_at dksX5_movesTo_0 21 rfl rfl)
theorem dX5_movesTo_22 : decode cX5_movesTo 22 = .ok (.iload_n 2, 1) := dk_28 (dk_at dksX5_movesTo_0 22 rfl rfl)
theorem dX5_movesTo_23 : decode cX5_movesTo 23 = .ok (.invokevirtual 202, 3) := dk_182 0 202 (dk_at dksX5_movesTo_1 0 rfl rfl)
theorem dX5_movesTo_26 : decode cX5_movesTo 26 = .ok (.aload_n 0, 1) := dk_42 (dk_at dksX5_movesTo_1 3 rfl rfl)
theorem dX5_movesTo_27 : decode cX5_movesTo 27 = .ok (.iload_n 1, 1) := dk_27 (dk_at dksX5_movesTo_1 4 rfl rfl)
theorem dX5_movesTo_28 : decode cX5_movesTo 28 = .ok (.iconst 1, 1) := dk_4 (dk_at dksX5_movesTo_1 5 rfl rfl)
theorem dX5_movesTo_29 : decode cX5_movesTo 29 = .ok (.iconst 0, 1) := dk_3 (dk_at dksX5_movesTo_1 6 rfl rfl)
theorem dX5_movesTo_30 : decode cX5_movesTo 30 = .ok (.invokevirtual 202, 3) := dk_182 0 202 (dk_at dksX5_movesTo_1 7 rfl rfl)
theorem dX5_movesTo_33 : decode cX5_movesTo 33 = .ok (.aload_n 0, 1) := dk_42 (dk_at dksX5_movesTo_1 10 rfl rfl)
theorem dX5_movesTo_34 : decode cX5_movesTo 34 = .ok (.getfield 7, 3) := dk_180 0 7 (dk_at dksX5_movesTo_1 11 rfl rfl)
theorem dX5_movesTo_37 : decode cX5_movesTo 37 = .ok (.sipush 141, 3) := dk_17 0 141 (dk_at dksX5_movesTo_1 14 rfl rfl)
theorem dX5_movesTo_40 : decode cX5_movesTo 40 = .ok (.dup2, 1) := dk_92 (dk_at dksX5_movesTo_1 17 rfl rfl)
theorem dX5_movesTo_41 : decode cX5_movesTo 41 = .ok (.iaload, 1) := dk_46 (dk_at dksX5_movesTo_1 18 rfl rfl)
theorem dX5_movesTo_42 : decode cX5_movesTo 42 = .ok (.iconst 1, 1) := dk_4 (dk_at dksX5_movesTo_1 19 rfl rfl)
theorem dX5_movesTo_43 : decode cX5_movesTo 43 = .ok (.iadd, 1) := dk_96 (dk_at dksX5_movesTo_1 20 rfl rfl)
theorem dX5_movesTo_44 : decode cX5_movesTo 44 = .ok (.iastore, 1) := dk_79 (dk_at dksX5_movesTo_1 21 rfl rfl)
theorem dX5_movesTo_45 : decode cX5_movesTo 45 = .ok (.iload_n 2, 1) := dk_28 (dk_at dksX5_movesTo_1 22 rfl rfl)
theorem dX5_movesTo_46 : decode cX5_movesTo 46 = .ok (.iconst (-1), 1) := dk_2 (dk_at dksX5_movesTo_1 23 rfl rfl)
theorem dX5_movesTo_47 : decode cX5_movesTo 47 = .ok (.if_icmp .eq 35, 3) := dk_159 0 35 (dk_at dksX5_movesTo_2 0 rfl rfl)
theorem dX5_movesTo_50 : decode cX5_movesTo 50 = .ok (.aload_n 0, 1) := dk_42 (dk_at dksX5_movesTo_2 3 rfl rfl)
theorem dX5_movesTo_51 : decode cX5_movesTo 51 = .ok (.getfield 7, 3) := dk_180 0 7 (dk_at dksX5_movesTo_2 4 rfl rfl)
theorem dX5_movesTo_54 : decode cX5_movesTo 54 = .ok (.iload_n 2, 1) := dk_28 (dk_at dksX5_movesTo_2 7 rfl rfl)
theorem dX5_movesTo_55 : decode cX5_movesTo 55 = .ok (.iconst 4, 1) := dk_7 (dk_at dksX5_movesTo_2 8 rfl rfl)
theorem dX5_movesTo_56 : decode cX5_movesTo 56 = .ok (.invokestatic 90, 3) := dk_184 0 90 (dk_at dksX5_movesTo_2 9 rfl rfl)
theorem dX5_movesTo_59 : decode cX5_movesTo 59 = .ok (.dup2, 1) := dk_92 (dk_at dksX5_movesTo_2 12 rfl rfl)
theorem dX5_movesTo_60 : decode cX5_movesTo 60 = .ok (.iaload, 1) := dk_46 (dk_at dksX5_movesTo_2 13 rfl rfl)
theorem dX5_movesTo_61 : decode cX5_movesTo 61 = .ok (.aload_n 0, 1) := dk_42 (dk_at dksX5_movesTo_2 14 rfl rfl)
theorem dX5_movesTo_62 : decode cX5_movesTo 62 = .ok (.iload_n 2, 1) := dk_28 (dk_at dksX5_movesTo_2 15 rfl rfl)
theorem dX5_movesTo_63 : decode cX5_movesTo 63 = .ok (.iload_n 1, 1) := dk_27 (dk_at dksX5_movesTo_2 16 rfl rfl)
theorem dX5_movesTo_64 : decode cX5_movesTo 64 = .ok (.invokevirtual 206, 3) := dk_182 0 206 (dk_at dksX5_movesTo_2 17 rfl rfl)
theorem dX5_movesTo_67 : decode cX5_movesTo 67 = .ok (.iadd, 1) := dk_96 (dk_at dksX5_movesTo_2 20 rfl rfl)
theorem dX5_movesTo_68 : decode cX5_movesTo 68 = .ok (.iastore, 1) := dk_79 (dk_at dksX5_movesTo_2 21 rfl rfl)
theorem dX5_movesTo_69 : decode cX5_movesTo 69 = .ok (.aload_n 0, 1) := dk_42 (dk_at dksX5_movesTo_2 22 rfl rfl)
theorem dX5_movesTo_70 : decode cX5_movesTo 70 = .ok (.iload_n 2, 1) := dk_28 (dk_at dksX5_movesTo_2 23 rfl rfl)
theorem dX5_movesTo_71 : decode cX5_movesTo 71 = .ok (.invokevirtual 122, 3) := dk_182 0 122 (dk_at dksX5_movesTo_3 0 rfl rfl)
theorem dX5_movesTo_74 : decode cX5_movesTo 74 = .ok (.ifCond .eq 8, 3) := dk_153 0 8 (dk_at dksX5_movesTo_3 3 rfl rfl)
theorem dX5_movesTo_77 : decode cX5_movesTo 77 = .ok (.aload_n 0, 1) := dk_42 (dk_at dksX5_movesTo_3 6 rfl rfl)
theorem dX5_movesTo_78 : decode cX5_movesTo 78 = .ok (.iload_n 2, 1) := dk_28 (dk_at dksX5_movesTo_3 7 rfl rfl)
theorem dX5_movesTo_79 : decode cX5_movesTo 79 = .ok (.invokevirtual 209, 3) := dk_182 0 209 (dk_at dksX5_movesTo_3 8 rfl rfl)
theorem dX5_movesTo_82 : decode cX5_movesTo 82 = .ok (.aload_n 0, 1) := dk_42 (dk_at dksX5_movesTo_3 11 rfl rfl)
theorem dX5_movesTo_83 : decode cX5_movesTo 83 = .ok (.invokevirtual 213, 3) := dk_182 0 213 (dk_at dksX5_movesTo_3 12 rfl rfl)
theorem dX5_movesTo_86 : decode cX5_movesTo 86 = .ok (.return_, 1) := dk_177 (dk_at dksX5_movesTo_3 15 rfl rfl)
abbrev cX5_setClimber : ByteArray := prog_25_method_16_code
def yX5_setClimber : MethodName := ⟨RX5, "setClimber", "(III)V"⟩
def dkwX5_setClimber_0 : List UInt8 := [42, 180, 0, 7, 16, 125, 6, 27, 104, 96, 28, 96, 29, 79, 177]
abbrev dktX5_setClimber_0 : List UInt8 := dkwX5_setClimber_0 ++ []
theorem dksX5_setClimber_0 : cX5_setClimber.data.toList.drop 0 = dktX5_setClimber_0 := by decide +kernel
theorem dX5_setClimber_0 : decode cX5_setClimber 0 = .ok (.aload_n 0, 1) := dk_42 (dk_at dksX5_setClimber_0 0 rfl rfl)
theorem dX5_setClimber_1 : decode cX5_setClimber 1 = .ok (.getfield 7, 3) := dk_180 0 7 (dk_at dksX5_setClimber_0 1 rfl rfl)
theorem dX5_setClimber_4 : decode cX5_setClimber 4 = .ok (.bipush 125, 2) := dk_16 125 (dk_at dksX5_setClimber_0 4 rfl rfl)
theorem dX5_setClimber_6 : decode cX5_setClimber 6 = .ok (.iconst 3, 1) := dk_6 (dk_at dksX5_setClimber_0 6 rfl rfl)
theorem dX5_setClimber_7 : decode cX5_setClimber 7 = .ok (.iload_n 1, 1) := dk_27 (dk_at dksX5_setClimber_0 7 rfl rfl)
theorem dX5_setClimber_8 : decode cX5_setClimber 8 = .ok (.imul, 1) := dk_104 (dk_at dksX5_setClimber_0 8 rfl rfl)
theorem dX5_setClimber_9 : decode cX5_setClimber 9 = .ok (.iadd, 1) := dk_96 (dk_at dksX5_setClimber_0 9 rfl rfl)
theorem dX5_setClimber_10 : decode cX5_setClimber 10 = .ok (.iload_n 2, 1) := dk_28 (dk_at dksX5_setClimber_0 10 rfl rfl)
theorem dX5_setClimber_11 : decode cX5_setClimber 11 = .ok (.iadd, 1) := dk_96 (dk_at dksX5_setClimber_0 11 rfl rfl)
theorem dX5_setClimber_12 : decode cX5_setClimber 12 = .ok (.iload_n 3, 1) := dk_29 (dk_at dksX5_setClimber_0 12 rfl rfl)
theorem dX5_setClimber_13 : decode cX5_setClimber 13 = .ok (.iastore, 1) := dk_79 (dk_at dksX5_setClimber_0 13 rfl rfl)
theorem dX5_setClimber_14 : decode cX5_setClimber 14 = .ok (.return_, 1) := dk_177 (dk_at dksX5_setClimber_0 14 rfl rfl)
abbrev cX5_wearOf : ByteArray := prog_25_method_56_code
def yX5_wearOf : MethodName := ⟨RX5, "wearOf", "(II)I"⟩
def dkwX5_wearOf_2 : List UInt8 := [3, 21, 4, 96, 172]
abbrev dktX5_wearOf_2 : List UInt8 := dkwX5_wearOf_2 ++ []
def dkwX5_wearOf_1 : List UInt8 := [4, 167, 0, 4, 3, 54, 4, 29, 154, 0, 7, 4, 167, 0, 13, 29, 5, 160, 0, 7, 5, 167, 0, 4]
abbrev dktX5_wearOf_1 : List UInt8 := dkwX5_wearOf_1 ++ dktX5_wearOf_2
def dkwX5_wearOf_0 : List UInt8 := [42, 27, 5, 182, 0, 101, 62, 29, 6, 159, 0, 19, 42, 28, 182, 0, 190, 184, 0, 196, 5, 160, 0, 7]
abbrev dktX5_wearOf_0 : List UInt8 := dkwX5_wearOf_0 ++ dktX5_wearOf_1
theorem dksX5_wearOf_0 : cX5_wearOf.data.toList.drop 0 = dktX5_wearOf_0 := by decide +kernel
theorem dksX5_wearOf_1 : cX5_wearOf.data.toList.drop 24 = dktX5_wearOf_1 := dk_seg dksX5_wearOf_0 24 rfl rfl
theorem dksX5_wearOf_2 : cX5_wearOf.data.toList.drop 48 = dktX5_wearOf_2 := dk_seg dksX5_wearOf_1 24 rfl rfl
theorem dX5_wearOf_0 : decode cX5_wearOf 0 = .ok (.aload_n 0, 1) := dk_42 (dk_at dksX5_wearOf_0 0 rfl rfl)
theorem dX5_wearOf_1 : decode cX5_wearOf 1 = .ok (.iload_n 1, 1) := dk_27 (dk_at dksX5_wearOf_0 1 rfl rfl)
theorem dX5_wearOf_2 : decode cX5_wearOf 2 = .ok (.iconst 2, 1) := dk_5 (dk_at dksX5_wearOf_0 2 rfl rfl)
theorem dX5_wearOf_3 : decode cX5_wearOf 3 = .ok (.invokevirtual 101, 3) := dk_182 0 101 (dk_at dksX5_wearOf_0 3 rfl rfl)
theorem dX5_wearOf_6 : decode cX5_wearOf 6 = .ok (.istore_n 3, 1) := dk_62 (dk_at dksX5_wearOf_0 6 rfl rfl)
theorem dX5_wearOf_7 : decode cX5_wearOf 7 = .ok (.iload_n 3, 1) := dk_29 (dk_at dksX5_wearOf_0 7 rfl rfl)
theorem dX5_wearOf_8 : decode cX5_wearOf 8 = .ok (.iconst 3, 1) := dk_6 (dk_at dksX5_wearOf_0 8 rfl rfl)
theorem dX5_wearOf_9 : decode cX5_wearOf 9 = .ok (.if_icmp .eq 19, 3) := dk_159 0 19 (dk_at dksX5_wearOf_0 9 rfl rfl)
theorem dX5_wearOf_12 : decode cX5_wearOf 12 = .ok (.aload_n 0, 1) := dk_42 (dk_at dksX5_wearOf_0 12 rfl rfl)
theorem dX5_wearOf_13 : decode cX5_wearOf 13 = .ok (.iload_n 2, 1) := dk_28 (dk_at dksX5_wearOf_0 13 rfl rfl)
theorem dX5_wearOf_14 : decode cX5_wearOf 14 = .ok (.invokevirtual 190, 3) := dk_182 0 190 (dk_at dksX5_wearOf_0 14 rfl rfl)
theorem dX5_wearOf_17 : decode cX5_wearOf 17 = .ok (.invokestatic 196, 3) := dk_184 0 196 (dk_at dksX5_wearOf_0 17 rfl rfl)
theorem dX5_wearOf_20 : decode cX5_wearOf 20 = .ok (.iconst 2, 1) := dk_5 (dk_at dksX5_wearOf_0 20 rfl rfl)
theorem dX5_wearOf_21 : decode cX5_wearOf 21 = .ok (.if_icmp .ne 7, 3) := dk_160 0 7 (dk_at dksX5_wearOf_0 21 rfl rfl)
theorem dX5_wearOf_24 : decode cX5_wearOf 24 = .ok (.iconst 1, 1) := dk_4 (dk_at dksX5_wearOf_1 0 rfl rfl)
theorem dX5_wearOf_25 : decode cX5_wearOf 25 = .ok (.goto 4, 3) := dk_167 0 4 (dk_at dksX5_wearOf_1 1 rfl rfl)
theorem dX5_wearOf_28 : decode cX5_wearOf 28 = .ok (.iconst 0, 1) := dk_3 (dk_at dksX5_wearOf_1 4 rfl rfl)
theorem dX5_wearOf_29 : decode cX5_wearOf 29 = .ok (.istore 4, 2) := dk_54 4 (dk_at dksX5_wearOf_1 5 rfl rfl)
theorem dX5_wearOf_31 : decode cX5_wearOf 31 = .ok (.iload_n 3, 1) := dk_29 (dk_at dksX5_wearOf_1 7 rfl rfl)
theorem dX5_wearOf_32 : decode cX5_wearOf 32 = .ok (.ifCond .ne 7, 3) := dk_154 0 7 (dk_at dksX5_wearOf_1 8 rfl rfl)
theorem dX5_wearOf_35 : decode cX5_wearOf 35 = .ok (.iconst 1, 1) := dk_4 (dk_at dksX5_wearOf_1 11 rfl rfl)
theorem dX5_wearOf_36 : decode cX5_wearOf 36 = .ok (.goto 13, 3) := dk_167 0 13 (dk_at dksX5_wearOf_1 12 rfl rfl)
theorem dX5_wearOf_39 : decode cX5_wearOf 39 = .ok (.iload_n 3, 1) := dk_29 (dk_at dksX5_wearOf_1 15 rfl rfl)
theorem dX5_wearOf_40 : decode cX5_wearOf 40 = .ok (.iconst 2, 1) := dk_5 (dk_at dksX5_wearOf_1 16 rfl rfl)
theorem dX5_wearOf_41 : decode cX5_wearOf 41 = .ok (.if_icmp .ne 7, 3) := dk_160 0 7 (dk_at dksX5_wearOf_1 17 rfl rfl)
theorem dX5_wearOf_44 : decode cX5_wearOf 44 = .ok (.iconst 2, 1) := dk_5 (dk_at dksX5_wearOf_1 20 rfl rfl)
theorem dX5_wearOf_45 : decode cX5_wearOf 45 = .ok (.goto 4, 3) := dk_167 0 4 (dk_at dksX5_wearOf_1 21 rfl rfl)
theorem dX5_wearOf_48 : decode cX5_wearOf 48 = .ok (.iconst 0, 1) := dk_3 (dk_at dksX5_wearOf_2 0 rfl rfl)
theorem dX5_wearOf_49 : decode cX5_wearOf 49 = .ok (.iload 4, 2) := dk_21 4 (dk_at dksX5_wearOf_2 1 rfl rfl)
theorem dX5_wearOf_51 : decode cX5_wearOf 51 = .ok (.iadd, 1) := dk_96 (dk_at dksX5_wearOf_2 3 rfl rfl)
theorem dX5_wearOf_52 : decode cX5_wearOf 52 = .ok (.ireturn, 1) := dk_172 (dk_at dksX5_wearOf_2 4 rfl rfl)
abbrev cX5_crumbles : ByteArray := prog_25_method_58_code
def yX5_crumbles : MethodName := ⟨RX5, "crumbles", "(I)V"⟩
def dkwX5_crumbles_1 : List UInt8 := [180, 0, 22, 28, 46, 182, 0, 219, 132, 2, 1, 167, 255, 235, 177]
abbrev dktX5_crumbles_1 : List UInt8 := dkwX5_crumbles_1 ++ []
def dkwX5_crumbles_0 : List UInt8 := [42, 4, 181, 0, 216, 42, 180, 0, 22, 3, 27, 79, 3, 61, 28, 42, 180, 0, 216, 162, 0, 19, 42, 42]
abbrev dktX5_crumbles_0 : List UInt8 := dkwX5_crumbles_0 ++ dktX5_crumbles_1
theorem dksX5_crumbles_0 : cX5_crumbles.data.toList.drop 0 = dktX5_crumbles_0 := by decide +kernel
theorem dksX5_crumbles_1 : cX5_crumbles.data.toList.drop 24 = dktX5_crumbles_1 := dk_seg dksX5_crumbles_0 24 rfl rfl
theorem dX5_crumbles_0 : decode cX5_crumbles 0 = .ok (.aload_n 0, 1) := dk_42 (dk_at dksX5_crumbles_0 0 rfl rfl)
theorem dX5_crumbles_1 : decode cX5_crumbles 1 = .ok (.iconst 1, 1) := dk_4 (dk_at dksX5_crumbles_0 1 rfl rfl)
theorem dX5_crumbles_2 : decode cX5_crumbles 2 = .ok (.putfield 216, 3) := dk_181 0 216 (dk_at dksX5_crumbles_0 2 rfl rfl)
theorem dX5_crumbles_5 : decode cX5_crumbles 5 = .ok (.aload_n 0, 1) := dk_42 (dk_at dksX5_crumbles_0 5 rfl rfl)
theorem dX5_crumbles_6 : decode cX5_crumbles 6 = .ok (.getfield 22, 3) := dk_180 0 22 (dk_at dksX5_crumbles_0 6 rfl rfl)
theorem dX5_crumbles_9 : decode cX5_crumbles 9 = .ok (.iconst 0, 1) := dk_3 (dk_at dksX5_crumbles_0 9 rfl rfl)
theorem dX5_crumbles_10 : decode cX5_crumbles 10 = .ok (.iload_n 1, 1) := dk_27 (dk_at dksX5_crumbles_0 10 rfl rfl)
theorem dX5_crumbles_11 : decode cX5_crumbles 11 = .ok (.iastore, 1) := dk_79 (dk_at dksX5_crumbles_0 11 rfl rfl)
theorem dX5_crumbles_12 : decode cX5_crumbles 12 = .ok (.iconst 0, 1) := dk_3 (dk_at dksX5_crumbles_0 12 rfl rfl)
theorem dX5_crumbles_13 : decode cX5_crumbles 13 = .ok (.istore_n 2, 1) := dk_61 (dk_at dksX5_crumbles_0 13 rfl rfl)
theorem dX5_crumbles_14 : decode cX5_crumbles 14 = .ok (.iload_n 2, 1) := dk_28 (dk_at dksX5_crumbles_0 14 rfl rfl)
theorem dX5_crumbles_15 : decode cX5_crumbles 15 = .ok (.aload_n 0, 1) := dk_42 (dk_at dksX5_crumbles_0 15 rfl rfl)
theorem dX5_crumbles_16 : decode cX5_crumbles 16 = .ok (.getfield 216, 3) := dk_180 0 216 (dk_at dksX5_crumbles_0 16 rfl rfl)
theorem dX5_crumbles_19 : decode cX5_crumbles 19 = .ok (.if_icmp .ge 19, 3) := dk_162 0 19 (dk_at dksX5_crumbles_0 19 rfl rfl)
theorem dX5_crumbles_22 : decode cX5_crumbles 22 = .ok (.aload_n 0, 1) := dk_42 (dk_at dksX5_crumbles_0 22 rfl rfl)
theorem dX5_crumbles_23 : decode cX5_crumbles 23 = .ok (.aload_n 0, 1) := dk_42 (dk_at dksX5_crumbles_0 23 rfl rfl)
theorem dX5_crumbles_24 : decode cX5_crumbles 24 = .ok (.getfield 22, 3) := dk_180 0 22 (dk_at dksX5_crumbles_1 0 rfl rfl)
theorem dX5_crumbles_27 : decode cX5_crumbles 27 = .ok (.iload_n 2, 1) := dk_28 (dk_at dksX5_crumbles_1 3 rfl rfl)
theorem dX5_crumbles_28 : decode cX5_crumbles 28 = .ok (.iaload, 1) := dk_46 (dk_at dksX5_crumbles_1 4 rfl rfl)
theorem dX5_crumbles_29 : decode cX5_crumbles 29 = .ok (.invokevirtual 219, 3) := dk_182 0 219 (dk_at dksX5_crumbles_1 5 rfl rfl)
theorem dX5_crumbles_32 : decode cX5_crumbles 32 = .ok (.iinc 2 1, 3) := dk_132 2 1 (dk_at dksX5_crumbles_1 8 rfl rfl)
theorem dX5_crumbles_35 : decode cX5_crumbles 35 = .ok (.goto (-21), 3) := dk_167 255 235 (dk_at dksX5_crumbles_1 11 rfl rfl)
theorem dX5_crumbles_38 : decode cX5_crumbles 38 = .ok (.return_, 1) := dk_177 (dk_at dksX5_crumbles_1 14 rfl rfl)
abbrev cX5_treats : ByteArray := prog_25_method_59_code
def yX5_treats : MethodName := ⟨RX5, "treats", "(I)V"⟩
def dkwX5_treats_4 : List UInt8 := [182, 0, 228, 177]
abbrev dktX5_treats_4 : List UInt8 := dkwX5_treats_4 ++ []
def dkwX5_treats_3 : List UInt8 := [182, 0, 113, 27, 160, 0, 8, 42, 27, 182, 0, 225, 42, 4, 182, 0, 113, 27, 160, 0, 7, 42]
abbrev dktX5_treats_3 : List UInt8 := dkwX5_treats_3 ++ dktX5_treats_4
def dkwX5_treats_2 : List UInt8 := [184, 0, 94, 2, 79, 42, 180, 0, 7, 28, 7, 184, 0, 94, 3, 79, 132, 2, 1, 167, 255, 198, 42, 3]
abbrev dktX5_treats_2 : List UInt8 := dkwX5_treats_2 ++ dktX5_treats_3
def dkwX5_treats_1 : List UInt8 := [156, 0, 38, 42, 28, 3, 182, 0, 110, 27, 159, 0, 6, 167, 0, 25, 42, 180, 0, 7, 28, 3]
abbrev dktX5_treats_1 : List UInt8 := dkwX5_treats_1 ++ dktX5_treats_2
def dkwX5_treats_0 : List UInt8 := [42, 27, 182, 0, 222, 3, 61, 28, 42, 180, 0, 7, 16, 104, 46, 162, 0, 53, 42, 28, 4, 182, 0, 110]
abbrev dktX5_treats_0 : List UInt8 := dkwX5_treats_0 ++ dktX5_treats_1
theorem dksX5_treats_0 : cX5_treats.data.toList.drop 0 = dktX5_treats_0 := by decide +kernel
theorem dksX5_treats_1 : cX5_treats.data.toList.drop 24 = dktX5_treats_1 := dk_seg dksX5_treats_0 24 rfl rfl
theorem dksX5_treats_2 : cX5_treats.data.toList.drop 46 = dktX5_treats_2 := dk_seg dksX5_treats_1 22 rfl rfl
theorem dksX5_treats_3 : cX5_treats.data.toList.drop 70 = dktX5_treats_3 := dk_seg dksX5_treats_2 24 rfl rfl
theorem dksX5_treats_4 : cX5_treats.data.toList.drop 92 = dktX5_treats_4 := dk_seg dksX5_treats_3 22 rfl rfl
theorem dX5_treats_0 : decode cX5_treats 0 = .ok (.aload_n 0, 1) := dk_42 (dk_at dksX5_treats_0 0 rfl rfl)
theorem dX5_treats_1 : decode cX5_treats 1 = .ok (.iload_n 1, 1) := dk_27 (dk_at dksX5_treats_0 1 rfl rfl)
theorem dX5_treats_2 : decode cX5_treats 2 = .ok (.invokevirtual 222, 3) := dk_182 0 222 (dk_at dksX5_treats_0 2 rfl rfl)
theorem dX5_treats_5 : decode cX5_treats 5 = .ok (.iconst 0, 1) := dk_3 (dk_at dksX5_treats_0 5 rfl rfl)
theorem dX5_treats_6 : decode cX5_treats 6 = .ok (.istore_n 2, 1) := dk_61 (dk_at dksX5_treats_0 6 rfl rfl)
theorem dX5_treats_7 : decode cX5_treats 7 = .ok (.iload_n 2, 1) := dk_28 (dk_at dksX5_treats_0 7 rfl rfl)
theorem dX5_treats_8 : decode cX5_treats 8 = .ok (.aload_n 0, 1) := dk_42 (dk_at dksX5_treats_0 8 rfl rfl)
theorem dX5_treats_9 : decode cX5_treats 9 = .ok (.getfield 7, 3) := dk_180 0 7 (dk_at dksX5_treats_0 9 rfl rfl)
theorem dX5_treats_12 : decode cX5_treats 12 = .ok (.bipush 104, 2) := dk_16 104 (dk_at dksX5_treats_0 12 rfl rfl)
theorem dX5_treats_14 : decode cX5_treats 14 = .ok (.iaload, 1) := dk_46 (dk_at dksX5_treats_0 14 rfl rfl)
theorem dX5_treats_15 : decode cX5_treats 15 = .ok (.if_icmp .ge 53, 3) := dk_162 0 53 (dk_at dksX5_treats_0 15 rfl rfl)
theorem dX5_treats_18 : decode cX5_treats 18 = .ok (.aload_n 0, 1) := dk_42 (dk_at dksX5_treats_0 18 rfl rfl)
theorem dX5_treats_19 : decode cX5_treats 19 = .ok (.iload_n 2, 1) := dk_28 (dk_at dksX5_treats_0 19 rfl rfl)
theorem dX5_treats_20 : decode cX5_treats 20 = .ok (.iconst 1, 1) := dk_4 (dk_at dksX5_treats_0 20 rfl rfl)
theorem dX5_treats_21 : decode cX5_treats 21 = .ok (.invokevirtual 110, 3) := dk_182 0 110 (dk_at dksX5_treats_0 21 rfl rfl)
theorem dX5_treats_24 : decode cX5_treats 24 = .ok (.ifCond .ge 38, 3) := dk_156 0 38 (dk_at dksX5_treats_1 0 rfl rfl)
theorem dX5_treats_27 : decode cX5_treats 27 = .ok (.aload_n 0, 1) := dk_42 (dk_at dksX5_treats_1 3 rfl rfl)
theorem dX5_treats_28 : decode cX5_treats 28 = .ok (.iload_n 2, 1) := dk_28 (dk_at dksX5_treats_1 4 rfl rfl)
theorem dX5_treats_29 : decode cX5_treats 29 = .ok (.iconst 0, 1) := dk_3 (dk_at dksX5_treats_1 5 rfl rfl)
theorem dX5_treats_30 : decode cX5_treats 30 = .ok (.invokevirtual 110, 3) := dk_182 0 110 (dk_at dksX5_treats_1 6 rfl rfl)
theorem dX5_treats_33 : decode cX5_treats 33 = .ok (.iload_n 1, 1) := dk_27 (dk_at dksX5_treats_1 9 rfl rfl)
theorem dX5_treats_34 : decode cX5_treats 34 = .ok (.if_icmp .eq 6, 3) := dk_159 0 6 (dk_at dksX5_treats_1 10 rfl rfl)
theorem dX5_treats_37 : decode cX5_treats 37 = .ok (.goto 25, 3) := dk_167 0 25 (dk_at dksX5_treats_1 13 rfl rfl)
theorem dX5_treats_40 : decode cX5_treats 40 = .ok (.aload_n 0, 1) := dk_42 (dk_at dksX5_treats_1 16 rfl rfl)
theorem dX5_treats_41 : decode cX5_treats 41 = .ok (.getfield 7, 3) := dk_180 0 7 (dk_at dksX5_treats_1 17 rfl rfl)
theorem dX5_treats_44 : decode cX5_treats 44 = .ok (.iload_n 2, 1) := dk_28 (dk_at dksX5_treats_1 20 rfl rfl)
theorem dX5_treats_45 : decode cX5_treats 45 = .ok (.iconst 0, 1) := dk_3 (dk_at dksX5_treats_1 21 rfl rfl)
theorem dX5_treats_46 : decode cX5_treats 46 = .ok (.invokestatic 94, 3) := dk_184 0 94 (dk_at dksX5_treats_2 0 rfl rfl)
theorem dX5_treats_49 : decode cX5_treats 49 = .ok (.iconst (-1), 1) := dk_2 (dk_at dksX5_treats_2 3 rfl rfl)
theorem dX5_treats_50 : decode cX5_treats 50 = .ok (.iastore, 1) := dk_79 (dk_at dksX5_treats_2 4 rfl rfl)
theorem dX5_treats_51 : decode cX5_treats 51 = .ok (.aload_n 0, 1) := dk_42 (dk_at dksX5_treats_2 5 rfl rfl)
theorem dX5_treats_52 : decode cX5_treats 52 = .ok (.getfield 7, 3) := dk_180 0 7 (dk_at dksX5_treats_2 6 rfl rfl)
theorem dX5_treats_55 : decode cX5_treats 55 = .ok (.iload_n 2, 1) := dk_28 (dk_at dksX5_treats_2 9 rfl rfl)
theorem dX5_treats_56 : decode cX5_treats 56 = .ok (.iconst 4, 1) := dk_7 (dk_at dksX5_treats_2 10 rfl rfl)
theorem dX5_treats_57 : decode cX5_treats 57 = .ok (.invokestatic 94, 3) := dk_184 0 94 (dk_at dksX5_treats_2 11 rfl rfl)
theorem dX5_treats_60 : decode cX5_treats 60 = .ok (.iconst 0, 1) := dk_3 (dk_at dksX5_treats_2 14 rfl rfl)
theorem dX5_treats_61 : decode cX5_treats 61 = .ok (.iastore, 1) := dk_79 (dk_at dksX5_treats_2 15 rfl rfl)
theorem dX5_treats_62 : decode cX5_treats 62 = .ok (.iinc 2 1, 3) := dk_132 2 1 (dk_at dksX5_treats_2 16 rfl rfl)
theorem dX5_treats_65 : decode cX5_treats 65 = .ok (.goto (-58), 3) := dk_167 255 198 (dk_at dksX5_treats_2 19 rfl rfl)
theorem dX5_treats_68 : decode cX5_treats 68 = .ok (.aload_n 0, 1) := dk_42 (dk_at dksX5_treats_2 22 rfl rfl)
theorem dX5_treats_69 : decode cX5_treats 69 = .ok (.iconst 0, 1) := dk_3 (dk_at dksX5_treats_2 23 rfl rfl)
theorem dX5_treats_70 : decode cX5_treats 70 = .ok (.invokevirtual 113, 3) := dk_182 0 113 (dk_at dksX5_treats_3 0 rfl rfl)
theorem dX5_treats_73 : decode cX5_treats 73 = .ok (.iload_n 1, 1) := dk_27 (dk_at dksX5_treats_3 3 rfl rfl)
theorem dX5_treats_74 : decode cX5_treats 74 = .ok (.if_icmp .ne 8, 3) := dk_160 0 8 (dk_at dksX5_treats_3 4 rfl rfl)
theorem dX5_treats_77 : decode cX5_treats 77 = .ok (.aload_n 0, 1) := dk_42 (dk_at dksX5_treats_3 7 rfl rfl)
theorem dX5_treats_78 : decode cX5_treats 78 = .ok (.iload_n 1, 1) := dk_27 (dk_at dksX5_treats_3 8 rfl rfl)
theorem dX5_treats_79 : decode cX5_treats 79 = .ok (.invokevirtual 225, 3) := dk_182 0 225 (dk_at dksX5_treats_3 9 rfl rfl)
theorem dX5_treats_82 : decode cX5_treats 82 = .ok (.aload_n 0, 1) := dk_42 (dk_at dksX5_treats_3 12 rfl rfl)
theorem dX5_treats_83 : decode cX5_treats 83 = .ok (.iconst 1, 1) := dk_4 (dk_at dksX5_treats_3 13 rfl rfl)
theorem dX5_treats_84 : decode cX5_treats 84 = .ok (.invokevirtual 113, 3) := dk_182 0 113 (dk_at dksX5_treats_3 14 rfl rfl)
theorem dX5_treats_87 : decode cX5_treats 87 = .ok (.iload_n 1, 1) := dk_27 (dk_at dksX5_treats_3 17 rfl rfl)
theorem dX5_treats_88 : decode cX5_treats 88 = .ok (.if_icmp .ne 7, 3) := dk_160 0 7 (dk_at dksX5_treats_3 18 rfl rfl)
theorem dX5_treats_91 : decode cX5_treats 91 = .ok (.aload_n 0, 1) := dk_42 (dk_at dksX5_treats_3 21 rfl rfl)
theorem dX5_treats_92 : decode cX5_treats 92 = .ok (.invokevirtual 228, 3) := dk_182 0 228 (dk_at dksX5_treats_4 0 rfl rfl)
theorem dX5_treats_95 : decode cX5_treats 95 = .ok (.return_, 1) := dk_177 (dk_at dksX5_treats_4 3 rfl rfl)
abbrev cX5_takesOut : ByteArray := prog_25_method_40_code
def yX5_takesOut : MethodName := ⟨RX5, "takesOut", "(I)V"⟩
def dkwX5_takesOut_3 : List UInt8 := [79, 177]
abbrev dktX5_takesOut_3 : List UInt8 := dkwX5_takesOut_3 ++ []
def dkwX5_takesOut_2 : List UInt8 := [17, 0, 132, 29, 96, 46, 79, 132, 2, 1, 132, 3, 1, 167, 255, 201, 42, 180, 0, 7, 17, 0, 131, 28]
abbrev dktX5_takesOut_2 : List UInt8 := dkwX5_takesOut_2 ++ dktX5_takesOut_3
def dkwX5_takesOut_1 : List UInt8 := [96, 46, 27, 160, 0, 6, 167, 0, 26, 42, 180, 0, 7, 17, 0, 132, 28, 96, 42, 180, 0, 7]
abbrev dktX5_takesOut_1 : List UInt8 := dkwX5_takesOut_1 ++ dktX5_takesOut_2
def dkwX5_takesOut_0 : List UInt8 := [3, 61, 3, 62, 29, 42, 180, 0, 7, 17, 0, 131, 46, 162, 0, 49, 42, 180, 0, 7, 17, 0, 132, 29]
abbrev dktX5_takesOut_0 : List UInt8 := dkwX5_takesOut_0 ++ dktX5_takesOut_1
theorem dksX5_takesOut_0 : cX5_takesOut.data.toList.drop 0 = dktX5_takesOut_0 := by decide +kernel
theorem dksX5_takesOut_1 : cX5_takesOut.data.toList.drop 24 = dktX5_takesOut_1 := dk_seg dksX5_takesOut_0 24 rfl rfl
theorem dksX5_takesOut_2 : cX5_takesOut.data.toList.drop 46 = dktX5_takesOut_2 := dk_seg dksX5_takesOut_1 22 rfl rfl
theorem dksX5_takesOut_3 : cX5_takesOut.data.toList.drop 70 = dktX5_takesOut_3 := dk_seg dksX5_takesOut_2 24 rfl rfl
theorem dX5_takesOut_0 : decode cX5_takesOut 0 = .ok (.iconst 0, 1) := dk_3 (dk_at dksX5_takesOut_0 0 rfl rfl)
theorem dX5_takesOut_1 : decode cX5_takesOut 1 = .ok (.istore_n 2, 1) := dk_61 (dk_at dksX5_takesOut_0 1 rfl rfl)
theorem dX5_takesOut_2 : decode cX5_takesOut 2 = .ok (.iconst 0, 1) := dk_3 (dk_at dksX5_takesOut_0 2 rfl rfl)
theorem dX5_takesOut_3 : decode cX5_takesOut 3 = .ok (.istore_n 3, 1) := dk_62 (dk_at dksX5_takesOut_0 3 rfl rfl)
theorem dX5_takesOut_4 : decode cX5_takesOut 4 = .ok (.iload_n 3, 1) := dk_29 (dk_at dksX5_takesOut_0 4 rfl rfl)
theorem dX5_takesOut_5 : decode cX5_takesOut 5 = .ok (.aload_n 0, 1) := dk_42 (dk_at dksX5_takesOut_0 5 rfl rfl)
theorem dX5_takesOut_6 : decode cX5_takesOut 6 = .ok (.getfield 7, 3) := dk_180 0 7 (dk_at dksX5_takesOut_0 6 rfl rfl)
theorem dX5_takesOut_9 : decode cX5_takesOut 9 = .ok (.sipush 131, 3) := dk_17 0 131 (dk_at dksX5_takesOut_0 9 rfl rfl)
theorem dX5_takesOut_12 : decode cX5_takesOut 12 = .ok (.iaload, 1) := dk_46 (dk_at dksX5_takesOut_0 12 rfl rfl)
theorem dX5_takesOut_13 : decode cX5_takesOut 13 = .ok (.if_icmp .ge 49, 3) := dk_162 0 49 (dk_at dksX5_takesOut_0 13 rfl rfl)
theorem dX5_takesOut_16 : decode cX5_takesOut 16 = .ok (.aload_n 0, 1) := dk_42 (dk_at dksX5_takesOut_0 16 rfl rfl)
theorem dX5_takesOut_17 : decode cX5_takesOut 17 = .ok (.getfield 7, 3) := dk_180 0 7 (dk_at dksX5_takesOut_0 17 rfl rfl)
theorem dX5_takesOut_20 : decode cX5_takesOut 20 = .ok (.sipush 132, 3) := dk_17 0 132 (dk_at dksX5_takesOut_0 20 rfl rfl)
theorem dX5_takesOut_23 : decode cX5_takesOut 23 = .ok (.iload_n 3, 1) := dk_29 (dk_at dksX5_takesOut_0 23 rfl rfl)
theorem dX5_takesOut_24 : decode cX5_takesOut 24 = .ok (.iadd, 1) := dk_96 (dk_at dksX5_takesOut_1 0 rfl rfl)
theorem dX5_takesOut_25 : decode cX5_takesOut 25 = .ok (.iaload, 1) := dk_46 (dk_at dksX5_takesOut_1 1 rfl rfl)
theorem dX5_takesOut_26 : decode cX5_takesOut 26 = .ok (.iload_n 1, 1) := dk_27 (dk_at dksX5_takesOut_1 2 rfl rfl)
theorem dX5_takesOut_27 : decode cX5_takesOut 27 = .ok (.if_icmp .ne 6, 3) := dk_160 0 6 (dk_at dksX5_takesOut_1 3 rfl rfl)
theorem dX5_takesOut_30 : decode cX5_takesOut 30 = .ok (.goto 26, 3) := dk_167 0 26 (dk_at dksX5_takesOut_1 6 rfl rfl)
theorem dX5_takesOut_33 : decode cX5_takesOut 33 = .ok (.aload_n 0, 1) := dk_42 (dk_at dksX5_takesOut_1 9 rfl rfl)
theorem dX5_takesOut_34 : decode cX5_takesOut 34 = .ok (.getfield 7, 3) := dk_180 0 7 (dk_at dksX5_takesOut_1 10 rfl rfl)
theorem dX5_takesOut_37 : decode cX5_takesOut 37 = .ok (.sipush 132, 3) := dk_17 0 132 (dk_at dksX5_takesOut_1 13 rfl rfl)
theorem dX5_takesOut_40 : decode cX5_takesOut 40 = .ok (.iload_n 2, 1) := dk_28 (dk_at dksX5_takesOut_1 16 rfl rfl)
theorem dX5_takesOut_41 : decode cX5_takesOut 41 = .ok (.iadd, 1) := dk_96 (dk_at dksX5_takesOut_1 17 rfl rfl)
theorem dX5_takesOut_42 : decode cX5_takesOut 42 = .ok (.aload_n 0, 1) := dk_42 (dk_at dksX5_takesOut_1 18 rfl rfl)
theorem dX5_takesOut_43 : decode cX5_takesOut 43 = .ok (.getfield 7, 3) := dk_180 0 7 (dk_at dksX5_takesOut_1 19 rfl rfl)
theorem dX5_takesOut_46 : decode cX5_takesOut 46 = .ok (.sipush 132, 3) := dk_17 0 132 (dk_at dksX5_takesOut_2 0 rfl rfl)
theorem dX5_takesOut_49 : decode cX5_takesOut 49 = .ok (.iload_n 3, 1) := dk_29 (dk_at dksX5_takesOut_2 3 rfl rfl)
theorem dX5_takesOut_50 : decode cX5_takesOut 50 = .ok (.iadd, 1) := dk_96 (dk_at dksX5_takesOut_2 4 rfl rfl)
theorem dX5_takesOut_51 : decode cX5_takesOut 51 = .ok (.iaload, 1) := dk_46 (dk_at dksX5_takesOut_2 5 rfl rfl)
theorem dX5_takesOut_52 : decode cX5_takesOut 52 = .ok (.iastore, 1) := dk_79 (dk_at dksX5_takesOut_2 6 rfl rfl)
theorem dX5_takesOut_53 : decode cX5_takesOut 53 = .ok (.iinc 2 1, 3) := dk_132 2 1 (dk_at dksX5_takesOut_2 7 rfl rfl)
theorem dX5_takesOut_56 : decode cX5_takesOut 56 = .ok (.iinc 3 1, 3) := dk_132 3 1 (dk_at dksX5_takesOut_2 10 rfl rfl)
theorem dX5_takesOut_59 : decode cX5_takesOut 59 = .ok (.goto (-55), 3) := dk_167 255 201 (dk_at dksX5_takesOut_2 13 rfl rfl)
theorem dX5_takesOut_62 : decode cX5_takesOut 62 = .ok (.aload_n 0, 1) := dk_42 (dk_at dksX5_takesOut_2 16 rfl rfl)
theorem dX5_takesOut_63 : decode cX5_takesOut 63 = .ok (.getfield 7, 3) := dk_180 0 7 (dk_at dksX5_takesOut_2 17 rfl rfl)
theorem dX5_takesOut_66 : decode cX5_takesOut 66 = .ok (.sipush 131, 3) := dk_17 0 131 (dk_at dksX5_takesOut_2 20 rfl rfl)
theorem dX5_takesOut_69 : decode cX5_takesOut 69 = .ok (.iload_n 2, 1) := dk_28 (dk_at dksX5_takesOut_2 23 rfl rfl)
theorem dX5_takesOut_70 : decode cX5_takesOut 70 = .ok (.iastore, 1) := dk_79 (dk_at dksX5_takesOut_3 0 rfl rfl)
theorem dX5_takesOut_71 : decode cX5_takesOut 71 = .ok (.return_, 1) := dk_177 (dk_at dksX5_takesOut_3 1 rfl rfl)
abbrev cX5_leaderFalls : ByteArray := prog_25_method_64_code
def yX5_leaderFalls : MethodName := ⟨RX5, "leaderFalls", "(I)V"⟩
def dkwX5_leaderFalls_7 : List UInt8 := [61, 167, 0, 9, 42, 3, 29, 182, 0, 231, 167, 255, 84, 177]
abbrev dktX5_leaderFalls_7 : List UInt8 := dkwX5_leaderFalls_7 ++ []
def dkwX5_leaderFalls_6 : List UInt8 := [182, 0, 222, 42, 180, 0, 22, 42, 180, 0, 216, 29, 79, 42, 89, 180, 0, 216, 4, 96, 181, 0, 216, 3]
abbrev dktX5_leaderFalls_6 : List UInt8 := dkwX5_leaderFalls_6 ++ dktX5_leaderFalls_7
def dkwX5_leaderFalls_5 : List UInt8 := [7, 184, 0, 90, 92, 46, 23, 6, 18, 248, 106, 139, 96, 79, 42, 29, 182, 0, 122, 153, 0, 33, 42, 29]
abbrev dktX5_leaderFalls_5 : List UInt8 := dkwX5_leaderFalls_5 ++ dktX5_leaderFalls_6
def dkwX5_leaderFalls_4 : List UInt8 := [110, 56, 6, 42, 23, 6, 182, 0, 244, 42, 29, 5, 182, 0, 101, 6, 159, 0, 22, 42, 180, 0, 7, 29]
abbrev dktX5_leaderFalls_4 : List UInt8 := dkwX5_leaderFalls_4 ++ dktX5_leaderFalls_5
def dkwX5_leaderFalls_3 : List UInt8 := [182, 0, 113, 27, 182, 0, 167, 54, 5, 21, 5, 154, 0, 7, 11, 167, 0, 10, 21, 4, 134, 21, 5, 134]
abbrev dktX5_leaderFalls_3 : List UInt8 := dkwX5_leaderFalls_3 ++ dktX5_leaderFalls_4
def dkwX5_leaderFalls_2 : List UInt8 := [17, 0, 131, 46, 96, 4, 100, 46, 62, 5, 42, 29, 27, 182, 0, 119, 104, 54, 4, 42, 42, 4]
abbrev dktX5_leaderFalls_2 : List UInt8 := dkwX5_leaderFalls_2 ++ dktX5_leaderFalls_3
def dkwX5_leaderFalls_1 : List UInt8 := [154, 0, 11, 42, 3, 182, 0, 235, 167, 255, 226, 42, 180, 0, 7, 17, 0, 132, 42, 180, 0, 7]
abbrev dktX5_leaderFalls_1 : List UInt8 := dkwX5_leaderFalls_1 ++ dktX5_leaderFalls_2
def dkwX5_leaderFalls_0 : List UInt8 := [3, 61, 28, 154, 0, 174, 4, 61, 42, 4, 182, 0, 193, 153, 0, 14, 42, 180, 0, 7, 17, 0, 131, 46]
abbrev dktX5_leaderFalls_0 : List UInt8 := dkwX5_leaderFalls_0 ++ dktX5_leaderFalls_1
theorem dksX5_leaderFalls_0 : cX5_leaderFalls.data.toList.drop 0 = dktX5_leaderFalls_0 := by decide +kernel
theorem dksX5_leaderFalls_1 : cX5_leaderFalls.data.toList.drop 24 = dktX5_leaderFalls_1 := dk_seg dksX5_leaderFalls_0 24 rfl rfl
theorem dksX5_leaderFalls_2 : cX5_leaderFalls.data.toList.drop 46 = dktX5_leaderFalls_2 := dk_seg dksX5_leaderFalls_1 22 rfl rfl
theorem dksX5_leaderFalls_3 : cX5_leaderFalls.data.toList.drop 68 = dktX5_leaderFalls_3 := dk_seg dksX5_leaderFalls_2 22 rfl rfl
theorem dksX5_leaderFalls_4 : cX5_leaderFalls.data.toList.drop 92 = dktX5_leaderFalls_4 := dk_seg dksX5_leaderFalls_3 24 rfl rfl
theorem dksX5_leaderFalls_5 : cX5_leaderFalls.data.toList.drop 116 = dktX5_leaderFalls_5 := dk_seg dksX5_leaderFalls_4 24 rfl rfl
theorem dksX5_leaderFalls_6 : cX5_leaderFalls.data.toList.drop 140 = dktX5_leaderFalls_6 := dk_seg dksX5_leaderFalls_5 24 rfl rfl
theorem dksX5_leaderFalls_7 : cX5_leaderFalls.data.toList.drop 164 = dktX5_leaderFalls_7 := dk_seg dksX5_leaderFalls_6 24 rfl rfl
theorem dX5_leaderFalls_0 : decode cX5_leaderFalls 0 = .ok (.iconst 0, 1) := dk_3 (dk_at dksX5_leaderFalls_0 0 rfl rfl)
theorem dX5_leaderFalls_1 : decode cX5_leaderFalls 1 = .ok (.istore_n 2, 1) := dk_61 (dk_at dksX5_leaderFalls_0 1 rfl rfl)
theorem dX5_leaderFalls_2 : decode cX5_leaderFalls 2 = .ok (.iload_n 2, 1) := dk_28 (dk_at dksX5_leaderFalls_0 2 rfl rfl)
theorem dX5_leaderFalls_3 : decode cX5_leaderFalls 3 = .ok (.ifCond .ne 174, 3) := dk_154 0 174 (dk_at dksX5_leaderFalls_0 3 rfl rfl)
theorem dX5_leaderFalls_6 : decode cX5_leaderFalls 6 = .ok (.iconst 1, 1) := dk_4 (dk_at dksX5_leaderFalls_0 6 rfl rfl)
theorem dX5_leaderFalls_7 : decode cX5_leaderFalls 7 = .ok (.istore_n 2, 1) := dk_61 (dk_at dksX5_leaderFalls_0 7 rfl rfl)
theorem dX5_leaderFalls_8 : decode cX5_leaderFalls 8 = .ok (.aload_n 0, 1) := dk_42 (dk_at dksX5_leaderFalls_0 8 rfl rfl)
theorem dX5_leaderFalls_9 : decode cX5_leaderFalls 9 = .ok (.iconst 1, 1) := dk_4 (dk_at dksX5_leaderFalls_0 9 rfl rfl)
theorem dX5_leaderFalls_10 : decode cX5_leaderFalls 10 = .ok (.invokevirtual 193, 3) := dk_182 0 193 (dk_at dksX5_leaderFalls_0 10 rfl rfl)
theorem dX5_leaderFalls_13 : decode cX5_leaderFalls 13 = .ok (.ifCond .eq 14, 3) := dk_153 0 14 (dk_at dksX5_leaderFalls_0 13 rfl rfl)
theorem dX5_leaderFalls_16 : decode cX5_leaderFalls 16 = .ok (.aload_n 0, 1) := dk_42 (dk_at dksX5_leaderFalls_0 16 rfl rfl)
theorem dX5_leaderFalls_17 : decode cX5_leaderFalls 17 = .ok (.getfield 7, 3) := dk_180 0 7 (dk_at dksX5_leaderFalls_0 17 rfl rfl)
theorem dX5_leaderFalls_20 : decode cX5_leaderFalls 20 = .ok (.sipush 131, 3) := dk_17 0 131 (dk_at dksX5_leaderFalls_0 20 rfl rfl)
theorem dX5_leaderFalls_23 : decode cX5_leaderFalls 23 = .ok (.iaload, 1) := dk_46 (dk_at dksX5_leaderFalls_0 23 rfl rfl)
theorem dX5_leaderFalls_24 : decode cX5_leaderFalls 24 = .ok (.ifCond .ne 11, 3) := dk_154 0 11 (dk_at dksX5_leaderFalls_1 0 rfl rfl)
theorem dX5_leaderFalls_27 : decode cX5_leaderFalls 27 = .ok (.aload_n 0, 1) := dk_42 (dk_at dksX5_leaderFalls_1 3 rfl rfl)
theorem dX5_leaderFalls_28 : decode cX5_leaderFalls 28 = .ok (.iconst 0, 1) := dk_3 (dk_at dksX5_leaderFalls_1 4 rfl rfl)
theorem dX5_leaderFalls_29 : decode cX5_leaderFalls 29 = .ok (.invokevirtual 235, 3) := dk_182 0 235 (dk_at dksX5_leaderFalls_1 5 rfl rfl)
theorem dX5_leaderFalls_32 : decode cX5_leaderFalls 32 = .ok (.goto (-30), 3) := dk_167 255 226 (dk_at dksX5_leaderFalls_1 8 rfl rfl)
theorem dX5_leaderFalls_35 : decode cX5_leaderFalls 35 = .ok (.aload_n 0, 1) := dk_42 (dk_at dksX5_leaderFalls_1 11 rfl rfl)
theorem dX5_leaderFalls_36 : decode cX5_leaderFalls 36 = .ok (.getfield 7, 3) := dk_180 0 7 (dk_at dksX5_leaderFalls_1 12 rfl rfl)
theorem dX5_leaderFalls_39 : decode cX5_leaderFalls 39 = .ok (.sipush 132, 3) := dk_17 0 132 (dk_at dksX5_leaderFalls_1 15 rfl rfl)
theorem dX5_leaderFalls_42 : decode cX5_leaderFalls 42 = .ok (.aload_n 0, 1) := dk_42 (dk_at dksX5_leaderFalls_1 18 rfl rfl)
theorem dX5_leaderFalls_43 : decode cX5_leaderFalls 43 = .ok (.getfield 7, 3) := dk_180 0 7 (dk_at dksX5_leaderFalls_1 19 rfl rfl)
theorem dX5_leaderFalls_46 : decode cX5_leaderFalls 46 = .ok (.sipush 131, 3) := dk_17 0 131 (dk_at dksX5_leaderFalls_2 0 rfl rfl)
theorem dX5_leaderFalls_49 : decode cX5_leaderFalls 49 = .ok (.iaload, 1) := dk_46 (dk_at dksX5_leaderFalls_2 3 rfl rfl)
theorem dX5_leaderFalls_50 : decode cX5_leaderFalls 50 = .ok (.iadd, 1) := dk_96 (dk_at dksX5_leaderFalls_2 4 rfl rfl)
theorem dX5_leaderFalls_51 : decode cX5_leaderFalls 51 = .ok (.iconst 1, 1) := dk_4 (dk_at dksX5_leaderFalls_2 5 rfl rfl)
theorem dX5_leaderFalls_52 : decode cX5_leaderFalls 52 = .ok (.isub, 1) := dk_100 (dk_at dksX5_leaderFalls_2 6 rfl rfl)
theorem dX5_leaderFalls_53 : decode cX5_leaderFalls 53 = .ok (.iaload, 1) := dk_46 (dk_at dksX5_leaderFalls_2 7 rfl rfl)
theorem dX5_leaderFalls_54 : decode cX5_leaderFalls 54 = .ok (.istore_n 3, 1) := dk_62 (dk_at dksX5_leaderFalls_2 8 rfl rfl)
theorem dX5_leaderFalls_55 : decode cX5_leaderFalls 55 = .ok (.iconst 2, 1) := dk_5 (dk_at dksX5_leaderFalls_2 9 rfl rfl)
theorem dX5_leaderFalls_56 : decode cX5_leaderFalls 56 = .ok (.aload_n 0, 1) := dk_42 (dk_at dksX5_leaderFalls_2 10 rfl rfl)
theorem dX5_leaderFalls_57 : decode cX5_leaderFalls 57 = .ok (.iload_n 3, 1) := dk_29 (dk_at dksX5_leaderFalls_2 11 rfl rfl)
theorem dX5_leaderFalls_58 : decode cX5_leaderFalls 58 = .ok (.iload_n 1, 1) := dk_27 (dk_at dksX5_leaderFalls_2 12 rfl rfl)
theorem dX5_leaderFalls_59 : decode cX5_leaderFalls 59 = .ok (.invokevirtual 119, 3) := dk_182 0 119 (dk_at dksX5_leaderFalls_2 13 rfl rfl)
theorem dX5_leaderFalls_62 : decode cX5_leaderFalls 62 = .ok (.imul, 1) := dk_104 (dk_at dksX5_leaderFalls_2 16 rfl rfl)
theorem dX5_leaderFalls_63 : decode cX5_leaderFalls 63 = .ok (.istore 4, 2) := dk_54 4 (dk_at dksX5_leaderFalls_2 17 rfl rfl)
theorem dX5_leaderFalls_65 : decode cX5_leaderFalls 65 = .ok (.aload_n 0, 1) := dk_42 (dk_at dksX5_leaderFalls_2 19 rfl rfl)
theorem dX5_leaderFalls_66 : decode cX5_leaderFalls 66 = .ok (.aload_n 0, 1) := dk_42 (dk_at dksX5_leaderFalls_2 20 rfl rfl)
theorem dX5_leaderFalls_67 : decode cX5_leaderFalls 67 = .ok (.iconst 1, 1) := dk_4 (dk_at dksX5_leaderFalls_2 21 rfl rfl)
theorem dX5_leaderFalls_68 : decode cX5_leaderFalls 68 = .ok (.invokevirtual 113, 3) := dk_182 0 113 (dk_at dksX5_leaderFalls_3 0 rfl rfl)
theorem dX5_leaderFalls_71 : decode cX5_leaderFalls 71 = .ok (.iload_n 1, 1) := dk_27 (dk_at dksX5_leaderFalls_3 3 rfl rfl)
theorem dX5_leaderFalls_72 : decode cX5_leaderFalls 72 = .ok (.invokevirtual 167, 3) := dk_182 0 167 (dk_at dksX5_leaderFalls_3 4 rfl rfl)
theorem dX5_leaderFalls_75 : decode cX5_leaderFalls 75 = .ok (.istore 5, 2) := dk_54 5 (dk_at dksX5_leaderFalls_3 7 rfl rfl)
theorem dX5_leaderFalls_77 : decode cX5_leaderFalls 77 = .ok (.iload 5, 2) := dk_21 5 (dk_at dksX5_leaderFalls_3 9 rfl rfl)
theorem dX5_leaderFalls_79 : decode cX5_leaderFalls 79 = .ok (.ifCond .ne 7, 3) := dk_154 0 7 (dk_at dksX5_leaderFalls_3 11 rfl rfl)
theorem dX5_leaderFalls_82 : decode cX5_leaderFalls 82 = .ok (.fconst 0, 1) := dk_11 (dk_at dksX5_leaderFalls_3 14 rfl rfl)
theorem dX5_leaderFalls_83 : decode cX5_leaderFalls 83 = .ok (.goto 10, 3) := dk_167 0 10 (dk_at dksX5_leaderFalls_3 15 rfl rfl)
theorem dX5_leaderFalls_86 : decode cX5_leaderFalls 86 = .ok (.iload 4, 2) := dk_21 4 (dk_at dksX5_leaderFalls_3 18 rfl rfl)
theorem dX5_leaderFalls_88 : decode cX5_leaderFalls 88 = .ok (.i2f, 1) := dk_134 (dk_at dksX5_leaderFalls_3 20 rfl rfl)
theorem dX5_leaderFalls_89 : decode cX5_leaderFalls 89 = .ok (.iload 5, 2) := dk_21 5 (dk_at dksX5_leaderFalls_3 21 rfl rfl)
theorem dX5_leaderFalls_91 : decode cX5_leaderFalls 91 = .ok (.i2f, 1) := dk_134 (dk_at dksX5_leaderFalls_3 23 rfl rfl)
theorem dX5_leaderFalls_92 : decode cX5_leaderFalls 92 = .ok (.fdiv, 1) := dk_110 (dk_at dksX5_leaderFalls_4 0 rfl rfl)
theorem dX5_leaderFalls_93 : decode cX5_leaderFalls 93 = .ok (.fstore 6, 2) := dk_56 6 (dk_at dksX5_leaderFalls_4 1 rfl rfl)
theorem dX5_leaderFalls_95 : decode cX5_leaderFalls 95 = .ok (.aload_n 0, 1) := dk_42 (dk_at dksX5_leaderFalls_4 3 rfl rfl)
theorem dX5_leaderFalls_96 : decode cX5_leaderFalls 96 = .ok (.fload 6, 2) := dk_23 6 (dk_at dksX5_leaderFalls_4 4 rfl rfl)
theorem dX5_leaderFalls_98 : decode cX5_leaderFalls 98 = .ok (.invokevirtual 244, 3) := dk_182 0 244 (dk_at dksX5_leaderFalls_4 6 rfl rfl)
theorem dX5_leaderFalls_101 : decode cX5_leaderFalls 101 = .ok (.aload_n 0, 1) := dk_42 (dk_at dksX5_leaderFalls_4 9 rfl rfl)
theorem dX5_leaderFalls_102 : decode cX5_leaderFalls 102 = .ok (.iload_n 3, 1) := dk_29 (dk_at dksX5_leaderFalls_4 10 rfl rfl)
theorem dX5_leaderFalls_103 : decode cX5_leaderFalls 103 = .ok (.iconst 2, 1) := dk_5 (dk_at dksX5_leaderFalls_4 11 rfl rfl)
theorem dX5_leaderFalls_104 : decode cX5_leaderFalls 104 = .ok (.invokevirtual 101, 3) := dk_182 0 101 (dk_at dksX5_leaderFalls_4 12 rfl rfl)
theorem dX5_leaderFalls_107 : decode cX5_leaderFalls 107 = .ok (.iconst 3, 1) := dk_6 (dk_at dksX5_leaderFalls_4 15 rfl rfl)
theorem dX5_leaderFalls_108 : decode cX5_leaderFalls 108 = .ok (.if_icmp .eq 22, 3) := dk_159 0 22 (dk_at dksX5_leaderFalls_4 16 rfl rfl)
theorem dX5_leaderFalls_111 : decode cX5_leaderFalls 111 = .ok (.aload_n 0, 1) := dk_42 (dk_at dksX5_leaderFalls_4 19 rfl rfl)
theorem dX5_leaderFalls_112 : decode cX5_leaderFalls 112 = .ok (.getfield 7, 3) := dk_180 0 7 (dk_at dksX5_leaderFalls_4 20 rfl rfl)
theorem dX5_leaderFalls_115 : decode cX5_leaderFalls 115 = .ok (.iload_n 3, 1) := dk_29 (dk_at dksX5_leaderFalls_4 23 rfl rfl)
theorem dX5_leaderFalls_116 : decode cX5_leaderFalls 116 = .ok (.iconst 4, 1) := dk_7 (dk_at dksX5_leaderFalls_5 0 rfl rfl)
theorem dX5_leaderFalls_117 : decode cX5_leaderFalls 117 = .ok (.invokestatic 90, 3) := dk_184 0 90 (dk_at dksX5_leaderFalls_5 1 rfl rfl)
theorem dX5_leaderFalls_120 : decode cX5_leaderFalls 120 = .ok (.dup2, 1) := dk_92 (dk_at dksX5_leaderFalls_5 4 rfl rfl)
theorem dX5_leaderFalls_121 : decode cX5_leaderFalls 121 = .ok (.iaload, 1) := dk_46 (dk_at dksX5_leaderFalls_5 5 rfl rfl)
theorem dX5_leaderFalls_122 : decode cX5_leaderFalls 122 = .ok (.fload 6, 2) := dk_23 6 (dk_at dksX5_leaderFalls_5 6 rfl rfl)
theorem dX5_leaderFalls_124 : decode cX5_leaderFalls 124 = .ok (.ldc 248, 2) := dk_18 248 (dk_at dksX5_leaderFalls_5 8 rfl rfl)
theorem dX5_leaderFalls_126 : decode cX5_leaderFalls 126 = .ok (.fmul, 1) := dk_106 (dk_at dksX5_leaderFalls_5 10 rfl rfl)
theorem dX5_leaderFalls_127 : decode cX5_leaderFalls 127 = .ok (.f2i, 1) := dk_139 (dk_at dksX5_leaderFalls_5 11 rfl rfl)
theorem dX5_leaderFalls_128 : decode cX5_leaderFalls 128 = .ok (.iadd, 1) := dk_96 (dk_at dksX5_leaderFalls_5 12 rfl rfl)
theorem dX5_leaderFalls_129 : decode cX5_leaderFalls 129 = .ok (.iastore, 1) := dk_79 (dk_at dksX5_leaderFalls_5 13 rfl rfl)
theorem dX5_leaderFalls_130 : decode cX5_leaderFalls 130 = .ok (.aload_n 0, 1) := dk_42 (dk_at dksX5_leaderFalls_5 14 rfl rfl)
theorem dX5_leaderFalls_131 : decode cX5_leaderFalls 131 = .ok (.iload_n 3, 1) := dk_29 (dk_at dksX5_leaderFalls_5 15 rfl rfl)
theorem dX5_leaderFalls_132 : decode cX5_leaderFalls 132 = .ok (.invokevirtual 122, 3) := dk_182 0 122 (dk_at dksX5_leaderFalls_5 16 rfl rfl)
theorem dX5_leaderFalls_135 : decode cX5_leaderFalls 135 = .ok (.ifCond .eq 33, 3) := dk_153 0 33 (dk_at dksX5_leaderFalls_5 19 rfl rfl)
theorem dX5_leaderFalls_138 : decode cX5_leaderFalls 138 = .ok (.aload_n 0, 1) := dk_42 (dk_at dksX5_leaderFalls_5 22 rfl rfl)
theorem dX5_leaderFalls_139 : decode cX5_leaderFalls 139 = .ok (.iload_n 3, 1) := dk_29 (dk_at dksX5_leaderFalls_5 23 rfl rfl)
theorem dX5_leaderFalls_140 : decode cX5_leaderFalls 140 = .ok (.invokevirtual 222, 3) := dk_182 0 222 (dk_at dksX5_leaderFalls_6 0 rfl rfl)
theorem dX5_leaderFalls_143 : decode cX5_leaderFalls 143 = .ok (.aload_n 0, 1) := dk_42 (dk_at dksX5_leaderFalls_6 3 rfl rfl)
theorem dX5_leaderFalls_144 : decode cX5_leaderFalls 144 = .ok (.getfield 22, 3) := dk_180 0 22 (dk_at dksX5_leaderFalls_6 4 rfl rfl)
theorem dX5_leaderFalls_147 : decode cX5_leaderFalls 147 = .ok (.aload_n 0, 1) := dk_42 (dk_at dksX5_leaderFalls_6 7 rfl rfl)
theorem dX5_leaderFalls_148 : decode cX5_leaderFalls 148 = .ok (.getfield 216, 3) := dk_180 0 216 (dk_at dksX5_leaderFalls_6 8 rfl rfl)
theorem dX5_leaderFalls_151 : decode cX5_leaderFalls 151 = .ok (.iload_n 3, 1) := dk_29 (dk_at dksX5_leaderFalls_6 11 rfl rfl)
theorem dX5_leaderFalls_152 : decode cX5_leaderFalls 152 = .ok (.iastore, 1) := dk_79 (dk_at dksX5_leaderFalls_6 12 rfl rfl)
theorem dX5_leaderFalls_153 : decode cX5_leaderFalls 153 = .ok (.aload_n 0, 1) := dk_42 (dk_at dksX5_leaderFalls_6 13 rfl rfl)
theorem dX5_leaderFalls_154 : decode cX5_leaderFalls 154 = .ok (.dup, 1) := dk_89 (dk_at dksX5_leaderFalls_6 14 rfl rfl)
theorem dX5_leaderFalls_155 : decode cX5_leaderFalls 155 = .ok (.getfield 216, 3) := dk_180 0 216 (dk_at dksX5_leaderFalls_6 15 rfl rfl)
theorem dX5_leaderFalls_158 : decode cX5_leaderFalls 158 = .ok (.iconst 1, 1) := dk_4 (dk_at dksX5_leaderFalls_6 18 rfl rfl)
theorem dX5_leaderFalls_159 : decode cX5_leaderFalls 159 = .ok (.iadd, 1) := dk_96 (dk_at dksX5_leaderFalls_6 19 rfl rfl)
theorem dX5_leaderFalls_160 : decode cX5_leaderFalls 160 = .ok (.putfield 216, 3) := dk_181 0 216 (dk_at dksX5_leaderFalls_6 20 rfl rfl)
theorem dX5_leaderFalls_163 : decode cX5_leaderFalls 163 = .ok (.iconst 0, 1) := dk_3 (dk_at dksX5_leaderFalls_6 23 rfl rfl)
theorem dX5_leaderFalls_164 : decode cX5_leaderFalls 164 = .ok (.istore_n 2, 1) := dk_61 (dk_at dksX5_leaderFalls_7 0 rfl rfl)
theorem dX5_leaderFalls_165 : decode cX5_leaderFalls 165 = .ok (.goto 9, 3) := dk_167 0 9 (dk_at dksX5_leaderFalls_7 1 rfl rfl)
theorem dX5_leaderFalls_168 : decode cX5_leaderFalls 168 = .ok (.aload_n 0, 1) := dk_42 (dk_at dksX5_leaderFalls_7 4 rfl rfl)
theorem dX5_leaderFalls_169 : decode cX5_leaderFalls 169 = .ok (.iconst 0, 1) := dk_3 (dk_at dksX5_leaderFalls_7 5 rfl rfl)
theorem dX5_leaderFalls_170 : decode cX5_leaderFalls 170 = .ok (.iload_n 3, 1) := dk_29 (dk_at dksX5_leaderFalls_7 6 rfl rfl)
theorem dX5_leaderFalls_171 : decode cX5_leaderFalls 171 = .ok (.invokevirtual 231, 3) := dk_182 0 231 (dk_at dksX5_leaderFalls_7 7 rfl rfl)
theorem dX5_leaderFalls_174 : decode cX5_leaderFalls 174 = .ok (.goto (-172), 3) := dk_167 255 84 (dk_at dksX5_leaderFalls_7 10 rfl rfl)
theorem dX5_leaderFalls_177 : decode cX5_leaderFalls 177 = .ok (.return_, 1) := dk_177 (dk_at dksX5_leaderFalls_7 13 rfl rfl)
abbrev cX5_toGround : ByteArray := prog_25_method_60_code
def yX5_toGround : MethodName := ⟨RX5, "toGround", "(I)V"⟩
def dkwX5_toGround_3 : List UInt8 := [182, 0, 202, 42, 27, 4, 5, 182, 0, 202, 42, 180, 0, 7, 17, 0, 144, 92, 46, 4, 96, 79, 177]
abbrev dktX5_toGround_3 : List UInt8 := dkwX5_toGround_3 ++ []
def dkwX5_toGround_2 : List UInt8 := [79, 42, 180, 0, 7, 28, 7, 184, 0, 94, 3, 79, 132, 2, 1, 167, 255, 196, 42, 27, 3, 2]
abbrev dktX5_toGround_2 : List UInt8 := dkwX5_toGround_2 ++ dktX5_toGround_3
def dkwX5_toGround_1 : List UInt8 := [167, 0, 36, 42, 180, 0, 7, 28, 4, 184, 0, 94, 2, 79, 42, 180, 0, 7, 28, 3, 184, 0, 94, 2]
abbrev dktX5_toGround_1 : List UInt8 := dkwX5_toGround_1 ++ dktX5_toGround_2
def dkwX5_toGround_0 : List UInt8 := [3, 61, 28, 42, 180, 0, 7, 16, 104, 46, 162, 0, 55, 42, 28, 4, 182, 0, 110, 27, 159, 0, 6]
abbrev dktX5_toGround_0 : List UInt8 := dkwX5_toGround_0 ++ dktX5_toGround_1
theorem dksX5_toGround_0 : cX5_toGround.data.toList.drop 0 = dktX5_toGround_0 := by decide +kernel
theorem dksX5_toGround_1 : cX5_toGround.data.toList.drop 23 = dktX5_toGround_1 := dk_seg dksX5_toGround_0 23 rfl rfl
theorem dksX5_toGround_2 : cX5_toGround.data.toList.drop 47 = dktX5_toGround_2 := dk_seg dksX5_toGround_1 24 rfl rfl
theorem dksX5_toGround_3 : cX5_toGround.data.toList.drop 69 = dktX5_toGround_3 := dk_seg dksX5_toGround_2 22 rfl rfl
theorem dX5_toGround_0 : decode cX5_toGround 0 = .ok (.iconst 0, 1) := dk_3 (dk_at dksX5_toGround_0 0 rfl rfl)
theorem dX5_toGround_1 : decode cX5_toGround 1 = .ok (.istore_n 2, 1) := dk_61 (dk_at dksX5_toGround_0 1 rfl rfl)
theorem dX5_toGround_2 : decode cX5_toGround 2 = .ok (.iload_n 2, 1) := dk_28 (dk_at dksX5_toGround_0 2 rfl rfl)
theorem dX5_toGround_3 : decode cX5_toGround 3 = .ok (.aload_n 0, 1) := dk_42 (dk_at dksX5_toGround_0 3 rfl rfl)
theorem dX5_toGround_4 : decode cX5_toGround 4 = .ok (.getfield 7, 3) := dk_180 0 7 (dk_at dksX5_toGround_0 4 rfl rfl)
theorem dX5_toGround_7 : decode cX5_toGround 7 = .ok (.bipush 104, 2) := dk_16 104 (dk_at dksX5_toGround_0 7 rfl rfl)
theorem dX5_toGround_9 : decode cX5_toGround 9 = .ok (.iaload, 1) := dk_46 (dk_at dksX5_toGround_0 9 rfl rfl)
theorem dX5_toGround_10 : decode cX5_toGround 10 = .ok (.if_icmp .ge 55, 3) := dk_162 0 55 (dk_at dksX5_toGround_0 10 rfl rfl)
theorem dX5_toGround_13 : decode cX5_toGround 13 = .ok (.aload_n 0, 1) := dk_42 (dk_at dksX5_toGround_0 13 rfl rfl)
theorem dX5_toGround_14 : decode cX5_toGround 14 = .ok (.iload_n 2, 1) := dk_28 (dk_at dksX5_toGround_0 14 rfl rfl)
theorem dX5_toGround_15 : decode cX5_toGround 15 = .ok (.iconst 1, 1) := dk_4 (dk_at dksX5_toGround_0 15 rfl rfl)
theorem dX5_toGround_16 : decode cX5_toGround 16 = .ok (.invokevirtual 110, 3) := dk_182 0 110 (dk_at dksX5_toGround_0 16 rfl rfl)
theorem dX5_toGround_19 : decode cX5_toGround 19 = .ok (.iload_n 1, 1) := dk_27 (dk_at dksX5_toGround_0 19 rfl rfl)
theorem dX5_toGround_20 : decode cX5_toGround 20 = .ok (.if_icmp .eq 6, 3) := dk_159 0 6 (dk_at dksX5_toGround_0 20 rfl rfl)
theorem dX5_toGround_23 : decode cX5_toGround 23 = .ok (.goto 36, 3) := dk_167 0 36 (dk_at dksX5_toGround_1 0 rfl rfl)
theorem dX5_toGround_26 : decode cX5_toGround 26 = .ok (.aload_n 0, 1) := dk_42 (dk_at dksX5_toGround_1 3 rfl rfl)
theorem dX5_toGround_27 : decode cX5_toGround 27 = .ok (.getfield 7, 3) := dk_180 0 7 (dk_at dksX5_toGround_1 4 rfl rfl)
theorem dX5_toGround_30 : decode cX5_toGround 30 = .ok (.iload_n 2, 1) := dk_28 (dk_at dksX5_toGround_1 7 rfl rfl)
theorem dX5_toGround_31 : decode cX5_toGround 31 = .ok (.iconst 1, 1) := dk_4 (dk_at dksX5_toGround_1 8 rfl rfl)
theorem dX5_toGround_32 : decode cX5_toGround 32 = .ok (.invokestatic 94, 3) := dk_184 0 94 (dk_at dksX5_toGround_1 9 rfl rfl)
theorem dX5_toGround_35 : decode cX5_toGround 35 = .ok (.iconst (-1), 1) := dk_2 (dk_at dksX5_toGround_1 12 rfl rfl)
theorem dX5_toGround_36 : decode cX5_toGround 36 = .ok (.iastore, 1) := dk_79 (dk_at dksX5_toGround_1 13 rfl rfl)
theorem dX5_toGround_37 : decode cX5_toGround 37 = .ok (.aload_n 0, 1) := dk_42 (dk_at dksX5_toGround_1 14 rfl rfl)
theorem dX5_toGround_38 : decode cX5_toGround 38 = .ok (.getfield 7, 3) := dk_180 0 7 (dk_at dksX5_toGround_1 15 rfl rfl)
theorem dX5_toGround_41 : decode cX5_toGround 41 = .ok (.iload_n 2, 1) := dk_28 (dk_at dksX5_toGround_1 18 rfl rfl)
theorem dX5_toGround_42 : decode cX5_toGround 42 = .ok (.iconst 0, 1) := dk_3 (dk_at dksX5_toGround_1 19 rfl rfl)
theorem dX5_toGround_43 : decode cX5_toGround 43 = .ok (.invokestatic 94, 3) := dk_184 0 94 (dk_at dksX5_toGround_1 20 rfl rfl)
theorem dX5_toGround_46 : decode cX5_toGround 46 = .ok (.iconst (-1), 1) := dk_2 (dk_at dksX5_toGround_1 23 rfl rfl)
theorem dX5_toGround_47 : decode cX5_toGround 47 = .ok (.iastore, 1) := dk_79 (dk_at dksX5_toGround_2 0 rfl rfl)
theorem dX5_toGround_48 : decode cX5_toGround 48 = .ok (.aload_n 0, 1) := dk_42 (dk_at dksX5_toGround_2 1 rfl rfl)
theorem dX5_toGround_49 : decode cX5_toGround 49 = .ok (.getfield 7, 3) := dk_180 0 7 (dk_at dksX5_toGround_2 2 rfl rfl)
theorem dX5_toGround_52 : decode cX5_toGround 52 = .ok (.iload_n 2, 1) := dk_28 (dk_at dksX5_toGround_2 5 rfl rfl)
theorem dX5_toGround_53 : decode cX5_toGround 53 = .ok (.iconst 4, 1) := dk_7 (dk_at dksX5_toGround_2 6 rfl rfl)
theorem dX5_toGround_54 : decode cX5_toGround 54 = .ok (.invokestatic 94, 3) := dk_184 0 94 (dk_at dksX5_toGround_2 7 rfl rfl)
theorem dX5_toGround_57 : decode cX5_toGround 57 = .ok (.iconst 0, 1) := dk_3 (dk_at dksX5_toGround_2 10 rfl rfl)
theorem dX5_toGround_58 : decode cX5_toGround 58 = .ok (.iastore, 1) := dk_79 (dk_at dksX5_toGround_2 11 rfl rfl)
theorem dX5_toGround_59 : decode cX5_toGround 59 = .ok (.iinc 2 1, 3) := dk_132 2 1 (dk_at dksX5_toGround_2 12 rfl rfl)
theorem dX5_toGround_62 : decode cX5_toGround 62 = .ok (.goto (-60), 3) := dk_167 255 196 (dk_at dksX5_toGround_2 15 rfl rfl)
theorem dX5_toGround_65 : decode cX5_toGround 65 = .ok (.aload_n 0, 1) := dk_42 (dk_at dksX5_toGround_2 18 rfl rfl)
theorem dX5_toGround_66 : decode cX5_toGround 66 = .ok (.iload_n 1, 1) := dk_27 (dk_at dksX5_toGround_2 19 rfl rfl)
theorem dX5_toGround_67 : decode cX5_toGround 67 = .ok (.iconst 0, 1) := dk_3 (dk_at dksX5_toGround_2 20 rfl rfl)
theorem dX5_toGround_68 : decode cX5_toGround 68 = .ok (.iconst (-1), 1) := dk_2 (dk_at dksX5_toGround_2 21 rfl rfl)
theorem dX5_toGround_69 : decode cX5_toGround 69 = .ok (.invokevirtual 202, 3) := dk_182 0 202 (dk_at dksX5_toGround_3 0 rfl rfl)
theorem dX5_toGround_72 : decode cX5_toGround 72 = .ok (.aload_n 0, 1) := dk_42 (dk_at dksX5_toGround_3 3 rfl rfl)
theorem dX5_toGround_73 : decode cX5_toGround 73 = .ok (.iload_n 1, 1) := dk_27 (dk_at dksX5_toGround_3 4 rfl rfl)
theorem dX5_toGround_74 : decode cX5_toGround 74 = .ok (.iconst 1, 1) := dk_4 (dk_at dksX5_toGround_3 5 rfl rfl)
theorem dX5_toGround_75 : decode cX5_toGround 75 = .ok (.iconst 2, 1) := dk_5 (dk_at dksX5_toGround_3 6 rfl rfl)
theorem dX5_toGround_76 : decode cX5_toGround 76 = .ok (.invokevirtual 202, 3) := dk_182 0 202 (dk_at dksX5_toGround_3 7 rfl rfl)
theorem dX5_toGround_79 : decode cX5_toGround 79 = .ok (.aload_n 0, 1) := dk_42 (dk_at dksX5_toGround_3 10 rfl rfl)
theorem dX5_toGround_80 : decode cX5_toGround 80 = .ok (.getfield 7, 3) := dk_180 0 7 (dk_at dksX5_toGround_3 11 rfl rfl)
theorem dX5_toGround_83 : decode cX5_toGround 83 = .ok (.sipush 144, 3) := dk_17 0 144 (dk_at dksX5_toGround_3 14 rfl rfl)
theorem dX5_toGround_86 : decode cX5_toGround 86 = .ok (.dup2, 1) := dk_92 (dk_at dksX5_toGround_3 17 rfl rfl)
theorem dX5_toGround_87 : decode cX5_toGround 87 = .ok (.iaload, 1) := dk_46 (dk_at dksX5_toGround_3 18 rfl rfl)
theorem dX5_toGround_88 : decode cX5_toGround 88 = .ok (.iconst 1, 1) := dk_4 (dk_at dksX5_toGround_3 19 rfl rfl)
theorem dX5_toGround_89 : decode cX5_toGround 89 = .ok (.iadd, 1) := dk_96 (dk_at dksX5_toGround_3 20 rfl rfl)
theorem dX5_toGround_90 : decode cX5_toGround 90 = .ok (.iastore, 1) := dk_79 (dk_at dksX5_toGround_3 21 rfl rfl)
theorem dX5_toGround_91 : decode cX5_toGround 91 = .ok (.return_, 1) := dk_177 (dk_at dksX5_toGround_3 22 rfl rfl)
abbrev cX5_keeps : ByteArray := prog_25_method_63_code
def yX5_keeps : MethodName := ⟨RX5, "keeps", "(F)V"⟩
def dkwX5_keeps_4 : List UInt8 := [79, 177]
abbrev dktX5_keeps_4 : List UInt8 := dkwX5_keeps_4 ++ []
def dkwX5_keeps_3 : List UInt8 := [180, 0, 7, 17, 0, 145, 46, 96, 35, 184, 0, 238, 79, 42, 180, 0, 7, 17, 0, 145, 92, 46, 4, 96]
abbrev dktX5_keeps_3 : List UInt8 := dkwX5_keeps_3 ++ dktX5_keeps_4
def dkwX5_keeps_2 : List UInt8 := [167, 255, 225, 42, 180, 0, 7, 17, 0, 145, 92, 46, 4, 100, 79, 42, 180, 0, 7, 17, 0, 146, 42]
abbrev dktX5_keeps_2 : List UInt8 := dkwX5_keeps_2 ++ dktX5_keeps_3
def dkwX5_keeps_1 : List UInt8 := [180, 0, 7, 17, 0, 146, 28, 96, 4, 100, 42, 180, 0, 7, 17, 0, 146, 28, 96, 46, 79, 132, 2, 1]
abbrev dktX5_keeps_1 : List UInt8 := dkwX5_keeps_1 ++ dktX5_keeps_2
def dkwX5_keeps_0 : List UInt8 := [42, 180, 0, 7, 17, 0, 145, 46, 16, 16, 160, 0, 51, 4, 61, 28, 16, 16, 162, 0, 31, 42]
abbrev dktX5_keeps_0 : List UInt8 := dkwX5_keeps_0 ++ dktX5_keeps_1
theorem dksX5_keeps_0 : cX5_keeps.data.toList.drop 0 = dktX5_keeps_0 := by decide +kernel
theorem dksX5_keeps_1 : cX5_keeps.data.toList.drop 22 = dktX5_keeps_1 := dk_seg dksX5_keeps_0 22 rfl rfl
theorem dksX5_keeps_2 : cX5_keeps.data.toList.drop 46 = dktX5_keeps_2 := dk_seg dksX5_keeps_1 24 rfl rfl
theorem dksX5_keeps_3 : cX5_keeps.data.toList.drop 69 = dktX5_keeps_3 := dk_seg dksX5_keeps_2 23 rfl rfl
theorem dksX5_keeps_4 : cX5_keeps.data.toList.drop 93 = dktX5_keeps_4 := dk_seg dksX5_keeps_3 24 rfl rfl
theorem dX5_keeps_0 : decode cX5_keeps 0 = .ok (.aload_n 0, 1) := dk_42 (dk_at dksX5_keeps_0 0 rfl rfl)
theorem dX5_keeps_1 : decode cX5_keeps 1 = .ok (.getfield 7, 3) := dk_180 0 7 (dk_at dksX5_keeps_0 1 rfl rfl)
theorem dX5_keeps_4 : decode cX5_keeps 4 = .ok (.sipush 145, 3) := dk_17 0 145 (dk_at dksX5_keeps_0 4 rfl rfl)
theorem dX5_keeps_7 : decode cX5_keeps 7 = .ok (.iaload, 1) := dk_46 (dk_at dksX5_keeps_0 7 rfl rfl)
theorem dX5_keeps_8 : decode cX5_keeps 8 = .ok (.bipush 16, 2) := dk_16 16 (dk_at dksX5_keeps_0 8 rfl rfl)
theorem dX5_keeps_10 : decode cX5_keeps 10 = .ok (.if_icmp .ne 51, 3) := dk_160 0 51 (dk_at dksX5_keeps_0 10 rfl rfl)
theorem dX5_keeps_13 : decode cX5_keeps 13 = .ok (.iconst 1, 1) := dk_4 (dk_at dksX5_keeps_0 13 rfl rfl)
theorem dX5_keeps_14 : decode cX5_keeps 14 = .ok (.istore_n 2, 1) := dk_61 (dk_at dksX5_keeps_0 14 rfl rfl)
theorem dX5_keeps_15 : decode cX5_keeps 15 = .ok (.iload_n 2, 1) := dk_28 (dk_at dksX5_keeps_0 15 rfl rfl)
theorem dX5_keeps_16 : decode cX5_keeps 16 = .ok (.bipush 16, 2) := dk_16 16 (dk_at dksX5_keeps_0 16 rfl rfl)
theorem dX5_keeps_18 : decode cX5_keeps 18 = .ok (.if_icmp .ge 31, 3) := dk_162 0 31 (dk_at dksX5_keeps_0 18 rfl rfl)
theorem dX5_keeps_21 : decode cX5_keeps 21 = .ok (.aload_n 0, 1) := dk_42 (dk_at dksX5_keeps_0 21 rfl rfl)
theorem dX5_keeps_22 : decode cX5_keeps 22 = .ok (.getfield 7, 3) := dk_180 0 7 (dk_at dksX5_keeps_1 0 rfl rfl)
theorem dX5_keeps_25 : decode cX5_keeps 25 = .ok (.sipush 146, 3) := dk_17 0 146 (dk_at dksX5_keeps_1 3 rfl rfl)
theorem dX5_keeps_28 : decode cX5_keeps 28 = .ok (.iload_n 2, 1) := dk_28 (dk_at dksX5_keeps_1 6 rfl rfl)
theorem dX5_keeps_29 : decode cX5_keeps 29 = .ok (.iadd, 1) := dk_96 (dk_at dksX5_keeps_1 7 rfl rfl)
theorem dX5_keeps_30 : decode cX5_keeps 30 = .ok (.iconst 1, 1) := dk_4 (dk_at dksX5_keeps_1 8 rfl rfl)
theorem dX5_keeps_31 : decode cX5_keeps 31 = .ok (.isub, 1) := dk_100 (dk_at dksX5_keeps_1 9 rfl rfl)
theorem dX5_keeps_32 : decode cX5_keeps 32 = .ok (.aload_n 0, 1) := dk_42 (dk_at dksX5_keeps_1 10 rfl rfl)
theorem dX5_keeps_33 : decode cX5_keeps 33 = .ok (.getfield 7, 3) := dk_180 0 7 (dk_at dksX5_keeps_1 11 rfl rfl)
theorem dX5_keeps_36 : decode cX5_keeps 36 = .ok (.sipush 146, 3) := dk_17 0 146 (dk_at dksX5_keeps_1 14 rfl rfl)
theorem dX5_keeps_39 : decode cX5_keeps 39 = .ok (.iload_n 2, 1) := dk_28 (dk_at dksX5_keeps_1 17 rfl rfl)
theorem dX5_keeps_40 : decode cX5_keeps 40 = .ok (.iadd, 1) := dk_96 (dk_at dksX5_keeps_1 18 rfl rfl)
theorem dX5_keeps_41 : decode cX5_keeps 41 = .ok (.iaload, 1) := dk_46 (dk_at dksX5_keeps_1 19 rfl rfl)
theorem dX5_keeps_42 : decode cX5_keeps 42 = .ok (.iastore, 1) := dk_79 (dk_at dksX5_keeps_1 20 rfl rfl)
theorem dX5_keeps_43 : decode cX5_keeps 43 = .ok (.iinc 2 1, 3) := dk_132 2 1 (dk_at dksX5_keeps_1 21 rfl rfl)
theorem dX5_keeps_46 : decode cX5_keeps 46 = .ok (.goto (-31), 3) := dk_167 255 225 (dk_at dksX5_keeps_2 0 rfl rfl)
theorem dX5_keeps_49 : decode cX5_keeps 49 = .ok (.aload_n 0, 1) := dk_42 (dk_at dksX5_keeps_2 3 rfl rfl)
theorem dX5_keeps_50 : decode cX5_keeps 50 = .ok (.getfield 7, 3) := dk_180 0 7 (dk_at dksX5_keeps_2 4 rfl rfl)
theorem dX5_keeps_53 : decode cX5_keeps 53 = .ok (.sipush 145, 3) := dk_17 0 145 (dk_at dksX5_keeps_2 7 rfl rfl)
theorem dX5_keeps_56 : decode cX5_keeps 56 = .ok (.dup2, 1) := dk_92 (dk_at dksX5_keeps_2 10 rfl rfl)
theorem dX5_keeps_57 : decode cX5_keeps 57 = .ok (.iaload, 1) := dk_46 (dk_at dksX5_keeps_2 11 rfl rfl)
theorem dX5_keeps_58 : decode cX5_keeps 58 = .ok (.iconst 1, 1) := dk_4 (dk_at dksX5_keeps_2 12 rfl rfl)
theorem dX5_keeps_59 : decode cX5_keeps 59 = .ok (.isub, 1) := dk_100 (dk_at dksX5_keeps_2 13 rfl rfl)
theorem dX5_keeps_60 : decode cX5_keeps 60 = .ok (.iastore, 1) := dk_79 (dk_at dksX5_keeps_2 14 rfl rfl)
theorem dX5_keeps_61 : decode cX5_keeps 61 = .ok (.aload_n 0, 1) := dk_42 (dk_at dksX5_keeps_2 15 rfl rfl)
theorem dX5_keeps_62 : decode cX5_keeps 62 = .ok (.getfield 7, 3) := dk_180 0 7 (dk_at dksX5_keeps_2 16 rfl rfl)
theorem dX5_keeps_65 : decode cX5_keeps 65 = .ok (.sipush 146, 3) := dk_17 0 146 (dk_at dksX5_keeps_2 19 rfl rfl)
theorem dX5_keeps_68 : decode cX5_keeps 68 = .ok (.aload_n 0, 1) := dk_42 (dk_at dksX5_keeps_2 22 rfl rfl)
theorem dX5_keeps_69 : decode cX5_keeps 69 = .ok (.getfield 7, 3) := dk_180 0 7 (dk_at dksX5_keeps_3 0 rfl rfl)
theorem dX5_keeps_72 : decode cX5_keeps 72 = .ok (.sipush 145, 3) := dk_17 0 145 (dk_at dksX5_keeps_3 3 rfl rfl)
theorem dX5_keeps_75 : decode cX5_keeps 75 = .ok (.iaload, 1) := dk_46 (dk_at dksX5_keeps_3 6 rfl rfl)
theorem dX5_keeps_76 : decode cX5_keeps 76 = .ok (.iadd, 1) := dk_96 (dk_at dksX5_keeps_3 7 rfl rfl)
theorem dX5_keeps_77 : decode cX5_keeps 77 = .ok (.fload_n 1, 1) := dk_35 (dk_at dksX5_keeps_3 8 rfl rfl)
theorem dX5_keeps_78 : decode cX5_keeps 78 = .ok (.invokestatic 238, 3) := dk_184 0 238 (dk_at dksX5_keeps_3 9 rfl rfl)
theorem dX5_keeps_81 : decode cX5_keeps 81 = .ok (.iastore, 1) := dk_79 (dk_at dksX5_keeps_3 12 rfl rfl)
theorem dX5_keeps_82 : decode cX5_keeps 82 = .ok (.aload_n 0, 1) := dk_42 (dk_at dksX5_keeps_3 13 rfl rfl)
theorem dX5_keeps_83 : decode cX5_keeps 83 = .ok (.getfield 7, 3) := dk_180 0 7 (dk_at dksX5_keeps_3 14 rfl rfl)
theorem dX5_keeps_86 : decode cX5_keeps 86 = .ok (.sipush 145, 3) := dk_17 0 145 (dk_at dksX5_keeps_3 17 rfl rfl)
theorem dX5_keeps_89 : decode cX5_keeps 89 = .ok (.dup2, 1) := dk_92 (dk_at dksX5_keeps_3 20 rfl rfl)
theorem dX5_keeps_90 : decode cX5_keeps 90 = .ok (.iaload, 1) := dk_46 (dk_at dksX5_keeps_3 21 rfl rfl)
theorem dX5_keeps_91 : decode cX5_keeps 91 = .ok (.iconst 1, 1) := dk_4 (dk_at dksX5_keeps_3 22 rfl rfl)
theorem dX5_keeps_92 : decode cX5_keeps 92 = .ok (.iadd, 1) := dk_96 (dk_at dksX5_keeps_3 23 rfl rfl)
theorem dX5_keeps_93 : decode cX5_keeps 93 = .ok (.iastore, 1) := dk_79 (dk_at dksX5_keeps_4 0 rfl rfl)
theorem dX5_keeps_94 : decode cX5_keeps 94 = .ok (.return_, 1) := dk_177 (dk_at dksX5_keeps_4 1 rfl rfl)
abbrev cX5_hangs : ByteArray := prog_25_method_61_code
def yX5_hangs : MethodName := ⟨RX5, "hangs", "(II)V"⟩
def dkwX5_hangs_1 : List UInt8 := [96, 79, 177]
abbrev dktX5_hangs_1 : List UInt8 := dkwX5_hangs_1 ++ []
def dkwX5_hangs_0 : List UInt8 := [42, 27, 3, 28, 182, 0, 202, 42, 27, 4, 4, 182, 0, 202, 42, 180, 0, 7, 17, 0, 143, 92, 46, 4]
abbrev dktX5_hangs_0 : List UInt8 := dkwX5_hangs_0 ++ dktX5_hangs_1
theorem dksX5_hangs_0 : cX5_hangs.data.toList.drop 0 = dktX5_hangs_0 := by decide +kernel
theorem dksX5_hangs_1 : cX5_hangs.data.toList.drop 24 = dktX5_hangs_1 := dk_seg dksX5_hangs_0 24 rfl rfl
theorem dX5_hangs_0 : decode cX5_hangs 0 = .ok (.aload_n 0, 1) := dk_42 (dk_at dksX5_hangs_0 0 rfl rfl)
theorem dX5_hangs_1 : decode cX5_hangs 1 = .ok (.iload_n 1, 1) := dk_27 (dk_at dksX5_hangs_0 1 rfl rfl)
theorem dX5_hangs_2 : decode cX5_hangs 2 = .ok (.iconst 0, 1) := dk_3 (dk_at dksX5_hangs_0 2 rfl rfl)
theorem dX5_hangs_3 : decode cX5_hangs 3 = .ok (.iload_n 2, 1) := dk_28 (dk_at dksX5_hangs_0 3 rfl rfl)
theorem dX5_hangs_4 : decode cX5_hangs 4 = .ok (.invokevirtual 202, 3) := dk_182 0 202 (dk_at dksX5_hangs_0 4 rfl rfl)
theorem dX5_hangs_7 : decode cX5_hangs 7 = .ok (.aload_n 0, 1) := dk_42 (dk_at dksX5_hangs_0 7 rfl rfl)
theorem dX5_hangs_8 : decode cX5_hangs 8 = .ok (.iload_n 1, 1) := dk_27 (dk_at dksX5_hangs_0 8 rfl rfl)
theorem dX5_hangs_9 : decode cX5_hangs 9 = .ok (.iconst 1, 1) := dk_4 (dk_at dksX5_hangs_0 9 rfl rfl)
theorem dX5_hangs_10 : decode cX5_hangs 10 = .ok (.iconst 1, 1) := dk_4 (dk_at dksX5_hangs_0 10 rfl rfl)
theorem dX5_hangs_11 : decode cX5_hangs 11 = .ok (.invokevirtual 202, 3) := dk_182 0 202 (dk_at dksX5_hangs_0 11 rfl rfl)
theorem dX5_hangs_14 : decode cX5_hangs 14 = .ok (.aload_n 0, 1) := dk_42 (dk_at dksX5_hangs_0 14 rfl rfl)
theorem dX5_hangs_15 : decode cX5_hangs 15 = .ok (.getfield 7, 3) := dk_180 0 7 (dk_at dksX5_hangs_0 15 rfl rfl)
theorem dX5_hangs_18 : decode cX5_hangs 18 = .ok (.sipush 143, 3) := dk_17 0 143 (dk_at dksX5_hangs_0 18 rfl rfl)
theorem dX5_hangs_21 : decode cX5_hangs 21 = .ok (.dup2, 1) := dk_92 (dk_at dksX5_hangs_0 21 rfl rfl)
theorem dX5_hangs_22 : decode cX5_hangs 22 = .ok (.iaload, 1) := dk_46 (dk_at dksX5_hangs_0 22 rfl rfl)
theorem dX5_hangs_23 : decode cX5_hangs 23 = .ok (.iconst 1, 1) := dk_4 (dk_at dksX5_hangs_0 23 rfl rfl)
theorem dX5_hangs_24 : decode cX5_hangs 24 = .ok (.iadd, 1) := dk_96 (dk_at dksX5_hangs_1 0 rfl rfl)
theorem dX5_hangs_25 : decode cX5_hangs 25 = .ok (.iastore, 1) := dk_79 (dk_at dksX5_hangs_1 1 rfl rfl)
theorem dX5_hangs_26 : decode cX5_hangs 26 = .ok (.return_, 1) := dk_177 (dk_at dksX5_hangs_1 2 rfl rfl)
abbrev cX5_followerFalls : ByteArray := prog_25_method_62_code
def yX5_followerFalls : MethodName := ⟨RX5, "followerFalls", "()V"⟩
def dkwX5_followerFalls_1 : List UInt8 := [180, 0, 7, 17, 0, 132, 46, 182, 0, 231, 167, 0, 8, 42, 4, 182, 0, 235, 177]
abbrev dktX5_followerFalls_1 : List UInt8 := dkwX5_followerFalls_1 ++ []
def dkwX5_followerFalls_0 : List UInt8 := [42, 3, 182, 0, 193, 153, 0, 30, 42, 180, 0, 7, 17, 0, 131, 46, 158, 0, 19, 42, 4, 42]
abbrev dktX5_followerFalls_0 : List UInt8 := dkwX5_followerFalls_0 ++ dktX5_followerFalls_1
theorem dksX5_followerFalls_0 : cX5_followerFalls.data.toList.drop 0 = dktX5_followerFalls_0 := by decide +kernel
theorem dksX5_followerFalls_1 : cX5_followerFalls.data.toList.drop 22 = dktX5_followerFalls_1 := dk_seg dksX5_followerFalls_0 22 rfl rfl
theorem dX5_followerFalls_0 : decode cX5_followerFalls 0 = .ok (.aload_n 0, 1) := dk_42 (dk_at dksX5_followerFalls_0 0 rfl rfl)
theorem dX5_followerFalls_1 : decode cX5_followerFalls 1 = .ok (.iconst 0, 1) := dk_3 (dk_at dksX5_followerFalls_0 1 rfl rfl)
theorem dX5_followerFalls_2 : decode cX5_followerFalls 2 = .ok (.invokevirtual 193, 3) := dk_182 0 193 (dk_at dksX5_followerFalls_0 2 rfl rfl)
theorem dX5_followerFalls_5 : decode cX5_followerFalls 5 = .ok (.ifCond .eq 30, 3) := dk_153 0 30 (dk_at dksX5_followerFalls_0 5 rfl rfl)
theorem dX5_followerFalls_8 : decode cX5_followerFalls 8 = .ok (.aload_n 0, 1) := dk_42 (dk_at dksX5_followerFalls_0 8 rfl rfl)
theorem dX5_followerFalls_9 : decode cX5_followerFalls 9 = .ok (.getfield 7, 3) := dk_180 0 7 (dk_at dksX5_followerFalls_0 9 rfl rfl)
theorem dX5_followerFalls_12 : decode cX5_followerFalls 12 = .ok (.sipush 131, 3) := dk_17 0 131 (dk_at dksX5_followerFalls_0 12 rfl rfl)
theorem dX5_followerFalls_15 : decode cX5_followerFalls 15 = .ok (.iaload, 1) := dk_46 (dk_at dksX5_followerFalls_0 15 rfl rfl)
theorem dX5_followerFalls_16 : decode cX5_followerFalls 16 = .ok (.ifCond .le 19, 3) := dk_158 0 19 (dk_at dksX5_followerFalls_0 16 rfl rfl)
theorem dX5_followerFalls_19 : decode cX5_followerFalls 19 = .ok (.aload_n 0, 1) := dk_42 (dk_at dksX5_followerFalls_0 19 rfl rfl)
theorem dX5_followerFalls_20 : decode cX5_followerFalls 20 = .ok (.iconst 1, 1) := dk_4 (dk_at dksX5_followerFalls_0 20 rfl rfl)
theorem dX5_followerFalls_21 : decode cX5_followerFalls 21 = .ok (.aload_n 0, 1) := dk_42 (dk_at dksX5_followerFalls_0 21 rfl rfl)
theorem dX5_followerFalls_22 : decode cX5_followerFalls 22 = .ok (.getfield 7, 3) := dk_180 0 7 (dk_at dksX5_followerFalls_1 0 rfl rfl)
theorem dX5_followerFalls_25 : decode cX5_followerFalls 25 = .ok (.sipush 132, 3) := dk_17 0 132 (dk_at dksX5_followerFalls_1 3 rfl rfl)
theorem dX5_followerFalls_28 : decode cX5_followerFalls 28 = .ok (.iaload, 1) := dk_46 (dk_at dksX5_followerFalls_1 6 rfl rfl)
theorem dX5_followerFalls_29 : decode cX5_followerFalls 29 = .ok (.invokevirtual 231, 3) := dk_182 0 231 (dk_at dksX5_followerFalls_1 7 rfl rfl)
theorem dX5_followerFalls_32 : decode cX5_followerFalls 32 = .ok (.goto 8, 3) := dk_167 0 8 (dk_at dksX5_followerFalls_1 10 rfl rfl)
theorem dX5_followerFalls_35 : decode cX5_followerFalls 35 = .ok (.aload_n 0, 1) := dk_42 (dk_at dksX5_followerFalls_1 13 rfl rfl)
theorem dX5_followerFalls_36 : decode cX5_followerFalls 36 = .ok (.iconst 1, 1) := dk_4 (dk_at dksX5_followerFalls_1 14 rfl rfl)
theorem dX5_followerFalls_37 : decode cX5_followerFalls 37 = .ok (.invokevirtual 235, 3) := dk_182 0 235 (dk_at dksX5_followerFalls_1 15 rfl rfl)
theorem dX5_followerFalls_40 : decode cX5_followerFalls 40 = .ok (.return_, 1) := dk_177 (dk_at dksX5_followerFalls_1 18 rfl rfl)
abbrev cX5_minute : ByteArray := prog_25_method_55_code
def yX5_minute : MethodName := ⟨RX5, "minute", "()V"⟩
def dkwX5_minute_3 : List UInt8 := [167, 0, 4, 3, 79, 132, 1, 1, 167, 255, 192, 177]
abbrev dktX5_minute_3 : List UInt8 := dkwX5_minute_3 ++ []
def dkwX5_minute_2 : List UInt8 := [92, 46, 4, 100, 79, 42, 180, 0, 7, 27, 7, 184, 0, 94, 42, 27, 6, 182, 0, 110, 158, 0, 7, 4]
abbrev dktX5_minute_2 : List UInt8 := dkwX5_minute_2 ++ dktX5_minute_3
def dkwX5_minute_1 : List UInt8 := [162, 0, 59, 42, 27, 7, 182, 0, 110, 154, 0, 6, 167, 0, 41, 42, 180, 0, 7, 27, 6, 184, 0, 94]
abbrev dktX5_minute_1 : List UInt8 := dkwX5_minute_1 ++ dktX5_minute_2
def dkwX5_minute_0 : List UInt8 := [42, 180, 0, 7, 17, 0, 140, 92, 46, 4, 96, 79, 3, 60, 27, 42, 180, 0, 7, 16, 104, 46]
abbrev dktX5_minute_0 : List UInt8 := dkwX5_minute_0 ++ dktX5_minute_1
theorem dksX5_minute_0 : cX5_minute.data.toList.drop 0 = dktX5_minute_0 := by decide +kernel
theorem dksX5_minute_1 : cX5_minute.data.toList.drop 22 = dktX5_minute_1 := dk_seg dksX5_minute_0 22 rfl rfl
theorem dksX5_minute_2 : cX5_minute.data.toList.drop 46 = dktX5_minute_2 := dk_seg dksX5_minute_1 24 rfl rfl
theorem dksX5_minute_3 : cX5_minute.data.toList.drop 70 = dktX5_minute_3 := dk_seg dksX5_minute_2 24 rfl rfl
theorem dX5_minute_0 : decode cX5_minute 0 = .ok (.aload_n 0, 1) := dk_42 (dk_at dksX5_minute_0 0 rfl rfl)
theorem dX5_minute_1 : decode cX5_minute 1 = .ok (.getfield 7, 3) := dk_180 0 7 (dk_at dksX5_minute_0 1 rfl rfl)
theorem dX5_minute_4 : decode cX5_minute 4 = .ok (.sipush 140, 3) := dk_17 0 140 (dk_at dksX5_minute_0 4 rfl rfl)
theorem dX5_minute_7 : decode cX5_minute 7 = .ok (.dup2, 1) := dk_92 (dk_at dksX5_minute_0 7 rfl rfl)
theorem dX5_minute_8 : decode cX5_minute 8 = .ok (.iaload, 1) := dk_46 (dk_at dksX5_minute_0 8 rfl rfl)
theorem dX5_minute_9 : decode cX5_minute 9 = .ok (.iconst 1, 1) := dk_4 (dk_at dksX5_minute_0 9 rfl rfl)
theorem dX5_minute_10 : decode cX5_minute 10 = .ok (.iadd, 1) := dk_96 (dk_at dksX5_minute_0 10 rfl rfl)
theorem dX5_minute_11 : decode cX5_minute 11 = .ok (.iastore, 1) := dk_79 (dk_at dksX5_minute_0 11 rfl rfl)
theorem dX5_minute_12 : decode cX5_minute 12 = .ok (.iconst 0, 1) := dk_3 (dk_at dksX5_minute_0 12 rfl rfl)
theorem dX5_minute_13 : decode cX5_minute 13 = .ok (.istore_n 1, 1) := dk_60 (dk_at dksX5_minute_0 13 rfl rfl)
theorem dX5_minute_14 : decode cX5_minute 14 = .ok (.iload_n 1, 1) := dk_27 (dk_at dksX5_minute_0 14 rfl rfl)
theorem dX5_minute_15 : decode cX5_minute 15 = .ok (.aload_n 0, 1) := dk_42 (dk_at dksX5_minute_0 15 rfl rfl)
theorem dX5_minute_16 : decode cX5_minute 16 = .ok (.getfield 7, 3) := dk_180 0 7 (dk_at dksX5_minute_0 16 rfl rfl)
theorem dX5_minute_19 : decode cX5_minute 19 = .ok (.bipush 104, 2) := dk_16 104 (dk_at dksX5_minute_0 19 rfl rfl)
theorem dX5_minute_21 : decode cX5_minute 21 = .ok (.iaload, 1) := dk_46 (dk_at dksX5_minute_0 21 rfl rfl)
theorem dX5_minute_22 : decode cX5_minute 22 = .ok (.if_icmp .ge 59, 3) := dk_162 0 59 (dk_at dksX5_minute_1 0 rfl rfl)
theorem dX5_minute_25 : decode cX5_minute 25 = .ok (.aload_n 0, 1) := dk_42 (dk_at dksX5_minute_1 3 rfl rfl)
theorem dX5_minute_26 : decode cX5_minute 26 = .ok (.iload_n 1, 1) := dk_27 (dk_at dksX5_minute_1 4 rfl rfl)
theorem dX5_minute_27 : decode cX5_minute 27 = .ok (.iconst 4, 1) := dk_7 (dk_at dksX5_minute_1 5 rfl rfl)
theorem dX5_minute_28 : decode cX5_minute 28 = .ok (.invokevirtual 110, 3) := dk_182 0 110 (dk_at dksX5_minute_1 6 rfl rfl)
theorem dX5_minute_31 : decode cX5_minute 31 = .ok (.ifCond .ne 6, 3) := dk_154 0 6 (dk_at dksX5_minute_1 9 rfl rfl)
theorem dX5_minute_34 : decode cX5_minute 34 = .ok (.goto 41, 3) := dk_167 0 41 (dk_at dksX5_minute_1 12 rfl rfl)
theorem dX5_minute_37 : decode cX5_minute 37 = .ok (.aload_n 0, 1) := dk_42 (dk_at dksX5_minute_1 15 rfl rfl)
theorem dX5_minute_38 : decode cX5_minute 38 = .ok (.getfield 7, 3) := dk_180 0 7 (dk_at dksX5_minute_1 16 rfl rfl)
theorem dX5_minute_41 : decode cX5_minute 41 = .ok (.iload_n 1, 1) := dk_27 (dk_at dksX5_minute_1 19 rfl rfl)
theorem dX5_minute_42 : decode cX5_minute 42 = .ok (.iconst 3, 1) := dk_6 (dk_at dksX5_minute_1 20 rfl rfl)
theorem dX5_minute_43 : decode cX5_minute 43 = .ok (.invokestatic 94, 3) := dk_184 0 94 (dk_at dksX5_minute_1 21 rfl rfl)
theorem dX5_minute_46 : decode cX5_minute 46 = .ok (.dup2, 1) := dk_92 (dk_at dksX5_minute_2 0 rfl rfl)
theorem dX5_minute_47 : decode cX5_minute 47 = .ok (.iaload, 1) := dk_46 (dk_at dksX5_minute_2 1 rfl rfl)
theorem dX5_minute_48 : decode cX5_minute 48 = .ok (.iconst 1, 1) := dk_4 (dk_at dksX5_minute_2 2 rfl rfl)
theorem dX5_minute_49 : decode cX5_minute 49 = .ok (.isub, 1) := dk_100 (dk_at dksX5_minute_2 3 rfl rfl)
theorem dX5_minute_50 : decode cX5_minute 50 = .ok (.iastore, 1) := dk_79 (dk_at dksX5_minute_2 4 rfl rfl)
theorem dX5_minute_51 : decode cX5_minute 51 = .ok (.aload_n 0, 1) := dk_42 (dk_at dksX5_minute_2 5 rfl rfl)
theorem dX5_minute_52 : decode cX5_minute 52 = .ok (.getfield 7, 3) := dk_180 0 7 (dk_at dksX5_minute_2 6 rfl rfl)
theorem dX5_minute_55 : decode cX5_minute 55 = .ok (.iload_n 1, 1) := dk_27 (dk_at dksX5_minute_2 9 rfl rfl)
theorem dX5_minute_56 : decode cX5_minute 56 = .ok (.iconst 4, 1) := dk_7 (dk_at dksX5_minute_2 10 rfl rfl)
theorem dX5_minute_57 : decode cX5_minute 57 = .ok (.invokestatic 94, 3) := dk_184 0 94 (dk_at dksX5_minute_2 11 rfl rfl)
theorem dX5_minute_60 : decode cX5_minute 60 = .ok (.aload_n 0, 1) := dk_42 (dk_at dksX5_minute_2 14 rfl rfl)
theorem dX5_minute_61 : decode cX5_minute 61 = .ok (.iload_n 1, 1) := dk_27 (dk_at dksX5_minute_2 15 rfl rfl)
theorem dX5_minute_62 : decode cX5_minute 62 = .ok (.iconst 3, 1) := dk_6 (dk_at dksX5_minute_2 16 rfl rfl)
theorem dX5_minute_63 : decode cX5_minute 63 = .ok (.invokevirtual 110, 3) := dk_182 0 110 (dk_at dksX5_minute_2 17 rfl rfl)
theorem dX5_minute_66 : decode cX5_minute 66 = .ok (.ifCond .le 7, 3) := dk_158 0 7 (dk_at dksX5_minute_2 20 rfl rfl)
theorem dX5_minute_69 : decode cX5_minute 69 = .ok (.iconst 1, 1) := dk_4 (dk_at dksX5_minute_2 23 rfl rfl)
theorem dX5_minute_70 : decode cX5_minute 70 = .ok (.goto 4, 3) := dk_167 0 4 (dk_at dksX5_minute_3 0 rfl rfl)
theorem dX5_minute_73 : decode cX5_minute 73 = .ok (.iconst 0, 1) := dk_3 (dk_at dksX5_minute_3 3 rfl rfl)
theorem dX5_minute_74 : decode cX5_minute 74 = .ok (.iastore, 1) := dk_79 (dk_at dksX5_minute_3 4 rfl rfl)
theorem dX5_minute_75 : decode cX5_minute 75 = .ok (.iinc 1 1, 3) := dk_132 1 1 (dk_at dksX5_minute_3 5 rfl rfl)
theorem dX5_minute_78 : decode cX5_minute 78 = .ok (.goto (-64), 3) := dk_167 255 192 (dk_at dksX5_minute_3 8 rfl rfl)
theorem dX5_minute_81 : decode cX5_minute 81 = .ok (.return_, 1) := dk_177 (dk_at dksX5_minute_3 11 rfl rfl)
abbrev cX5_rest : ByteArray := prog_25_method_69_code
def yX5_rest : MethodName := ⟨RX5, "rest", "(I)I"⟩
def dkwX5_rest_2 : List UInt8 := [5, 182, 0, 107, 172]
abbrev dktX5_rest_2 : List UInt8 := dkwX5_rest_2 ++ []
def dkwX5_rest_1 : List UInt8 := [182, 0, 133, 172, 42, 3, 181, 0, 65, 42, 182, 0, 136, 42, 182, 0, 139, 42, 27, 182, 1, 5, 42, 27]
abbrev dktX5_rest_1 : List UInt8 := dkwX5_rest_1 ++ dktX5_rest_2
def dkwX5_rest_0 : List UInt8 := [27, 184, 0, 187, 154, 0, 9, 42, 4, 182, 0, 80, 172, 42, 27, 4, 182, 0, 177, 153, 0, 9, 42, 5]
abbrev dktX5_rest_0 : List UInt8 := dkwX5_rest_0 ++ dktX5_rest_1
theorem dksX5_rest_0 : cX5_rest.data.toList.drop 0 = dktX5_rest_0 := by decide +kernel
theorem dksX5_rest_1 : cX5_rest.data.toList.drop 24 = dktX5_rest_1 := dk_seg dksX5_rest_0 24 rfl rfl
theorem dksX5_rest_2 : cX5_rest.data.toList.drop 48 = dktX5_rest_2 := dk_seg dksX5_rest_1 24 rfl rfl
theorem dX5_rest_0 : decode cX5_rest 0 = .ok (.iload_n 1, 1) := dk_27 (dk_at dksX5_rest_0 0 rfl rfl)
theorem dX5_rest_1 : decode cX5_rest 1 = .ok (.invokestatic 187, 3) := dk_184 0 187 (dk_at dksX5_rest_0 1 rfl rfl)
theorem dX5_rest_4 : decode cX5_rest 4 = .ok (.ifCond .ne 9, 3) := dk_154 0 9 (dk_at dksX5_rest_0 4 rfl rfl)
theorem dX5_rest_7 : decode cX5_rest 7 = .ok (.aload_n 0, 1) := dk_42 (dk_at dksX5_rest_0 7 rfl rfl)
theorem dX5_rest_8 : decode cX5_rest 8 = .ok (.iconst 1, 1) := dk_4 (dk_at dksX5_rest_0 8 rfl rfl)
theorem dX5_rest_9 : decode cX5_rest 9 = .ok (.invokevirtual 80, 3) := dk_182 0 80 (dk_at dksX5_rest_0 9 rfl rfl)
theorem dX5_rest_12 : decode cX5_rest 12 = .ok (.ireturn, 1) := dk_172 (dk_at dksX5_rest_0 12 rfl rfl)
theorem dX5_rest_13 : decode cX5_rest 13 = .ok (.aload_n 0, 1) := dk_42 (dk_at dksX5_rest_0 13 rfl rfl)
theorem dX5_rest_14 : decode cX5_rest 14 = .ok (.iload_n 1, 1) := dk_27 (dk_at dksX5_rest_0 14 rfl rfl)
theorem dX5_rest_15 : decode cX5_rest 15 = .ok (.iconst 1, 1) := dk_4 (dk_at dksX5_rest_0 15 rfl rfl)
theorem dX5_rest_16 : decode cX5_rest 16 = .ok (.invokevirtual 177, 3) := dk_182 0 177 (dk_at dksX5_rest_0 16 rfl rfl)
theorem dX5_rest_19 : decode cX5_rest 19 = .ok (.ifCond .eq 9, 3) := dk_153 0 9 (dk_at dksX5_rest_0 19 rfl rfl)
theorem dX5_rest_22 : decode cX5_rest 22 = .ok (.aload_n 0, 1) := dk_42 (dk_at dksX5_rest_0 22 rfl rfl)
theorem dX5_rest_23 : decode cX5_rest 23 = .ok (.iconst 2, 1) := dk_5 (dk_at dksX5_rest_0 23 rfl rfl)
theorem dX5_rest_24 : decode cX5_rest 24 = .ok (.invokevirtual 133, 3) := dk_182 0 133 (dk_at dksX5_rest_1 0 rfl rfl)
theorem dX5_rest_27 : decode cX5_rest 27 = .ok (.ireturn, 1) := dk_172 (dk_at dksX5_rest_1 3 rfl rfl)
theorem dX5_rest_28 : decode cX5_rest 28 = .ok (.aload_n 0, 1) := dk_42 (dk_at dksX5_rest_1 4 rfl rfl)
theorem dX5_rest_29 : decode cX5_rest 29 = .ok (.iconst 0, 1) := dk_3 (dk_at dksX5_rest_1 5 rfl rfl)
theorem dX5_rest_30 : decode cX5_rest 30 = .ok (.putfield 65, 3) := dk_181 0 65 (dk_at dksX5_rest_1 6 rfl rfl)
theorem dX5_rest_33 : decode cX5_rest 33 = .ok (.aload_n 0, 1) := dk_42 (dk_at dksX5_rest_1 9 rfl rfl)
theorem dX5_rest_34 : decode cX5_rest 34 = .ok (.invokevirtual 136, 3) := dk_182 0 136 (dk_at dksX5_rest_1 10 rfl rfl)
theorem dX5_rest_37 : decode cX5_rest 37 = .ok (.aload_n 0, 1) := dk_42 (dk_at dksX5_rest_1 13 rfl rfl)
theorem dX5_rest_38 : decode cX5_rest 38 = .ok (.invokevirtual 139, 3) := dk_182 0 139 (dk_at dksX5_rest_1 14 rfl rfl)
theorem dX5_rest_41 : decode cX5_rest 41 = .ok (.aload_n 0, 1) := dk_42 (dk_at dksX5_rest_1 17 rfl rfl)
theorem dX5_rest_42 : decode cX5_rest 42 = .ok (.iload_n 1, 1) := dk_27 (dk_at dksX5_rest_1 18 rfl rfl)
theorem dX5_rest_43 : decode cX5_rest 43 = .ok (.invokevirtual 261, 3) := dk_182 1 5 (dk_at dksX5_rest_1 19 rfl rfl)
theorem dX5_rest_46 : decode cX5_rest 46 = .ok (.aload_n 0, 1) := dk_42 (dk_at dksX5_rest_1 22 rfl rfl)
theorem dX5_rest_47 : decode cX5_rest 47 = .ok (.iload_n 1, 1) := dk_27 (dk_at dksX5_rest_1 23 rfl rfl)
theorem dX5_rest_48 : decode cX5_rest 48 = .ok (.iconst 2, 1) := dk_5 (dk_at dksX5_rest_2 0 rfl rfl)
theorem dX5_rest_49 : decode cX5_rest 49 = .ok (.invokevirtual 107, 3) := dk_182 0 107 (dk_at dksX5_rest_2 1 rfl rfl)
theorem dX5_rest_52 : decode cX5_rest 52 = .ok (.ireturn, 1) := dk_172 (dk_at dksX5_rest_2 4 rfl rfl)
abbrev cX5_rests : ByteArray := prog_25_method_68_code
def yX5_rests : MethodName := ⟨RX5, "rests", "(I)V"⟩
def dkwX5_rests_1 : List UInt8 := [180, 0, 7, 17, 0, 142, 92, 46, 4, 96, 79, 42, 182, 0, 213, 177]
abbrev dktX5_rests_1 : List UInt8 := dkwX5_rests_1 ++ []
def dkwX5_rests_0 : List UInt8 := [42, 27, 5, 42, 42, 27, 182, 0, 113, 42, 27, 5, 182, 0, 107, 182, 1, 2, 182, 0, 202, 42]
abbrev dktX5_rests_0 : List UInt8 := dkwX5_rests_0 ++ dktX5_rests_1
theorem dksX5_rests_0 : cX5_rests.data.toList.drop 0 = dktX5_rests_0 := by decide +kernel
theorem dksX5_rests_1 : cX5_rests.data.toList.drop 22 = dktX5_rests_1 := dk_seg dksX5_rests_0 22 rfl rfl
theorem dX5_rests_0 : decode cX5_rests 0 = .ok (.aload_n 0, 1) := dk_42 (dk_at dksX5_rests_0 0 rfl rfl)
theorem dX5_rests_1 : decode cX5_rests 1 = .ok (.iload_n 1, 1) := dk_27 (dk_at dksX5_rests_0 1 rfl rfl)
theorem dX5_rests_2 : decode cX5_rests 2 = .ok (.iconst 2, 1) := dk_5 (dk_at dksX5_rests_0 2 rfl rfl)
theorem dX5_rests_3 : decode cX5_rests 3 = .ok (.aload_n 0, 1) := dk_42 (dk_at dksX5_rests_0 3 rfl rfl)
theorem dX5_rests_4 : decode cX5_rests 4 = .ok (.aload_n 0, 1) := dk_42 (dk_at dksX5_rests_0 4 rfl rfl)
theorem dX5_rests_5 : decode cX5_rests 5 = .ok (.iload_n 1, 1) := dk_27 (dk_at dksX5_rests_0 5 rfl rfl)
theorem dX5_rests_6 : decode cX5_rests 6 = .ok (.invokevirtual 113, 3) := dk_182 0 113 (dk_at dksX5_rests_0 6 rfl rfl)
theorem dX5_rests_9 : decode cX5_rests 9 = .ok (.aload_n 0, 1) := dk_42 (dk_at dksX5_rests_0 9 rfl rfl)
theorem dX5_rests_10 : decode cX5_rests 10 = .ok (.iload_n 1, 1) := dk_27 (dk_at dksX5_rests_0 10 rfl rfl)
theorem dX5_rests_11 : decode cX5_rests 11 = .ok (.iconst 2, 1) := dk_5 (dk_at dksX5_rests_0 11 rfl rfl)
theorem dX5_rests_12 : decode cX5_rests 12 = .ok (.invokevirtual 107, 3) := dk_182 0 107 (dk_at dksX5_rests_0 12 rfl rfl)
theorem dX5_rests_15 : decode cX5_rests 15 = .ok (.invokevirtual 258, 3) := dk_182 1 2 (dk_at dksX5_rests_0 15 rfl rfl)
theorem dX5_rests_18 : decode cX5_rests 18 = .ok (.invokevirtual 202, 3) := dk_182 0 202 (dk_at dksX5_rests_0 18 rfl rfl)
theorem dX5_rests_21 : decode cX5_rests 21 = .ok (.aload_n 0, 1) := dk_42 (dk_at dksX5_rests_0 21 rfl rfl)
theorem dX5_rests_22 : decode cX5_rests 22 = .ok (.getfield 7, 3) := dk_180 0 7 (dk_at dksX5_rests_1 0 rfl rfl)
theorem dX5_rests_25 : decode cX5_rests 25 = .ok (.sipush 142, 3) := dk_17 0 142 (dk_at dksX5_rests_1 3 rfl rfl)
theorem dX5_rests_28 : decode cX5_rests 28 = .ok (.dup2, 1) := dk_92 (dk_at dksX5_rests_1 6 rfl rfl)
theorem dX5_rests_29 : decode cX5_rests 29 = .ok (.iaload, 1) := dk_46 (dk_at dksX5_rests_1 7 rfl rfl)
theorem dX5_rests_30 : decode cX5_rests 30 = .ok (.iconst 1, 1) := dk_4 (dk_at dksX5_rests_1 8 rfl rfl)
theorem dX5_rests_31 : decode cX5_rests 31 = .ok (.iadd, 1) := dk_96 (dk_at dksX5_rests_1 9 rfl rfl)
theorem dX5_rests_32 : decode cX5_rests 32 = .ok (.iastore, 1) := dk_79 (dk_at dksX5_rests_1 10 rfl rfl)
theorem dX5_rests_33 : decode cX5_rests 33 = .ok (.aload_n 0, 1) := dk_42 (dk_at dksX5_rests_1 11 rfl rfl)
theorem dX5_rests_34 : decode cX5_rests 34 = .ok (.invokevirtual 213, 3) := dk_182 0 213 (dk_at dksX5_rests_1 12 rfl rfl)
theorem dX5_rests_37 : decode cX5_rests 37 = .ok (.return_, 1) := dk_177 (dk_at dksX5_rests_1 15 rfl rfl)
abbrev cX5_rested : ByteArray := prog_25_method_67_code
def yX5_rested : MethodName := ⟨RX5, "rested", "(II)I"⟩
def dkwX5_rested_1 : List UInt8 := [16, 20, 164, 0, 8, 16, 20, 167, 0, 4, 29, 172]
abbrev dktX5_rested_1 : List UInt8 := dkwX5_rested_1 ++ []
def dkwX5_rested_0 : List UInt8 := [27, 2, 160, 0, 8, 16, 20, 167, 0, 14, 28, 42, 27, 5, 182, 0, 101, 184, 0, 255, 96, 62, 29]
abbrev dktX5_rested_0 : List UInt8 := dkwX5_rested_0 ++ dktX5_rested_1
theorem dksX5_rested_0 : cX5_rested.data.toList.drop 0 = dktX5_rested_0 := by decide +kernel
theorem dksX5_rested_1 : cX5_rested.data.toList.drop 23 = dktX5_rested_1 := dk_seg dksX5_rested_0 23 rfl rfl
theorem dX5_rested_0 : decode cX5_rested 0 = .ok (.iload_n 1, 1) := dk_27 (dk_at dksX5_rested_0 0 rfl rfl)
theorem dX5_rested_1 : decode cX5_rested 1 = .ok (.iconst (-1), 1) := dk_2 (dk_at dksX5_rested_0 1 rfl rfl)
theorem dX5_rested_2 : decode cX5_rested 2 = .ok (.if_icmp .ne 8, 3) := dk_160 0 8 (dk_at dksX5_rested_0 2 rfl rfl)
theorem dX5_rested_5 : decode cX5_rested 5 = .ok (.bipush 20, 2) := dk_16 20 (dk_at dksX5_rested_0 5 rfl rfl)
theorem dX5_rested_7 : decode cX5_rested 7 = .ok (.goto 14, 3) := dk_167 0 14 (dk_at dksX5_rested_0 7 rfl rfl)
theorem dX5_rested_10 : decode cX5_rested 10 = .ok (.iload_n 2, 1) := dk_28 (dk_at dksX5_rested_0 10 rfl rfl)
theorem dX5_rested_11 : decode cX5_rested 11 = .ok (.aload_n 0, 1) := dk_42 (dk_at dksX5_rested_0 11 rfl rfl)
theorem dX5_rested_12 : decode cX5_rested 12 = .ok (.iload_n 1, 1) := dk_27 (dk_at dksX5_rested_0 12 rfl rfl)
theorem dX5_rested_13 : decode cX5_rested 13 = .ok (.iconst 2, 1) := dk_5 (dk_at dksX5_rested_0 13 rfl rfl)
theorem dX5_rested_14 : decode cX5_rested 14 = .ok (.invokevirtual 101, 3) := dk_182 0 101 (dk_at dksX5_rested_0 14 rfl rfl)
theorem dX5_rested_17 : decode cX5_rested 17 = .ok (.invokestatic 255, 3) := dk_184 0 255 (dk_at dksX5_rested_0 17 rfl rfl)
theorem dX5_rested_20 : decode cX5_rested 20 = .ok (.iadd, 1) := dk_96 (dk_at dksX5_rested_0 20 rfl rfl)
theorem dX5_rested_21 : decode cX5_rested 21 = .ok (.istore_n 3, 1) := dk_62 (dk_at dksX5_rested_0 21 rfl rfl)
theorem dX5_rested_22 : decode cX5_rested 22 = .ok (.iload_n 3, 1) := dk_29 (dk_at dksX5_rested_0 22 rfl rfl)
theorem dX5_rested_23 : decode cX5_rested 23 = .ok (.bipush 20, 2) := dk_16 20 (dk_at dksX5_rested_1 0 rfl rfl)
theorem dX5_rested_25 : decode cX5_rested 25 = .ok (.if_icmp .le 8, 3) := dk_164 0 8 (dk_at dksX5_rested_1 2 rfl rfl)
theorem dX5_rested_28 : decode cX5_rested 28 = .ok (.bipush 20, 2) := dk_16 20 (dk_at dksX5_rested_1 5 rfl rfl)
theorem dX5_rested_30 : decode cX5_rested 30 = .ok (.goto 4, 3) := dk_167 0 4 (dk_at dksX5_rested_1 7 rfl rfl)
theorem dX5_rested_33 : decode cX5_rested 33 = .ok (.iload_n 3, 1) := dk_29 (dk_at dksX5_rested_1 10 rfl rfl)
theorem dX5_rested_34 : decode cX5_rested 34 = .ok (.ireturn, 1) := dk_172 (dk_at dksX5_rested_1 11 rfl rfl)
abbrev cX5_gainOf : ByteArray := prog_25_method_66_code
def yX5_gainOf : MethodName := ⟨RX5, "gainOf", "(I)I"⟩
def dkwX5_gainOf_1 : List UInt8 := [167, 0, 4, 6, 172]
abbrev dktX5_gainOf_1 : List UInt8 := dkwX5_gainOf_1 ++ []
def dkwX5_gainOf_0 : List UInt8 := [26, 154, 0, 7, 5, 167, 0, 22, 26, 4, 160, 0, 7, 7, 167, 0, 13, 26, 5, 160, 0, 7, 4]
abbrev dktX5_gainOf_0 : List UInt8 := dkwX5_gainOf_0 ++ dktX5_gainOf_1
theorem dksX5_gainOf_0 : cX5_gainOf.data.toList.drop 0 = dktX5_gainOf_0 := by decide +kernel
theorem dksX5_gainOf_1 : cX5_gainOf.data.toList.drop 23 = dktX5_gainOf_1 := dk_seg dksX5_gainOf_0 23 rfl rfl
theorem dX5_gainOf_0 : decode cX5_gainOf 0 = .ok (.iload_n 0, 1) := dk_26 (dk_at dksX5_gainOf_0 0 rfl rfl)
theorem dX5_gainOf_1 : decode cX5_gainOf 1 = .ok (.ifCond .ne 7, 3) := dk_154 0 7 (dk_at dksX5_gainOf_0 1 rfl rfl)
theorem dX5_gainOf_4 : decode cX5_gainOf 4 = .ok (.iconst 2, 1) := dk_5 (dk_at dksX5_gainOf_0 4 rfl rfl)
theorem dX5_gainOf_5 : decode cX5_gainOf 5 = .ok (.goto 22, 3) := dk_167 0 22 (dk_at dksX5_gainOf_0 5 rfl rfl)
theorem dX5_gainOf_8 : decode cX5_gainOf 8 = .ok (.iload_n 0, 1) := dk_26 (dk_at dksX5_gainOf_0 8 rfl rfl)
theorem dX5_gainOf_9 : decode cX5_gainOf 9 = .ok (.iconst 1, 1) := dk_4 (dk_at dksX5_gainOf_0 9 rfl rfl)
theorem dX5_gainOf_10 : decode cX5_gainOf 10 = .ok (.if_icmp .ne 7, 3) := dk_160 0 7 (dk_at dksX5_gainOf_0 10 rfl rfl)
theorem dX5_gainOf_13 : decode cX5_gainOf 13 = .ok (.iconst 4, 1) := dk_7 (dk_at dksX5_gainOf_0 13 rfl rfl)
theorem dX5_gainOf_14 : decode cX5_gainOf 14 = .ok (.goto 13, 3) := dk_167 0 13 (dk_at dksX5_gainOf_0 14 rfl rfl)
theorem dX5_gainOf_17 : decode cX5_gainOf 17 = .ok (.iload_n 0, 1) := dk_26 (dk_at dksX5_gainOf_0 17 rfl rfl)
theorem dX5_gainOf_18 : decode cX5_gainOf 18 = .ok (.iconst 2, 1) := dk_5 (dk_at dksX5_gainOf_0 18 rfl rfl)
theorem dX5_gainOf_19 : decode cX5_gainOf 19 = .ok (.if_icmp .ne 7, 3) := dk_160 0 7 (dk_at dksX5_gainOf_0 19 rfl rfl)
theorem dX5_gainOf_22 : decode cX5_gainOf 22 = .ok (.iconst 1, 1) := dk_4 (dk_at dksX5_gainOf_0 22 rfl rfl)
theorem dX5_gainOf_23 : decode cX5_gainOf 23 = .ok (.goto 4, 3) := dk_167 0 4 (dk_at dksX5_gainOf_1 0 rfl rfl)
theorem dX5_gainOf_26 : decode cX5_gainOf 26 = .ok (.iconst 3, 1) := dk_6 (dk_at dksX5_gainOf_1 3 rfl rfl)
theorem dX5_gainOf_27 : decode cX5_gainOf 27 = .ok (.ireturn, 1) := dk_172 (dk_at dksX5_gainOf_1 4 rfl rfl)
abbrev cX5_why : ByteArray := prog_25_method_70_code
def yX5_why : MethodName := ⟨RX5, "why", "(IIZ)I"⟩
def dkwX5_why_2 : List UInt8 := [167, 0, 7, 42, 180, 0, 68, 172]
abbrev dktX5_why_2 : List UInt8 := dkwX5_why_2 ++ []
def dkwX5_why_1 : List UInt8 := [181, 0, 65, 42, 27, 28, 182, 0, 249, 154, 0, 5, 3, 172, 29, 153, 0, 10, 42, 180, 0, 74]
abbrev dktX5_why_1 : List UInt8 := dkwX5_why_1 ++ dktX5_why_2
def dkwX5_why_0 : List UInt8 := [27, 184, 0, 187, 153, 0, 11, 42, 28, 182, 0, 161, 154, 0, 9, 42, 4, 182, 0, 80, 172, 42, 3]
abbrev dktX5_why_0 : List UInt8 := dkwX5_why_0 ++ dktX5_why_1
theorem dksX5_why_0 : cX5_why.data.toList.drop 0 = dktX5_why_0 := by decide +kernel
theorem dksX5_why_1 : cX5_why.data.toList.drop 23 = dktX5_why_1 := dk_seg dksX5_why_0 23 rfl rfl
theorem dksX5_why_2 : cX5_why.data.toList.drop 45 = dktX5_why_2 := dk_seg dksX5_why_1 22 rfl rfl
theorem dX5_why_0 : decode cX5_why 0 = .ok (.iload_n 1, 1) := dk_27 (dk_at dksX5_why_0 0 rfl rfl)
theorem dX5_why_1 : decode cX5_why 1 = .ok (.invokestatic 187, 3) := dk_184 0 187 (dk_at dksX5_why_0 1 rfl rfl)
theorem dX5_why_4 : decode cX5_why 4 = .ok (.ifCond .eq 11, 3) := dk_153 0 11 (dk_at dksX5_why_0 4 rfl rfl)
theorem dX5_why_7 : decode cX5_why 7 = .ok (.aload_n 0, 1) := dk_42 (dk_at dksX5_why_0 7 rfl rfl)
theorem dX5_why_8 : decode cX5_why 8 = .ok (.iload_n 2, 1) := dk_28 (dk_at dksX5_why_0 8 rfl rfl)
theorem dX5_why_9 : decode cX5_why 9 = .ok (.invokevirtual 161, 3) := dk_182 0 161 (dk_at dksX5_why_0 9 rfl rfl)
theorem dX5_why_12 : decode cX5_why 12 = .ok (.ifCond .ne 9, 3) := dk_154 0 9 (dk_at dksX5_why_0 12 rfl rfl)
theorem dX5_why_15 : decode cX5_why 15 = .ok (.aload_n 0, 1) := dk_42 (dk_at dksX5_why_0 15 rfl rfl)
theorem dX5_why_16 : decode cX5_why 16 = .ok (.iconst 1, 1) := dk_4 (dk_at dksX5_why_0 16 rfl rfl)
theorem dX5_why_17 : decode cX5_why 17 = .ok (.invokevirtual 80, 3) := dk_182 0 80 (dk_at dksX5_why_0 17 rfl rfl)
theorem dX5_why_20 : decode cX5_why 20 = .ok (.ireturn, 1) := dk_172 (dk_at dksX5_why_0 20 rfl rfl)
theorem dX5_why_21 : decode cX5_why 21 = .ok (.aload_n 0, 1) := dk_42 (dk_at dksX5_why_0 21 rfl rfl)
theorem dX5_why_22 : decode cX5_why 22 = .ok (.iconst 0, 1) := dk_3 (dk_at dksX5_why_0 22 rfl rfl)
theorem dX5_why_23 : decode cX5_why 23 = .ok (.putfield 65, 3) := dk_181 0 65 (dk_at dksX5_why_1 0 rfl rfl)
theorem dX5_why_26 : decode cX5_why 26 = .ok (.aload_n 0, 1) := dk_42 (dk_at dksX5_why_1 3 rfl rfl)
theorem dX5_why_27 : decode cX5_why 27 = .ok (.iload_n 1, 1) := dk_27 (dk_at dksX5_why_1 4 rfl rfl)
theorem dX5_why_28 : decode cX5_why 28 = .ok (.iload_n 2, 1) := dk_28 (dk_at dksX5_why_1 5 rfl rfl)
theorem dX5_why_29 : decode cX5_why 29 = .ok (.invokevirtual 249, 3) := dk_182 0 249 (dk_at dksX5_why_1 6 rfl rfl)
theorem dX5_why_32 : decode cX5_why 32 = .ok (.ifCond .ne 5, 3) := dk_154 0 5 (dk_at dksX5_why_1 9 rfl rfl)
theorem dX5_why_35 : decode cX5_why 35 = .ok (.iconst 0, 1) := dk_3 (dk_at dksX5_why_1 12 rfl rfl)
theorem dX5_why_36 : decode cX5_why 36 = .ok (.ireturn, 1) := dk_172 (dk_at dksX5_why_1 13 rfl rfl)
theorem dX5_why_37 : decode cX5_why 37 = .ok (.iload_n 3, 1) := dk_29 (dk_at dksX5_why_1 14 rfl rfl)
theorem dX5_why_38 : decode cX5_why 38 = .ok (.ifCond .eq 10, 3) := dk_153 0 10 (dk_at dksX5_why_1 15 rfl rfl)
theorem dX5_why_41 : decode cX5_why 41 = .ok (.aload_n 0, 1) := dk_42 (dk_at dksX5_why_1 18 rfl rfl)
theorem dX5_why_42 : decode cX5_why 42 = .ok (.getfield 74, 3) := dk_180 0 74 (dk_at dksX5_why_1 19 rfl rfl)
theorem dX5_why_45 : decode cX5_why 45 = .ok (.goto 7, 3) := dk_167 0 7 (dk_at dksX5_why_2 0 rfl rfl)
theorem dX5_why_48 : decode cX5_why 48 = .ok (.aload_n 0, 1) := dk_42 (dk_at dksX5_why_2 3 rfl rfl)
theorem dX5_why_49 : decode cX5_why 49 = .ok (.getfield 68, 3) := dk_180 0 68 (dk_at dksX5_why_2 4 rfl rfl)
theorem dX5_why_52 : decode cX5_why 52 = .ok (.ireturn, 1) := dk_172 (dk_at dksX5_why_2 7 rfl rfl)
abbrev cX5_moves : ByteArray := prog_25_method_71_code
def yX5_moves : MethodName := ⟨RX5, "moves", "(I)I"⟩
def dkwX5_moves_2 : List UInt8 := [120, 128, 61, 132, 3, 1, 167, 255, 224, 28, 172]
abbrev dktX5_moves_2 : List UInt8 := dkwX5_moves_2 ++ []
def dkwX5_moves_1 : List UInt8 := [180, 0, 7, 3, 46, 162, 0, 28, 28, 42, 27, 29, 182, 0, 249, 153, 0, 7, 3, 167, 0, 6, 4, 29]
abbrev dktX5_moves_1 : List UInt8 := dkwX5_moves_1 ++ dktX5_moves_2
def dkwX5_moves_0 : List UInt8 := [27, 184, 0, 187, 154, 0, 9, 42, 4, 182, 0, 80, 172, 42, 3, 181, 0, 65, 3, 61, 3, 62, 29, 42]
abbrev dktX5_moves_0 : List UInt8 := dkwX5_moves_0 ++ dktX5_moves_1
theorem dksX5_moves_0 : cX5_moves.data.toList.drop 0 = dktX5_moves_0 := by decide +kernel
theorem dksX5_moves_1 : cX5_moves.data.toList.drop 24 = dktX5_moves_1 := dk_seg dksX5_moves_0 24 rfl rfl
theorem dksX5_moves_2 : cX5_moves.data.toList.drop 48 = dktX5_moves_2 := dk_seg dksX5_moves_1 24 rfl rfl
theorem dX5_moves_0 : decode cX5_moves 0 = .ok (.iload_n 1, 1) := dk_27 (dk_at dksX5_moves_0 0 rfl rfl)
theorem dX5_moves_1 : decode cX5_moves 1 = .ok (.invokestatic 187, 3) := dk_184 0 187 (dk_at dksX5_moves_0 1 rfl rfl)
theorem dX5_moves_4 : decode cX5_moves 4 = .ok (.ifCond .ne 9, 3) := dk_154 0 9 (dk_at dksX5_moves_0 4 rfl rfl)
theorem dX5_moves_7 : decode cX5_moves 7 = .ok (.aload_n 0, 1) := dk_42 (dk_at dksX5_moves_0 7 rfl rfl)
theorem dX5_moves_8 : decode cX5_moves 8 = .ok (.iconst 1, 1) := dk_4 (dk_at dksX5_moves_0 8 rfl rfl)
theorem dX5_moves_9 : decode cX5_moves 9 = .ok (.invokevirtual 80, 3) := dk_182 0 80 (dk_at dksX5_moves_0 9 rfl rfl)
theorem dX5_moves_12 : decode cX5_moves 12 = .ok (.ireturn, 1) := dk_172 (dk_at dksX5_moves_0 12 rfl rfl)
theorem dX5_moves_13 : decode cX5_moves 13 = .ok (.aload_n 0, 1) := dk_42 (dk_at dksX5_moves_0 13 rfl rfl)
theorem dX5_moves_14 : decode cX5_moves 14 = .ok (.iconst 0, 1) := dk_3 (dk_at dksX5_moves_0 14 rfl rfl)
theorem dX5_moves_15 : decode cX5_moves 15 = .ok (.putfield 65, 3) := dk_181 0 65 (dk_at dksX5_moves_0 15 rfl rfl)
theorem dX5_moves_18 : decode cX5_moves 18 = .ok (.iconst 0, 1) := dk_3 (dk_at dksX5_moves_0 18 rfl rfl)
theorem dX5_moves_19 : decode cX5_moves 19 = .ok (.istore_n 2, 1) := dk_61 (dk_at dksX5_moves_0 19 rfl rfl)
theorem dX5_moves_20 : decode cX5_moves 20 = .ok (.iconst 0, 1) := dk_3 (dk_at dksX5_moves_0 20 rfl rfl)
theorem dX5_moves_21 : decode cX5_moves 21 = .ok (.istore_n 3, 1) := dk_62 (dk_at dksX5_moves_0 21 rfl rfl)
theorem dX5_moves_22 : decode cX5_moves 22 = .ok (.iload_n 3, 1) := dk_29 (dk_at dksX5_moves_0 22 rfl rfl)
theorem dX5_moves_23 : decode cX5_moves 23 = .ok (.aload_n 0, 1) := dk_42 (dk_at dksX5_moves_0 23 rfl rfl)
theorem dX5_moves_24 : decode cX5_moves 24 = .ok (.getfield 7, 3) := dk_180 0 7 (dk_at dksX5_moves_1 0 rfl rfl)
theorem dX5_moves_27 : decode cX5_moves 27 = .ok (.iconst 0, 1) := dk_3 (dk_at dksX5_moves_1 3 rfl rfl)
theorem dX5_moves_28 : decode cX5_moves 28 = .ok (.iaload, 1) := dk_46 (dk_at dksX5_moves_1 4 rfl rfl)
theorem dX5_moves_29 : decode cX5_moves 29 = .ok (.if_icmp .ge 28, 3) := dk_162 0 28 (dk_at dksX5_moves_1 5 rfl rfl)
theorem dX5_moves_32 : decode cX5_moves 32 = .ok (.iload_n 2, 1) := dk_28 (dk_at dksX5_moves_1 8 rfl rfl)
theorem dX5_moves_33 : decode cX5_moves 33 = .ok (.aload_n 0, 1) := dk_42 (dk_at dksX5_moves_1 9 rfl rfl)
theorem dX5_moves_34 : decode cX5_moves 34 = .ok (.iload_n 1, 1) := dk_27 (dk_at dksX5_moves_1 10 rfl rfl)
theorem dX5_moves_35 : decode cX5_moves 35 = .ok (.iload_n 3, 1) := dk_29 (dk_at dksX5_moves_1 11 rfl rfl)
theorem dX5_moves_36 : decode cX5_moves 36 = .ok (.invokevirtual 249, 3) := dk_182 0 249 (dk_at dksX5_moves_1 12 rfl rfl)
theorem dX5_moves_39 : decode cX5_moves 39 = .ok (.ifCond .eq 7, 3) := dk_153 0 7 (dk_at dksX5_moves_1 15 rfl rfl)
theorem dX5_moves_42 : decode cX5_moves 42 = .ok (.iconst 0, 1) := dk_3 (dk_at dksX5_moves_1 18 rfl rfl)
theorem dX5_moves_43 : decode cX5_moves 43 = .ok (.goto 6, 3) := dk_167 0 6 (dk_at dksX5_moves_1 19 rfl rfl)
theorem dX5_moves_46 : decode cX5_moves 46 = .ok (.iconst 1, 1) := dk_4 (dk_at dksX5_moves_1 22 rfl rfl)
theorem dX5_moves_47 : decode cX5_moves 47 = .ok (.iload_n 3, 1) := dk_29 (dk_at dksX5_moves_1 23 rfl rfl)
theorem dX5_moves_48 : decode cX5_moves 48 = .ok (.ishl, 1) := dk_120 (dk_at dksX5_moves_2 0 rfl rfl)
theorem dX5_moves_49 : decode cX5_moves 49 = .ok (.ior, 1) := dk_128 (dk_at dksX5_moves_2 1 rfl rfl)
theorem dX5_moves_50 : decode cX5_moves 50 = .ok (.istore_n 2, 1) := dk_61 (dk_at dksX5_moves_2 2 rfl rfl)
theorem dX5_moves_51 : decode cX5_moves 51 = .ok (.iinc 3 1, 3) := dk_132 3 1 (dk_at dksX5_moves_2 3 rfl rfl)
theorem dX5_moves_54 : decode cX5_moves 54 = .ok (.goto (-32), 3) := dk_167 255 224 (dk_at dksX5_moves_2 6 rfl rfl)
theorem dX5_moves_57 : decode cX5_moves 57 = .ok (.iload_n 2, 1) := dk_28 (dk_at dksX5_moves_2 9 rfl rfl)
theorem dX5_moves_58 : decode cX5_moves 58 = .ok (.ireturn, 1) := dk_172 (dk_at dksX5_moves_2 10 rfl rfl)
abbrev cX5_leastRests : ByteArray := prog_25_method_75_code
def yX5_leastRests : MethodName := ⟨RX5, "leastRests", "(II)I"⟩
def dkwX5_leastRests_6 : List UInt8 := [156, 0, 9, 42, 5, 182, 0, 80, 172, 42, 3, 181, 0, 65, 21, 4, 172]
abbrev dktX5_leastRests_6 : List UInt8 := dkwX5_leastRests_6 ++ []
def dkwX5_leastRests_5 : List UInt8 := [182, 1, 14, 54, 5, 132, 4, 1, 42, 29, 182, 1, 11, 167, 255, 226, 42, 180, 0, 25, 28, 4, 96, 46]
abbrev dktX5_leastRests_5 : List UInt8 := dkwX5_leastRests_5 ++ dktX5_leastRests_6
def dkwX5_leastRests_4 : List UInt8 := [54, 4, 4, 54, 5, 42, 180, 0, 25, 28, 4, 96, 46, 156, 0, 25, 21, 5, 153, 0, 20, 42]
abbrev dktX5_leastRests_4 : List UInt8 := dkwX5_leastRests_4 ++ dktX5_leastRests_5
def dkwX5_leastRests_3 : List UInt8 := [180, 0, 25, 42, 27, 182, 0, 113, 4, 96, 42, 27, 5, 182, 0, 107, 79, 42, 29, 182, 1, 11, 3]
abbrev dktX5_leastRests_3 : List UInt8 := dkwX5_leastRests_3 ++ dktX5_leastRests_4
def dkwX5_leastRests_2 : List UInt8 := [54, 4, 21, 4, 16, 21, 162, 0, 17, 42, 180, 0, 25, 21, 4, 2, 79, 132, 4, 1, 167, 255, 238, 42]
abbrev dktX5_leastRests_2 : List UInt8 := dkwX5_leastRests_2 ++ dktX5_leastRests_3
def dkwX5_leastRests_1 : List UInt8 := [182, 0, 107, 5, 160, 0, 9, 42, 5, 182, 0, 80, 172, 42, 27, 182, 0, 190, 184, 0, 196, 62, 3]
abbrev dktX5_leastRests_1 : List UInt8 := dkwX5_leastRests_1 ++ dktX5_leastRests_2
def dkwX5_leastRests_0 : List UInt8 := [27, 184, 0, 187, 153, 0, 11, 42, 28, 182, 0, 161, 154, 0, 9, 42, 4, 182, 0, 80, 172, 42, 27, 4]
abbrev dktX5_leastRests_0 : List UInt8 := dkwX5_leastRests_0 ++ dktX5_leastRests_1
theorem dksX5_leastRests_0 : cX5_leastRests.data.toList.drop 0 = dktX5_leastRests_0 := by decide +kernel
theorem dksX5_leastRests_1 : cX5_leastRests.data.toList.drop 24 = dktX5_leastRests_1 := dk_seg dksX5_leastRests_0 24 rfl rfl
theorem dksX5_leastRests_2 : cX5_leastRests.data.toList.drop 47 = dktX5_leastRests_2 := dk_seg dksX5_leastRests_1 23 rfl rfl
theorem dksX5_leastRests_3 : cX5_leastRests.data.toList.drop 71 = dktX5_leastRests_3 := dk_seg dksX5_leastRests_2 24 rfl rfl
theorem dksX5_leastRests_4 : cX5_leastRests.data.toList.drop 94 = dktX5_leastRests_4 := dk_seg dksX5_leastRests_3 23 rfl rfl
theorem dksX5_leastRests_5 : cX5_leastRests.data.toList.drop 116 = dktX5_leastRests_5 := dk_seg dksX5_leastRests_4 22 rfl rfl
theorem dksX5_leastRests_6 : cX5_leastRests.data.toList.drop 140 = dktX5_leastRests_6 := dk_seg dksX5_leastRests_5 24 rfl rfl
theorem dX5_leastRests_0 : decode cX5_leastRests 0 = .ok (.iload_n 1, 1) := dk_27 (dk_at dksX5_leastRests_0 0 rfl rfl)
theorem dX5_leastRests_1 : decode cX5_leastRests 1 = .ok (.invokestatic 187, 3) := dk_184 0 187 (dk_at dksX5_leastRests_0 1 rfl rfl)
theorem dX5_leastRests_4 : decode cX5_leastRests 4 = .ok (.ifCond .eq 11, 3) := dk_153 0 11 (dk_at dksX5_leastRests_0 4 rfl rfl)
theorem dX5_leastRests_7 : decode cX5_leastRests 7 = .ok (.aload_n 0, 1) := dk_42 (dk_at dksX5_leastRests_0 7 rfl rfl)
theorem dX5_leastRests_8 : decode cX5_leastRests 8 = .ok (.iload_n 2, 1) := dk_28 (dk_at dksX5_leastRests_0 8 rfl rfl)
theorem dX5_leastRests_9 : decode cX5_leastRests 9 = .ok (.invokevirtual 161, 3) := dk_182 0 161 (dk_at dksX5_leastRests_0 9 rfl rfl)
theorem dX5_leastRests_12 : decode cX5_leastRests 12 = .ok (.ifCond .ne 9, 3) := dk_154 0 9 (dk_at dksX5_leastRests_0 12 rfl rfl)
theorem dX5_leastRests_15 : decode cX5_leastRests 15 = .ok (.aload_n 0, 1) := dk_42 (dk_at dksX5_leastRests_0 15 rfl rfl)
theorem dX5_leastRests_16 : decode cX5_leastRests 16 = .ok (.iconst 1, 1) := dk_4 (dk_at dksX5_leastRests_0 16 rfl rfl)
theorem dX5_leastRests_17 : decode cX5_leastRests 17 = .ok (.invokevirtual 80, 3) := dk_182 0 80 (dk_at dksX5_leastRests_0 17 rfl rfl)
theorem dX5_leastRests_20 : decode cX5_leastRests 20 = .ok (.ireturn, 1) := dk_172 (dk_at dksX5_leastRests_0 20 rfl rfl)
theorem dX5_leastRests_21 : decode cX5_leastRests 21 = .ok (.aload_n 0, 1) := dk_42 (dk_at dksX5_leastRests_0 21 rfl rfl)
theorem dX5_leastRests_22 : decode cX5_leastRests 22 = .ok (.iload_n 1, 1) := dk_27 (dk_at dksX5_leastRests_0 22 rfl rfl)
theorem dX5_leastRests_23 : decode cX5_leastRests 23 = .ok (.iconst 1, 1) := dk_4 (dk_at dksX5_leastRests_0 23 rfl rfl)
theorem dX5_leastRests_24 : decode cX5_leastRests 24 = .ok (.invokevirtual 107, 3) := dk_182 0 107 (dk_at dksX5_leastRests_1 0 rfl rfl)
theorem dX5_leastRests_27 : decode cX5_leastRests 27 = .ok (.iconst 2, 1) := dk_5 (dk_at dksX5_leastRests_1 3 rfl rfl)
theorem dX5_leastRests_28 : decode cX5_leastRests 28 = .ok (.if_icmp .ne 9, 3) := dk_160 0 9 (dk_at dksX5_leastRests_1 4 rfl rfl)
theorem dX5_leastRests_31 : decode cX5_leastRests 31 = .ok (.aload_n 0, 1) := dk_42 (dk_at dksX5_leastRests_1 7 rfl rfl)
theorem dX5_leastRests_32 : decode cX5_leastRests 32 = .ok (.iconst 2, 1) := dk_5 (dk_at dksX5_leastRests_1 8 rfl rfl)
theorem dX5_leastRests_33 : decode cX5_leastRests 33 = .ok (.invokevirtual 80, 3) := dk_182 0 80 (dk_at dksX5_leastRests_1 9 rfl rfl)
theorem dX5_leastRests_36 : decode cX5_leastRests 36 = .ok (.ireturn, 1) := dk_172 (dk_at dksX5_leastRests_1 12 rfl rfl)
theorem dX5_leastRests_37 : decode cX5_leastRests 37 = .ok (.aload_n 0, 1) := dk_42 (dk_at dksX5_leastRests_1 13 rfl rfl)
theorem dX5_leastRests_38 : decode cX5_leastRests 38 = .ok (.iload_n 1, 1) := dk_27 (dk_at dksX5_leastRests_1 14 rfl rfl)
theorem dX5_leastRests_39 : decode cX5_leastRests 39 = .ok (.invokevirtual 190, 3) := dk_182 0 190 (dk_at dksX5_leastRests_1 15 rfl rfl)
theorem dX5_leastRests_42 : decode cX5_leastRests 42 = .ok (.invokestatic 196, 3) := dk_184 0 196 (dk_at dksX5_leastRests_1 18 rfl rfl)
theorem dX5_leastRests_45 : decode cX5_leastRests 45 = .ok (.istore_n 3, 1) := dk_62 (dk_at dksX5_leastRests_1 21 rfl rfl)
theorem dX5_leastRests_46 : decode cX5_leastRests 46 = .ok (.iconst 0, 1) := dk_3 (dk_at dksX5_leastRests_1 22 rfl rfl)
theorem dX5_leastRests_47 : decode cX5_leastRests 47 = .ok (.istore 4, 2) := dk_54 4 (dk_at dksX5_leastRests_2 0 rfl rfl)
theorem dX5_leastRests_49 : decode cX5_leastRests 49 = .ok (.iload 4, 2) := dk_21 4 (dk_at dksX5_leastRests_2 2 rfl rfl)
theorem dX5_leastRests_51 : decode cX5_leastRests 51 = .ok (.bipush 21, 2) := dk_16 21 (dk_at dksX5_leastRests_2 4 rfl rfl)
theorem dX5_leastRests_53 : decode cX5_leastRests 53 = .ok (.if_icmp .ge 17, 3) := dk_162 0 17 (dk_at dksX5_leastRests_2 6 rfl rfl)
theorem dX5_leastRests_56 : decode cX5_leastRests 56 = .ok (.aload_n 0, 1) := dk_42 (dk_at dksX5_leastRests_2 9 rfl rfl)
theorem dX5_leastRests_57 : decode cX5_leastRests 57 = .ok (.getfield 25, 3) := dk_180 0 25 (dk_at dksX5_leastRests_2 10 rfl rfl)
theorem dX5_leastRests_60 : decode cX5_leastRests 60 = .ok (.iload 4, 2) := dk_21 4 (dk_at dksX5_leastRests_2 13 rfl rfl)
theorem dX5_leastRests_62 : decode cX5_leastRests 62 = .ok (.iconst (-1), 1) := dk_2 (dk_at dksX5_leastRests_2 15 rfl rfl)
theorem dX5_leastRests_63 : decode cX5_leastRests 63 = .ok (.iastore, 1) := dk_79 (dk_at dksX5_leastRests_2 16 rfl rfl)
theorem dX5_leastRests_64 : decode cX5_leastRests 64 = .ok (.iinc 4 1, 3) := dk_132 4 1 (dk_at dksX5_leastRests_2 17 rfl rfl)
theorem dX5_leastRests_67 : decode cX5_leastRests 67 = .ok (.goto (-18), 3) := dk_167 255 238 (dk_at dksX5_leastRests_2 20 rfl rfl)
theorem dX5_leastRests_70 : decode cX5_leastRests 70 = .ok (.aload_n 0, 1) := dk_42 (dk_at dksX5_leastRests_2 23 rfl rfl)
theorem dX5_leastRests_71 : decode cX5_leastRests 71 = .ok (.getfield 25, 3) := dk_180 0 25 (dk_at dksX5_leastRests_3 0 rfl rfl)
theorem dX5_leastRests_74 : decode cX5_leastRests 74 = .ok (.aload_n 0, 1) := dk_42 (dk_at dksX5_leastRests_3 3 rfl rfl)
theorem dX5_leastRests_75 : decode cX5_leastRests 75 = .ok (.iload_n 1, 1) := dk_27 (dk_at dksX5_leastRests_3 4 rfl rfl)
theorem dX5_leastRests_76 : decode cX5_leastRests 76 = .ok (.invokevirtual 113, 3) := dk_182 0 113 (dk_at dksX5_leastRests_3 5 rfl rfl)
theorem dX5_leastRests_79 : decode cX5_leastRests 79 = .ok (.iconst 1, 1) := dk_4 (dk_at dksX5_leastRests_3 8 rfl rfl)
theorem dX5_leastRests_80 : decode cX5_leastRests 80 = .ok (.iadd, 1) := dk_96 (dk_at dksX5_leastRests_3 9 rfl rfl)
theorem dX5_leastRests_81 : decode cX5_leastRests 81 = .ok (.aload_n 0, 1) := dk_42 (dk_at dksX5_leastRests_3 10 rfl rfl)
theorem dX5_leastRests_82 : decode cX5_leastRests 82 = .ok (.iload_n 1, 1) := dk_27 (dk_at dksX5_leastRests_3 11 rfl rfl)
theorem dX5_leastRests_83 : decode cX5_leastRests 83 = .ok (.iconst 2, 1) := dk_5 (dk_at dksX5_leastRests_3 12 rfl rfl)
theorem dX5_leastRests_84 : decode cX5_leastRests 84 = .ok (.invokevirtual 107, 3) := dk_182 0 107 (dk_at dksX5_leastRests_3 13 rfl rfl)
theorem dX5_leastRests_87 : decode cX5_leastRests 87 = .ok (.iastore, 1) := dk_79 (dk_at dksX5_leastRests_3 16 rfl rfl)
theorem dX5_leastRests_88 : decode cX5_leastRests 88 = .ok (.aload_n 0, 1) := dk_42 (dk_at dksX5_leastRests_3 17 rfl rfl)
theorem dX5_leastRests_89 : decode cX5_leastRests 89 = .ok (.iload_n 3, 1) := dk_29 (dk_at dksX5_leastRests_3 18 rfl rfl)
theorem dX5_leastRests_90 : decode cX5_leastRests 90 = .ok (.invokevirtual 267, 3) := dk_182 1 11 (dk_at dksX5_leastRests_3 19 rfl rfl)
theorem dX5_leastRests_93 : decode cX5_leastRests 93 = .ok (.iconst 0, 1) := dk_3 (dk_at dksX5_leastRests_3 22 rfl rfl)
theorem dX5_leastRests_94 : decode cX5_leastRests 94 = .ok (.istore 4, 2) := dk_54 4 (dk_at dksX5_leastRests_4 0 rfl rfl)
theorem dX5_leastRests_96 : decode cX5_leastRests 96 = .ok (.iconst 1, 1) := dk_4 (dk_at dksX5_leastRests_4 2 rfl rfl)
theorem dX5_leastRests_97 : decode cX5_leastRests 97 = .ok (.istore 5, 2) := dk_54 5 (dk_at dksX5_leastRests_4 3 rfl rfl)
theorem dX5_leastRests_99 : decode cX5_leastRests 99 = .ok (.aload_n 0, 1) := dk_42 (dk_at dksX5_leastRests_4 5 rfl rfl)
theorem dX5_leastRests_100 : decode cX5_leastRests 100 = .ok (.getfield 25, 3) := dk_180 0 25 (dk_at dksX5_leastRests_4 6 rfl rfl)
theorem dX5_leastRests_103 : decode cX5_leastRests 103 = .ok (.iload_n 2, 1) := dk_28 (dk_at dksX5_leastRests_4 9 rfl rfl)
theorem dX5_leastRests_104 : decode cX5_leastRests 104 = .ok (.iconst 1, 1) := dk_4 (dk_at dksX5_leastRests_4 10 rfl rfl)
theorem dX5_leastRests_105 : decode cX5_leastRests 105 = .ok (.iadd, 1) := dk_96 (dk_at dksX5_leastRests_4 11 rfl rfl)
theorem dX5_leastRests_106 : decode cX5_leastRests 106 = .ok (.iaload, 1) := dk_46 (dk_at dksX5_leastRests_4 12 rfl rfl)
theorem dX5_leastRests_107 : decode cX5_leastRests 107 = .ok (.ifCond .ge 25, 3) := dk_156 0 25 (dk_at dksX5_leastRests_4 13 rfl rfl)
theorem dX5_leastRests_110 : decode cX5_leastRests 110 = .ok (.iload 5, 2) := dk_21 5 (dk_at dksX5_leastRests_4 16 rfl rfl)
theorem dX5_leastRests_112 : decode cX5_leastRests 112 = .ok (.ifCond .eq 20, 3) := dk_153 0 20 (dk_at dksX5_leastRests_4 18 rfl rfl)
theorem dX5_leastRests_115 : decode cX5_leastRests 115 = .ok (.aload_n 0, 1) := dk_42 (dk_at dksX5_leastRests_4 21 rfl rfl)
theorem dX5_leastRests_116 : decode cX5_leastRests 116 = .ok (.invokevirtual 270, 3) := dk_182 1 14 (dk_at dksX5_leastRests_5 0 rfl rfl)
theorem dX5_leastRests_119 : decode cX5_leastRests 119 = .ok (.istore 5, 2) := dk_54 5 (dk_at dksX5_leastRests_5 3 rfl rfl)
theorem dX5_leastRests_121 : decode cX5_leastRests 121 = .ok (.iinc 4 1, 3) := dk_132 4 1 (dk_at dksX5_leastRests_5 5 rfl rfl)
theorem dX5_leastRests_124 : decode cX5_leastRests 124 = .ok (.aload_n 0, 1) := dk_42 (dk_at dksX5_leastRests_5 8 rfl rfl)
theorem dX5_leastRests_125 : decode cX5_leastRests 125 = .ok (.iload_n 3, 1) := dk_29 (dk_at dksX5_leastRests_5 9 rfl rfl)
theorem dX5_leastRests_126 : decode cX5_leastRests 126 = .ok (.invokevirtual 267, 3) := dk_182 1 11 (dk_at dksX5_leastRests_5 10 rfl rfl)
theorem dX5_leastRests_129 : decode cX5_leastRests 129 = .ok (.goto (-30), 3) := dk_167 255 226 (dk_at dksX5_leastRests_5 13 rfl rfl)
theorem dX5_leastRests_132 : decode cX5_leastRests 132 = .ok (.aload_n 0, 1) := dk_42 (dk_at dksX5_leastRests_5 16 rfl rfl)
theorem dX5_leastRests_133 : decode cX5_leastRests 133 = .ok (.getfield 25, 3) := dk_180 0 25 (dk_at dksX5_leastRests_5 17 rfl rfl)
theorem dX5_leastRests_136 : decode cX5_leastRests 136 = .ok (.iload_n 2, 1) := dk_28 (dk_at dksX5_leastRests_5 20 rfl rfl)
theorem dX5_leastRests_137 : decode cX5_leastRests 137 = .ok (.iconst 1, 1) := dk_4 (dk_at dksX5_leastRests_5 21 rfl rfl)
theorem dX5_leastRests_138 : decode cX5_leastRests 138 = .ok (.iadd, 1) := dk_96 (dk_at dksX5_leastRests_5 22 rfl rfl)
theorem dX5_leastRests_139 : decode cX5_leastRests 139 = .ok (.iaload, 1) := dk_46 (dk_at dksX5_leastRests_5 23 rfl rfl)
theorem dX5_leastRests_140 : decode cX5_leastRests 140 = .ok (.ifCond .ge 9, 3) := dk_156 0 9 (dk_at dksX5_leastRests_6 0 rfl rfl)
theorem dX5_leastRests_143 : decode cX5_leastRests 143 = .ok (.aload_n 0, 1) := dk_42 (dk_at dksX5_leastRests_6 3 rfl rfl)
theorem dX5_leastRests_144 : decode cX5_leastRests 144 = .ok (.iconst 2, 1) := dk_5 (dk_at dksX5_leastRests_6 4 rfl rfl)
theorem dX5_leastRests_145 : decode cX5_leastRests 145 = .ok (.invokevirtual 80, 3) := dk_182 0 80 (dk_at dksX5_leastRests_6 5 rfl rfl)
theorem dX5_leastRests_148 : decode cX5_leastRests 148 = .ok (.ireturn, 1) := dk_172 (dk_at dksX5_leastRests_6 8 rfl rfl)
theorem dX5_leastRests_149 : decode cX5_leastRests 149 = .ok (.aload_n 0, 1) := dk_42 (dk_at dksX5_leastRests_6 9 rfl rfl)
theorem dX5_leastRests_150 : decode cX5_leastRests 150 = .ok (.iconst 0, 1) := dk_3 (dk_at dksX5_leastRests_6 10 rfl rfl)
theorem dX5_leastRests_151 : decode cX5_leastRests 151 = .ok (.putfield 65, 3) := dk_181 0 65 (dk_at dksX5_leastRests_6 11 rfl rfl)
theorem dX5_leastRests_154 : decode cX5_leastRests 154 = .ok (.iload 4, 2) := dk_21 4 (dk_at dksX5_leastRests_6 14 rfl rfl)
theorem dX5_leastRests_156 : decode cX5_leastRests 156 = .ok (.ireturn, 1) := dk_172 (dk_at dksX5_leastRests_6 16 rfl rfl)
abbrev cX5_spreads : ByteArray := prog_25_method_73_code
def yX5_spreads : MethodName := ⟨RX5, "spreads", "(I)V"⟩
def dkwX5_spreads_5 : List UInt8 := [167, 255, 163, 132, 3, 1, 167, 255, 144, 167, 255, 133, 177]
abbrev dktX5_spreads_5 : List UInt8 := dkwX5_spreads_5 ++ []
def dkwX5_spreads_4 : List UInt8 := [156, 0, 6, 167, 0, 16, 42, 180, 0, 25, 21, 4, 4, 96, 21, 5, 79, 4, 61, 132, 4, 1]
abbrev dktX5_spreads_4 : List UInt8 := dkwX5_spreads_4 ++ dktX5_spreads_5
def dkwX5_spreads_3 : List UInt8 := [182, 0, 119, 100, 27, 100, 54, 5, 21, 5, 42, 180, 0, 25, 21, 4, 4, 96, 46, 164, 0, 24, 21, 5]
abbrev dktX5_spreads_3 : List UInt8 := dkwX5_spreads_3 ++ dktX5_spreads_4
def dkwX5_spreads_2 : List UInt8 := [21, 4, 182, 1, 8, 154, 0, 6, 167, 0, 58, 42, 180, 0, 25, 29, 4, 96, 46, 42, 29, 21, 4]
abbrev dktX5_spreads_2 : List UInt8 := dkwX5_spreads_2 ++ dktX5_spreads_3
def dkwX5_spreads_1 : List UInt8 := [21, 4, 42, 180, 0, 7, 3, 46, 162, 0, 88, 42, 180, 0, 25, 29, 4, 96, 46, 155, 0, 71, 42, 29]
abbrev dktX5_spreads_1 : List UInt8 := dkwX5_spreads_1 ++ dktX5_spreads_2
def dkwX5_spreads_0 : List UInt8 := [4, 61, 28, 153, 0, 125, 3, 61, 2, 62, 29, 42, 180, 0, 7, 3, 46, 162, 0, 108, 2, 54, 4]
abbrev dktX5_spreads_0 : List UInt8 := dkwX5_spreads_0 ++ dktX5_spreads_1
theorem dksX5_spreads_0 : cX5_spreads.data.toList.drop 0 = dktX5_spreads_0 := by decide +kernel
theorem dksX5_spreads_1 : cX5_spreads.data.toList.drop 23 = dktX5_spreads_1 := dk_seg dksX5_spreads_0 23 rfl rfl
theorem dksX5_spreads_2 : cX5_spreads.data.toList.drop 47 = dktX5_spreads_2 := dk_seg dksX5_spreads_1 24 rfl rfl
theorem dksX5_spreads_3 : cX5_spreads.data.toList.drop 70 = dktX5_spreads_3 := dk_seg dksX5_spreads_2 23 rfl rfl
theorem dksX5_spreads_4 : cX5_spreads.data.toList.drop 94 = dktX5_spreads_4 := dk_seg dksX5_spreads_3 24 rfl rfl
theorem dksX5_spreads_5 : cX5_spreads.data.toList.drop 116 = dktX5_spreads_5 := dk_seg dksX5_spreads_4 22 rfl rfl
theorem dX5_spreads_0 : decode cX5_spreads 0 = .ok (.iconst 1, 1) := dk_4 (dk_at dksX5_spreads_0 0 rfl rfl)
theorem dX5_spreads_1 : decode cX5_spreads 1 = .ok (.istore_n 2, 1) := dk_61 (dk_at dksX5_spreads_0 1 rfl rfl)
theorem dX5_spreads_2 : decode cX5_spreads 2 = .ok (.iload_n 2, 1) := dk_28 (dk_at dksX5_spreads_0 2 rfl rfl)
theorem dX5_spreads_3 : decode cX5_spreads 3 = .ok (.ifCond .eq 125, 3) := dk_153 0 125 (dk_at dksX5_spreads_0 3 rfl rfl)
theorem dX5_spreads_6 : decode cX5_spreads 6 = .ok (.iconst 0, 1) := dk_3 (dk_at dksX5_spreads_0 6 rfl rfl)
theorem dX5_spreads_7 : decode cX5_spreads 7 = .ok (.istore_n 2, 1) := dk_61 (dk_at dksX5_spreads_0 7 rfl rfl)
theorem dX5_spreads_8 : decode cX5_spreads 8 = .ok (.iconst (-1), 1) := dk_2 (dk_at dksX5_spreads_0 8 rfl rfl)
theorem dX5_spreads_9 : decode cX5_spreads 9 = .ok (.istore_n 3, 1) := dk_62 (dk_at dksX5_spreads_0 9 rfl rfl)
theorem dX5_spreads_10 : decode cX5_spreads 10 = .ok (.iload_n 3, 1) := dk_29 (dk_at dksX5_spreads_0 10 rfl rfl)
theorem dX5_spreads_11 : decode cX5_spreads 11 = .ok (.aload_n 0, 1) := dk_42 (dk_at dksX5_spreads_0 11 rfl rfl)
theorem dX5_spreads_12 : decode cX5_spreads 12 = .ok (.getfield 7, 3) := dk_180 0 7 (dk_at dksX5_spreads_0 12 rfl rfl)
theorem dX5_spreads_15 : decode cX5_spreads 15 = .ok (.iconst 0, 1) := dk_3 (dk_at dksX5_spreads_0 15 rfl rfl)
theorem dX5_spreads_16 : decode cX5_spreads 16 = .ok (.iaload, 1) := dk_46 (dk_at dksX5_spreads_0 16 rfl rfl)
theorem dX5_spreads_17 : decode cX5_spreads 17 = .ok (.if_icmp .ge 108, 3) := dk_162 0 108 (dk_at dksX5_spreads_0 17 rfl rfl)
theorem dX5_spreads_20 : decode cX5_spreads 20 = .ok (.iconst (-1), 1) := dk_2 (dk_at dksX5_spreads_0 20 rfl rfl)
theorem dX5_spreads_21 : decode cX5_spreads 21 = .ok (.istore 4, 2) := dk_54 4 (dk_at dksX5_spreads_0 21 rfl rfl)
theorem dX5_spreads_23 : decode cX5_spreads 23 = .ok (.iload 4, 2) := dk_21 4 (dk_at dksX5_spreads_1 0 rfl rfl)
theorem dX5_spreads_25 : decode cX5_spreads 25 = .ok (.aload_n 0, 1) := dk_42 (dk_at dksX5_spreads_1 2 rfl rfl)
theorem dX5_spreads_26 : decode cX5_spreads 26 = .ok (.getfield 7, 3) := dk_180 0 7 (dk_at dksX5_spreads_1 3 rfl rfl)
theorem dX5_spreads_29 : decode cX5_spreads 29 = .ok (.iconst 0, 1) := dk_3 (dk_at dksX5_spreads_1 6 rfl rfl)
theorem dX5_spreads_30 : decode cX5_spreads 30 = .ok (.iaload, 1) := dk_46 (dk_at dksX5_spreads_1 7 rfl rfl)
theorem dX5_spreads_31 : decode cX5_spreads 31 = .ok (.if_icmp .ge 88, 3) := dk_162 0 88 (dk_at dksX5_spreads_1 8 rfl rfl)
theorem dX5_spreads_34 : decode cX5_spreads 34 = .ok (.aload_n 0, 1) := dk_42 (dk_at dksX5_spreads_1 11 rfl rfl)
theorem dX5_spreads_35 : decode cX5_spreads 35 = .ok (.getfield 25, 3) := dk_180 0 25 (dk_at dksX5_spreads_1 12 rfl rfl)
theorem dX5_spreads_38 : decode cX5_spreads 38 = .ok (.iload_n 3, 1) := dk_29 (dk_at dksX5_spreads_1 15 rfl rfl)
theorem dX5_spreads_39 : decode cX5_spreads 39 = .ok (.iconst 1, 1) := dk_4 (dk_at dksX5_spreads_1 16 rfl rfl)
theorem dX5_spreads_40 : decode cX5_spreads 40 = .ok (.iadd, 1) := dk_96 (dk_at dksX5_spreads_1 17 rfl rfl)
theorem dX5_spreads_41 : decode cX5_spreads 41 = .ok (.iaload, 1) := dk_46 (dk_at dksX5_spreads_1 18 rfl rfl)
theorem dX5_spreads_42 : decode cX5_spreads 42 = .ok (.ifCond .lt 71, 3) := dk_155 0 71 (dk_at dksX5_spreads_1 19 rfl rfl)
theorem dX5_spreads_45 : decode cX5_spreads 45 = .ok (.aload_n 0, 1) := dk_42 (dk_at dksX5_spreads_1 22 rfl rfl)
theorem dX5_spreads_46 : decode cX5_spreads 46 = .ok (.iload_n 3, 1) := dk_29 (dk_at dksX5_spreads_1 23 rfl rfl)
theorem dX5_spreads_47 : decode cX5_spreads 47 = .ok (.iload 4, 2) := dk_21 4 (dk_at dksX5_spreads_2 0 rfl rfl)
theorem dX5_spreads_49 : decode cX5_spreads 49 = .ok (.invokevirtual 264, 3) := dk_182 1 8 (dk_at dksX5_spreads_2 2 rfl rfl)
theorem dX5_spreads_52 : decode cX5_spreads 52 = .ok (.ifCond .ne 6, 3) := dk_154 0 6 (dk_at dksX5_spreads_2 5 rfl rfl)
theorem dX5_spreads_55 : decode cX5_spreads 55 = .ok (.goto 58, 3) := dk_167 0 58 (dk_at dksX5_spreads_2 8 rfl rfl)
theorem dX5_spreads_58 : decode cX5_spreads 58 = .ok (.aload_n 0, 1) := dk_42 (dk_at dksX5_spreads_2 11 rfl rfl)
theorem dX5_spreads_59 : decode cX5_spreads 59 = .ok (.getfield 25, 3) := dk_180 0 25 (dk_at dksX5_spreads_2 12 rfl rfl)
theorem dX5_spreads_62 : decode cX5_spreads 62 = .ok (.iload_n 3, 1) := dk_29 (dk_at dksX5_spreads_2 15 rfl rfl)
theorem dX5_spreads_63 : decode cX5_spreads 63 = .ok (.iconst 1, 1) := dk_4 (dk_at dksX5_spreads_2 16 rfl rfl)
theorem dX5_spreads_64 : decode cX5_spreads 64 = .ok (.iadd, 1) := dk_96 (dk_at dksX5_spreads_2 17 rfl rfl)
theorem dX5_spreads_65 : decode cX5_spreads 65 = .ok (.iaload, 1) := dk_46 (dk_at dksX5_spreads_2 18 rfl rfl)
theorem dX5_spreads_66 : decode cX5_spreads 66 = .ok (.aload_n 0, 1) := dk_42 (dk_at dksX5_spreads_2 19 rfl rfl)
theorem dX5_spreads_67 : decode cX5_spreads 67 = .ok (.iload_n 3, 1) := dk_29 (dk_at dksX5_spreads_2 20 rfl rfl)
theorem dX5_spreads_68 : decode cX5_spreads 68 = .ok (.iload 4, 2) := dk_21 4 (dk_at dksX5_spreads_2 21 rfl rfl)
theorem dX5_spreads_70 : decode cX5_spreads 70 = .ok (.invokevirtual 119, 3) := dk_182 0 119 (dk_at dksX5_spreads_3 0 rfl rfl)
theorem dX5_spreads_73 : decode cX5_spreads 73 = .ok (.isub, 1) := dk_100 (dk_at dksX5_spreads_3 3 rfl rfl)
theorem dX5_spreads_74 : decode cX5_spreads 74 = .ok (.iload_n 1, 1) := dk_27 (dk_at dksX5_spreads_3 4 rfl rfl)
theorem dX5_spreads_75 : decode cX5_spreads 75 = .ok (.isub, 1) := dk_100 (dk_at dksX5_spreads_3 5 rfl rfl)
theorem dX5_spreads_76 : decode cX5_spreads 76 = .ok (.istore 5, 2) := dk_54 5 (dk_at dksX5_spreads_3 6 rfl rfl)
theorem dX5_spreads_78 : decode cX5_spreads 78 = .ok (.iload 5, 2) := dk_21 5 (dk_at dksX5_spreads_3 8 rfl rfl)
theorem dX5_spreads_80 : decode cX5_spreads 80 = .ok (.aload_n 0, 1) := dk_42 (dk_at dksX5_spreads_3 10 rfl rfl)
theorem dX5_spreads_81 : decode cX5_spreads 81 = .ok (.getfield 25, 3) := dk_180 0 25 (dk_at dksX5_spreads_3 11 rfl rfl)
theorem dX5_spreads_84 : decode cX5_spreads 84 = .ok (.iload 4, 2) := dk_21 4 (dk_at dksX5_spreads_3 14 rfl rfl)
theorem dX5_spreads_86 : decode cX5_spreads 86 = .ok (.iconst 1, 1) := dk_4 (dk_at dksX5_spreads_3 16 rfl rfl)
theorem dX5_spreads_87 : decode cX5_spreads 87 = .ok (.iadd, 1) := dk_96 (dk_at dksX5_spreads_3 17 rfl rfl)
theorem dX5_spreads_88 : decode cX5_spreads 88 = .ok (.iaload, 1) := dk_46 (dk_at dksX5_spreads_3 18 rfl rfl)
theorem dX5_spreads_89 : decode cX5_spreads 89 = .ok (.if_icmp .le 24, 3) := dk_164 0 24 (dk_at dksX5_spreads_3 19 rfl rfl)
theorem dX5_spreads_92 : decode cX5_spreads 92 = .ok (.iload 5, 2) := dk_21 5 (dk_at dksX5_spreads_3 22 rfl rfl)
theorem dX5_spreads_94 : decode cX5_spreads 94 = .ok (.ifCond .ge 6, 3) := dk_156 0 6 (dk_at dksX5_spreads_4 0 rfl rfl)
theorem dX5_spreads_97 : decode cX5_spreads 97 = .ok (.goto 16, 3) := dk_167 0 16 (dk_at dksX5_spreads_4 3 rfl rfl)
theorem dX5_spreads_100 : decode cX5_spreads 100 = .ok (.aload_n 0, 1) := dk_42 (dk_at dksX5_spreads_4 6 rfl rfl)
theorem dX5_spreads_101 : decode cX5_spreads 101 = .ok (.getfield 25, 3) := dk_180 0 25 (dk_at dksX5_spreads_4 7 rfl rfl)
theorem dX5_spreads_104 : decode cX5_spreads 104 = .ok (.iload 4, 2) := dk_21 4 (dk_at dksX5_spreads_4 10 rfl rfl)
theorem dX5_spreads_106 : decode cX5_spreads 106 = .ok (.iconst 1, 1) := dk_4 (dk_at dksX5_spreads_4 12 rfl rfl)
theorem dX5_spreads_107 : decode cX5_spreads 107 = .ok (.iadd, 1) := dk_96 (dk_at dksX5_spreads_4 13 rfl rfl)
theorem dX5_spreads_108 : decode cX5_spreads 108 = .ok (.iload 5, 2) := dk_21 5 (dk_at dksX5_spreads_4 14 rfl rfl)
theorem dX5_spreads_110 : decode cX5_spreads 110 = .ok (.iastore, 1) := dk_79 (dk_at dksX5_spreads_4 16 rfl rfl)
theorem dX5_spreads_111 : decode cX5_spreads 111 = .ok (.iconst 1, 1) := dk_4 (dk_at dksX5_spreads_4 17 rfl rfl)
theorem dX5_spreads_112 : decode cX5_spreads 112 = .ok (.istore_n 2, 1) := dk_61 (dk_at dksX5_spreads_4 18 rfl rfl)
theorem dX5_spreads_113 : decode cX5_spreads 113 = .ok (.iinc 4 1, 3) := dk_132 4 1 (dk_at dksX5_spreads_4 19 rfl rfl)
theorem dX5_spreads_116 : decode cX5_spreads 116 = .ok (.goto (-93), 3) := dk_167 255 163 (dk_at dksX5_spreads_5 0 rfl rfl)
theorem dX5_spreads_119 : decode cX5_spreads 119 = .ok (.iinc 3 1, 3) := dk_132 3 1 (dk_at dksX5_spreads_5 3 rfl rfl)
theorem dX5_spreads_122 : decode cX5_spreads 122 = .ok (.goto (-112), 3) := dk_167 255 144 (dk_at dksX5_spreads_5 6 rfl rfl)
theorem dX5_spreads_125 : decode cX5_spreads 125 = .ok (.goto (-123), 3) := dk_167 255 133 (dk_at dksX5_spreads_5 9 rfl rfl)
theorem dX5_spreads_128 : decode cX5_spreads 128 = .ok (.return_, 1) := dk_177 (dk_at dksX5_spreads_5 12 rfl rfl)
abbrev cX5_isWay : ByteArray := prog_25_method_72_code
def yX5_isWay : MethodName := ⟨RX5, "isWay", "(II)Z"⟩
def dkwX5_isWay_2 : List UInt8 := [3, 172]
abbrev dktX5_isWay_2 : List UInt8 := dkwX5_isWay_2 ++ []
def dkwX5_isWay_1 : List UInt8 := [2, 159, 0, 19, 42, 28, 182, 0, 122, 154, 0, 15, 42, 28, 182, 0, 149, 153, 0, 7, 4, 167, 0, 4]
abbrev dktX5_isWay_1 : List UInt8 := dkwX5_isWay_1 ++ dktX5_isWay_2
def dkwX5_isWay_0 : List UInt8 := [27, 28, 159, 0, 19, 42, 27, 28, 182, 0, 119, 42, 180, 0, 7, 16, 101, 46, 164, 0, 5, 3, 172, 28]
abbrev dktX5_isWay_0 : List UInt8 := dkwX5_isWay_0 ++ dktX5_isWay_1
theorem dksX5_isWay_0 : cX5_isWay.data.toList.drop 0 = dktX5_isWay_0 := by decide +kernel
theorem dksX5_isWay_1 : cX5_isWay.data.toList.drop 24 = dktX5_isWay_1 := dk_seg dksX5_isWay_0 24 rfl rfl
theorem dksX5_isWay_2 : cX5_isWay.data.toList.drop 48 = dktX5_isWay_2 := dk_seg dksX5_isWay_1 24 rfl rfl
theorem dX5_isWay_0 : decode cX5_isWay 0 = .ok (.iload_n 1, 1) := dk_27 (dk_at dksX5_isWay_0 0 rfl rfl)
theorem dX5_isWay_1 : decode cX5_isWay 1 = .ok (.iload_n 2, 1) := dk_28 (dk_at dksX5_isWay_0 1 rfl rfl)
theorem dX5_isWay_2 : decode cX5_isWay 2 = .ok (.if_icmp .eq 19, 3) := dk_159 0 19 (dk_at dksX5_isWay_0 2 rfl rfl)
theorem dX5_isWay_5 : decode cX5_isWay 5 = .ok (.aload_n 0, 1) := dk_42 (dk_at dksX5_isWay_0 5 rfl rfl)
theorem dX5_isWay_6 : decode cX5_isWay 6 = .ok (.iload_n 1, 1) := dk_27 (dk_at dksX5_isWay_0 6 rfl rfl)
theorem dX5_isWay_7 : decode cX5_isWay 7 = .ok (.iload_n 2, 1) := dk_28 (dk_at dksX5_isWay_0 7 rfl rfl)
theorem dX5_isWay_8 : decode cX5_isWay 8 = .ok (.invokevirtual 119, 3) := dk_182 0 119 (dk_at dksX5_isWay_0 8 rfl rfl)
theorem dX5_isWay_11 : decode cX5_isWay 11 = .ok (.aload_n 0, 1) := dk_42 (dk_at dksX5_isWay_0 11 rfl rfl)
theorem dX5_isWay_12 : decode cX5_isWay 12 = .ok (.getfield 7, 3) := dk_180 0 7 (dk_at dksX5_isWay_0 12 rfl rfl)
theorem dX5_isWay_15 : decode cX5_isWay 15 = .ok (.bipush 101, 2) := dk_16 101 (dk_at dksX5_isWay_0 15 rfl rfl)
theorem dX5_isWay_17 : decode cX5_isWay 17 = .ok (.iaload, 1) := dk_46 (dk_at dksX5_isWay_0 17 rfl rfl)
theorem dX5_isWay_18 : decode cX5_isWay 18 = .ok (.if_icmp .le 5, 3) := dk_164 0 5 (dk_at dksX5_isWay_0 18 rfl rfl)
theorem dX5_isWay_21 : decode cX5_isWay 21 = .ok (.iconst 0, 1) := dk_3 (dk_at dksX5_isWay_0 21 rfl rfl)
theorem dX5_isWay_22 : decode cX5_isWay 22 = .ok (.ireturn, 1) := dk_172 (dk_at dksX5_isWay_0 22 rfl rfl)
theorem dX5_isWay_23 : decode cX5_isWay 23 = .ok (.iload_n 2, 1) := dk_28 (dk_at dksX5_isWay_0 23 rfl rfl)
theorem dX5_isWay_24 : decode cX5_isWay 24 = .ok (.iconst (-1), 1) := dk_2 (dk_at dksX5_isWay_1 0 rfl rfl)
theorem dX5_isWay_25 : decode cX5_isWay 25 = .ok (.if_icmp .eq 19, 3) := dk_159 0 19 (dk_at dksX5_isWay_1 1 rfl rfl)
theorem dX5_isWay_28 : decode cX5_isWay 28 = .ok (.aload_n 0, 1) := dk_42 (dk_at dksX5_isWay_1 4 rfl rfl)
theorem dX5_isWay_29 : decode cX5_isWay 29 = .ok (.iload_n 2, 1) := dk_28 (dk_at dksX5_isWay_1 5 rfl rfl)
theorem dX5_isWay_30 : decode cX5_isWay 30 = .ok (.invokevirtual 122, 3) := dk_182 0 122 (dk_at dksX5_isWay_1 6 rfl rfl)
theorem dX5_isWay_33 : decode cX5_isWay 33 = .ok (.ifCond .ne 15, 3) := dk_154 0 15 (dk_at dksX5_isWay_1 9 rfl rfl)
theorem dX5_isWay_36 : decode cX5_isWay 36 = .ok (.aload_n 0, 1) := dk_42 (dk_at dksX5_isWay_1 12 rfl rfl)
theorem dX5_isWay_37 : decode cX5_isWay 37 = .ok (.iload_n 2, 1) := dk_28 (dk_at dksX5_isWay_1 13 rfl rfl)
theorem dX5_isWay_38 : decode cX5_isWay 38 = .ok (.invokevirtual 149, 3) := dk_182 0 149 (dk_at dksX5_isWay_1 14 rfl rfl)
theorem dX5_isWay_41 : decode cX5_isWay 41 = .ok (.ifCond .eq 7, 3) := dk_153 0 7 (dk_at dksX5_isWay_1 17 rfl rfl)
theorem dX5_isWay_44 : decode cX5_isWay 44 = .ok (.iconst 1, 1) := dk_4 (dk_at dksX5_isWay_1 20 rfl rfl)
theorem dX5_isWay_45 : decode cX5_isWay 45 = .ok (.goto 4, 3) := dk_167 0 4 (dk_at dksX5_isWay_1 21 rfl rfl)
theorem dX5_isWay_48 : decode cX5_isWay 48 = .ok (.iconst 0, 1) := dk_3 (dk_at dksX5_isWay_2 0 rfl rfl)
theorem dX5_isWay_49 : decode cX5_isWay 49 = .ok (.ireturn, 1) := dk_172 (dk_at dksX5_isWay_2 1 rfl rfl)
abbrev cX5_restsEach : ByteArray := prog_25_method_74_code
def yX5_restsEach : MethodName := ⟨RX5, "restsEach", "()Z"⟩
def dkwX5_restsEach_3 : List UInt8 := [29, 79, 132, 2, 1, 167, 255, 186, 27, 172]
abbrev dktX5_restsEach_3 : List UInt8 := dkwX5_restsEach_3 ++ []
def dkwX5_restsEach_2 : List UInt8 := [180, 0, 25, 28, 4, 96, 46, 164, 0, 7, 4, 167, 0, 4, 3, 128, 60, 42, 180, 0, 25, 28, 4, 96]
abbrev dktX5_restsEach_2 : List UInt8 := dkwX5_restsEach_2 ++ dktX5_restsEach_3
def dkwX5_restsEach_1 : List UInt8 := [156, 0, 6, 167, 0, 46, 42, 28, 42, 180, 0, 25, 28, 4, 96, 46, 182, 1, 2, 62, 27, 29, 42]
abbrev dktX5_restsEach_1 : List UInt8 := dkwX5_restsEach_1 ++ dktX5_restsEach_2
def dkwX5_restsEach_0 : List UInt8 := [3, 60, 2, 61, 28, 42, 180, 0, 7, 3, 46, 162, 0, 66, 42, 180, 0, 25, 28, 4, 96, 46]
abbrev dktX5_restsEach_0 : List UInt8 := dkwX5_restsEach_0 ++ dktX5_restsEach_1
theorem dksX5_restsEach_0 : cX5_restsEach.data.toList.drop 0 = dktX5_restsEach_0 := by decide +kernel
theorem dksX5_restsEach_1 : cX5_restsEach.data.toList.drop 22 = dktX5_restsEach_1 := dk_seg dksX5_restsEach_0 22 rfl rfl
theorem dksX5_restsEach_2 : cX5_restsEach.data.toList.drop 45 = dktX5_restsEach_2 := dk_seg dksX5_restsEach_1 23 rfl rfl
theorem dksX5_restsEach_3 : cX5_restsEach.data.toList.drop 69 = dktX5_restsEach_3 := dk_seg dksX5_restsEach_2 24 rfl rfl
theorem dX5_restsEach_0 : decode cX5_restsEach 0 = .ok (.iconst 0, 1) := dk_3 (dk_at dksX5_restsEach_0 0 rfl rfl)
theorem dX5_restsEach_1 : decode cX5_restsEach 1 = .ok (.istore_n 1, 1) := dk_60 (dk_at dksX5_restsEach_0 1 rfl rfl)
theorem dX5_restsEach_2 : decode cX5_restsEach 2 = .ok (.iconst (-1), 1) := dk_2 (dk_at dksX5_restsEach_0 2 rfl rfl)
theorem dX5_restsEach_3 : decode cX5_restsEach 3 = .ok (.istore_n 2, 1) := dk_61 (dk_at dksX5_restsEach_0 3 rfl rfl)
theorem dX5_restsEach_4 : decode cX5_restsEach 4 = .ok (.iload_n 2, 1) := dk_28 (dk_at dksX5_restsEach_0 4 rfl rfl)
theorem dX5_restsEach_5 : decode cX5_restsEach 5 = .ok (.aload_n 0, 1) := dk_42 (dk_at dksX5_restsEach_0 5 rfl rfl)
theorem dX5_restsEach_6 : decode cX5_restsEach 6 = .ok (.getfield 7, 3) := dk_180 0 7 (dk_at dksX5_restsEach_0 6 rfl rfl)
theorem dX5_restsEach_9 : decode cX5_restsEach 9 = .ok (.iconst 0, 1) := dk_3 (dk_at dksX5_restsEach_0 9 rfl rfl)
theorem dX5_restsEach_10 : decode cX5_restsEach 10 = .ok (.iaload, 1) := dk_46 (dk_at dksX5_restsEach_0 10 rfl rfl)
theorem dX5_restsEach_11 : decode cX5_restsEach 11 = .ok (.if_icmp .ge 66, 3) := dk_162 0 66 (dk_at dksX5_restsEach_0 11 rfl rfl)
theorem dX5_restsEach_14 : decode cX5_restsEach 14 = .ok (.aload_n 0, 1) := dk_42 (dk_at dksX5_restsEach_0 14 rfl rfl)
theorem dX5_restsEach_15 : decode cX5_restsEach 15 = .ok (.getfield 25, 3) := dk_180 0 25 (dk_at dksX5_restsEach_0 15 rfl rfl)
theorem dX5_restsEach_18 : decode cX5_restsEach 18 = .ok (.iload_n 2, 1) := dk_28 (dk_at dksX5_restsEach_0 18 rfl rfl)
theorem dX5_restsEach_19 : decode cX5_restsEach 19 = .ok (.iconst 1, 1) := dk_4 (dk_at dksX5_restsEach_0 19 rfl rfl)
theorem dX5_restsEach_20 : decode cX5_restsEach 20 = .ok (.iadd, 1) := dk_96 (dk_at dksX5_restsEach_0 20 rfl rfl)
theorem dX5_restsEach_21 : decode cX5_restsEach 21 = .ok (.iaload, 1) := dk_46 (dk_at dksX5_restsEach_0 21 rfl rfl)
theorem dX5_restsEach_22 : decode cX5_restsEach 22 = .ok (.ifCond .ge 6, 3) := dk_156 0 6 (dk_at dksX5_restsEach_1 0 rfl rfl)
theorem dX5_restsEach_25 : decode cX5_restsEach 25 = .ok (.goto 46, 3) := dk_167 0 46 (dk_at dksX5_restsEach_1 3 rfl rfl)
theorem dX5_restsEach_28 : decode cX5_restsEach 28 = .ok (.aload_n 0, 1) := dk_42 (dk_at dksX5_restsEach_1 6 rfl rfl)
theorem dX5_restsEach_29 : decode cX5_restsEach 29 = .ok (.iload_n 2, 1) := dk_28 (dk_at dksX5_restsEach_1 7 rfl rfl)
theorem dX5_restsEach_30 : decode cX5_restsEach 30 = .ok (.aload_n 0, 1) := dk_42 (dk_at dksX5_restsEach_1 8 rfl rfl)
theorem dX5_restsEach_31 : decode cX5_restsEach 31 = .ok (.getfield 25, 3) := dk_180 0 25 (dk_at dksX5_restsEach_1 9 rfl rfl)
theorem dX5_restsEach_34 : decode cX5_restsEach 34 = .ok (.iload_n 2, 1) := dk_28 (dk_at dksX5_restsEach_1 12 rfl rfl)
theorem dX5_restsEach_35 : decode cX5_restsEach 35 = .ok (.iconst 1, 1) := dk_4 (dk_at dksX5_restsEach_1 13 rfl rfl)
theorem dX5_restsEach_36 : decode cX5_restsEach 36 = .ok (.iadd, 1) := dk_96 (dk_at dksX5_restsEach_1 14 rfl rfl)
theorem dX5_restsEach_37 : decode cX5_restsEach 37 = .ok (.iaload, 1) := dk_46 (dk_at dksX5_restsEach_1 15 rfl rfl)
theorem dX5_restsEach_38 : decode cX5_restsEach 38 = .ok (.invokevirtual 258, 3) := dk_182 1 2 (dk_at dksX5_restsEach_1 16 rfl rfl)
theorem dX5_restsEach_41 : decode cX5_restsEach 41 = .ok (.istore_n 3, 1) := dk_62 (dk_at dksX5_restsEach_1 19 rfl rfl)
theorem dX5_restsEach_42 : decode cX5_restsEach 42 = .ok (.iload_n 1, 1) := dk_27 (dk_at dksX5_restsEach_1 20 rfl rfl)
theorem dX5_restsEach_43 : decode cX5_restsEach 43 = .ok (.iload_n 3, 1) := dk_29 (dk_at dksX5_restsEach_1 21 rfl rfl)
theorem dX5_restsEach_44 : decode cX5_restsEach 44 = .ok (.aload_n 0, 1) := dk_42 (dk_at dksX5_restsEach_1 22 rfl rfl)
theorem dX5_restsEach_45 : decode cX5_restsEach 45 = .ok (.getfield 25, 3) := dk_180 0 25 (dk_at dksX5_restsEach_2 0 rfl rfl)
theorem dX5_restsEach_48 : decode cX5_restsEach 48 = .ok (.iload_n 2, 1) := dk_28 (dk_at dksX5_restsEach_2 3 rfl rfl)
theorem dX5_restsEach_49 : decode cX5_restsEach 49 = .ok (.iconst 1, 1) := dk_4 (dk_at dksX5_restsEach_2 4 rfl rfl)
theorem dX5_restsEach_50 : decode cX5_restsEach 50 = .ok (.iadd, 1) := dk_96 (dk_at dksX5_restsEach_2 5 rfl rfl)
theorem dX5_restsEach_51 : decode cX5_restsEach 51 = .ok (.iaload, 1) := dk_46 (dk_at dksX5_restsEach_2 6 rfl rfl)
theorem dX5_restsEach_52 : decode cX5_restsEach 52 = .ok (.if_icmp .le 7, 3) := dk_164 0 7 (dk_at dksX5_restsEach_2 7 rfl rfl)
theorem dX5_restsEach_55 : decode cX5_restsEach 55 = .ok (.iconst 1, 1) := dk_4 (dk_at dksX5_restsEach_2 10 rfl rfl)
theorem dX5_restsEach_56 : decode cX5_restsEach 56 = .ok (.goto 4, 3) := dk_167 0 4 (dk_at dksX5_restsEach_2 11 rfl rfl)
theorem dX5_restsEach_59 : decode cX5_restsEach 59 = .ok (.iconst 0, 1) := dk_3 (dk_at dksX5_restsEach_2 14 rfl rfl)
theorem dX5_restsEach_60 : decode cX5_restsEach 60 = .ok (.ior, 1) := dk_128 (dk_at dksX5_restsEach_2 15 rfl rfl)
theorem dX5_restsEach_61 : decode cX5_restsEach 61 = .ok (.istore_n 1, 1) := dk_60 (dk_at dksX5_restsEach_2 16 rfl rfl)
theorem dX5_restsEach_62 : decode cX5_restsEach 62 = .ok (.aload_n 0, 1) := dk_42 (dk_at dksX5_restsEach_2 17 rfl rfl)
theorem dX5_restsEach_63 : decode cX5_restsEach 63 = .ok (.getfield 25, 3) := dk_180 0 25 (dk_at dksX5_restsEach_2 18 rfl rfl)
theorem dX5_restsEach_66 : decode cX5_restsEach 66 = .ok (.iload_n 2, 1) := dk_28 (dk_at dksX5_restsEach_2 21 rfl rfl)
theorem dX5_restsEach_67 : decode cX5_restsEach 67 = .ok (.iconst 1, 1) := dk_4 (dk_at dksX5_restsEach_2 22 rfl rfl)
theorem dX5_restsEach_68 : decode cX5_restsEach 68 = .ok (.iadd, 1) := dk_96 (dk_at dksX5_restsEach_2 23 rfl rfl)
theorem dX5_restsEach_69 : decode cX5_restsEach 69 = .ok (.iload_n 3, 1) := dk_29 (dk_at dksX5_restsEach_3 0 rfl rfl)
theorem dX5_restsEach_70 : decode cX5_restsEach 70 = .ok (.iastore, 1) := dk_79 (dk_at dksX5_restsEach_3 1 rfl rfl)
theorem dX5_restsEach_71 : decode cX5_restsEach 71 = .ok (.iinc 2 1, 3) := dk_132 2 1 (dk_at dksX5_restsEach_3 2 rfl rfl)
theorem dX5_restsEach_74 : decode cX5_restsEach 74 = .ok (.goto (-70), 3) := dk_167 255 186 (dk_at dksX5_restsEach_3 5 rfl rfl)
theorem dX5_restsEach_77 : decode cX5_restsEach 77 = .ok (.iload_n 1, 1) := dk_27 (dk_at dksX5_restsEach_3 8 rfl rfl)
theorem dX5_restsEach_78 : decode cX5_restsEach 78 = .ok (.ireturn, 1) := dk_172 (dk_at dksX5_restsEach_3 9 rfl rfl)
abbrev cX5_leastMoves : ByteArray := prog_25_method_76_code
def yX5_leastMoves : MethodName := ⟨RX5, "leastMoves", "(II)I"⟩
def dkwX5_leastMoves_8 : List UInt8 := [182, 0, 80, 172, 42, 3, 181, 0, 65, 42, 180, 0, 25, 28, 4, 96, 46, 172]
abbrev dktX5_leastMoves_8 : List UInt8 := dkwX5_leastMoves_8 ++ []
def dkwX5_leastMoves_7 : List UInt8 := [167, 255, 174, 132, 3, 1, 167, 255, 159, 42, 180, 0, 25, 28, 4, 96, 46, 156, 0, 9, 42, 5]
abbrev dktX5_leastMoves_7 : List UInt8 := dkwX5_leastMoves_7 ++ dktX5_leastMoves_8
def dkwX5_leastMoves_6 : List UInt8 := [153, 0, 15, 42, 180, 0, 25, 21, 5, 4, 96, 29, 4, 96, 79, 132, 5, 1, 167, 255, 194, 132, 4, 1]
abbrev dktX5_leastMoves_6 : List UInt8 := dkwX5_leastMoves_6 ++ dktX5_leastMoves_7
def dkwX5_leastMoves_5 : List UInt8 := [160, 0, 38, 42, 180, 0, 25, 21, 5, 4, 96, 46, 156, 0, 26, 42, 21, 4, 21, 5, 182, 1, 8]
abbrev dktX5_leastMoves_5 : List UInt8 := dkwX5_leastMoves_5 ++ dktX5_leastMoves_6
def dkwX5_leastMoves_4 : List UInt8 := [54, 5, 21, 5, 42, 180, 0, 7, 3, 46, 162, 0, 57, 42, 180, 0, 25, 21, 4, 4, 96, 46, 29]
abbrev dktX5_leastMoves_4 : List UInt8 := dkwX5_leastMoves_4 ++ dktX5_leastMoves_5
def dkwX5_leastMoves_3 : List UInt8 := [79, 3, 62, 29, 16, 21, 162, 0, 97, 2, 54, 4, 21, 4, 42, 180, 0, 7, 3, 46, 162, 0, 77, 2]
abbrev dktX5_leastMoves_3 : List UInt8 := dkwX5_leastMoves_3 ++ dktX5_leastMoves_4
def dkwX5_leastMoves_2 : List UInt8 := [180, 0, 25, 29, 2, 79, 132, 3, 1, 167, 255, 240, 42, 180, 0, 25, 42, 27, 182, 0, 113, 4, 96, 3]
abbrev dktX5_leastMoves_2 : List UInt8 := dkwX5_leastMoves_2 ++ dktX5_leastMoves_3
def dkwX5_leastMoves_1 : List UInt8 := [182, 0, 107, 5, 160, 0, 9, 42, 5, 182, 0, 80, 172, 3, 62, 29, 16, 21, 162, 0, 16, 42]
abbrev dktX5_leastMoves_1 : List UInt8 := dkwX5_leastMoves_1 ++ dktX5_leastMoves_2
def dkwX5_leastMoves_0 : List UInt8 := [27, 184, 0, 187, 153, 0, 11, 42, 28, 182, 0, 161, 154, 0, 9, 42, 4, 182, 0, 80, 172, 42, 27, 4]
abbrev dktX5_leastMoves_0 : List UInt8 := dkwX5_leastMoves_0 ++ dktX5_leastMoves_1
theorem dksX5_leastMoves_0 : cX5_leastMoves.data.toList.drop 0 = dktX5_leastMoves_0 := by decide +kernel
theorem dksX5_leastMoves_1 : cX5_leastMoves.data.toList.drop 24 = dktX5_leastMoves_1 := dk_seg dksX5_leastMoves_0 24 rfl rfl
theorem dksX5_leastMoves_2 : cX5_leastMoves.data.toList.drop 46 = dktX5_leastMoves_2 := dk_seg dksX5_leastMoves_1 22 rfl rfl
theorem dksX5_leastMoves_3 : cX5_leastMoves.data.toList.drop 70 = dktX5_leastMoves_3 := dk_seg dksX5_leastMoves_2 24 rfl rfl
theorem dksX5_leastMoves_4 : cX5_leastMoves.data.toList.drop 94 = dktX5_leastMoves_4 := dk_seg dksX5_leastMoves_3 24 rfl rfl
theorem dksX5_leastMoves_5 : cX5_leastMoves.data.toList.drop 117 = dktX5_leastMoves_5 := dk_seg dksX5_leastMoves_4 23 rfl rfl
theorem dksX5_leastMoves_6 : cX5_leastMoves.data.toList.drop 140 = dktX5_leastMoves_6 := dk_seg dksX5_leastMoves_5 23 rfl rfl
theorem dksX5_leastMoves_7 : cX5_leastMoves.data.toList.drop 164 = dktX5_leastMoves_7 := dk_seg dksX5_leastMoves_6 24 rfl rfl
theorem dksX5_leastMoves_8 : cX5_leastMoves.data.toList.drop 186 = dktX5_leastMoves_8 := dk_seg dksX5_leastMoves_7 22 rfl rfl
theorem dX5_leastMoves_0 : decode cX5_leastMoves 0 = .ok (.iload_n 1, 1) := dk_27 (dk_at dksX5_leastMoves_0 0 rfl rfl)
theorem dX5_leastMoves_1 : decode cX5_leastMoves 1 = .ok (.invokestatic 187, 3) := dk_184 0 187 (dk_at dksX5_leastMoves_0 1 rfl rfl)
theorem dX5_leastMoves_4 : decode cX5_leastMoves 4 = .ok (.ifCond .eq 11, 3) := dk_153 0 11 (dk_at dksX5_leastMoves_0 4 rfl rfl)
theorem dX5_leastMoves_7 : decode cX5_leastMoves 7 = .ok (.aload_n 0, 1) := dk_42 (dk_at dksX5_leastMoves_0 7 rfl rfl)
theorem dX5_leastMoves_8 : decode cX5_leastMoves 8 = .ok (.iload_n 2, 1) := dk_28 (dk_at dksX5_leastMoves_0 8 rfl rfl)
theorem dX5_leastMoves_9 : decode cX5_leastMoves 9 = .ok (.invokevirtual 161, 3) := dk_182 0 161 (dk_at dksX5_leastMoves_0 9 rfl rfl)
theorem dX5_leastMoves_12 : decode cX5_leastMoves 12 = .ok (.ifCond .ne 9, 3) := dk_154 0 9 (dk_at dksX5_leastMoves_0 12 rfl rfl)
theorem dX5_leastMoves_15 : decode cX5_leastMoves 15 = .ok (.aload_n 0, 1) := dk_42 (dk_at dksX5_leastMoves_0 15 rfl rfl)
theorem dX5_leastMoves_16 : decode cX5_leastMoves 16 = .ok (.iconst 1, 1) := dk_4 (dk_at dksX5_leastMoves_0 16 rfl rfl)
theorem dX5_leastMoves_17 : decode cX5_leastMoves 17 = .ok (.invokevirtual 80, 3) := dk_182 0 80 (dk_at dksX5_leastMoves_0 17 rfl rfl)
theorem dX5_leastMoves_20 : decode cX5_leastMoves 20 = .ok (.ireturn, 1) := dk_172 (dk_at dksX5_leastMoves_0 20 rfl rfl)
theorem dX5_leastMoves_21 : decode cX5_leastMoves 21 = .ok (.aload_n 0, 1) := dk_42 (dk_at dksX5_leastMoves_0 21 rfl rfl)
theorem dX5_leastMoves_22 : decode cX5_leastMoves 22 = .ok (.iload_n 1, 1) := dk_27 (dk_at dksX5_leastMoves_0 22 rfl rfl)
theorem dX5_leastMoves_23 : decode cX5_leastMoves 23 = .ok (.iconst 1, 1) := dk_4 (dk_at dksX5_leastMoves_0 23 rfl rfl)
theorem dX5_leastMoves_24 : decode cX5_leastMoves 24 = .ok (.invokevirtual 107, 3) := dk_182 0 107 (dk_at dksX5_leastMoves_1 0 rfl rfl)
theorem dX5_leastMoves_27 : decode cX5_leastMoves 27 = .ok (.iconst 2, 1) := dk_5 (dk_at dksX5_leastMoves_1 3 rfl rfl)
theorem dX5_leastMoves_28 : decode cX5_leastMoves 28 = .ok (.if_icmp .ne 9, 3) := dk_160 0 9 (dk_at dksX5_leastMoves_1 4 rfl rfl)
theorem dX5_leastMoves_31 : decode cX5_leastMoves 31 = .ok (.aload_n 0, 1) := dk_42 (dk_at dksX5_leastMoves_1 7 rfl rfl)
theorem dX5_leastMoves_32 : decode cX5_leastMoves 32 = .ok (.iconst 2, 1) := dk_5 (dk_at dksX5_leastMoves_1 8 rfl rfl)
theorem dX5_leastMoves_33 : decode cX5_leastMoves 33 = .ok (.invokevirtual 80, 3) := dk_182 0 80 (dk_at dksX5_leastMoves_1 9 rfl rfl)
theorem dX5_leastMoves_36 : decode cX5_leastMoves 36 = .ok (.ireturn, 1) := dk_172 (dk_at dksX5_leastMoves_1 12 rfl rfl)
theorem dX5_leastMoves_37 : decode cX5_leastMoves 37 = .ok (.iconst 0, 1) := dk_3 (dk_at dksX5_leastMoves_1 13 rfl rfl)
theorem dX5_leastMoves_38 : decode cX5_leastMoves 38 = .ok (.istore_n 3, 1) := dk_62 (dk_at dksX5_leastMoves_1 14 rfl rfl)
theorem dX5_leastMoves_39 : decode cX5_leastMoves 39 = .ok (.iload_n 3, 1) := dk_29 (dk_at dksX5_leastMoves_1 15 rfl rfl)
theorem dX5_leastMoves_40 : decode cX5_leastMoves 40 = .ok (.bipush 21, 2) := dk_16 21 (dk_at dksX5_leastMoves_1 16 rfl rfl)
theorem dX5_leastMoves_42 : decode cX5_leastMoves 42 = .ok (.if_icmp .ge 16, 3) := dk_162 0 16 (dk_at dksX5_leastMoves_1 18 rfl rfl)
theorem dX5_leastMoves_45 : decode cX5_leastMoves 45 = .ok (.aload_n 0, 1) := dk_42 (dk_at dksX5_leastMoves_1 21 rfl rfl)
theorem dX5_leastMoves_46 : decode cX5_leastMoves 46 = .ok (.getfield 25, 3) := dk_180 0 25 (dk_at dksX5_leastMoves_2 0 rfl rfl)
theorem dX5_leastMoves_49 : decode cX5_leastMoves 49 = .ok (.iload_n 3, 1) := dk_29 (dk_at dksX5_leastMoves_2 3 rfl rfl)
theorem dX5_leastMoves_50 : decode cX5_leastMoves 50 = .ok (.iconst (-1), 1) := dk_2 (dk_at dksX5_leastMoves_2 4 rfl rfl)
theorem dX5_leastMoves_51 : decode cX5_leastMoves 51 = .ok (.iastore, 1) := dk_79 (dk_at dksX5_leastMoves_2 5 rfl rfl)
theorem dX5_leastMoves_52 : decode cX5_leastMoves 52 = .ok (.iinc 3 1, 3) := dk_132 3 1 (dk_at dksX5_leastMoves_2 6 rfl rfl)
theorem dX5_leastMoves_55 : decode cX5_leastMoves 55 = .ok (.goto (-16), 3) := dk_167 255 240 (dk_at dksX5_leastMoves_2 9 rfl rfl)
theorem dX5_leastMoves_58 : decode cX5_leastMoves 58 = .ok (.aload_n 0, 1) := dk_42 (dk_at dksX5_leastMoves_2 12 rfl rfl)
theorem dX5_leastMoves_59 : decode cX5_leastMoves 59 = .ok (.getfield 25, 3) := dk_180 0 25 (dk_at dksX5_leastMoves_2 13 rfl rfl)
theorem dX5_leastMoves_62 : decode cX5_leastMoves 62 = .ok (.aload_n 0, 1) := dk_42 (dk_at dksX5_leastMoves_2 16 rfl rfl)
theorem dX5_leastMoves_63 : decode cX5_leastMoves 63 = .ok (.iload_n 1, 1) := dk_27 (dk_at dksX5_leastMoves_2 17 rfl rfl)
theorem dX5_leastMoves_64 : decode cX5_leastMoves 64 = .ok (.invokevirtual 113, 3) := dk_182 0 113 (dk_at dksX5_leastMoves_2 18 rfl rfl)
theorem dX5_leastMoves_67 : decode cX5_leastMoves 67 = .ok (.iconst 1, 1) := dk_4 (dk_at dksX5_leastMoves_2 21 rfl rfl)
theorem dX5_leastMoves_68 : decode cX5_leastMoves 68 = .ok (.iadd, 1) := dk_96 (dk_at dksX5_leastMoves_2 22 rfl rfl)
theorem dX5_leastMoves_69 : decode cX5_leastMoves 69 = .ok (.iconst 0, 1) := dk_3 (dk_at dksX5_leastMoves_2 23 rfl rfl)
theorem dX5_leastMoves_70 : decode cX5_leastMoves 70 = .ok (.iastore, 1) := dk_79 (dk_at dksX5_leastMoves_3 0 rfl rfl)
theorem dX5_leastMoves_71 : decode cX5_leastMoves 71 = .ok (.iconst 0, 1) := dk_3 (dk_at dksX5_leastMoves_3 1 rfl rfl)
theorem dX5_leastMoves_72 : decode cX5_leastMoves 72 = .ok (.istore_n 3, 1) := dk_62 (dk_at dksX5_leastMoves_3 2 rfl rfl)
theorem dX5_leastMoves_73 : decode cX5_leastMoves 73 = .ok (.iload_n 3, 1) := dk_29 (dk_at dksX5_leastMoves_3 3 rfl rfl)
theorem dX5_leastMoves_74 : decode cX5_leastMoves 74 = .ok (.bipush 21, 2) := dk_16 21 (dk_at dksX5_leastMoves_3 4 rfl rfl)
theorem dX5_leastMoves_76 : decode cX5_leastMoves 76 = .ok (.if_icmp .ge 97, 3) := dk_162 0 97 (dk_at dksX5_leastMoves_3 6 rfl rfl)
theorem dX5_leastMoves_79 : decode cX5_leastMoves 79 = .ok (.iconst (-1), 1) := dk_2 (dk_at dksX5_leastMoves_3 9 rfl rfl)
theorem dX5_leastMoves_80 : decode cX5_leastMoves 80 = .ok (.istore 4, 2) := dk_54 4 (dk_at dksX5_leastMoves_3 10 rfl rfl)
theorem dX5_leastMoves_82 : decode cX5_leastMoves 82 = .ok (.iload 4, 2) := dk_21 4 (dk_at dksX5_leastMoves_3 12 rfl rfl)
theorem dX5_leastMoves_84 : decode cX5_leastMoves 84 = .ok (.aload_n 0, 1) := dk_42 (dk_at dksX5_leastMoves_3 14 rfl rfl)
theorem dX5_leastMoves_85 : decode cX5_leastMoves 85 = .ok (.getfield 7, 3) := dk_180 0 7 (dk_at dksX5_leastMoves_3 15 rfl rfl)
theorem dX5_leastMoves_88 : decode cX5_leastMoves 88 = .ok (.iconst 0, 1) := dk_3 (dk_at dksX5_leastMoves_3 18 rfl rfl)
theorem dX5_leastMoves_89 : decode cX5_leastMoves 89 = .ok (.iaload, 1) := dk_46 (dk_at dksX5_leastMoves_3 19 rfl rfl)
theorem dX5_leastMoves_90 : decode cX5_leastMoves 90 = .ok (.if_icmp .ge 77, 3) := dk_162 0 77 (dk_at dksX5_leastMoves_3 20 rfl rfl)
theorem dX5_leastMoves_93 : decode cX5_leastMoves 93 = .ok (.iconst (-1), 1) := dk_2 (dk_at dksX5_leastMoves_3 23 rfl rfl)
theorem dX5_leastMoves_94 : decode cX5_leastMoves 94 = .ok (.istore 5, 2) := dk_54 5 (dk_at dksX5_leastMoves_4 0 rfl rfl)
theorem dX5_leastMoves_96 : decode cX5_leastMoves 96 = .ok (.iload 5, 2) := dk_21 5 (dk_at dksX5_leastMoves_4 2 rfl rfl)
theorem dX5_leastMoves_98 : decode cX5_leastMoves 98 = .ok (.aload_n 0, 1) := dk_42 (dk_at dksX5_leastMoves_4 4 rfl rfl)
theorem dX5_leastMoves_99 : decode cX5_leastMoves 99 = .ok (.getfield 7, 3) := dk_180 0 7 (dk_at dksX5_leastMoves_4 5 rfl rfl)
theorem dX5_leastMoves_102 : decode cX5_leastMoves 102 = .ok (.iconst 0, 1) := dk_3 (dk_at dksX5_leastMoves_4 8 rfl rfl)
theorem dX5_leastMoves_103 : decode cX5_leastMoves 103 = .ok (.iaload, 1) := dk_46 (dk_at dksX5_leastMoves_4 9 rfl rfl)
theorem dX5_leastMoves_104 : decode cX5_leastMoves 104 = .ok (.if_icmp .ge 57, 3) := dk_162 0 57 (dk_at dksX5_leastMoves_4 10 rfl rfl)
theorem dX5_leastMoves_107 : decode cX5_leastMoves 107 = .ok (.aload_n 0, 1) := dk_42 (dk_at dksX5_leastMoves_4 13 rfl rfl)
theorem dX5_leastMoves_108 : decode cX5_leastMoves 108 = .ok (.getfield 25, 3) := dk_180 0 25 (dk_at dksX5_leastMoves_4 14 rfl rfl)
theorem dX5_leastMoves_111 : decode cX5_leastMoves 111 = .ok (.iload 4, 2) := dk_21 4 (dk_at dksX5_leastMoves_4 17 rfl rfl)
theorem dX5_leastMoves_113 : decode cX5_leastMoves 113 = .ok (.iconst 1, 1) := dk_4 (dk_at dksX5_leastMoves_4 19 rfl rfl)
theorem dX5_leastMoves_114 : decode cX5_leastMoves 114 = .ok (.iadd, 1) := dk_96 (dk_at dksX5_leastMoves_4 20 rfl rfl)
theorem dX5_leastMoves_115 : decode cX5_leastMoves 115 = .ok (.iaload, 1) := dk_46 (dk_at dksX5_leastMoves_4 21 rfl rfl)
theorem dX5_leastMoves_116 : decode cX5_leastMoves 116 = .ok (.iload_n 3, 1) := dk_29 (dk_at dksX5_leastMoves_4 22 rfl rfl)
theorem dX5_leastMoves_117 : decode cX5_leastMoves 117 = .ok (.if_icmp .ne 38, 3) := dk_160 0 38 (dk_at dksX5_leastMoves_5 0 rfl rfl)
theorem dX5_leastMoves_120 : decode cX5_leastMoves 120 = .ok (.aload_n 0, 1) := dk_42 (dk_at dksX5_leastMoves_5 3 rfl rfl)
theorem dX5_leastMoves_121 : decode cX5_leastMoves 121 = .ok (.getfield 25, 3) := dk_180 0 25 (dk_at dksX5_leastMoves_5 4 rfl rfl)
theorem dX5_leastMoves_124 : decode cX5_leastMoves 124 = .ok (.iload 5, 2) := dk_21 5 (dk_at dksX5_leastMoves_5 7 rfl rfl)
theorem dX5_leastMoves_126 : decode cX5_leastMoves 126 = .ok (.iconst 1, 1) := dk_4 (dk_at dksX5_leastMoves_5 9 rfl rfl)
theorem dX5_leastMoves_127 : decode cX5_leastMoves 127 = .ok (.iadd, 1) := dk_96 (dk_at dksX5_leastMoves_5 10 rfl rfl)
theorem dX5_leastMoves_128 : decode cX5_leastMoves 128 = .ok (.iaload, 1) := dk_46 (dk_at dksX5_leastMoves_5 11 rfl rfl)
theorem dX5_leastMoves_129 : decode cX5_leastMoves 129 = .ok (.ifCond .ge 26, 3) := dk_156 0 26 (dk_at dksX5_leastMoves_5 12 rfl rfl)
theorem dX5_leastMoves_132 : decode cX5_leastMoves 132 = .ok (.aload_n 0, 1) := dk_42 (dk_at dksX5_leastMoves_5 15 rfl rfl)
theorem dX5_leastMoves_133 : decode cX5_leastMoves 133 = .ok (.iload 4, 2) := dk_21 4 (dk_at dksX5_leastMoves_5 16 rfl rfl)
theorem dX5_leastMoves_135 : decode cX5_leastMoves 135 = .ok (.iload 5, 2) := dk_21 5 (dk_at dksX5_leastMoves_5 18 rfl rfl)
theorem dX5_leastMoves_137 : decode cX5_leastMoves 137 = .ok (.invokevirtual 264, 3) := dk_182 1 8 (dk_at dksX5_leastMoves_5 20 rfl rfl)
theorem dX5_leastMoves_140 : decode cX5_leastMoves 140 = .ok (.ifCond .eq 15, 3) := dk_153 0 15 (dk_at dksX5_leastMoves_6 0 rfl rfl)
theorem dX5_leastMoves_143 : decode cX5_leastMoves 143 = .ok (.aload_n 0, 1) := dk_42 (dk_at dksX5_leastMoves_6 3 rfl rfl)
theorem dX5_leastMoves_144 : decode cX5_leastMoves 144 = .ok (.getfield 25, 3) := dk_180 0 25 (dk_at dksX5_leastMoves_6 4 rfl rfl)
theorem dX5_leastMoves_147 : decode cX5_leastMoves 147 = .ok (.iload 5, 2) := dk_21 5 (dk_at dksX5_leastMoves_6 7 rfl rfl)
theorem dX5_leastMoves_149 : decode cX5_leastMoves 149 = .ok (.iconst 1, 1) := dk_4 (dk_at dksX5_leastMoves_6 9 rfl rfl)
theorem dX5_leastMoves_150 : decode cX5_leastMoves 150 = .ok (.iadd, 1) := dk_96 (dk_at dksX5_leastMoves_6 10 rfl rfl)
theorem dX5_leastMoves_151 : decode cX5_leastMoves 151 = .ok (.iload_n 3, 1) := dk_29 (dk_at dksX5_leastMoves_6 11 rfl rfl)
theorem dX5_leastMoves_152 : decode cX5_leastMoves 152 = .ok (.iconst 1, 1) := dk_4 (dk_at dksX5_leastMoves_6 12 rfl rfl)
theorem dX5_leastMoves_153 : decode cX5_leastMoves 153 = .ok (.iadd, 1) := dk_96 (dk_at dksX5_leastMoves_6 13 rfl rfl)
theorem dX5_leastMoves_154 : decode cX5_leastMoves 154 = .ok (.iastore, 1) := dk_79 (dk_at dksX5_leastMoves_6 14 rfl rfl)
theorem dX5_leastMoves_155 : decode cX5_leastMoves 155 = .ok (.iinc 5 1, 3) := dk_132 5 1 (dk_at dksX5_leastMoves_6 15 rfl rfl)
theorem dX5_leastMoves_158 : decode cX5_leastMoves 158 = .ok (.goto (-62), 3) := dk_167 255 194 (dk_at dksX5_leastMoves_6 18 rfl rfl)
theorem dX5_leastMoves_161 : decode cX5_leastMoves 161 = .ok (.iinc 4 1, 3) := dk_132 4 1 (dk_at dksX5_leastMoves_6 21 rfl rfl)
theorem dX5_leastMoves_164 : decode cX5_leastMoves 164 = .ok (.goto (-82), 3) := dk_167 255 174 (dk_at dksX5_leastMoves_7 0 rfl rfl)
theorem dX5_leastMoves_167 : decode cX5_leastMoves 167 = .ok (.iinc 3 1, 3) := dk_132 3 1 (dk_at dksX5_leastMoves_7 3 rfl rfl)
theorem dX5_leastMoves_170 : decode cX5_leastMoves 170 = .ok (.goto (-97), 3) := dk_167 255 159 (dk_at dksX5_leastMoves_7 6 rfl rfl)
theorem dX5_leastMoves_173 : decode cX5_leastMoves 173 = .ok (.aload_n 0, 1) := dk_42 (dk_at dksX5_leastMoves_7 9 rfl rfl)
theorem dX5_leastMoves_174 : decode cX5_leastMoves 174 = .ok (.getfield 25, 3) := dk_180 0 25 (dk_at dksX5_leastMoves_7 10 rfl rfl)
theorem dX5_leastMoves_177 : decode cX5_leastMoves 177 = .ok (.iload_n 2, 1) := dk_28 (dk_at dksX5_leastMoves_7 13 rfl rfl)
theorem dX5_leastMoves_178 : decode cX5_leastMoves 178 = .ok (.iconst 1, 1) := dk_4 (dk_at dksX5_leastMoves_7 14 rfl rfl)
theorem dX5_leastMoves_179 : decode cX5_leastMoves 179 = .ok (.iadd, 1) := dk_96 (dk_at dksX5_leastMoves_7 15 rfl rfl)
theorem dX5_leastMoves_180 : decode cX5_leastMoves 180 = .ok (.iaload, 1) := dk_46 (dk_at dksX5_leastMoves_7 16 rfl rfl)
theorem dX5_leastMoves_181 : decode cX5_leastMoves 181 = .ok (.ifCond .ge 9, 3) := dk_156 0 9 (dk_at dksX5_leastMoves_7 17 rfl rfl)
theorem dX5_leastMoves_184 : decode cX5_leastMoves 184 = .ok (.aload_n 0, 1) := dk_42 (dk_at dksX5_leastMoves_7 20 rfl rfl)
theorem dX5_leastMoves_185 : decode cX5_leastMoves 185 = .ok (.iconst 2, 1) := dk_5 (dk_at dksX5_leastMoves_7 21 rfl rfl)
theorem dX5_leastMoves_186 : decode cX5_leastMoves 186 = .ok (.invokevirtual 80, 3) := dk_182 0 80 (dk_at dksX5_leastMoves_8 0 rfl rfl)
theorem dX5_leastMoves_189 : decode cX5_leastMoves 189 = .ok (.ireturn, 1) := dk_172 (dk_at dksX5_leastMoves_8 3 rfl rfl)
theorem dX5_leastMoves_190 : decode cX5_leastMoves 190 = .ok (.aload_n 0, 1) := dk_42 (dk_at dksX5_leastMoves_8 4 rfl rfl)
theorem dX5_leastMoves_191 : decode cX5_leastMoves 191 = .ok (.iconst 0, 1) := dk_3 (dk_at dksX5_leastMoves_8 5 rfl rfl)
theorem dX5_leastMoves_192 : decode cX5_leastMoves 192 = .ok (.putfield 65, 3) := dk_181 0 65 (dk_at dksX5_leastMoves_8 6 rfl rfl)
theorem dX5_leastMoves_195 : decode cX5_leastMoves 195 = .ok (.aload_n 0, 1) := dk_42 (dk_at dksX5_leastMoves_8 9 rfl rfl)
theorem dX5_leastMoves_196 : decode cX5_leastMoves 196 = .ok (.getfield 25, 3) := dk_180 0 25 (dk_at dksX5_leastMoves_8 10 rfl rfl)
theorem dX5_leastMoves_199 : decode cX5_leastMoves 199 = .ok (.iload_n 2, 1) := dk_28 (dk_at dksX5_leastMoves_8 13 rfl rfl)
theorem dX5_leastMoves_200 : decode cX5_leastMoves 200 = .ok (.iconst 1, 1) := dk_4 (dk_at dksX5_leastMoves_8 14 rfl rfl)
theorem dX5_leastMoves_201 : decode cX5_leastMoves 201 = .ok (.iadd, 1) := dk_96 (dk_at dksX5_leastMoves_8 15 rfl rfl)
theorem dX5_leastMoves_202 : decode cX5_leastMoves 202 = .ok (.iaload, 1) := dk_46 (dk_at dksX5_leastMoves_8 16 rfl rfl)
theorem dX5_leastMoves_203 : decode cX5_leastMoves 203 = .ok (.ireturn, 1) := dk_172 (dk_at dksX5_leastMoves_8 17 rfl rfl)
abbrev cX5_take : ByteArray := prog_25_method_82_code
def yX5_take : MethodName := ⟨RX5, "take", "(II)I"⟩
def dkwX5_take_2 : List UInt8 := [182, 0, 139, 42, 180, 0, 7, 28, 4, 184, 0, 94, 27, 79, 42, 27, 182, 0, 190, 184, 0, 196, 172]
abbrev dktX5_take_2 : List UInt8 := dkwX5_take_2 ++ []
def dkwX5_take_1 : List UInt8 := [182, 1, 20, 153, 0, 9, 42, 5, 182, 0, 133, 172, 42, 3, 181, 0, 65, 42, 182, 0, 136, 42]
abbrev dktX5_take_1 : List UInt8 := dkwX5_take_1 ++ dktX5_take_2
def dkwX5_take_0 : List UInt8 := [27, 184, 0, 187, 153, 0, 11, 42, 28, 182, 0, 164, 154, 0, 9, 42, 4, 182, 0, 80, 172, 42, 27, 28]
abbrev dktX5_take_0 : List UInt8 := dkwX5_take_0 ++ dktX5_take_1
theorem dksX5_take_0 : cX5_take.data.toList.drop 0 = dktX5_take_0 := by decide +kernel
theorem dksX5_take_1 : cX5_take.data.toList.drop 24 = dktX5_take_1 := dk_seg dksX5_take_0 24 rfl rfl
theorem dksX5_take_2 : cX5_take.data.toList.drop 46 = dktX5_take_2 := dk_seg dksX5_take_1 22 rfl rfl
theorem dX5_take_0 : decode cX5_take 0 = .ok (.iload_n 1, 1) := dk_27 (dk_at dksX5_take_0 0 rfl rfl)
theorem dX5_take_1 : decode cX5_take 1 = .ok (.invokestatic 187, 3) := dk_184 0 187 (dk_at dksX5_take_0 1 rfl rfl)
theorem dX5_take_4 : decode cX5_take 4 = .ok (.ifCond .eq 11, 3) := dk_153 0 11 (dk_at dksX5_take_0 4 rfl rfl)
theorem dX5_take_7 : decode cX5_take 7 = .ok (.aload_n 0, 1) := dk_42 (dk_at dksX5_take_0 7 rfl rfl)
theorem dX5_take_8 : decode cX5_take 8 = .ok (.iload_n 2, 1) := dk_28 (dk_at dksX5_take_0 8 rfl rfl)
theorem dX5_take_9 : decode cX5_take 9 = .ok (.invokevirtual 164, 3) := dk_182 0 164 (dk_at dksX5_take_0 9 rfl rfl)
theorem dX5_take_12 : decode cX5_take 12 = .ok (.ifCond .ne 9, 3) := dk_154 0 9 (dk_at dksX5_take_0 12 rfl rfl)
theorem dX5_take_15 : decode cX5_take 15 = .ok (.aload_n 0, 1) := dk_42 (dk_at dksX5_take_0 15 rfl rfl)
theorem dX5_take_16 : decode cX5_take 16 = .ok (.iconst 1, 1) := dk_4 (dk_at dksX5_take_0 16 rfl rfl)
theorem dX5_take_17 : decode cX5_take 17 = .ok (.invokevirtual 80, 3) := dk_182 0 80 (dk_at dksX5_take_0 17 rfl rfl)
theorem dX5_take_20 : decode cX5_take 20 = .ok (.ireturn, 1) := dk_172 (dk_at dksX5_take_0 20 rfl rfl)
theorem dX5_take_21 : decode cX5_take 21 = .ok (.aload_n 0, 1) := dk_42 (dk_at dksX5_take_0 21 rfl rfl)
theorem dX5_take_22 : decode cX5_take 22 = .ok (.iload_n 1, 1) := dk_27 (dk_at dksX5_take_0 22 rfl rfl)
theorem dX5_take_23 : decode cX5_take 23 = .ok (.iload_n 2, 1) := dk_28 (dk_at dksX5_take_0 23 rfl rfl)
theorem dX5_take_24 : decode cX5_take 24 = .ok (.invokevirtual 276, 3) := dk_182 1 20 (dk_at dksX5_take_1 0 rfl rfl)
theorem dX5_take_27 : decode cX5_take 27 = .ok (.ifCond .eq 9, 3) := dk_153 0 9 (dk_at dksX5_take_1 3 rfl rfl)
theorem dX5_take_30 : decode cX5_take 30 = .ok (.aload_n 0, 1) := dk_42 (dk_at dksX5_take_1 6 rfl rfl)
theorem dX5_take_31 : decode cX5_take 31 = .ok (.iconst 2, 1) := dk_5 (dk_at dksX5_take_1 7 rfl rfl)
theorem dX5_take_32 : decode cX5_take 32 = .ok (.invokevirtual 133, 3) := dk_182 0 133 (dk_at dksX5_take_1 8 rfl rfl)
theorem dX5_take_35 : decode cX5_take 35 = .ok (.ireturn, 1) := dk_172 (dk_at dksX5_take_1 11 rfl rfl)
theorem dX5_take_36 : decode cX5_take 36 = .ok (.aload_n 0, 1) := dk_42 (dk_at dksX5_take_1 12 rfl rfl)
theorem dX5_take_37 : decode cX5_take 37 = .ok (.iconst 0, 1) := dk_3 (dk_at dksX5_take_1 13 rfl rfl)
theorem dX5_take_38 : decode cX5_take 38 = .ok (.putfield 65, 3) := dk_181 0 65 (dk_at dksX5_take_1 14 rfl rfl)
theorem dX5_take_41 : decode cX5_take 41 = .ok (.aload_n 0, 1) := dk_42 (dk_at dksX5_take_1 17 rfl rfl)
theorem dX5_take_42 : decode cX5_take 42 = .ok (.invokevirtual 136, 3) := dk_182 0 136 (dk_at dksX5_take_1 18 rfl rfl)
theorem dX5_take_45 : decode cX5_take 45 = .ok (.aload_n 0, 1) := dk_42 (dk_at dksX5_take_1 21 rfl rfl)
theorem dX5_take_46 : decode cX5_take 46 = .ok (.invokevirtual 139, 3) := dk_182 0 139 (dk_at dksX5_take_2 0 rfl rfl)
theorem dX5_take_49 : decode cX5_take 49 = .ok (.aload_n 0, 1) := dk_42 (dk_at dksX5_take_2 3 rfl rfl)
theorem dX5_take_50 : decode cX5_take 50 = .ok (.getfield 7, 3) := dk_180 0 7 (dk_at dksX5_take_2 4 rfl rfl)
theorem dX5_take_53 : decode cX5_take 53 = .ok (.iload_n 2, 1) := dk_28 (dk_at dksX5_take_2 7 rfl rfl)
theorem dX5_take_54 : decode cX5_take 54 = .ok (.iconst 1, 1) := dk_4 (dk_at dksX5_take_2 8 rfl rfl)
theorem dX5_take_55 : decode cX5_take 55 = .ok (.invokestatic 94, 3) := dk_184 0 94 (dk_at dksX5_take_2 9 rfl rfl)
theorem dX5_take_58 : decode cX5_take 58 = .ok (.iload_n 1, 1) := dk_27 (dk_at dksX5_take_2 12 rfl rfl)
theorem dX5_take_59 : decode cX5_take 59 = .ok (.iastore, 1) := dk_79 (dk_at dksX5_take_2 13 rfl rfl)
theorem dX5_take_60 : decode cX5_take 60 = .ok (.aload_n 0, 1) := dk_42 (dk_at dksX5_take_2 14 rfl rfl)
theorem dX5_take_61 : decode cX5_take 61 = .ok (.iload_n 1, 1) := dk_27 (dk_at dksX5_take_2 15 rfl rfl)
theorem dX5_take_62 : decode cX5_take 62 = .ok (.invokevirtual 190, 3) := dk_182 0 190 (dk_at dksX5_take_2 16 rfl rfl)
theorem dX5_take_65 : decode cX5_take 65 = .ok (.invokestatic 196, 3) := dk_184 0 196 (dk_at dksX5_take_2 19 rfl rfl)
theorem dX5_take_68 : decode cX5_take 68 = .ok (.ireturn, 1) := dk_172 (dk_at dksX5_take_2 22 rfl rfl)
abbrev cX5_mayNotTake : ByteArray := prog_25_method_78_code
def yX5_mayNotTake : MethodName := ⟨RX5, "mayNotTake", "(II)Z"⟩
def dkwX5_mayNotTake_2 : List UInt8 := [182, 0, 129, 153, 0, 7, 4, 167, 0, 4, 3, 172]
abbrev dktX5_mayNotTake_2 : List UInt8 := dkwX5_mayNotTake_2 ++ []
def dkwX5_mayNotTake_1 : List UInt8 := [182, 0, 129, 154, 0, 25, 42, 27, 182, 0, 190, 184, 0, 196, 5, 160, 0, 17, 42, 16, 14, 3]
abbrev dktX5_mayNotTake_1 : List UInt8 := dkwX5_mayNotTake_1 ++ dktX5_mayNotTake_2
def dkwX5_mayNotTake_0 : List UInt8 := [42, 27, 3, 182, 0, 177, 154, 0, 44, 42, 27, 28, 182, 1, 17, 154, 0, 13, 42, 16, 13, 28]
abbrev dktX5_mayNotTake_0 : List UInt8 := dkwX5_mayNotTake_0 ++ dktX5_mayNotTake_1
theorem dksX5_mayNotTake_0 : cX5_mayNotTake.data.toList.drop 0 = dktX5_mayNotTake_0 := by decide +kernel
theorem dksX5_mayNotTake_1 : cX5_mayNotTake.data.toList.drop 22 = dktX5_mayNotTake_1 := dk_seg dksX5_mayNotTake_0 22 rfl rfl
theorem dksX5_mayNotTake_2 : cX5_mayNotTake.data.toList.drop 44 = dktX5_mayNotTake_2 := dk_seg dksX5_mayNotTake_1 22 rfl rfl
theorem dX5_mayNotTake_0 : decode cX5_mayNotTake 0 = .ok (.aload_n 0, 1) := dk_42 (dk_at dksX5_mayNotTake_0 0 rfl rfl)
theorem dX5_mayNotTake_1 : decode cX5_mayNotTake 1 = .ok (.iload_n 1, 1) := dk_27 (dk_at dksX5_mayNotTake_0 1 rfl rfl)
theorem dX5_mayNotTake_2 : decode cX5_mayNotTake 2 = .ok (.iconst 0, 1) := dk_3 (dk_at dksX5_mayNotTake_0 2 rfl rfl)
theorem dX5_mayNotTake_3 : decode cX5_mayNotTake 3 = .ok (.invokevirtual 177, 3) := dk_182 0 177 (dk_at dksX5_mayNotTake_0 3 rfl rfl)
theorem dX5_mayNotTake_6 : decode cX5_mayNotTake 6 = .ok (.ifCond .ne 44, 3) := dk_154 0 44 (dk_at dksX5_mayNotTake_0 6 rfl rfl)
theorem dX5_mayNotTake_9 : decode cX5_mayNotTake 9 = .ok (.aload_n 0, 1) := dk_42 (dk_at dksX5_mayNotTake_0 9 rfl rfl)
theorem dX5_mayNotTake_10 : decode cX5_mayNotTake 10 = .ok (.iload_n 1, 1) := dk_27 (dk_at dksX5_mayNotTake_0 10 rfl rfl)
theorem dX5_mayNotTake_11 : decode cX5_mayNotTake 11 = .ok (.iload_n 2, 1) := dk_28 (dk_at dksX5_mayNotTake_0 11 rfl rfl)
theorem dX5_mayNotTake_12 : decode cX5_mayNotTake 12 = .ok (.invokevirtual 273, 3) := dk_182 1 17 (dk_at dksX5_mayNotTake_0 12 rfl rfl)
theorem dX5_mayNotTake_15 : decode cX5_mayNotTake 15 = .ok (.ifCond .ne 13, 3) := dk_154 0 13 (dk_at dksX5_mayNotTake_0 15 rfl rfl)
theorem dX5_mayNotTake_18 : decode cX5_mayNotTake 18 = .ok (.aload_n 0, 1) := dk_42 (dk_at dksX5_mayNotTake_0 18 rfl rfl)
theorem dX5_mayNotTake_19 : decode cX5_mayNotTake 19 = .ok (.bipush 13, 2) := dk_16 13 (dk_at dksX5_mayNotTake_0 19 rfl rfl)
theorem dX5_mayNotTake_21 : decode cX5_mayNotTake 21 = .ok (.iload_n 2, 1) := dk_28 (dk_at dksX5_mayNotTake_0 21 rfl rfl)
theorem dX5_mayNotTake_22 : decode cX5_mayNotTake 22 = .ok (.invokevirtual 129, 3) := dk_182 0 129 (dk_at dksX5_mayNotTake_1 0 rfl rfl)
theorem dX5_mayNotTake_25 : decode cX5_mayNotTake 25 = .ok (.ifCond .ne 25, 3) := dk_154 0 25 (dk_at dksX5_mayNotTake_1 3 rfl rfl)
theorem dX5_mayNotTake_28 : decode cX5_mayNotTake 28 = .ok (.aload_n 0, 1) := dk_42 (dk_at dksX5_mayNotTake_1 6 rfl rfl)
theorem dX5_mayNotTake_29 : decode cX5_mayNotTake 29 = .ok (.iload_n 1, 1) := dk_27 (dk_at dksX5_mayNotTake_1 7 rfl rfl)
theorem dX5_mayNotTake_30 : decode cX5_mayNotTake 30 = .ok (.invokevirtual 190, 3) := dk_182 0 190 (dk_at dksX5_mayNotTake_1 8 rfl rfl)
theorem dX5_mayNotTake_33 : decode cX5_mayNotTake 33 = .ok (.invokestatic 196, 3) := dk_184 0 196 (dk_at dksX5_mayNotTake_1 11 rfl rfl)
theorem dX5_mayNotTake_36 : decode cX5_mayNotTake 36 = .ok (.iconst 2, 1) := dk_5 (dk_at dksX5_mayNotTake_1 14 rfl rfl)
theorem dX5_mayNotTake_37 : decode cX5_mayNotTake 37 = .ok (.if_icmp .ne 17, 3) := dk_160 0 17 (dk_at dksX5_mayNotTake_1 15 rfl rfl)
theorem dX5_mayNotTake_40 : decode cX5_mayNotTake 40 = .ok (.aload_n 0, 1) := dk_42 (dk_at dksX5_mayNotTake_1 18 rfl rfl)
theorem dX5_mayNotTake_41 : decode cX5_mayNotTake 41 = .ok (.bipush 14, 2) := dk_16 14 (dk_at dksX5_mayNotTake_1 19 rfl rfl)
theorem dX5_mayNotTake_43 : decode cX5_mayNotTake 43 = .ok (.iconst 0, 1) := dk_3 (dk_at dksX5_mayNotTake_1 21 rfl rfl)
theorem dX5_mayNotTake_44 : decode cX5_mayNotTake 44 = .ok (.invokevirtual 129, 3) := dk_182 0 129 (dk_at dksX5_mayNotTake_2 0 rfl rfl)
theorem dX5_mayNotTake_47 : decode cX5_mayNotTake 47 = .ok (.ifCond .eq 7, 3) := dk_153 0 7 (dk_at dksX5_mayNotTake_2 3 rfl rfl)
theorem dX5_mayNotTake_50 : decode cX5_mayNotTake 50 = .ok (.iconst 1, 1) := dk_4 (dk_at dksX5_mayNotTake_2 6 rfl rfl)
theorem dX5_mayNotTake_51 : decode cX5_mayNotTake 51 = .ok (.goto 4, 3) := dk_167 0 4 (dk_at dksX5_mayNotTake_2 7 rfl rfl)
theorem dX5_mayNotTake_54 : decode cX5_mayNotTake 54 = .ok (.iconst 0, 1) := dk_3 (dk_at dksX5_mayNotTake_2 10 rfl rfl)
theorem dX5_mayNotTake_55 : decode cX5_mayNotTake 55 = .ok (.ireturn, 1) := dk_172 (dk_at dksX5_mayNotTake_2 11 rfl rfl)
abbrev cX5_liesWith : ByteArray := prog_25_method_77_code
def yX5_liesWith : MethodName := ⟨RX5, "liesWith", "(II)Z"⟩
def dkwX5_liesWith_1 : List UInt8 := [167, 0, 4, 3, 172]
abbrev dktX5_liesWith_1 : List UInt8 := dkwX5_liesWith_1 ++ []
def dkwX5_liesWith_0 : List UInt8 := [42, 28, 4, 182, 0, 110, 156, 0, 21, 42, 28, 3, 182, 0, 110, 42, 27, 182, 0, 113, 160, 0, 7, 4]
abbrev dktX5_liesWith_0 : List UInt8 := dkwX5_liesWith_0 ++ dktX5_liesWith_1
theorem dksX5_liesWith_0 : cX5_liesWith.data.toList.drop 0 = dktX5_liesWith_0 := by decide +kernel
theorem dksX5_liesWith_1 : cX5_liesWith.data.toList.drop 24 = dktX5_liesWith_1 := dk_seg dksX5_liesWith_0 24 rfl rfl
theorem dX5_liesWith_0 : decode cX5_liesWith 0 = .ok (.aload_n 0, 1) := dk_42 (dk_at dksX5_liesWith_0 0 rfl rfl)
theorem dX5_liesWith_1 : decode cX5_liesWith 1 = .ok (.iload_n 2, 1) := dk_28 (dk_at dksX5_liesWith_0 1 rfl rfl)
theorem dX5_liesWith_2 : decode cX5_liesWith 2 = .ok (.iconst 1, 1) := dk_4 (dk_at dksX5_liesWith_0 2 rfl rfl)
theorem dX5_liesWith_3 : decode cX5_liesWith 3 = .ok (.invokevirtual 110, 3) := dk_182 0 110 (dk_at dksX5_liesWith_0 3 rfl rfl)
theorem dX5_liesWith_6 : decode cX5_liesWith 6 = .ok (.ifCond .ge 21, 3) := dk_156 0 21 (dk_at dksX5_liesWith_0 6 rfl rfl)
theorem dX5_liesWith_9 : decode cX5_liesWith 9 = .ok (.aload_n 0, 1) := dk_42 (dk_at dksX5_liesWith_0 9 rfl rfl)
theorem dX5_liesWith_10 : decode cX5_liesWith 10 = .ok (.iload_n 2, 1) := dk_28 (dk_at dksX5_liesWith_0 10 rfl rfl)
theorem dX5_liesWith_11 : decode cX5_liesWith 11 = .ok (.iconst 0, 1) := dk_3 (dk_at dksX5_liesWith_0 11 rfl rfl)
theorem dX5_liesWith_12 : decode cX5_liesWith 12 = .ok (.invokevirtual 110, 3) := dk_182 0 110 (dk_at dksX5_liesWith_0 12 rfl rfl)
theorem dX5_liesWith_15 : decode cX5_liesWith 15 = .ok (.aload_n 0, 1) := dk_42 (dk_at dksX5_liesWith_0 15 rfl rfl)
theorem dX5_liesWith_16 : decode cX5_liesWith 16 = .ok (.iload_n 1, 1) := dk_27 (dk_at dksX5_liesWith_0 16 rfl rfl)
theorem dX5_liesWith_17 : decode cX5_liesWith 17 = .ok (.invokevirtual 113, 3) := dk_182 0 113 (dk_at dksX5_liesWith_0 17 rfl rfl)
theorem dX5_liesWith_20 : decode cX5_liesWith 20 = .ok (.if_icmp .ne 7, 3) := dk_160 0 7 (dk_at dksX5_liesWith_0 20 rfl rfl)
theorem dX5_liesWith_23 : decode cX5_liesWith 23 = .ok (.iconst 1, 1) := dk_4 (dk_at dksX5_liesWith_0 23 rfl rfl)
theorem dX5_liesWith_24 : decode cX5_liesWith 24 = .ok (.goto 4, 3) := dk_167 0 4 (dk_at dksX5_liesWith_1 0 rfl rfl)
theorem dX5_liesWith_27 : decode cX5_liesWith 27 = .ok (.iconst 0, 1) := dk_3 (dk_at dksX5_liesWith_1 3 rfl rfl)
theorem dX5_liesWith_28 : decode cX5_liesWith 28 = .ok (.ireturn, 1) := dk_172 (dk_at dksX5_liesWith_1 4 rfl rfl)
abbrev cX5_put : ByteArray := prog_25_method_83_code
def yX5_put : MethodName := ⟨RX5, "put", "(II)I"⟩
def dkwX5_put_2 : List UInt8 := [182, 0, 139, 42, 27, 28, 182, 1, 26, 42, 27, 182, 0, 190, 184, 0, 196, 172]
abbrev dktX5_put_2 : List UInt8 := dkwX5_put_2 ++ []
def dkwX5_put_1 : List UInt8 := [182, 1, 23, 153, 0, 9, 42, 5, 182, 0, 133, 172, 42, 3, 181, 0, 65, 42, 182, 0, 136, 42]
abbrev dktX5_put_1 : List UInt8 := dkwX5_put_1 ++ dktX5_put_2
def dkwX5_put_0 : List UInt8 := [27, 184, 0, 187, 153, 0, 11, 42, 28, 182, 0, 164, 154, 0, 9, 42, 4, 182, 0, 80, 172, 42, 27, 28]
abbrev dktX5_put_0 : List UInt8 := dkwX5_put_0 ++ dktX5_put_1
theorem dksX5_put_0 : cX5_put.data.toList.drop 0 = dktX5_put_0 := by decide +kernel
theorem dksX5_put_1 : cX5_put.data.toList.drop 24 = dktX5_put_1 := dk_seg dksX5_put_0 24 rfl rfl
theorem dksX5_put_2 : cX5_put.data.toList.drop 46 = dktX5_put_2 := dk_seg dksX5_put_1 22 rfl rfl
theorem dX5_put_0 : decode cX5_put 0 = .ok (.iload_n 1, 1) := dk_27 (dk_at dksX5_put_0 0 rfl rfl)
theorem dX5_put_1 : decode cX5_put 1 = .ok (.invokestatic 187, 3) := dk_184 0 187 (dk_at dksX5_put_0 1 rfl rfl)
theorem dX5_put_4 : decode cX5_put 4 = .ok (.ifCond .eq 11, 3) := dk_153 0 11 (dk_at dksX5_put_0 4 rfl rfl)
theorem dX5_put_7 : decode cX5_put 7 = .ok (.aload_n 0, 1) := dk_42 (dk_at dksX5_put_0 7 rfl rfl)
theorem dX5_put_8 : decode cX5_put 8 = .ok (.iload_n 2, 1) := dk_28 (dk_at dksX5_put_0 8 rfl rfl)
theorem dX5_put_9 : decode cX5_put 9 = .ok (.invokevirtual 164, 3) := dk_182 0 164 (dk_at dksX5_put_0 9 rfl rfl)
theorem dX5_put_12 : decode cX5_put 12 = .ok (.ifCond .ne 9, 3) := dk_154 0 9 (dk_at dksX5_put_0 12 rfl rfl)
theorem dX5_put_15 : decode cX5_put 15 = .ok (.aload_n 0, 1) := dk_42 (dk_at dksX5_put_0 15 rfl rfl)
theorem dX5_put_16 : decode cX5_put 16 = .ok (.iconst 1, 1) := dk_4 (dk_at dksX5_put_0 16 rfl rfl)
theorem dX5_put_17 : decode cX5_put 17 = .ok (.invokevirtual 80, 3) := dk_182 0 80 (dk_at dksX5_put_0 17 rfl rfl)
theorem dX5_put_20 : decode cX5_put 20 = .ok (.ireturn, 1) := dk_172 (dk_at dksX5_put_0 20 rfl rfl)
theorem dX5_put_21 : decode cX5_put 21 = .ok (.aload_n 0, 1) := dk_42 (dk_at dksX5_put_0 21 rfl rfl)
theorem dX5_put_22 : decode cX5_put 22 = .ok (.iload_n 1, 1) := dk_27 (dk_at dksX5_put_0 22 rfl rfl)
theorem dX5_put_23 : decode cX5_put 23 = .ok (.iload_n 2, 1) := dk_28 (dk_at dksX5_put_0 23 rfl rfl)
theorem dX5_put_24 : decode cX5_put 24 = .ok (.invokevirtual 279, 3) := dk_182 1 23 (dk_at dksX5_put_1 0 rfl rfl)
theorem dX5_put_27 : decode cX5_put 27 = .ok (.ifCond .eq 9, 3) := dk_153 0 9 (dk_at dksX5_put_1 3 rfl rfl)
theorem dX5_put_30 : decode cX5_put 30 = .ok (.aload_n 0, 1) := dk_42 (dk_at dksX5_put_1 6 rfl rfl)
theorem dX5_put_31 : decode cX5_put 31 = .ok (.iconst 2, 1) := dk_5 (dk_at dksX5_put_1 7 rfl rfl)
theorem dX5_put_32 : decode cX5_put 32 = .ok (.invokevirtual 133, 3) := dk_182 0 133 (dk_at dksX5_put_1 8 rfl rfl)
theorem dX5_put_35 : decode cX5_put 35 = .ok (.ireturn, 1) := dk_172 (dk_at dksX5_put_1 11 rfl rfl)
theorem dX5_put_36 : decode cX5_put 36 = .ok (.aload_n 0, 1) := dk_42 (dk_at dksX5_put_1 12 rfl rfl)
theorem dX5_put_37 : decode cX5_put 37 = .ok (.iconst 0, 1) := dk_3 (dk_at dksX5_put_1 13 rfl rfl)
theorem dX5_put_38 : decode cX5_put 38 = .ok (.putfield 65, 3) := dk_181 0 65 (dk_at dksX5_put_1 14 rfl rfl)
theorem dX5_put_41 : decode cX5_put 41 = .ok (.aload_n 0, 1) := dk_42 (dk_at dksX5_put_1 17 rfl rfl)
theorem dX5_put_42 : decode cX5_put 42 = .ok (.invokevirtual 136, 3) := dk_182 0 136 (dk_at dksX5_put_1 18 rfl rfl)
theorem dX5_put_45 : decode cX5_put 45 = .ok (.aload_n 0, 1) := dk_42 (dk_at dksX5_put_1 21 rfl rfl)
theorem dX5_put_46 : decode cX5_put 46 = .ok (.invokevirtual 139, 3) := dk_182 0 139 (dk_at dksX5_put_2 0 rfl rfl)
theorem dX5_put_49 : decode cX5_put 49 = .ok (.aload_n 0, 1) := dk_42 (dk_at dksX5_put_2 3 rfl rfl)
theorem dX5_put_50 : decode cX5_put 50 = .ok (.iload_n 1, 1) := dk_27 (dk_at dksX5_put_2 4 rfl rfl)
theorem dX5_put_51 : decode cX5_put 51 = .ok (.iload_n 2, 1) := dk_28 (dk_at dksX5_put_2 5 rfl rfl)
theorem dX5_put_52 : decode cX5_put 52 = .ok (.invokevirtual 282, 3) := dk_182 1 26 (dk_at dksX5_put_2 6 rfl rfl)
theorem dX5_put_55 : decode cX5_put 55 = .ok (.aload_n 0, 1) := dk_42 (dk_at dksX5_put_2 9 rfl rfl)
theorem dX5_put_56 : decode cX5_put 56 = .ok (.iload_n 1, 1) := dk_27 (dk_at dksX5_put_2 10 rfl rfl)
theorem dX5_put_57 : decode cX5_put 57 = .ok (.invokevirtual 190, 3) := dk_182 0 190 (dk_at dksX5_put_2 11 rfl rfl)
theorem dX5_put_60 : decode cX5_put 60 = .ok (.invokestatic 196, 3) := dk_184 0 196 (dk_at dksX5_put_2 14 rfl rfl)
theorem dX5_put_63 : decode cX5_put 63 = .ok (.ireturn, 1) := dk_172 (dk_at dksX5_put_2 17 rfl rfl)
abbrev cX5_mayNotPut : ByteArray := prog_25_method_79_code
def yX5_mayNotPut : MethodName := ⟨RX5, "mayNotPut", "(II)Z"⟩
def dkwX5_mayNotPut_1 : List UInt8 := [182, 0, 129, 153, 0, 7, 4, 167, 0, 4, 3, 172]
abbrev dktX5_mayNotPut_1 : List UInt8 := dkwX5_mayNotPut_1 ++ []
def dkwX5_mayNotPut_0 : List UInt8 := [42, 27, 4, 182, 0, 177, 154, 0, 23, 42, 28, 4, 182, 0, 110, 27, 159, 0, 17, 42, 16, 13, 28]
abbrev dktX5_mayNotPut_0 : List UInt8 := dkwX5_mayNotPut_0 ++ dktX5_mayNotPut_1
theorem dksX5_mayNotPut_0 : cX5_mayNotPut.data.toList.drop 0 = dktX5_mayNotPut_0 := by decide +kernel
theorem dksX5_mayNotPut_1 : cX5_mayNotPut.data.toList.drop 23 = dktX5_mayNotPut_1 := dk_seg dksX5_mayNotPut_0 23 rfl rfl
theorem dX5_mayNotPut_0 : decode cX5_mayNotPut 0 = .ok (.aload_n 0, 1) := dk_42 (dk_at dksX5_mayNotPut_0 0 rfl rfl)
theorem dX5_mayNotPut_1 : decode cX5_mayNotPut 1 = .ok (.iload_n 1, 1) := dk_27 (dk_at dksX5_mayNotPut_0 1 rfl rfl)
theorem dX5_mayNotPut_2 : decode cX5_mayNotPut 2 = .ok (.iconst 1, 1) := dk_4 (dk_at dksX5_mayNotPut_0 2 rfl rfl)
theorem dX5_mayNotPut_3 : decode cX5_mayNotPut 3 = .ok (.invokevirtual 177, 3) := dk_182 0 177 (dk_at dksX5_mayNotPut_0 3 rfl rfl)
theorem dX5_mayNotPut_6 : decode cX5_mayNotPut 6 = .ok (.ifCond .ne 23, 3) := dk_154 0 23 (dk_at dksX5_mayNotPut_0 6 rfl rfl)
theorem dX5_mayNotPut_9 : decode cX5_mayNotPut 9 = .ok (.aload_n 0, 1) := dk_42 (dk_at dksX5_mayNotPut_0 9 rfl rfl)
theorem dX5_mayNotPut_10 : decode cX5_mayNotPut 10 = .ok (.iload_n 2, 1) := dk_28 (dk_at dksX5_mayNotPut_0 10 rfl rfl)
theorem dX5_mayNotPut_11 : decode cX5_mayNotPut 11 = .ok (.iconst 1, 1) := dk_4 (dk_at dksX5_mayNotPut_0 11 rfl rfl)
theorem dX5_mayNotPut_12 : decode cX5_mayNotPut 12 = .ok (.invokevirtual 110, 3) := dk_182 0 110 (dk_at dksX5_mayNotPut_0 12 rfl rfl)
theorem dX5_mayNotPut_15 : decode cX5_mayNotPut 15 = .ok (.iload_n 1, 1) := dk_27 (dk_at dksX5_mayNotPut_0 15 rfl rfl)
theorem dX5_mayNotPut_16 : decode cX5_mayNotPut 16 = .ok (.if_icmp .eq 17, 3) := dk_159 0 17 (dk_at dksX5_mayNotPut_0 16 rfl rfl)
theorem dX5_mayNotPut_19 : decode cX5_mayNotPut 19 = .ok (.aload_n 0, 1) := dk_42 (dk_at dksX5_mayNotPut_0 19 rfl rfl)
theorem dX5_mayNotPut_20 : decode cX5_mayNotPut 20 = .ok (.bipush 13, 2) := dk_16 13 (dk_at dksX5_mayNotPut_0 20 rfl rfl)
theorem dX5_mayNotPut_22 : decode cX5_mayNotPut 22 = .ok (.iload_n 2, 1) := dk_28 (dk_at dksX5_mayNotPut_0 22 rfl rfl)
theorem dX5_mayNotPut_23 : decode cX5_mayNotPut 23 = .ok (.invokevirtual 129, 3) := dk_182 0 129 (dk_at dksX5_mayNotPut_1 0 rfl rfl)
theorem dX5_mayNotPut_26 : decode cX5_mayNotPut 26 = .ok (.ifCond .eq 7, 3) := dk_153 0 7 (dk_at dksX5_mayNotPut_1 3 rfl rfl)
theorem dX5_mayNotPut_29 : decode cX5_mayNotPut 29 = .ok (.iconst 1, 1) := dk_4 (dk_at dksX5_mayNotPut_1 6 rfl rfl)
theorem dX5_mayNotPut_30 : decode cX5_mayNotPut 30 = .ok (.goto 4, 3) := dk_167 0 4 (dk_at dksX5_mayNotPut_1 7 rfl rfl)
theorem dX5_mayNotPut_33 : decode cX5_mayNotPut 33 = .ok (.iconst 0, 1) := dk_3 (dk_at dksX5_mayNotPut_1 10 rfl rfl)
theorem dX5_mayNotPut_34 : decode cX5_mayNotPut 34 = .ok (.ireturn, 1) := dk_172 (dk_at dksX5_mayNotPut_1 11 rfl rfl)
abbrev cX5_puts : ByteArray := prog_25_method_81_code
def yX5_puts : MethodName := ⟨RX5, "puts", "(II)V"⟩
def dkwX5_puts_1 : List UInt8 := [182, 0, 113, 79, 177]
abbrev dktX5_puts_1 : List UInt8 := dkwX5_puts_1 ++ []
def dkwX5_puts_0 : List UInt8 := [42, 180, 0, 7, 28, 4, 184, 0, 94, 2, 79, 42, 180, 0, 7, 28, 3, 184, 0, 94, 42, 27]
abbrev dktX5_puts_0 : List UInt8 := dkwX5_puts_0 ++ dktX5_puts_1
theorem dksX5_puts_0 : cX5_puts.data.toList.drop 0 = dktX5_puts_0 := by decide +kernel
theorem dksX5_puts_1 : cX5_puts.data.toList.drop 22 = dktX5_puts_1 := dk_seg dksX5_puts_0 22 rfl rfl
theorem dX5_puts_0 : decode cX5_puts 0 = .ok (.aload_n 0, 1) := dk_42 (dk_at dksX5_puts_0 0 rfl rfl)
theorem dX5_puts_1 : decode cX5_puts 1 = .ok (.getfield 7, 3) := dk_180 0 7 (dk_at dksX5_puts_0 1 rfl rfl)
theorem dX5_puts_4 : decode cX5_puts 4 = .ok (.iload_n 2, 1) := dk_28 (dk_at dksX5_puts_0 4 rfl rfl)
theorem dX5_puts_5 : decode cX5_puts 5 = .ok (.iconst 1, 1) := dk_4 (dk_at dksX5_puts_0 5 rfl rfl)
theorem dX5_puts_6 : decode cX5_puts 6 = .ok (.invokestatic 94, 3) := dk_184 0 94 (dk_at dksX5_puts_0 6 rfl rfl)
theorem dX5_puts_9 : decode cX5_puts 9 = .ok (.iconst (-1), 1) := dk_2 (dk_at dksX5_puts_0 9 rfl rfl)
theorem dX5_puts_10 : decode cX5_puts 10 = .ok (.iastore, 1) := dk_79 (dk_at dksX5_puts_0 10 rfl rfl)
theorem dX5_puts_11 : decode cX5_puts 11 = .ok (.aload_n 0, 1) := dk_42 (dk_at dksX5_puts_0 11 rfl rfl)
theorem dX5_puts_12 : decode cX5_puts 12 = .ok (.getfield 7, 3) := dk_180 0 7 (dk_at dksX5_puts_0 12 rfl rfl)
theorem dX5_puts_15 : decode cX5_puts 15 = .ok (.iload_n 2, 1) := dk_28 (dk_at dksX5_puts_0 15 rfl rfl)
theorem dX5_puts_16 : decode cX5_puts 16 = .ok (.iconst 0, 1) := dk_3 (dk_at dksX5_puts_0 16 rfl rfl)
theorem dX5_puts_17 : decode cX5_puts 17 = .ok (.invokestatic 94, 3) := dk_184 0 94 (dk_at dksX5_puts_0 17 rfl rfl)
theorem dX5_puts_20 : decode cX5_puts 20 = .ok (.aload_n 0, 1) := dk_42 (dk_at dksX5_puts_0 20 rfl rfl)
theorem dX5_puts_21 : decode cX5_puts 21 = .ok (.iload_n 1, 1) := dk_27 (dk_at dksX5_puts_0 21 rfl rfl)
theorem dX5_puts_22 : decode cX5_puts 22 = .ok (.invokevirtual 113, 3) := dk_182 0 113 (dk_at dksX5_puts_1 0 rfl rfl)
theorem dX5_puts_25 : decode cX5_puts 25 = .ok (.iastore, 1) := dk_79 (dk_at dksX5_puts_1 3 rfl rfl)
theorem dX5_puts_26 : decode cX5_puts 26 = .ok (.return_, 1) := dk_177 (dk_at dksX5_puts_1 4 rfl rfl)
abbrev cX5_light : ByteArray := prog_25_method_84_code
def yX5_light : MethodName := ⟨RX5, "light", "(II)I"⟩
def dkwX5_light_3 : List UInt8 := [182, 0, 110, 172]
abbrev dktX5_light_3 : List UInt8 := dkwX5_light_3 ++ []
def dkwX5_light_2 : List UInt8 := [182, 0, 139, 42, 180, 0, 7, 28, 7, 184, 0, 94, 4, 42, 28, 7, 182, 0, 110, 100, 79, 42, 28, 7]
abbrev dktX5_light_2 : List UInt8 := dkwX5_light_2 ++ dktX5_light_3
def dkwX5_light_1 : List UInt8 := [182, 1, 29, 153, 0, 9, 42, 5, 182, 0, 133, 172, 42, 3, 181, 0, 65, 42, 182, 0, 136, 42]
abbrev dktX5_light_1 : List UInt8 := dkwX5_light_1 ++ dktX5_light_2
def dkwX5_light_0 : List UInt8 := [27, 184, 0, 187, 153, 0, 11, 42, 28, 182, 0, 164, 154, 0, 9, 42, 4, 182, 0, 80, 172, 42, 27, 28]
abbrev dktX5_light_0 : List UInt8 := dkwX5_light_0 ++ dktX5_light_1
theorem dksX5_light_0 : cX5_light.data.toList.drop 0 = dktX5_light_0 := by decide +kernel
theorem dksX5_light_1 : cX5_light.data.toList.drop 24 = dktX5_light_1 := dk_seg dksX5_light_0 24 rfl rfl
theorem dksX5_light_2 : cX5_light.data.toList.drop 46 = dktX5_light_2 := dk_seg dksX5_light_1 22 rfl rfl
theorem dksX5_light_3 : cX5_light.data.toList.drop 70 = dktX5_light_3 := dk_seg dksX5_light_2 24 rfl rfl
theorem dX5_light_0 : decode cX5_light 0 = .ok (.iload_n 1, 1) := dk_27 (dk_at dksX5_light_0 0 rfl rfl)
theorem dX5_light_1 : decode cX5_light 1 = .ok (.invokestatic 187, 3) := dk_184 0 187 (dk_at dksX5_light_0 1 rfl rfl)
theorem dX5_light_4 : decode cX5_light 4 = .ok (.ifCond .eq 11, 3) := dk_153 0 11 (dk_at dksX5_light_0 4 rfl rfl)
theorem dX5_light_7 : decode cX5_light 7 = .ok (.aload_n 0, 1) := dk_42 (dk_at dksX5_light_0 7 rfl rfl)
theorem dX5_light_8 : decode cX5_light 8 = .ok (.iload_n 2, 1) := dk_28 (dk_at dksX5_light_0 8 rfl rfl)
theorem dX5_light_9 : decode cX5_light 9 = .ok (.invokevirtual 164, 3) := dk_182 0 164 (dk_at dksX5_light_0 9 rfl rfl)
theorem dX5_light_12 : decode cX5_light 12 = .ok (.ifCond .ne 9, 3) := dk_154 0 9 (dk_at dksX5_light_0 12 rfl rfl)
theorem dX5_light_15 : decode cX5_light 15 = .ok (.aload_n 0, 1) := dk_42 (dk_at dksX5_light_0 15 rfl rfl)
theorem dX5_light_16 : decode cX5_light 16 = .ok (.iconst 1, 1) := dk_4 (dk_at dksX5_light_0 16 rfl rfl)
theorem dX5_light_17 : decode cX5_light 17 = .ok (.invokevirtual 80, 3) := dk_182 0 80 (dk_at dksX5_light_0 17 rfl rfl)
theorem dX5_light_20 : decode cX5_light 20 = .ok (.ireturn, 1) := dk_172 (dk_at dksX5_light_0 20 rfl rfl)
theorem dX5_light_21 : decode cX5_light 21 = .ok (.aload_n 0, 1) := dk_42 (dk_at dksX5_light_0 21 rfl rfl)
theorem dX5_light_22 : decode cX5_light 22 = .ok (.iload_n 1, 1) := dk_27 (dk_at dksX5_light_0 22 rfl rfl)
theorem dX5_light_23 : decode cX5_light 23 = .ok (.iload_n 2, 1) := dk_28 (dk_at dksX5_light_0 23 rfl rfl)
theorem dX5_light_24 : decode cX5_light 24 = .ok (.invokevirtual 285, 3) := dk_182 1 29 (dk_at dksX5_light_1 0 rfl rfl)
theorem dX5_light_27 : decode cX5_light 27 = .ok (.ifCond .eq 9, 3) := dk_153 0 9 (dk_at dksX5_light_1 3 rfl rfl)
theorem dX5_light_30 : decode cX5_light 30 = .ok (.aload_n 0, 1) := dk_42 (dk_at dksX5_light_1 6 rfl rfl)
theorem dX5_light_31 : decode cX5_light 31 = .ok (.iconst 2, 1) := dk_5 (dk_at dksX5_light_1 7 rfl rfl)
theorem dX5_light_32 : decode cX5_light 32 = .ok (.invokevirtual 133, 3) := dk_182 0 133 (dk_at dksX5_light_1 8 rfl rfl)
theorem dX5_light_35 : decode cX5_light 35 = .ok (.ireturn, 1) := dk_172 (dk_at dksX5_light_1 11 rfl rfl)
theorem dX5_light_36 : decode cX5_light 36 = .ok (.aload_n 0, 1) := dk_42 (dk_at dksX5_light_1 12 rfl rfl)
theorem dX5_light_37 : decode cX5_light 37 = .ok (.iconst 0, 1) := dk_3 (dk_at dksX5_light_1 13 rfl rfl)
theorem dX5_light_38 : decode cX5_light 38 = .ok (.putfield 65, 3) := dk_181 0 65 (dk_at dksX5_light_1 14 rfl rfl)
theorem dX5_light_41 : decode cX5_light 41 = .ok (.aload_n 0, 1) := dk_42 (dk_at dksX5_light_1 17 rfl rfl)
theorem dX5_light_42 : decode cX5_light 42 = .ok (.invokevirtual 136, 3) := dk_182 0 136 (dk_at dksX5_light_1 18 rfl rfl)
theorem dX5_light_45 : decode cX5_light 45 = .ok (.aload_n 0, 1) := dk_42 (dk_at dksX5_light_1 21 rfl rfl)
theorem dX5_light_46 : decode cX5_light 46 = .ok (.invokevirtual 139, 3) := dk_182 0 139 (dk_at dksX5_light_2 0 rfl rfl)
theorem dX5_light_49 : decode cX5_light 49 = .ok (.aload_n 0, 1) := dk_42 (dk_at dksX5_light_2 3 rfl rfl)
theorem dX5_light_50 : decode cX5_light 50 = .ok (.getfield 7, 3) := dk_180 0 7 (dk_at dksX5_light_2 4 rfl rfl)
theorem dX5_light_53 : decode cX5_light 53 = .ok (.iload_n 2, 1) := dk_28 (dk_at dksX5_light_2 7 rfl rfl)
theorem dX5_light_54 : decode cX5_light 54 = .ok (.iconst 4, 1) := dk_7 (dk_at dksX5_light_2 8 rfl rfl)
theorem dX5_light_55 : decode cX5_light 55 = .ok (.invokestatic 94, 3) := dk_184 0 94 (dk_at dksX5_light_2 9 rfl rfl)
theorem dX5_light_58 : decode cX5_light 58 = .ok (.iconst 1, 1) := dk_4 (dk_at dksX5_light_2 12 rfl rfl)
theorem dX5_light_59 : decode cX5_light 59 = .ok (.aload_n 0, 1) := dk_42 (dk_at dksX5_light_2 13 rfl rfl)
theorem dX5_light_60 : decode cX5_light 60 = .ok (.iload_n 2, 1) := dk_28 (dk_at dksX5_light_2 14 rfl rfl)
theorem dX5_light_61 : decode cX5_light 61 = .ok (.iconst 4, 1) := dk_7 (dk_at dksX5_light_2 15 rfl rfl)
theorem dX5_light_62 : decode cX5_light 62 = .ok (.invokevirtual 110, 3) := dk_182 0 110 (dk_at dksX5_light_2 16 rfl rfl)
theorem dX5_light_65 : decode cX5_light 65 = .ok (.isub, 1) := dk_100 (dk_at dksX5_light_2 19 rfl rfl)
theorem dX5_light_66 : decode cX5_light 66 = .ok (.iastore, 1) := dk_79 (dk_at dksX5_light_2 20 rfl rfl)
theorem dX5_light_67 : decode cX5_light 67 = .ok (.aload_n 0, 1) := dk_42 (dk_at dksX5_light_2 21 rfl rfl)
theorem dX5_light_68 : decode cX5_light 68 = .ok (.iload_n 2, 1) := dk_28 (dk_at dksX5_light_2 22 rfl rfl)
theorem dX5_light_69 : decode cX5_light 69 = .ok (.iconst 4, 1) := dk_7 (dk_at dksX5_light_2 23 rfl rfl)
theorem dX5_light_70 : decode cX5_light 70 = .ok (.invokevirtual 110, 3) := dk_182 0 110 (dk_at dksX5_light_3 0 rfl rfl)
theorem dX5_light_73 : decode cX5_light 73 = .ok (.ireturn, 1) := dk_172 (dk_at dksX5_light_3 3 rfl rfl)
abbrev cX5_mayNotLight : ByteArray := prog_25_method_80_code
def yX5_mayNotLight : MethodName := ⟨RX5, "mayNotLight", "(II)Z"⟩
def dkwX5_mayNotLight_3 : List UInt8 := [182, 0, 129, 153, 0, 7, 4, 167, 0, 4, 3, 172]
abbrev dktX5_mayNotLight_3 : List UInt8 := dkwX5_mayNotLight_3 ++ []
def dkwX5_mayNotLight_2 : List UInt8 := [42, 28, 7, 182, 0, 110, 154, 0, 26, 42, 28, 6, 182, 0, 110, 154, 0, 17, 42, 16, 15, 3]
abbrev dktX5_mayNotLight_2 : List UInt8 := dkwX5_mayNotLight_2 ++ dktX5_mayNotLight_3
def dkwX5_mayNotLight_1 : List UInt8 := [62, 42, 27, 3, 182, 0, 177, 154, 0, 45, 29, 154, 0, 13, 42, 16, 13, 28, 182, 0, 129, 154, 0, 31]
abbrev dktX5_mayNotLight_1 : List UInt8 := dkwX5_mayNotLight_1 ++ dktX5_mayNotLight_2
def dkwX5_mayNotLight_0 : List UInt8 := [42, 28, 4, 182, 0, 110, 27, 159, 0, 12, 42, 27, 28, 182, 1, 17, 153, 0, 7, 4, 167, 0, 4, 3]
abbrev dktX5_mayNotLight_0 : List UInt8 := dkwX5_mayNotLight_0 ++ dktX5_mayNotLight_1
theorem dksX5_mayNotLight_0 : cX5_mayNotLight.data.toList.drop 0 = dktX5_mayNotLight_0 := by decide +kernel
theorem dksX5_mayNotLight_1 : cX5_mayNotLight.data.toList.drop 24 = dktX5_mayNotLight_1 := dk_seg dksX5_mayNotLight_0 24 rfl rfl
theorem dksX5_mayNotLight_2 : cX5_mayNotLight.data.toList.drop 48 = dktX5_mayNotLight_2 := dk_seg dksX5_mayNotLight_1 24 rfl rfl
theorem dksX5_mayNotLight_3 : cX5_mayNotLight.data.toList.drop 70 = dktX5_mayNotLight_3 := dk_seg dksX5_mayNotLight_2 22 rfl rfl
theorem dX5_mayNotLight_0 : decode cX5_mayNotLight 0 = .ok (.aload_n 0, 1) := dk_42 (dk_at dksX5_mayNotLight_0 0 rfl rfl)
theorem dX5_mayNotLight_1 : decode cX5_mayNotLight 1 = .ok (.iload_n 2, 1) := dk_28 (dk_at dksX5_mayNotLight_0 1 rfl rfl)
theorem dX5_mayNotLight_2 : decode cX5_mayNotLight 2 = .ok (.iconst 1, 1) := dk_4 (dk_at dksX5_mayNotLight_0 2 rfl rfl)
theorem dX5_mayNotLight_3 : decode cX5_mayNotLight 3 = .ok (.invokevirtual 110, 3) := dk_182 0 110 (dk_at dksX5_mayNotLight_0 3 rfl rfl)
theorem dX5_mayNotLight_6 : decode cX5_mayNotLight 6 = .ok (.iload_n 1, 1) := dk_27 (dk_at dksX5_mayNotLight_0 6 rfl rfl)
theorem dX5_mayNotLight_7 : decode cX5_mayNotLight 7 = .ok (.if_icmp .eq 12, 3) := dk_159 0 12 (dk_at dksX5_mayNotLight_0 7 rfl rfl)
theorem dX5_mayNotLight_10 : decode cX5_mayNotLight 10 = .ok (.aload_n 0, 1) := dk_42 (dk_at dksX5_mayNotLight_0 10 rfl rfl)
theorem dX5_mayNotLight_11 : decode cX5_mayNotLight 11 = .ok (.iload_n 1, 1) := dk_27 (dk_at dksX5_mayNotLight_0 11 rfl rfl)
theorem dX5_mayNotLight_12 : decode cX5_mayNotLight 12 = .ok (.iload_n 2, 1) := dk_28 (dk_at dksX5_mayNotLight_0 12 rfl rfl)
theorem dX5_mayNotLight_13 : decode cX5_mayNotLight 13 = .ok (.invokevirtual 273, 3) := dk_182 1 17 (dk_at dksX5_mayNotLight_0 13 rfl rfl)
theorem dX5_mayNotLight_16 : decode cX5_mayNotLight 16 = .ok (.ifCond .eq 7, 3) := dk_153 0 7 (dk_at dksX5_mayNotLight_0 16 rfl rfl)
theorem dX5_mayNotLight_19 : decode cX5_mayNotLight 19 = .ok (.iconst 1, 1) := dk_4 (dk_at dksX5_mayNotLight_0 19 rfl rfl)
theorem dX5_mayNotLight_20 : decode cX5_mayNotLight 20 = .ok (.goto 4, 3) := dk_167 0 4 (dk_at dksX5_mayNotLight_0 20 rfl rfl)
theorem dX5_mayNotLight_23 : decode cX5_mayNotLight 23 = .ok (.iconst 0, 1) := dk_3 (dk_at dksX5_mayNotLight_0 23 rfl rfl)
theorem dX5_mayNotLight_24 : decode cX5_mayNotLight 24 = .ok (.istore_n 3, 1) := dk_62 (dk_at dksX5_mayNotLight_1 0 rfl rfl)
theorem dX5_mayNotLight_25 : decode cX5_mayNotLight 25 = .ok (.aload_n 0, 1) := dk_42 (dk_at dksX5_mayNotLight_1 1 rfl rfl)
theorem dX5_mayNotLight_26 : decode cX5_mayNotLight 26 = .ok (.iload_n 1, 1) := dk_27 (dk_at dksX5_mayNotLight_1 2 rfl rfl)
theorem dX5_mayNotLight_27 : decode cX5_mayNotLight 27 = .ok (.iconst 0, 1) := dk_3 (dk_at dksX5_mayNotLight_1 3 rfl rfl)
theorem dX5_mayNotLight_28 : decode cX5_mayNotLight 28 = .ok (.invokevirtual 177, 3) := dk_182 0 177 (dk_at dksX5_mayNotLight_1 4 rfl rfl)
theorem dX5_mayNotLight_31 : decode cX5_mayNotLight 31 = .ok (.ifCond .ne 45, 3) := dk_154 0 45 (dk_at dksX5_mayNotLight_1 7 rfl rfl)
theorem dX5_mayNotLight_34 : decode cX5_mayNotLight 34 = .ok (.iload_n 3, 1) := dk_29 (dk_at dksX5_mayNotLight_1 10 rfl rfl)
theorem dX5_mayNotLight_35 : decode cX5_mayNotLight 35 = .ok (.ifCond .ne 13, 3) := dk_154 0 13 (dk_at dksX5_mayNotLight_1 11 rfl rfl)
theorem dX5_mayNotLight_38 : decode cX5_mayNotLight 38 = .ok (.aload_n 0, 1) := dk_42 (dk_at dksX5_mayNotLight_1 14 rfl rfl)
theorem dX5_mayNotLight_39 : decode cX5_mayNotLight 39 = .ok (.bipush 13, 2) := dk_16 13 (dk_at dksX5_mayNotLight_1 15 rfl rfl)
theorem dX5_mayNotLight_41 : decode cX5_mayNotLight 41 = .ok (.iload_n 2, 1) := dk_28 (dk_at dksX5_mayNotLight_1 17 rfl rfl)
theorem dX5_mayNotLight_42 : decode cX5_mayNotLight 42 = .ok (.invokevirtual 129, 3) := dk_182 0 129 (dk_at dksX5_mayNotLight_1 18 rfl rfl)
theorem dX5_mayNotLight_45 : decode cX5_mayNotLight 45 = .ok (.ifCond .ne 31, 3) := dk_154 0 31 (dk_at dksX5_mayNotLight_1 21 rfl rfl)
theorem dX5_mayNotLight_48 : decode cX5_mayNotLight 48 = .ok (.aload_n 0, 1) := dk_42 (dk_at dksX5_mayNotLight_2 0 rfl rfl)
theorem dX5_mayNotLight_49 : decode cX5_mayNotLight 49 = .ok (.iload_n 2, 1) := dk_28 (dk_at dksX5_mayNotLight_2 1 rfl rfl)
theorem dX5_mayNotLight_50 : decode cX5_mayNotLight 50 = .ok (.iconst 4, 1) := dk_7 (dk_at dksX5_mayNotLight_2 2 rfl rfl)
theorem dX5_mayNotLight_51 : decode cX5_mayNotLight 51 = .ok (.invokevirtual 110, 3) := dk_182 0 110 (dk_at dksX5_mayNotLight_2 3 rfl rfl)
theorem dX5_mayNotLight_54 : decode cX5_mayNotLight 54 = .ok (.ifCond .ne 26, 3) := dk_154 0 26 (dk_at dksX5_mayNotLight_2 6 rfl rfl)
theorem dX5_mayNotLight_57 : decode cX5_mayNotLight 57 = .ok (.aload_n 0, 1) := dk_42 (dk_at dksX5_mayNotLight_2 9 rfl rfl)
theorem dX5_mayNotLight_58 : decode cX5_mayNotLight 58 = .ok (.iload_n 2, 1) := dk_28 (dk_at dksX5_mayNotLight_2 10 rfl rfl)
theorem dX5_mayNotLight_59 : decode cX5_mayNotLight 59 = .ok (.iconst 3, 1) := dk_6 (dk_at dksX5_mayNotLight_2 11 rfl rfl)
theorem dX5_mayNotLight_60 : decode cX5_mayNotLight 60 = .ok (.invokevirtual 110, 3) := dk_182 0 110 (dk_at dksX5_mayNotLight_2 12 rfl rfl)
theorem dX5_mayNotLight_63 : decode cX5_mayNotLight 63 = .ok (.ifCond .ne 17, 3) := dk_154 0 17 (dk_at dksX5_mayNotLight_2 15 rfl rfl)
theorem dX5_mayNotLight_66 : decode cX5_mayNotLight 66 = .ok (.aload_n 0, 1) := dk_42 (dk_at dksX5_mayNotLight_2 18 rfl rfl)
theorem dX5_mayNotLight_67 : decode cX5_mayNotLight 67 = .ok (.bipush 15, 2) := dk_16 15 (dk_at dksX5_mayNotLight_2 19 rfl rfl)
theorem dX5_mayNotLight_69 : decode cX5_mayNotLight 69 = .ok (.iconst 0, 1) := dk_3 (dk_at dksX5_mayNotLight_2 21 rfl rfl)
theorem dX5_mayNotLight_70 : decode cX5_mayNotLight 70 = .ok (.invokevirtual 129, 3) := dk_182 0 129 (dk_at dksX5_mayNotLight_3 0 rfl rfl)
theorem dX5_mayNotLight_73 : decode cX5_mayNotLight 73 = .ok (.ifCond .eq 7, 3) := dk_153 0 7 (dk_at dksX5_mayNotLight_3 3 rfl rfl)
theorem dX5_mayNotLight_76 : decode cX5_mayNotLight 76 = .ok (.iconst 1, 1) := dk_4 (dk_at dksX5_mayNotLight_3 6 rfl rfl)
theorem dX5_mayNotLight_77 : decode cX5_mayNotLight 77 = .ok (.goto 4, 3) := dk_167 0 4 (dk_at dksX5_mayNotLight_3 7 rfl rfl)
theorem dX5_mayNotLight_80 : decode cX5_mayNotLight 80 = .ok (.iconst 0, 1) := dk_3 (dk_at dksX5_mayNotLight_3 10 rfl rfl)
theorem dX5_mayNotLight_81 : decode cX5_mayNotLight 81 = .ok (.ireturn, 1) := dk_172 (dk_at dksX5_mayNotLight_3 11 rfl rfl)
abbrev cX5_force : ByteArray := prog_25_method_85_code
def yX5_force : MethodName := ⟨RX5, "force", "(I)F"⟩
def dkwX5_force_1 : List UInt8 := [174, 42, 3, 181, 0, 65, 42, 180, 0, 7, 17, 0, 146, 27, 96, 46, 184, 1, 32, 174]
abbrev dktX5_force_1 : List UInt8 := dkwX5_force_1 ++ []
def dkwX5_force_0 : List UInt8 := [27, 3, 42, 180, 0, 7, 17, 0, 145, 46, 4, 100, 184, 0, 97, 154, 0, 10, 42, 4, 182, 0, 80, 134]
abbrev dktX5_force_0 : List UInt8 := dkwX5_force_0 ++ dktX5_force_1
theorem dksX5_force_0 : cX5_force.data.toList.drop 0 = dktX5_force_0 := by decide +kernel
theorem dksX5_force_1 : cX5_force.data.toList.drop 24 = dktX5_force_1 := dk_seg dksX5_force_0 24 rfl rfl
theorem dX5_force_0 : decode cX5_force 0 = .ok (.iload_n 1, 1) := dk_27 (dk_at dksX5_force_0 0 rfl rfl)
theorem dX5_force_1 : decode cX5_force 1 = .ok (.iconst 0, 1) := dk_3 (dk_at dksX5_force_0 1 rfl rfl)
theorem dX5_force_2 : decode cX5_force 2 = .ok (.aload_n 0, 1) := dk_42 (dk_at dksX5_force_0 2 rfl rfl)
theorem dX5_force_3 : decode cX5_force 3 = .ok (.getfield 7, 3) := dk_180 0 7 (dk_at dksX5_force_0 3 rfl rfl)
theorem dX5_force_6 : decode cX5_force 6 = .ok (.sipush 145, 3) := dk_17 0 145 (dk_at dksX5_force_0 6 rfl rfl)
theorem dX5_force_9 : decode cX5_force 9 = .ok (.iaload, 1) := dk_46 (dk_at dksX5_force_0 9 rfl rfl)
theorem dX5_force_10 : decode cX5_force 10 = .ok (.iconst 1, 1) := dk_4 (dk_at dksX5_force_0 10 rfl rfl)
theorem dX5_force_11 : decode cX5_force 11 = .ok (.isub, 1) := dk_100 (dk_at dksX5_force_0 11 rfl rfl)
theorem dX5_force_12 : decode cX5_force 12 = .ok (.invokestatic 97, 3) := dk_184 0 97 (dk_at dksX5_force_0 12 rfl rfl)
theorem dX5_force_15 : decode cX5_force 15 = .ok (.ifCond .ne 10, 3) := dk_154 0 10 (dk_at dksX5_force_0 15 rfl rfl)
theorem dX5_force_18 : decode cX5_force 18 = .ok (.aload_n 0, 1) := dk_42 (dk_at dksX5_force_0 18 rfl rfl)
theorem dX5_force_19 : decode cX5_force 19 = .ok (.iconst 1, 1) := dk_4 (dk_at dksX5_force_0 19 rfl rfl)
theorem dX5_force_20 : decode cX5_force 20 = .ok (.invokevirtual 80, 3) := dk_182 0 80 (dk_at dksX5_force_0 20 rfl rfl)
theorem dX5_force_23 : decode cX5_force 23 = .ok (.i2f, 1) := dk_134 (dk_at dksX5_force_0 23 rfl rfl)
theorem dX5_force_24 : decode cX5_force 24 = .ok (.freturn, 1) := dk_174 (dk_at dksX5_force_1 0 rfl rfl)
theorem dX5_force_25 : decode cX5_force 25 = .ok (.aload_n 0, 1) := dk_42 (dk_at dksX5_force_1 1 rfl rfl)
theorem dX5_force_26 : decode cX5_force 26 = .ok (.iconst 0, 1) := dk_3 (dk_at dksX5_force_1 2 rfl rfl)
theorem dX5_force_27 : decode cX5_force 27 = .ok (.putfield 65, 3) := dk_181 0 65 (dk_at dksX5_force_1 3 rfl rfl)
theorem dX5_force_30 : decode cX5_force 30 = .ok (.aload_n 0, 1) := dk_42 (dk_at dksX5_force_1 6 rfl rfl)
theorem dX5_force_31 : decode cX5_force 31 = .ok (.getfield 7, 3) := dk_180 0 7 (dk_at dksX5_force_1 7 rfl rfl)
theorem dX5_force_34 : decode cX5_force 34 = .ok (.sipush 146, 3) := dk_17 0 146 (dk_at dksX5_force_1 10 rfl rfl)
theorem dX5_force_37 : decode cX5_force 37 = .ok (.iload_n 1, 1) := dk_27 (dk_at dksX5_force_1 13 rfl rfl)
theorem dX5_force_38 : decode cX5_force 38 = .ok (.iadd, 1) := dk_96 (dk_at dksX5_force_1 14 rfl rfl)
theorem dX5_force_39 : decode cX5_force 39 = .ok (.iaload, 1) := dk_46 (dk_at dksX5_force_1 15 rfl rfl)
theorem dX5_force_40 : decode cX5_force 40 = .ok (.invokestatic 288, 3) := dk_184 1 32 (dk_at dksX5_force_1 16 rfl rfl)
theorem dX5_force_43 : decode cX5_force 43 = .ok (.freturn, 1) := dk_174 (dk_at dksX5_force_1 19 rfl rfl)
abbrev cX5_keep : ByteArray := prog_25_method_87_code
def yX5_keep : MethodName := ⟨RX5, "keep", "(I)I"⟩
def dkwX5_keep_3 : List UInt8 := [184, 1, 32, 81, 132, 2, 1, 167, 255, 219, 42, 180, 0, 35, 27, 46, 172]
abbrev dktX5_keep_3 : List UInt8 := dkwX5_keep_3 ++ []
def dkwX5_keep_2 : List UInt8 := [162, 0, 33, 42, 180, 0, 31, 16, 16, 27, 104, 28, 96, 42, 180, 0, 7, 17, 0, 146, 28, 96, 46]
abbrev dktX5_keep_2 : List UInt8 := dkwX5_keep_2 ++ dktX5_keep_3
def dkwX5_keep_1 : List UInt8 := [84, 42, 180, 0, 35, 27, 42, 180, 0, 7, 17, 0, 145, 46, 79, 3, 61, 28, 42, 180, 0, 35, 27, 46]
abbrev dktX5_keep_1 : List UInt8 := dkwX5_keep_1 ++ dktX5_keep_2
def dkwX5_keep_0 : List UInt8 := [27, 184, 1, 36, 154, 0, 9, 42, 4, 182, 0, 80, 172, 42, 3, 181, 0, 65, 42, 180, 0, 38, 27, 4]
abbrev dktX5_keep_0 : List UInt8 := dkwX5_keep_0 ++ dktX5_keep_1
theorem dksX5_keep_0 : cX5_keep.data.toList.drop 0 = dktX5_keep_0 := by decide +kernel
theorem dksX5_keep_1 : cX5_keep.data.toList.drop 24 = dktX5_keep_1 := dk_seg dksX5_keep_0 24 rfl rfl
theorem dksX5_keep_2 : cX5_keep.data.toList.drop 48 = dktX5_keep_2 := dk_seg dksX5_keep_1 24 rfl rfl
theorem dksX5_keep_3 : cX5_keep.data.toList.drop 71 = dktX5_keep_3 := dk_seg dksX5_keep_2 23 rfl rfl
theorem dX5_keep_0 : decode cX5_keep 0 = .ok (.iload_n 1, 1) := dk_27 (dk_at dksX5_keep_0 0 rfl rfl)
theorem dX5_keep_1 : decode cX5_keep 1 = .ok (.invokestatic 292, 3) := dk_184 1 36 (dk_at dksX5_keep_0 1 rfl rfl)
theorem dX5_keep_4 : decode cX5_keep 4 = .ok (.ifCond .ne 9, 3) := dk_154 0 9 (dk_at dksX5_keep_0 4 rfl rfl)
theorem dX5_keep_7 : decode cX5_keep 7 = .ok (.aload_n 0, 1) := dk_42 (dk_at dksX5_keep_0 7 rfl rfl)
theorem dX5_keep_8 : decode cX5_keep 8 = .ok (.iconst 1, 1) := dk_4 (dk_at dksX5_keep_0 8 rfl rfl)
theorem dX5_keep_9 : decode cX5_keep 9 = .ok (.invokevirtual 80, 3) := dk_182 0 80 (dk_at dksX5_keep_0 9 rfl rfl)
theorem dX5_keep_12 : decode cX5_keep 12 = .ok (.ireturn, 1) := dk_172 (dk_at dksX5_keep_0 12 rfl rfl)
theorem dX5_keep_13 : decode cX5_keep 13 = .ok (.aload_n 0, 1) := dk_42 (dk_at dksX5_keep_0 13 rfl rfl)
theorem dX5_keep_14 : decode cX5_keep 14 = .ok (.iconst 0, 1) := dk_3 (dk_at dksX5_keep_0 14 rfl rfl)
theorem dX5_keep_15 : decode cX5_keep 15 = .ok (.putfield 65, 3) := dk_181 0 65 (dk_at dksX5_keep_0 15 rfl rfl)
theorem dX5_keep_18 : decode cX5_keep 18 = .ok (.aload_n 0, 1) := dk_42 (dk_at dksX5_keep_0 18 rfl rfl)
theorem dX5_keep_19 : decode cX5_keep 19 = .ok (.getfield 38, 3) := dk_180 0 38 (dk_at dksX5_keep_0 19 rfl rfl)
theorem dX5_keep_22 : decode cX5_keep 22 = .ok (.iload_n 1, 1) := dk_27 (dk_at dksX5_keep_0 22 rfl rfl)
theorem dX5_keep_23 : decode cX5_keep 23 = .ok (.iconst 1, 1) := dk_4 (dk_at dksX5_keep_0 23 rfl rfl)
theorem dX5_keep_24 : decode cX5_keep 24 = .ok (.bastore, 1) := dk_84 (dk_at dksX5_keep_1 0 rfl rfl)
theorem dX5_keep_25 : decode cX5_keep 25 = .ok (.aload_n 0, 1) := dk_42 (dk_at dksX5_keep_1 1 rfl rfl)
theorem dX5_keep_26 : decode cX5_keep 26 = .ok (.getfield 35, 3) := dk_180 0 35 (dk_at dksX5_keep_1 2 rfl rfl)
theorem dX5_keep_29 : decode cX5_keep 29 = .ok (.iload_n 1, 1) := dk_27 (dk_at dksX5_keep_1 5 rfl rfl)
theorem dX5_keep_30 : decode cX5_keep 30 = .ok (.aload_n 0, 1) := dk_42 (dk_at dksX5_keep_1 6 rfl rfl)
theorem dX5_keep_31 : decode cX5_keep 31 = .ok (.getfield 7, 3) := dk_180 0 7 (dk_at dksX5_keep_1 7 rfl rfl)
theorem dX5_keep_34 : decode cX5_keep 34 = .ok (.sipush 145, 3) := dk_17 0 145 (dk_at dksX5_keep_1 10 rfl rfl)
theorem dX5_keep_37 : decode cX5_keep 37 = .ok (.iaload, 1) := dk_46 (dk_at dksX5_keep_1 13 rfl rfl)
theorem dX5_keep_38 : decode cX5_keep 38 = .ok (.iastore, 1) := dk_79 (dk_at dksX5_keep_1 14 rfl rfl)
theorem dX5_keep_39 : decode cX5_keep 39 = .ok (.iconst 0, 1) := dk_3 (dk_at dksX5_keep_1 15 rfl rfl)
theorem dX5_keep_40 : decode cX5_keep 40 = .ok (.istore_n 2, 1) := dk_61 (dk_at dksX5_keep_1 16 rfl rfl)
theorem dX5_keep_41 : decode cX5_keep 41 = .ok (.iload_n 2, 1) := dk_28 (dk_at dksX5_keep_1 17 rfl rfl)
theorem dX5_keep_42 : decode cX5_keep 42 = .ok (.aload_n 0, 1) := dk_42 (dk_at dksX5_keep_1 18 rfl rfl)
theorem dX5_keep_43 : decode cX5_keep 43 = .ok (.getfield 35, 3) := dk_180 0 35 (dk_at dksX5_keep_1 19 rfl rfl)
theorem dX5_keep_46 : decode cX5_keep 46 = .ok (.iload_n 1, 1) := dk_27 (dk_at dksX5_keep_1 22 rfl rfl)
theorem dX5_keep_47 : decode cX5_keep 47 = .ok (.iaload, 1) := dk_46 (dk_at dksX5_keep_1 23 rfl rfl)
theorem dX5_keep_48 : decode cX5_keep 48 = .ok (.if_icmp .ge 33, 3) := dk_162 0 33 (dk_at dksX5_keep_2 0 rfl rfl)
theorem dX5_keep_51 : decode cX5_keep 51 = .ok (.aload_n 0, 1) := dk_42 (dk_at dksX5_keep_2 3 rfl rfl)
theorem dX5_keep_52 : decode cX5_keep 52 = .ok (.getfield 31, 3) := dk_180 0 31 (dk_at dksX5_keep_2 4 rfl rfl)
theorem dX5_keep_55 : decode cX5_keep 55 = .ok (.bipush 16, 2) := dk_16 16 (dk_at dksX5_keep_2 7 rfl rfl)
theorem dX5_keep_57 : decode cX5_keep 57 = .ok (.iload_n 1, 1) := dk_27 (dk_at dksX5_keep_2 9 rfl rfl)
theorem dX5_keep_58 : decode cX5_keep 58 = .ok (.imul, 1) := dk_104 (dk_at dksX5_keep_2 10 rfl rfl)
theorem dX5_keep_59 : decode cX5_keep 59 = .ok (.iload_n 2, 1) := dk_28 (dk_at dksX5_keep_2 11 rfl rfl)
theorem dX5_keep_60 : decode cX5_keep 60 = .ok (.iadd, 1) := dk_96 (dk_at dksX5_keep_2 12 rfl rfl)
theorem dX5_keep_61 : decode cX5_keep 61 = .ok (.aload_n 0, 1) := dk_42 (dk_at dksX5_keep_2 13 rfl rfl)
theorem dX5_keep_62 : decode cX5_keep 62 = .ok (.getfield 7, 3) := dk_180 0 7 (dk_at dksX5_keep_2 14 rfl rfl)
theorem dX5_keep_65 : decode cX5_keep 65 = .ok (.sipush 146, 3) := dk_17 0 146 (dk_at dksX5_keep_2 17 rfl rfl)
theorem dX5_keep_68 : decode cX5_keep 68 = .ok (.iload_n 2, 1) := dk_28 (dk_at dksX5_keep_2 20 rfl rfl)
theorem dX5_keep_69 : decode cX5_keep 69 = .ok (.iadd, 1) := dk_96 (dk_at dksX5_keep_2 21 rfl rfl)
theorem dX5_keep_70 : decode cX5_keep 70 = .ok (.iaload, 1) := dk_46 (dk_at dksX5_keep_2 22 rfl rfl)
theorem dX5_keep_71 : decode cX5_keep 71 = .ok (.invokestatic 288, 3) := dk_184 1 32 (dk_at dksX5_keep_3 0 rfl rfl)
theorem dX5_keep_74 : decode cX5_keep 74 = .ok (.fastore, 1) := dk_81 (dk_at dksX5_keep_3 3 rfl rfl)
theorem dX5_keep_75 : decode cX5_keep 75 = .ok (.iinc 2 1, 3) := dk_132 2 1 (dk_at dksX5_keep_3 4 rfl rfl)
theorem dX5_keep_78 : decode cX5_keep 78 = .ok (.goto (-37), 3) := dk_167 255 219 (dk_at dksX5_keep_3 7 rfl rfl)
theorem dX5_keep_81 : decode cX5_keep 81 = .ok (.aload_n 0, 1) := dk_42 (dk_at dksX5_keep_3 10 rfl rfl)
theorem dX5_keep_82 : decode cX5_keep 82 = .ok (.getfield 35, 3) := dk_180 0 35 (dk_at dksX5_keep_3 11 rfl rfl)
theorem dX5_keep_85 : decode cX5_keep 85 = .ok (.iload_n 1, 1) := dk_27 (dk_at dksX5_keep_3 14 rfl rfl)
theorem dX5_keep_86 : decode cX5_keep 86 = .ok (.iaload, 1) := dk_46 (dk_at dksX5_keep_3 15 rfl rfl)
theorem dX5_keep_87 : decode cX5_keep 87 = .ok (.ireturn, 1) := dk_172 (dk_at dksX5_keep_3 16 rfl rfl)
abbrev cX5_isRow : ByteArray := prog_25_method_86_code
def yX5_isRow : MethodName := ⟨RX5, "isRow", "(I)Z"⟩
def dkwX5_isRow_0 : List UInt8 := [26, 3, 5, 184, 0, 97, 172]
abbrev dktX5_isRow_0 : List UInt8 := dkwX5_isRow_0 ++ []
theorem dksX5_isRow_0 : cX5_isRow.data.toList.drop 0 = dktX5_isRow_0 := by decide +kernel
theorem dX5_isRow_0 : decode cX5_isRow 0 = .ok (.iload_n 0, 1) := dk_26 (dk_at dksX5_isRow_0 0 rfl rfl)
theorem dX5_isRow_1 : decode cX5_isRow 1 = .ok (.iconst 0, 1) := dk_3 (dk_at dksX5_isRow_0 1 rfl rfl)
theorem dX5_isRow_2 : decode cX5_isRow 2 = .ok (.iconst 2, 1) := dk_5 (dk_at dksX5_isRow_0 2 rfl rfl)
theorem dX5_isRow_3 : decode cX5_isRow 3 = .ok (.invokestatic 97, 3) := dk_184 0 97 (dk_at dksX5_isRow_0 3 rfl rfl)
theorem dX5_isRow_6 : decode cX5_isRow 6 = .ok (.ireturn, 1) := dk_172 (dk_at dksX5_isRow_0 6 rfl rfl)
abbrev cX5_scale : ByteArray := prog_25_method_88_code
def yX5_scale : MethodName := ⟨RX5, "scale", "(III)I"⟩
def dkwX5_scale_6 : List UInt8 := [42, 180, 0, 35, 28, 42, 180, 0, 35, 27, 46, 79, 21, 4, 172]
abbrev dktX5_scale_6 : List UInt8 := dkwX5_scale_6 ++ []
def dkwX5_scale_5 : List UInt8 := [158, 0, 7, 4, 167, 0, 4, 3, 96, 54, 4, 132, 5, 1, 167, 255, 190, 42, 180, 0, 38, 28, 4, 84]
abbrev dktX5_scale_5 : List UInt8 := dkwX5_scale_5 ++ dktX5_scale_6
def dkwX5_scale_4 : List UInt8 := [56, 6, 42, 180, 0, 31, 16, 16, 28, 104, 21, 5, 96, 23, 6, 81, 21, 4, 23, 6, 12, 149]
abbrev dktX5_scale_4 : List UInt8 := dkwX5_scale_4 ++ dktX5_scale_5
def dkwX5_scale_3 : List UInt8 := [46, 162, 0, 61, 42, 180, 0, 31, 16, 16, 27, 104, 21, 5, 96, 48, 29, 134, 106, 19, 1, 39, 110]
abbrev dktX5_scale_3 : List UInt8 := dkwX5_scale_3 ++ dktX5_scale_4
def dkwX5_scale_2 : List UInt8 := [42, 6, 182, 0, 80, 172, 42, 3, 181, 0, 65, 3, 54, 4, 3, 54, 5, 21, 5, 42, 180, 0, 35, 27]
abbrev dktX5_scale_2 : List UInt8 := dkwX5_scale_2 ++ dktX5_scale_3
def dkwX5_scale_1 : List UInt8 := [17, 3, 231, 184, 0, 97, 154, 0, 9, 42, 5, 182, 0, 80, 172, 42, 180, 0, 38, 27, 51, 154, 0, 9]
abbrev dktX5_scale_1 : List UInt8 := dkwX5_scale_1 ++ dktX5_scale_2
def dkwX5_scale_0 : List UInt8 := [27, 184, 1, 36, 153, 0, 10, 28, 184, 1, 36, 154, 0, 9, 42, 4, 182, 0, 80, 172, 29, 3]
abbrev dktX5_scale_0 : List UInt8 := dkwX5_scale_0 ++ dktX5_scale_1
theorem dksX5_scale_0 : cX5_scale.data.toList.drop 0 = dktX5_scale_0 := by decide +kernel
theorem dksX5_scale_1 : cX5_scale.data.toList.drop 22 = dktX5_scale_1 := dk_seg dksX5_scale_0 22 rfl rfl
theorem dksX5_scale_2 : cX5_scale.data.toList.drop 46 = dktX5_scale_2 := dk_seg dksX5_scale_1 24 rfl rfl
theorem dksX5_scale_3 : cX5_scale.data.toList.drop 70 = dktX5_scale_3 := dk_seg dksX5_scale_2 24 rfl rfl
theorem dksX5_scale_4 : cX5_scale.data.toList.drop 93 = dktX5_scale_4 := dk_seg dksX5_scale_3 23 rfl rfl
theorem dksX5_scale_5 : cX5_scale.data.toList.drop 115 = dktX5_scale_5 := dk_seg dksX5_scale_4 22 rfl rfl
theorem dksX5_scale_6 : cX5_scale.data.toList.drop 139 = dktX5_scale_6 := dk_seg dksX5_scale_5 24 rfl rfl
theorem dX5_scale_0 : decode cX5_scale 0 = .ok (.iload_n 1, 1) := dk_27 (dk_at dksX5_scale_0 0 rfl rfl)
theorem dX5_scale_1 : decode cX5_scale 1 = .ok (.invokestatic 292, 3) := dk_184 1 36 (dk_at dksX5_scale_0 1 rfl rfl)
theorem dX5_scale_4 : decode cX5_scale 4 = .ok (.ifCond .eq 10, 3) := dk_153 0 10 (dk_at dksX5_scale_0 4 rfl rfl)
theorem dX5_scale_7 : decode cX5_scale 7 = .ok (.iload_n 2, 1) := dk_28 (dk_at dksX5_scale_0 7 rfl rfl)
theorem dX5_scale_8 : decode cX5_scale 8 = .ok (.invokestatic 292, 3) := dk_184 1 36 (dk_at dksX5_scale_0 8 rfl rfl)
theorem dX5_scale_11 : decode cX5_scale 11 = .ok (.ifCond .ne 9, 3) := dk_154 0 9 (dk_at dksX5_scale_0 11 rfl rfl)
theorem dX5_scale_14 : decode cX5_scale 14 = .ok (.aload_n 0, 1) := dk_42 (dk_at dksX5_scale_0 14 rfl rfl)
theorem dX5_scale_15 : decode cX5_scale 15 = .ok (.iconst 1, 1) := dk_4 (dk_at dksX5_scale_0 15 rfl rfl)
theorem dX5_scale_16 : decode cX5_scale 16 = .ok (.invokevirtual 80, 3) := dk_182 0 80 (dk_at dksX5_scale_0 16 rfl rfl)
theorem dX5_scale_19 : decode cX5_scale 19 = .ok (.ireturn, 1) := dk_172 (dk_at dksX5_scale_0 19 rfl rfl)
theorem dX5_scale_20 : decode cX5_scale 20 = .ok (.iload_n 3, 1) := dk_29 (dk_at dksX5_scale_0 20 rfl rfl)
theorem dX5_scale_21 : decode cX5_scale 21 = .ok (.iconst 0, 1) := dk_3 (dk_at dksX5_scale_0 21 rfl rfl)
theorem dX5_scale_22 : decode cX5_scale 22 = .ok (.sipush 999, 3) := dk_17 3 231 (dk_at dksX5_scale_1 0 rfl rfl)
theorem dX5_scale_25 : decode cX5_scale 25 = .ok (.invokestatic 97, 3) := dk_184 0 97 (dk_at dksX5_scale_1 3 rfl rfl)
theorem dX5_scale_28 : decode cX5_scale 28 = .ok (.ifCond .ne 9, 3) := dk_154 0 9 (dk_at dksX5_scale_1 6 rfl rfl)
theorem dX5_scale_31 : decode cX5_scale 31 = .ok (.aload_n 0, 1) := dk_42 (dk_at dksX5_scale_1 9 rfl rfl)
theorem dX5_scale_32 : decode cX5_scale 32 = .ok (.iconst 2, 1) := dk_5 (dk_at dksX5_scale_1 10 rfl rfl)
theorem dX5_scale_33 : decode cX5_scale 33 = .ok (.invokevirtual 80, 3) := dk_182 0 80 (dk_at dksX5_scale_1 11 rfl rfl)
theorem dX5_scale_36 : decode cX5_scale 36 = .ok (.ireturn, 1) := dk_172 (dk_at dksX5_scale_1 14 rfl rfl)
theorem dX5_scale_37 : decode cX5_scale 37 = .ok (.aload_n 0, 1) := dk_42 (dk_at dksX5_scale_1 15 rfl rfl)
theorem dX5_scale_38 : decode cX5_scale 38 = .ok (.getfield 38, 3) := dk_180 0 38 (dk_at dksX5_scale_1 16 rfl rfl)
theorem dX5_scale_41 : decode cX5_scale 41 = .ok (.iload_n 1, 1) := dk_27 (dk_at dksX5_scale_1 19 rfl rfl)
theorem dX5_scale_42 : decode cX5_scale 42 = .ok (.baload, 1) := dk_51 (dk_at dksX5_scale_1 20 rfl rfl)
theorem dX5_scale_43 : decode cX5_scale 43 = .ok (.ifCond .ne 9, 3) := dk_154 0 9 (dk_at dksX5_scale_1 21 rfl rfl)
theorem dX5_scale_46 : decode cX5_scale 46 = .ok (.aload_n 0, 1) := dk_42 (dk_at dksX5_scale_2 0 rfl rfl)
theorem dX5_scale_47 : decode cX5_scale 47 = .ok (.iconst 3, 1) := dk_6 (dk_at dksX5_scale_2 1 rfl rfl)
theorem dX5_scale_48 : decode cX5_scale 48 = .ok (.invokevirtual 80, 3) := dk_182 0 80 (dk_at dksX5_scale_2 2 rfl rfl)
theorem dX5_scale_51 : decode cX5_scale 51 = .ok (.ireturn, 1) := dk_172 (dk_at dksX5_scale_2 5 rfl rfl)
theorem dX5_scale_52 : decode cX5_scale 52 = .ok (.aload_n 0, 1) := dk_42 (dk_at dksX5_scale_2 6 rfl rfl)
theorem dX5_scale_53 : decode cX5_scale 53 = .ok (.iconst 0, 1) := dk_3 (dk_at dksX5_scale_2 7 rfl rfl)
theorem dX5_scale_54 : decode cX5_scale 54 = .ok (.putfield 65, 3) := dk_181 0 65 (dk_at dksX5_scale_2 8 rfl rfl)
theorem dX5_scale_57 : decode cX5_scale 57 = .ok (.iconst 0, 1) := dk_3 (dk_at dksX5_scale_2 11 rfl rfl)
theorem dX5_scale_58 : decode cX5_scale 58 = .ok (.istore 4, 2) := dk_54 4 (dk_at dksX5_scale_2 12 rfl rfl)
theorem dX5_scale_60 : decode cX5_scale 60 = .ok (.iconst 0, 1) := dk_3 (dk_at dksX5_scale_2 14 rfl rfl)
theorem dX5_scale_61 : decode cX5_scale 61 = .ok (.istore 5, 2) := dk_54 5 (dk_at dksX5_scale_2 15 rfl rfl)
theorem dX5_scale_63 : decode cX5_scale 63 = .ok (.iload 5, 2) := dk_21 5 (dk_at dksX5_scale_2 17 rfl rfl)
theorem dX5_scale_65 : decode cX5_scale 65 = .ok (.aload_n 0, 1) := dk_42 (dk_at dksX5_scale_2 19 rfl rfl)
theorem dX5_scale_66 : decode cX5_scale 66 = .ok (.getfield 35, 3) := dk_180 0 35 (dk_at dksX5_scale_2 20 rfl rfl)
theorem dX5_scale_69 : decode cX5_scale 69 = .ok (.iload_n 1, 1) := dk_27 (dk_at dksX5_scale_2 23 rfl rfl)
theorem dX5_scale_70 : decode cX5_scale 70 = .ok (.iaload, 1) := dk_46 (dk_at dksX5_scale_3 0 rfl rfl)
theorem dX5_scale_71 : decode cX5_scale 71 = .ok (.if_icmp .ge 61, 3) := dk_162 0 61 (dk_at dksX5_scale_3 1 rfl rfl)
theorem dX5_scale_74 : decode cX5_scale 74 = .ok (.aload_n 0, 1) := dk_42 (dk_at dksX5_scale_3 4 rfl rfl)
theorem dX5_scale_75 : decode cX5_scale 75 = .ok (.getfield 31, 3) := dk_180 0 31 (dk_at dksX5_scale_3 5 rfl rfl)
theorem dX5_scale_78 : decode cX5_scale 78 = .ok (.bipush 16, 2) := dk_16 16 (dk_at dksX5_scale_3 8 rfl rfl)
theorem dX5_scale_80 : decode cX5_scale 80 = .ok (.iload_n 1, 1) := dk_27 (dk_at dksX5_scale_3 10 rfl rfl)
theorem dX5_scale_81 : decode cX5_scale 81 = .ok (.imul, 1) := dk_104 (dk_at dksX5_scale_3 11 rfl rfl)
theorem dX5_scale_82 : decode cX5_scale 82 = .ok (.iload 5, 2) := dk_21 5 (dk_at dksX5_scale_3 12 rfl rfl)
theorem dX5_scale_84 : decode cX5_scale 84 = .ok (.iadd, 1) := dk_96 (dk_at dksX5_scale_3 14 rfl rfl)
theorem dX5_scale_85 : decode cX5_scale 85 = .ok (.faload, 1) := dk_48 (dk_at dksX5_scale_3 15 rfl rfl)
theorem dX5_scale_86 : decode cX5_scale 86 = .ok (.iload_n 3, 1) := dk_29 (dk_at dksX5_scale_3 16 rfl rfl)
theorem dX5_scale_87 : decode cX5_scale 87 = .ok (.i2f, 1) := dk_134 (dk_at dksX5_scale_3 17 rfl rfl)
theorem dX5_scale_88 : decode cX5_scale 88 = .ok (.fmul, 1) := dk_106 (dk_at dksX5_scale_3 18 rfl rfl)
theorem dX5_scale_89 : decode cX5_scale 89 = .ok (.ldc_w 295, 3) := dk_19 1 39 (dk_at dksX5_scale_3 19 rfl rfl)
theorem dX5_scale_92 : decode cX5_scale 92 = .ok (.fdiv, 1) := dk_110 (dk_at dksX5_scale_3 22 rfl rfl)
theorem dX5_scale_93 : decode cX5_scale 93 = .ok (.fstore 6, 2) := dk_56 6 (dk_at dksX5_scale_4 0 rfl rfl)
theorem dX5_scale_95 : decode cX5_scale 95 = .ok (.aload_n 0, 1) := dk_42 (dk_at dksX5_scale_4 2 rfl rfl)
theorem dX5_scale_96 : decode cX5_scale 96 = .ok (.getfield 31, 3) := dk_180 0 31 (dk_at dksX5_scale_4 3 rfl rfl)
theorem dX5_scale_99 : decode cX5_scale 99 = .ok (.bipush 16, 2) := dk_16 16 (dk_at dksX5_scale_4 6 rfl rfl)
theorem dX5_scale_101 : decode cX5_scale 101 = .ok (.iload_n 2, 1) := dk_28 (dk_at dksX5_scale_4 8 rfl rfl)
theorem dX5_scale_102 : decode cX5_scale 102 = .ok (.imul, 1) := dk_104 (dk_at dksX5_scale_4 9 rfl rfl)
theorem dX5_scale_103 : decode cX5_scale 103 = .ok (.iload 5, 2) := dk_21 5 (dk_at dksX5_scale_4 10 rfl rfl)
theorem dX5_scale_105 : decode cX5_scale 105 = .ok (.iadd, 1) := dk_96 (dk_at dksX5_scale_4 12 rfl rfl)
theorem dX5_scale_106 : decode cX5_scale 106 = .ok (.fload 6, 2) := dk_23 6 (dk_at dksX5_scale_4 13 rfl rfl)
theorem dX5_scale_108 : decode cX5_scale 108 = .ok (.fastore, 1) := dk_81 (dk_at dksX5_scale_4 15 rfl rfl)
theorem dX5_scale_109 : decode cX5_scale 109 = .ok (.iload 4, 2) := dk_21 4 (dk_at dksX5_scale_4 16 rfl rfl)
theorem dX5_scale_111 : decode cX5_scale 111 = .ok (.fload 6, 2) := dk_23 6 (dk_at dksX5_scale_4 18 rfl rfl)
theorem dX5_scale_113 : decode cX5_scale 113 = .ok (.fconst 1, 1) := dk_12 (dk_at dksX5_scale_4 20 rfl rfl)
theorem dX5_scale_114 : decode cX5_scale 114 = .ok (.fcmp .l, 1) := dk_149 (dk_at dksX5_scale_4 21 rfl rfl)
theorem dX5_scale_115 : decode cX5_scale 115 = .ok (.ifCond .le 7, 3) := dk_158 0 7 (dk_at dksX5_scale_5 0 rfl rfl)
theorem dX5_scale_118 : decode cX5_scale 118 = .ok (.iconst 1, 1) := dk_4 (dk_at dksX5_scale_5 3 rfl rfl)
theorem dX5_scale_119 : decode cX5_scale 119 = .ok (.goto 4, 3) := dk_167 0 4 (dk_at dksX5_scale_5 4 rfl rfl)
theorem dX5_scale_122 : decode cX5_scale 122 = .ok (.iconst 0, 1) := dk_3 (dk_at dksX5_scale_5 7 rfl rfl)
theorem dX5_scale_123 : decode cX5_scale 123 = .ok (.iadd, 1) := dk_96 (dk_at dksX5_scale_5 8 rfl rfl)
theorem dX5_scale_124 : decode cX5_scale 124 = .ok (.istore 4, 2) := dk_54 4 (dk_at dksX5_scale_5 9 rfl rfl)
theorem dX5_scale_126 : decode cX5_scale 126 = .ok (.iinc 5 1, 3) := dk_132 5 1 (dk_at dksX5_scale_5 11 rfl rfl)
theorem dX5_scale_129 : decode cX5_scale 129 = .ok (.goto (-66), 3) := dk_167 255 190 (dk_at dksX5_scale_5 14 rfl rfl)
theorem dX5_scale_132 : decode cX5_scale 132 = .ok (.aload_n 0, 1) := dk_42 (dk_at dksX5_scale_5 17 rfl rfl)
theorem dX5_scale_133 : decode cX5_scale 133 = .ok (.getfield 38, 3) := dk_180 0 38 (dk_at dksX5_scale_5 18 rfl rfl)
theorem dX5_scale_136 : decode cX5_scale 136 = .ok (.iload_n 2, 1) := dk_28 (dk_at dksX5_scale_5 21 rfl rfl)
theorem dX5_scale_137 : decode cX5_scale 137 = .ok (.iconst 1, 1) := dk_4 (dk_at dksX5_scale_5 22 rfl rfl)
theorem dX5_scale_138 : decode cX5_scale 138 = .ok (.bastore, 1) := dk_84 (dk_at dksX5_scale_5 23 rfl rfl)
theorem dX5_scale_139 : decode cX5_scale 139 = .ok (.aload_n 0, 1) := dk_42 (dk_at dksX5_scale_6 0 rfl rfl)
theorem dX5_scale_140 : decode cX5_scale 140 = .ok (.getfield 35, 3) := dk_180 0 35 (dk_at dksX5_scale_6 1 rfl rfl)
theorem dX5_scale_143 : decode cX5_scale 143 = .ok (.iload_n 2, 1) := dk_28 (dk_at dksX5_scale_6 4 rfl rfl)
theorem dX5_scale_144 : decode cX5_scale 144 = .ok (.aload_n 0, 1) := dk_42 (dk_at dksX5_scale_6 5 rfl rfl)
theorem dX5_scale_145 : decode cX5_scale 145 = .ok (.getfield 35, 3) := dk_180 0 35 (dk_at dksX5_scale_6 6 rfl rfl)
theorem dX5_scale_148 : decode cX5_scale 148 = .ok (.iload_n 1, 1) := dk_27 (dk_at dksX5_scale_6 9 rfl rfl)
theorem dX5_scale_149 : decode cX5_scale 149 = .ok (.iaload, 1) := dk_46 (dk_at dksX5_scale_6 10 rfl rfl)
theorem dX5_scale_150 : decode cX5_scale 150 = .ok (.iastore, 1) := dk_79 (dk_at dksX5_scale_6 11 rfl rfl)
theorem dX5_scale_151 : decode cX5_scale 151 = .ok (.iload 4, 2) := dk_21 4 (dk_at dksX5_scale_6 12 rfl rfl)
theorem dX5_scale_153 : decode cX5_scale 153 = .ok (.ireturn, 1) := dk_172 (dk_at dksX5_scale_6 14 rfl rfl)
abbrev cX5_element : ByteArray := prog_25_method_89_code
def yX5_element : MethodName := ⟨RX5, "element", "(II)I"⟩
def dkwX5_element_2 : List UInt8 := [182, 0, 80, 172, 42, 3, 181, 0, 65, 42, 180, 0, 31, 16, 16, 27, 104, 28, 96, 48, 184, 0, 238, 172]
abbrev dktX5_element_2 : List UInt8 := dkwX5_element_2 ++ []
def dkwX5_element_1 : List UInt8 := [182, 0, 80, 172, 28, 3, 42, 180, 0, 35, 27, 46, 4, 100, 184, 0, 97, 154, 0, 9, 42, 6]
abbrev dktX5_element_1 : List UInt8 := dkwX5_element_1 ++ dktX5_element_2
def dkwX5_element_0 : List UInt8 := [27, 184, 1, 36, 154, 0, 9, 42, 4, 182, 0, 80, 172, 42, 180, 0, 38, 27, 51, 154, 0, 9, 42, 5]
abbrev dktX5_element_0 : List UInt8 := dkwX5_element_0 ++ dktX5_element_1
theorem dksX5_element_0 : cX5_element.data.toList.drop 0 = dktX5_element_0 := by decide +kernel
theorem dksX5_element_1 : cX5_element.data.toList.drop 24 = dktX5_element_1 := dk_seg dksX5_element_0 24 rfl rfl
theorem dksX5_element_2 : cX5_element.data.toList.drop 46 = dktX5_element_2 := dk_seg dksX5_element_1 22 rfl rfl
theorem dX5_element_0 : decode cX5_element 0 = .ok (.iload_n 1, 1) := dk_27 (dk_at dksX5_element_0 0 rfl rfl)
theorem dX5_element_1 : decode cX5_element 1 = .ok (.invokestatic 292, 3) := dk_184 1 36 (dk_at dksX5_element_0 1 rfl rfl)
theorem dX5_element_4 : decode cX5_element 4 = .ok (.ifCond .ne 9, 3) := dk_154 0 9 (dk_at dksX5_element_0 4 rfl rfl)
theorem dX5_element_7 : decode cX5_element 7 = .ok (.aload_n 0, 1) := dk_42 (dk_at dksX5_element_0 7 rfl rfl)
theorem dX5_element_8 : decode cX5_element 8 = .ok (.iconst 1, 1) := dk_4 (dk_at dksX5_element_0 8 rfl rfl)
theorem dX5_element_9 : decode cX5_element 9 = .ok (.invokevirtual 80, 3) := dk_182 0 80 (dk_at dksX5_element_0 9 rfl rfl)
theorem dX5_element_12 : decode cX5_element 12 = .ok (.ireturn, 1) := dk_172 (dk_at dksX5_element_0 12 rfl rfl)
theorem dX5_element_13 : decode cX5_element 13 = .ok (.aload_n 0, 1) := dk_42 (dk_at dksX5_element_0 13 rfl rfl)
theorem dX5_element_14 : decode cX5_element 14 = .ok (.getfield 38, 3) := dk_180 0 38 (dk_at dksX5_element_0 14 rfl rfl)
theorem dX5_element_17 : decode cX5_element 17 = .ok (.iload_n 1, 1) := dk_27 (dk_at dksX5_element_0 17 rfl rfl)
theorem dX5_element_18 : decode cX5_element 18 = .ok (.baload, 1) := dk_51 (dk_at dksX5_element_0 18 rfl rfl)
theorem dX5_element_19 : decode cX5_element 19 = .ok (.ifCond .ne 9, 3) := dk_154 0 9 (dk_at dksX5_element_0 19 rfl rfl)
theorem dX5_element_22 : decode cX5_element 22 = .ok (.aload_n 0, 1) := dk_42 (dk_at dksX5_element_0 22 rfl rfl)
theorem dX5_element_23 : decode cX5_element 23 = .ok (.iconst 2, 1) := dk_5 (dk_at dksX5_element_0 23 rfl rfl)
theorem dX5_element_24 : decode cX5_element 24 = .ok (.invokevirtual 80, 3) := dk_182 0 80 (dk_at dksX5_element_1 0 rfl rfl)
theorem dX5_element_27 : decode cX5_element 27 = .ok (.ireturn, 1) := dk_172 (dk_at dksX5_element_1 3 rfl rfl)
theorem dX5_element_28 : decode cX5_element 28 = .ok (.iload_n 2, 1) := dk_28 (dk_at dksX5_element_1 4 rfl rfl)
theorem dX5_element_29 : decode cX5_element 29 = .ok (.iconst 0, 1) := dk_3 (dk_at dksX5_element_1 5 rfl rfl)
theorem dX5_element_30 : decode cX5_element 30 = .ok (.aload_n 0, 1) := dk_42 (dk_at dksX5_element_1 6 rfl rfl)
theorem dX5_element_31 : decode cX5_element 31 = .ok (.getfield 35, 3) := dk_180 0 35 (dk_at dksX5_element_1 7 rfl rfl)
theorem dX5_element_34 : decode cX5_element 34 = .ok (.iload_n 1, 1) := dk_27 (dk_at dksX5_element_1 10 rfl rfl)
theorem dX5_element_35 : decode cX5_element 35 = .ok (.iaload, 1) := dk_46 (dk_at dksX5_element_1 11 rfl rfl)
theorem dX5_element_36 : decode cX5_element 36 = .ok (.iconst 1, 1) := dk_4 (dk_at dksX5_element_1 12 rfl rfl)
theorem dX5_element_37 : decode cX5_element 37 = .ok (.isub, 1) := dk_100 (dk_at dksX5_element_1 13 rfl rfl)
theorem dX5_element_38 : decode cX5_element 38 = .ok (.invokestatic 97, 3) := dk_184 0 97 (dk_at dksX5_element_1 14 rfl rfl)
theorem dX5_element_41 : decode cX5_element 41 = .ok (.ifCond .ne 9, 3) := dk_154 0 9 (dk_at dksX5_element_1 17 rfl rfl)
theorem dX5_element_44 : decode cX5_element 44 = .ok (.aload_n 0, 1) := dk_42 (dk_at dksX5_element_1 20 rfl rfl)
theorem dX5_element_45 : decode cX5_element 45 = .ok (.iconst 3, 1) := dk_6 (dk_at dksX5_element_1 21 rfl rfl)
theorem dX5_element_46 : decode cX5_element 46 = .ok (.invokevirtual 80, 3) := dk_182 0 80 (dk_at dksX5_element_2 0 rfl rfl)
theorem dX5_element_49 : decode cX5_element 49 = .ok (.ireturn, 1) := dk_172 (dk_at dksX5_element_2 3 rfl rfl)
theorem dX5_element_50 : decode cX5_element 50 = .ok (.aload_n 0, 1) := dk_42 (dk_at dksX5_element_2 4 rfl rfl)
theorem dX5_element_51 : decode cX5_element 51 = .ok (.iconst 0, 1) := dk_3 (dk_at dksX5_element_2 5 rfl rfl)
theorem dX5_element_52 : decode cX5_element 52 = .ok (.putfield 65, 3) := dk_181 0 65 (dk_at dksX5_element_2 6 rfl rfl)
theorem dX5_element_55 : decode cX5_element 55 = .ok (.aload_n 0, 1) := dk_42 (dk_at dksX5_element_2 9 rfl rfl)
theorem dX5_element_56 : decode cX5_element 56 = .ok (.getfield 31, 3) := dk_180 0 31 (dk_at dksX5_element_2 10 rfl rfl)
theorem dX5_element_59 : decode cX5_element 59 = .ok (.bipush 16, 2) := dk_16 16 (dk_at dksX5_element_2 13 rfl rfl)
theorem dX5_element_61 : decode cX5_element 61 = .ok (.iload_n 1, 1) := dk_27 (dk_at dksX5_element_2 15 rfl rfl)
theorem dX5_element_62 : decode cX5_element 62 = .ok (.imul, 1) := dk_104 (dk_at dksX5_element_2 16 rfl rfl)
theorem dX5_element_63 : decode cX5_element 63 = .ok (.iload_n 2, 1) := dk_28 (dk_at dksX5_element_2 17 rfl rfl)
theorem dX5_element_64 : decode cX5_element 64 = .ok (.iadd, 1) := dk_96 (dk_at dksX5_element_2 18 rfl rfl)
theorem dX5_element_65 : decode cX5_element 65 = .ok (.faload, 1) := dk_48 (dk_at dksX5_element_2 19 rfl rfl)
theorem dX5_element_66 : decode cX5_element 66 = .ok (.invokestatic 238, 3) := dk_184 0 238 (dk_at dksX5_element_2 20 rfl rfl)
theorem dX5_element_69 : decode cX5_element 69 = .ok (.ireturn, 1) := dk_172 (dk_at dksX5_element_2 23 rfl rfl)
abbrev cX5_rack : ByteArray := prog_25_method_91_code
def yX5_rack : MethodName := ⟨RX5, "rack", "(I)I"⟩
def dkwX5_rack_2 : List UInt8 := [167, 255, 240, 28, 172]
abbrev dktX5_rack_2 : List UInt8 := dkwX5_rack_2 ++ []
def dkwX5_rack_1 : List UInt8 := [61, 42, 27, 181, 0, 45, 3, 62, 29, 16, 6, 162, 0, 16, 42, 180, 0, 42, 29, 2, 79, 132, 3, 1]
abbrev dktX5_rack_1 : List UInt8 := dkwX5_rack_1 ++ dktX5_rack_2
def dkwX5_rack_0 : List UInt8 := [27, 3, 7, 184, 0, 97, 154, 0, 9, 42, 4, 182, 0, 80, 172, 42, 3, 181, 0, 65, 42, 182, 1, 40]
abbrev dktX5_rack_0 : List UInt8 := dkwX5_rack_0 ++ dktX5_rack_1
theorem dksX5_rack_0 : cX5_rack.data.toList.drop 0 = dktX5_rack_0 := by decide +kernel
theorem dksX5_rack_1 : cX5_rack.data.toList.drop 24 = dktX5_rack_1 := dk_seg dksX5_rack_0 24 rfl rfl
theorem dksX5_rack_2 : cX5_rack.data.toList.drop 48 = dktX5_rack_2 := dk_seg dksX5_rack_1 24 rfl rfl
theorem dX5_rack_0 : decode cX5_rack 0 = .ok (.iload_n 1, 1) := dk_27 (dk_at dksX5_rack_0 0 rfl rfl)
theorem dX5_rack_1 : decode cX5_rack 1 = .ok (.iconst 0, 1) := dk_3 (dk_at dksX5_rack_0 1 rfl rfl)
theorem dX5_rack_2 : decode cX5_rack 2 = .ok (.iconst 4, 1) := dk_7 (dk_at dksX5_rack_0 2 rfl rfl)
theorem dX5_rack_3 : decode cX5_rack 3 = .ok (.invokestatic 97, 3) := dk_184 0 97 (dk_at dksX5_rack_0 3 rfl rfl)
theorem dX5_rack_6 : decode cX5_rack 6 = .ok (.ifCond .ne 9, 3) := dk_154 0 9 (dk_at dksX5_rack_0 6 rfl rfl)
theorem dX5_rack_9 : decode cX5_rack 9 = .ok (.aload_n 0, 1) := dk_42 (dk_at dksX5_rack_0 9 rfl rfl)
theorem dX5_rack_10 : decode cX5_rack 10 = .ok (.iconst 1, 1) := dk_4 (dk_at dksX5_rack_0 10 rfl rfl)
theorem dX5_rack_11 : decode cX5_rack 11 = .ok (.invokevirtual 80, 3) := dk_182 0 80 (dk_at dksX5_rack_0 11 rfl rfl)
theorem dX5_rack_14 : decode cX5_rack 14 = .ok (.ireturn, 1) := dk_172 (dk_at dksX5_rack_0 14 rfl rfl)
theorem dX5_rack_15 : decode cX5_rack 15 = .ok (.aload_n 0, 1) := dk_42 (dk_at dksX5_rack_0 15 rfl rfl)
theorem dX5_rack_16 : decode cX5_rack 16 = .ok (.iconst 0, 1) := dk_3 (dk_at dksX5_rack_0 16 rfl rfl)
theorem dX5_rack_17 : decode cX5_rack 17 = .ok (.putfield 65, 3) := dk_181 0 65 (dk_at dksX5_rack_0 17 rfl rfl)
theorem dX5_rack_20 : decode cX5_rack 20 = .ok (.aload_n 0, 1) := dk_42 (dk_at dksX5_rack_0 20 rfl rfl)
theorem dX5_rack_21 : decode cX5_rack 21 = .ok (.invokevirtual 296, 3) := dk_182 1 40 (dk_at dksX5_rack_0 21 rfl rfl)
theorem dX5_rack_24 : decode cX5_rack 24 = .ok (.istore_n 2, 1) := dk_61 (dk_at dksX5_rack_1 0 rfl rfl)
theorem dX5_rack_25 : decode cX5_rack 25 = .ok (.aload_n 0, 1) := dk_42 (dk_at dksX5_rack_1 1 rfl rfl)
theorem dX5_rack_26 : decode cX5_rack 26 = .ok (.iload_n 1, 1) := dk_27 (dk_at dksX5_rack_1 2 rfl rfl)
theorem dX5_rack_27 : decode cX5_rack 27 = .ok (.putfield 45, 3) := dk_181 0 45 (dk_at dksX5_rack_1 3 rfl rfl)
theorem dX5_rack_30 : decode cX5_rack 30 = .ok (.iconst 0, 1) := dk_3 (dk_at dksX5_rack_1 6 rfl rfl)
theorem dX5_rack_31 : decode cX5_rack 31 = .ok (.istore_n 3, 1) := dk_62 (dk_at dksX5_rack_1 7 rfl rfl)
theorem dX5_rack_32 : decode cX5_rack 32 = .ok (.iload_n 3, 1) := dk_29 (dk_at dksX5_rack_1 8 rfl rfl)
theorem dX5_rack_33 : decode cX5_rack 33 = .ok (.bipush 6, 2) := dk_16 6 (dk_at dksX5_rack_1 9 rfl rfl)
theorem dX5_rack_35 : decode cX5_rack 35 = .ok (.if_icmp .ge 16, 3) := dk_162 0 16 (dk_at dksX5_rack_1 11 rfl rfl)
theorem dX5_rack_38 : decode cX5_rack 38 = .ok (.aload_n 0, 1) := dk_42 (dk_at dksX5_rack_1 14 rfl rfl)
theorem dX5_rack_39 : decode cX5_rack 39 = .ok (.getfield 42, 3) := dk_180 0 42 (dk_at dksX5_rack_1 15 rfl rfl)
theorem dX5_rack_42 : decode cX5_rack 42 = .ok (.iload_n 3, 1) := dk_29 (dk_at dksX5_rack_1 18 rfl rfl)
theorem dX5_rack_43 : decode cX5_rack 43 = .ok (.iconst (-1), 1) := dk_2 (dk_at dksX5_rack_1 19 rfl rfl)
theorem dX5_rack_44 : decode cX5_rack 44 = .ok (.iastore, 1) := dk_79 (dk_at dksX5_rack_1 20 rfl rfl)
theorem dX5_rack_45 : decode cX5_rack 45 = .ok (.iinc 3 1, 3) := dk_132 3 1 (dk_at dksX5_rack_1 21 rfl rfl)
theorem dX5_rack_48 : decode cX5_rack 48 = .ok (.goto (-16), 3) := dk_167 255 240 (dk_at dksX5_rack_2 0 rfl rfl)
theorem dX5_rack_51 : decode cX5_rack 51 = .ok (.iload_n 2, 1) := dk_28 (dk_at dksX5_rack_2 3 rfl rfl)
theorem dX5_rack_52 : decode cX5_rack 52 = .ok (.ireturn, 1) := dk_172 (dk_at dksX5_rack_2 4 rfl rfl)
abbrev cX5_onRack : ByteArray := prog_25_method_90_code
def yX5_onRack : MethodName := ⟨RX5, "onRack", "()I"⟩
def dkwX5_onRack_1 : List UInt8 := [3, 96, 60, 132, 2, 1, 167, 255, 230, 27, 172]
abbrev dktX5_onRack_1 : List UInt8 := dkwX5_onRack_1 ++ []
def dkwX5_onRack_0 : List UInt8 := [3, 60, 3, 61, 28, 16, 6, 162, 0, 26, 27, 42, 180, 0, 42, 28, 46, 155, 0, 7, 4, 167, 0, 4]
abbrev dktX5_onRack_0 : List UInt8 := dkwX5_onRack_0 ++ dktX5_onRack_1
theorem dksX5_onRack_0 : cX5_onRack.data.toList.drop 0 = dktX5_onRack_0 := by decide +kernel
theorem dksX5_onRack_1 : cX5_onRack.data.toList.drop 24 = dktX5_onRack_1 := dk_seg dksX5_onRack_0 24 rfl rfl
theorem dX5_onRack_0 : decode cX5_onRack 0 = .ok (.iconst 0, 1) := dk_3 (dk_at dksX5_onRack_0 0 rfl rfl)
theorem dX5_onRack_1 : decode cX5_onRack 1 = .ok (.istore_n 1, 1) := dk_60 (dk_at dksX5_onRack_0 1 rfl rfl)
theorem dX5_onRack_2 : decode cX5_onRack 2 = .ok (.iconst 0, 1) := dk_3 (dk_at dksX5_onRack_0 2 rfl rfl)
theorem dX5_onRack_3 : decode cX5_onRack 3 = .ok (.istore_n 2, 1) := dk_61 (dk_at dksX5_onRack_0 3 rfl rfl)
theorem dX5_onRack_4 : decode cX5_onRack 4 = .ok (.iload_n 2, 1) := dk_28 (dk_at dksX5_onRack_0 4 rfl rfl)
theorem dX5_onRack_5 : decode cX5_onRack 5 = .ok (.bipush 6, 2) := dk_16 6 (dk_at dksX5_onRack_0 5 rfl rfl)
theorem dX5_onRack_7 : decode cX5_onRack 7 = .ok (.if_icmp .ge 26, 3) := dk_162 0 26 (dk_at dksX5_onRack_0 7 rfl rfl)
theorem dX5_onRack_10 : decode cX5_onRack 10 = .ok (.iload_n 1, 1) := dk_27 (dk_at dksX5_onRack_0 10 rfl rfl)
theorem dX5_onRack_11 : decode cX5_onRack 11 = .ok (.aload_n 0, 1) := dk_42 (dk_at dksX5_onRack_0 11 rfl rfl)
theorem dX5_onRack_12 : decode cX5_onRack 12 = .ok (.getfield 42, 3) := dk_180 0 42 (dk_at dksX5_onRack_0 12 rfl rfl)
theorem dX5_onRack_15 : decode cX5_onRack 15 = .ok (.iload_n 2, 1) := dk_28 (dk_at dksX5_onRack_0 15 rfl rfl)
theorem dX5_onRack_16 : decode cX5_onRack 16 = .ok (.iaload, 1) := dk_46 (dk_at dksX5_onRack_0 16 rfl rfl)
theorem dX5_onRack_17 : decode cX5_onRack 17 = .ok (.ifCond .lt 7, 3) := dk_155 0 7 (dk_at dksX5_onRack_0 17 rfl rfl)
theorem dX5_onRack_20 : decode cX5_onRack 20 = .ok (.iconst 1, 1) := dk_4 (dk_at dksX5_onRack_0 20 rfl rfl)
theorem dX5_onRack_21 : decode cX5_onRack 21 = .ok (.goto 4, 3) := dk_167 0 4 (dk_at dksX5_onRack_0 21 rfl rfl)
theorem dX5_onRack_24 : decode cX5_onRack 24 = .ok (.iconst 0, 1) := dk_3 (dk_at dksX5_onRack_1 0 rfl rfl)
theorem dX5_onRack_25 : decode cX5_onRack 25 = .ok (.iadd, 1) := dk_96 (dk_at dksX5_onRack_1 1 rfl rfl)
theorem dX5_onRack_26 : decode cX5_onRack 26 = .ok (.istore_n 1, 1) := dk_60 (dk_at dksX5_onRack_1 2 rfl rfl)
theorem dX5_onRack_27 : decode cX5_onRack 27 = .ok (.iinc 2 1, 3) := dk_132 2 1 (dk_at dksX5_onRack_1 3 rfl rfl)
theorem dX5_onRack_30 : decode cX5_onRack 30 = .ok (.goto (-26), 3) := dk_167 255 230 (dk_at dksX5_onRack_1 6 rfl rfl)
theorem dX5_onRack_33 : decode cX5_onRack 33 = .ok (.iload_n 1, 1) := dk_27 (dk_at dksX5_onRack_1 9 rfl rfl)
theorem dX5_onRack_34 : decode cX5_onRack 34 = .ok (.ireturn, 1) := dk_172 (dk_at dksX5_onRack_1 10 rfl rfl)
abbrev cX5_note : ByteArray := prog_25_method_92_code
def yX5_note : MethodName := ⟨RX5, "note", "(II)I"⟩
def dkwX5_note_3 : List UInt8 := [180, 0, 42, 27, 28, 79, 42, 182, 1, 40, 172]
abbrev dktX5_note_3 : List UInt8 := dkwX5_note_3 ++ []
def dkwX5_note_2 : List UInt8 := [28, 5, 182, 0, 101, 182, 0, 129, 153, 0, 9, 42, 5, 182, 0, 133, 172, 42, 3, 181, 0, 65, 42]
abbrev dktX5_note_2 : List UInt8 := dkwX5_note_2 ++ dktX5_note_3
def dkwX5_note_1 : List UInt8 := [180, 0, 45, 7, 159, 0, 37, 42, 28, 5, 182, 0, 101, 42, 180, 0, 45, 159, 0, 24, 42, 16, 18, 42]
abbrev dktX5_note_1 : List UInt8 := dkwX5_note_1 ++ dktX5_note_2
def dkwX5_note_0 : List UInt8 := [27, 3, 8, 184, 0, 97, 153, 0, 11, 42, 28, 182, 0, 146, 154, 0, 9, 42, 4, 182, 0, 80, 172, 42]
abbrev dktX5_note_0 : List UInt8 := dkwX5_note_0 ++ dktX5_note_1
theorem dksX5_note_0 : cX5_note.data.toList.drop 0 = dktX5_note_0 := by decide +kernel
theorem dksX5_note_1 : cX5_note.data.toList.drop 24 = dktX5_note_1 := dk_seg dksX5_note_0 24 rfl rfl
theorem dksX5_note_2 : cX5_note.data.toList.drop 48 = dktX5_note_2 := dk_seg dksX5_note_1 24 rfl rfl
theorem dksX5_note_3 : cX5_note.data.toList.drop 71 = dktX5_note_3 := dk_seg dksX5_note_2 23 rfl rfl
theorem dX5_note_0 : decode cX5_note 0 = .ok (.iload_n 1, 1) := dk_27 (dk_at dksX5_note_0 0 rfl rfl)
theorem dX5_note_1 : decode cX5_note 1 = .ok (.iconst 0, 1) := dk_3 (dk_at dksX5_note_0 1 rfl rfl)
theorem dX5_note_2 : decode cX5_note 2 = .ok (.iconst 5, 1) := dk_8 (dk_at dksX5_note_0 2 rfl rfl)
theorem dX5_note_3 : decode cX5_note 3 = .ok (.invokestatic 97, 3) := dk_184 0 97 (dk_at dksX5_note_0 3 rfl rfl)
theorem dX5_note_6 : decode cX5_note 6 = .ok (.ifCond .eq 11, 3) := dk_153 0 11 (dk_at dksX5_note_0 6 rfl rfl)
theorem dX5_note_9 : decode cX5_note 9 = .ok (.aload_n 0, 1) := dk_42 (dk_at dksX5_note_0 9 rfl rfl)
theorem dX5_note_10 : decode cX5_note 10 = .ok (.iload_n 2, 1) := dk_28 (dk_at dksX5_note_0 10 rfl rfl)
theorem dX5_note_11 : decode cX5_note 11 = .ok (.invokevirtual 146, 3) := dk_182 0 146 (dk_at dksX5_note_0 11 rfl rfl)
theorem dX5_note_14 : decode cX5_note 14 = .ok (.ifCond .ne 9, 3) := dk_154 0 9 (dk_at dksX5_note_0 14 rfl rfl)
theorem dX5_note_17 : decode cX5_note 17 = .ok (.aload_n 0, 1) := dk_42 (dk_at dksX5_note_0 17 rfl rfl)
theorem dX5_note_18 : decode cX5_note 18 = .ok (.iconst 1, 1) := dk_4 (dk_at dksX5_note_0 18 rfl rfl)
theorem dX5_note_19 : decode cX5_note 19 = .ok (.invokevirtual 80, 3) := dk_182 0 80 (dk_at dksX5_note_0 19 rfl rfl)
theorem dX5_note_22 : decode cX5_note 22 = .ok (.ireturn, 1) := dk_172 (dk_at dksX5_note_0 22 rfl rfl)
theorem dX5_note_23 : decode cX5_note 23 = .ok (.aload_n 0, 1) := dk_42 (dk_at dksX5_note_0 23 rfl rfl)
theorem dX5_note_24 : decode cX5_note 24 = .ok (.getfield 45, 3) := dk_180 0 45 (dk_at dksX5_note_1 0 rfl rfl)
theorem dX5_note_27 : decode cX5_note 27 = .ok (.iconst 4, 1) := dk_7 (dk_at dksX5_note_1 3 rfl rfl)
theorem dX5_note_28 : decode cX5_note 28 = .ok (.if_icmp .eq 37, 3) := dk_159 0 37 (dk_at dksX5_note_1 4 rfl rfl)
theorem dX5_note_31 : decode cX5_note 31 = .ok (.aload_n 0, 1) := dk_42 (dk_at dksX5_note_1 7 rfl rfl)
theorem dX5_note_32 : decode cX5_note 32 = .ok (.iload_n 2, 1) := dk_28 (dk_at dksX5_note_1 8 rfl rfl)
theorem dX5_note_33 : decode cX5_note 33 = .ok (.iconst 2, 1) := dk_5 (dk_at dksX5_note_1 9 rfl rfl)
theorem dX5_note_34 : decode cX5_note 34 = .ok (.invokevirtual 101, 3) := dk_182 0 101 (dk_at dksX5_note_1 10 rfl rfl)
theorem dX5_note_37 : decode cX5_note 37 = .ok (.aload_n 0, 1) := dk_42 (dk_at dksX5_note_1 13 rfl rfl)
theorem dX5_note_38 : decode cX5_note 38 = .ok (.getfield 45, 3) := dk_180 0 45 (dk_at dksX5_note_1 14 rfl rfl)
theorem dX5_note_41 : decode cX5_note 41 = .ok (.if_icmp .eq 24, 3) := dk_159 0 24 (dk_at dksX5_note_1 17 rfl rfl)
theorem dX5_note_44 : decode cX5_note 44 = .ok (.aload_n 0, 1) := dk_42 (dk_at dksX5_note_1 20 rfl rfl)
theorem dX5_note_45 : decode cX5_note 45 = .ok (.bipush 18, 2) := dk_16 18 (dk_at dksX5_note_1 21 rfl rfl)
theorem dX5_note_47 : decode cX5_note 47 = .ok (.aload_n 0, 1) := dk_42 (dk_at dksX5_note_1 23 rfl rfl)
theorem dX5_note_48 : decode cX5_note 48 = .ok (.iload_n 2, 1) := dk_28 (dk_at dksX5_note_2 0 rfl rfl)
theorem dX5_note_49 : decode cX5_note 49 = .ok (.iconst 2, 1) := dk_5 (dk_at dksX5_note_2 1 rfl rfl)
theorem dX5_note_50 : decode cX5_note 50 = .ok (.invokevirtual 101, 3) := dk_182 0 101 (dk_at dksX5_note_2 2 rfl rfl)
theorem dX5_note_53 : decode cX5_note 53 = .ok (.invokevirtual 129, 3) := dk_182 0 129 (dk_at dksX5_note_2 5 rfl rfl)
theorem dX5_note_56 : decode cX5_note 56 = .ok (.ifCond .eq 9, 3) := dk_153 0 9 (dk_at dksX5_note_2 8 rfl rfl)
theorem dX5_note_59 : decode cX5_note 59 = .ok (.aload_n 0, 1) := dk_42 (dk_at dksX5_note_2 11 rfl rfl)
theorem dX5_note_60 : decode cX5_note 60 = .ok (.iconst 2, 1) := dk_5 (dk_at dksX5_note_2 12 rfl rfl)
theorem dX5_note_61 : decode cX5_note 61 = .ok (.invokevirtual 133, 3) := dk_182 0 133 (dk_at dksX5_note_2 13 rfl rfl)
theorem dX5_note_64 : decode cX5_note 64 = .ok (.ireturn, 1) := dk_172 (dk_at dksX5_note_2 16 rfl rfl)
theorem dX5_note_65 : decode cX5_note 65 = .ok (.aload_n 0, 1) := dk_42 (dk_at dksX5_note_2 17 rfl rfl)
theorem dX5_note_66 : decode cX5_note 66 = .ok (.iconst 0, 1) := dk_3 (dk_at dksX5_note_2 18 rfl rfl)
theorem dX5_note_67 : decode cX5_note 67 = .ok (.putfield 65, 3) := dk_181 0 65 (dk_at dksX5_note_2 19 rfl rfl)
theorem dX5_note_70 : decode cX5_note 70 = .ok (.aload_n 0, 1) := dk_42 (dk_at dksX5_note_2 22 rfl rfl)
theorem dX5_note_71 : decode cX5_note 71 = .ok (.getfield 42, 3) := dk_180 0 42 (dk_at dksX5_note_3 0 rfl rfl)
theorem dX5_note_74 : decode cX5_note 74 = .ok (.iload_n 1, 1) := dk_27 (dk_at dksX5_note_3 3 rfl rfl)
theorem dX5_note_75 : decode cX5_note 75 = .ok (.iload_n 2, 1) := dk_28 (dk_at dksX5_note_3 4 rfl rfl)
theorem dX5_note_76 : decode cX5_note 76 = .ok (.iastore, 1) := dk_79 (dk_at dksX5_note_3 5 rfl rfl)
theorem dX5_note_77 : decode cX5_note 77 = .ok (.aload_n 0, 1) := dk_42 (dk_at dksX5_note_3 6 rfl rfl)
theorem dX5_note_78 : decode cX5_note 78 = .ok (.invokevirtual 296, 3) := dk_182 1 40 (dk_at dksX5_note_3 7 rfl rfl)
theorem dX5_note_81 : decode cX5_note 81 = .ok (.ireturn, 1) := dk_172 (dk_at dksX5_note_3 10 rfl rfl)
abbrev cX5_left : ByteArray := prog_25_method_93_code
def yX5_left : MethodName := ⟨RX5, "left", "()I"⟩
def dkwX5_left_2 : List UInt8 := [182, 0, 101, 42, 29, 7, 182, 0, 101, 100, 167, 0, 4, 3, 96, 60, 132, 2, 1, 167, 255, 200, 27, 172]
abbrev dktX5_left_2 : List UInt8 := dkwX5_left_2 ++ []
def dkwX5_left_1 : List UInt8 := [155, 0, 35, 42, 29, 182, 0, 146, 153, 0, 27, 42, 29, 182, 0, 122, 154, 0, 19, 42, 29, 6]
abbrev dktX5_left_1 : List UInt8 := dkwX5_left_1 ++ dktX5_left_2
def dkwX5_left_0 : List UInt8 := [42, 3, 181, 0, 65, 3, 60, 3, 61, 28, 16, 6, 162, 0, 56, 42, 180, 0, 42, 28, 46, 62, 27, 29]
abbrev dktX5_left_0 : List UInt8 := dkwX5_left_0 ++ dktX5_left_1
theorem dksX5_left_0 : cX5_left.data.toList.drop 0 = dktX5_left_0 := by decide +kernel
theorem dksX5_left_1 : cX5_left.data.toList.drop 24 = dktX5_left_1 := dk_seg dksX5_left_0 24 rfl rfl
theorem dksX5_left_2 : cX5_left.data.toList.drop 46 = dktX5_left_2 := dk_seg dksX5_left_1 22 rfl rfl
theorem dX5_left_0 : decode cX5_left 0 = .ok (.aload_n 0, 1) := dk_42 (dk_at dksX5_left_0 0 rfl rfl)
theorem dX5_left_1 : decode cX5_left 1 = .ok (.iconst 0, 1) := dk_3 (dk_at dksX5_left_0 1 rfl rfl)
theorem dX5_left_2 : decode cX5_left 2 = .ok (.putfield 65, 3) := dk_181 0 65 (dk_at dksX5_left_0 2 rfl rfl)
theorem dX5_left_5 : decode cX5_left 5 = .ok (.iconst 0, 1) := dk_3 (dk_at dksX5_left_0 5 rfl rfl)
theorem dX5_left_6 : decode cX5_left 6 = .ok (.istore_n 1, 1) := dk_60 (dk_at dksX5_left_0 6 rfl rfl)
theorem dX5_left_7 : decode cX5_left 7 = .ok (.iconst 0, 1) := dk_3 (dk_at dksX5_left_0 7 rfl rfl)
theorem dX5_left_8 : decode cX5_left 8 = .ok (.istore_n 2, 1) := dk_61 (dk_at dksX5_left_0 8 rfl rfl)
theorem dX5_left_9 : decode cX5_left 9 = .ok (.iload_n 2, 1) := dk_28 (dk_at dksX5_left_0 9 rfl rfl)
theorem dX5_left_10 : decode cX5_left 10 = .ok (.bipush 6, 2) := dk_16 6 (dk_at dksX5_left_0 10 rfl rfl)
theorem dX5_left_12 : decode cX5_left 12 = .ok (.if_icmp .ge 56, 3) := dk_162 0 56 (dk_at dksX5_left_0 12 rfl rfl)
theorem dX5_left_15 : decode cX5_left 15 = .ok (.aload_n 0, 1) := dk_42 (dk_at dksX5_left_0 15 rfl rfl)
theorem dX5_left_16 : decode cX5_left 16 = .ok (.getfield 42, 3) := dk_180 0 42 (dk_at dksX5_left_0 16 rfl rfl)
theorem dX5_left_19 : decode cX5_left 19 = .ok (.iload_n 2, 1) := dk_28 (dk_at dksX5_left_0 19 rfl rfl)
theorem dX5_left_20 : decode cX5_left 20 = .ok (.iaload, 1) := dk_46 (dk_at dksX5_left_0 20 rfl rfl)
theorem dX5_left_21 : decode cX5_left 21 = .ok (.istore_n 3, 1) := dk_62 (dk_at dksX5_left_0 21 rfl rfl)
theorem dX5_left_22 : decode cX5_left 22 = .ok (.iload_n 1, 1) := dk_27 (dk_at dksX5_left_0 22 rfl rfl)
theorem dX5_left_23 : decode cX5_left 23 = .ok (.iload_n 3, 1) := dk_29 (dk_at dksX5_left_0 23 rfl rfl)
theorem dX5_left_24 : decode cX5_left 24 = .ok (.ifCond .lt 35, 3) := dk_155 0 35 (dk_at dksX5_left_1 0 rfl rfl)
theorem dX5_left_27 : decode cX5_left 27 = .ok (.aload_n 0, 1) := dk_42 (dk_at dksX5_left_1 3 rfl rfl)
theorem dX5_left_28 : decode cX5_left 28 = .ok (.iload_n 3, 1) := dk_29 (dk_at dksX5_left_1 4 rfl rfl)
theorem dX5_left_29 : decode cX5_left 29 = .ok (.invokevirtual 146, 3) := dk_182 0 146 (dk_at dksX5_left_1 5 rfl rfl)
theorem dX5_left_32 : decode cX5_left 32 = .ok (.ifCond .eq 27, 3) := dk_153 0 27 (dk_at dksX5_left_1 8 rfl rfl)
theorem dX5_left_35 : decode cX5_left 35 = .ok (.aload_n 0, 1) := dk_42 (dk_at dksX5_left_1 11 rfl rfl)
theorem dX5_left_36 : decode cX5_left 36 = .ok (.iload_n 3, 1) := dk_29 (dk_at dksX5_left_1 12 rfl rfl)
theorem dX5_left_37 : decode cX5_left 37 = .ok (.invokevirtual 122, 3) := dk_182 0 122 (dk_at dksX5_left_1 13 rfl rfl)
theorem dX5_left_40 : decode cX5_left 40 = .ok (.ifCond .ne 19, 3) := dk_154 0 19 (dk_at dksX5_left_1 16 rfl rfl)
theorem dX5_left_43 : decode cX5_left 43 = .ok (.aload_n 0, 1) := dk_42 (dk_at dksX5_left_1 19 rfl rfl)
theorem dX5_left_44 : decode cX5_left 44 = .ok (.iload_n 3, 1) := dk_29 (dk_at dksX5_left_1 20 rfl rfl)
theorem dX5_left_45 : decode cX5_left 45 = .ok (.iconst 3, 1) := dk_6 (dk_at dksX5_left_1 21 rfl rfl)
theorem dX5_left_46 : decode cX5_left 46 = .ok (.invokevirtual 101, 3) := dk_182 0 101 (dk_at dksX5_left_2 0 rfl rfl)
theorem dX5_left_49 : decode cX5_left 49 = .ok (.aload_n 0, 1) := dk_42 (dk_at dksX5_left_2 3 rfl rfl)
theorem dX5_left_50 : decode cX5_left 50 = .ok (.iload_n 3, 1) := dk_29 (dk_at dksX5_left_2 4 rfl rfl)
theorem dX5_left_51 : decode cX5_left 51 = .ok (.iconst 4, 1) := dk_7 (dk_at dksX5_left_2 5 rfl rfl)
theorem dX5_left_52 : decode cX5_left 52 = .ok (.invokevirtual 101, 3) := dk_182 0 101 (dk_at dksX5_left_2 6 rfl rfl)
theorem dX5_left_55 : decode cX5_left 55 = .ok (.isub, 1) := dk_100 (dk_at dksX5_left_2 9 rfl rfl)
theorem dX5_left_56 : decode cX5_left 56 = .ok (.goto 4, 3) := dk_167 0 4 (dk_at dksX5_left_2 10 rfl rfl)
theorem dX5_left_59 : decode cX5_left 59 = .ok (.iconst 0, 1) := dk_3 (dk_at dksX5_left_2 13 rfl rfl)
theorem dX5_left_60 : decode cX5_left 60 = .ok (.iadd, 1) := dk_96 (dk_at dksX5_left_2 14 rfl rfl)
theorem dX5_left_61 : decode cX5_left 61 = .ok (.istore_n 1, 1) := dk_60 (dk_at dksX5_left_2 15 rfl rfl)
theorem dX5_left_62 : decode cX5_left 62 = .ok (.iinc 2 1, 3) := dk_132 2 1 (dk_at dksX5_left_2 16 rfl rfl)
theorem dX5_left_65 : decode cX5_left 65 = .ok (.goto (-56), 3) := dk_167 255 200 (dk_at dksX5_left_2 19 rfl rfl)
theorem dX5_left_68 : decode cX5_left 68 = .ok (.iload_n 1, 1) := dk_27 (dk_at dksX5_left_2 22 rfl rfl)
theorem dX5_left_69 : decode cX5_left 69 = .ok (.ireturn, 1) := dk_172 (dk_at dksX5_left_2 23 rfl rfl)
abbrev cX5_append : ByteArray := prog_25_method_94_code
def yX5_append : MethodName := ⟨RX5, "append", "(C)I"⟩
def dkwX5_append_1 : List UInt8 := [42, 180, 1, 43, 27, 85, 42, 89, 180, 1, 43, 4, 96, 181, 1, 43, 42, 180, 1, 43, 172]
abbrev dktX5_append_1 : List UInt8 := dkwX5_append_1 ++ []
def dkwX5_append_0 : List UInt8 := [42, 180, 1, 43, 16, 60, 160, 0, 9, 42, 4, 182, 0, 80, 172, 42, 3, 181, 0, 65, 42, 180, 0, 49]
abbrev dktX5_append_0 : List UInt8 := dkwX5_append_0 ++ dktX5_append_1
theorem dksX5_append_0 : cX5_append.data.toList.drop 0 = dktX5_append_0 := by decide +kernel
theorem dksX5_append_1 : cX5_append.data.toList.drop 24 = dktX5_append_1 := dk_seg dksX5_append_0 24 rfl rfl
theorem dX5_append_0 : decode cX5_append 0 = .ok (.aload_n 0, 1) := dk_42 (dk_at dksX5_append_0 0 rfl rfl)
theorem dX5_append_1 : decode cX5_append 1 = .ok (.getfield 299, 3) := dk_180 1 43 (dk_at dksX5_append_0 1 rfl rfl)
theorem dX5_append_4 : decode cX5_append 4 = .ok (.bipush 60, 2) := dk_16 60 (dk_at dksX5_append_0 4 rfl rfl)
theorem dX5_append_6 : decode cX5_append 6 = .ok (.if_icmp .ne 9, 3) := dk_160 0 9 (dk_at dksX5_append_0 6 rfl rfl)
theorem dX5_append_9 : decode cX5_append 9 = .ok (.aload_n 0, 1) := dk_42 (dk_at dksX5_append_0 9 rfl rfl)
theorem dX5_append_10 : decode cX5_append 10 = .ok (.iconst 1, 1) := dk_4 (dk_at dksX5_append_0 10 rfl rfl)
theorem dX5_append_11 : decode cX5_append 11 = .ok (.invokevirtual 80, 3) := dk_182 0 80 (dk_at dksX5_append_0 11 rfl rfl)
theorem dX5_append_14 : decode cX5_append 14 = .ok (.ireturn, 1) := dk_172 (dk_at dksX5_append_0 14 rfl rfl)
theorem dX5_append_15 : decode cX5_append 15 = .ok (.aload_n 0, 1) := dk_42 (dk_at dksX5_append_0 15 rfl rfl)
theorem dX5_append_16 : decode cX5_append 16 = .ok (.iconst 0, 1) := dk_3 (dk_at dksX5_append_0 16 rfl rfl)
theorem dX5_append_17 : decode cX5_append 17 = .ok (.putfield 65, 3) := dk_181 0 65 (dk_at dksX5_append_0 17 rfl rfl)
theorem dX5_append_20 : decode cX5_append 20 = .ok (.aload_n 0, 1) := dk_42 (dk_at dksX5_append_0 20 rfl rfl)
theorem dX5_append_21 : decode cX5_append 21 = .ok (.getfield 49, 3) := dk_180 0 49 (dk_at dksX5_append_0 21 rfl rfl)
theorem dX5_append_24 : decode cX5_append 24 = .ok (.aload_n 0, 1) := dk_42 (dk_at dksX5_append_1 0 rfl rfl)
theorem dX5_append_25 : decode cX5_append 25 = .ok (.getfield 299, 3) := dk_180 1 43 (dk_at dksX5_append_1 1 rfl rfl)
theorem dX5_append_28 : decode cX5_append 28 = .ok (.iload_n 1, 1) := dk_27 (dk_at dksX5_append_1 4 rfl rfl)
theorem dX5_append_29 : decode cX5_append 29 = .ok (.castore, 1) := dk_85 (dk_at dksX5_append_1 5 rfl rfl)
theorem dX5_append_30 : decode cX5_append 30 = .ok (.aload_n 0, 1) := dk_42 (dk_at dksX5_append_1 6 rfl rfl)
theorem dX5_append_31 : decode cX5_append 31 = .ok (.dup, 1) := dk_89 (dk_at dksX5_append_1 7 rfl rfl)
theorem dX5_append_32 : decode cX5_append 32 = .ok (.getfield 299, 3) := dk_180 1 43 (dk_at dksX5_append_1 8 rfl rfl)
theorem dX5_append_35 : decode cX5_append 35 = .ok (.iconst 1, 1) := dk_4 (dk_at dksX5_append_1 11 rfl rfl)
theorem dX5_append_36 : decode cX5_append 36 = .ok (.iadd, 1) := dk_96 (dk_at dksX5_append_1 12 rfl rfl)
theorem dX5_append_37 : decode cX5_append 37 = .ok (.putfield 299, 3) := dk_181 1 43 (dk_at dksX5_append_1 13 rfl rfl)
theorem dX5_append_40 : decode cX5_append 40 = .ok (.aload_n 0, 1) := dk_42 (dk_at dksX5_append_1 16 rfl rfl)
theorem dX5_append_41 : decode cX5_append 41 = .ok (.getfield 299, 3) := dk_180 1 43 (dk_at dksX5_append_1 17 rfl rfl)
theorem dX5_append_44 : decode cX5_append 44 = .ok (.ireturn, 1) := dk_172 (dk_at dksX5_append_1 20 rfl rfl)
abbrev cX5_tries : ByteArray := prog_25_method_106_code
def yX5_tries : MethodName := ⟨RX5, "tries", "()I"⟩
def dkwX5_tries_1 : List UInt8 := [182, 1, 85, 60, 42, 182, 1, 88, 27, 172]
abbrev dktX5_tries_1 : List UInt8 := dkwX5_tries_1 ++ []
def dkwX5_tries_0 : List UInt8 := [42, 182, 1, 82, 154, 0, 9, 42, 4, 182, 0, 80, 172, 42, 3, 181, 0, 65, 42, 182, 0, 136, 42]
abbrev dktX5_tries_0 : List UInt8 := dkwX5_tries_0 ++ dktX5_tries_1
theorem dksX5_tries_0 : cX5_tries.data.toList.drop 0 = dktX5_tries_0 := by decide +kernel
theorem dksX5_tries_1 : cX5_tries.data.toList.drop 23 = dktX5_tries_1 := dk_seg dksX5_tries_0 23 rfl rfl
theorem dX5_tries_0 : decode cX5_tries 0 = .ok (.aload_n 0, 1) := dk_42 (dk_at dksX5_tries_0 0 rfl rfl)
theorem dX5_tries_1 : decode cX5_tries 1 = .ok (.invokevirtual 338, 3) := dk_182 1 82 (dk_at dksX5_tries_0 1 rfl rfl)
theorem dX5_tries_4 : decode cX5_tries 4 = .ok (.ifCond .ne 9, 3) := dk_154 0 9 (dk_at dksX5_tries_0 4 rfl rfl)
theorem dX5_tries_7 : decode cX5_tries 7 = .ok (.aload_n 0, 1) := dk_42 (dk_at dksX5_tries_0 7 rfl rfl)
theorem dX5_tries_8 : decode cX5_tries 8 = .ok (.iconst 1, 1) := dk_4 (dk_at dksX5_tries_0 8 rfl rfl)
theorem dX5_tries_9 : decode cX5_tries 9 = .ok (.invokevirtual 80, 3) := dk_182 0 80 (dk_at dksX5_tries_0 9 rfl rfl)
theorem dX5_tries_12 : decode cX5_tries 12 = .ok (.ireturn, 1) := dk_172 (dk_at dksX5_tries_0 12 rfl rfl)
theorem dX5_tries_13 : decode cX5_tries 13 = .ok (.aload_n 0, 1) := dk_42 (dk_at dksX5_tries_0 13 rfl rfl)
theorem dX5_tries_14 : decode cX5_tries 14 = .ok (.iconst 0, 1) := dk_3 (dk_at dksX5_tries_0 14 rfl rfl)
theorem dX5_tries_15 : decode cX5_tries 15 = .ok (.putfield 65, 3) := dk_181 0 65 (dk_at dksX5_tries_0 15 rfl rfl)
theorem dX5_tries_18 : decode cX5_tries 18 = .ok (.aload_n 0, 1) := dk_42 (dk_at dksX5_tries_0 18 rfl rfl)
theorem dX5_tries_19 : decode cX5_tries 19 = .ok (.invokevirtual 136, 3) := dk_182 0 136 (dk_at dksX5_tries_0 19 rfl rfl)
theorem dX5_tries_22 : decode cX5_tries 22 = .ok (.aload_n 0, 1) := dk_42 (dk_at dksX5_tries_0 22 rfl rfl)
theorem dX5_tries_23 : decode cX5_tries 23 = .ok (.invokevirtual 341, 3) := dk_182 1 85 (dk_at dksX5_tries_1 0 rfl rfl)
theorem dX5_tries_26 : decode cX5_tries 26 = .ok (.istore_n 1, 1) := dk_60 (dk_at dksX5_tries_1 3 rfl rfl)
theorem dX5_tries_27 : decode cX5_tries 27 = .ok (.aload_n 0, 1) := dk_42 (dk_at dksX5_tries_1 4 rfl rfl)
theorem dX5_tries_28 : decode cX5_tries 28 = .ok (.invokevirtual 344, 3) := dk_182 1 88 (dk_at dksX5_tries_1 5 rfl rfl)
theorem dX5_tries_31 : decode cX5_tries 31 = .ok (.iload_n 1, 1) := dk_27 (dk_at dksX5_tries_1 8 rfl rfl)
theorem dX5_tries_32 : decode cX5_tries 32 = .ok (.ireturn, 1) := dk_172 (dk_at dksX5_tries_1 9 rfl rfl)
abbrev cX5_readsPlan : ByteArray := prog_25_method_100_code
def yX5_readsPlan : MethodName := ⟨RX5, "readsPlan", "()Z"⟩
def dkwX5_readsPlan_5 : List UInt8 := [181, 0, 62, 27, 172]
abbrev dktX5_readsPlan_5 : List UInt8 := dkwX5_readsPlan_5 ++ []
def dkwX5_readsPlan_4 : List UInt8 := [160, 0, 7, 4, 167, 0, 4, 3, 60, 42, 3, 181, 1, 43, 27, 154, 0, 11, 42, 42, 180, 1, 46]
abbrev dktX5_readsPlan_4 : List UInt8 := dkwX5_readsPlan_4 ++ dktX5_readsPlan_5
def dkwX5_readsPlan_3 : List UInt8 := [167, 0, 4, 3, 96, 181, 1, 52, 167, 255, 210, 27, 153, 0, 18, 42, 180, 1, 46, 42, 180, 1, 43]
abbrev dktX5_readsPlan_3 : List UInt8 := dkwX5_readsPlan_3 ++ dktX5_readsPlan_4
def dkwX5_readsPlan_2 : List UInt8 := [180, 1, 46, 4, 96, 181, 1, 46, 42, 182, 1, 64, 60, 42, 89, 180, 1, 52, 27, 153, 0, 7, 4]
abbrev dktX5_readsPlan_2 : List UInt8 := dkwX5_readsPlan_2 ++ dktX5_readsPlan_3
def dkwX5_readsPlan_1 : List UInt8 := [4, 167, 0, 4, 3, 96, 181, 1, 52, 27, 153, 0, 48, 42, 182, 1, 49, 16, 59, 160, 0, 39, 42, 89]
abbrev dktX5_readsPlan_1 : List UInt8 := dkwX5_readsPlan_1 ++ dktX5_readsPlan_2
def dkwX5_readsPlan_0 : List UInt8 := [42, 3, 181, 1, 46, 42, 3, 181, 1, 52, 42, 182, 1, 64, 60, 42, 89, 180, 1, 52, 27, 153, 0, 7]
abbrev dktX5_readsPlan_0 : List UInt8 := dkwX5_readsPlan_0 ++ dktX5_readsPlan_1
theorem dksX5_readsPlan_0 : cX5_readsPlan.data.toList.drop 0 = dktX5_readsPlan_0 := by decide +kernel
theorem dksX5_readsPlan_1 : cX5_readsPlan.data.toList.drop 24 = dktX5_readsPlan_1 := dk_seg dksX5_readsPlan_0 24 rfl rfl
theorem dksX5_readsPlan_2 : cX5_readsPlan.data.toList.drop 48 = dktX5_readsPlan_2 := dk_seg dksX5_readsPlan_1 24 rfl rfl
theorem dksX5_readsPlan_3 : cX5_readsPlan.data.toList.drop 71 = dktX5_readsPlan_3 := dk_seg dksX5_readsPlan_2 23 rfl rfl
theorem dksX5_readsPlan_4 : cX5_readsPlan.data.toList.drop 94 = dktX5_readsPlan_4 := dk_seg dksX5_readsPlan_3 23 rfl rfl
theorem dksX5_readsPlan_5 : cX5_readsPlan.data.toList.drop 117 = dktX5_readsPlan_5 := dk_seg dksX5_readsPlan_4 23 rfl rfl
theorem dX5_readsPlan_0 : decode cX5_readsPlan 0 = .ok (.aload_n 0, 1) := dk_42 (dk_at dksX5_readsPlan_0 0 rfl rfl)
theorem dX5_readsPlan_1 : decode cX5_readsPlan 1 = .ok (.iconst 0, 1) := dk_3 (dk_at dksX5_readsPlan_0 1 rfl rfl)
theorem dX5_readsPlan_2 : decode cX5_readsPlan 2 = .ok (.putfield 302, 3) := dk_181 1 46 (dk_at dksX5_readsPlan_0 2 rfl rfl)
theorem dX5_readsPlan_5 : decode cX5_readsPlan 5 = .ok (.aload_n 0, 1) := dk_42 (dk_at dksX5_readsPlan_0 5 rfl rfl)
theorem dX5_readsPlan_6 : decode cX5_readsPlan 6 = .ok (.iconst 0, 1) := dk_3 (dk_at dksX5_readsPlan_0 6 rfl rfl)
theorem dX5_readsPlan_7 : decode cX5_readsPlan 7 = .ok (.putfield 308, 3) := dk_181 1 52 (dk_at dksX5_readsPlan_0 7 rfl rfl)
theorem dX5_readsPlan_10 : decode cX5_readsPlan 10 = .ok (.aload_n 0, 1) := dk_42 (dk_at dksX5_readsPlan_0 10 rfl rfl)
theorem dX5_readsPlan_11 : decode cX5_readsPlan 11 = .ok (.invokevirtual 320, 3) := dk_182 1 64 (dk_at dksX5_readsPlan_0 11 rfl rfl)
theorem dX5_readsPlan_14 : decode cX5_readsPlan 14 = .ok (.istore_n 1, 1) := dk_60 (dk_at dksX5_readsPlan_0 14 rfl rfl)
theorem dX5_readsPlan_15 : decode cX5_readsPlan 15 = .ok (.aload_n 0, 1) := dk_42 (dk_at dksX5_readsPlan_0 15 rfl rfl)
theorem dX5_readsPlan_16 : decode cX5_readsPlan 16 = .ok (.dup, 1) := dk_89 (dk_at dksX5_readsPlan_0 16 rfl rfl)
theorem dX5_readsPlan_17 : decode cX5_readsPlan 17 = .ok (.getfield 308, 3) := dk_180 1 52 (dk_at dksX5_readsPlan_0 17 rfl rfl)
theorem dX5_readsPlan_20 : decode cX5_readsPlan 20 = .ok (.iload_n 1, 1) := dk_27 (dk_at dksX5_readsPlan_0 20 rfl rfl)
theorem dX5_readsPlan_21 : decode cX5_readsPlan 21 = .ok (.ifCond .eq 7, 3) := dk_153 0 7 (dk_at dksX5_readsPlan_0 21 rfl rfl)
theorem dX5_readsPlan_24 : decode cX5_readsPlan 24 = .ok (.iconst 1, 1) := dk_4 (dk_at dksX5_readsPlan_1 0 rfl rfl)
theorem dX5_readsPlan_25 : decode cX5_readsPlan 25 = .ok (.goto 4, 3) := dk_167 0 4 (dk_at dksX5_readsPlan_1 1 rfl rfl)
theorem dX5_readsPlan_28 : decode cX5_readsPlan 28 = .ok (.iconst 0, 1) := dk_3 (dk_at dksX5_readsPlan_1 4 rfl rfl)
theorem dX5_readsPlan_29 : decode cX5_readsPlan 29 = .ok (.iadd, 1) := dk_96 (dk_at dksX5_readsPlan_1 5 rfl rfl)
theorem dX5_readsPlan_30 : decode cX5_readsPlan 30 = .ok (.putfield 308, 3) := dk_181 1 52 (dk_at dksX5_readsPlan_1 6 rfl rfl)
theorem dX5_readsPlan_33 : decode cX5_readsPlan 33 = .ok (.iload_n 1, 1) := dk_27 (dk_at dksX5_readsPlan_1 9 rfl rfl)
theorem dX5_readsPlan_34 : decode cX5_readsPlan 34 = .ok (.ifCond .eq 48, 3) := dk_153 0 48 (dk_at dksX5_readsPlan_1 10 rfl rfl)
theorem dX5_readsPlan_37 : decode cX5_readsPlan 37 = .ok (.aload_n 0, 1) := dk_42 (dk_at dksX5_readsPlan_1 13 rfl rfl)
theorem dX5_readsPlan_38 : decode cX5_readsPlan 38 = .ok (.invokevirtual 305, 3) := dk_182 1 49 (dk_at dksX5_readsPlan_1 14 rfl rfl)
theorem dX5_readsPlan_41 : decode cX5_readsPlan 41 = .ok (.bipush 59, 2) := dk_16 59 (dk_at dksX5_readsPlan_1 17 rfl rfl)
theorem dX5_readsPlan_43 : decode cX5_readsPlan 43 = .ok (.if_icmp .ne 39, 3) := dk_160 0 39 (dk_at dksX5_readsPlan_1 19 rfl rfl)
theorem dX5_readsPlan_46 : decode cX5_readsPlan 46 = .ok (.aload_n 0, 1) := dk_42 (dk_at dksX5_readsPlan_1 22 rfl rfl)
theorem dX5_readsPlan_47 : decode cX5_readsPlan 47 = .ok (.dup, 1) := dk_89 (dk_at dksX5_readsPlan_1 23 rfl rfl)
theorem dX5_readsPlan_48 : decode cX5_readsPlan 48 = .ok (.getfield 302, 3) := dk_180 1 46 (dk_at dksX5_readsPlan_2 0 rfl rfl)
theorem dX5_readsPlan_51 : decode cX5_readsPlan 51 = .ok (.iconst 1, 1) := dk_4 (dk_at dksX5_readsPlan_2 3 rfl rfl)
theorem dX5_readsPlan_52 : decode cX5_readsPlan 52 = .ok (.iadd, 1) := dk_96 (dk_at dksX5_readsPlan_2 4 rfl rfl)
theorem dX5_readsPlan_53 : decode cX5_readsPlan 53 = .ok (.putfield 302, 3) := dk_181 1 46 (dk_at dksX5_readsPlan_2 5 rfl rfl)
theorem dX5_readsPlan_56 : decode cX5_readsPlan 56 = .ok (.aload_n 0, 1) := dk_42 (dk_at dksX5_readsPlan_2 8 rfl rfl)
theorem dX5_readsPlan_57 : decode cX5_readsPlan 57 = .ok (.invokevirtual 320, 3) := dk_182 1 64 (dk_at dksX5_readsPlan_2 9 rfl rfl)
theorem dX5_readsPlan_60 : decode cX5_readsPlan 60 = .ok (.istore_n 1, 1) := dk_60 (dk_at dksX5_readsPlan_2 12 rfl rfl)
theorem dX5_readsPlan_61 : decode cX5_readsPlan 61 = .ok (.aload_n 0, 1) := dk_42 (dk_at dksX5_readsPlan_2 13 rfl rfl)
theorem dX5_readsPlan_62 : decode cX5_readsPlan 62 = .ok (.dup, 1) := dk_89 (dk_at dksX5_readsPlan_2 14 rfl rfl)
theorem dX5_readsPlan_63 : decode cX5_readsPlan 63 = .ok (.getfield 308, 3) := dk_180 1 52 (dk_at dksX5_readsPlan_2 15 rfl rfl)
theorem dX5_readsPlan_66 : decode cX5_readsPlan 66 = .ok (.iload_n 1, 1) := dk_27 (dk_at dksX5_readsPlan_2 18 rfl rfl)
theorem dX5_readsPlan_67 : decode cX5_readsPlan 67 = .ok (.ifCond .eq 7, 3) := dk_153 0 7 (dk_at dksX5_readsPlan_2 19 rfl rfl)
theorem dX5_readsPlan_70 : decode cX5_readsPlan 70 = .ok (.iconst 1, 1) := dk_4 (dk_at dksX5_readsPlan_2 22 rfl rfl)
theorem dX5_readsPlan_71 : decode cX5_readsPlan 71 = .ok (.goto 4, 3) := dk_167 0 4 (dk_at dksX5_readsPlan_3 0 rfl rfl)
theorem dX5_readsPlan_74 : decode cX5_readsPlan 74 = .ok (.iconst 0, 1) := dk_3 (dk_at dksX5_readsPlan_3 3 rfl rfl)
theorem dX5_readsPlan_75 : decode cX5_readsPlan 75 = .ok (.iadd, 1) := dk_96 (dk_at dksX5_readsPlan_3 4 rfl rfl)
theorem dX5_readsPlan_76 : decode cX5_readsPlan 76 = .ok (.putfield 308, 3) := dk_181 1 52 (dk_at dksX5_readsPlan_3 5 rfl rfl)
theorem dX5_readsPlan_79 : decode cX5_readsPlan 79 = .ok (.goto (-46), 3) := dk_167 255 210 (dk_at dksX5_readsPlan_3 8 rfl rfl)
theorem dX5_readsPlan_82 : decode cX5_readsPlan 82 = .ok (.iload_n 1, 1) := dk_27 (dk_at dksX5_readsPlan_3 11 rfl rfl)
theorem dX5_readsPlan_83 : decode cX5_readsPlan 83 = .ok (.ifCond .eq 18, 3) := dk_153 0 18 (dk_at dksX5_readsPlan_3 12 rfl rfl)
theorem dX5_readsPlan_86 : decode cX5_readsPlan 86 = .ok (.aload_n 0, 1) := dk_42 (dk_at dksX5_readsPlan_3 15 rfl rfl)
theorem dX5_readsPlan_87 : decode cX5_readsPlan 87 = .ok (.getfield 302, 3) := dk_180 1 46 (dk_at dksX5_readsPlan_3 16 rfl rfl)
theorem dX5_readsPlan_90 : decode cX5_readsPlan 90 = .ok (.aload_n 0, 1) := dk_42 (dk_at dksX5_readsPlan_3 19 rfl rfl)
theorem dX5_readsPlan_91 : decode cX5_readsPlan 91 = .ok (.getfield 299, 3) := dk_180 1 43 (dk_at dksX5_readsPlan_3 20 rfl rfl)
theorem dX5_readsPlan_94 : decode cX5_readsPlan 94 = .ok (.if_icmp .ne 7, 3) := dk_160 0 7 (dk_at dksX5_readsPlan_4 0 rfl rfl)
theorem dX5_readsPlan_97 : decode cX5_readsPlan 97 = .ok (.iconst 1, 1) := dk_4 (dk_at dksX5_readsPlan_4 3 rfl rfl)
theorem dX5_readsPlan_98 : decode cX5_readsPlan 98 = .ok (.goto 4, 3) := dk_167 0 4 (dk_at dksX5_readsPlan_4 4 rfl rfl)
theorem dX5_readsPlan_101 : decode cX5_readsPlan 101 = .ok (.iconst 0, 1) := dk_3 (dk_at dksX5_readsPlan_4 7 rfl rfl)
theorem dX5_readsPlan_102 : decode cX5_readsPlan 102 = .ok (.istore_n 1, 1) := dk_60 (dk_at dksX5_readsPlan_4 8 rfl rfl)
theorem dX5_readsPlan_103 : decode cX5_readsPlan 103 = .ok (.aload_n 0, 1) := dk_42 (dk_at dksX5_readsPlan_4 9 rfl rfl)
theorem dX5_readsPlan_104 : decode cX5_readsPlan 104 = .ok (.iconst 0, 1) := dk_3 (dk_at dksX5_readsPlan_4 10 rfl rfl)
theorem dX5_readsPlan_105 : decode cX5_readsPlan 105 = .ok (.putfield 299, 3) := dk_181 1 43 (dk_at dksX5_readsPlan_4 11 rfl rfl)
theorem dX5_readsPlan_108 : decode cX5_readsPlan 108 = .ok (.iload_n 1, 1) := dk_27 (dk_at dksX5_readsPlan_4 14 rfl rfl)
theorem dX5_readsPlan_109 : decode cX5_readsPlan 109 = .ok (.ifCond .ne 11, 3) := dk_154 0 11 (dk_at dksX5_readsPlan_4 15 rfl rfl)
theorem dX5_readsPlan_112 : decode cX5_readsPlan 112 = .ok (.aload_n 0, 1) := dk_42 (dk_at dksX5_readsPlan_4 18 rfl rfl)
theorem dX5_readsPlan_113 : decode cX5_readsPlan 113 = .ok (.aload_n 0, 1) := dk_42 (dk_at dksX5_readsPlan_4 19 rfl rfl)
theorem dX5_readsPlan_114 : decode cX5_readsPlan 114 = .ok (.getfield 302, 3) := dk_180 1 46 (dk_at dksX5_readsPlan_4 20 rfl rfl)
theorem dX5_readsPlan_117 : decode cX5_readsPlan 117 = .ok (.putfield 62, 3) := dk_181 0 62 (dk_at dksX5_readsPlan_5 0 rfl rfl)
theorem dX5_readsPlan_120 : decode cX5_readsPlan 120 = .ok (.iload_n 1, 1) := dk_27 (dk_at dksX5_readsPlan_5 3 rfl rfl)
theorem dX5_readsPlan_121 : decode cX5_readsPlan 121 = .ok (.ireturn, 1) := dk_172 (dk_at dksX5_readsPlan_5 4 rfl rfl)
abbrev cX5_readsStep : ByteArray := prog_25_method_99_code
def yX5_readsStep : MethodName := ⟨RX5, "readsStep", "()Z"⟩
def dkwX5_readsStep_7 : List UInt8 := [167, 0, 10, 42, 182, 1, 61, 153, 0, 7, 4, 167, 0, 4, 3, 172]
abbrev dktX5_readsStep_7 : List UInt8 := dkwX5_readsStep_7 ++ []
def dkwX5_readsStep_6 : List UInt8 := [181, 1, 46, 27, 16, 114, 159, 0, 26, 27, 16, 62, 160, 0, 13, 42, 182, 1, 58, 153, 0, 17]
abbrev dktX5_readsStep_6 : List UInt8 := dkwX5_readsStep_6 ++ dktX5_readsStep_7
def dkwX5_readsStep_5 : List UInt8 := [159, 0, 17, 27, 16, 45, 159, 0, 11, 27, 16, 42, 159, 0, 5, 3, 172, 42, 89, 180, 1, 46, 4, 96]
abbrev dktX5_readsStep_5 : List UInt8 := dkwX5_readsStep_5 ++ dktX5_readsStep_6
def dkwX5_readsStep_4 : List UInt8 := [180, 0, 53, 42, 180, 1, 52, 27, 79, 27, 16, 62, 159, 0, 29, 27, 16, 114, 159, 0, 23, 27, 16, 43]
abbrev dktX5_readsStep_4 : List UInt8 := dkwX5_readsStep_4 ++ dktX5_readsStep_5
def dkwX5_readsStep_3 : List UInt8 := [42, 182, 1, 49, 16, 48, 100, 79, 42, 89, 180, 1, 46, 4, 96, 181, 1, 46, 42, 182, 1, 49, 60, 42]
abbrev dktX5_readsStep_3 : List UInt8 := dkwX5_readsStep_3 ++ dktX5_readsStep_4
def dkwX5_readsStep_2 : List UInt8 := [16, 48, 159, 0, 14, 42, 182, 1, 49, 16, 49, 159, 0, 5, 3, 172, 42, 180, 0, 56, 42, 180, 1, 52]
abbrev dktX5_readsStep_2 : List UInt8 := dkwX5_readsStep_2 ++ dktX5_readsStep_3
def dkwX5_readsStep_1 : List UInt8 := [182, 1, 49, 16, 117, 160, 0, 15, 42, 89, 180, 1, 46, 4, 96, 181, 1, 46, 4, 172, 42, 182, 1, 49]
abbrev dktX5_readsStep_1 : List UInt8 := dkwX5_readsStep_1 ++ dktX5_readsStep_2
def dkwX5_readsStep_0 : List UInt8 := [42, 180, 0, 53, 42, 180, 1, 52, 42, 182, 1, 49, 79, 42, 182, 1, 49, 16, 99, 159, 0, 12, 42]
abbrev dktX5_readsStep_0 : List UInt8 := dkwX5_readsStep_0 ++ dktX5_readsStep_1
theorem dksX5_readsStep_0 : cX5_readsStep.data.toList.drop 0 = dktX5_readsStep_0 := by decide +kernel
theorem dksX5_readsStep_1 : cX5_readsStep.data.toList.drop 23 = dktX5_readsStep_1 := dk_seg dksX5_readsStep_0 23 rfl rfl
theorem dksX5_readsStep_2 : cX5_readsStep.data.toList.drop 47 = dktX5_readsStep_2 := dk_seg dksX5_readsStep_1 24 rfl rfl
theorem dksX5_readsStep_3 : cX5_readsStep.data.toList.drop 71 = dktX5_readsStep_3 := dk_seg dksX5_readsStep_2 24 rfl rfl
theorem dksX5_readsStep_4 : cX5_readsStep.data.toList.drop 95 = dktX5_readsStep_4 := dk_seg dksX5_readsStep_3 24 rfl rfl
theorem dksX5_readsStep_5 : cX5_readsStep.data.toList.drop 119 = dktX5_readsStep_5 := dk_seg dksX5_readsStep_4 24 rfl rfl
theorem dksX5_readsStep_6 : cX5_readsStep.data.toList.drop 143 = dktX5_readsStep_6 := dk_seg dksX5_readsStep_5 24 rfl rfl
theorem dksX5_readsStep_7 : cX5_readsStep.data.toList.drop 165 = dktX5_readsStep_7 := dk_seg dksX5_readsStep_6 22 rfl rfl
theorem dX5_readsStep_0 : decode cX5_readsStep 0 = .ok (.aload_n 0, 1) := dk_42 (dk_at dksX5_readsStep_0 0 rfl rfl)
theorem dX5_readsStep_1 : decode cX5_readsStep 1 = .ok (.getfield 53, 3) := dk_180 0 53 (dk_at dksX5_readsStep_0 1 rfl rfl)
theorem dX5_readsStep_4 : decode cX5_readsStep 4 = .ok (.aload_n 0, 1) := dk_42 (dk_at dksX5_readsStep_0 4 rfl rfl)
theorem dX5_readsStep_5 : decode cX5_readsStep 5 = .ok (.getfield 308, 3) := dk_180 1 52 (dk_at dksX5_readsStep_0 5 rfl rfl)
theorem dX5_readsStep_8 : decode cX5_readsStep 8 = .ok (.aload_n 0, 1) := dk_42 (dk_at dksX5_readsStep_0 8 rfl rfl)
theorem dX5_readsStep_9 : decode cX5_readsStep 9 = .ok (.invokevirtual 305, 3) := dk_182 1 49 (dk_at dksX5_readsStep_0 9 rfl rfl)
theorem dX5_readsStep_12 : decode cX5_readsStep 12 = .ok (.iastore, 1) := dk_79 (dk_at dksX5_readsStep_0 12 rfl rfl)
theorem dX5_readsStep_13 : decode cX5_readsStep 13 = .ok (.aload_n 0, 1) := dk_42 (dk_at dksX5_readsStep_0 13 rfl rfl)
theorem dX5_readsStep_14 : decode cX5_readsStep 14 = .ok (.invokevirtual 305, 3) := dk_182 1 49 (dk_at dksX5_readsStep_0 14 rfl rfl)
theorem dX5_readsStep_17 : decode cX5_readsStep 17 = .ok (.bipush 99, 2) := dk_16 99 (dk_at dksX5_readsStep_0 17 rfl rfl)
theorem dX5_readsStep_19 : decode cX5_readsStep 19 = .ok (.if_icmp .eq 12, 3) := dk_159 0 12 (dk_at dksX5_readsStep_0 19 rfl rfl)
theorem dX5_readsStep_22 : decode cX5_readsStep 22 = .ok (.aload_n 0, 1) := dk_42 (dk_at dksX5_readsStep_0 22 rfl rfl)
theorem dX5_readsStep_23 : decode cX5_readsStep 23 = .ok (.invokevirtual 305, 3) := dk_182 1 49 (dk_at dksX5_readsStep_1 0 rfl rfl)
theorem dX5_readsStep_26 : decode cX5_readsStep 26 = .ok (.bipush 117, 2) := dk_16 117 (dk_at dksX5_readsStep_1 3 rfl rfl)
theorem dX5_readsStep_28 : decode cX5_readsStep 28 = .ok (.if_icmp .ne 15, 3) := dk_160 0 15 (dk_at dksX5_readsStep_1 5 rfl rfl)
theorem dX5_readsStep_31 : decode cX5_readsStep 31 = .ok (.aload_n 0, 1) := dk_42 (dk_at dksX5_readsStep_1 8 rfl rfl)
theorem dX5_readsStep_32 : decode cX5_readsStep 32 = .ok (.dup, 1) := dk_89 (dk_at dksX5_readsStep_1 9 rfl rfl)
theorem dX5_readsStep_33 : decode cX5_readsStep 33 = .ok (.getfield 302, 3) := dk_180 1 46 (dk_at dksX5_readsStep_1 10 rfl rfl)
theorem dX5_readsStep_36 : decode cX5_readsStep 36 = .ok (.iconst 1, 1) := dk_4 (dk_at dksX5_readsStep_1 13 rfl rfl)
theorem dX5_readsStep_37 : decode cX5_readsStep 37 = .ok (.iadd, 1) := dk_96 (dk_at dksX5_readsStep_1 14 rfl rfl)
theorem dX5_readsStep_38 : decode cX5_readsStep 38 = .ok (.putfield 302, 3) := dk_181 1 46 (dk_at dksX5_readsStep_1 15 rfl rfl)
theorem dX5_readsStep_41 : decode cX5_readsStep 41 = .ok (.iconst 1, 1) := dk_4 (dk_at dksX5_readsStep_1 18 rfl rfl)
theorem dX5_readsStep_42 : decode cX5_readsStep 42 = .ok (.ireturn, 1) := dk_172 (dk_at dksX5_readsStep_1 19 rfl rfl)
theorem dX5_readsStep_43 : decode cX5_readsStep 43 = .ok (.aload_n 0, 1) := dk_42 (dk_at dksX5_readsStep_1 20 rfl rfl)
theorem dX5_readsStep_44 : decode cX5_readsStep 44 = .ok (.invokevirtual 305, 3) := dk_182 1 49 (dk_at dksX5_readsStep_1 21 rfl rfl)
theorem dX5_readsStep_47 : decode cX5_readsStep 47 = .ok (.bipush 48, 2) := dk_16 48 (dk_at dksX5_readsStep_2 0 rfl rfl)
theorem dX5_readsStep_49 : decode cX5_readsStep 49 = .ok (.if_icmp .eq 14, 3) := dk_159 0 14 (dk_at dksX5_readsStep_2 2 rfl rfl)
theorem dX5_readsStep_52 : decode cX5_readsStep 52 = .ok (.aload_n 0, 1) := dk_42 (dk_at dksX5_readsStep_2 5 rfl rfl)
theorem dX5_readsStep_53 : decode cX5_readsStep 53 = .ok (.invokevirtual 305, 3) := dk_182 1 49 (dk_at dksX5_readsStep_2 6 rfl rfl)
theorem dX5_readsStep_56 : decode cX5_readsStep 56 = .ok (.bipush 49, 2) := dk_16 49 (dk_at dksX5_readsStep_2 9 rfl rfl)
theorem dX5_readsStep_58 : decode cX5_readsStep 58 = .ok (.if_icmp .eq 5, 3) := dk_159 0 5 (dk_at dksX5_readsStep_2 11 rfl rfl)
theorem dX5_readsStep_61 : decode cX5_readsStep 61 = .ok (.iconst 0, 1) := dk_3 (dk_at dksX5_readsStep_2 14 rfl rfl)
theorem dX5_readsStep_62 : decode cX5_readsStep 62 = .ok (.ireturn, 1) := dk_172 (dk_at dksX5_readsStep_2 15 rfl rfl)
theorem dX5_readsStep_63 : decode cX5_readsStep 63 = .ok (.aload_n 0, 1) := dk_42 (dk_at dksX5_readsStep_2 16 rfl rfl)
theorem dX5_readsStep_64 : decode cX5_readsStep 64 = .ok (.getfield 56, 3) := dk_180 0 56 (dk_at dksX5_readsStep_2 17 rfl rfl)
theorem dX5_readsStep_67 : decode cX5_readsStep 67 = .ok (.aload_n 0, 1) := dk_42 (dk_at dksX5_readsStep_2 20 rfl rfl)
theorem dX5_readsStep_68 : decode cX5_readsStep 68 = .ok (.getfield 308, 3) := dk_180 1 52 (dk_at dksX5_readsStep_2 21 rfl rfl)
theorem dX5_readsStep_71 : decode cX5_readsStep 71 = .ok (.aload_n 0, 1) := dk_42 (dk_at dksX5_readsStep_3 0 rfl rfl)
theorem dX5_readsStep_72 : decode cX5_readsStep 72 = .ok (.invokevirtual 305, 3) := dk_182 1 49 (dk_at dksX5_readsStep_3 1 rfl rfl)
theorem dX5_readsStep_75 : decode cX5_readsStep 75 = .ok (.bipush 48, 2) := dk_16 48 (dk_at dksX5_readsStep_3 4 rfl rfl)
theorem dX5_readsStep_77 : decode cX5_readsStep 77 = .ok (.isub, 1) := dk_100 (dk_at dksX5_readsStep_3 6 rfl rfl)
theorem dX5_readsStep_78 : decode cX5_readsStep 78 = .ok (.iastore, 1) := dk_79 (dk_at dksX5_readsStep_3 7 rfl rfl)
theorem dX5_readsStep_79 : decode cX5_readsStep 79 = .ok (.aload_n 0, 1) := dk_42 (dk_at dksX5_readsStep_3 8 rfl rfl)
theorem dX5_readsStep_80 : decode cX5_readsStep 80 = .ok (.dup, 1) := dk_89 (dk_at dksX5_readsStep_3 9 rfl rfl)
theorem dX5_readsStep_81 : decode cX5_readsStep 81 = .ok (.getfield 302, 3) := dk_180 1 46 (dk_at dksX5_readsStep_3 10 rfl rfl)
theorem dX5_readsStep_84 : decode cX5_readsStep 84 = .ok (.iconst 1, 1) := dk_4 (dk_at dksX5_readsStep_3 13 rfl rfl)
theorem dX5_readsStep_85 : decode cX5_readsStep 85 = .ok (.iadd, 1) := dk_96 (dk_at dksX5_readsStep_3 14 rfl rfl)
theorem dX5_readsStep_86 : decode cX5_readsStep 86 = .ok (.putfield 302, 3) := dk_181 1 46 (dk_at dksX5_readsStep_3 15 rfl rfl)
theorem dX5_readsStep_89 : decode cX5_readsStep 89 = .ok (.aload_n 0, 1) := dk_42 (dk_at dksX5_readsStep_3 18 rfl rfl)
theorem dX5_readsStep_90 : decode cX5_readsStep 90 = .ok (.invokevirtual 305, 3) := dk_182 1 49 (dk_at dksX5_readsStep_3 19 rfl rfl)
theorem dX5_readsStep_93 : decode cX5_readsStep 93 = .ok (.istore_n 1, 1) := dk_60 (dk_at dksX5_readsStep_3 22 rfl rfl)
theorem dX5_readsStep_94 : decode cX5_readsStep 94 = .ok (.aload_n 0, 1) := dk_42 (dk_at dksX5_readsStep_3 23 rfl rfl)
theorem dX5_readsStep_95 : decode cX5_readsStep 95 = .ok (.getfield 53, 3) := dk_180 0 53 (dk_at dksX5_readsStep_4 0 rfl rfl)
theorem dX5_readsStep_98 : decode cX5_readsStep 98 = .ok (.aload_n 0, 1) := dk_42 (dk_at dksX5_readsStep_4 3 rfl rfl)
theorem dX5_readsStep_99 : decode cX5_readsStep 99 = .ok (.getfield 308, 3) := dk_180 1 52 (dk_at dksX5_readsStep_4 4 rfl rfl)
theorem dX5_readsStep_102 : decode cX5_readsStep 102 = .ok (.iload_n 1, 1) := dk_27 (dk_at dksX5_readsStep_4 7 rfl rfl)
theorem dX5_readsStep_103 : decode cX5_readsStep 103 = .ok (.iastore, 1) := dk_79 (dk_at dksX5_readsStep_4 8 rfl rfl)
theorem dX5_readsStep_104 : decode cX5_readsStep 104 = .ok (.iload_n 1, 1) := dk_27 (dk_at dksX5_readsStep_4 9 rfl rfl)
theorem dX5_readsStep_105 : decode cX5_readsStep 105 = .ok (.bipush 62, 2) := dk_16 62 (dk_at dksX5_readsStep_4 10 rfl rfl)
theorem dX5_readsStep_107 : decode cX5_readsStep 107 = .ok (.if_icmp .eq 29, 3) := dk_159 0 29 (dk_at dksX5_readsStep_4 12 rfl rfl)
theorem dX5_readsStep_110 : decode cX5_readsStep 110 = .ok (.iload_n 1, 1) := dk_27 (dk_at dksX5_readsStep_4 15 rfl rfl)
theorem dX5_readsStep_111 : decode cX5_readsStep 111 = .ok (.bipush 114, 2) := dk_16 114 (dk_at dksX5_readsStep_4 16 rfl rfl)
theorem dX5_readsStep_113 : decode cX5_readsStep 113 = .ok (.if_icmp .eq 23, 3) := dk_159 0 23 (dk_at dksX5_readsStep_4 18 rfl rfl)
theorem dX5_readsStep_116 : decode cX5_readsStep 116 = .ok (.iload_n 1, 1) := dk_27 (dk_at dksX5_readsStep_4 21 rfl rfl)
theorem dX5_readsStep_117 : decode cX5_readsStep 117 = .ok (.bipush 43, 2) := dk_16 43 (dk_at dksX5_readsStep_4 22 rfl rfl)
theorem dX5_readsStep_119 : decode cX5_readsStep 119 = .ok (.if_icmp .eq 17, 3) := dk_159 0 17 (dk_at dksX5_readsStep_5 0 rfl rfl)
theorem dX5_readsStep_122 : decode cX5_readsStep 122 = .ok (.iload_n 1, 1) := dk_27 (dk_at dksX5_readsStep_5 3 rfl rfl)
theorem dX5_readsStep_123 : decode cX5_readsStep 123 = .ok (.bipush 45, 2) := dk_16 45 (dk_at dksX5_readsStep_5 4 rfl rfl)
theorem dX5_readsStep_125 : decode cX5_readsStep 125 = .ok (.if_icmp .eq 11, 3) := dk_159 0 11 (dk_at dksX5_readsStep_5 6 rfl rfl)
theorem dX5_readsStep_128 : decode cX5_readsStep 128 = .ok (.iload_n 1, 1) := dk_27 (dk_at dksX5_readsStep_5 9 rfl rfl)
theorem dX5_readsStep_129 : decode cX5_readsStep 129 = .ok (.bipush 42, 2) := dk_16 42 (dk_at dksX5_readsStep_5 10 rfl rfl)
theorem dX5_readsStep_131 : decode cX5_readsStep 131 = .ok (.if_icmp .eq 5, 3) := dk_159 0 5 (dk_at dksX5_readsStep_5 12 rfl rfl)
theorem dX5_readsStep_134 : decode cX5_readsStep 134 = .ok (.iconst 0, 1) := dk_3 (dk_at dksX5_readsStep_5 15 rfl rfl)
theorem dX5_readsStep_135 : decode cX5_readsStep 135 = .ok (.ireturn, 1) := dk_172 (dk_at dksX5_readsStep_5 16 rfl rfl)
theorem dX5_readsStep_136 : decode cX5_readsStep 136 = .ok (.aload_n 0, 1) := dk_42 (dk_at dksX5_readsStep_5 17 rfl rfl)
theorem dX5_readsStep_137 : decode cX5_readsStep 137 = .ok (.dup, 1) := dk_89 (dk_at dksX5_readsStep_5 18 rfl rfl)
theorem dX5_readsStep_138 : decode cX5_readsStep 138 = .ok (.getfield 302, 3) := dk_180 1 46 (dk_at dksX5_readsStep_5 19 rfl rfl)
theorem dX5_readsStep_141 : decode cX5_readsStep 141 = .ok (.iconst 1, 1) := dk_4 (dk_at dksX5_readsStep_5 22 rfl rfl)
theorem dX5_readsStep_142 : decode cX5_readsStep 142 = .ok (.iadd, 1) := dk_96 (dk_at dksX5_readsStep_5 23 rfl rfl)
theorem dX5_readsStep_143 : decode cX5_readsStep 143 = .ok (.putfield 302, 3) := dk_181 1 46 (dk_at dksX5_readsStep_6 0 rfl rfl)
theorem dX5_readsStep_146 : decode cX5_readsStep 146 = .ok (.iload_n 1, 1) := dk_27 (dk_at dksX5_readsStep_6 3 rfl rfl)
theorem dX5_readsStep_147 : decode cX5_readsStep 147 = .ok (.bipush 114, 2) := dk_16 114 (dk_at dksX5_readsStep_6 4 rfl rfl)
theorem dX5_readsStep_149 : decode cX5_readsStep 149 = .ok (.if_icmp .eq 26, 3) := dk_159 0 26 (dk_at dksX5_readsStep_6 6 rfl rfl)
theorem dX5_readsStep_152 : decode cX5_readsStep 152 = .ok (.iload_n 1, 1) := dk_27 (dk_at dksX5_readsStep_6 9 rfl rfl)
theorem dX5_readsStep_153 : decode cX5_readsStep 153 = .ok (.bipush 62, 2) := dk_16 62 (dk_at dksX5_readsStep_6 10 rfl rfl)
theorem dX5_readsStep_155 : decode cX5_readsStep 155 = .ok (.if_icmp .ne 13, 3) := dk_160 0 13 (dk_at dksX5_readsStep_6 12 rfl rfl)
theorem dX5_readsStep_158 : decode cX5_readsStep 158 = .ok (.aload_n 0, 1) := dk_42 (dk_at dksX5_readsStep_6 15 rfl rfl)
theorem dX5_readsStep_159 : decode cX5_readsStep 159 = .ok (.invokevirtual 314, 3) := dk_182 1 58 (dk_at dksX5_readsStep_6 16 rfl rfl)
theorem dX5_readsStep_162 : decode cX5_readsStep 162 = .ok (.ifCond .eq 17, 3) := dk_153 0 17 (dk_at dksX5_readsStep_6 19 rfl rfl)
theorem dX5_readsStep_165 : decode cX5_readsStep 165 = .ok (.goto 10, 3) := dk_167 0 10 (dk_at dksX5_readsStep_7 0 rfl rfl)
theorem dX5_readsStep_168 : decode cX5_readsStep 168 = .ok (.aload_n 0, 1) := dk_42 (dk_at dksX5_readsStep_7 3 rfl rfl)
theorem dX5_readsStep_169 : decode cX5_readsStep 169 = .ok (.invokevirtual 317, 3) := dk_182 1 61 (dk_at dksX5_readsStep_7 4 rfl rfl)
theorem dX5_readsStep_172 : decode cX5_readsStep 172 = .ok (.ifCond .eq 7, 3) := dk_153 0 7 (dk_at dksX5_readsStep_7 7 rfl rfl)
theorem dX5_readsStep_175 : decode cX5_readsStep 175 = .ok (.iconst 1, 1) := dk_4 (dk_at dksX5_readsStep_7 10 rfl rfl)
theorem dX5_readsStep_176 : decode cX5_readsStep 176 = .ok (.goto 4, 3) := dk_167 0 4 (dk_at dksX5_readsStep_7 11 rfl rfl)
theorem dX5_readsStep_179 : decode cX5_readsStep 179 = .ok (.iconst 0, 1) := dk_3 (dk_at dksX5_readsStep_7 14 rfl rfl)
theorem dX5_readsStep_180 : decode cX5_readsStep 180 = .ok (.ireturn, 1) := dk_172 (dk_at dksX5_readsStep_7 15 rfl rfl)
abbrev cX5_next : ByteArray := prog_25_method_95_code
def yX5_next : MethodName := ⟨RX5, "next", "()I"⟩
def dkwX5_next_1 : List UInt8 := [172]
abbrev dktX5_next_1 : List UInt8 := dkwX5_next_1 ++ []
def dkwX5_next_0 : List UInt8 := [42, 180, 1, 46, 42, 180, 1, 43, 162, 0, 15, 42, 180, 0, 49, 42, 180, 1, 46, 52, 167, 0, 4, 2]
abbrev dktX5_next_0 : List UInt8 := dkwX5_next_0 ++ dktX5_next_1
theorem dksX5_next_0 : cX5_next.data.toList.drop 0 = dktX5_next_0 := by decide +kernel
theorem dksX5_next_1 : cX5_next.data.toList.drop 24 = dktX5_next_1 := dk_seg dksX5_next_0 24 rfl rfl
theorem dX5_next_0 : decode cX5_next 0 = .ok (.aload_n 0, 1) := dk_42 (dk_at dksX5_next_0 0 rfl rfl)
theorem dX5_next_1 : decode cX5_next 1 = .ok (.getfield 302, 3) := dk_180 1 46 (dk_at dksX5_next_0 1 rfl rfl)
theorem dX5_next_4 : decode cX5_next 4 = .ok (.aload_n 0, 1) := dk_42 (dk_at dksX5_next_0 4 rfl rfl)
theorem dX5_next_5 : decode cX5_next 5 = .ok (.getfield 299, 3) := dk_180 1 43 (dk_at dksX5_next_0 5 rfl rfl)
theorem dX5_next_8 : decode cX5_next 8 = .ok (.if_icmp .ge 15, 3) := dk_162 0 15 (dk_at dksX5_next_0 8 rfl rfl)
theorem dX5_next_11 : decode cX5_next 11 = .ok (.aload_n 0, 1) := dk_42 (dk_at dksX5_next_0 11 rfl rfl)
theorem dX5_next_12 : decode cX5_next 12 = .ok (.getfield 49, 3) := dk_180 0 49 (dk_at dksX5_next_0 12 rfl rfl)
theorem dX5_next_15 : decode cX5_next 15 = .ok (.aload_n 0, 1) := dk_42 (dk_at dksX5_next_0 15 rfl rfl)
theorem dX5_next_16 : decode cX5_next 16 = .ok (.getfield 302, 3) := dk_180 1 46 (dk_at dksX5_next_0 16 rfl rfl)
theorem dX5_next_19 : decode cX5_next 19 = .ok (.caload, 1) := dk_52 (dk_at dksX5_next_0 19 rfl rfl)
theorem dX5_next_20 : decode cX5_next 20 = .ok (.goto 4, 3) := dk_167 0 4 (dk_at dksX5_next_0 20 rfl rfl)
theorem dX5_next_23 : decode cX5_next 23 = .ok (.iconst (-1), 1) := dk_2 (dk_at dksX5_next_0 23 rfl rfl)
theorem dX5_next_24 : decode cX5_next 24 = .ok (.ireturn, 1) := dk_172 (dk_at dksX5_next_1 0 rfl rfl)
abbrev cX5_readsPlace : ByteArray := prog_25_method_97_code
def yX5_readsPlace : MethodName := ⟨RX5, "readsPlace", "()Z"⟩
def dkwX5_readsPlace_4 : List UInt8 := [182, 1, 49, 96, 16, 48, 100, 79, 42, 89, 180, 1, 46, 4, 96, 181, 1, 46, 4, 172]
abbrev dktX5_readsPlace_4 : List UInt8 := dkwX5_readsPlace_4 ++ []
def dkwX5_readsPlace_3 : List UInt8 := [153, 0, 42, 42, 180, 0, 59, 42, 180, 1, 52, 16, 10, 42, 180, 0, 59, 42, 180, 1, 52, 46, 104, 42]
abbrev dktX5_readsPlace_3 : List UInt8 := dkwX5_readsPlace_3 ++ dktX5_readsPlace_4
def dkwX5_readsPlace_2 : List UInt8 := [42, 182, 1, 49, 16, 48, 100, 79, 42, 89, 180, 1, 46, 4, 96, 181, 1, 46, 42, 182, 1, 55]
abbrev dktX5_readsPlace_2 : List UInt8 := dkwX5_readsPlace_2 ++ dktX5_readsPlace_3
def dkwX5_readsPlace_1 : List UInt8 := [4, 96, 181, 1, 46, 4, 172, 42, 182, 1, 55, 154, 0, 5, 3, 172, 42, 180, 0, 59, 42, 180, 1, 52]
abbrev dktX5_readsPlace_1 : List UInt8 := dkwX5_readsPlace_1 ++ dktX5_readsPlace_2
def dkwX5_readsPlace_0 : List UInt8 := [42, 182, 1, 49, 16, 103, 160, 0, 25, 42, 180, 0, 59, 42, 180, 1, 52, 2, 79, 42, 89, 180, 1, 46]
abbrev dktX5_readsPlace_0 : List UInt8 := dkwX5_readsPlace_0 ++ dktX5_readsPlace_1
theorem dksX5_readsPlace_0 : cX5_readsPlace.data.toList.drop 0 = dktX5_readsPlace_0 := by decide +kernel
theorem dksX5_readsPlace_1 : cX5_readsPlace.data.toList.drop 24 = dktX5_readsPlace_1 := dk_seg dksX5_readsPlace_0 24 rfl rfl
theorem dksX5_readsPlace_2 : cX5_readsPlace.data.toList.drop 48 = dktX5_readsPlace_2 := dk_seg dksX5_readsPlace_1 24 rfl rfl
theorem dksX5_readsPlace_3 : cX5_readsPlace.data.toList.drop 70 = dktX5_readsPlace_3 := dk_seg dksX5_readsPlace_2 22 rfl rfl
theorem dksX5_readsPlace_4 : cX5_readsPlace.data.toList.drop 94 = dktX5_readsPlace_4 := dk_seg dksX5_readsPlace_3 24 rfl rfl
theorem dX5_readsPlace_0 : decode cX5_readsPlace 0 = .ok (.aload_n 0, 1) := dk_42 (dk_at dksX5_readsPlace_0 0 rfl rfl)
theorem dX5_readsPlace_1 : decode cX5_readsPlace 1 = .ok (.invokevirtual 305, 3) := dk_182 1 49 (dk_at dksX5_readsPlace_0 1 rfl rfl)
theorem dX5_readsPlace_4 : decode cX5_readsPlace 4 = .ok (.bipush 103, 2) := dk_16 103 (dk_at dksX5_readsPlace_0 4 rfl rfl)
theorem dX5_readsPlace_6 : decode cX5_readsPlace 6 = .ok (.if_icmp .ne 25, 3) := dk_160 0 25 (dk_at dksX5_readsPlace_0 6 rfl rfl)
theorem dX5_readsPlace_9 : decode cX5_readsPlace 9 = .ok (.aload_n 0, 1) := dk_42 (dk_at dksX5_readsPlace_0 9 rfl rfl)
theorem dX5_readsPlace_10 : decode cX5_readsPlace 10 = .ok (.getfield 59, 3) := dk_180 0 59 (dk_at dksX5_readsPlace_0 10 rfl rfl)
theorem dX5_readsPlace_13 : decode cX5_readsPlace 13 = .ok (.aload_n 0, 1) := dk_42 (dk_at dksX5_readsPlace_0 13 rfl rfl)
theorem dX5_readsPlace_14 : decode cX5_readsPlace 14 = .ok (.getfield 308, 3) := dk_180 1 52 (dk_at dksX5_readsPlace_0 14 rfl rfl)
theorem dX5_readsPlace_17 : decode cX5_readsPlace 17 = .ok (.iconst (-1), 1) := dk_2 (dk_at dksX5_readsPlace_0 17 rfl rfl)
theorem dX5_readsPlace_18 : decode cX5_readsPlace 18 = .ok (.iastore, 1) := dk_79 (dk_at dksX5_readsPlace_0 18 rfl rfl)
theorem dX5_readsPlace_19 : decode cX5_readsPlace 19 = .ok (.aload_n 0, 1) := dk_42 (dk_at dksX5_readsPlace_0 19 rfl rfl)
theorem dX5_readsPlace_20 : decode cX5_readsPlace 20 = .ok (.dup, 1) := dk_89 (dk_at dksX5_readsPlace_0 20 rfl rfl)
theorem dX5_readsPlace_21 : decode cX5_readsPlace 21 = .ok (.getfield 302, 3) := dk_180 1 46 (dk_at dksX5_readsPlace_0 21 rfl rfl)
theorem dX5_readsPlace_24 : decode cX5_readsPlace 24 = .ok (.iconst 1, 1) := dk_4 (dk_at dksX5_readsPlace_1 0 rfl rfl)
theorem dX5_readsPlace_25 : decode cX5_readsPlace 25 = .ok (.iadd, 1) := dk_96 (dk_at dksX5_readsPlace_1 1 rfl rfl)
theorem dX5_readsPlace_26 : decode cX5_readsPlace 26 = .ok (.putfield 302, 3) := dk_181 1 46 (dk_at dksX5_readsPlace_1 2 rfl rfl)
theorem dX5_readsPlace_29 : decode cX5_readsPlace 29 = .ok (.iconst 1, 1) := dk_4 (dk_at dksX5_readsPlace_1 5 rfl rfl)
theorem dX5_readsPlace_30 : decode cX5_readsPlace 30 = .ok (.ireturn, 1) := dk_172 (dk_at dksX5_readsPlace_1 6 rfl rfl)
theorem dX5_readsPlace_31 : decode cX5_readsPlace 31 = .ok (.aload_n 0, 1) := dk_42 (dk_at dksX5_readsPlace_1 7 rfl rfl)
theorem dX5_readsPlace_32 : decode cX5_readsPlace 32 = .ok (.invokevirtual 311, 3) := dk_182 1 55 (dk_at dksX5_readsPlace_1 8 rfl rfl)
theorem dX5_readsPlace_35 : decode cX5_readsPlace 35 = .ok (.ifCond .ne 5, 3) := dk_154 0 5 (dk_at dksX5_readsPlace_1 11 rfl rfl)
theorem dX5_readsPlace_38 : decode cX5_readsPlace 38 = .ok (.iconst 0, 1) := dk_3 (dk_at dksX5_readsPlace_1 14 rfl rfl)
theorem dX5_readsPlace_39 : decode cX5_readsPlace 39 = .ok (.ireturn, 1) := dk_172 (dk_at dksX5_readsPlace_1 15 rfl rfl)
theorem dX5_readsPlace_40 : decode cX5_readsPlace 40 = .ok (.aload_n 0, 1) := dk_42 (dk_at dksX5_readsPlace_1 16 rfl rfl)
theorem dX5_readsPlace_41 : decode cX5_readsPlace 41 = .ok (.getfield 59, 3) := dk_180 0 59 (dk_at dksX5_readsPlace_1 17 rfl rfl)
theorem dX5_readsPlace_44 : decode cX5_readsPlace 44 = .ok (.aload_n 0, 1) := dk_42 (dk_at dksX5_readsPlace_1 20 rfl rfl)
theorem dX5_readsPlace_45 : decode cX5_readsPlace 45 = .ok (.getfield 308, 3) := dk_180 1 52 (dk_at dksX5_readsPlace_1 21 rfl rfl)
theorem dX5_readsPlace_48 : decode cX5_readsPlace 48 = .ok (.aload_n 0, 1) := dk_42 (dk_at dksX5_readsPlace_2 0 rfl rfl)
theorem dX5_readsPlace_49 : decode cX5_readsPlace 49 = .ok (.invokevirtual 305, 3) := dk_182 1 49 (dk_at dksX5_readsPlace_2 1 rfl rfl)
theorem dX5_readsPlace_52 : decode cX5_readsPlace 52 = .ok (.bipush 48, 2) := dk_16 48 (dk_at dksX5_readsPlace_2 4 rfl rfl)
theorem dX5_readsPlace_54 : decode cX5_readsPlace 54 = .ok (.isub, 1) := dk_100 (dk_at dksX5_readsPlace_2 6 rfl rfl)
theorem dX5_readsPlace_55 : decode cX5_readsPlace 55 = .ok (.iastore, 1) := dk_79 (dk_at dksX5_readsPlace_2 7 rfl rfl)
theorem dX5_readsPlace_56 : decode cX5_readsPlace 56 = .ok (.aload_n 0, 1) := dk_42 (dk_at dksX5_readsPlace_2 8 rfl rfl)
theorem dX5_readsPlace_57 : decode cX5_readsPlace 57 = .ok (.dup, 1) := dk_89 (dk_at dksX5_readsPlace_2 9 rfl rfl)
theorem dX5_readsPlace_58 : decode cX5_readsPlace 58 = .ok (.getfield 302, 3) := dk_180 1 46 (dk_at dksX5_readsPlace_2 10 rfl rfl)
theorem dX5_readsPlace_61 : decode cX5_readsPlace 61 = .ok (.iconst 1, 1) := dk_4 (dk_at dksX5_readsPlace_2 13 rfl rfl)
theorem dX5_readsPlace_62 : decode cX5_readsPlace 62 = .ok (.iadd, 1) := dk_96 (dk_at dksX5_readsPlace_2 14 rfl rfl)
theorem dX5_readsPlace_63 : decode cX5_readsPlace 63 = .ok (.putfield 302, 3) := dk_181 1 46 (dk_at dksX5_readsPlace_2 15 rfl rfl)
theorem dX5_readsPlace_66 : decode cX5_readsPlace 66 = .ok (.aload_n 0, 1) := dk_42 (dk_at dksX5_readsPlace_2 18 rfl rfl)
theorem dX5_readsPlace_67 : decode cX5_readsPlace 67 = .ok (.invokevirtual 311, 3) := dk_182 1 55 (dk_at dksX5_readsPlace_2 19 rfl rfl)
theorem dX5_readsPlace_70 : decode cX5_readsPlace 70 = .ok (.ifCond .eq 42, 3) := dk_153 0 42 (dk_at dksX5_readsPlace_3 0 rfl rfl)
theorem dX5_readsPlace_73 : decode cX5_readsPlace 73 = .ok (.aload_n 0, 1) := dk_42 (dk_at dksX5_readsPlace_3 3 rfl rfl)
theorem dX5_readsPlace_74 : decode cX5_readsPlace 74 = .ok (.getfield 59, 3) := dk_180 0 59 (dk_at dksX5_readsPlace_3 4 rfl rfl)
theorem dX5_readsPlace_77 : decode cX5_readsPlace 77 = .ok (.aload_n 0, 1) := dk_42 (dk_at dksX5_readsPlace_3 7 rfl rfl)
theorem dX5_readsPlace_78 : decode cX5_readsPlace 78 = .ok (.getfield 308, 3) := dk_180 1 52 (dk_at dksX5_readsPlace_3 8 rfl rfl)
theorem dX5_readsPlace_81 : decode cX5_readsPlace 81 = .ok (.bipush 10, 2) := dk_16 10 (dk_at dksX5_readsPlace_3 11 rfl rfl)
theorem dX5_readsPlace_83 : decode cX5_readsPlace 83 = .ok (.aload_n 0, 1) := dk_42 (dk_at dksX5_readsPlace_3 13 rfl rfl)
theorem dX5_readsPlace_84 : decode cX5_readsPlace 84 = .ok (.getfield 59, 3) := dk_180 0 59 (dk_at dksX5_readsPlace_3 14 rfl rfl)
theorem dX5_readsPlace_87 : decode cX5_readsPlace 87 = .ok (.aload_n 0, 1) := dk_42 (dk_at dksX5_readsPlace_3 17 rfl rfl)
theorem dX5_readsPlace_88 : decode cX5_readsPlace 88 = .ok (.getfield 308, 3) := dk_180 1 52 (dk_at dksX5_readsPlace_3 18 rfl rfl)
theorem dX5_readsPlace_91 : decode cX5_readsPlace 91 = .ok (.iaload, 1) := dk_46 (dk_at dksX5_readsPlace_3 21 rfl rfl)
theorem dX5_readsPlace_92 : decode cX5_readsPlace 92 = .ok (.imul, 1) := dk_104 (dk_at dksX5_readsPlace_3 22 rfl rfl)
theorem dX5_readsPlace_93 : decode cX5_readsPlace 93 = .ok (.aload_n 0, 1) := dk_42 (dk_at dksX5_readsPlace_3 23 rfl rfl)
theorem dX5_readsPlace_94 : decode cX5_readsPlace 94 = .ok (.invokevirtual 305, 3) := dk_182 1 49 (dk_at dksX5_readsPlace_4 0 rfl rfl)
theorem dX5_readsPlace_97 : decode cX5_readsPlace 97 = .ok (.iadd, 1) := dk_96 (dk_at dksX5_readsPlace_4 3 rfl rfl)
theorem dX5_readsPlace_98 : decode cX5_readsPlace 98 = .ok (.bipush 48, 2) := dk_16 48 (dk_at dksX5_readsPlace_4 4 rfl rfl)
theorem dX5_readsPlace_100 : decode cX5_readsPlace 100 = .ok (.isub, 1) := dk_100 (dk_at dksX5_readsPlace_4 6 rfl rfl)
theorem dX5_readsPlace_101 : decode cX5_readsPlace 101 = .ok (.iastore, 1) := dk_79 (dk_at dksX5_readsPlace_4 7 rfl rfl)
theorem dX5_readsPlace_102 : decode cX5_readsPlace 102 = .ok (.aload_n 0, 1) := dk_42 (dk_at dksX5_readsPlace_4 8 rfl rfl)
theorem dX5_readsPlace_103 : decode cX5_readsPlace 103 = .ok (.dup, 1) := dk_89 (dk_at dksX5_readsPlace_4 9 rfl rfl)
theorem dX5_readsPlace_104 : decode cX5_readsPlace 104 = .ok (.getfield 302, 3) := dk_180 1 46 (dk_at dksX5_readsPlace_4 10 rfl rfl)
theorem dX5_readsPlace_107 : decode cX5_readsPlace 107 = .ok (.iconst 1, 1) := dk_4 (dk_at dksX5_readsPlace_4 13 rfl rfl)
theorem dX5_readsPlace_108 : decode cX5_readsPlace 108 = .ok (.iadd, 1) := dk_96 (dk_at dksX5_readsPlace_4 14 rfl rfl)
theorem dX5_readsPlace_109 : decode cX5_readsPlace 109 = .ok (.putfield 302, 3) := dk_181 1 46 (dk_at dksX5_readsPlace_4 15 rfl rfl)
theorem dX5_readsPlace_112 : decode cX5_readsPlace 112 = .ok (.iconst 1, 1) := dk_4 (dk_at dksX5_readsPlace_4 18 rfl rfl)
theorem dX5_readsPlace_113 : decode cX5_readsPlace 113 = .ok (.ireturn, 1) := dk_172 (dk_at dksX5_readsPlace_4 19 rfl rfl)
abbrev cX5_isDigit : ByteArray := prog_25_method_96_code
def yX5_isDigit : MethodName := ⟨RX5, "isDigit", "()Z"⟩
def dkwX5_isDigit_0 : List UInt8 := [42, 182, 1, 49, 16, 48, 16, 57, 184, 0, 97, 172]
abbrev dktX5_isDigit_0 : List UInt8 := dkwX5_isDigit_0 ++ []
theorem dksX5_isDigit_0 : cX5_isDigit.data.toList.drop 0 = dktX5_isDigit_0 := by decide +kernel
theorem dX5_isDigit_0 : decode cX5_isDigit 0 = .ok (.aload_n 0, 1) := dk_42 (dk_at dksX5_isDigit_0 0 rfl rfl)
theorem dX5_isDigit_1 : decode cX5_isDigit 1 = .ok (.invokevirtual 305, 3) := dk_182 1 49 (dk_at dksX5_isDigit_0 1 rfl rfl)
theorem dX5_isDigit_4 : decode cX5_isDigit 4 = .ok (.bipush 48, 2) := dk_16 48 (dk_at dksX5_isDigit_0 4 rfl rfl)
theorem dX5_isDigit_6 : decode cX5_isDigit 6 = .ok (.bipush 57, 2) := dk_16 57 (dk_at dksX5_isDigit_0 6 rfl rfl)
theorem dX5_isDigit_8 : decode cX5_isDigit 8 = .ok (.invokestatic 97, 3) := dk_184 0 97 (dk_at dksX5_isDigit_0 8 rfl rfl)
theorem dX5_isDigit_11 : decode cX5_isDigit 11 = .ok (.ireturn, 1) := dk_172 (dk_at dksX5_isDigit_0 11 rfl rfl)
abbrev cX5_readsLamp : ByteArray := prog_25_method_98_code
def yX5_readsLamp : MethodName := ⟨RX5, "readsLamp", "()Z"⟩
def dkwX5_readsLamp_1 : List UInt8 := [79, 42, 89, 180, 1, 46, 4, 96, 181, 1, 46, 4, 172]
abbrev dktX5_readsLamp_1 : List UInt8 := dkwX5_readsLamp_1 ++ []
def dkwX5_readsLamp_0 : List UInt8 := [42, 182, 1, 55, 154, 0, 5, 3, 172, 42, 180, 0, 59, 42, 180, 1, 52, 42, 182, 1, 49, 16, 48, 100]
abbrev dktX5_readsLamp_0 : List UInt8 := dkwX5_readsLamp_0 ++ dktX5_readsLamp_1
theorem dksX5_readsLamp_0 : cX5_readsLamp.data.toList.drop 0 = dktX5_readsLamp_0 := by decide +kernel
theorem dksX5_readsLamp_1 : cX5_readsLamp.data.toList.drop 24 = dktX5_readsLamp_1 := dk_seg dksX5_readsLamp_0 24 rfl rfl
theorem dX5_readsLamp_0 : decode cX5_readsLamp 0 = .ok (.aload_n 0, 1) := dk_42 (dk_at dksX5_readsLamp_0 0 rfl rfl)
theorem dX5_readsLamp_1 : decode cX5_readsLamp 1 = .ok (.invokevirtual 311, 3) := dk_182 1 55 (dk_at dksX5_readsLamp_0 1 rfl rfl)
theorem dX5_readsLamp_4 : decode cX5_readsLamp 4 = .ok (.ifCond .ne 5, 3) := dk_154 0 5 (dk_at dksX5_readsLamp_0 4 rfl rfl)
theorem dX5_readsLamp_7 : decode cX5_readsLamp 7 = .ok (.iconst 0, 1) := dk_3 (dk_at dksX5_readsLamp_0 7 rfl rfl)
theorem dX5_readsLamp_8 : decode cX5_readsLamp 8 = .ok (.ireturn, 1) := dk_172 (dk_at dksX5_readsLamp_0 8 rfl rfl)
theorem dX5_readsLamp_9 : decode cX5_readsLamp 9 = .ok (.aload_n 0, 1) := dk_42 (dk_at dksX5_readsLamp_0 9 rfl rfl)
theorem dX5_readsLamp_10 : decode cX5_readsLamp 10 = .ok (.getfield 59, 3) := dk_180 0 59 (dk_at dksX5_readsLamp_0 10 rfl rfl)
theorem dX5_readsLamp_13 : decode cX5_readsLamp 13 = .ok (.aload_n 0, 1) := dk_42 (dk_at dksX5_readsLamp_0 13 rfl rfl)
theorem dX5_readsLamp_14 : decode cX5_readsLamp 14 = .ok (.getfield 308, 3) := dk_180 1 52 (dk_at dksX5_readsLamp_0 14 rfl rfl)
theorem dX5_readsLamp_17 : decode cX5_readsLamp 17 = .ok (.aload_n 0, 1) := dk_42 (dk_at dksX5_readsLamp_0 17 rfl rfl)
theorem dX5_readsLamp_18 : decode cX5_readsLamp 18 = .ok (.invokevirtual 305, 3) := dk_182 1 49 (dk_at dksX5_readsLamp_0 18 rfl rfl)
theorem dX5_readsLamp_21 : decode cX5_readsLamp 21 = .ok (.bipush 48, 2) := dk_16 48 (dk_at dksX5_readsLamp_0 21 rfl rfl)
theorem dX5_readsLamp_23 : decode cX5_readsLamp 23 = .ok (.isub, 1) := dk_100 (dk_at dksX5_readsLamp_0 23 rfl rfl)
theorem dX5_readsLamp_24 : decode cX5_readsLamp 24 = .ok (.iastore, 1) := dk_79 (dk_at dksX5_readsLamp_1 0 rfl rfl)
theorem dX5_readsLamp_25 : decode cX5_readsLamp 25 = .ok (.aload_n 0, 1) := dk_42 (dk_at dksX5_readsLamp_1 1 rfl rfl)
theorem dX5_readsLamp_26 : decode cX5_readsLamp 26 = .ok (.dup, 1) := dk_89 (dk_at dksX5_readsLamp_1 2 rfl rfl)
theorem dX5_readsLamp_27 : decode cX5_readsLamp 27 = .ok (.getfield 302, 3) := dk_180 1 46 (dk_at dksX5_readsLamp_1 3 rfl rfl)
theorem dX5_readsLamp_30 : decode cX5_readsLamp 30 = .ok (.iconst 1, 1) := dk_4 (dk_at dksX5_readsLamp_1 6 rfl rfl)
theorem dX5_readsLamp_31 : decode cX5_readsLamp 31 = .ok (.iadd, 1) := dk_96 (dk_at dksX5_readsLamp_1 7 rfl rfl)
theorem dX5_readsLamp_32 : decode cX5_readsLamp 32 = .ok (.putfield 302, 3) := dk_181 1 46 (dk_at dksX5_readsLamp_1 8 rfl rfl)
theorem dX5_readsLamp_35 : decode cX5_readsLamp 35 = .ok (.iconst 1, 1) := dk_4 (dk_at dksX5_readsLamp_1 11 rfl rfl)
theorem dX5_readsLamp_36 : decode cX5_readsLamp 36 = .ok (.ireturn, 1) := dk_172 (dk_at dksX5_readsLamp_1 12 rfl rfl)
abbrev cX5_goesOn : ByteArray := prog_25_method_104_code
def yX5_goesOn : MethodName := ⟨RX5, "goesOn", "()I"⟩
def dkwX5_goesOn_3 : List UInt8 := [132, 1, 1, 167, 255, 190, 27, 172]
abbrev dktX5_goesOn_3 : List UInt8 := dkwX5_goesOn_3 ++ []
def dkwX5_goesOn_2 : List UInt8 := [181, 1, 67, 167, 255, 212, 42, 27, 182, 1, 76, 153, 0, 11, 42, 5, 181, 1, 67, 167, 255, 196]
abbrev dktX5_goesOn_2 : List UInt8 := dkwX5_goesOn_2 ++ dktX5_goesOn_3
def dkwX5_goesOn_1 : List UInt8 := [182, 1, 70, 154, 0, 11, 42, 4, 181, 1, 67, 167, 255, 228, 42, 27, 182, 1, 73, 153, 0, 11, 42, 5]
abbrev dktX5_goesOn_1 : List UInt8 := dkwX5_goesOn_1 ++ dktX5_goesOn_2
def dkwX5_goesOn_0 : List UInt8 := [42, 3, 181, 1, 67, 3, 60, 27, 42, 180, 1, 52, 162, 0, 64, 42, 180, 1, 67, 154, 0, 57, 42, 27]
abbrev dktX5_goesOn_0 : List UInt8 := dkwX5_goesOn_0 ++ dktX5_goesOn_1
theorem dksX5_goesOn_0 : cX5_goesOn.data.toList.drop 0 = dktX5_goesOn_0 := by decide +kernel
theorem dksX5_goesOn_1 : cX5_goesOn.data.toList.drop 24 = dktX5_goesOn_1 := dk_seg dksX5_goesOn_0 24 rfl rfl
theorem dksX5_goesOn_2 : cX5_goesOn.data.toList.drop 48 = dktX5_goesOn_2 := dk_seg dksX5_goesOn_1 24 rfl rfl
theorem dksX5_goesOn_3 : cX5_goesOn.data.toList.drop 70 = dktX5_goesOn_3 := dk_seg dksX5_goesOn_2 22 rfl rfl
theorem dX5_goesOn_0 : decode cX5_goesOn 0 = .ok (.aload_n 0, 1) := dk_42 (dk_at dksX5_goesOn_0 0 rfl rfl)
theorem dX5_goesOn_1 : decode cX5_goesOn 1 = .ok (.iconst 0, 1) := dk_3 (dk_at dksX5_goesOn_0 1 rfl rfl)
theorem dX5_goesOn_2 : decode cX5_goesOn 2 = .ok (.putfield 323, 3) := dk_181 1 67 (dk_at dksX5_goesOn_0 2 rfl rfl)
theorem dX5_goesOn_5 : decode cX5_goesOn 5 = .ok (.iconst 0, 1) := dk_3 (dk_at dksX5_goesOn_0 5 rfl rfl)
theorem dX5_goesOn_6 : decode cX5_goesOn 6 = .ok (.istore_n 1, 1) := dk_60 (dk_at dksX5_goesOn_0 6 rfl rfl)
theorem dX5_goesOn_7 : decode cX5_goesOn 7 = .ok (.iload_n 1, 1) := dk_27 (dk_at dksX5_goesOn_0 7 rfl rfl)
theorem dX5_goesOn_8 : decode cX5_goesOn 8 = .ok (.aload_n 0, 1) := dk_42 (dk_at dksX5_goesOn_0 8 rfl rfl)
theorem dX5_goesOn_9 : decode cX5_goesOn 9 = .ok (.getfield 308, 3) := dk_180 1 52 (dk_at dksX5_goesOn_0 9 rfl rfl)
theorem dX5_goesOn_12 : decode cX5_goesOn 12 = .ok (.if_icmp .ge 64, 3) := dk_162 0 64 (dk_at dksX5_goesOn_0 12 rfl rfl)
theorem dX5_goesOn_15 : decode cX5_goesOn 15 = .ok (.aload_n 0, 1) := dk_42 (dk_at dksX5_goesOn_0 15 rfl rfl)
theorem dX5_goesOn_16 : decode cX5_goesOn 16 = .ok (.getfield 323, 3) := dk_180 1 67 (dk_at dksX5_goesOn_0 16 rfl rfl)
theorem dX5_goesOn_19 : decode cX5_goesOn 19 = .ok (.ifCond .ne 57, 3) := dk_154 0 57 (dk_at dksX5_goesOn_0 19 rfl rfl)
theorem dX5_goesOn_22 : decode cX5_goesOn 22 = .ok (.aload_n 0, 1) := dk_42 (dk_at dksX5_goesOn_0 22 rfl rfl)
theorem dX5_goesOn_23 : decode cX5_goesOn 23 = .ok (.iload_n 1, 1) := dk_27 (dk_at dksX5_goesOn_0 23 rfl rfl)
theorem dX5_goesOn_24 : decode cX5_goesOn 24 = .ok (.invokevirtual 326, 3) := dk_182 1 70 (dk_at dksX5_goesOn_1 0 rfl rfl)
theorem dX5_goesOn_27 : decode cX5_goesOn 27 = .ok (.ifCond .ne 11, 3) := dk_154 0 11 (dk_at dksX5_goesOn_1 3 rfl rfl)
theorem dX5_goesOn_30 : decode cX5_goesOn 30 = .ok (.aload_n 0, 1) := dk_42 (dk_at dksX5_goesOn_1 6 rfl rfl)
theorem dX5_goesOn_31 : decode cX5_goesOn 31 = .ok (.iconst 1, 1) := dk_4 (dk_at dksX5_goesOn_1 7 rfl rfl)
theorem dX5_goesOn_32 : decode cX5_goesOn 32 = .ok (.putfield 323, 3) := dk_181 1 67 (dk_at dksX5_goesOn_1 8 rfl rfl)
theorem dX5_goesOn_35 : decode cX5_goesOn 35 = .ok (.goto (-28), 3) := dk_167 255 228 (dk_at dksX5_goesOn_1 11 rfl rfl)
theorem dX5_goesOn_38 : decode cX5_goesOn 38 = .ok (.aload_n 0, 1) := dk_42 (dk_at dksX5_goesOn_1 14 rfl rfl)
theorem dX5_goesOn_39 : decode cX5_goesOn 39 = .ok (.iload_n 1, 1) := dk_27 (dk_at dksX5_goesOn_1 15 rfl rfl)
theorem dX5_goesOn_40 : decode cX5_goesOn 40 = .ok (.invokevirtual 329, 3) := dk_182 1 73 (dk_at dksX5_goesOn_1 16 rfl rfl)
theorem dX5_goesOn_43 : decode cX5_goesOn 43 = .ok (.ifCond .eq 11, 3) := dk_153 0 11 (dk_at dksX5_goesOn_1 19 rfl rfl)
theorem dX5_goesOn_46 : decode cX5_goesOn 46 = .ok (.aload_n 0, 1) := dk_42 (dk_at dksX5_goesOn_1 22 rfl rfl)
theorem dX5_goesOn_47 : decode cX5_goesOn 47 = .ok (.iconst 2, 1) := dk_5 (dk_at dksX5_goesOn_1 23 rfl rfl)
theorem dX5_goesOn_48 : decode cX5_goesOn 48 = .ok (.putfield 323, 3) := dk_181 1 67 (dk_at dksX5_goesOn_2 0 rfl rfl)
theorem dX5_goesOn_51 : decode cX5_goesOn 51 = .ok (.goto (-44), 3) := dk_167 255 212 (dk_at dksX5_goesOn_2 3 rfl rfl)
theorem dX5_goesOn_54 : decode cX5_goesOn 54 = .ok (.aload_n 0, 1) := dk_42 (dk_at dksX5_goesOn_2 6 rfl rfl)
theorem dX5_goesOn_55 : decode cX5_goesOn 55 = .ok (.iload_n 1, 1) := dk_27 (dk_at dksX5_goesOn_2 7 rfl rfl)
theorem dX5_goesOn_56 : decode cX5_goesOn 56 = .ok (.invokevirtual 332, 3) := dk_182 1 76 (dk_at dksX5_goesOn_2 8 rfl rfl)
theorem dX5_goesOn_59 : decode cX5_goesOn 59 = .ok (.ifCond .eq 11, 3) := dk_153 0 11 (dk_at dksX5_goesOn_2 11 rfl rfl)
theorem dX5_goesOn_62 : decode cX5_goesOn 62 = .ok (.aload_n 0, 1) := dk_42 (dk_at dksX5_goesOn_2 14 rfl rfl)
theorem dX5_goesOn_63 : decode cX5_goesOn 63 = .ok (.iconst 2, 1) := dk_5 (dk_at dksX5_goesOn_2 15 rfl rfl)
theorem dX5_goesOn_64 : decode cX5_goesOn 64 = .ok (.putfield 323, 3) := dk_181 1 67 (dk_at dksX5_goesOn_2 16 rfl rfl)
theorem dX5_goesOn_67 : decode cX5_goesOn 67 = .ok (.goto (-60), 3) := dk_167 255 196 (dk_at dksX5_goesOn_2 19 rfl rfl)
theorem dX5_goesOn_70 : decode cX5_goesOn 70 = .ok (.iinc 1 1, 3) := dk_132 1 1 (dk_at dksX5_goesOn_3 0 rfl rfl)
theorem dX5_goesOn_73 : decode cX5_goesOn 73 = .ok (.goto (-66), 3) := dk_167 255 190 (dk_at dksX5_goesOn_3 3 rfl rfl)
theorem dX5_goesOn_76 : decode cX5_goesOn 76 = .ok (.iload_n 1, 1) := dk_27 (dk_at dksX5_goesOn_3 6 rfl rfl)
theorem dX5_goesOn_77 : decode cX5_goesOn 77 = .ok (.ireturn, 1) := dk_172 (dk_at dksX5_goesOn_3 7 rfl rfl)
abbrev cX5_isTold : ByteArray := prog_25_method_103_code
def yX5_isTold : MethodName := ⟨RX5, "isTold", "(I)Z"⟩
def dkwX5_isTold_3 : List UInt8 := [167, 0, 4, 3, 172]
abbrev dktX5_isTold_3 : List UInt8 := dkwX5_isTold_3 ++ []
def dkwX5_isTold_2 : List UInt8 := [180, 0, 53, 27, 46, 16, 117, 159, 0, 16, 42, 42, 180, 0, 59, 27, 46, 182, 0, 164, 153, 0, 7, 4]
abbrev dktX5_isTold_2 : List UInt8 := dkwX5_isTold_2 ++ dktX5_isTold_3
def dkwX5_isTold_1 : List UInt8 := [42, 180, 0, 53, 27, 46, 16, 114, 159, 0, 38, 42, 180, 0, 53, 27, 46, 16, 99, 159, 0, 27, 42]
abbrev dktX5_isTold_1 : List UInt8 := dkwX5_isTold_1 ++ dktX5_isTold_2
def dkwX5_isTold_0 : List UInt8 := [42, 180, 0, 53, 27, 46, 16, 62, 160, 0, 16, 42, 42, 180, 0, 59, 27, 46, 182, 0, 161, 167, 0, 54]
abbrev dktX5_isTold_0 : List UInt8 := dkwX5_isTold_0 ++ dktX5_isTold_1
theorem dksX5_isTold_0 : cX5_isTold.data.toList.drop 0 = dktX5_isTold_0 := by decide +kernel
theorem dksX5_isTold_1 : cX5_isTold.data.toList.drop 24 = dktX5_isTold_1 := dk_seg dksX5_isTold_0 24 rfl rfl
theorem dksX5_isTold_2 : cX5_isTold.data.toList.drop 47 = dktX5_isTold_2 := dk_seg dksX5_isTold_1 23 rfl rfl
theorem dksX5_isTold_3 : cX5_isTold.data.toList.drop 71 = dktX5_isTold_3 := dk_seg dksX5_isTold_2 24 rfl rfl
theorem dX5_isTold_0 : decode cX5_isTold 0 = .ok (.aload_n 0, 1) := dk_42 (dk_at dksX5_isTold_0 0 rfl rfl)
theorem dX5_isTold_1 : decode cX5_isTold 1 = .ok (.getfield 53, 3) := dk_180 0 53 (dk_at dksX5_isTold_0 1 rfl rfl)
theorem dX5_isTold_4 : decode cX5_isTold 4 = .ok (.iload_n 1, 1) := dk_27 (dk_at dksX5_isTold_0 4 rfl rfl)
theorem dX5_isTold_5 : decode cX5_isTold 5 = .ok (.iaload, 1) := dk_46 (dk_at dksX5_isTold_0 5 rfl rfl)
theorem dX5_isTold_6 : decode cX5_isTold 6 = .ok (.bipush 62, 2) := dk_16 62 (dk_at dksX5_isTold_0 6 rfl rfl)
theorem dX5_isTold_8 : decode cX5_isTold 8 = .ok (.if_icmp .ne 16, 3) := dk_160 0 16 (dk_at dksX5_isTold_0 8 rfl rfl)
theorem dX5_isTold_11 : decode cX5_isTold 11 = .ok (.aload_n 0, 1) := dk_42 (dk_at dksX5_isTold_0 11 rfl rfl)
theorem dX5_isTold_12 : decode cX5_isTold 12 = .ok (.aload_n 0, 1) := dk_42 (dk_at dksX5_isTold_0 12 rfl rfl)
theorem dX5_isTold_13 : decode cX5_isTold 13 = .ok (.getfield 59, 3) := dk_180 0 59 (dk_at dksX5_isTold_0 13 rfl rfl)
theorem dX5_isTold_16 : decode cX5_isTold 16 = .ok (.iload_n 1, 1) := dk_27 (dk_at dksX5_isTold_0 16 rfl rfl)
theorem dX5_isTold_17 : decode cX5_isTold 17 = .ok (.iaload, 1) := dk_46 (dk_at dksX5_isTold_0 17 rfl rfl)
theorem dX5_isTold_18 : decode cX5_isTold 18 = .ok (.invokevirtual 161, 3) := dk_182 0 161 (dk_at dksX5_isTold_0 18 rfl rfl)
theorem dX5_isTold_21 : decode cX5_isTold 21 = .ok (.goto 54, 3) := dk_167 0 54 (dk_at dksX5_isTold_0 21 rfl rfl)
theorem dX5_isTold_24 : decode cX5_isTold 24 = .ok (.aload_n 0, 1) := dk_42 (dk_at dksX5_isTold_1 0 rfl rfl)
theorem dX5_isTold_25 : decode cX5_isTold 25 = .ok (.getfield 53, 3) := dk_180 0 53 (dk_at dksX5_isTold_1 1 rfl rfl)
theorem dX5_isTold_28 : decode cX5_isTold 28 = .ok (.iload_n 1, 1) := dk_27 (dk_at dksX5_isTold_1 4 rfl rfl)
theorem dX5_isTold_29 : decode cX5_isTold 29 = .ok (.iaload, 1) := dk_46 (dk_at dksX5_isTold_1 5 rfl rfl)
theorem dX5_isTold_30 : decode cX5_isTold 30 = .ok (.bipush 114, 2) := dk_16 114 (dk_at dksX5_isTold_1 6 rfl rfl)
theorem dX5_isTold_32 : decode cX5_isTold 32 = .ok (.if_icmp .eq 38, 3) := dk_159 0 38 (dk_at dksX5_isTold_1 8 rfl rfl)
theorem dX5_isTold_35 : decode cX5_isTold 35 = .ok (.aload_n 0, 1) := dk_42 (dk_at dksX5_isTold_1 11 rfl rfl)
theorem dX5_isTold_36 : decode cX5_isTold 36 = .ok (.getfield 53, 3) := dk_180 0 53 (dk_at dksX5_isTold_1 12 rfl rfl)
theorem dX5_isTold_39 : decode cX5_isTold 39 = .ok (.iload_n 1, 1) := dk_27 (dk_at dksX5_isTold_1 15 rfl rfl)
theorem dX5_isTold_40 : decode cX5_isTold 40 = .ok (.iaload, 1) := dk_46 (dk_at dksX5_isTold_1 16 rfl rfl)
theorem dX5_isTold_41 : decode cX5_isTold 41 = .ok (.bipush 99, 2) := dk_16 99 (dk_at dksX5_isTold_1 17 rfl rfl)
theorem dX5_isTold_43 : decode cX5_isTold 43 = .ok (.if_icmp .eq 27, 3) := dk_159 0 27 (dk_at dksX5_isTold_1 19 rfl rfl)
theorem dX5_isTold_46 : decode cX5_isTold 46 = .ok (.aload_n 0, 1) := dk_42 (dk_at dksX5_isTold_1 22 rfl rfl)
theorem dX5_isTold_47 : decode cX5_isTold 47 = .ok (.getfield 53, 3) := dk_180 0 53 (dk_at dksX5_isTold_2 0 rfl rfl)
theorem dX5_isTold_50 : decode cX5_isTold 50 = .ok (.iload_n 1, 1) := dk_27 (dk_at dksX5_isTold_2 3 rfl rfl)
theorem dX5_isTold_51 : decode cX5_isTold 51 = .ok (.iaload, 1) := dk_46 (dk_at dksX5_isTold_2 4 rfl rfl)
theorem dX5_isTold_52 : decode cX5_isTold 52 = .ok (.bipush 117, 2) := dk_16 117 (dk_at dksX5_isTold_2 5 rfl rfl)
theorem dX5_isTold_54 : decode cX5_isTold 54 = .ok (.if_icmp .eq 16, 3) := dk_159 0 16 (dk_at dksX5_isTold_2 7 rfl rfl)
theorem dX5_isTold_57 : decode cX5_isTold 57 = .ok (.aload_n 0, 1) := dk_42 (dk_at dksX5_isTold_2 10 rfl rfl)
theorem dX5_isTold_58 : decode cX5_isTold 58 = .ok (.aload_n 0, 1) := dk_42 (dk_at dksX5_isTold_2 11 rfl rfl)
theorem dX5_isTold_59 : decode cX5_isTold 59 = .ok (.getfield 59, 3) := dk_180 0 59 (dk_at dksX5_isTold_2 12 rfl rfl)
theorem dX5_isTold_62 : decode cX5_isTold 62 = .ok (.iload_n 1, 1) := dk_27 (dk_at dksX5_isTold_2 15 rfl rfl)
theorem dX5_isTold_63 : decode cX5_isTold 63 = .ok (.iaload, 1) := dk_46 (dk_at dksX5_isTold_2 16 rfl rfl)
theorem dX5_isTold_64 : decode cX5_isTold 64 = .ok (.invokevirtual 164, 3) := dk_182 0 164 (dk_at dksX5_isTold_2 17 rfl rfl)
theorem dX5_isTold_67 : decode cX5_isTold 67 = .ok (.ifCond .eq 7, 3) := dk_153 0 7 (dk_at dksX5_isTold_2 20 rfl rfl)
theorem dX5_isTold_70 : decode cX5_isTold 70 = .ok (.iconst 1, 1) := dk_4 (dk_at dksX5_isTold_2 23 rfl rfl)
theorem dX5_isTold_71 : decode cX5_isTold 71 = .ok (.goto 4, 3) := dk_167 0 4 (dk_at dksX5_isTold_3 0 rfl rfl)
theorem dX5_isTold_74 : decode cX5_isTold 74 = .ok (.iconst 0, 1) := dk_3 (dk_at dksX5_isTold_3 3 rfl rfl)
theorem dX5_isTold_75 : decode cX5_isTold 75 = .ok (.ireturn, 1) := dk_172 (dk_at dksX5_isTold_3 4 rfl rfl)
abbrev cX5_mayNot : ByteArray := prog_25_method_101_code
def yX5_mayNot : MethodName := ⟨RX5, "mayNot", "(I)Z"⟩
def dkwX5_mayNot_3 : List UInt8 := [182, 1, 23, 172, 42, 28, 29, 182, 1, 29, 172, 42, 182, 0, 170, 172, 42, 182, 0, 181, 172]
abbrev dktX5_mayNot_3 : List UInt8 := dkwX5_mayNot_3 ++ []
def dkwX5_mayNot_2 : List UInt8 := [42, 28, 29, 182, 0, 249, 172, 42, 28, 4, 182, 0, 177, 172, 42, 28, 29, 182, 1, 20, 172, 42, 28, 29]
abbrev dktX5_mayNot_2 : List UInt8 := dkwX5_mayNot_2 ++ dktX5_mayNot_3
def dkwX5_mayNot_1 : List UInt8 := [171, 0, 0, 0, 0, 0, 0, 100, 0, 0, 0, 6, 0, 0, 0, 42, 0, 0, 0, 88, 0, 0, 0, 43, 0, 0, 0, 74, 0, 0, 0, 45, 0, 0, 0, 81, 0, 0, 0, 62, 0, 0, 0, 60, 0, 0, 0, 99, 0, 0, 0, 95, 0, 0, 0, 114, 0, 0, 0, 67]
abbrev dktX5_mayNot_1 : List UInt8 := dkwX5_mayNot_1 ++ dktX5_mayNot_2
def dkwX5_mayNot_0 : List UInt8 := [42, 180, 0, 56, 27, 46, 61, 42, 180, 0, 59, 27, 46, 62, 42, 180, 0, 53, 27, 46]
abbrev dktX5_mayNot_0 : List UInt8 := dkwX5_mayNot_0 ++ dktX5_mayNot_1
theorem dksX5_mayNot_0 : cX5_mayNot.data.toList.drop 0 = dktX5_mayNot_0 := by decide +kernel
theorem dksX5_mayNot_1 : cX5_mayNot.data.toList.drop 20 = dktX5_mayNot_1 := dk_seg dksX5_mayNot_0 20 rfl rfl
theorem dksX5_mayNot_2 : cX5_mayNot.data.toList.drop 80 = dktX5_mayNot_2 := dk_seg dksX5_mayNot_1 60 rfl rfl
theorem dksX5_mayNot_3 : cX5_mayNot.data.toList.drop 104 = dktX5_mayNot_3 := dk_seg dksX5_mayNot_2 24 rfl rfl
theorem dX5_mayNot_0 : decode cX5_mayNot 0 = .ok (.aload_n 0, 1) := dk_42 (dk_at dksX5_mayNot_0 0 rfl rfl)
theorem dX5_mayNot_1 : decode cX5_mayNot 1 = .ok (.getfield 56, 3) := dk_180 0 56 (dk_at dksX5_mayNot_0 1 rfl rfl)
theorem dX5_mayNot_4 : decode cX5_mayNot 4 = .ok (.iload_n 1, 1) := dk_27 (dk_at dksX5_mayNot_0 4 rfl rfl)
theorem dX5_mayNot_5 : decode cX5_mayNot 5 = .ok (.iaload, 1) := dk_46 (dk_at dksX5_mayNot_0 5 rfl rfl)
theorem dX5_mayNot_6 : decode cX5_mayNot 6 = .ok (.istore_n 2, 1) := dk_61 (dk_at dksX5_mayNot_0 6 rfl rfl)
theorem dX5_mayNot_7 : decode cX5_mayNot 7 = .ok (.aload_n 0, 1) := dk_42 (dk_at dksX5_mayNot_0 7 rfl rfl)
theorem dX5_mayNot_8 : decode cX5_mayNot 8 = .ok (.getfield 59, 3) := dk_180 0 59 (dk_at dksX5_mayNot_0 8 rfl rfl)
theorem dX5_mayNot_11 : decode cX5_mayNot 11 = .ok (.iload_n 1, 1) := dk_27 (dk_at dksX5_mayNot_0 11 rfl rfl)
theorem dX5_mayNot_12 : decode cX5_mayNot 12 = .ok (.iaload, 1) := dk_46 (dk_at dksX5_mayNot_0 12 rfl rfl)
theorem dX5_mayNot_13 : decode cX5_mayNot 13 = .ok (.istore_n 3, 1) := dk_62 (dk_at dksX5_mayNot_0 13 rfl rfl)
theorem dX5_mayNot_14 : decode cX5_mayNot 14 = .ok (.aload_n 0, 1) := dk_42 (dk_at dksX5_mayNot_0 14 rfl rfl)
theorem dX5_mayNot_15 : decode cX5_mayNot 15 = .ok (.getfield 53, 3) := dk_180 0 53 (dk_at dksX5_mayNot_0 15 rfl rfl)
theorem dX5_mayNot_18 : decode cX5_mayNot 18 = .ok (.iload_n 1, 1) := dk_27 (dk_at dksX5_mayNot_0 18 rfl rfl)
theorem dX5_mayNot_19 : decode cX5_mayNot 19 = .ok (.iaload, 1) := dk_46 (dk_at dksX5_mayNot_0 19 rfl rfl)
theorem dX5_mayNot_20 : decode cX5_mayNot 20 = .ok (.lookupswitch 100 #[(42, 88), (43, 74), (45, 81), (62, 60), (99, 95), (114, 67)], 60) := by decide +kernel
theorem dX5_mayNot_80 : decode cX5_mayNot 80 = .ok (.aload_n 0, 1) := dk_42 (dk_at dksX5_mayNot_2 0 rfl rfl)
theorem dX5_mayNot_81 : decode cX5_mayNot 81 = .ok (.iload_n 2, 1) := dk_28 (dk_at dksX5_mayNot_2 1 rfl rfl)
theorem dX5_mayNot_82 : decode cX5_mayNot 82 = .ok (.iload_n 3, 1) := dk_29 (dk_at dksX5_mayNot_2 2 rfl rfl)
theorem dX5_mayNot_83 : decode cX5_mayNot 83 = .ok (.invokevirtual 249, 3) := dk_182 0 249 (dk_at dksX5_mayNot_2 3 rfl rfl)
theorem dX5_mayNot_86 : decode cX5_mayNot 86 = .ok (.ireturn, 1) := dk_172 (dk_at dksX5_mayNot_2 6 rfl rfl)
theorem dX5_mayNot_87 : decode cX5_mayNot 87 = .ok (.aload_n 0, 1) := dk_42 (dk_at dksX5_mayNot_2 7 rfl rfl)
theorem dX5_mayNot_88 : decode cX5_mayNot 88 = .ok (.iload_n 2, 1) := dk_28 (dk_at dksX5_mayNot_2 8 rfl rfl)
theorem dX5_mayNot_89 : decode cX5_mayNot 89 = .ok (.iconst 1, 1) := dk_4 (dk_at dksX5_mayNot_2 9 rfl rfl)
theorem dX5_mayNot_90 : decode cX5_mayNot 90 = .ok (.invokevirtual 177, 3) := dk_182 0 177 (dk_at dksX5_mayNot_2 10 rfl rfl)
theorem dX5_mayNot_93 : decode cX5_mayNot 93 = .ok (.ireturn, 1) := dk_172 (dk_at dksX5_mayNot_2 13 rfl rfl)
theorem dX5_mayNot_94 : decode cX5_mayNot 94 = .ok (.aload_n 0, 1) := dk_42 (dk_at dksX5_mayNot_2 14 rfl rfl)
theorem dX5_mayNot_95 : decode cX5_mayNot 95 = .ok (.iload_n 2, 1) := dk_28 (dk_at dksX5_mayNot_2 15 rfl rfl)
theorem dX5_mayNot_96 : decode cX5_mayNot 96 = .ok (.iload_n 3, 1) := dk_29 (dk_at dksX5_mayNot_2 16 rfl rfl)
theorem dX5_mayNot_97 : decode cX5_mayNot 97 = .ok (.invokevirtual 276, 3) := dk_182 1 20 (dk_at dksX5_mayNot_2 17 rfl rfl)
theorem dX5_mayNot_100 : decode cX5_mayNot 100 = .ok (.ireturn, 1) := dk_172 (dk_at dksX5_mayNot_2 20 rfl rfl)
theorem dX5_mayNot_101 : decode cX5_mayNot 101 = .ok (.aload_n 0, 1) := dk_42 (dk_at dksX5_mayNot_2 21 rfl rfl)
theorem dX5_mayNot_102 : decode cX5_mayNot 102 = .ok (.iload_n 2, 1) := dk_28 (dk_at dksX5_mayNot_2 22 rfl rfl)
theorem dX5_mayNot_103 : decode cX5_mayNot 103 = .ok (.iload_n 3, 1) := dk_29 (dk_at dksX5_mayNot_2 23 rfl rfl)
theorem dX5_mayNot_104 : decode cX5_mayNot 104 = .ok (.invokevirtual 279, 3) := dk_182 1 23 (dk_at dksX5_mayNot_3 0 rfl rfl)
theorem dX5_mayNot_107 : decode cX5_mayNot 107 = .ok (.ireturn, 1) := dk_172 (dk_at dksX5_mayNot_3 3 rfl rfl)
theorem dX5_mayNot_108 : decode cX5_mayNot 108 = .ok (.aload_n 0, 1) := dk_42 (dk_at dksX5_mayNot_3 4 rfl rfl)
theorem dX5_mayNot_109 : decode cX5_mayNot 109 = .ok (.iload_n 2, 1) := dk_28 (dk_at dksX5_mayNot_3 5 rfl rfl)
theorem dX5_mayNot_110 : decode cX5_mayNot 110 = .ok (.iload_n 3, 1) := dk_29 (dk_at dksX5_mayNot_3 6 rfl rfl)
theorem dX5_mayNot_111 : decode cX5_mayNot 111 = .ok (.invokevirtual 285, 3) := dk_182 1 29 (dk_at dksX5_mayNot_3 7 rfl rfl)
theorem dX5_mayNot_114 : decode cX5_mayNot 114 = .ok (.ireturn, 1) := dk_172 (dk_at dksX5_mayNot_3 10 rfl rfl)
theorem dX5_mayNot_115 : decode cX5_mayNot 115 = .ok (.aload_n 0, 1) := dk_42 (dk_at dksX5_mayNot_3 11 rfl rfl)
theorem dX5_mayNot_116 : decode cX5_mayNot 116 = .ok (.invokevirtual 170, 3) := dk_182 0 170 (dk_at dksX5_mayNot_3 12 rfl rfl)
theorem dX5_mayNot_119 : decode cX5_mayNot 119 = .ok (.ireturn, 1) := dk_172 (dk_at dksX5_mayNot_3 15 rfl rfl)
theorem dX5_mayNot_120 : decode cX5_mayNot 120 = .ok (.aload_n 0, 1) := dk_42 (dk_at dksX5_mayNot_3 16 rfl rfl)
theorem dX5_mayNot_121 : decode cX5_mayNot 121 = .ok (.invokevirtual 181, 3) := dk_182 0 181 (dk_at dksX5_mayNot_3 17 rfl rfl)
theorem dX5_mayNot_124 : decode cX5_mayNot 124 = .ok (.ireturn, 1) := dk_172 (dk_at dksX5_mayNot_3 20 rfl rfl)
abbrev cX5_harms : ByteArray := prog_25_method_105_code
def yX5_harms : MethodName := ⟨RX5, "harms", "(I)Z"⟩
def dkwX5_harms_3 : List UInt8 := [182, 0, 129, 153, 0, 7, 4, 167, 0, 4, 3, 172]
abbrev dktX5_harms_3 : List UInt8 := dkwX5_harms_3 ++ []
def dkwX5_harms_2 : List UInt8 := [42, 4, 4, 182, 0, 107, 153, 0, 27, 42, 4, 4, 182, 0, 107, 29, 159, 0, 17, 42, 16, 19, 4]
abbrev dktX5_harms_2 : List UInt8 := dkwX5_harms_2 ++ dktX5_harms_3
def dkwX5_harms_1 : List UInt8 := [182, 0, 107, 153, 0, 21, 42, 3, 4, 182, 0, 107, 28, 159, 0, 11, 42, 16, 19, 3, 182, 0, 129, 172]
abbrev dktX5_harms_1 : List UInt8 := dkwX5_harms_1 ++ dktX5_harms_2
def dkwX5_harms_0 : List UInt8 := [42, 3, 4, 182, 0, 107, 61, 42, 4, 4, 182, 0, 107, 62, 42, 27, 182, 1, 79, 42, 3, 4]
abbrev dktX5_harms_0 : List UInt8 := dkwX5_harms_0 ++ dktX5_harms_1
theorem dksX5_harms_0 : cX5_harms.data.toList.drop 0 = dktX5_harms_0 := by decide +kernel
theorem dksX5_harms_1 : cX5_harms.data.toList.drop 22 = dktX5_harms_1 := dk_seg dksX5_harms_0 22 rfl rfl
theorem dksX5_harms_2 : cX5_harms.data.toList.drop 46 = dktX5_harms_2 := dk_seg dksX5_harms_1 24 rfl rfl
theorem dksX5_harms_3 : cX5_harms.data.toList.drop 69 = dktX5_harms_3 := dk_seg dksX5_harms_2 23 rfl rfl
theorem dX5_harms_0 : decode cX5_harms 0 = .ok (.aload_n 0, 1) := dk_42 (dk_at dksX5_harms_0 0 rfl rfl)
theorem dX5_harms_1 : decode cX5_harms 1 = .ok (.iconst 0, 1) := dk_3 (dk_at dksX5_harms_0 1 rfl rfl)
theorem dX5_harms_2 : decode cX5_harms 2 = .ok (.iconst 1, 1) := dk_4 (dk_at dksX5_harms_0 2 rfl rfl)
theorem dX5_harms_3 : decode cX5_harms 3 = .ok (.invokevirtual 107, 3) := dk_182 0 107 (dk_at dksX5_harms_0 3 rfl rfl)
theorem dX5_harms_6 : decode cX5_harms 6 = .ok (.istore_n 2, 1) := dk_61 (dk_at dksX5_harms_0 6 rfl rfl)
theorem dX5_harms_7 : decode cX5_harms 7 = .ok (.aload_n 0, 1) := dk_42 (dk_at dksX5_harms_0 7 rfl rfl)
theorem dX5_harms_8 : decode cX5_harms 8 = .ok (.iconst 1, 1) := dk_4 (dk_at dksX5_harms_0 8 rfl rfl)
theorem dX5_harms_9 : decode cX5_harms 9 = .ok (.iconst 1, 1) := dk_4 (dk_at dksX5_harms_0 9 rfl rfl)
theorem dX5_harms_10 : decode cX5_harms 10 = .ok (.invokevirtual 107, 3) := dk_182 0 107 (dk_at dksX5_harms_0 10 rfl rfl)
theorem dX5_harms_13 : decode cX5_harms 13 = .ok (.istore_n 3, 1) := dk_62 (dk_at dksX5_harms_0 13 rfl rfl)
theorem dX5_harms_14 : decode cX5_harms 14 = .ok (.aload_n 0, 1) := dk_42 (dk_at dksX5_harms_0 14 rfl rfl)
theorem dX5_harms_15 : decode cX5_harms 15 = .ok (.iload_n 1, 1) := dk_27 (dk_at dksX5_harms_0 15 rfl rfl)
theorem dX5_harms_16 : decode cX5_harms 16 = .ok (.invokevirtual 335, 3) := dk_182 1 79 (dk_at dksX5_harms_0 16 rfl rfl)
theorem dX5_harms_19 : decode cX5_harms 19 = .ok (.aload_n 0, 1) := dk_42 (dk_at dksX5_harms_0 19 rfl rfl)
theorem dX5_harms_20 : decode cX5_harms 20 = .ok (.iconst 0, 1) := dk_3 (dk_at dksX5_harms_0 20 rfl rfl)
theorem dX5_harms_21 : decode cX5_harms 21 = .ok (.iconst 1, 1) := dk_4 (dk_at dksX5_harms_0 21 rfl rfl)
theorem dX5_harms_22 : decode cX5_harms 22 = .ok (.invokevirtual 107, 3) := dk_182 0 107 (dk_at dksX5_harms_1 0 rfl rfl)
theorem dX5_harms_25 : decode cX5_harms 25 = .ok (.ifCond .eq 21, 3) := dk_153 0 21 (dk_at dksX5_harms_1 3 rfl rfl)
theorem dX5_harms_28 : decode cX5_harms 28 = .ok (.aload_n 0, 1) := dk_42 (dk_at dksX5_harms_1 6 rfl rfl)
theorem dX5_harms_29 : decode cX5_harms 29 = .ok (.iconst 0, 1) := dk_3 (dk_at dksX5_harms_1 7 rfl rfl)
theorem dX5_harms_30 : decode cX5_harms 30 = .ok (.iconst 1, 1) := dk_4 (dk_at dksX5_harms_1 8 rfl rfl)
theorem dX5_harms_31 : decode cX5_harms 31 = .ok (.invokevirtual 107, 3) := dk_182 0 107 (dk_at dksX5_harms_1 9 rfl rfl)
theorem dX5_harms_34 : decode cX5_harms 34 = .ok (.iload_n 2, 1) := dk_28 (dk_at dksX5_harms_1 12 rfl rfl)
theorem dX5_harms_35 : decode cX5_harms 35 = .ok (.if_icmp .eq 11, 3) := dk_159 0 11 (dk_at dksX5_harms_1 13 rfl rfl)
theorem dX5_harms_38 : decode cX5_harms 38 = .ok (.aload_n 0, 1) := dk_42 (dk_at dksX5_harms_1 16 rfl rfl)
theorem dX5_harms_39 : decode cX5_harms 39 = .ok (.bipush 19, 2) := dk_16 19 (dk_at dksX5_harms_1 17 rfl rfl)
theorem dX5_harms_41 : decode cX5_harms 41 = .ok (.iconst 0, 1) := dk_3 (dk_at dksX5_harms_1 19 rfl rfl)
theorem dX5_harms_42 : decode cX5_harms 42 = .ok (.invokevirtual 129, 3) := dk_182 0 129 (dk_at dksX5_harms_1 20 rfl rfl)
theorem dX5_harms_45 : decode cX5_harms 45 = .ok (.ireturn, 1) := dk_172 (dk_at dksX5_harms_1 23 rfl rfl)
theorem dX5_harms_46 : decode cX5_harms 46 = .ok (.aload_n 0, 1) := dk_42 (dk_at dksX5_harms_2 0 rfl rfl)
theorem dX5_harms_47 : decode cX5_harms 47 = .ok (.iconst 1, 1) := dk_4 (dk_at dksX5_harms_2 1 rfl rfl)
theorem dX5_harms_48 : decode cX5_harms 48 = .ok (.iconst 1, 1) := dk_4 (dk_at dksX5_harms_2 2 rfl rfl)
theorem dX5_harms_49 : decode cX5_harms 49 = .ok (.invokevirtual 107, 3) := dk_182 0 107 (dk_at dksX5_harms_2 3 rfl rfl)
theorem dX5_harms_52 : decode cX5_harms 52 = .ok (.ifCond .eq 27, 3) := dk_153 0 27 (dk_at dksX5_harms_2 6 rfl rfl)
theorem dX5_harms_55 : decode cX5_harms 55 = .ok (.aload_n 0, 1) := dk_42 (dk_at dksX5_harms_2 9 rfl rfl)
theorem dX5_harms_56 : decode cX5_harms 56 = .ok (.iconst 1, 1) := dk_4 (dk_at dksX5_harms_2 10 rfl rfl)
theorem dX5_harms_57 : decode cX5_harms 57 = .ok (.iconst 1, 1) := dk_4 (dk_at dksX5_harms_2 11 rfl rfl)
theorem dX5_harms_58 : decode cX5_harms 58 = .ok (.invokevirtual 107, 3) := dk_182 0 107 (dk_at dksX5_harms_2 12 rfl rfl)
theorem dX5_harms_61 : decode cX5_harms 61 = .ok (.iload_n 3, 1) := dk_29 (dk_at dksX5_harms_2 15 rfl rfl)
theorem dX5_harms_62 : decode cX5_harms 62 = .ok (.if_icmp .eq 17, 3) := dk_159 0 17 (dk_at dksX5_harms_2 16 rfl rfl)
theorem dX5_harms_65 : decode cX5_harms 65 = .ok (.aload_n 0, 1) := dk_42 (dk_at dksX5_harms_2 19 rfl rfl)
theorem dX5_harms_66 : decode cX5_harms 66 = .ok (.bipush 19, 2) := dk_16 19 (dk_at dksX5_harms_2 20 rfl rfl)
theorem dX5_harms_68 : decode cX5_harms 68 = .ok (.iconst 1, 1) := dk_4 (dk_at dksX5_harms_2 22 rfl rfl)
theorem dX5_harms_69 : decode cX5_harms 69 = .ok (.invokevirtual 129, 3) := dk_182 0 129 (dk_at dksX5_harms_3 0 rfl rfl)
theorem dX5_harms_72 : decode cX5_harms 72 = .ok (.ifCond .eq 7, 3) := dk_153 0 7 (dk_at dksX5_harms_3 3 rfl rfl)
theorem dX5_harms_75 : decode cX5_harms 75 = .ok (.iconst 1, 1) := dk_4 (dk_at dksX5_harms_3 6 rfl rfl)
theorem dX5_harms_76 : decode cX5_harms 76 = .ok (.goto 4, 3) := dk_167 0 4 (dk_at dksX5_harms_3 7 rfl rfl)
theorem dX5_harms_79 : decode cX5_harms 79 = .ok (.iconst 0, 1) := dk_3 (dk_at dksX5_harms_3 10 rfl rfl)
theorem dX5_harms_80 : decode cX5_harms 80 = .ok (.ireturn, 1) := dk_172 (dk_at dksX5_harms_3 11 rfl rfl)
abbrev cX5_carriesOut : ByteArray := prog_25_method_102_code
def yX5_carriesOut : MethodName := ⟨RX5, "carriesOut", "(I)V"⟩
def dkwX5_carriesOut_5 : List UInt8 := [182, 0, 184, 177]
abbrev dktX5_carriesOut_5 : List UInt8 := dkwX5_carriesOut_5 ++ []
def dkwX5_carriesOut_4 : List UInt8 := [184, 0, 94, 4, 42, 29, 7, 182, 0, 110, 100, 79, 167, 0, 14, 42, 182, 0, 174, 167, 0, 7, 42]
abbrev dktX5_carriesOut_4 : List UInt8 := dkwX5_carriesOut_4 ++ dktX5_carriesOut_5
def dkwX5_carriesOut_3 : List UInt8 := [184, 0, 94, 28, 79, 167, 0, 44, 42, 28, 29, 182, 1, 26, 167, 0, 35, 42, 180, 0, 7, 29, 7]
abbrev dktX5_carriesOut_3 : List UInt8 := dkwX5_carriesOut_3 ++ dktX5_carriesOut_4
def dkwX5_carriesOut_2 : List UInt8 := [42, 28, 29, 182, 0, 252, 167, 0, 66, 42, 28, 182, 1, 5, 167, 0, 58, 42, 180, 0, 7, 29, 4]
abbrev dktX5_carriesOut_2 : List UInt8 := dkwX5_carriesOut_2 ++ dktX5_carriesOut_3
def dkwX5_carriesOut_1 : List UInt8 := [171, 0, 0, 0, 0, 0, 0, 128, 0, 0, 0, 6, 0, 0, 0, 42, 0, 0, 0, 100, 0, 0, 0, 43, 0, 0, 0, 77, 0, 0, 0, 45, 0, 0, 0, 91, 0, 0, 0, 62, 0, 0, 0, 60, 0, 0, 0, 99, 0, 0, 0, 121, 0, 0, 0, 114, 0, 0, 0, 69]
abbrev dktX5_carriesOut_1 : List UInt8 := dkwX5_carriesOut_1 ++ dktX5_carriesOut_2
def dkwX5_carriesOut_0 : List UInt8 := [42, 180, 0, 56, 27, 46, 61, 42, 180, 0, 59, 27, 46, 62, 42, 180, 0, 53, 27, 46]
abbrev dktX5_carriesOut_0 : List UInt8 := dkwX5_carriesOut_0 ++ dktX5_carriesOut_1
theorem dksX5_carriesOut_0 : cX5_carriesOut.data.toList.drop 0 = dktX5_carriesOut_0 := by decide +kernel
theorem dksX5_carriesOut_1 : cX5_carriesOut.data.toList.drop 20 = dktX5_carriesOut_1 := dk_seg dksX5_carriesOut_0 20 rfl rfl
theorem dksX5_carriesOut_2 : cX5_carriesOut.data.toList.drop 80 = dktX5_carriesOut_2 := dk_seg dksX5_carriesOut_1 60 rfl rfl
theorem dksX5_carriesOut_3 : cX5_carriesOut.data.toList.drop 103 = dktX5_carriesOut_3 := dk_seg dksX5_carriesOut_2 23 rfl rfl
theorem dksX5_carriesOut_4 : cX5_carriesOut.data.toList.drop 126 = dktX5_carriesOut_4 := dk_seg dksX5_carriesOut_3 23 rfl rfl
theorem dksX5_carriesOut_5 : cX5_carriesOut.data.toList.drop 149 = dktX5_carriesOut_5 := dk_seg dksX5_carriesOut_4 23 rfl rfl
theorem dX5_carriesOut_0 : decode cX5_carriesOut 0 = .ok (.aload_n 0, 1) := dk_42 (dk_at dksX5_carriesOut_0 0 rfl rfl)
theorem dX5_carriesOut_1 : decode cX5_carriesOut 1 = .ok (.getfield 56, 3) := dk_180 0 56 (dk_at dksX5_carriesOut_0 1 rfl rfl)
theorem dX5_carriesOut_4 : decode cX5_carriesOut 4 = .ok (.iload_n 1, 1) := dk_27 (dk_at dksX5_carriesOut_0 4 rfl rfl)
theorem dX5_carriesOut_5 : decode cX5_carriesOut 5 = .ok (.iaload, 1) := dk_46 (dk_at dksX5_carriesOut_0 5 rfl rfl)
theorem dX5_carriesOut_6 : decode cX5_carriesOut 6 = .ok (.istore_n 2, 1) := dk_61 (dk_at dksX5_carriesOut_0 6 rfl rfl)
theorem dX5_carriesOut_7 : decode cX5_carriesOut 7 = .ok (.aload_n 0, 1) := dk_42 (dk_at dksX5_carriesOut_0 7 rfl rfl)
theorem dX5_carriesOut_8 : decode cX5_carriesOut 8 = .ok (.getfield 59, 3) := dk_180 0 59 (dk_at dksX5_carriesOut_0 8 rfl rfl)
theorem dX5_carriesOut_11 : decode cX5_carriesOut 11 = .ok (.iload_n 1, 1) := dk_27 (dk_at dksX5_carriesOut_0 11 rfl rfl)
theorem dX5_carriesOut_12 : decode cX5_carriesOut 12 = .ok (.iaload, 1) := dk_46 (dk_at dksX5_carriesOut_0 12 rfl rfl)
theorem dX5_carriesOut_13 : decode cX5_carriesOut 13 = .ok (.istore_n 3, 1) := dk_62 (dk_at dksX5_carriesOut_0 13 rfl rfl)
theorem dX5_carriesOut_14 : decode cX5_carriesOut 14 = .ok (.aload_n 0, 1) := dk_42 (dk_at dksX5_carriesOut_0 14 rfl rfl)
theorem dX5_carriesOut_15 : decode cX5_carriesOut 15 = .ok (.getfield 53, 3) := dk_180 0 53 (dk_at dksX5_carriesOut_0 15 rfl rfl)
theorem dX5_carriesOut_18 : decode cX5_carriesOut 18 = .ok (.iload_n 1, 1) := dk_27 (dk_at dksX5_carriesOut_0 18 rfl rfl)
theorem dX5_carriesOut_19 : decode cX5_carriesOut 19 = .ok (.iaload, 1) := dk_46 (dk_at dksX5_carriesOut_0 19 rfl rfl)
theorem dX5_carriesOut_20 : decode cX5_carriesOut 20 = .ok (.lookupswitch 128 #[(42, 100), (43, 77), (45, 91), (62, 60), (99, 121), (114, 69)], 60) := by decide +kernel
theorem dX5_carriesOut_80 : decode cX5_carriesOut 80 = .ok (.aload_n 0, 1) := dk_42 (dk_at dksX5_carriesOut_2 0 rfl rfl)
theorem dX5_carriesOut_81 : decode cX5_carriesOut 81 = .ok (.iload_n 2, 1) := dk_28 (dk_at dksX5_carriesOut_2 1 rfl rfl)
theorem dX5_carriesOut_82 : decode cX5_carriesOut 82 = .ok (.iload_n 3, 1) := dk_29 (dk_at dksX5_carriesOut_2 2 rfl rfl)
theorem dX5_carriesOut_83 : decode cX5_carriesOut 83 = .ok (.invokevirtual 252, 3) := dk_182 0 252 (dk_at dksX5_carriesOut_2 3 rfl rfl)
theorem dX5_carriesOut_86 : decode cX5_carriesOut 86 = .ok (.goto 66, 3) := dk_167 0 66 (dk_at dksX5_carriesOut_2 6 rfl rfl)
theorem dX5_carriesOut_89 : decode cX5_carriesOut 89 = .ok (.aload_n 0, 1) := dk_42 (dk_at dksX5_carriesOut_2 9 rfl rfl)
theorem dX5_carriesOut_90 : decode cX5_carriesOut 90 = .ok (.iload_n 2, 1) := dk_28 (dk_at dksX5_carriesOut_2 10 rfl rfl)
theorem dX5_carriesOut_91 : decode cX5_carriesOut 91 = .ok (.invokevirtual 261, 3) := dk_182 1 5 (dk_at dksX5_carriesOut_2 11 rfl rfl)
theorem dX5_carriesOut_94 : decode cX5_carriesOut 94 = .ok (.goto 58, 3) := dk_167 0 58 (dk_at dksX5_carriesOut_2 14 rfl rfl)
theorem dX5_carriesOut_97 : decode cX5_carriesOut 97 = .ok (.aload_n 0, 1) := dk_42 (dk_at dksX5_carriesOut_2 17 rfl rfl)
theorem dX5_carriesOut_98 : decode cX5_carriesOut 98 = .ok (.getfield 7, 3) := dk_180 0 7 (dk_at dksX5_carriesOut_2 18 rfl rfl)
theorem dX5_carriesOut_101 : decode cX5_carriesOut 101 = .ok (.iload_n 3, 1) := dk_29 (dk_at dksX5_carriesOut_2 21 rfl rfl)
theorem dX5_carriesOut_102 : decode cX5_carriesOut 102 = .ok (.iconst 1, 1) := dk_4 (dk_at dksX5_carriesOut_2 22 rfl rfl)
theorem dX5_carriesOut_103 : decode cX5_carriesOut 103 = .ok (.invokestatic 94, 3) := dk_184 0 94 (dk_at dksX5_carriesOut_3 0 rfl rfl)
theorem dX5_carriesOut_106 : decode cX5_carriesOut 106 = .ok (.iload_n 2, 1) := dk_28 (dk_at dksX5_carriesOut_3 3 rfl rfl)
theorem dX5_carriesOut_107 : decode cX5_carriesOut 107 = .ok (.iastore, 1) := dk_79 (dk_at dksX5_carriesOut_3 4 rfl rfl)
theorem dX5_carriesOut_108 : decode cX5_carriesOut 108 = .ok (.goto 44, 3) := dk_167 0 44 (dk_at dksX5_carriesOut_3 5 rfl rfl)
theorem dX5_carriesOut_111 : decode cX5_carriesOut 111 = .ok (.aload_n 0, 1) := dk_42 (dk_at dksX5_carriesOut_3 8 rfl rfl)
theorem dX5_carriesOut_112 : decode cX5_carriesOut 112 = .ok (.iload_n 2, 1) := dk_28 (dk_at dksX5_carriesOut_3 9 rfl rfl)
theorem dX5_carriesOut_113 : decode cX5_carriesOut 113 = .ok (.iload_n 3, 1) := dk_29 (dk_at dksX5_carriesOut_3 10 rfl rfl)
theorem dX5_carriesOut_114 : decode cX5_carriesOut 114 = .ok (.invokevirtual 282, 3) := dk_182 1 26 (dk_at dksX5_carriesOut_3 11 rfl rfl)
theorem dX5_carriesOut_117 : decode cX5_carriesOut 117 = .ok (.goto 35, 3) := dk_167 0 35 (dk_at dksX5_carriesOut_3 14 rfl rfl)
theorem dX5_carriesOut_120 : decode cX5_carriesOut 120 = .ok (.aload_n 0, 1) := dk_42 (dk_at dksX5_carriesOut_3 17 rfl rfl)
theorem dX5_carriesOut_121 : decode cX5_carriesOut 121 = .ok (.getfield 7, 3) := dk_180 0 7 (dk_at dksX5_carriesOut_3 18 rfl rfl)
theorem dX5_carriesOut_124 : decode cX5_carriesOut 124 = .ok (.iload_n 3, 1) := dk_29 (dk_at dksX5_carriesOut_3 21 rfl rfl)
theorem dX5_carriesOut_125 : decode cX5_carriesOut 125 = .ok (.iconst 4, 1) := dk_7 (dk_at dksX5_carriesOut_3 22 rfl rfl)
theorem dX5_carriesOut_126 : decode cX5_carriesOut 126 = .ok (.invokestatic 94, 3) := dk_184 0 94 (dk_at dksX5_carriesOut_4 0 rfl rfl)
theorem dX5_carriesOut_129 : decode cX5_carriesOut 129 = .ok (.iconst 1, 1) := dk_4 (dk_at dksX5_carriesOut_4 3 rfl rfl)
theorem dX5_carriesOut_130 : decode cX5_carriesOut 130 = .ok (.aload_n 0, 1) := dk_42 (dk_at dksX5_carriesOut_4 4 rfl rfl)
theorem dX5_carriesOut_131 : decode cX5_carriesOut 131 = .ok (.iload_n 3, 1) := dk_29 (dk_at dksX5_carriesOut_4 5 rfl rfl)
theorem dX5_carriesOut_132 : decode cX5_carriesOut 132 = .ok (.iconst 4, 1) := dk_7 (dk_at dksX5_carriesOut_4 6 rfl rfl)
theorem dX5_carriesOut_133 : decode cX5_carriesOut 133 = .ok (.invokevirtual 110, 3) := dk_182 0 110 (dk_at dksX5_carriesOut_4 7 rfl rfl)
theorem dX5_carriesOut_136 : decode cX5_carriesOut 136 = .ok (.isub, 1) := dk_100 (dk_at dksX5_carriesOut_4 10 rfl rfl)
theorem dX5_carriesOut_137 : decode cX5_carriesOut 137 = .ok (.iastore, 1) := dk_79 (dk_at dksX5_carriesOut_4 11 rfl rfl)
theorem dX5_carriesOut_138 : decode cX5_carriesOut 138 = .ok (.goto 14, 3) := dk_167 0 14 (dk_at dksX5_carriesOut_4 12 rfl rfl)
theorem dX5_carriesOut_141 : decode cX5_carriesOut 141 = .ok (.aload_n 0, 1) := dk_42 (dk_at dksX5_carriesOut_4 15 rfl rfl)
theorem dX5_carriesOut_142 : decode cX5_carriesOut 142 = .ok (.invokevirtual 174, 3) := dk_182 0 174 (dk_at dksX5_carriesOut_4 16 rfl rfl)
theorem dX5_carriesOut_145 : decode cX5_carriesOut 145 = .ok (.goto 7, 3) := dk_167 0 7 (dk_at dksX5_carriesOut_4 19 rfl rfl)
theorem dX5_carriesOut_148 : decode cX5_carriesOut 148 = .ok (.aload_n 0, 1) := dk_42 (dk_at dksX5_carriesOut_4 22 rfl rfl)
theorem dX5_carriesOut_149 : decode cX5_carriesOut 149 = .ok (.invokevirtual 184, 3) := dk_182 0 184 (dk_at dksX5_carriesOut_5 0 rfl rfl)
theorem dX5_carriesOut_152 : decode cX5_carriesOut 152 = .ok (.return_, 1) := dk_177 (dk_at dksX5_carriesOut_5 3 rfl rfl)
abbrev cX5_goesBack : ByteArray := prog_25_method_10_code
def yX5_goesBack : MethodName := ⟨RX5, "goesBack", "()V"⟩
def dkwX5_goesBack_1 : List UInt8 := [167, 255, 234, 177]
abbrev dktX5_goesBack_1 : List UInt8 := dkwX5_goesBack_1 ++ []
def dkwX5_goesBack_0 : List UInt8 := [3, 60, 27, 17, 0, 170, 162, 0, 21, 42, 180, 0, 7, 27, 42, 180, 0, 19, 27, 46, 79, 132, 1, 1]
abbrev dktX5_goesBack_0 : List UInt8 := dkwX5_goesBack_0 ++ dktX5_goesBack_1
theorem dksX5_goesBack_0 : cX5_goesBack.data.toList.drop 0 = dktX5_goesBack_0 := by decide +kernel
theorem dksX5_goesBack_1 : cX5_goesBack.data.toList.drop 24 = dktX5_goesBack_1 := dk_seg dksX5_goesBack_0 24 rfl rfl
theorem dX5_goesBack_0 : decode cX5_goesBack 0 = .ok (.iconst 0, 1) := dk_3 (dk_at dksX5_goesBack_0 0 rfl rfl)
theorem dX5_goesBack_1 : decode cX5_goesBack 1 = .ok (.istore_n 1, 1) := dk_60 (dk_at dksX5_goesBack_0 1 rfl rfl)
theorem dX5_goesBack_2 : decode cX5_goesBack 2 = .ok (.iload_n 1, 1) := dk_27 (dk_at dksX5_goesBack_0 2 rfl rfl)
theorem dX5_goesBack_3 : decode cX5_goesBack 3 = .ok (.sipush 170, 3) := dk_17 0 170 (dk_at dksX5_goesBack_0 3 rfl rfl)
theorem dX5_goesBack_6 : decode cX5_goesBack 6 = .ok (.if_icmp .ge 21, 3) := dk_162 0 21 (dk_at dksX5_goesBack_0 6 rfl rfl)
theorem dX5_goesBack_9 : decode cX5_goesBack 9 = .ok (.aload_n 0, 1) := dk_42 (dk_at dksX5_goesBack_0 9 rfl rfl)
theorem dX5_goesBack_10 : decode cX5_goesBack 10 = .ok (.getfield 7, 3) := dk_180 0 7 (dk_at dksX5_goesBack_0 10 rfl rfl)
theorem dX5_goesBack_13 : decode cX5_goesBack 13 = .ok (.iload_n 1, 1) := dk_27 (dk_at dksX5_goesBack_0 13 rfl rfl)
theorem dX5_goesBack_14 : decode cX5_goesBack 14 = .ok (.aload_n 0, 1) := dk_42 (dk_at dksX5_goesBack_0 14 rfl rfl)
theorem dX5_goesBack_15 : decode cX5_goesBack 15 = .ok (.getfield 19, 3) := dk_180 0 19 (dk_at dksX5_goesBack_0 15 rfl rfl)
theorem dX5_goesBack_18 : decode cX5_goesBack 18 = .ok (.iload_n 1, 1) := dk_27 (dk_at dksX5_goesBack_0 18 rfl rfl)
theorem dX5_goesBack_19 : decode cX5_goesBack 19 = .ok (.iaload, 1) := dk_46 (dk_at dksX5_goesBack_0 19 rfl rfl)
theorem dX5_goesBack_20 : decode cX5_goesBack 20 = .ok (.iastore, 1) := dk_79 (dk_at dksX5_goesBack_0 20 rfl rfl)
theorem dX5_goesBack_21 : decode cX5_goesBack 21 = .ok (.iinc 1 1, 3) := dk_132 1 1 (dk_at dksX5_goesBack_0 21 rfl rfl)
theorem dX5_goesBack_24 : decode cX5_goesBack 24 = .ok (.goto (-22), 3) := dk_167 255 234 (dk_at dksX5_goesBack_1 0 rfl rfl)
theorem dX5_goesBack_27 : decode cX5_goesBack 27 = .ok (.return_, 1) := dk_177 (dk_at dksX5_goesBack_1 3 rfl rfl)
abbrev cX5_run : ByteArray := prog_25_method_107_code
def yX5_run : MethodName := ⟨RX5, "run", "()I"⟩
def dkwX5_run_2 : List UInt8 := [167, 0, 8, 42, 6, 182, 0, 133, 172, 42, 3, 181, 0, 65, 42, 182, 0, 139, 42, 180, 1, 52, 172]
abbrev dktX5_run_2 : List UInt8 := dkwX5_run_2 ++ []
def dkwX5_run_1 : List UInt8 := [180, 1, 67, 153, 0, 29, 42, 182, 1, 88, 42, 180, 1, 67, 4, 160, 0, 11, 42, 5, 182, 0, 80]
abbrev dktX5_run_1 : List UInt8 := dkwX5_run_1 ++ dktX5_run_2
def dkwX5_run_0 : List UInt8 := [42, 182, 1, 82, 154, 0, 9, 42, 4, 182, 0, 80, 172, 42, 182, 0, 136, 42, 182, 1, 85, 87, 42]
abbrev dktX5_run_0 : List UInt8 := dkwX5_run_0 ++ dktX5_run_1
theorem dksX5_run_0 : cX5_run.data.toList.drop 0 = dktX5_run_0 := by decide +kernel
theorem dksX5_run_1 : cX5_run.data.toList.drop 23 = dktX5_run_1 := dk_seg dksX5_run_0 23 rfl rfl
theorem dksX5_run_2 : cX5_run.data.toList.drop 46 = dktX5_run_2 := dk_seg dksX5_run_1 23 rfl rfl
theorem dX5_run_0 : decode cX5_run 0 = .ok (.aload_n 0, 1) := dk_42 (dk_at dksX5_run_0 0 rfl rfl)
theorem dX5_run_1 : decode cX5_run 1 = .ok (.invokevirtual 338, 3) := dk_182 1 82 (dk_at dksX5_run_0 1 rfl rfl)
theorem dX5_run_4 : decode cX5_run 4 = .ok (.ifCond .ne 9, 3) := dk_154 0 9 (dk_at dksX5_run_0 4 rfl rfl)
theorem dX5_run_7 : decode cX5_run 7 = .ok (.aload_n 0, 1) := dk_42 (dk_at dksX5_run_0 7 rfl rfl)
theorem dX5_run_8 : decode cX5_run 8 = .ok (.iconst 1, 1) := dk_4 (dk_at dksX5_run_0 8 rfl rfl)
theorem dX5_run_9 : decode cX5_run 9 = .ok (.invokevirtual 80, 3) := dk_182 0 80 (dk_at dksX5_run_0 9 rfl rfl)
theorem dX5_run_12 : decode cX5_run 12 = .ok (.ireturn, 1) := dk_172 (dk_at dksX5_run_0 12 rfl rfl)
theorem dX5_run_13 : decode cX5_run 13 = .ok (.aload_n 0, 1) := dk_42 (dk_at dksX5_run_0 13 rfl rfl)
theorem dX5_run_14 : decode cX5_run 14 = .ok (.invokevirtual 136, 3) := dk_182 0 136 (dk_at dksX5_run_0 14 rfl rfl)
theorem dX5_run_17 : decode cX5_run 17 = .ok (.aload_n 0, 1) := dk_42 (dk_at dksX5_run_0 17 rfl rfl)
theorem dX5_run_18 : decode cX5_run 18 = .ok (.invokevirtual 341, 3) := dk_182 1 85 (dk_at dksX5_run_0 18 rfl rfl)
theorem dX5_run_21 : decode cX5_run 21 = .ok (.pop, 1) := dk_87 (dk_at dksX5_run_0 21 rfl rfl)
theorem dX5_run_22 : decode cX5_run 22 = .ok (.aload_n 0, 1) := dk_42 (dk_at dksX5_run_0 22 rfl rfl)
theorem dX5_run_23 : decode cX5_run 23 = .ok (.getfield 323, 3) := dk_180 1 67 (dk_at dksX5_run_1 0 rfl rfl)
theorem dX5_run_26 : decode cX5_run 26 = .ok (.ifCond .eq 29, 3) := dk_153 0 29 (dk_at dksX5_run_1 3 rfl rfl)
theorem dX5_run_29 : decode cX5_run 29 = .ok (.aload_n 0, 1) := dk_42 (dk_at dksX5_run_1 6 rfl rfl)
theorem dX5_run_30 : decode cX5_run 30 = .ok (.invokevirtual 344, 3) := dk_182 1 88 (dk_at dksX5_run_1 7 rfl rfl)
theorem dX5_run_33 : decode cX5_run 33 = .ok (.aload_n 0, 1) := dk_42 (dk_at dksX5_run_1 10 rfl rfl)
theorem dX5_run_34 : decode cX5_run 34 = .ok (.getfield 323, 3) := dk_180 1 67 (dk_at dksX5_run_1 11 rfl rfl)
theorem dX5_run_37 : decode cX5_run 37 = .ok (.iconst 1, 1) := dk_4 (dk_at dksX5_run_1 14 rfl rfl)
theorem dX5_run_38 : decode cX5_run 38 = .ok (.if_icmp .ne 11, 3) := dk_160 0 11 (dk_at dksX5_run_1 15 rfl rfl)
theorem dX5_run_41 : decode cX5_run 41 = .ok (.aload_n 0, 1) := dk_42 (dk_at dksX5_run_1 18 rfl rfl)
theorem dX5_run_42 : decode cX5_run 42 = .ok (.iconst 2, 1) := dk_5 (dk_at dksX5_run_1 19 rfl rfl)
theorem dX5_run_43 : decode cX5_run 43 = .ok (.invokevirtual 80, 3) := dk_182 0 80 (dk_at dksX5_run_1 20 rfl rfl)
theorem dX5_run_46 : decode cX5_run 46 = .ok (.goto 8, 3) := dk_167 0 8 (dk_at dksX5_run_2 0 rfl rfl)
theorem dX5_run_49 : decode cX5_run 49 = .ok (.aload_n 0, 1) := dk_42 (dk_at dksX5_run_2 3 rfl rfl)
theorem dX5_run_50 : decode cX5_run 50 = .ok (.iconst 3, 1) := dk_6 (dk_at dksX5_run_2 4 rfl rfl)
theorem dX5_run_51 : decode cX5_run 51 = .ok (.invokevirtual 133, 3) := dk_182 0 133 (dk_at dksX5_run_2 5 rfl rfl)
theorem dX5_run_54 : decode cX5_run 54 = .ok (.ireturn, 1) := dk_172 (dk_at dksX5_run_2 8 rfl rfl)
theorem dX5_run_55 : decode cX5_run 55 = .ok (.aload_n 0, 1) := dk_42 (dk_at dksX5_run_2 9 rfl rfl)
theorem dX5_run_56 : decode cX5_run 56 = .ok (.iconst 0, 1) := dk_3 (dk_at dksX5_run_2 10 rfl rfl)
theorem dX5_run_57 : decode cX5_run 57 = .ok (.putfield 65, 3) := dk_181 0 65 (dk_at dksX5_run_2 11 rfl rfl)
theorem dX5_run_60 : decode cX5_run 60 = .ok (.aload_n 0, 1) := dk_42 (dk_at dksX5_run_2 14 rfl rfl)
theorem dX5_run_61 : decode cX5_run 61 = .ok (.invokevirtual 139, 3) := dk_182 0 139 (dk_at dksX5_run_2 15 rfl rfl)
theorem dX5_run_64 : decode cX5_run 64 = .ok (.aload_n 0, 1) := dk_42 (dk_at dksX5_run_2 18 rfl rfl)
theorem dX5_run_65 : decode cX5_run 65 = .ok (.getfield 308, 3) := dk_180 1 52 (dk_at dksX5_run_2 19 rfl rfl)
theorem dX5_run_68 : decode cX5_run 68 = .ok (.ireturn, 1) := dk_172 (dk_at dksX5_run_2 22 rfl rfl)
abbrev cX5_errorPosition : ByteArray := prog_25_method_108_code
def yX5_errorPosition : MethodName := ⟨RX5, "errorPosition", "()I"⟩
def dkwX5_errorPosition_0 : List UInt8 := [42, 180, 0, 62, 156, 0, 9, 42, 4, 182, 0, 80, 172, 42, 3, 181, 0, 65, 42, 180, 0, 62, 172]
abbrev dktX5_errorPosition_0 : List UInt8 := dkwX5_errorPosition_0 ++ []
theorem dksX5_errorPosition_0 : cX5_errorPosition.data.toList.drop 0 = dktX5_errorPosition_0 := by decide +kernel
theorem dX5_errorPosition_0 : decode cX5_errorPosition 0 = .ok (.aload_n 0, 1) := dk_42 (dk_at dksX5_errorPosition_0 0 rfl rfl)
theorem dX5_errorPosition_1 : decode cX5_errorPosition 1 = .ok (.getfield 62, 3) := dk_180 0 62 (dk_at dksX5_errorPosition_0 1 rfl rfl)
theorem dX5_errorPosition_4 : decode cX5_errorPosition 4 = .ok (.ifCond .ge 9, 3) := dk_156 0 9 (dk_at dksX5_errorPosition_0 4 rfl rfl)
theorem dX5_errorPosition_7 : decode cX5_errorPosition 7 = .ok (.aload_n 0, 1) := dk_42 (dk_at dksX5_errorPosition_0 7 rfl rfl)
theorem dX5_errorPosition_8 : decode cX5_errorPosition 8 = .ok (.iconst 1, 1) := dk_4 (dk_at dksX5_errorPosition_0 8 rfl rfl)
theorem dX5_errorPosition_9 : decode cX5_errorPosition 9 = .ok (.invokevirtual 80, 3) := dk_182 0 80 (dk_at dksX5_errorPosition_0 9 rfl rfl)
theorem dX5_errorPosition_12 : decode cX5_errorPosition 12 = .ok (.ireturn, 1) := dk_172 (dk_at dksX5_errorPosition_0 12 rfl rfl)
theorem dX5_errorPosition_13 : decode cX5_errorPosition 13 = .ok (.aload_n 0, 1) := dk_42 (dk_at dksX5_errorPosition_0 13 rfl rfl)
theorem dX5_errorPosition_14 : decode cX5_errorPosition 14 = .ok (.iconst 0, 1) := dk_3 (dk_at dksX5_errorPosition_0 14 rfl rfl)
theorem dX5_errorPosition_15 : decode cX5_errorPosition 15 = .ok (.putfield 65, 3) := dk_181 0 65 (dk_at dksX5_errorPosition_0 15 rfl rfl)
theorem dX5_errorPosition_18 : decode cX5_errorPosition 18 = .ok (.aload_n 0, 1) := dk_42 (dk_at dksX5_errorPosition_0 18 rfl rfl)
theorem dX5_errorPosition_19 : decode cX5_errorPosition 19 = .ok (.getfield 62, 3) := dk_180 0 62 (dk_at dksX5_errorPosition_0 19 rfl rfl)
theorem dX5_errorPosition_22 : decode cX5_errorPosition 22 = .ok (.ireturn, 1) := dk_172 (dk_at dksX5_errorPosition_0 22 rfl rfl)
abbrev cX5_reason : ByteArray := prog_25_method_109_code
def yX5_reason : MethodName := ⟨RX5, "reason", "(Z)I"⟩
def dkwX5_reason_1 : List UInt8 := [180, 0, 77, 167, 0, 7, 42, 180, 0, 71, 172]
abbrev dktX5_reason_1 : List UInt8 := dkwX5_reason_1 ++ []
def dkwX5_reason_0 : List UInt8 := [42, 180, 0, 71, 154, 0, 9, 42, 4, 182, 0, 80, 172, 42, 3, 181, 0, 65, 27, 153, 0, 10, 42]
abbrev dktX5_reason_0 : List UInt8 := dkwX5_reason_0 ++ dktX5_reason_1
theorem dksX5_reason_0 : cX5_reason.data.toList.drop 0 = dktX5_reason_0 := by decide +kernel
theorem dksX5_reason_1 : cX5_reason.data.toList.drop 23 = dktX5_reason_1 := dk_seg dksX5_reason_0 23 rfl rfl
theorem dX5_reason_0 : decode cX5_reason 0 = .ok (.aload_n 0, 1) := dk_42 (dk_at dksX5_reason_0 0 rfl rfl)
theorem dX5_reason_1 : decode cX5_reason 1 = .ok (.getfield 71, 3) := dk_180 0 71 (dk_at dksX5_reason_0 1 rfl rfl)
theorem dX5_reason_4 : decode cX5_reason 4 = .ok (.ifCond .ne 9, 3) := dk_154 0 9 (dk_at dksX5_reason_0 4 rfl rfl)
theorem dX5_reason_7 : decode cX5_reason 7 = .ok (.aload_n 0, 1) := dk_42 (dk_at dksX5_reason_0 7 rfl rfl)
theorem dX5_reason_8 : decode cX5_reason 8 = .ok (.iconst 1, 1) := dk_4 (dk_at dksX5_reason_0 8 rfl rfl)
theorem dX5_reason_9 : decode cX5_reason 9 = .ok (.invokevirtual 80, 3) := dk_182 0 80 (dk_at dksX5_reason_0 9 rfl rfl)
theorem dX5_reason_12 : decode cX5_reason 12 = .ok (.ireturn, 1) := dk_172 (dk_at dksX5_reason_0 12 rfl rfl)
theorem dX5_reason_13 : decode cX5_reason 13 = .ok (.aload_n 0, 1) := dk_42 (dk_at dksX5_reason_0 13 rfl rfl)
theorem dX5_reason_14 : decode cX5_reason 14 = .ok (.iconst 0, 1) := dk_3 (dk_at dksX5_reason_0 14 rfl rfl)
theorem dX5_reason_15 : decode cX5_reason 15 = .ok (.putfield 65, 3) := dk_181 0 65 (dk_at dksX5_reason_0 15 rfl rfl)
theorem dX5_reason_18 : decode cX5_reason 18 = .ok (.iload_n 1, 1) := dk_27 (dk_at dksX5_reason_0 18 rfl rfl)
theorem dX5_reason_19 : decode cX5_reason 19 = .ok (.ifCond .eq 10, 3) := dk_153 0 10 (dk_at dksX5_reason_0 19 rfl rfl)
theorem dX5_reason_22 : decode cX5_reason 22 = .ok (.aload_n 0, 1) := dk_42 (dk_at dksX5_reason_0 22 rfl rfl)
theorem dX5_reason_23 : decode cX5_reason 23 = .ok (.getfield 77, 3) := dk_180 0 77 (dk_at dksX5_reason_1 0 rfl rfl)
theorem dX5_reason_26 : decode cX5_reason 26 = .ok (.goto 7, 3) := dk_167 0 7 (dk_at dksX5_reason_1 3 rfl rfl)
theorem dX5_reason_29 : decode cX5_reason 29 = .ok (.aload_n 0, 1) := dk_42 (dk_at dksX5_reason_1 6 rfl rfl)
theorem dX5_reason_30 : decode cX5_reason 30 = .ok (.getfield 71, 3) := dk_180 0 71 (dk_at dksX5_reason_1 7 rfl rfl)
theorem dX5_reason_33 : decode cX5_reason 33 = .ok (.ireturn, 1) := dk_172 (dk_at dksX5_reason_1 10 rfl rfl)
abbrev cX5_account : ByteArray := prog_25_method_112_code
def yX5_account : MethodName := ⟨RX5, "account", "(I)I"⟩
def dkwX5_account_5 : List UInt8 := [6, 100, 46, 172]
abbrev dktX5_account_5 : List UInt8 := dkwX5_account_5 ++ []
def dkwX5_account_4 : List UInt8 := [42, 182, 1, 40, 172, 42, 180, 1, 43, 172, 42, 180, 0, 84, 172, 42, 180, 0, 7, 17, 0, 140, 27, 96]
abbrev dktX5_account_4 : List UInt8 := dkwX5_account_4 ++ dktX5_account_5
def dkwX5_account_3 : List UInt8 := [17, 0, 145, 46, 172, 42, 180, 0, 7, 16, 104, 46, 172, 42, 182, 1, 94, 172, 42, 5, 182, 1, 91, 172]
abbrev dktX5_account_3 : List UInt8 := dkwX5_account_3 ++ dktX5_account_4
def dkwX5_account_2 : List UInt8 := [42, 180, 0, 7, 3, 46, 172, 42, 3, 182, 1, 91, 172, 42, 4, 182, 1, 91, 172, 42, 180, 0, 7]
abbrev dktX5_account_2 : List UInt8 := dkwX5_account_2 ++ dktX5_account_3
def dkwX5_account_1 : List UInt8 := [170, 0, 0, 0, 0, 136, 0, 0, 0, 0, 0, 0, 0, 14, 0, 0, 0, 74, 0, 0, 0, 81, 0, 0, 0, 87, 0, 0, 0, 136, 0, 0, 0, 136, 0, 0, 0, 136, 0, 0, 0, 136, 0, 0, 0, 136, 0, 0, 0, 93, 0, 0, 0, 102, 0, 0, 0, 110, 0, 0, 0, 115, 0, 0, 0, 121, 0, 0, 0, 126, 0, 0, 0, 131]
abbrev dktX5_account_1 : List UInt8 := dkwX5_account_1 ++ dktX5_account_2
def dkwX5_account_0 : List UInt8 := [27, 3, 16, 14, 184, 0, 97, 154, 0, 9, 42, 4, 182, 0, 80, 172, 42, 3, 181, 0, 65, 27]
abbrev dktX5_account_0 : List UInt8 := dkwX5_account_0 ++ dktX5_account_1
theorem dksX5_account_0 : cX5_account.data.toList.drop 0 = dktX5_account_0 := by decide +kernel
theorem dksX5_account_1 : cX5_account.data.toList.drop 22 = dktX5_account_1 := dk_seg dksX5_account_0 22 rfl rfl
theorem dksX5_account_2 : cX5_account.data.toList.drop 96 = dktX5_account_2 := dk_seg dksX5_account_1 74 rfl rfl
theorem dksX5_account_3 : cX5_account.data.toList.drop 119 = dktX5_account_3 := dk_seg dksX5_account_2 23 rfl rfl
theorem dksX5_account_4 : cX5_account.data.toList.drop 143 = dktX5_account_4 := dk_seg dksX5_account_3 24 rfl rfl
theorem dksX5_account_5 : cX5_account.data.toList.drop 167 = dktX5_account_5 := dk_seg dksX5_account_4 24 rfl rfl
theorem dX5_account_0 : decode cX5_account 0 = .ok (.iload_n 1, 1) := dk_27 (dk_at dksX5_account_0 0 rfl rfl)
theorem dX5_account_1 : decode cX5_account 1 = .ok (.iconst 0, 1) := dk_3 (dk_at dksX5_account_0 1 rfl rfl)
theorem dX5_account_2 : decode cX5_account 2 = .ok (.bipush 14, 2) := dk_16 14 (dk_at dksX5_account_0 2 rfl rfl)
theorem dX5_account_4 : decode cX5_account 4 = .ok (.invokestatic 97, 3) := dk_184 0 97 (dk_at dksX5_account_0 4 rfl rfl)
theorem dX5_account_7 : decode cX5_account 7 = .ok (.ifCond .ne 9, 3) := dk_154 0 9 (dk_at dksX5_account_0 7 rfl rfl)
theorem dX5_account_10 : decode cX5_account 10 = .ok (.aload_n 0, 1) := dk_42 (dk_at dksX5_account_0 10 rfl rfl)
theorem dX5_account_11 : decode cX5_account 11 = .ok (.iconst 1, 1) := dk_4 (dk_at dksX5_account_0 11 rfl rfl)
theorem dX5_account_12 : decode cX5_account 12 = .ok (.invokevirtual 80, 3) := dk_182 0 80 (dk_at dksX5_account_0 12 rfl rfl)
theorem dX5_account_15 : decode cX5_account 15 = .ok (.ireturn, 1) := dk_172 (dk_at dksX5_account_0 15 rfl rfl)
theorem dX5_account_16 : decode cX5_account 16 = .ok (.aload_n 0, 1) := dk_42 (dk_at dksX5_account_0 16 rfl rfl)
theorem dX5_account_17 : decode cX5_account 17 = .ok (.iconst 0, 1) := dk_3 (dk_at dksX5_account_0 17 rfl rfl)
theorem dX5_account_18 : decode cX5_account 18 = .ok (.putfield 65, 3) := dk_181 0 65 (dk_at dksX5_account_0 18 rfl rfl)
theorem dX5_account_21 : decode cX5_account 21 = .ok (.iload_n 1, 1) := dk_27 (dk_at dksX5_account_0 21 rfl rfl)
theorem dX5_account_22 : decode cX5_account 22 = .ok (.tableswitch 136 0 14 #[74, 81, 87, 136, 136, 136, 136, 136, 93, 102, 110, 115, 121, 126, 131], 74) := by decide +kernel
theorem dX5_account_96 : decode cX5_account 96 = .ok (.aload_n 0, 1) := dk_42 (dk_at dksX5_account_2 0 rfl rfl)
theorem dX5_account_97 : decode cX5_account 97 = .ok (.getfield 7, 3) := dk_180 0 7 (dk_at dksX5_account_2 1 rfl rfl)
theorem dX5_account_100 : decode cX5_account 100 = .ok (.iconst 0, 1) := dk_3 (dk_at dksX5_account_2 4 rfl rfl)
theorem dX5_account_101 : decode cX5_account 101 = .ok (.iaload, 1) := dk_46 (dk_at dksX5_account_2 5 rfl rfl)
theorem dX5_account_102 : decode cX5_account 102 = .ok (.ireturn, 1) := dk_172 (dk_at dksX5_account_2 6 rfl rfl)
theorem dX5_account_103 : decode cX5_account 103 = .ok (.aload_n 0, 1) := dk_42 (dk_at dksX5_account_2 7 rfl rfl)
theorem dX5_account_104 : decode cX5_account 104 = .ok (.iconst 0, 1) := dk_3 (dk_at dksX5_account_2 8 rfl rfl)
theorem dX5_account_105 : decode cX5_account 105 = .ok (.invokevirtual 347, 3) := dk_182 1 91 (dk_at dksX5_account_2 9 rfl rfl)
theorem dX5_account_108 : decode cX5_account 108 = .ok (.ireturn, 1) := dk_172 (dk_at dksX5_account_2 12 rfl rfl)
theorem dX5_account_109 : decode cX5_account 109 = .ok (.aload_n 0, 1) := dk_42 (dk_at dksX5_account_2 13 rfl rfl)
theorem dX5_account_110 : decode cX5_account 110 = .ok (.iconst 1, 1) := dk_4 (dk_at dksX5_account_2 14 rfl rfl)
theorem dX5_account_111 : decode cX5_account 111 = .ok (.invokevirtual 347, 3) := dk_182 1 91 (dk_at dksX5_account_2 15 rfl rfl)
theorem dX5_account_114 : decode cX5_account 114 = .ok (.ireturn, 1) := dk_172 (dk_at dksX5_account_2 18 rfl rfl)
theorem dX5_account_115 : decode cX5_account 115 = .ok (.aload_n 0, 1) := dk_42 (dk_at dksX5_account_2 19 rfl rfl)
theorem dX5_account_116 : decode cX5_account 116 = .ok (.getfield 7, 3) := dk_180 0 7 (dk_at dksX5_account_2 20 rfl rfl)
theorem dX5_account_119 : decode cX5_account 119 = .ok (.sipush 145, 3) := dk_17 0 145 (dk_at dksX5_account_3 0 rfl rfl)
theorem dX5_account_122 : decode cX5_account 122 = .ok (.iaload, 1) := dk_46 (dk_at dksX5_account_3 3 rfl rfl)
theorem dX5_account_123 : decode cX5_account 123 = .ok (.ireturn, 1) := dk_172 (dk_at dksX5_account_3 4 rfl rfl)
theorem dX5_account_124 : decode cX5_account 124 = .ok (.aload_n 0, 1) := dk_42 (dk_at dksX5_account_3 5 rfl rfl)
theorem dX5_account_125 : decode cX5_account 125 = .ok (.getfield 7, 3) := dk_180 0 7 (dk_at dksX5_account_3 6 rfl rfl)
theorem dX5_account_128 : decode cX5_account 128 = .ok (.bipush 104, 2) := dk_16 104 (dk_at dksX5_account_3 9 rfl rfl)
theorem dX5_account_130 : decode cX5_account 130 = .ok (.iaload, 1) := dk_46 (dk_at dksX5_account_3 11 rfl rfl)
theorem dX5_account_131 : decode cX5_account 131 = .ok (.ireturn, 1) := dk_172 (dk_at dksX5_account_3 12 rfl rfl)
theorem dX5_account_132 : decode cX5_account 132 = .ok (.aload_n 0, 1) := dk_42 (dk_at dksX5_account_3 13 rfl rfl)
theorem dX5_account_133 : decode cX5_account 133 = .ok (.invokevirtual 350, 3) := dk_182 1 94 (dk_at dksX5_account_3 14 rfl rfl)
theorem dX5_account_136 : decode cX5_account 136 = .ok (.ireturn, 1) := dk_172 (dk_at dksX5_account_3 17 rfl rfl)
theorem dX5_account_137 : decode cX5_account 137 = .ok (.aload_n 0, 1) := dk_42 (dk_at dksX5_account_3 18 rfl rfl)
theorem dX5_account_138 : decode cX5_account 138 = .ok (.iconst 2, 1) := dk_5 (dk_at dksX5_account_3 19 rfl rfl)
theorem dX5_account_139 : decode cX5_account 139 = .ok (.invokevirtual 347, 3) := dk_182 1 91 (dk_at dksX5_account_3 20 rfl rfl)
theorem dX5_account_142 : decode cX5_account 142 = .ok (.ireturn, 1) := dk_172 (dk_at dksX5_account_3 23 rfl rfl)
theorem dX5_account_143 : decode cX5_account 143 = .ok (.aload_n 0, 1) := dk_42 (dk_at dksX5_account_4 0 rfl rfl)
theorem dX5_account_144 : decode cX5_account 144 = .ok (.invokevirtual 296, 3) := dk_182 1 40 (dk_at dksX5_account_4 1 rfl rfl)
theorem dX5_account_147 : decode cX5_account 147 = .ok (.ireturn, 1) := dk_172 (dk_at dksX5_account_4 4 rfl rfl)
theorem dX5_account_148 : decode cX5_account 148 = .ok (.aload_n 0, 1) := dk_42 (dk_at dksX5_account_4 5 rfl rfl)
theorem dX5_account_149 : decode cX5_account 149 = .ok (.getfield 299, 3) := dk_180 1 43 (dk_at dksX5_account_4 6 rfl rfl)
theorem dX5_account_152 : decode cX5_account 152 = .ok (.ireturn, 1) := dk_172 (dk_at dksX5_account_4 9 rfl rfl)
theorem dX5_account_153 : decode cX5_account 153 = .ok (.aload_n 0, 1) := dk_42 (dk_at dksX5_account_4 10 rfl rfl)
theorem dX5_account_154 : decode cX5_account 154 = .ok (.getfield 84, 3) := dk_180 0 84 (dk_at dksX5_account_4 11 rfl rfl)
theorem dX5_account_157 : decode cX5_account 157 = .ok (.ireturn, 1) := dk_172 (dk_at dksX5_account_4 14 rfl rfl)
theorem dX5_account_158 : decode cX5_account 158 = .ok (.aload_n 0, 1) := dk_42 (dk_at dksX5_account_4 15 rfl rfl)
theorem dX5_account_159 : decode cX5_account 159 = .ok (.getfield 7, 3) := dk_180 0 7 (dk_at dksX5_account_4 16 rfl rfl)
theorem dX5_account_162 : decode cX5_account 162 = .ok (.sipush 140, 3) := dk_17 0 140 (dk_at dksX5_account_4 19 rfl rfl)
theorem dX5_account_165 : decode cX5_account 165 = .ok (.iload_n 1, 1) := dk_27 (dk_at dksX5_account_4 22 rfl rfl)
theorem dX5_account_166 : decode cX5_account 166 = .ok (.iadd, 1) := dk_96 (dk_at dksX5_account_4 23 rfl rfl)
theorem dX5_account_167 : decode cX5_account 167 = .ok (.iconst 3, 1) := dk_6 (dk_at dksX5_account_5 0 rfl rfl)
theorem dX5_account_168 : decode cX5_account 168 = .ok (.isub, 1) := dk_100 (dk_at dksX5_account_5 1 rfl rfl)
theorem dX5_account_169 : decode cX5_account 169 = .ok (.iaload, 1) := dk_46 (dk_at dksX5_account_5 2 rfl rfl)
theorem dX5_account_170 : decode cX5_account 170 = .ok (.ireturn, 1) := dk_172 (dk_at dksX5_account_5 3 rfl rfl)
abbrev cX5_countHolds : ByteArray := prog_25_method_110_code
def yX5_countHolds : MethodName := ⟨RX5, "countHolds", "(I)I"⟩
def dkwX5_countHolds_3 : List UInt8 := [28, 172]
abbrev dktX5_countHolds_3 : List UInt8 := dkwX5_countHolds_3 ++ []
def dkwX5_countHolds_2 : List UInt8 := [167, 0, 16, 42, 29, 182, 0, 149, 153, 0, 7, 4, 167, 0, 4, 3, 96, 61, 132, 3, 1, 167, 255, 193]
abbrev dktX5_countHolds_2 : List UInt8 := dkwX5_countHolds_2 ++ dktX5_countHolds_3
def dkwX5_countHolds_1 : List UInt8 := [153, 0, 7, 4, 167, 0, 34, 3, 167, 0, 30, 27, 4, 160, 0, 12, 42, 29, 7, 182, 0, 101]
abbrev dktX5_countHolds_1 : List UInt8 := dkwX5_countHolds_1 ++ dktX5_countHolds_2
def dkwX5_countHolds_0 : List UInt8 := [3, 61, 3, 62, 29, 42, 180, 0, 7, 3, 46, 162, 0, 59, 28, 27, 154, 0, 19, 42, 29, 182, 0, 122]
abbrev dktX5_countHolds_0 : List UInt8 := dkwX5_countHolds_0 ++ dktX5_countHolds_1
theorem dksX5_countHolds_0 : cX5_countHolds.data.toList.drop 0 = dktX5_countHolds_0 := by decide +kernel
theorem dksX5_countHolds_1 : cX5_countHolds.data.toList.drop 24 = dktX5_countHolds_1 := dk_seg dksX5_countHolds_0 24 rfl rfl
theorem dksX5_countHolds_2 : cX5_countHolds.data.toList.drop 46 = dktX5_countHolds_2 := dk_seg dksX5_countHolds_1 22 rfl rfl
theorem dksX5_countHolds_3 : cX5_countHolds.data.toList.drop 70 = dktX5_countHolds_3 := dk_seg dksX5_countHolds_2 24 rfl rfl
theorem dX5_countHolds_0 : decode cX5_countHolds 0 = .ok (.iconst 0, 1) := dk_3 (dk_at dksX5_countHolds_0 0 rfl rfl)
theorem dX5_countHolds_1 : decode cX5_countHolds 1 = .ok (.istore_n 2, 1) := dk_61 (dk_at dksX5_countHolds_0 1 rfl rfl)
theorem dX5_countHolds_2 : decode cX5_countHolds 2 = .ok (.iconst 0, 1) := dk_3 (dk_at dksX5_countHolds_0 2 rfl rfl)
theorem dX5_countHolds_3 : decode cX5_countHolds 3 = .ok (.istore_n 3, 1) := dk_62 (dk_at dksX5_countHolds_0 3 rfl rfl)
theorem dX5_countHolds_4 : decode cX5_countHolds 4 = .ok (.iload_n 3, 1) := dk_29 (dk_at dksX5_countHolds_0 4 rfl rfl)
theorem dX5_countHolds_5 : decode cX5_countHolds 5 = .ok (.aload_n 0, 1) := dk_42 (dk_at dksX5_countHolds_0 5 rfl rfl)
theorem dX5_countHolds_6 : decode cX5_countHolds 6 = .ok (.getfield 7, 3) := dk_180 0 7 (dk_at dksX5_countHolds_0 6 rfl rfl)
theorem dX5_countHolds_9 : decode cX5_countHolds 9 = .ok (.iconst 0, 1) := dk_3 (dk_at dksX5_countHolds_0 9 rfl rfl)
theorem dX5_countHolds_10 : decode cX5_countHolds 10 = .ok (.iaload, 1) := dk_46 (dk_at dksX5_countHolds_0 10 rfl rfl)
theorem dX5_countHolds_11 : decode cX5_countHolds 11 = .ok (.if_icmp .ge 59, 3) := dk_162 0 59 (dk_at dksX5_countHolds_0 11 rfl rfl)
theorem dX5_countHolds_14 : decode cX5_countHolds 14 = .ok (.iload_n 2, 1) := dk_28 (dk_at dksX5_countHolds_0 14 rfl rfl)
theorem dX5_countHolds_15 : decode cX5_countHolds 15 = .ok (.iload_n 1, 1) := dk_27 (dk_at dksX5_countHolds_0 15 rfl rfl)
theorem dX5_countHolds_16 : decode cX5_countHolds 16 = .ok (.ifCond .ne 19, 3) := dk_154 0 19 (dk_at dksX5_countHolds_0 16 rfl rfl)
theorem dX5_countHolds_19 : decode cX5_countHolds 19 = .ok (.aload_n 0, 1) := dk_42 (dk_at dksX5_countHolds_0 19 rfl rfl)
theorem dX5_countHolds_20 : decode cX5_countHolds 20 = .ok (.iload_n 3, 1) := dk_29 (dk_at dksX5_countHolds_0 20 rfl rfl)
theorem dX5_countHolds_21 : decode cX5_countHolds 21 = .ok (.invokevirtual 122, 3) := dk_182 0 122 (dk_at dksX5_countHolds_0 21 rfl rfl)
theorem dX5_countHolds_24 : decode cX5_countHolds 24 = .ok (.ifCond .eq 7, 3) := dk_153 0 7 (dk_at dksX5_countHolds_1 0 rfl rfl)
theorem dX5_countHolds_27 : decode cX5_countHolds 27 = .ok (.iconst 1, 1) := dk_4 (dk_at dksX5_countHolds_1 3 rfl rfl)
theorem dX5_countHolds_28 : decode cX5_countHolds 28 = .ok (.goto 34, 3) := dk_167 0 34 (dk_at dksX5_countHolds_1 4 rfl rfl)
theorem dX5_countHolds_31 : decode cX5_countHolds 31 = .ok (.iconst 0, 1) := dk_3 (dk_at dksX5_countHolds_1 7 rfl rfl)
theorem dX5_countHolds_32 : decode cX5_countHolds 32 = .ok (.goto 30, 3) := dk_167 0 30 (dk_at dksX5_countHolds_1 8 rfl rfl)
theorem dX5_countHolds_35 : decode cX5_countHolds 35 = .ok (.iload_n 1, 1) := dk_27 (dk_at dksX5_countHolds_1 11 rfl rfl)
theorem dX5_countHolds_36 : decode cX5_countHolds 36 = .ok (.iconst 1, 1) := dk_4 (dk_at dksX5_countHolds_1 12 rfl rfl)
theorem dX5_countHolds_37 : decode cX5_countHolds 37 = .ok (.if_icmp .ne 12, 3) := dk_160 0 12 (dk_at dksX5_countHolds_1 13 rfl rfl)
theorem dX5_countHolds_40 : decode cX5_countHolds 40 = .ok (.aload_n 0, 1) := dk_42 (dk_at dksX5_countHolds_1 16 rfl rfl)
theorem dX5_countHolds_41 : decode cX5_countHolds 41 = .ok (.iload_n 3, 1) := dk_29 (dk_at dksX5_countHolds_1 17 rfl rfl)
theorem dX5_countHolds_42 : decode cX5_countHolds 42 = .ok (.iconst 4, 1) := dk_7 (dk_at dksX5_countHolds_1 18 rfl rfl)
theorem dX5_countHolds_43 : decode cX5_countHolds 43 = .ok (.invokevirtual 101, 3) := dk_182 0 101 (dk_at dksX5_countHolds_1 19 rfl rfl)
theorem dX5_countHolds_46 : decode cX5_countHolds 46 = .ok (.goto 16, 3) := dk_167 0 16 (dk_at dksX5_countHolds_2 0 rfl rfl)
theorem dX5_countHolds_49 : decode cX5_countHolds 49 = .ok (.aload_n 0, 1) := dk_42 (dk_at dksX5_countHolds_2 3 rfl rfl)
theorem dX5_countHolds_50 : decode cX5_countHolds 50 = .ok (.iload_n 3, 1) := dk_29 (dk_at dksX5_countHolds_2 4 rfl rfl)
theorem dX5_countHolds_51 : decode cX5_countHolds 51 = .ok (.invokevirtual 149, 3) := dk_182 0 149 (dk_at dksX5_countHolds_2 5 rfl rfl)
theorem dX5_countHolds_54 : decode cX5_countHolds 54 = .ok (.ifCond .eq 7, 3) := dk_153 0 7 (dk_at dksX5_countHolds_2 8 rfl rfl)
theorem dX5_countHolds_57 : decode cX5_countHolds 57 = .ok (.iconst 1, 1) := dk_4 (dk_at dksX5_countHolds_2 11 rfl rfl)
theorem dX5_countHolds_58 : decode cX5_countHolds 58 = .ok (.goto 4, 3) := dk_167 0 4 (dk_at dksX5_countHolds_2 12 rfl rfl)
theorem dX5_countHolds_61 : decode cX5_countHolds 61 = .ok (.iconst 0, 1) := dk_3 (dk_at dksX5_countHolds_2 15 rfl rfl)
theorem dX5_countHolds_62 : decode cX5_countHolds 62 = .ok (.iadd, 1) := dk_96 (dk_at dksX5_countHolds_2 16 rfl rfl)
theorem dX5_countHolds_63 : decode cX5_countHolds 63 = .ok (.istore_n 2, 1) := dk_61 (dk_at dksX5_countHolds_2 17 rfl rfl)
theorem dX5_countHolds_64 : decode cX5_countHolds 64 = .ok (.iinc 3 1, 3) := dk_132 3 1 (dk_at dksX5_countHolds_2 18 rfl rfl)
theorem dX5_countHolds_67 : decode cX5_countHolds 67 = .ok (.goto (-63), 3) := dk_167 255 193 (dk_at dksX5_countHolds_2 21 rfl rfl)
theorem dX5_countHolds_70 : decode cX5_countHolds 70 = .ok (.iload_n 2, 1) := dk_28 (dk_at dksX5_countHolds_3 0 rfl rfl)
theorem dX5_countHolds_71 : decode cX5_countHolds 71 = .ok (.ireturn, 1) := dk_172 (dk_at dksX5_countHolds_3 1 rfl rfl)
abbrev cX5_lit : ByteArray := prog_25_method_111_code
def yX5_lit : MethodName := ⟨RX5, "lit", "()I"⟩
def dkwX5_lit_1 : List UInt8 := [132, 2, 1, 167, 255, 233, 27, 172]
abbrev dktX5_lit_1 : List UInt8 := dkwX5_lit_1 ++ []
def dkwX5_lit_0 : List UInt8 := [3, 60, 3, 61, 28, 42, 180, 0, 7, 16, 104, 46, 162, 0, 18, 27, 42, 28, 7, 182, 0, 110, 96, 60]
abbrev dktX5_lit_0 : List UInt8 := dkwX5_lit_0 ++ dktX5_lit_1
theorem dksX5_lit_0 : cX5_lit.data.toList.drop 0 = dktX5_lit_0 := by decide +kernel
theorem dksX5_lit_1 : cX5_lit.data.toList.drop 24 = dktX5_lit_1 := dk_seg dksX5_lit_0 24 rfl rfl
theorem dX5_lit_0 : decode cX5_lit 0 = .ok (.iconst 0, 1) := dk_3 (dk_at dksX5_lit_0 0 rfl rfl)
theorem dX5_lit_1 : decode cX5_lit 1 = .ok (.istore_n 1, 1) := dk_60 (dk_at dksX5_lit_0 1 rfl rfl)
theorem dX5_lit_2 : decode cX5_lit 2 = .ok (.iconst 0, 1) := dk_3 (dk_at dksX5_lit_0 2 rfl rfl)
theorem dX5_lit_3 : decode cX5_lit 3 = .ok (.istore_n 2, 1) := dk_61 (dk_at dksX5_lit_0 3 rfl rfl)
theorem dX5_lit_4 : decode cX5_lit 4 = .ok (.iload_n 2, 1) := dk_28 (dk_at dksX5_lit_0 4 rfl rfl)
theorem dX5_lit_5 : decode cX5_lit 5 = .ok (.aload_n 0, 1) := dk_42 (dk_at dksX5_lit_0 5 rfl rfl)
theorem dX5_lit_6 : decode cX5_lit 6 = .ok (.getfield 7, 3) := dk_180 0 7 (dk_at dksX5_lit_0 6 rfl rfl)
theorem dX5_lit_9 : decode cX5_lit 9 = .ok (.bipush 104, 2) := dk_16 104 (dk_at dksX5_lit_0 9 rfl rfl)
theorem dX5_lit_11 : decode cX5_lit 11 = .ok (.iaload, 1) := dk_46 (dk_at dksX5_lit_0 11 rfl rfl)
theorem dX5_lit_12 : decode cX5_lit 12 = .ok (.if_icmp .ge 18, 3) := dk_162 0 18 (dk_at dksX5_lit_0 12 rfl rfl)
theorem dX5_lit_15 : decode cX5_lit 15 = .ok (.iload_n 1, 1) := dk_27 (dk_at dksX5_lit_0 15 rfl rfl)
theorem dX5_lit_16 : decode cX5_lit 16 = .ok (.aload_n 0, 1) := dk_42 (dk_at dksX5_lit_0 16 rfl rfl)
theorem dX5_lit_17 : decode cX5_lit 17 = .ok (.iload_n 2, 1) := dk_28 (dk_at dksX5_lit_0 17 rfl rfl)
theorem dX5_lit_18 : decode cX5_lit 18 = .ok (.iconst 4, 1) := dk_7 (dk_at dksX5_lit_0 18 rfl rfl)
theorem dX5_lit_19 : decode cX5_lit 19 = .ok (.invokevirtual 110, 3) := dk_182 0 110 (dk_at dksX5_lit_0 19 rfl rfl)
theorem dX5_lit_22 : decode cX5_lit 22 = .ok (.iadd, 1) := dk_96 (dk_at dksX5_lit_0 22 rfl rfl)
theorem dX5_lit_23 : decode cX5_lit 23 = .ok (.istore_n 1, 1) := dk_60 (dk_at dksX5_lit_0 23 rfl rfl)
theorem dX5_lit_24 : decode cX5_lit 24 = .ok (.iinc 2 1, 3) := dk_132 2 1 (dk_at dksX5_lit_1 0 rfl rfl)
theorem dX5_lit_27 : decode cX5_lit 27 = .ok (.goto (-23), 3) := dk_167 255 233 (dk_at dksX5_lit_1 3 rfl rfl)
theorem dX5_lit_30 : decode cX5_lit 30 = .ok (.iload_n 1, 1) := dk_27 (dk_at dksX5_lit_1 6 rfl rfl)
theorem dX5_lit_31 : decode cX5_lit 31 = .ok (.ireturn, 1) := dk_172 (dk_at dksX5_lit_1 7 rfl rfl)
abbrev cX5_undo : ByteArray := prog_25_method_113_code
def yX5_undo : MethodName := ⟨RX5, "undo", "()I"⟩
def dkwX5_undo_3 : List UInt8 := [167, 255, 232, 42, 180, 0, 84, 172]
abbrev dktX5_undo_3 : List UInt8 := dkwX5_undo_3 ++ []
def dkwX5_undo_2 : List UInt8 := [17, 0, 170, 162, 0, 23, 42, 180, 0, 7, 28, 42, 180, 0, 13, 27, 28, 96, 46, 79, 132, 2, 1]
abbrev dktX5_undo_2 : List UInt8 := dkwX5_undo_2 ++ dktX5_undo_3
def dkwX5_undo_1 : List UInt8 := [100, 181, 0, 84, 17, 0, 170, 42, 180, 0, 87, 42, 180, 0, 84, 96, 16, 8, 112, 104, 60, 3, 61, 28]
abbrev dktX5_undo_1 : List UInt8 := dkwX5_undo_1 ++ dktX5_undo_2
def dkwX5_undo_0 : List UInt8 := [42, 180, 0, 84, 154, 0, 9, 42, 4, 182, 0, 80, 172, 42, 3, 181, 0, 65, 42, 89, 180, 0, 84, 4]
abbrev dktX5_undo_0 : List UInt8 := dkwX5_undo_0 ++ dktX5_undo_1
theorem dksX5_undo_0 : cX5_undo.data.toList.drop 0 = dktX5_undo_0 := by decide +kernel
theorem dksX5_undo_1 : cX5_undo.data.toList.drop 24 = dktX5_undo_1 := dk_seg dksX5_undo_0 24 rfl rfl
theorem dksX5_undo_2 : cX5_undo.data.toList.drop 48 = dktX5_undo_2 := dk_seg dksX5_undo_1 24 rfl rfl
theorem dksX5_undo_3 : cX5_undo.data.toList.drop 71 = dktX5_undo_3 := dk_seg dksX5_undo_2 23 rfl rfl
theorem dX5_undo_0 : decode cX5_undo 0 = .ok (.aload_n 0, 1) := dk_42 (dk_at dksX5_undo_0 0 rfl rfl)
theorem dX5_undo_1 : decode cX5_undo 1 = .ok (.getfield 84, 3) := dk_180 0 84 (dk_at dksX5_undo_0 1 rfl rfl)
theorem dX5_undo_4 : decode cX5_undo 4 = .ok (.ifCond .ne 9, 3) := dk_154 0 9 (dk_at dksX5_undo_0 4 rfl rfl)
theorem dX5_undo_7 : decode cX5_undo 7 = .ok (.aload_n 0, 1) := dk_42 (dk_at dksX5_undo_0 7 rfl rfl)
theorem dX5_undo_8 : decode cX5_undo 8 = .ok (.iconst 1, 1) := dk_4 (dk_at dksX5_undo_0 8 rfl rfl)
theorem dX5_undo_9 : decode cX5_undo 9 = .ok (.invokevirtual 80, 3) := dk_182 0 80 (dk_at dksX5_undo_0 9 rfl rfl)
theorem dX5_undo_12 : decode cX5_undo 12 = .ok (.ireturn, 1) := dk_172 (dk_at dksX5_undo_0 12 rfl rfl)
theorem dX5_undo_13 : decode cX5_undo 13 = .ok (.aload_n 0, 1) := dk_42 (dk_at dksX5_undo_0 13 rfl rfl)
theorem dX5_undo_14 : decode cX5_undo 14 = .ok (.iconst 0, 1) := dk_3 (dk_at dksX5_undo_0 14 rfl rfl)
theorem dX5_undo_15 : decode cX5_undo 15 = .ok (.putfield 65, 3) := dk_181 0 65 (dk_at dksX5_undo_0 15 rfl rfl)
theorem dX5_undo_18 : decode cX5_undo 18 = .ok (.aload_n 0, 1) := dk_42 (dk_at dksX5_undo_0 18 rfl rfl)
theorem dX5_undo_19 : decode cX5_undo 19 = .ok (.dup, 1) := dk_89 (dk_at dksX5_undo_0 19 rfl rfl)
theorem dX5_undo_20 : decode cX5_undo 20 = .ok (.getfield 84, 3) := dk_180 0 84 (dk_at dksX5_undo_0 20 rfl rfl)
theorem dX5_undo_23 : decode cX5_undo 23 = .ok (.iconst 1, 1) := dk_4 (dk_at dksX5_undo_0 23 rfl rfl)
theorem dX5_undo_24 : decode cX5_undo 24 = .ok (.isub, 1) := dk_100 (dk_at dksX5_undo_1 0 rfl rfl)
theorem dX5_undo_25 : decode cX5_undo 25 = .ok (.putfield 84, 3) := dk_181 0 84 (dk_at dksX5_undo_1 1 rfl rfl)
theorem dX5_undo_28 : decode cX5_undo 28 = .ok (.sipush 170, 3) := dk_17 0 170 (dk_at dksX5_undo_1 4 rfl rfl)
theorem dX5_undo_31 : decode cX5_undo 31 = .ok (.aload_n 0, 1) := dk_42 (dk_at dksX5_undo_1 7 rfl rfl)
theorem dX5_undo_32 : decode cX5_undo 32 = .ok (.getfield 87, 3) := dk_180 0 87 (dk_at dksX5_undo_1 8 rfl rfl)
theorem dX5_undo_35 : decode cX5_undo 35 = .ok (.aload_n 0, 1) := dk_42 (dk_at dksX5_undo_1 11 rfl rfl)
theorem dX5_undo_36 : decode cX5_undo 36 = .ok (.getfield 84, 3) := dk_180 0 84 (dk_at dksX5_undo_1 12 rfl rfl)
theorem dX5_undo_39 : decode cX5_undo 39 = .ok (.iadd, 1) := dk_96 (dk_at dksX5_undo_1 15 rfl rfl)
theorem dX5_undo_40 : decode cX5_undo 40 = .ok (.bipush 8, 2) := dk_16 8 (dk_at dksX5_undo_1 16 rfl rfl)
theorem dX5_undo_42 : decode cX5_undo 42 = .ok (.irem, 1) := dk_112 (dk_at dksX5_undo_1 18 rfl rfl)
theorem dX5_undo_43 : decode cX5_undo 43 = .ok (.imul, 1) := dk_104 (dk_at dksX5_undo_1 19 rfl rfl)
theorem dX5_undo_44 : decode cX5_undo 44 = .ok (.istore_n 1, 1) := dk_60 (dk_at dksX5_undo_1 20 rfl rfl)
theorem dX5_undo_45 : decode cX5_undo 45 = .ok (.iconst 0, 1) := dk_3 (dk_at dksX5_undo_1 21 rfl rfl)
theorem dX5_undo_46 : decode cX5_undo 46 = .ok (.istore_n 2, 1) := dk_61 (dk_at dksX5_undo_1 22 rfl rfl)
theorem dX5_undo_47 : decode cX5_undo 47 = .ok (.iload_n 2, 1) := dk_28 (dk_at dksX5_undo_1 23 rfl rfl)
theorem dX5_undo_48 : decode cX5_undo 48 = .ok (.sipush 170, 3) := dk_17 0 170 (dk_at dksX5_undo_2 0 rfl rfl)
theorem dX5_undo_51 : decode cX5_undo 51 = .ok (.if_icmp .ge 23, 3) := dk_162 0 23 (dk_at dksX5_undo_2 3 rfl rfl)
theorem dX5_undo_54 : decode cX5_undo 54 = .ok (.aload_n 0, 1) := dk_42 (dk_at dksX5_undo_2 6 rfl rfl)
theorem dX5_undo_55 : decode cX5_undo 55 = .ok (.getfield 7, 3) := dk_180 0 7 (dk_at dksX5_undo_2 7 rfl rfl)
theorem dX5_undo_58 : decode cX5_undo 58 = .ok (.iload_n 2, 1) := dk_28 (dk_at dksX5_undo_2 10 rfl rfl)
theorem dX5_undo_59 : decode cX5_undo 59 = .ok (.aload_n 0, 1) := dk_42 (dk_at dksX5_undo_2 11 rfl rfl)
theorem dX5_undo_60 : decode cX5_undo 60 = .ok (.getfield 13, 3) := dk_180 0 13 (dk_at dksX5_undo_2 12 rfl rfl)
theorem dX5_undo_63 : decode cX5_undo 63 = .ok (.iload_n 1, 1) := dk_27 (dk_at dksX5_undo_2 15 rfl rfl)
theorem dX5_undo_64 : decode cX5_undo 64 = .ok (.iload_n 2, 1) := dk_28 (dk_at dksX5_undo_2 16 rfl rfl)
theorem dX5_undo_65 : decode cX5_undo 65 = .ok (.iadd, 1) := dk_96 (dk_at dksX5_undo_2 17 rfl rfl)
theorem dX5_undo_66 : decode cX5_undo 66 = .ok (.iaload, 1) := dk_46 (dk_at dksX5_undo_2 18 rfl rfl)
theorem dX5_undo_67 : decode cX5_undo 67 = .ok (.iastore, 1) := dk_79 (dk_at dksX5_undo_2 19 rfl rfl)
theorem dX5_undo_68 : decode cX5_undo 68 = .ok (.iinc 2 1, 3) := dk_132 2 1 (dk_at dksX5_undo_2 20 rfl rfl)
theorem dX5_undo_71 : decode cX5_undo 71 = .ok (.goto (-24), 3) := dk_167 255 232 (dk_at dksX5_undo_3 0 rfl rfl)
theorem dX5_undo_74 : decode cX5_undo 74 = .ok (.aload_n 0, 1) := dk_42 (dk_at dksX5_undo_3 3 rfl rfl)
theorem dX5_undo_75 : decode cX5_undo 75 = .ok (.getfield 84, 3) := dk_180 0 84 (dk_at dksX5_undo_3 4 rfl rfl)
theorem dX5_undo_78 : decode cX5_undo 78 = .ok (.ireturn, 1) := dk_172 (dk_at dksX5_undo_3 7 rfl rfl)
abbrev cX5_save : ByteArray := prog_25_method_114_code
def yX5_save : MethodName := ⟨RX5, "save", "()I"⟩
def dkwX5_save_1 : List UInt8 := [46, 79, 132, 1, 1, 167, 255, 234, 42, 4, 181, 1, 97, 42, 180, 0, 7, 3, 46, 172]
abbrev dktX5_save_1 : List UInt8 := dkwX5_save_1 ++ []
def dkwX5_save_0 : List UInt8 := [42, 3, 181, 0, 65, 3, 60, 27, 17, 0, 170, 162, 0, 21, 42, 180, 0, 16, 27, 42, 180, 0, 7, 27]
abbrev dktX5_save_0 : List UInt8 := dkwX5_save_0 ++ dktX5_save_1
theorem dksX5_save_0 : cX5_save.data.toList.drop 0 = dktX5_save_0 := by decide +kernel
theorem dksX5_save_1 : cX5_save.data.toList.drop 24 = dktX5_save_1 := dk_seg dksX5_save_0 24 rfl rfl
theorem dX5_save_0 : decode cX5_save 0 = .ok (.aload_n 0, 1) := dk_42 (dk_at dksX5_save_0 0 rfl rfl)
theorem dX5_save_1 : decode cX5_save 1 = .ok (.iconst 0, 1) := dk_3 (dk_at dksX5_save_0 1 rfl rfl)
theorem dX5_save_2 : decode cX5_save 2 = .ok (.putfield 65, 3) := dk_181 0 65 (dk_at dksX5_save_0 2 rfl rfl)
theorem dX5_save_5 : decode cX5_save 5 = .ok (.iconst 0, 1) := dk_3 (dk_at dksX5_save_0 5 rfl rfl)
theorem dX5_save_6 : decode cX5_save 6 = .ok (.istore_n 1, 1) := dk_60 (dk_at dksX5_save_0 6 rfl rfl)
theorem dX5_save_7 : decode cX5_save 7 = .ok (.iload_n 1, 1) := dk_27 (dk_at dksX5_save_0 7 rfl rfl)
theorem dX5_save_8 : decode cX5_save 8 = .ok (.sipush 170, 3) := dk_17 0 170 (dk_at dksX5_save_0 8 rfl rfl)
theorem dX5_save_11 : decode cX5_save 11 = .ok (.if_icmp .ge 21, 3) := dk_162 0 21 (dk_at dksX5_save_0 11 rfl rfl)
theorem dX5_save_14 : decode cX5_save 14 = .ok (.aload_n 0, 1) := dk_42 (dk_at dksX5_save_0 14 rfl rfl)
theorem dX5_save_15 : decode cX5_save 15 = .ok (.getfield 16, 3) := dk_180 0 16 (dk_at dksX5_save_0 15 rfl rfl)
theorem dX5_save_18 : decode cX5_save 18 = .ok (.iload_n 1, 1) := dk_27 (dk_at dksX5_save_0 18 rfl rfl)
theorem dX5_save_19 : decode cX5_save 19 = .ok (.aload_n 0, 1) := dk_42 (dk_at dksX5_save_0 19 rfl rfl)
theorem dX5_save_20 : decode cX5_save 20 = .ok (.getfield 7, 3) := dk_180 0 7 (dk_at dksX5_save_0 20 rfl rfl)
theorem dX5_save_23 : decode cX5_save 23 = .ok (.iload_n 1, 1) := dk_27 (dk_at dksX5_save_0 23 rfl rfl)
theorem dX5_save_24 : decode cX5_save 24 = .ok (.iaload, 1) := dk_46 (dk_at dksX5_save_1 0 rfl rfl)
theorem dX5_save_25 : decode cX5_save 25 = .ok (.iastore, 1) := dk_79 (dk_at dksX5_save_1 1 rfl rfl)
theorem dX5_save_26 : decode cX5_save 26 = .ok (.iinc 1 1, 3) := dk_132 1 1 (dk_at dksX5_save_1 2 rfl rfl)
theorem dX5_save_29 : decode cX5_save 29 = .ok (.goto (-22), 3) := dk_167 255 234 (dk_at dksX5_save_1 5 rfl rfl)
theorem dX5_save_32 : decode cX5_save 32 = .ok (.aload_n 0, 1) := dk_42 (dk_at dksX5_save_1 8 rfl rfl)
theorem dX5_save_33 : decode cX5_save 33 = .ok (.iconst 1, 1) := dk_4 (dk_at dksX5_save_1 9 rfl rfl)
theorem dX5_save_34 : decode cX5_save 34 = .ok (.putfield 353, 3) := dk_181 1 97 (dk_at dksX5_save_1 10 rfl rfl)
theorem dX5_save_37 : decode cX5_save 37 = .ok (.aload_n 0, 1) := dk_42 (dk_at dksX5_save_1 13 rfl rfl)
theorem dX5_save_38 : decode cX5_save 38 = .ok (.getfield 7, 3) := dk_180 0 7 (dk_at dksX5_save_1 14 rfl rfl)
theorem dX5_save_41 : decode cX5_save 41 = .ok (.iconst 0, 1) := dk_3 (dk_at dksX5_save_1 17 rfl rfl)
theorem dX5_save_42 : decode cX5_save 42 = .ok (.iaload, 1) := dk_46 (dk_at dksX5_save_1 18 rfl rfl)
theorem dX5_save_43 : decode cX5_save 43 = .ok (.ireturn, 1) := dk_172 (dk_at dksX5_save_1 19 rfl rfl)
abbrev cX5_restore : ByteArray := prog_25_method_115_code
def yX5_restore : MethodName := ⟨RX5, "restore", "()I"⟩
def dkwX5_restore_2 : List UInt8 := [181, 0, 84, 42, 3, 181, 0, 87, 42, 180, 0, 7, 3, 46, 172]
abbrev dktX5_restore_2 : List UInt8 := dkwX5_restore_2 ++ []
def dkwX5_restore_1 : List UInt8 := [162, 0, 21, 42, 180, 0, 7, 27, 42, 180, 0, 16, 27, 46, 79, 132, 1, 1, 167, 255, 234, 42, 3]
abbrev dktX5_restore_1 : List UInt8 := dkwX5_restore_1 ++ dktX5_restore_2
def dkwX5_restore_0 : List UInt8 := [42, 180, 1, 97, 154, 0, 9, 42, 4, 182, 0, 80, 172, 42, 3, 181, 0, 65, 3, 60, 27, 17, 0, 170]
abbrev dktX5_restore_0 : List UInt8 := dkwX5_restore_0 ++ dktX5_restore_1
theorem dksX5_restore_0 : cX5_restore.data.toList.drop 0 = dktX5_restore_0 := by decide +kernel
theorem dksX5_restore_1 : cX5_restore.data.toList.drop 24 = dktX5_restore_1 := dk_seg dksX5_restore_0 24 rfl rfl
theorem dksX5_restore_2 : cX5_restore.data.toList.drop 47 = dktX5_restore_2 := dk_seg dksX5_restore_1 23 rfl rfl
theorem dX5_restore_0 : decode cX5_restore 0 = .ok (.aload_n 0, 1) := dk_42 (dk_at dksX5_restore_0 0 rfl rfl)
theorem dX5_restore_1 : decode cX5_restore 1 = .ok (.getfield 353, 3) := dk_180 1 97 (dk_at dksX5_restore_0 1 rfl rfl)
theorem dX5_restore_4 : decode cX5_restore 4 = .ok (.ifCond .ne 9, 3) := dk_154 0 9 (dk_at dksX5_restore_0 4 rfl rfl)
theorem dX5_restore_7 : decode cX5_restore 7 = .ok (.aload_n 0, 1) := dk_42 (dk_at dksX5_restore_0 7 rfl rfl)
theorem dX5_restore_8 : decode cX5_restore 8 = .ok (.iconst 1, 1) := dk_4 (dk_at dksX5_restore_0 8 rfl rfl)
theorem dX5_restore_9 : decode cX5_restore 9 = .ok (.invokevirtual 80, 3) := dk_182 0 80 (dk_at dksX5_restore_0 9 rfl rfl)
theorem dX5_restore_12 : decode cX5_restore 12 = .ok (.ireturn, 1) := dk_172 (dk_at dksX5_restore_0 12 rfl rfl)
theorem dX5_restore_13 : decode cX5_restore 13 = .ok (.aload_n 0, 1) := dk_42 (dk_at dksX5_restore_0 13 rfl rfl)
theorem dX5_restore_14 : decode cX5_restore 14 = .ok (.iconst 0, 1) := dk_3 (dk_at dksX5_restore_0 14 rfl rfl)
theorem dX5_restore_15 : decode cX5_restore 15 = .ok (.putfield 65, 3) := dk_181 0 65 (dk_at dksX5_restore_0 15 rfl rfl)
theorem dX5_restore_18 : decode cX5_restore 18 = .ok (.iconst 0, 1) := dk_3 (dk_at dksX5_restore_0 18 rfl rfl)
theorem dX5_restore_19 : decode cX5_restore 19 = .ok (.istore_n 1, 1) := dk_60 (dk_at dksX5_restore_0 19 rfl rfl)
theorem dX5_restore_20 : decode cX5_restore 20 = .ok (.iload_n 1, 1) := dk_27 (dk_at dksX5_restore_0 20 rfl rfl)
theorem dX5_restore_21 : decode cX5_restore 21 = .ok (.sipush 170, 3) := dk_17 0 170 (dk_at dksX5_restore_0 21 rfl rfl)
theorem dX5_restore_24 : decode cX5_restore 24 = .ok (.if_icmp .ge 21, 3) := dk_162 0 21 (dk_at dksX5_restore_1 0 rfl rfl)
theorem dX5_restore_27 : decode cX5_restore 27 = .ok (.aload_n 0, 1) := dk_42 (dk_at dksX5_restore_1 3 rfl rfl)
theorem dX5_restore_28 : decode cX5_restore 28 = .ok (.getfield 7, 3) := dk_180 0 7 (dk_at dksX5_restore_1 4 rfl rfl)
theorem dX5_restore_31 : decode cX5_restore 31 = .ok (.iload_n 1, 1) := dk_27 (dk_at dksX5_restore_1 7 rfl rfl)
theorem dX5_restore_32 : decode cX5_restore 32 = .ok (.aload_n 0, 1) := dk_42 (dk_at dksX5_restore_1 8 rfl rfl)
theorem dX5_restore_33 : decode cX5_restore 33 = .ok (.getfield 16, 3) := dk_180 0 16 (dk_at dksX5_restore_1 9 rfl rfl)
theorem dX5_restore_36 : decode cX5_restore 36 = .ok (.iload_n 1, 1) := dk_27 (dk_at dksX5_restore_1 12 rfl rfl)
theorem dX5_restore_37 : decode cX5_restore 37 = .ok (.iaload, 1) := dk_46 (dk_at dksX5_restore_1 13 rfl rfl)
theorem dX5_restore_38 : decode cX5_restore 38 = .ok (.iastore, 1) := dk_79 (dk_at dksX5_restore_1 14 rfl rfl)
theorem dX5_restore_39 : decode cX5_restore 39 = .ok (.iinc 1 1, 3) := dk_132 1 1 (dk_at dksX5_restore_1 15 rfl rfl)
theorem dX5_restore_42 : decode cX5_restore 42 = .ok (.goto (-22), 3) := dk_167 255 234 (dk_at dksX5_restore_1 18 rfl rfl)
theorem dX5_restore_45 : decode cX5_restore 45 = .ok (.aload_n 0, 1) := dk_42 (dk_at dksX5_restore_1 21 rfl rfl)
theorem dX5_restore_46 : decode cX5_restore 46 = .ok (.iconst 0, 1) := dk_3 (dk_at dksX5_restore_1 22 rfl rfl)
theorem dX5_restore_47 : decode cX5_restore 47 = .ok (.putfield 84, 3) := dk_181 0 84 (dk_at dksX5_restore_2 0 rfl rfl)
theorem dX5_restore_50 : decode cX5_restore 50 = .ok (.aload_n 0, 1) := dk_42 (dk_at dksX5_restore_2 3 rfl rfl)
theorem dX5_restore_51 : decode cX5_restore 51 = .ok (.iconst 0, 1) := dk_3 (dk_at dksX5_restore_2 4 rfl rfl)
theorem dX5_restore_52 : decode cX5_restore 52 = .ok (.putfield 87, 3) := dk_181 0 87 (dk_at dksX5_restore_2 5 rfl rfl)
theorem dX5_restore_55 : decode cX5_restore 55 = .ok (.aload_n 0, 1) := dk_42 (dk_at dksX5_restore_2 8 rfl rfl)
theorem dX5_restore_56 : decode cX5_restore 56 = .ok (.getfield 7, 3) := dk_180 0 7 (dk_at dksX5_restore_2 9 rfl rfl)
theorem dX5_restore_59 : decode cX5_restore 59 = .ok (.iconst 0, 1) := dk_3 (dk_at dksX5_restore_2 12 rfl rfl)
theorem dX5_restore_60 : decode cX5_restore 60 = .ok (.iaload, 1) := dk_46 (dk_at dksX5_restore_2 13 rfl rfl)
theorem dX5_restore_61 : decode cX5_restore 61 = .ok (.ireturn, 1) := dk_172 (dk_at dksX5_restore_2 14 rfl rfl)
theorem q151 : (Jvm.Cond.initialized "CrumblingWallModel") ∈ lw_all := lw_g (lw_at lw_m1 32 rfl) rfl
theorem q1096 : (Jvm.Cond.selects "CrumblingWallModel" ({ cls := "java/lang/Object", name := "getClass", desc := "()Ljava/lang/Class;" } : Jvm.MethodName) ({ cls := "java/lang/Object", name := "getClass", desc := "()Ljava/lang/Class;" } : Jvm.MethodName)) ∈ lw_all := lw_g (lw_at lw_m5 17 rfl) rfl
theorem q2947 : (Jvm.Cond.instantiable "CrumblingWallModel" (30 : Nat)) ∈ lw_all := lw_g (lw_at lw_m12 188 rfl) rfl
theorem q2949 : (Jvm.Cond.instanceMethod ({ cls := "CrumblingWallModel", name := "<init>", desc := "()V" } : Jvm.MethodName)) ∈ lw_all := lw_g (lw_at lw_m12 190 rfl) rfl
theorem q2950 : (Jvm.Cond.code ({ cls := "CrumblingWallModel", name := "<init>", desc := "()V" } : Jvm.MethodName) prog_25_method_1_code (2 : Nat) (Option.none : Option Jvm.ClassFile.FieldType)) ∈ lw_all := lw_g (lw_at lw_m12 191 rfl) rfl
theorem q2951 : (Jvm.Cond.methodLink "CrumblingWallModel" (1 : Nat) ({ cls := "java/lang/Object", name := "<init>", desc := "()V" } : Jvm.MethodName)) ∈ lw_all := lw_g (lw_at lw_m12 192 rfl) rfl
theorem q2952 : (Jvm.Cond.fieldLink "CrumblingWallModel" (65 : Nat) "CrumblingWallModel" "thrown" "I") ∈ lw_all := lw_g (lw_at lw_m12 193 rfl) rfl
theorem q2953 : (Jvm.Cond.fieldLink "CrumblingWallModel" (71 : Nat) "CrumblingWallModel" "reason" "I") ∈ lw_all := lw_g (lw_at lw_m12 194 rfl) rfl
theorem q2954 : (Jvm.Cond.fieldLink "CrumblingWallModel" (77 : Nat) "CrumblingWallModel" "detail" "I") ∈ lw_all := lw_g (lw_at lw_m12 195 rfl) rfl
theorem q2955 : (Jvm.Cond.fieldLink "CrumblingWallModel" (68 : Nat) "CrumblingWallModel" "why" "I") ∈ lw_all := lw_g (lw_at lw_m12 196 rfl) rfl
theorem q2956 : (Jvm.Cond.fieldLink "CrumblingWallModel" (74 : Nat) "CrumblingWallModel" "whyDetail" "I") ∈ lw_all := lw_g (lw_at lw_m12 197 rfl) rfl
theorem q2957 : (Jvm.Cond.fieldLink "CrumblingWallModel" (7 : Nat) "CrumblingWallModel" "w" "[I") ∈ lw_all := lw_g (lw_at lw_m12 198 rfl) rfl
theorem q2958 : (Jvm.Cond.fieldLink "CrumblingWallModel" (13 : Nat) "CrumblingWallModel" "undos" "[I") ∈ lw_all := lw_g (lw_at lw_m12 199 rfl) rfl
theorem q2959 : (Jvm.Cond.fieldLink "CrumblingWallModel" (16 : Nat) "CrumblingWallModel" "savedRow" "[I") ∈ lw_all := lw_g (lw_at lw_m12 200 rfl) rfl
theorem q2960 : (Jvm.Cond.fieldLink "CrumblingWallModel" (19 : Nat) "CrumblingWallModel" "before" "[I") ∈ lw_all := lw_g (lw_at lw_m12 201 rfl) rfl
theorem q2961 : (Jvm.Cond.fieldLink "CrumblingWallModel" (84 : Nat) "CrumblingWallModel" "changes" "I") ∈ lw_all := lw_g (lw_at lw_m12 202 rfl) rfl
theorem q2962 : (Jvm.Cond.fieldLink "CrumblingWallModel" (87 : Nat) "CrumblingWallModel" "firstChange" "I") ∈ lw_all := lw_g (lw_at lw_m12 203 rfl) rfl
theorem q2963 : (Jvm.Cond.fieldLink "CrumblingWallModel" (353 : Nat) "CrumblingWallModel" "isSaved" "Z") ∈ lw_all := lw_g (lw_at lw_m12 204 rfl) rfl
theorem q2964 : (Jvm.Cond.fieldLink "CrumblingWallModel" (22 : Nat) "CrumblingWallModel" "crumbled" "[I") ∈ lw_all := lw_g (lw_at lw_m12 205 rfl) rfl
theorem q2965 : (Jvm.Cond.fieldLink "CrumblingWallModel" (216 : Nat) "CrumblingWallModel" "crumbledMany" "I") ∈ lw_all := lw_g (lw_at lw_m12 206 rfl) rfl
theorem q2966 : (Jvm.Cond.fieldLink "CrumblingWallModel" (25 : Nat) "CrumblingWallModel" "best" "[I") ∈ lw_all := lw_g (lw_at lw_m12 207 rfl) rfl
theorem q2967 : (Jvm.Cond.fieldLink "CrumblingWallModel" (28 : Nat) "CrumblingWallModel" "rest" "[I") ∈ lw_all := lw_g (lw_at lw_m12 208 rfl) rfl
theorem q2968 : (Jvm.Cond.fieldLink "CrumblingWallModel" (31 : Nat) "CrumblingWallModel" "rows" "[F") ∈ lw_all := lw_g (lw_at lw_m12 209 rfl) rfl
theorem q2969 : (Jvm.Cond.fieldLink "CrumblingWallModel" (35 : Nat) "CrumblingWallModel" "rowMany" "[I") ∈ lw_all := lw_g (lw_at lw_m12 210 rfl) rfl
theorem q2970 : (Jvm.Cond.fieldLink "CrumblingWallModel" (38 : Nat) "CrumblingWallModel" "isThere" "[Z") ∈ lw_all := lw_g (lw_at lw_m12 211 rfl) rfl
theorem q2971 : (Jvm.Cond.fieldLink "CrumblingWallModel" (42 : Nat) "CrumblingWallModel" "racked" "[I") ∈ lw_all := lw_g (lw_at lw_m12 212 rfl) rfl
theorem q2972 : (Jvm.Cond.fieldLink "CrumblingWallModel" (45 : Nat) "CrumblingWallModel" "rackKind" "I") ∈ lw_all := lw_g (lw_at lw_m12 213 rfl) rfl
theorem q2973 : (Jvm.Cond.fieldLink "CrumblingWallModel" (49 : Nat) "CrumblingWallModel" "text" "[C") ∈ lw_all := lw_g (lw_at lw_m12 214 rfl) rfl
theorem q2974 : (Jvm.Cond.fieldLink "CrumblingWallModel" (53 : Nat) "CrumblingWallModel" "sign" "[I") ∈ lw_all := lw_g (lw_at lw_m12 215 rfl) rfl
theorem q2975 : (Jvm.Cond.fieldLink "CrumblingWallModel" (56 : Nat) "CrumblingWallModel" "who" "[I") ∈ lw_all := lw_g (lw_at lw_m12 216 rfl) rfl
theorem q2976 : (Jvm.Cond.fieldLink "CrumblingWallModel" (59 : Nat) "CrumblingWallModel" "which" "[I") ∈ lw_all := lw_g (lw_at lw_m12 217 rfl) rfl
theorem q2977 : (Jvm.Cond.fieldLink "CrumblingWallModel" (299 : Nat) "CrumblingWallModel" "length" "I") ∈ lw_all := lw_g (lw_at lw_m12 218 rfl) rfl
theorem q2978 : (Jvm.Cond.fieldLink "CrumblingWallModel" (302 : Nat) "CrumblingWallModel" "at" "I") ∈ lw_all := lw_g (lw_at lw_m12 219 rfl) rfl
theorem q2979 : (Jvm.Cond.fieldLink "CrumblingWallModel" (308 : Nat) "CrumblingWallModel" "steps" "I") ∈ lw_all := lw_g (lw_at lw_m12 220 rfl) rfl
theorem q2980 : (Jvm.Cond.fieldLink "CrumblingWallModel" (62 : Nat) "CrumblingWallModel" "errorAt" "I") ∈ lw_all := lw_g (lw_at lw_m12 221 rfl) rfl
theorem q2981 : (Jvm.Cond.fieldLink "CrumblingWallModel" (323 : Nat) "CrumblingWallModel" "failure" "I") ∈ lw_all := lw_g (lw_at lw_m12 222 rfl) rfl
theorem q2982 : (Jvm.Cond.lays "CrumblingWallModel" "CrumblingWallModel" "thrown" "I") ∈ lw_all := lw_g (lw_at lw_m12 223 rfl) rfl
theorem q2983 : (Jvm.Cond.soleField "CrumblingWallModel" "thrown") ∈ lw_all := lw_g (lw_at lw_m12 224 rfl) rfl
theorem q2984 : (Jvm.Cond.lays "CrumblingWallModel" "CrumblingWallModel" "reason" "I") ∈ lw_all := lw_g (lw_at lw_m12 225 rfl) rfl
theorem q2985 : (Jvm.Cond.soleField "CrumblingWallModel" "reason") ∈ lw_all := lw_g (lw_at lw_m12 226 rfl) rfl
theorem q2986 : (Jvm.Cond.lays "CrumblingWallModel" "CrumblingWallModel" "detail" "I") ∈ lw_all := lw_g (lw_at lw_m12 227 rfl) rfl
theorem q2987 : (Jvm.Cond.soleField "CrumblingWallModel" "detail") ∈ lw_all := lw_g (lw_at lw_m12 228 rfl) rfl
theorem q2988 : (Jvm.Cond.lays "CrumblingWallModel" "CrumblingWallModel" "why" "I") ∈ lw_all := lw_g (lw_at lw_m12 229 rfl) rfl
theorem q2989 : (Jvm.Cond.soleField "CrumblingWallModel" "why") ∈ lw_all := lw_g (lw_at lw_m12 230 rfl) rfl
theorem q2990 : (Jvm.Cond.lays "CrumblingWallModel" "CrumblingWallModel" "whyDetail" "I") ∈ lw_all := lw_g (lw_at lw_m12 231 rfl) rfl
theorem q2991 : (Jvm.Cond.soleField "CrumblingWallModel" "whyDetail") ∈ lw_all := lw_g (lw_at lw_m12 232 rfl) rfl
theorem q2992 : (Jvm.Cond.laysFinal "CrumblingWallModel" "CrumblingWallModel" "w" "[I") ∈ lw_all := lw_g (lw_at lw_m12 233 rfl) rfl
theorem q2993 : (Jvm.Cond.soleField "CrumblingWallModel" "w") ∈ lw_all := lw_g (lw_at lw_m12 234 rfl) rfl
theorem q2994 : (Jvm.Cond.laysFinal "CrumblingWallModel" "CrumblingWallModel" "undos" "[I") ∈ lw_all := lw_g (lw_at lw_m12 235 rfl) rfl
theorem q2995 : (Jvm.Cond.soleField "CrumblingWallModel" "undos") ∈ lw_all := lw_g (lw_at lw_m12 236 rfl) rfl
theorem q2996 : (Jvm.Cond.laysFinal "CrumblingWallModel" "CrumblingWallModel" "savedRow" "[I") ∈ lw_all := lw_g (lw_at lw_m12 237 rfl) rfl
theorem q2997 : (Jvm.Cond.soleField "CrumblingWallModel" "savedRow") ∈ lw_all := lw_g (lw_at lw_m12 238 rfl) rfl
theorem q2998 : (Jvm.Cond.laysFinal "CrumblingWallModel" "CrumblingWallModel" "before" "[I") ∈ lw_all := lw_g (lw_at lw_m12 239 rfl) rfl
theorem q2999 : (Jvm.Cond.soleField "CrumblingWallModel" "before") ∈ lw_all := lw_g (lw_at lw_m13 0 rfl) rfl
theorem q3000 : (Jvm.Cond.lays "CrumblingWallModel" "CrumblingWallModel" "changes" "I") ∈ lw_all := lw_g (lw_at lw_m13 1 rfl) rfl
theorem q3001 : (Jvm.Cond.soleField "CrumblingWallModel" "changes") ∈ lw_all := lw_g (lw_at lw_m13 2 rfl) rfl
theorem q3002 : (Jvm.Cond.lays "CrumblingWallModel" "CrumblingWallModel" "firstChange" "I") ∈ lw_all := lw_g (lw_at lw_m13 3 rfl) rfl
theorem q3003 : (Jvm.Cond.soleField "CrumblingWallModel" "firstChange") ∈ lw_all := lw_g (lw_at lw_m13 4 rfl) rfl
theorem q3004 : (Jvm.Cond.lays "CrumblingWallModel" "CrumblingWallModel" "isSaved" "Z") ∈ lw_all := lw_g (lw_at lw_m13 5 rfl) rfl
theorem q3005 : (Jvm.Cond.soleField "CrumblingWallModel" "isSaved") ∈ lw_all := lw_g (lw_at lw_m13 6 rfl) rfl
theorem q3006 : (Jvm.Cond.laysFinal "CrumblingWallModel" "CrumblingWallModel" "crumbled" "[I") ∈ lw_all := lw_g (lw_at lw_m13 7 rfl) rfl
theorem q3007 : (Jvm.Cond.soleField "CrumblingWallModel" "crumbled") ∈ lw_all := lw_g (lw_at lw_m13 8 rfl) rfl
theorem q3008 : (Jvm.Cond.lays "CrumblingWallModel" "CrumblingWallModel" "crumbledMany" "I") ∈ lw_all := lw_g (lw_at lw_m13 9 rfl) rfl
theorem q3009 : (Jvm.Cond.soleField "CrumblingWallModel" "crumbledMany") ∈ lw_all := lw_g (lw_at lw_m13 10 rfl) rfl
theorem q3010 : (Jvm.Cond.laysFinal "CrumblingWallModel" "CrumblingWallModel" "best" "[I") ∈ lw_all := lw_g (lw_at lw_m13 11 rfl) rfl
theorem q3011 : (Jvm.Cond.soleField "CrumblingWallModel" "best") ∈ lw_all := lw_g (lw_at lw_m13 12 rfl) rfl
theorem q3012 : (Jvm.Cond.laysFinal "CrumblingWallModel" "CrumblingWallModel" "rest" "[I") ∈ lw_all := lw_g (lw_at lw_m13 13 rfl) rfl
theorem q3013 : (Jvm.Cond.soleField "CrumblingWallModel" "rest") ∈ lw_all := lw_g (lw_at lw_m13 14 rfl) rfl
theorem q3014 : (Jvm.Cond.laysFinal "CrumblingWallModel" "CrumblingWallModel" "rows" "[F") ∈ lw_all := lw_g (lw_at lw_m13 15 rfl) rfl
theorem q3015 : (Jvm.Cond.soleField "CrumblingWallModel" "rows") ∈ lw_all := lw_g (lw_at lw_m13 16 rfl) rfl
theorem q3016 : (Jvm.Cond.laysFinal "CrumblingWallModel" "CrumblingWallModel" "rowMany" "[I") ∈ lw_all := lw_g (lw_at lw_m13 17 rfl) rfl
theorem q3017 : (Jvm.Cond.soleField "CrumblingWallModel" "rowMany") ∈ lw_all := lw_g (lw_at lw_m13 18 rfl) rfl
theorem q3018 : (Jvm.Cond.laysFinal "CrumblingWallModel" "CrumblingWallModel" "isThere" "[Z") ∈ lw_all := lw_g (lw_at lw_m13 19 rfl) rfl
theorem q3019 : (Jvm.Cond.soleField "CrumblingWallModel" "isThere") ∈ lw_all := lw_g (lw_at lw_m13 20 rfl) rfl
theorem q3020 : (Jvm.Cond.laysFinal "CrumblingWallModel" "CrumblingWallModel" "racked" "[I") ∈ lw_all := lw_g (lw_at lw_m13 21 rfl) rfl
theorem q3021 : (Jvm.Cond.soleField "CrumblingWallModel" "racked") ∈ lw_all := lw_g (lw_at lw_m13 22 rfl) rfl
theorem q3022 : (Jvm.Cond.lays "CrumblingWallModel" "CrumblingWallModel" "rackKind" "I") ∈ lw_all := lw_g (lw_at lw_m13 23 rfl) rfl
theorem q3023 : (Jvm.Cond.soleField "CrumblingWallModel" "rackKind") ∈ lw_all := lw_g (lw_at lw_m13 24 rfl) rfl
theorem q3024 : (Jvm.Cond.laysFinal "CrumblingWallModel" "CrumblingWallModel" "text" "[C") ∈ lw_all := lw_g (lw_at lw_m13 25 rfl) rfl
theorem q3025 : (Jvm.Cond.soleField "CrumblingWallModel" "text") ∈ lw_all := lw_g (lw_at lw_m13 26 rfl) rfl
theorem q3026 : (Jvm.Cond.laysFinal "CrumblingWallModel" "CrumblingWallModel" "sign" "[I") ∈ lw_all := lw_g (lw_at lw_m13 27 rfl) rfl
theorem q3027 : (Jvm.Cond.soleField "CrumblingWallModel" "sign") ∈ lw_all := lw_g (lw_at lw_m13 28 rfl) rfl
theorem q3028 : (Jvm.Cond.laysFinal "CrumblingWallModel" "CrumblingWallModel" "who" "[I") ∈ lw_all := lw_g (lw_at lw_m13 29 rfl) rfl
theorem q3029 : (Jvm.Cond.soleField "CrumblingWallModel" "who") ∈ lw_all := lw_g (lw_at lw_m13 30 rfl) rfl
theorem q3030 : (Jvm.Cond.laysFinal "CrumblingWallModel" "CrumblingWallModel" "which" "[I") ∈ lw_all := lw_g (lw_at lw_m13 31 rfl) rfl
theorem q3031 : (Jvm.Cond.soleField "CrumblingWallModel" "which") ∈ lw_all := lw_g (lw_at lw_m13 32 rfl) rfl
theorem q3032 : (Jvm.Cond.lays "CrumblingWallModel" "CrumblingWallModel" "length" "I") ∈ lw_all := lw_g (lw_at lw_m13 33 rfl) rfl
theorem q3033 : (Jvm.Cond.soleField "CrumblingWallModel" "length") ∈ lw_all := lw_g (lw_at lw_m13 34 rfl) rfl
theorem q3034 : (Jvm.Cond.lays "CrumblingWallModel" "CrumblingWallModel" "at" "I") ∈ lw_all := lw_g (lw_at lw_m13 35 rfl) rfl
theorem q3035 : (Jvm.Cond.soleField "CrumblingWallModel" "at") ∈ lw_all := lw_g (lw_at lw_m13 36 rfl) rfl
theorem q3036 : (Jvm.Cond.lays "CrumblingWallModel" "CrumblingWallModel" "steps" "I") ∈ lw_all := lw_g (lw_at lw_m13 37 rfl) rfl
theorem q3037 : (Jvm.Cond.soleField "CrumblingWallModel" "steps") ∈ lw_all := lw_g (lw_at lw_m13 38 rfl) rfl
theorem q3038 : (Jvm.Cond.lays "CrumblingWallModel" "CrumblingWallModel" "errorAt" "I") ∈ lw_all := lw_g (lw_at lw_m13 39 rfl) rfl
theorem q3039 : (Jvm.Cond.soleField "CrumblingWallModel" "errorAt") ∈ lw_all := lw_g (lw_at lw_m13 40 rfl) rfl
theorem q3040 : (Jvm.Cond.lays "CrumblingWallModel" "CrumblingWallModel" "failure" "I") ∈ lw_all := lw_g (lw_at lw_m13 41 rfl) rfl
theorem q3041 : (Jvm.Cond.soleField "CrumblingWallModel" "failure") ∈ lw_all := lw_g (lw_at lw_m13 42 rfl) rfl
theorem q3042 : (Jvm.Cond.superclass "CrumblingWallModel" "java/lang/Object") ∈ lw_all := lw_g (lw_at lw_m13 43 rfl) rfl
theorem q3046 : (Jvm.Cond.instanceMethod ({ cls := "CrumblingWallModel", name := "thrown", desc := "()I" } : Jvm.MethodName)) ∈ lw_all := lw_g (lw_at lw_m13 47 rfl) rfl
theorem q3047 : (Jvm.Cond.selects "CrumblingWallModel" ({ cls := "CrumblingWallModel", name := "thrown", desc := "()I" } : Jvm.MethodName) ({ cls := "CrumblingWallModel", name := "thrown", desc := "()I" } : Jvm.MethodName)) ∈ lw_all := lw_g (lw_at lw_m13 48 rfl) rfl
theorem q3048 : (Jvm.Cond.code ({ cls := "CrumblingWallModel", name := "thrown", desc := "()I" } : Jvm.MethodName) prog_25_method_2_code (1 : Nat) (Option.some Jvm.ClassFile.FieldType.int)) ∈ lw_all := lw_g (lw_at lw_m13 49 rfl) rfl
theorem q3050 : (Jvm.Cond.instanceMethod ({ cls := "CrumblingWallModel", name := "hold", desc := "(IIII)I" } : Jvm.MethodName)) ∈ lw_all := lw_g (lw_at lw_m13 51 rfl) rfl
theorem q3051 : (Jvm.Cond.selects "CrumblingWallModel" ({ cls := "CrumblingWallModel", name := "hold", desc := "(IIII)I" } : Jvm.MethodName) ({ cls := "CrumblingWallModel", name := "hold", desc := "(IIII)I" } : Jvm.MethodName)) ∈ lw_all := lw_g (lw_at lw_m13 52 rfl) rfl
theorem q3052 : (Jvm.Cond.code ({ cls := "CrumblingWallModel", name := "hold", desc := "(IIII)I" } : Jvm.MethodName) prog_25_method_30_code (7 : Nat) (Option.some Jvm.ClassFile.FieldType.int)) ∈ lw_all := lw_g (lw_at lw_m13 53 rfl) rfl
theorem q3053 : (Jvm.Cond.methodLink "CrumblingWallModel" (97 : Nat) ({ cls := "CrumblingWallModel", name := "isBetween", desc := "(III)Z" } : Jvm.MethodName)) ∈ lw_all := lw_g (lw_at lw_m13 54 rfl) rfl
theorem q3054 : (Jvm.Cond.static ({ cls := "CrumblingWallModel", name := "isBetween", desc := "(III)Z" } : Jvm.MethodName)) ∈ lw_all := lw_g (lw_at lw_m13 55 rfl) rfl
theorem q3055 : (Jvm.Cond.code ({ cls := "CrumblingWallModel", name := "isBetween", desc := "(III)Z" } : Jvm.MethodName) prog_25_method_6_code (3 : Nat) (Option.some Jvm.ClassFile.FieldType.boolean)) ∈ lw_all := lw_g (lw_at lw_m13 56 rfl) rfl
theorem q3056 : (Jvm.Cond.methodLink "CrumblingWallModel" (80 : Nat) ({ cls := "CrumblingWallModel", name := "fails", desc := "(I)I" } : Jvm.MethodName)) ∈ lw_all := lw_g (lw_at lw_m13 57 rfl) rfl
theorem q3057 : (Jvm.Cond.privateMethod ({ cls := "CrumblingWallModel", name := "fails", desc := "(I)I" } : Jvm.MethodName)) ∈ lw_tbl := lw_at lw_m13 58 rfl
theorem q3058 : (Jvm.Cond.instanceMethod ({ cls := "CrumblingWallModel", name := "fails", desc := "(I)I" } : Jvm.MethodName)) ∈ lw_all := lw_g (lw_at lw_m13 59 rfl) rfl
theorem q3059 : (Jvm.Cond.code ({ cls := "CrumblingWallModel", name := "fails", desc := "(I)I" } : Jvm.MethodName) prog_25_method_3_code (2 : Nat) (Option.some Jvm.ClassFile.FieldType.int)) ∈ lw_all := lw_g (lw_at lw_m13 60 rfl) rfl
theorem q3060 : (Jvm.Cond.methodLink "CrumblingWallModel" (126 : Nat) ({ cls := "CrumblingWallModel", name := "holdAt", desc := "(II)I" } : Jvm.MethodName)) ∈ lw_all := lw_g (lw_at lw_m13 61 rfl) rfl
theorem q3061 : (Jvm.Cond.privateMethod ({ cls := "CrumblingWallModel", name := "holdAt", desc := "(II)I" } : Jvm.MethodName)) ∈ lw_tbl := lw_at lw_m13 62 rfl
theorem q3062 : (Jvm.Cond.instanceMethod ({ cls := "CrumblingWallModel", name := "holdAt", desc := "(II)I" } : Jvm.MethodName)) ∈ lw_all := lw_g (lw_at lw_m13 63 rfl) rfl
theorem q3063 : (Jvm.Cond.code ({ cls := "CrumblingWallModel", name := "holdAt", desc := "(II)I" } : Jvm.MethodName) prog_25_method_29_code (4 : Nat) (Option.some Jvm.ClassFile.FieldType.int)) ∈ lw_all := lw_g (lw_at lw_m13 64 rfl) rfl
theorem q3064 : (Jvm.Cond.methodLink "CrumblingWallModel" (101 : Nat) ({ cls := "CrumblingWallModel", name := "ofHold", desc := "(II)I" } : Jvm.MethodName)) ∈ lw_all := lw_g (lw_at lw_m13 65 rfl) rfl
theorem q3065 : (Jvm.Cond.privateMethod ({ cls := "CrumblingWallModel", name := "ofHold", desc := "(II)I" } : Jvm.MethodName)) ∈ lw_tbl := lw_at lw_m13 66 rfl
theorem q3066 : (Jvm.Cond.instanceMethod ({ cls := "CrumblingWallModel", name := "ofHold", desc := "(II)I" } : Jvm.MethodName)) ∈ lw_all := lw_g (lw_at lw_m13 67 rfl) rfl
theorem q3067 : (Jvm.Cond.code ({ cls := "CrumblingWallModel", name := "ofHold", desc := "(II)I" } : Jvm.MethodName) prog_25_method_13_code (3 : Nat) (Option.some Jvm.ClassFile.FieldType.int)) ∈ lw_all := lw_g (lw_at lw_m13 68 rfl) rfl
theorem q3068 : (Jvm.Cond.methodLink "CrumblingWallModel" (90 : Nat) ({ cls := "CrumblingWallModel", name := "atHold", desc := "(II)I" } : Jvm.MethodName)) ∈ lw_all := lw_g (lw_at lw_m13 69 rfl) rfl
theorem q3069 : (Jvm.Cond.static ({ cls := "CrumblingWallModel", name := "atHold", desc := "(II)I" } : Jvm.MethodName)) ∈ lw_all := lw_g (lw_at lw_m13 70 rfl) rfl
theorem q3070 : (Jvm.Cond.code ({ cls := "CrumblingWallModel", name := "atHold", desc := "(II)I" } : Jvm.MethodName) prog_25_method_11_code (2 : Nat) (Option.some Jvm.ClassFile.FieldType.int)) ∈ lw_all := lw_g (lw_at lw_m13 71 rfl) rfl
theorem q3071 : (Jvm.Cond.methodLink "CrumblingWallModel" (129 : Nat) ({ cls := "CrumblingWallModel", name := "hinders", desc := "(II)Z" } : Jvm.MethodName)) ∈ lw_all := lw_g (lw_at lw_m13 72 rfl) rfl
theorem q3072 : (Jvm.Cond.privateMethod ({ cls := "CrumblingWallModel", name := "hinders", desc := "(II)Z" } : Jvm.MethodName)) ∈ lw_tbl := lw_at lw_m13 73 rfl
theorem q3073 : (Jvm.Cond.instanceMethod ({ cls := "CrumblingWallModel", name := "hinders", desc := "(II)Z" } : Jvm.MethodName)) ∈ lw_all := lw_g (lw_at lw_m13 74 rfl) rfl
theorem q3074 : (Jvm.Cond.code ({ cls := "CrumblingWallModel", name := "hinders", desc := "(II)Z" } : Jvm.MethodName) prog_25_method_5_code (3 : Nat) (Option.some Jvm.ClassFile.FieldType.boolean)) ∈ lw_all := lw_g (lw_at lw_m13 75 rfl) rfl
theorem q3075 : (Jvm.Cond.methodLink "CrumblingWallModel" (133 : Nat) ({ cls := "CrumblingWallModel", name := "refuses", desc := "(I)I" } : Jvm.MethodName)) ∈ lw_all := lw_g (lw_at lw_m13 76 rfl) rfl
theorem q3076 : (Jvm.Cond.privateMethod ({ cls := "CrumblingWallModel", name := "refuses", desc := "(I)I" } : Jvm.MethodName)) ∈ lw_tbl := lw_at lw_m13 77 rfl
theorem q3077 : (Jvm.Cond.instanceMethod ({ cls := "CrumblingWallModel", name := "refuses", desc := "(I)I" } : Jvm.MethodName)) ∈ lw_all := lw_g (lw_at lw_m13 78 rfl) rfl
theorem q3078 : (Jvm.Cond.code ({ cls := "CrumblingWallModel", name := "refuses", desc := "(I)I" } : Jvm.MethodName) prog_25_method_4_code (2 : Nat) (Option.some Jvm.ClassFile.FieldType.int)) ∈ lw_all := lw_g (lw_at lw_m13 79 rfl) rfl
theorem q3079 : (Jvm.Cond.methodLink "CrumblingWallModel" (136 : Nat) ({ cls := "CrumblingWallModel", name := "notes", desc := "()V" } : Jvm.MethodName)) ∈ lw_all := lw_g (lw_at lw_m13 80 rfl) rfl
theorem q3080 : (Jvm.Cond.privateMethod ({ cls := "CrumblingWallModel", name := "notes", desc := "()V" } : Jvm.MethodName)) ∈ lw_tbl := lw_at lw_m13 81 rfl
theorem q3081 : (Jvm.Cond.instanceMethod ({ cls := "CrumblingWallModel", name := "notes", desc := "()V" } : Jvm.MethodName)) ∈ lw_all := lw_g (lw_at lw_m13 82 rfl) rfl
theorem q3082 : (Jvm.Cond.code ({ cls := "CrumblingWallModel", name := "notes", desc := "()V" } : Jvm.MethodName) prog_25_method_9_code (2 : Nat) (Option.none : Option Jvm.ClassFile.FieldType)) ∈ lw_all := lw_g (lw_at lw_m13 83 rfl) rfl
theorem q3083 : (Jvm.Cond.methodLink "CrumblingWallModel" (139 : Nat) ({ cls := "CrumblingWallModel", name := "remembers", desc := "()V" } : Jvm.MethodName)) ∈ lw_all := lw_g (lw_at lw_m13 84 rfl) rfl
theorem q3084 : (Jvm.Cond.privateMethod ({ cls := "CrumblingWallModel", name := "remembers", desc := "()V" } : Jvm.MethodName)) ∈ lw_tbl := lw_at lw_m13 85 rfl
theorem q3085 : (Jvm.Cond.instanceMethod ({ cls := "CrumblingWallModel", name := "remembers", desc := "()V" } : Jvm.MethodName)) ∈ lw_all := lw_g (lw_at lw_m13 86 rfl) rfl
theorem q3086 : (Jvm.Cond.code ({ cls := "CrumblingWallModel", name := "remembers", desc := "()V" } : Jvm.MethodName) prog_25_method_8_code (3 : Nat) (Option.none : Option Jvm.ClassFile.FieldType)) ∈ lw_all := lw_g (lw_at lw_m13 87 rfl) rfl
theorem q3088 : (Jvm.Cond.instanceMethod ({ cls := "CrumblingWallModel", name := "set", desc := "(II)I" } : Jvm.MethodName)) ∈ lw_all := lw_g (lw_at lw_m13 89 rfl) rfl
theorem q3089 : (Jvm.Cond.selects "CrumblingWallModel" ({ cls := "CrumblingWallModel", name := "set", desc := "(II)I" } : Jvm.MethodName) ({ cls := "CrumblingWallModel", name := "set", desc := "(II)I" } : Jvm.MethodName)) ∈ lw_all := lw_g (lw_at lw_m13 90 rfl) rfl
theorem q3090 : (Jvm.Cond.code ({ cls := "CrumblingWallModel", name := "set", desc := "(II)I" } : Jvm.MethodName) prog_25_method_31_code (5 : Nat) (Option.some Jvm.ClassFile.FieldType.int)) ∈ lw_all := lw_g (lw_at lw_m13 91 rfl) rfl
theorem q3091 : (Jvm.Cond.methodLink "CrumblingWallModel" (142 : Nat) ({ cls := "CrumblingWallModel", name := "ropeOut", desc := "()I" } : Jvm.MethodName)) ∈ lw_all := lw_g (lw_at lw_m13 92 rfl) rfl
theorem q3092 : (Jvm.Cond.privateMethod ({ cls := "CrumblingWallModel", name := "ropeOut", desc := "()I" } : Jvm.MethodName)) ∈ lw_tbl := lw_at lw_m13 93 rfl
theorem q3093 : (Jvm.Cond.instanceMethod ({ cls := "CrumblingWallModel", name := "ropeOut", desc := "()I" } : Jvm.MethodName)) ∈ lw_all := lw_g (lw_at lw_m13 94 rfl) rfl
theorem q3094 : (Jvm.Cond.code ({ cls := "CrumblingWallModel", name := "ropeOut", desc := "()I" } : Jvm.MethodName) prog_25_method_39_code (1 : Nat) (Option.some Jvm.ClassFile.FieldType.int)) ∈ lw_all := lw_g (lw_at lw_m13 95 rfl) rfl
theorem q3095 : (Jvm.Cond.methodLink "CrumblingWallModel" (113 : Nat) ({ cls := "CrumblingWallModel", name := "place", desc := "(I)I" } : Jvm.MethodName)) ∈ lw_all := lw_g (lw_at lw_m13 96 rfl) rfl
theorem q3096 : (Jvm.Cond.privateMethod ({ cls := "CrumblingWallModel", name := "place", desc := "(I)I" } : Jvm.MethodName)) ∈ lw_tbl := lw_at lw_m13 97 rfl
theorem q3097 : (Jvm.Cond.instanceMethod ({ cls := "CrumblingWallModel", name := "place", desc := "(I)I" } : Jvm.MethodName)) ∈ lw_all := lw_g (lw_at lw_m13 98 rfl) rfl
theorem q3098 : (Jvm.Cond.code ({ cls := "CrumblingWallModel", name := "place", desc := "(I)I" } : Jvm.MethodName) prog_25_method_23_code (2 : Nat) (Option.some Jvm.ClassFile.FieldType.int)) ∈ lw_all := lw_g (lw_at lw_m13 99 rfl) rfl
theorem q3099 : (Jvm.Cond.methodLink "CrumblingWallModel" (107 : Nat) ({ cls := "CrumblingWallModel", name := "ofClimber", desc := "(II)I" } : Jvm.MethodName)) ∈ lw_all := lw_g (lw_at lw_m13 100 rfl) rfl
theorem q3100 : (Jvm.Cond.privateMethod ({ cls := "CrumblingWallModel", name := "ofClimber", desc := "(II)I" } : Jvm.MethodName)) ∈ lw_tbl := lw_at lw_m13 101 rfl
theorem q3101 : (Jvm.Cond.instanceMethod ({ cls := "CrumblingWallModel", name := "ofClimber", desc := "(II)I" } : Jvm.MethodName)) ∈ lw_all := lw_g (lw_at lw_m13 102 rfl) rfl
theorem q3102 : (Jvm.Cond.code ({ cls := "CrumblingWallModel", name := "ofClimber", desc := "(II)I" } : Jvm.MethodName) prog_25_method_15_code (3 : Nat) (Option.some Jvm.ClassFile.FieldType.int)) ∈ lw_all := lw_g (lw_at lw_m13 103 rfl) rfl
theorem q3103 : (Jvm.Cond.methodLink "CrumblingWallModel" (167 : Nat) ({ cls := "CrumblingWallModel", name := "ropeWith", desc := "(II)I" } : Jvm.MethodName)) ∈ lw_all := lw_g (lw_at lw_m13 104 rfl) rfl
theorem q3104 : (Jvm.Cond.privateMethod ({ cls := "CrumblingWallModel", name := "ropeWith", desc := "(II)I" } : Jvm.MethodName)) ∈ lw_tbl := lw_at lw_m13 105 rfl
theorem q3105 : (Jvm.Cond.instanceMethod ({ cls := "CrumblingWallModel", name := "ropeWith", desc := "(II)I" } : Jvm.MethodName)) ∈ lw_all := lw_g (lw_at lw_m13 106 rfl) rfl
theorem q3106 : (Jvm.Cond.code ({ cls := "CrumblingWallModel", name := "ropeWith", desc := "(II)I" } : Jvm.MethodName) prog_25_method_38_code (6 : Nat) (Option.some Jvm.ClassFile.FieldType.int)) ∈ lw_all := lw_g (lw_at lw_m13 107 rfl) rfl
theorem q3107 : (Jvm.Cond.methodLink "CrumblingWallModel" (119 : Nat) ({ cls := "CrumblingWallModel", name := "distance", desc := "(II)I" } : Jvm.MethodName)) ∈ lw_all := lw_g (lw_at lw_m13 108 rfl) rfl
theorem q3108 : (Jvm.Cond.privateMethod ({ cls := "CrumblingWallModel", name := "distance", desc := "(II)I" } : Jvm.MethodName)) ∈ lw_tbl := lw_at lw_m13 109 rfl
theorem q3109 : (Jvm.Cond.instanceMethod ({ cls := "CrumblingWallModel", name := "distance", desc := "(II)I" } : Jvm.MethodName)) ∈ lw_all := lw_g (lw_at lw_m13 110 rfl) rfl
theorem q3110 : (Jvm.Cond.code ({ cls := "CrumblingWallModel", name := "distance", desc := "(II)I" } : Jvm.MethodName) prog_25_method_22_code (3 : Nat) (Option.some Jvm.ClassFile.FieldType.int)) ∈ lw_all := lw_g (lw_at lw_m13 111 rfl) rfl
theorem q3111 : (Jvm.Cond.methodLink "CrumblingWallModel" (104 : Nat) ({ cls := "CrumblingWallModel", name := "size", desc := "(I)I" } : Jvm.MethodName)) ∈ lw_all := lw_g (lw_at lw_m13 112 rfl) rfl
theorem q3112 : (Jvm.Cond.static ({ cls := "CrumblingWallModel", name := "size", desc := "(I)I" } : Jvm.MethodName)) ∈ lw_all := lw_g (lw_at lw_m13 113 rfl) rfl
theorem q3113 : (Jvm.Cond.code ({ cls := "CrumblingWallModel", name := "size", desc := "(I)I" } : Jvm.MethodName) prog_25_method_7_code (1 : Nat) (Option.some Jvm.ClassFile.FieldType.int)) ∈ lw_all := lw_g (lw_at lw_m13 114 rfl) rfl
theorem q3115 : (Jvm.Cond.instanceMethod ({ cls := "CrumblingWallModel", name := "holdOf", desc := "(II)I" } : Jvm.MethodName)) ∈ lw_all := lw_g (lw_at lw_m13 116 rfl) rfl
theorem q3116 : (Jvm.Cond.selects "CrumblingWallModel" ({ cls := "CrumblingWallModel", name := "holdOf", desc := "(II)I" } : Jvm.MethodName) ({ cls := "CrumblingWallModel", name := "holdOf", desc := "(II)I" } : Jvm.MethodName)) ∈ lw_all := lw_g (lw_at lw_m13 117 rfl) rfl
theorem q3117 : (Jvm.Cond.code ({ cls := "CrumblingWallModel", name := "holdOf", desc := "(II)I" } : Jvm.MethodName) prog_25_method_35_code (3 : Nat) (Option.some Jvm.ClassFile.FieldType.int)) ∈ lw_all := lw_g (lw_at lw_m13 118 rfl) rfl
theorem q3118 : (Jvm.Cond.methodLink "CrumblingWallModel" (146 : Nat) ({ cls := "CrumblingWallModel", name := "isHold", desc := "(I)Z" } : Jvm.MethodName)) ∈ lw_all := lw_g (lw_at lw_m13 119 rfl) rfl
theorem q3119 : (Jvm.Cond.privateMethod ({ cls := "CrumblingWallModel", name := "isHold", desc := "(I)Z" } : Jvm.MethodName)) ∈ lw_tbl := lw_at lw_m13 120 rfl
theorem q3120 : (Jvm.Cond.instanceMethod ({ cls := "CrumblingWallModel", name := "isHold", desc := "(I)Z" } : Jvm.MethodName)) ∈ lw_all := lw_g (lw_at lw_m13 121 rfl) rfl
theorem q3121 : (Jvm.Cond.code ({ cls := "CrumblingWallModel", name := "isHold", desc := "(I)Z" } : Jvm.MethodName) prog_25_method_17_code (2 : Nat) (Option.some Jvm.ClassFile.FieldType.boolean)) ∈ lw_all := lw_g (lw_at lw_m13 122 rfl) rfl
theorem q3122 : (Jvm.Cond.methodLink "CrumblingWallModel" (122 : Nat) ({ cls := "CrumblingWallModel", name := "hasCrumbled", desc := "(I)Z" } : Jvm.MethodName)) ∈ lw_all := lw_g (lw_at lw_m13 123 rfl) rfl
theorem q3123 : (Jvm.Cond.privateMethod ({ cls := "CrumblingWallModel", name := "hasCrumbled", desc := "(I)Z" } : Jvm.MethodName)) ∈ lw_tbl := lw_at lw_m13 124 rfl
theorem q3124 : (Jvm.Cond.instanceMethod ({ cls := "CrumblingWallModel", name := "hasCrumbled", desc := "(I)Z" } : Jvm.MethodName)) ∈ lw_all := lw_g (lw_at lw_m13 125 rfl) rfl
theorem q3125 : (Jvm.Cond.code ({ cls := "CrumblingWallModel", name := "hasCrumbled", desc := "(I)Z" } : Jvm.MethodName) prog_25_method_21_code (2 : Nat) (Option.some Jvm.ClassFile.FieldType.boolean)) ∈ lw_all := lw_g (lw_at lw_m13 126 rfl) rfl
theorem q3126 : (Jvm.Cond.methodLink "CrumblingWallModel" (149 : Nat) ({ cls := "CrumblingWallModel", name := "isBright", desc := "(I)Z" } : Jvm.MethodName)) ∈ lw_all := lw_g (lw_at lw_m13 127 rfl) rfl
theorem q3127 : (Jvm.Cond.privateMethod ({ cls := "CrumblingWallModel", name := "isBright", desc := "(I)Z" } : Jvm.MethodName)) ∈ lw_tbl := lw_at lw_m13 128 rfl
theorem q3128 : (Jvm.Cond.instanceMethod ({ cls := "CrumblingWallModel", name := "isBright", desc := "(I)Z" } : Jvm.MethodName)) ∈ lw_all := lw_g (lw_at lw_m13 129 rfl) rfl
theorem q3129 : (Jvm.Cond.code ({ cls := "CrumblingWallModel", name := "isBright", desc := "(I)Z" } : Jvm.MethodName) prog_25_method_25_code (4 : Nat) (Option.some Jvm.ClassFile.FieldType.boolean)) ∈ lw_all := lw_g (lw_at lw_m13 130 rfl) rfl
theorem q3130 : (Jvm.Cond.methodLink "CrumblingWallModel" (110 : Nat) ({ cls := "CrumblingWallModel", name := "ofLamp", desc := "(II)I" } : Jvm.MethodName)) ∈ lw_all := lw_g (lw_at lw_m13 131 rfl) rfl
theorem q3131 : (Jvm.Cond.privateMethod ({ cls := "CrumblingWallModel", name := "ofLamp", desc := "(II)I" } : Jvm.MethodName)) ∈ lw_tbl := lw_at lw_m13 132 rfl
theorem q3132 : (Jvm.Cond.instanceMethod ({ cls := "CrumblingWallModel", name := "ofLamp", desc := "(II)I" } : Jvm.MethodName)) ∈ lw_all := lw_g (lw_at lw_m13 133 rfl) rfl
theorem q3133 : (Jvm.Cond.code ({ cls := "CrumblingWallModel", name := "ofLamp", desc := "(II)I" } : Jvm.MethodName) prog_25_method_14_code (3 : Nat) (Option.some Jvm.ClassFile.FieldType.int)) ∈ lw_all := lw_g (lw_at lw_m13 134 rfl) rfl
theorem q3134 : (Jvm.Cond.methodLink "CrumblingWallModel" (94 : Nat) ({ cls := "CrumblingWallModel", name := "atLamp", desc := "(II)I" } : Jvm.MethodName)) ∈ lw_all := lw_g (lw_at lw_m13 135 rfl) rfl
theorem q3135 : (Jvm.Cond.static ({ cls := "CrumblingWallModel", name := "atLamp", desc := "(II)I" } : Jvm.MethodName)) ∈ lw_all := lw_g (lw_at lw_m13 136 rfl) rfl
theorem q3136 : (Jvm.Cond.code ({ cls := "CrumblingWallModel", name := "atLamp", desc := "(II)I" } : Jvm.MethodName) prog_25_method_12_code (2 : Nat) (Option.some Jvm.ClassFile.FieldType.int)) ∈ lw_all := lw_g (lw_at lw_m13 137 rfl) rfl
theorem q3137 : (Jvm.Cond.methodLink "CrumblingWallModel" (116 : Nat) ({ cls := "CrumblingWallModel", name := "lampPlace", desc := "(I)I" } : Jvm.MethodName)) ∈ lw_all := lw_g (lw_at lw_m13 138 rfl) rfl
theorem q3138 : (Jvm.Cond.privateMethod ({ cls := "CrumblingWallModel", name := "lampPlace", desc := "(I)I" } : Jvm.MethodName)) ∈ lw_tbl := lw_at lw_m13 139 rfl
theorem q3139 : (Jvm.Cond.instanceMethod ({ cls := "CrumblingWallModel", name := "lampPlace", desc := "(I)I" } : Jvm.MethodName)) ∈ lw_all := lw_g (lw_at lw_m13 140 rfl) rfl
theorem q3140 : (Jvm.Cond.code ({ cls := "CrumblingWallModel", name := "lampPlace", desc := "(I)I" } : Jvm.MethodName) prog_25_method_24_code (2 : Nat) (Option.some Jvm.ClassFile.FieldType.int)) ∈ lw_all := lw_g (lw_at lw_m13 141 rfl) rfl
theorem q3141 : (Jvm.Cond.methodLink "CrumblingWallModel" (152 : Nat) ({ cls := "CrumblingWallModel", name := "climbersAt", desc := "(I)I" } : Jvm.MethodName)) ∈ lw_all := lw_g (lw_at lw_m13 142 rfl) rfl
theorem q3142 : (Jvm.Cond.privateMethod ({ cls := "CrumblingWallModel", name := "climbersAt", desc := "(I)I" } : Jvm.MethodName)) ∈ lw_tbl := lw_at lw_m13 143 rfl
theorem q3143 : (Jvm.Cond.instanceMethod ({ cls := "CrumblingWallModel", name := "climbersAt", desc := "(I)I" } : Jvm.MethodName)) ∈ lw_all := lw_g (lw_at lw_m13 144 rfl) rfl
theorem q3144 : (Jvm.Cond.code ({ cls := "CrumblingWallModel", name := "climbersAt", desc := "(I)I" } : Jvm.MethodName) prog_25_method_32_code (2 : Nat) (Option.some Jvm.ClassFile.FieldType.int)) ∈ lw_all := lw_g (lw_at lw_m13 145 rfl) rfl
theorem q3145 : (Jvm.Cond.methodLink "CrumblingWallModel" (155 : Nat) ({ cls := "CrumblingWallModel", name := "lampsAt", desc := "(I)I" } : Jvm.MethodName)) ∈ lw_all := lw_g (lw_at lw_m13 146 rfl) rfl
theorem q3146 : (Jvm.Cond.privateMethod ({ cls := "CrumblingWallModel", name := "lampsAt", desc := "(I)I" } : Jvm.MethodName)) ∈ lw_tbl := lw_at lw_m13 147 rfl
theorem q3147 : (Jvm.Cond.instanceMethod ({ cls := "CrumblingWallModel", name := "lampsAt", desc := "(I)I" } : Jvm.MethodName)) ∈ lw_all := lw_g (lw_at lw_m13 148 rfl) rfl
theorem q3148 : (Jvm.Cond.code ({ cls := "CrumblingWallModel", name := "lampsAt", desc := "(I)I" } : Jvm.MethodName) prog_25_method_33_code (4 : Nat) (Option.some Jvm.ClassFile.FieldType.int)) ∈ lw_all := lw_g (lw_at lw_m13 149 rfl) rfl
theorem q3149 : (Jvm.Cond.methodLink "CrumblingWallModel" (158 : Nat) ({ cls := "CrumblingWallModel", name := "anchorsAt", desc := "(I)I" } : Jvm.MethodName)) ∈ lw_all := lw_g (lw_at lw_m13 150 rfl) rfl
theorem q3150 : (Jvm.Cond.privateMethod ({ cls := "CrumblingWallModel", name := "anchorsAt", desc := "(I)I" } : Jvm.MethodName)) ∈ lw_tbl := lw_at lw_m13 151 rfl
theorem q3151 : (Jvm.Cond.instanceMethod ({ cls := "CrumblingWallModel", name := "anchorsAt", desc := "(I)I" } : Jvm.MethodName)) ∈ lw_all := lw_g (lw_at lw_m13 152 rfl) rfl
theorem q3152 : (Jvm.Cond.code ({ cls := "CrumblingWallModel", name := "anchorsAt", desc := "(I)I" } : Jvm.MethodName) prog_25_method_34_code (4 : Nat) (Option.some Jvm.ClassFile.FieldType.int)) ∈ lw_all := lw_g (lw_at lw_m13 153 rfl) rfl
theorem q3154 : (Jvm.Cond.instanceMethod ({ cls := "CrumblingWallModel", name := "lamp", desc := "(III)I" } : Jvm.MethodName)) ∈ lw_all := lw_g (lw_at lw_m13 155 rfl) rfl
theorem q3155 : (Jvm.Cond.selects "CrumblingWallModel" ({ cls := "CrumblingWallModel", name := "lamp", desc := "(III)I" } : Jvm.MethodName) ({ cls := "CrumblingWallModel", name := "lamp", desc := "(III)I" } : Jvm.MethodName)) ∈ lw_all := lw_g (lw_at lw_m13 156 rfl) rfl
theorem q3156 : (Jvm.Cond.code ({ cls := "CrumblingWallModel", name := "lamp", desc := "(III)I" } : Jvm.MethodName) prog_25_method_36_code (5 : Nat) (Option.some Jvm.ClassFile.FieldType.int)) ∈ lw_all := lw_g (lw_at lw_m13 157 rfl) rfl
theorem q3157 : (Jvm.Cond.methodLink "CrumblingWallModel" (161 : Nat) ({ cls := "CrumblingWallModel", name := "isPlace", desc := "(I)Z" } : Jvm.MethodName)) ∈ lw_all := lw_g (lw_at lw_m13 158 rfl) rfl
theorem q3158 : (Jvm.Cond.privateMethod ({ cls := "CrumblingWallModel", name := "isPlace", desc := "(I)Z" } : Jvm.MethodName)) ∈ lw_tbl := lw_at lw_m13 159 rfl
theorem q3159 : (Jvm.Cond.instanceMethod ({ cls := "CrumblingWallModel", name := "isPlace", desc := "(I)Z" } : Jvm.MethodName)) ∈ lw_all := lw_g (lw_at lw_m13 160 rfl) rfl
theorem q3160 : (Jvm.Cond.code ({ cls := "CrumblingWallModel", name := "isPlace", desc := "(I)Z" } : Jvm.MethodName) prog_25_method_18_code (2 : Nat) (Option.some Jvm.ClassFile.FieldType.boolean)) ∈ lw_all := lw_g (lw_at lw_m13 161 rfl) rfl
theorem q3162 : (Jvm.Cond.instanceMethod ({ cls := "CrumblingWallModel", name := "lampOf", desc := "(II)I" } : Jvm.MethodName)) ∈ lw_all := lw_g (lw_at lw_m13 163 rfl) rfl
theorem q3163 : (Jvm.Cond.selects "CrumblingWallModel" ({ cls := "CrumblingWallModel", name := "lampOf", desc := "(II)I" } : Jvm.MethodName) ({ cls := "CrumblingWallModel", name := "lampOf", desc := "(II)I" } : Jvm.MethodName)) ∈ lw_all := lw_g (lw_at lw_m13 164 rfl) rfl
theorem q3164 : (Jvm.Cond.code ({ cls := "CrumblingWallModel", name := "lampOf", desc := "(II)I" } : Jvm.MethodName) prog_25_method_37_code (3 : Nat) (Option.some Jvm.ClassFile.FieldType.int)) ∈ lw_all := lw_g (lw_at lw_m13 165 rfl) rfl
theorem q3165 : (Jvm.Cond.methodLink "CrumblingWallModel" (164 : Nat) ({ cls := "CrumblingWallModel", name := "isLamp", desc := "(I)Z" } : Jvm.MethodName)) ∈ lw_all := lw_g (lw_at lw_m13 166 rfl) rfl
theorem q3166 : (Jvm.Cond.privateMethod ({ cls := "CrumblingWallModel", name := "isLamp", desc := "(I)Z" } : Jvm.MethodName)) ∈ lw_tbl := lw_at lw_m13 167 rfl
theorem q3167 : (Jvm.Cond.instanceMethod ({ cls := "CrumblingWallModel", name := "isLamp", desc := "(I)Z" } : Jvm.MethodName)) ∈ lw_all := lw_g (lw_at lw_m13 168 rfl) rfl
theorem q3168 : (Jvm.Cond.code ({ cls := "CrumblingWallModel", name := "isLamp", desc := "(I)Z" } : Jvm.MethodName) prog_25_method_19_code (2 : Nat) (Option.some Jvm.ClassFile.FieldType.boolean)) ∈ lw_all := lw_g (lw_at lw_m13 169 rfl) rfl
theorem q3170 : (Jvm.Cond.instanceMethod ({ cls := "CrumblingWallModel", name := "clip", desc := "()I" } : Jvm.MethodName)) ∈ lw_all := lw_g (lw_at lw_m13 171 rfl) rfl
theorem q3171 : (Jvm.Cond.selects "CrumblingWallModel" ({ cls := "CrumblingWallModel", name := "clip", desc := "()I" } : Jvm.MethodName) ({ cls := "CrumblingWallModel", name := "clip", desc := "()I" } : Jvm.MethodName)) ∈ lw_all := lw_g (lw_at lw_m13 172 rfl) rfl
theorem q3172 : (Jvm.Cond.code ({ cls := "CrumblingWallModel", name := "clip", desc := "()I" } : Jvm.MethodName) prog_25_method_41_code (1 : Nat) (Option.some Jvm.ClassFile.FieldType.int)) ∈ lw_all := lw_g (lw_at lw_m13 173 rfl) rfl
theorem q3173 : (Jvm.Cond.methodLink "CrumblingWallModel" (170 : Nat) ({ cls := "CrumblingWallModel", name := "mayNotClip", desc := "()Z" } : Jvm.MethodName)) ∈ lw_all := lw_g (lw_at lw_m13 174 rfl) rfl
theorem q3174 : (Jvm.Cond.privateMethod ({ cls := "CrumblingWallModel", name := "mayNotClip", desc := "()Z" } : Jvm.MethodName)) ∈ lw_tbl := lw_at lw_m13 175 rfl
theorem q3175 : (Jvm.Cond.instanceMethod ({ cls := "CrumblingWallModel", name := "mayNotClip", desc := "()Z" } : Jvm.MethodName)) ∈ lw_all := lw_g (lw_at lw_m13 176 rfl) rfl
theorem q3176 : (Jvm.Cond.code ({ cls := "CrumblingWallModel", name := "mayNotClip", desc := "()Z" } : Jvm.MethodName) prog_25_method_44_code (3 : Nat) (Option.some Jvm.ClassFile.FieldType.boolean)) ∈ lw_all := lw_g (lw_at lw_m13 177 rfl) rfl
theorem q3177 : (Jvm.Cond.methodLink "CrumblingWallModel" (177 : Nat) ({ cls := "CrumblingWallModel", name := "mayNotAct", desc := "(IZ)Z" } : Jvm.MethodName)) ∈ lw_all := lw_g (lw_at lw_m13 178 rfl) rfl
theorem q3178 : (Jvm.Cond.privateMethod ({ cls := "CrumblingWallModel", name := "mayNotAct", desc := "(IZ)Z" } : Jvm.MethodName)) ∈ lw_tbl := lw_at lw_m13 179 rfl
theorem q3179 : (Jvm.Cond.instanceMethod ({ cls := "CrumblingWallModel", name := "mayNotAct", desc := "(IZ)Z" } : Jvm.MethodName)) ∈ lw_all := lw_g (lw_at lw_m13 180 rfl) rfl
theorem q3180 : (Jvm.Cond.code ({ cls := "CrumblingWallModel", name := "mayNotAct", desc := "(IZ)Z" } : Jvm.MethodName) prog_25_method_43_code (3 : Nat) (Option.some Jvm.ClassFile.FieldType.boolean)) ∈ lw_all := lw_g (lw_at lw_m13 181 rfl) rfl
theorem q3181 : (Jvm.Cond.methodLink "CrumblingWallModel" (174 : Nat) ({ cls := "CrumblingWallModel", name := "clips", desc := "()V" } : Jvm.MethodName)) ∈ lw_all := lw_g (lw_at lw_m13 182 rfl) rfl
theorem q3182 : (Jvm.Cond.privateMethod ({ cls := "CrumblingWallModel", name := "clips", desc := "()V" } : Jvm.MethodName)) ∈ lw_tbl := lw_at lw_m13 183 rfl
theorem q3183 : (Jvm.Cond.instanceMethod ({ cls := "CrumblingWallModel", name := "clips", desc := "()V" } : Jvm.MethodName)) ∈ lw_all := lw_g (lw_at lw_m13 184 rfl) rfl
theorem q3184 : (Jvm.Cond.code ({ cls := "CrumblingWallModel", name := "clips", desc := "()V" } : Jvm.MethodName) prog_25_method_42_code (1 : Nat) (Option.none : Option Jvm.ClassFile.FieldType)) ∈ lw_all := lw_g (lw_at lw_m13 185 rfl) rfl
theorem q3186 : (Jvm.Cond.instanceMethod ({ cls := "CrumblingWallModel", name := "unclip", desc := "()I" } : Jvm.MethodName)) ∈ lw_all := lw_g (lw_at lw_m13 187 rfl) rfl
theorem q3187 : (Jvm.Cond.selects "CrumblingWallModel" ({ cls := "CrumblingWallModel", name := "unclip", desc := "()I" } : Jvm.MethodName) ({ cls := "CrumblingWallModel", name := "unclip", desc := "()I" } : Jvm.MethodName)) ∈ lw_all := lw_g (lw_at lw_m13 188 rfl) rfl
theorem q3188 : (Jvm.Cond.code ({ cls := "CrumblingWallModel", name := "unclip", desc := "()I" } : Jvm.MethodName) prog_25_method_47_code (1 : Nat) (Option.some Jvm.ClassFile.FieldType.int)) ∈ lw_all := lw_g (lw_at lw_m13 189 rfl) rfl
theorem q3189 : (Jvm.Cond.methodLink "CrumblingWallModel" (181 : Nat) ({ cls := "CrumblingWallModel", name := "mayNotUnclip", desc := "()Z" } : Jvm.MethodName)) ∈ lw_all := lw_g (lw_at lw_m13 190 rfl) rfl
theorem q3190 : (Jvm.Cond.privateMethod ({ cls := "CrumblingWallModel", name := "mayNotUnclip", desc := "()Z" } : Jvm.MethodName)) ∈ lw_tbl := lw_at lw_m13 191 rfl
theorem q3191 : (Jvm.Cond.instanceMethod ({ cls := "CrumblingWallModel", name := "mayNotUnclip", desc := "()Z" } : Jvm.MethodName)) ∈ lw_all := lw_g (lw_at lw_m13 192 rfl) rfl
theorem q3192 : (Jvm.Cond.code ({ cls := "CrumblingWallModel", name := "mayNotUnclip", desc := "()Z" } : Jvm.MethodName) prog_25_method_45_code (2 : Nat) (Option.some Jvm.ClassFile.FieldType.boolean)) ∈ lw_all := lw_g (lw_at lw_m13 193 rfl) rfl
theorem q3193 : (Jvm.Cond.methodLink "CrumblingWallModel" (184 : Nat) ({ cls := "CrumblingWallModel", name := "unclips", desc := "()V" } : Jvm.MethodName)) ∈ lw_all := lw_g (lw_at lw_m13 194 rfl) rfl
theorem q3194 : (Jvm.Cond.privateMethod ({ cls := "CrumblingWallModel", name := "unclips", desc := "()V" } : Jvm.MethodName)) ∈ lw_tbl := lw_at lw_m13 195 rfl
theorem q3195 : (Jvm.Cond.instanceMethod ({ cls := "CrumblingWallModel", name := "unclips", desc := "()V" } : Jvm.MethodName)) ∈ lw_all := lw_g (lw_at lw_m13 196 rfl) rfl
theorem q3196 : (Jvm.Cond.code ({ cls := "CrumblingWallModel", name := "unclips", desc := "()V" } : Jvm.MethodName) prog_25_method_46_code (2 : Nat) (Option.none : Option Jvm.ClassFile.FieldType)) ∈ lw_all := lw_g (lw_at lw_m13 197 rfl) rfl
theorem q3198 : (Jvm.Cond.instanceMethod ({ cls := "CrumblingWallModel", name := "anchors", desc := "()I" } : Jvm.MethodName)) ∈ lw_all := lw_g (lw_at lw_m13 199 rfl) rfl
theorem q3199 : (Jvm.Cond.selects "CrumblingWallModel" ({ cls := "CrumblingWallModel", name := "anchors", desc := "()I" } : Jvm.MethodName) ({ cls := "CrumblingWallModel", name := "anchors", desc := "()I" } : Jvm.MethodName)) ∈ lw_all := lw_g (lw_at lw_m13 200 rfl) rfl
theorem q3200 : (Jvm.Cond.code ({ cls := "CrumblingWallModel", name := "anchors", desc := "()I" } : Jvm.MethodName) prog_25_method_48_code (1 : Nat) (Option.some Jvm.ClassFile.FieldType.int)) ∈ lw_all := lw_g (lw_at lw_m13 201 rfl) rfl
theorem q3202 : (Jvm.Cond.instanceMethod ({ cls := "CrumblingWallModel", name := "anchor", desc := "(I)I" } : Jvm.MethodName)) ∈ lw_all := lw_g (lw_at lw_m13 203 rfl) rfl
theorem q3203 : (Jvm.Cond.selects "CrumblingWallModel" ({ cls := "CrumblingWallModel", name := "anchor", desc := "(I)I" } : Jvm.MethodName) ({ cls := "CrumblingWallModel", name := "anchor", desc := "(I)I" } : Jvm.MethodName)) ∈ lw_all := lw_g (lw_at lw_m13 204 rfl) rfl
theorem q3204 : (Jvm.Cond.code ({ cls := "CrumblingWallModel", name := "anchor", desc := "(I)I" } : Jvm.MethodName) prog_25_method_49_code (2 : Nat) (Option.some Jvm.ClassFile.FieldType.int)) ∈ lw_all := lw_g (lw_at lw_m13 205 rfl) rfl
theorem q3206 : (Jvm.Cond.instanceMethod ({ cls := "CrumblingWallModel", name := "rope", desc := "()I" } : Jvm.MethodName)) ∈ lw_all := lw_g (lw_at lw_m13 207 rfl) rfl
theorem q3207 : (Jvm.Cond.selects "CrumblingWallModel" ({ cls := "CrumblingWallModel", name := "rope", desc := "()I" } : Jvm.MethodName) ({ cls := "CrumblingWallModel", name := "rope", desc := "()I" } : Jvm.MethodName)) ∈ lw_all := lw_g (lw_at lw_m13 208 rfl) rfl
theorem q3208 : (Jvm.Cond.code ({ cls := "CrumblingWallModel", name := "rope", desc := "()I" } : Jvm.MethodName) prog_25_method_50_code (1 : Nat) (Option.some Jvm.ClassFile.FieldType.int)) ∈ lw_all := lw_g (lw_at lw_m13 209 rfl) rfl
theorem q3210 : (Jvm.Cond.instanceMethod ({ cls := "CrumblingWallModel", name := "ropeAgain", desc := "()I" } : Jvm.MethodName)) ∈ lw_all := lw_g (lw_at lw_m13 211 rfl) rfl
theorem q3211 : (Jvm.Cond.selects "CrumblingWallModel" ({ cls := "CrumblingWallModel", name := "ropeAgain", desc := "()I" } : Jvm.MethodName) ({ cls := "CrumblingWallModel", name := "ropeAgain", desc := "()I" } : Jvm.MethodName)) ∈ lw_all := lw_g (lw_at lw_m13 212 rfl) rfl
theorem q3212 : (Jvm.Cond.code ({ cls := "CrumblingWallModel", name := "ropeAgain", desc := "()I" } : Jvm.MethodName) prog_25_method_51_code (1 : Nat) (Option.some Jvm.ClassFile.FieldType.int)) ∈ lw_all := lw_g (lw_at lw_m13 213 rfl) rfl
theorem q3214 : (Jvm.Cond.instanceMethod ({ cls := "CrumblingWallModel", name := "climberOf", desc := "(II)I" } : Jvm.MethodName)) ∈ lw_all := lw_g (lw_at lw_m13 215 rfl) rfl
theorem q3215 : (Jvm.Cond.selects "CrumblingWallModel" ({ cls := "CrumblingWallModel", name := "climberOf", desc := "(II)I" } : Jvm.MethodName) ({ cls := "CrumblingWallModel", name := "climberOf", desc := "(II)I" } : Jvm.MethodName)) ∈ lw_all := lw_g (lw_at lw_m13 216 rfl) rfl
theorem q3216 : (Jvm.Cond.code ({ cls := "CrumblingWallModel", name := "climberOf", desc := "(II)I" } : Jvm.MethodName) prog_25_method_52_code (3 : Nat) (Option.some Jvm.ClassFile.FieldType.int)) ∈ lw_all := lw_g (lw_at lw_m13 217 rfl) rfl
theorem q3217 : (Jvm.Cond.methodLink "CrumblingWallModel" (187 : Nat) ({ cls := "CrumblingWallModel", name := "isClimber", desc := "(I)Z" } : Jvm.MethodName)) ∈ lw_all := lw_g (lw_at lw_m13 218 rfl) rfl
theorem q3218 : (Jvm.Cond.static ({ cls := "CrumblingWallModel", name := "isClimber", desc := "(I)Z" } : Jvm.MethodName)) ∈ lw_all := lw_g (lw_at lw_m13 219 rfl) rfl
theorem q3219 : (Jvm.Cond.code ({ cls := "CrumblingWallModel", name := "isClimber", desc := "(I)Z" } : Jvm.MethodName) prog_25_method_20_code (1 : Nat) (Option.some Jvm.ClassFile.FieldType.boolean)) ∈ lw_all := lw_g (lw_at lw_m13 220 rfl) rfl
theorem q3220 : (Jvm.Cond.methodLink "CrumblingWallModel" (190 : Nat) ({ cls := "CrumblingWallModel", name := "carried", desc := "(I)I" } : Jvm.MethodName)) ∈ lw_all := lw_g (lw_at lw_m13 221 rfl) rfl
theorem q3221 : (Jvm.Cond.privateMethod ({ cls := "CrumblingWallModel", name := "carried", desc := "(I)I" } : Jvm.MethodName)) ∈ lw_tbl := lw_at lw_m13 222 rfl
theorem q3222 : (Jvm.Cond.instanceMethod ({ cls := "CrumblingWallModel", name := "carried", desc := "(I)I" } : Jvm.MethodName)) ∈ lw_all := lw_g (lw_at lw_m13 223 rfl) rfl
theorem q3223 : (Jvm.Cond.code ({ cls := "CrumblingWallModel", name := "carried", desc := "(I)I" } : Jvm.MethodName) prog_25_method_26_code (4 : Nat) (Option.some Jvm.ClassFile.FieldType.int)) ∈ lw_all := lw_g (lw_at lw_m13 224 rfl) rfl
theorem q3224 : (Jvm.Cond.methodLink "CrumblingWallModel" (193 : Nat) ({ cls := "CrumblingWallModel", name := "isSecure", desc := "(I)Z" } : Jvm.MethodName)) ∈ lw_all := lw_g (lw_at lw_m13 225 rfl) rfl
theorem q3225 : (Jvm.Cond.privateMethod ({ cls := "CrumblingWallModel", name := "isSecure", desc := "(I)Z" } : Jvm.MethodName)) ∈ lw_tbl := lw_at lw_m13 226 rfl
theorem q3226 : (Jvm.Cond.instanceMethod ({ cls := "CrumblingWallModel", name := "isSecure", desc := "(I)Z" } : Jvm.MethodName)) ∈ lw_all := lw_g (lw_at lw_m13 227 rfl) rfl
theorem q3227 : (Jvm.Cond.code ({ cls := "CrumblingWallModel", name := "isSecure", desc := "(I)Z" } : Jvm.MethodName) prog_25_method_28_code (2 : Nat) (Option.some Jvm.ClassFile.FieldType.boolean)) ∈ lw_all := lw_g (lw_at lw_m13 228 rfl) rfl
theorem q3229 : (Jvm.Cond.instanceMethod ({ cls := "CrumblingWallModel", name := "move", desc := "(II)I" } : Jvm.MethodName)) ∈ lw_all := lw_g (lw_at lw_m13 230 rfl) rfl
theorem q3230 : (Jvm.Cond.selects "CrumblingWallModel" ({ cls := "CrumblingWallModel", name := "move", desc := "(II)I" } : Jvm.MethodName) ({ cls := "CrumblingWallModel", name := "move", desc := "(II)I" } : Jvm.MethodName)) ∈ lw_all := lw_g (lw_at lw_m13 231 rfl) rfl
theorem q3231 : (Jvm.Cond.code ({ cls := "CrumblingWallModel", name := "move", desc := "(II)I" } : Jvm.MethodName) prog_25_method_65_code (3 : Nat) (Option.some Jvm.ClassFile.FieldType.int)) ∈ lw_all := lw_g (lw_at lw_m13 232 rfl) rfl
theorem q3232 : (Jvm.Cond.methodLink "CrumblingWallModel" (249 : Nat) ({ cls := "CrumblingWallModel", name := "mayNotMove", desc := "(II)Z" } : Jvm.MethodName)) ∈ lw_all := lw_g (lw_at lw_m13 233 rfl) rfl
theorem q3233 : (Jvm.Cond.privateMethod ({ cls := "CrumblingWallModel", name := "mayNotMove", desc := "(II)Z" } : Jvm.MethodName)) ∈ lw_tbl := lw_at lw_m13 234 rfl
theorem q3234 : (Jvm.Cond.instanceMethod ({ cls := "CrumblingWallModel", name := "mayNotMove", desc := "(II)Z" } : Jvm.MethodName)) ∈ lw_all := lw_g (lw_at lw_m13 235 rfl) rfl
theorem q3235 : (Jvm.Cond.code ({ cls := "CrumblingWallModel", name := "mayNotMove", desc := "(II)Z" } : Jvm.MethodName) prog_25_method_54_code (6 : Nat) (Option.some Jvm.ClassFile.FieldType.boolean)) ∈ lw_all := lw_g (lw_at lw_m13 236 rfl) rfl
theorem q3236 : (Jvm.Cond.methodLink "CrumblingWallModel" (199 : Nat) ({ cls := "CrumblingWallModel", name := "costOf", desc := "(II)I" } : Jvm.MethodName)) ∈ lw_all := lw_g (lw_at lw_m13 237 rfl) rfl
theorem q3237 : (Jvm.Cond.privateMethod ({ cls := "CrumblingWallModel", name := "costOf", desc := "(II)I" } : Jvm.MethodName)) ∈ lw_tbl := lw_at lw_m13 238 rfl
theorem q3238 : (Jvm.Cond.instanceMethod ({ cls := "CrumblingWallModel", name := "costOf", desc := "(II)I" } : Jvm.MethodName)) ∈ lw_all := lw_g (lw_at lw_m13 239 rfl) rfl
theorem q3239 : (Jvm.Cond.code ({ cls := "CrumblingWallModel", name := "costOf", desc := "(II)I" } : Jvm.MethodName) prog_25_method_53_code (3 : Nat) (Option.some Jvm.ClassFile.FieldType.int)) ∈ lw_all := lw_g (lw_at lw_m14 0 rfl) rfl
theorem q3240 : (Jvm.Cond.methodLink "CrumblingWallModel" (196 : Nat) ({ cls := "CrumblingWallModel", name := "bits", desc := "(I)I" } : Jvm.MethodName)) ∈ lw_all := lw_g (lw_at lw_m14 1 rfl) rfl
theorem q3241 : (Jvm.Cond.static ({ cls := "CrumblingWallModel", name := "bits", desc := "(I)I" } : Jvm.MethodName)) ∈ lw_all := lw_g (lw_at lw_m14 2 rfl) rfl
theorem q3242 : (Jvm.Cond.code ({ cls := "CrumblingWallModel", name := "bits", desc := "(I)I" } : Jvm.MethodName) prog_25_method_27_code (3 : Nat) (Option.some Jvm.ClassFile.FieldType.int)) ∈ lw_all := lw_g (lw_at lw_m14 3 rfl) rfl
theorem q3243 : (Jvm.Cond.methodLink "CrumblingWallModel" (252 : Nat) ({ cls := "CrumblingWallModel", name := "movesTo", desc := "(II)V" } : Jvm.MethodName)) ∈ lw_all := lw_g (lw_at lw_m14 4 rfl) rfl
theorem q3244 : (Jvm.Cond.privateMethod ({ cls := "CrumblingWallModel", name := "movesTo", desc := "(II)V" } : Jvm.MethodName)) ∈ lw_tbl := lw_at lw_m14 5 rfl
theorem q3245 : (Jvm.Cond.instanceMethod ({ cls := "CrumblingWallModel", name := "movesTo", desc := "(II)V" } : Jvm.MethodName)) ∈ lw_all := lw_g (lw_at lw_m14 6 rfl) rfl
theorem q3246 : (Jvm.Cond.code ({ cls := "CrumblingWallModel", name := "movesTo", desc := "(II)V" } : Jvm.MethodName) prog_25_method_57_code (3 : Nat) (Option.none : Option Jvm.ClassFile.FieldType)) ∈ lw_all := lw_g (lw_at lw_m14 7 rfl) rfl
theorem q3247 : (Jvm.Cond.methodLink "CrumblingWallModel" (202 : Nat) ({ cls := "CrumblingWallModel", name := "setClimber", desc := "(III)V" } : Jvm.MethodName)) ∈ lw_all := lw_g (lw_at lw_m14 8 rfl) rfl
theorem q3248 : (Jvm.Cond.privateMethod ({ cls := "CrumblingWallModel", name := "setClimber", desc := "(III)V" } : Jvm.MethodName)) ∈ lw_tbl := lw_at lw_m14 9 rfl
theorem q3249 : (Jvm.Cond.instanceMethod ({ cls := "CrumblingWallModel", name := "setClimber", desc := "(III)V" } : Jvm.MethodName)) ∈ lw_all := lw_g (lw_at lw_m14 10 rfl) rfl
theorem q3250 : (Jvm.Cond.code ({ cls := "CrumblingWallModel", name := "setClimber", desc := "(III)V" } : Jvm.MethodName) prog_25_method_16_code (4 : Nat) (Option.none : Option Jvm.ClassFile.FieldType)) ∈ lw_all := lw_g (lw_at lw_m14 11 rfl) rfl
theorem q3251 : (Jvm.Cond.methodLink "CrumblingWallModel" (206 : Nat) ({ cls := "CrumblingWallModel", name := "wearOf", desc := "(II)I" } : Jvm.MethodName)) ∈ lw_all := lw_g (lw_at lw_m14 12 rfl) rfl
theorem q3252 : (Jvm.Cond.privateMethod ({ cls := "CrumblingWallModel", name := "wearOf", desc := "(II)I" } : Jvm.MethodName)) ∈ lw_tbl := lw_at lw_m14 13 rfl
theorem q3253 : (Jvm.Cond.instanceMethod ({ cls := "CrumblingWallModel", name := "wearOf", desc := "(II)I" } : Jvm.MethodName)) ∈ lw_all := lw_g (lw_at lw_m14 14 rfl) rfl
theorem q3254 : (Jvm.Cond.code ({ cls := "CrumblingWallModel", name := "wearOf", desc := "(II)I" } : Jvm.MethodName) prog_25_method_56_code (5 : Nat) (Option.some Jvm.ClassFile.FieldType.int)) ∈ lw_all := lw_g (lw_at lw_m14 15 rfl) rfl
theorem q3255 : (Jvm.Cond.methodLink "CrumblingWallModel" (209 : Nat) ({ cls := "CrumblingWallModel", name := "crumbles", desc := "(I)V" } : Jvm.MethodName)) ∈ lw_all := lw_g (lw_at lw_m14 16 rfl) rfl
theorem q3256 : (Jvm.Cond.privateMethod ({ cls := "CrumblingWallModel", name := "crumbles", desc := "(I)V" } : Jvm.MethodName)) ∈ lw_tbl := lw_at lw_m14 17 rfl
theorem q3257 : (Jvm.Cond.instanceMethod ({ cls := "CrumblingWallModel", name := "crumbles", desc := "(I)V" } : Jvm.MethodName)) ∈ lw_all := lw_g (lw_at lw_m14 18 rfl) rfl
theorem q3258 : (Jvm.Cond.code ({ cls := "CrumblingWallModel", name := "crumbles", desc := "(I)V" } : Jvm.MethodName) prog_25_method_58_code (3 : Nat) (Option.none : Option Jvm.ClassFile.FieldType)) ∈ lw_all := lw_g (lw_at lw_m14 19 rfl) rfl
theorem q3259 : (Jvm.Cond.methodLink "CrumblingWallModel" (219 : Nat) ({ cls := "CrumblingWallModel", name := "treats", desc := "(I)V" } : Jvm.MethodName)) ∈ lw_all := lw_g (lw_at lw_m14 20 rfl) rfl
theorem q3260 : (Jvm.Cond.privateMethod ({ cls := "CrumblingWallModel", name := "treats", desc := "(I)V" } : Jvm.MethodName)) ∈ lw_tbl := lw_at lw_m14 21 rfl
theorem q3261 : (Jvm.Cond.instanceMethod ({ cls := "CrumblingWallModel", name := "treats", desc := "(I)V" } : Jvm.MethodName)) ∈ lw_all := lw_g (lw_at lw_m14 22 rfl) rfl
theorem q3262 : (Jvm.Cond.code ({ cls := "CrumblingWallModel", name := "treats", desc := "(I)V" } : Jvm.MethodName) prog_25_method_59_code (3 : Nat) (Option.none : Option Jvm.ClassFile.FieldType)) ∈ lw_all := lw_g (lw_at lw_m14 23 rfl) rfl
theorem q3263 : (Jvm.Cond.methodLink "CrumblingWallModel" (222 : Nat) ({ cls := "CrumblingWallModel", name := "takesOut", desc := "(I)V" } : Jvm.MethodName)) ∈ lw_all := lw_g (lw_at lw_m14 24 rfl) rfl
theorem q3264 : (Jvm.Cond.privateMethod ({ cls := "CrumblingWallModel", name := "takesOut", desc := "(I)V" } : Jvm.MethodName)) ∈ lw_tbl := lw_at lw_m14 25 rfl
theorem q3265 : (Jvm.Cond.instanceMethod ({ cls := "CrumblingWallModel", name := "takesOut", desc := "(I)V" } : Jvm.MethodName)) ∈ lw_all := lw_g (lw_at lw_m14 26 rfl) rfl
theorem q3266 : (Jvm.Cond.code ({ cls := "CrumblingWallModel", name := "takesOut", desc := "(I)V" } : Jvm.MethodName) prog_25_method_40_code (4 : Nat) (Option.none : Option Jvm.ClassFile.FieldType)) ∈ lw_all := lw_g (lw_at lw_m14 27 rfl) rfl
theorem q3267 : (Jvm.Cond.methodLink "CrumblingWallModel" (225 : Nat) ({ cls := "CrumblingWallModel", name := "leaderFalls", desc := "(I)V" } : Jvm.MethodName)) ∈ lw_all := lw_g (lw_at lw_m14 28 rfl) rfl
theorem q3268 : (Jvm.Cond.privateMethod ({ cls := "CrumblingWallModel", name := "leaderFalls", desc := "(I)V" } : Jvm.MethodName)) ∈ lw_tbl := lw_at lw_m14 29 rfl
theorem q3269 : (Jvm.Cond.instanceMethod ({ cls := "CrumblingWallModel", name := "leaderFalls", desc := "(I)V" } : Jvm.MethodName)) ∈ lw_all := lw_g (lw_at lw_m14 30 rfl) rfl
theorem q3270 : (Jvm.Cond.code ({ cls := "CrumblingWallModel", name := "leaderFalls", desc := "(I)V" } : Jvm.MethodName) prog_25_method_64_code (7 : Nat) (Option.none : Option Jvm.ClassFile.FieldType)) ∈ lw_all := lw_g (lw_at lw_m14 31 rfl) rfl
theorem q3271 : (Jvm.Cond.methodLink "CrumblingWallModel" (235 : Nat) ({ cls := "CrumblingWallModel", name := "toGround", desc := "(I)V" } : Jvm.MethodName)) ∈ lw_all := lw_g (lw_at lw_m14 32 rfl) rfl
theorem q3272 : (Jvm.Cond.privateMethod ({ cls := "CrumblingWallModel", name := "toGround", desc := "(I)V" } : Jvm.MethodName)) ∈ lw_tbl := lw_at lw_m14 33 rfl
theorem q3273 : (Jvm.Cond.instanceMethod ({ cls := "CrumblingWallModel", name := "toGround", desc := "(I)V" } : Jvm.MethodName)) ∈ lw_all := lw_g (lw_at lw_m14 34 rfl) rfl
theorem q3274 : (Jvm.Cond.code ({ cls := "CrumblingWallModel", name := "toGround", desc := "(I)V" } : Jvm.MethodName) prog_25_method_60_code (3 : Nat) (Option.none : Option Jvm.ClassFile.FieldType)) ∈ lw_all := lw_g (lw_at lw_m14 35 rfl) rfl
theorem q3275 : (Jvm.Cond.methodLink "CrumblingWallModel" (244 : Nat) ({ cls := "CrumblingWallModel", name := "keeps", desc := "(F)V" } : Jvm.MethodName)) ∈ lw_all := lw_g (lw_at lw_m14 36 rfl) rfl
theorem q3276 : (Jvm.Cond.privateMethod ({ cls := "CrumblingWallModel", name := "keeps", desc := "(F)V" } : Jvm.MethodName)) ∈ lw_tbl := lw_at lw_m14 37 rfl
theorem q3277 : (Jvm.Cond.instanceMethod ({ cls := "CrumblingWallModel", name := "keeps", desc := "(F)V" } : Jvm.MethodName)) ∈ lw_all := lw_g (lw_at lw_m14 38 rfl) rfl
theorem q3278 : (Jvm.Cond.code ({ cls := "CrumblingWallModel", name := "keeps", desc := "(F)V" } : Jvm.MethodName) prog_25_method_63_code (3 : Nat) (Option.none : Option Jvm.ClassFile.FieldType)) ∈ lw_all := lw_g (lw_at lw_m14 39 rfl) rfl
theorem q3279 : (Jvm.Cond.methodLink "CrumblingWallModel" (238 : Nat) ({ cls := "java/lang/Float", name := "floatToIntBits", desc := "(F)I" } : Jvm.MethodName)) ∈ lw_all := lw_g (lw_at lw_m14 40 rfl) rfl
theorem q3280 : (Jvm.Cond.constantFloat "CrumblingWallModel" (248 : Nat) (1077936128 : UInt32)) ∈ lw_all := lw_g (lw_at lw_m14 41 rfl) rfl
theorem q3281 : (Jvm.Cond.methodLink "CrumblingWallModel" (231 : Nat) ({ cls := "CrumblingWallModel", name := "hangs", desc := "(II)V" } : Jvm.MethodName)) ∈ lw_all := lw_g (lw_at lw_m14 42 rfl) rfl
theorem q3282 : (Jvm.Cond.privateMethod ({ cls := "CrumblingWallModel", name := "hangs", desc := "(II)V" } : Jvm.MethodName)) ∈ lw_tbl := lw_at lw_m14 43 rfl
theorem q3283 : (Jvm.Cond.instanceMethod ({ cls := "CrumblingWallModel", name := "hangs", desc := "(II)V" } : Jvm.MethodName)) ∈ lw_all := lw_g (lw_at lw_m14 44 rfl) rfl
theorem q3284 : (Jvm.Cond.code ({ cls := "CrumblingWallModel", name := "hangs", desc := "(II)V" } : Jvm.MethodName) prog_25_method_61_code (3 : Nat) (Option.none : Option Jvm.ClassFile.FieldType)) ∈ lw_all := lw_g (lw_at lw_m14 45 rfl) rfl
theorem q3285 : (Jvm.Cond.methodLink "CrumblingWallModel" (228 : Nat) ({ cls := "CrumblingWallModel", name := "followerFalls", desc := "()V" } : Jvm.MethodName)) ∈ lw_all := lw_g (lw_at lw_m14 46 rfl) rfl
theorem q3286 : (Jvm.Cond.privateMethod ({ cls := "CrumblingWallModel", name := "followerFalls", desc := "()V" } : Jvm.MethodName)) ∈ lw_tbl := lw_at lw_m14 47 rfl
theorem q3287 : (Jvm.Cond.instanceMethod ({ cls := "CrumblingWallModel", name := "followerFalls", desc := "()V" } : Jvm.MethodName)) ∈ lw_all := lw_g (lw_at lw_m14 48 rfl) rfl
theorem q3288 : (Jvm.Cond.code ({ cls := "CrumblingWallModel", name := "followerFalls", desc := "()V" } : Jvm.MethodName) prog_25_method_62_code (1 : Nat) (Option.none : Option Jvm.ClassFile.FieldType)) ∈ lw_all := lw_g (lw_at lw_m14 49 rfl) rfl
theorem q3289 : (Jvm.Cond.methodLink "CrumblingWallModel" (213 : Nat) ({ cls := "CrumblingWallModel", name := "minute", desc := "()V" } : Jvm.MethodName)) ∈ lw_all := lw_g (lw_at lw_m14 50 rfl) rfl
theorem q3290 : (Jvm.Cond.privateMethod ({ cls := "CrumblingWallModel", name := "minute", desc := "()V" } : Jvm.MethodName)) ∈ lw_tbl := lw_at lw_m14 51 rfl
theorem q3291 : (Jvm.Cond.instanceMethod ({ cls := "CrumblingWallModel", name := "minute", desc := "()V" } : Jvm.MethodName)) ∈ lw_all := lw_g (lw_at lw_m14 52 rfl) rfl
theorem q3292 : (Jvm.Cond.code ({ cls := "CrumblingWallModel", name := "minute", desc := "()V" } : Jvm.MethodName) prog_25_method_55_code (2 : Nat) (Option.none : Option Jvm.ClassFile.FieldType)) ∈ lw_all := lw_g (lw_at lw_m14 53 rfl) rfl
theorem q3294 : (Jvm.Cond.instanceMethod ({ cls := "CrumblingWallModel", name := "rest", desc := "(I)I" } : Jvm.MethodName)) ∈ lw_all := lw_g (lw_at lw_m14 55 rfl) rfl
theorem q3295 : (Jvm.Cond.selects "CrumblingWallModel" ({ cls := "CrumblingWallModel", name := "rest", desc := "(I)I" } : Jvm.MethodName) ({ cls := "CrumblingWallModel", name := "rest", desc := "(I)I" } : Jvm.MethodName)) ∈ lw_all := lw_g (lw_at lw_m14 56 rfl) rfl
theorem q3296 : (Jvm.Cond.code ({ cls := "CrumblingWallModel", name := "rest", desc := "(I)I" } : Jvm.MethodName) prog_25_method_69_code (2 : Nat) (Option.some Jvm.ClassFile.FieldType.int)) ∈ lw_all := lw_g (lw_at lw_m14 57 rfl) rfl
theorem q3297 : (Jvm.Cond.methodLink "CrumblingWallModel" (261 : Nat) ({ cls := "CrumblingWallModel", name := "rests", desc := "(I)V" } : Jvm.MethodName)) ∈ lw_all := lw_g (lw_at lw_m14 58 rfl) rfl
theorem q3298 : (Jvm.Cond.privateMethod ({ cls := "CrumblingWallModel", name := "rests", desc := "(I)V" } : Jvm.MethodName)) ∈ lw_tbl := lw_at lw_m14 59 rfl
theorem q3299 : (Jvm.Cond.instanceMethod ({ cls := "CrumblingWallModel", name := "rests", desc := "(I)V" } : Jvm.MethodName)) ∈ lw_all := lw_g (lw_at lw_m14 60 rfl) rfl
theorem q3300 : (Jvm.Cond.code ({ cls := "CrumblingWallModel", name := "rests", desc := "(I)V" } : Jvm.MethodName) prog_25_method_68_code (2 : Nat) (Option.none : Option Jvm.ClassFile.FieldType)) ∈ lw_all := lw_g (lw_at lw_m14 61 rfl) rfl
theorem q3301 : (Jvm.Cond.methodLink "CrumblingWallModel" (258 : Nat) ({ cls := "CrumblingWallModel", name := "rested", desc := "(II)I" } : Jvm.MethodName)) ∈ lw_all := lw_g (lw_at lw_m14 62 rfl) rfl
theorem q3302 : (Jvm.Cond.privateMethod ({ cls := "CrumblingWallModel", name := "rested", desc := "(II)I" } : Jvm.MethodName)) ∈ lw_tbl := lw_at lw_m14 63 rfl
theorem q3303 : (Jvm.Cond.instanceMethod ({ cls := "CrumblingWallModel", name := "rested", desc := "(II)I" } : Jvm.MethodName)) ∈ lw_all := lw_g (lw_at lw_m14 64 rfl) rfl
theorem q3304 : (Jvm.Cond.code ({ cls := "CrumblingWallModel", name := "rested", desc := "(II)I" } : Jvm.MethodName) prog_25_method_67_code (4 : Nat) (Option.some Jvm.ClassFile.FieldType.int)) ∈ lw_all := lw_g (lw_at lw_m14 65 rfl) rfl
theorem q3305 : (Jvm.Cond.methodLink "CrumblingWallModel" (255 : Nat) ({ cls := "CrumblingWallModel", name := "gainOf", desc := "(I)I" } : Jvm.MethodName)) ∈ lw_all := lw_g (lw_at lw_m14 66 rfl) rfl
theorem q3306 : (Jvm.Cond.static ({ cls := "CrumblingWallModel", name := "gainOf", desc := "(I)I" } : Jvm.MethodName)) ∈ lw_all := lw_g (lw_at lw_m14 67 rfl) rfl
theorem q3307 : (Jvm.Cond.code ({ cls := "CrumblingWallModel", name := "gainOf", desc := "(I)I" } : Jvm.MethodName) prog_25_method_66_code (1 : Nat) (Option.some Jvm.ClassFile.FieldType.int)) ∈ lw_all := lw_g (lw_at lw_m14 68 rfl) rfl
theorem q3309 : (Jvm.Cond.instanceMethod ({ cls := "CrumblingWallModel", name := "why", desc := "(IIZ)I" } : Jvm.MethodName)) ∈ lw_all := lw_g (lw_at lw_m14 70 rfl) rfl
theorem q3310 : (Jvm.Cond.selects "CrumblingWallModel" ({ cls := "CrumblingWallModel", name := "why", desc := "(IIZ)I" } : Jvm.MethodName) ({ cls := "CrumblingWallModel", name := "why", desc := "(IIZ)I" } : Jvm.MethodName)) ∈ lw_all := lw_g (lw_at lw_m14 71 rfl) rfl
theorem q3311 : (Jvm.Cond.code ({ cls := "CrumblingWallModel", name := "why", desc := "(IIZ)I" } : Jvm.MethodName) prog_25_method_70_code (4 : Nat) (Option.some Jvm.ClassFile.FieldType.int)) ∈ lw_all := lw_g (lw_at lw_m14 72 rfl) rfl
theorem q3313 : (Jvm.Cond.instanceMethod ({ cls := "CrumblingWallModel", name := "moves", desc := "(I)I" } : Jvm.MethodName)) ∈ lw_all := lw_g (lw_at lw_m14 74 rfl) rfl
theorem q3314 : (Jvm.Cond.selects "CrumblingWallModel" ({ cls := "CrumblingWallModel", name := "moves", desc := "(I)I" } : Jvm.MethodName) ({ cls := "CrumblingWallModel", name := "moves", desc := "(I)I" } : Jvm.MethodName)) ∈ lw_all := lw_g (lw_at lw_m14 75 rfl) rfl
theorem q3315 : (Jvm.Cond.code ({ cls := "CrumblingWallModel", name := "moves", desc := "(I)I" } : Jvm.MethodName) prog_25_method_71_code (4 : Nat) (Option.some Jvm.ClassFile.FieldType.int)) ∈ lw_all := lw_g (lw_at lw_m14 76 rfl) rfl
theorem q3317 : (Jvm.Cond.instanceMethod ({ cls := "CrumblingWallModel", name := "leastRests", desc := "(II)I" } : Jvm.MethodName)) ∈ lw_all := lw_g (lw_at lw_m14 78 rfl) rfl
theorem q3318 : (Jvm.Cond.selects "CrumblingWallModel" ({ cls := "CrumblingWallModel", name := "leastRests", desc := "(II)I" } : Jvm.MethodName) ({ cls := "CrumblingWallModel", name := "leastRests", desc := "(II)I" } : Jvm.MethodName)) ∈ lw_all := lw_g (lw_at lw_m14 79 rfl) rfl
theorem q3319 : (Jvm.Cond.code ({ cls := "CrumblingWallModel", name := "leastRests", desc := "(II)I" } : Jvm.MethodName) prog_25_method_75_code (6 : Nat) (Option.some Jvm.ClassFile.FieldType.int)) ∈ lw_all := lw_g (lw_at lw_m14 80 rfl) rfl
theorem q3320 : (Jvm.Cond.methodLink "CrumblingWallModel" (267 : Nat) ({ cls := "CrumblingWallModel", name := "spreads", desc := "(I)V" } : Jvm.MethodName)) ∈ lw_all := lw_g (lw_at lw_m14 81 rfl) rfl
theorem q3321 : (Jvm.Cond.privateMethod ({ cls := "CrumblingWallModel", name := "spreads", desc := "(I)V" } : Jvm.MethodName)) ∈ lw_tbl := lw_at lw_m14 82 rfl
theorem q3322 : (Jvm.Cond.instanceMethod ({ cls := "CrumblingWallModel", name := "spreads", desc := "(I)V" } : Jvm.MethodName)) ∈ lw_all := lw_g (lw_at lw_m14 83 rfl) rfl
theorem q3323 : (Jvm.Cond.code ({ cls := "CrumblingWallModel", name := "spreads", desc := "(I)V" } : Jvm.MethodName) prog_25_method_73_code (6 : Nat) (Option.none : Option Jvm.ClassFile.FieldType)) ∈ lw_all := lw_g (lw_at lw_m14 84 rfl) rfl
theorem q3324 : (Jvm.Cond.methodLink "CrumblingWallModel" (264 : Nat) ({ cls := "CrumblingWallModel", name := "isWay", desc := "(II)Z" } : Jvm.MethodName)) ∈ lw_all := lw_g (lw_at lw_m14 85 rfl) rfl
theorem q3325 : (Jvm.Cond.privateMethod ({ cls := "CrumblingWallModel", name := "isWay", desc := "(II)Z" } : Jvm.MethodName)) ∈ lw_tbl := lw_at lw_m14 86 rfl
theorem q3326 : (Jvm.Cond.instanceMethod ({ cls := "CrumblingWallModel", name := "isWay", desc := "(II)Z" } : Jvm.MethodName)) ∈ lw_all := lw_g (lw_at lw_m14 87 rfl) rfl
theorem q3327 : (Jvm.Cond.code ({ cls := "CrumblingWallModel", name := "isWay", desc := "(II)Z" } : Jvm.MethodName) prog_25_method_72_code (3 : Nat) (Option.some Jvm.ClassFile.FieldType.boolean)) ∈ lw_all := lw_g (lw_at lw_m14 88 rfl) rfl
theorem q3328 : (Jvm.Cond.methodLink "CrumblingWallModel" (270 : Nat) ({ cls := "CrumblingWallModel", name := "restsEach", desc := "()Z" } : Jvm.MethodName)) ∈ lw_all := lw_g (lw_at lw_m14 89 rfl) rfl
theorem q3329 : (Jvm.Cond.privateMethod ({ cls := "CrumblingWallModel", name := "restsEach", desc := "()Z" } : Jvm.MethodName)) ∈ lw_tbl := lw_at lw_m14 90 rfl
theorem q3330 : (Jvm.Cond.instanceMethod ({ cls := "CrumblingWallModel", name := "restsEach", desc := "()Z" } : Jvm.MethodName)) ∈ lw_all := lw_g (lw_at lw_m14 91 rfl) rfl
theorem q3331 : (Jvm.Cond.code ({ cls := "CrumblingWallModel", name := "restsEach", desc := "()Z" } : Jvm.MethodName) prog_25_method_74_code (4 : Nat) (Option.some Jvm.ClassFile.FieldType.boolean)) ∈ lw_all := lw_g (lw_at lw_m14 92 rfl) rfl
theorem q3333 : (Jvm.Cond.instanceMethod ({ cls := "CrumblingWallModel", name := "leastMoves", desc := "(II)I" } : Jvm.MethodName)) ∈ lw_all := lw_g (lw_at lw_m14 94 rfl) rfl
theorem q3334 : (Jvm.Cond.selects "CrumblingWallModel" ({ cls := "CrumblingWallModel", name := "leastMoves", desc := "(II)I" } : Jvm.MethodName) ({ cls := "CrumblingWallModel", name := "leastMoves", desc := "(II)I" } : Jvm.MethodName)) ∈ lw_all := lw_g (lw_at lw_m14 95 rfl) rfl
theorem q3335 : (Jvm.Cond.code ({ cls := "CrumblingWallModel", name := "leastMoves", desc := "(II)I" } : Jvm.MethodName) prog_25_method_76_code (6 : Nat) (Option.some Jvm.ClassFile.FieldType.int)) ∈ lw_all := lw_g (lw_at lw_m14 96 rfl) rfl
theorem q3337 : (Jvm.Cond.instanceMethod ({ cls := "CrumblingWallModel", name := "take", desc := "(II)I" } : Jvm.MethodName)) ∈ lw_all := lw_g (lw_at lw_m14 98 rfl) rfl
theorem q3338 : (Jvm.Cond.selects "CrumblingWallModel" ({ cls := "CrumblingWallModel", name := "take", desc := "(II)I" } : Jvm.MethodName) ({ cls := "CrumblingWallModel", name := "take", desc := "(II)I" } : Jvm.MethodName)) ∈ lw_all := lw_g (lw_at lw_m14 99 rfl) rfl
theorem q3339 : (Jvm.Cond.code ({ cls := "CrumblingWallModel", name := "take", desc := "(II)I" } : Jvm.MethodName) prog_25_method_82_code (3 : Nat) (Option.some Jvm.ClassFile.FieldType.int)) ∈ lw_all := lw_g (lw_at lw_m14 100 rfl) rfl
theorem q3340 : (Jvm.Cond.methodLink "CrumblingWallModel" (276 : Nat) ({ cls := "CrumblingWallModel", name := "mayNotTake", desc := "(II)Z" } : Jvm.MethodName)) ∈ lw_all := lw_g (lw_at lw_m14 101 rfl) rfl
theorem q3341 : (Jvm.Cond.privateMethod ({ cls := "CrumblingWallModel", name := "mayNotTake", desc := "(II)Z" } : Jvm.MethodName)) ∈ lw_tbl := lw_at lw_m14 102 rfl
theorem q3342 : (Jvm.Cond.instanceMethod ({ cls := "CrumblingWallModel", name := "mayNotTake", desc := "(II)Z" } : Jvm.MethodName)) ∈ lw_all := lw_g (lw_at lw_m14 103 rfl) rfl
theorem q3343 : (Jvm.Cond.code ({ cls := "CrumblingWallModel", name := "mayNotTake", desc := "(II)Z" } : Jvm.MethodName) prog_25_method_78_code (3 : Nat) (Option.some Jvm.ClassFile.FieldType.boolean)) ∈ lw_all := lw_g (lw_at lw_m14 104 rfl) rfl
theorem q3344 : (Jvm.Cond.methodLink "CrumblingWallModel" (273 : Nat) ({ cls := "CrumblingWallModel", name := "liesWith", desc := "(II)Z" } : Jvm.MethodName)) ∈ lw_all := lw_g (lw_at lw_m14 105 rfl) rfl
theorem q3345 : (Jvm.Cond.privateMethod ({ cls := "CrumblingWallModel", name := "liesWith", desc := "(II)Z" } : Jvm.MethodName)) ∈ lw_tbl := lw_at lw_m14 106 rfl
theorem q3346 : (Jvm.Cond.instanceMethod ({ cls := "CrumblingWallModel", name := "liesWith", desc := "(II)Z" } : Jvm.MethodName)) ∈ lw_all := lw_g (lw_at lw_m14 107 rfl) rfl
theorem q3347 : (Jvm.Cond.code ({ cls := "CrumblingWallModel", name := "liesWith", desc := "(II)Z" } : Jvm.MethodName) prog_25_method_77_code (3 : Nat) (Option.some Jvm.ClassFile.FieldType.boolean)) ∈ lw_all := lw_g (lw_at lw_m14 108 rfl) rfl
theorem q3349 : (Jvm.Cond.instanceMethod ({ cls := "CrumblingWallModel", name := "put", desc := "(II)I" } : Jvm.MethodName)) ∈ lw_all := lw_g (lw_at lw_m14 110 rfl) rfl
theorem q3350 : (Jvm.Cond.selects "CrumblingWallModel" ({ cls := "CrumblingWallModel", name := "put", desc := "(II)I" } : Jvm.MethodName) ({ cls := "CrumblingWallModel", name := "put", desc := "(II)I" } : Jvm.MethodName)) ∈ lw_all := lw_g (lw_at lw_m14 111 rfl) rfl
theorem q3351 : (Jvm.Cond.code ({ cls := "CrumblingWallModel", name := "put", desc := "(II)I" } : Jvm.MethodName) prog_25_method_83_code (3 : Nat) (Option.some Jvm.ClassFile.FieldType.int)) ∈ lw_all := lw_g (lw_at lw_m14 112 rfl) rfl
theorem q3352 : (Jvm.Cond.methodLink "CrumblingWallModel" (279 : Nat) ({ cls := "CrumblingWallModel", name := "mayNotPut", desc := "(II)Z" } : Jvm.MethodName)) ∈ lw_all := lw_g (lw_at lw_m14 113 rfl) rfl
theorem q3353 : (Jvm.Cond.privateMethod ({ cls := "CrumblingWallModel", name := "mayNotPut", desc := "(II)Z" } : Jvm.MethodName)) ∈ lw_tbl := lw_at lw_m14 114 rfl
theorem q3354 : (Jvm.Cond.instanceMethod ({ cls := "CrumblingWallModel", name := "mayNotPut", desc := "(II)Z" } : Jvm.MethodName)) ∈ lw_all := lw_g (lw_at lw_m14 115 rfl) rfl
theorem q3355 : (Jvm.Cond.code ({ cls := "CrumblingWallModel", name := "mayNotPut", desc := "(II)Z" } : Jvm.MethodName) prog_25_method_79_code (3 : Nat) (Option.some Jvm.ClassFile.FieldType.boolean)) ∈ lw_all := lw_g (lw_at lw_m14 116 rfl) rfl
theorem q3356 : (Jvm.Cond.methodLink "CrumblingWallModel" (282 : Nat) ({ cls := "CrumblingWallModel", name := "puts", desc := "(II)V" } : Jvm.MethodName)) ∈ lw_all := lw_g (lw_at lw_m14 117 rfl) rfl
theorem q3357 : (Jvm.Cond.privateMethod ({ cls := "CrumblingWallModel", name := "puts", desc := "(II)V" } : Jvm.MethodName)) ∈ lw_tbl := lw_at lw_m14 118 rfl
theorem q3358 : (Jvm.Cond.instanceMethod ({ cls := "CrumblingWallModel", name := "puts", desc := "(II)V" } : Jvm.MethodName)) ∈ lw_all := lw_g (lw_at lw_m14 119 rfl) rfl
theorem q3359 : (Jvm.Cond.code ({ cls := "CrumblingWallModel", name := "puts", desc := "(II)V" } : Jvm.MethodName) prog_25_method_81_code (3 : Nat) (Option.none : Option Jvm.ClassFile.FieldType)) ∈ lw_all := lw_g (lw_at lw_m14 120 rfl) rfl
theorem q3361 : (Jvm.Cond.instanceMethod ({ cls := "CrumblingWallModel", name := "light", desc := "(II)I" } : Jvm.MethodName)) ∈ lw_all := lw_g (lw_at lw_m14 122 rfl) rfl
theorem q3362 : (Jvm.Cond.selects "CrumblingWallModel" ({ cls := "CrumblingWallModel", name := "light", desc := "(II)I" } : Jvm.MethodName) ({ cls := "CrumblingWallModel", name := "light", desc := "(II)I" } : Jvm.MethodName)) ∈ lw_all := lw_g (lw_at lw_m14 123 rfl) rfl
theorem q3363 : (Jvm.Cond.code ({ cls := "CrumblingWallModel", name := "light", desc := "(II)I" } : Jvm.MethodName) prog_25_method_84_code (3 : Nat) (Option.some Jvm.ClassFile.FieldType.int)) ∈ lw_all := lw_g (lw_at lw_m14 124 rfl) rfl
theorem q3364 : (Jvm.Cond.methodLink "CrumblingWallModel" (285 : Nat) ({ cls := "CrumblingWallModel", name := "mayNotLight", desc := "(II)Z" } : Jvm.MethodName)) ∈ lw_all := lw_g (lw_at lw_m14 125 rfl) rfl
theorem q3365 : (Jvm.Cond.privateMethod ({ cls := "CrumblingWallModel", name := "mayNotLight", desc := "(II)Z" } : Jvm.MethodName)) ∈ lw_tbl := lw_at lw_m14 126 rfl
theorem q3366 : (Jvm.Cond.instanceMethod ({ cls := "CrumblingWallModel", name := "mayNotLight", desc := "(II)Z" } : Jvm.MethodName)) ∈ lw_all := lw_g (lw_at lw_m14 127 rfl) rfl
theorem q3367 : (Jvm.Cond.code ({ cls := "CrumblingWallModel", name := "mayNotLight", desc := "(II)Z" } : Jvm.MethodName) prog_25_method_80_code (4 : Nat) (Option.some Jvm.ClassFile.FieldType.boolean)) ∈ lw_all := lw_g (lw_at lw_m14 128 rfl) rfl
theorem q3369 : (Jvm.Cond.instanceMethod ({ cls := "CrumblingWallModel", name := "force", desc := "(I)F" } : Jvm.MethodName)) ∈ lw_all := lw_g (lw_at lw_m14 130 rfl) rfl
theorem q3370 : (Jvm.Cond.selects "CrumblingWallModel" ({ cls := "CrumblingWallModel", name := "force", desc := "(I)F" } : Jvm.MethodName) ({ cls := "CrumblingWallModel", name := "force", desc := "(I)F" } : Jvm.MethodName)) ∈ lw_all := lw_g (lw_at lw_m14 131 rfl) rfl
theorem q3371 : (Jvm.Cond.code ({ cls := "CrumblingWallModel", name := "force", desc := "(I)F" } : Jvm.MethodName) prog_25_method_85_code (2 : Nat) (Option.some Jvm.ClassFile.FieldType.float)) ∈ lw_all := lw_g (lw_at lw_m14 132 rfl) rfl
theorem q3372 : (Jvm.Cond.methodLink "CrumblingWallModel" (288 : Nat) ({ cls := "java/lang/Float", name := "intBitsToFloat", desc := "(I)F" } : Jvm.MethodName)) ∈ lw_all := lw_g (lw_at lw_m14 133 rfl) rfl
theorem q3376 : (Jvm.Cond.instanceMethod ({ cls := "CrumblingWallModel", name := "keep", desc := "(I)I" } : Jvm.MethodName)) ∈ lw_all := lw_g (lw_at lw_m14 137 rfl) rfl
theorem q3377 : (Jvm.Cond.selects "CrumblingWallModel" ({ cls := "CrumblingWallModel", name := "keep", desc := "(I)I" } : Jvm.MethodName) ({ cls := "CrumblingWallModel", name := "keep", desc := "(I)I" } : Jvm.MethodName)) ∈ lw_all := lw_g (lw_at lw_m14 138 rfl) rfl
theorem q3378 : (Jvm.Cond.code ({ cls := "CrumblingWallModel", name := "keep", desc := "(I)I" } : Jvm.MethodName) prog_25_method_87_code (3 : Nat) (Option.some Jvm.ClassFile.FieldType.int)) ∈ lw_all := lw_g (lw_at lw_m14 139 rfl) rfl
theorem q3379 : (Jvm.Cond.methodLink "CrumblingWallModel" (292 : Nat) ({ cls := "CrumblingWallModel", name := "isRow", desc := "(I)Z" } : Jvm.MethodName)) ∈ lw_all := lw_g (lw_at lw_m14 140 rfl) rfl
theorem q3380 : (Jvm.Cond.static ({ cls := "CrumblingWallModel", name := "isRow", desc := "(I)Z" } : Jvm.MethodName)) ∈ lw_all := lw_g (lw_at lw_m14 141 rfl) rfl
theorem q3381 : (Jvm.Cond.code ({ cls := "CrumblingWallModel", name := "isRow", desc := "(I)Z" } : Jvm.MethodName) prog_25_method_86_code (1 : Nat) (Option.some Jvm.ClassFile.FieldType.boolean)) ∈ lw_all := lw_g (lw_at lw_m14 142 rfl) rfl
theorem q3383 : (Jvm.Cond.instanceMethod ({ cls := "CrumblingWallModel", name := "scale", desc := "(III)I" } : Jvm.MethodName)) ∈ lw_all := lw_g (lw_at lw_m14 144 rfl) rfl
theorem q3384 : (Jvm.Cond.selects "CrumblingWallModel" ({ cls := "CrumblingWallModel", name := "scale", desc := "(III)I" } : Jvm.MethodName) ({ cls := "CrumblingWallModel", name := "scale", desc := "(III)I" } : Jvm.MethodName)) ∈ lw_all := lw_g (lw_at lw_m14 145 rfl) rfl
theorem q3385 : (Jvm.Cond.code ({ cls := "CrumblingWallModel", name := "scale", desc := "(III)I" } : Jvm.MethodName) prog_25_method_88_code (7 : Nat) (Option.some Jvm.ClassFile.FieldType.int)) ∈ lw_all := lw_g (lw_at lw_m14 146 rfl) rfl
theorem q3386 : (Jvm.Cond.constantFloat "CrumblingWallModel" (295 : Nat) (1120403456 : UInt32)) ∈ lw_all := lw_g (lw_at lw_m14 147 rfl) rfl
theorem q3388 : (Jvm.Cond.instanceMethod ({ cls := "CrumblingWallModel", name := "element", desc := "(II)I" } : Jvm.MethodName)) ∈ lw_all := lw_g (lw_at lw_m14 149 rfl) rfl
theorem q3389 : (Jvm.Cond.selects "CrumblingWallModel" ({ cls := "CrumblingWallModel", name := "element", desc := "(II)I" } : Jvm.MethodName) ({ cls := "CrumblingWallModel", name := "element", desc := "(II)I" } : Jvm.MethodName)) ∈ lw_all := lw_g (lw_at lw_m14 150 rfl) rfl
theorem q3390 : (Jvm.Cond.code ({ cls := "CrumblingWallModel", name := "element", desc := "(II)I" } : Jvm.MethodName) prog_25_method_89_code (3 : Nat) (Option.some Jvm.ClassFile.FieldType.int)) ∈ lw_all := lw_g (lw_at lw_m14 151 rfl) rfl
theorem q3392 : (Jvm.Cond.instanceMethod ({ cls := "CrumblingWallModel", name := "rack", desc := "(I)I" } : Jvm.MethodName)) ∈ lw_all := lw_g (lw_at lw_m14 153 rfl) rfl
theorem q3393 : (Jvm.Cond.selects "CrumblingWallModel" ({ cls := "CrumblingWallModel", name := "rack", desc := "(I)I" } : Jvm.MethodName) ({ cls := "CrumblingWallModel", name := "rack", desc := "(I)I" } : Jvm.MethodName)) ∈ lw_all := lw_g (lw_at lw_m14 154 rfl) rfl
theorem q3394 : (Jvm.Cond.code ({ cls := "CrumblingWallModel", name := "rack", desc := "(I)I" } : Jvm.MethodName) prog_25_method_91_code (4 : Nat) (Option.some Jvm.ClassFile.FieldType.int)) ∈ lw_all := lw_g (lw_at lw_m14 155 rfl) rfl
theorem q3395 : (Jvm.Cond.methodLink "CrumblingWallModel" (296 : Nat) ({ cls := "CrumblingWallModel", name := "onRack", desc := "()I" } : Jvm.MethodName)) ∈ lw_all := lw_g (lw_at lw_m14 156 rfl) rfl
theorem q3396 : (Jvm.Cond.privateMethod ({ cls := "CrumblingWallModel", name := "onRack", desc := "()I" } : Jvm.MethodName)) ∈ lw_tbl := lw_at lw_m14 157 rfl
theorem q3397 : (Jvm.Cond.instanceMethod ({ cls := "CrumblingWallModel", name := "onRack", desc := "()I" } : Jvm.MethodName)) ∈ lw_all := lw_g (lw_at lw_m14 158 rfl) rfl
theorem q3398 : (Jvm.Cond.code ({ cls := "CrumblingWallModel", name := "onRack", desc := "()I" } : Jvm.MethodName) prog_25_method_90_code (3 : Nat) (Option.some Jvm.ClassFile.FieldType.int)) ∈ lw_all := lw_g (lw_at lw_m14 159 rfl) rfl
theorem q3400 : (Jvm.Cond.instanceMethod ({ cls := "CrumblingWallModel", name := "note", desc := "(II)I" } : Jvm.MethodName)) ∈ lw_all := lw_g (lw_at lw_m14 161 rfl) rfl
theorem q3401 : (Jvm.Cond.selects "CrumblingWallModel" ({ cls := "CrumblingWallModel", name := "note", desc := "(II)I" } : Jvm.MethodName) ({ cls := "CrumblingWallModel", name := "note", desc := "(II)I" } : Jvm.MethodName)) ∈ lw_all := lw_g (lw_at lw_m14 162 rfl) rfl
theorem q3402 : (Jvm.Cond.code ({ cls := "CrumblingWallModel", name := "note", desc := "(II)I" } : Jvm.MethodName) prog_25_method_92_code (3 : Nat) (Option.some Jvm.ClassFile.FieldType.int)) ∈ lw_all := lw_g (lw_at lw_m14 163 rfl) rfl
theorem q3404 : (Jvm.Cond.instanceMethod ({ cls := "CrumblingWallModel", name := "left", desc := "()I" } : Jvm.MethodName)) ∈ lw_all := lw_g (lw_at lw_m14 165 rfl) rfl
theorem q3405 : (Jvm.Cond.selects "CrumblingWallModel" ({ cls := "CrumblingWallModel", name := "left", desc := "()I" } : Jvm.MethodName) ({ cls := "CrumblingWallModel", name := "left", desc := "()I" } : Jvm.MethodName)) ∈ lw_all := lw_g (lw_at lw_m14 166 rfl) rfl
theorem q3406 : (Jvm.Cond.code ({ cls := "CrumblingWallModel", name := "left", desc := "()I" } : Jvm.MethodName) prog_25_method_93_code (4 : Nat) (Option.some Jvm.ClassFile.FieldType.int)) ∈ lw_all := lw_g (lw_at lw_m14 167 rfl) rfl
theorem q3408 : (Jvm.Cond.instanceMethod ({ cls := "CrumblingWallModel", name := "append", desc := "(C)I" } : Jvm.MethodName)) ∈ lw_all := lw_g (lw_at lw_m14 169 rfl) rfl
theorem q3409 : (Jvm.Cond.selects "CrumblingWallModel" ({ cls := "CrumblingWallModel", name := "append", desc := "(C)I" } : Jvm.MethodName) ({ cls := "CrumblingWallModel", name := "append", desc := "(C)I" } : Jvm.MethodName)) ∈ lw_all := lw_g (lw_at lw_m14 170 rfl) rfl
theorem q3410 : (Jvm.Cond.code ({ cls := "CrumblingWallModel", name := "append", desc := "(C)I" } : Jvm.MethodName) prog_25_method_94_code (2 : Nat) (Option.some Jvm.ClassFile.FieldType.int)) ∈ lw_all := lw_g (lw_at lw_m14 171 rfl) rfl
theorem q3412 : (Jvm.Cond.instanceMethod ({ cls := "CrumblingWallModel", name := "tries", desc := "()I" } : Jvm.MethodName)) ∈ lw_all := lw_g (lw_at lw_m14 173 rfl) rfl
theorem q3413 : (Jvm.Cond.selects "CrumblingWallModel" ({ cls := "CrumblingWallModel", name := "tries", desc := "()I" } : Jvm.MethodName) ({ cls := "CrumblingWallModel", name := "tries", desc := "()I" } : Jvm.MethodName)) ∈ lw_all := lw_g (lw_at lw_m14 174 rfl) rfl
theorem q3414 : (Jvm.Cond.code ({ cls := "CrumblingWallModel", name := "tries", desc := "()I" } : Jvm.MethodName) prog_25_method_106_code (2 : Nat) (Option.some Jvm.ClassFile.FieldType.int)) ∈ lw_all := lw_g (lw_at lw_m14 175 rfl) rfl
theorem q3415 : (Jvm.Cond.methodLink "CrumblingWallModel" (338 : Nat) ({ cls := "CrumblingWallModel", name := "readsPlan", desc := "()Z" } : Jvm.MethodName)) ∈ lw_all := lw_g (lw_at lw_m14 176 rfl) rfl
theorem q3416 : (Jvm.Cond.privateMethod ({ cls := "CrumblingWallModel", name := "readsPlan", desc := "()Z" } : Jvm.MethodName)) ∈ lw_tbl := lw_at lw_m14 177 rfl
theorem q3417 : (Jvm.Cond.instanceMethod ({ cls := "CrumblingWallModel", name := "readsPlan", desc := "()Z" } : Jvm.MethodName)) ∈ lw_all := lw_g (lw_at lw_m14 178 rfl) rfl
theorem q3418 : (Jvm.Cond.code ({ cls := "CrumblingWallModel", name := "readsPlan", desc := "()Z" } : Jvm.MethodName) prog_25_method_100_code (2 : Nat) (Option.some Jvm.ClassFile.FieldType.boolean)) ∈ lw_all := lw_g (lw_at lw_m14 179 rfl) rfl
theorem q3419 : (Jvm.Cond.methodLink "CrumblingWallModel" (320 : Nat) ({ cls := "CrumblingWallModel", name := "readsStep", desc := "()Z" } : Jvm.MethodName)) ∈ lw_all := lw_g (lw_at lw_m14 180 rfl) rfl
theorem q3420 : (Jvm.Cond.privateMethod ({ cls := "CrumblingWallModel", name := "readsStep", desc := "()Z" } : Jvm.MethodName)) ∈ lw_tbl := lw_at lw_m14 181 rfl
theorem q3421 : (Jvm.Cond.instanceMethod ({ cls := "CrumblingWallModel", name := "readsStep", desc := "()Z" } : Jvm.MethodName)) ∈ lw_all := lw_g (lw_at lw_m14 182 rfl) rfl
theorem q3422 : (Jvm.Cond.code ({ cls := "CrumblingWallModel", name := "readsStep", desc := "()Z" } : Jvm.MethodName) prog_25_method_99_code (2 : Nat) (Option.some Jvm.ClassFile.FieldType.boolean)) ∈ lw_all := lw_g (lw_at lw_m14 183 rfl) rfl
theorem q3423 : (Jvm.Cond.methodLink "CrumblingWallModel" (305 : Nat) ({ cls := "CrumblingWallModel", name := "next", desc := "()I" } : Jvm.MethodName)) ∈ lw_all := lw_g (lw_at lw_m14 184 rfl) rfl
theorem q3424 : (Jvm.Cond.privateMethod ({ cls := "CrumblingWallModel", name := "next", desc := "()I" } : Jvm.MethodName)) ∈ lw_tbl := lw_at lw_m14 185 rfl
theorem q3425 : (Jvm.Cond.instanceMethod ({ cls := "CrumblingWallModel", name := "next", desc := "()I" } : Jvm.MethodName)) ∈ lw_all := lw_g (lw_at lw_m14 186 rfl) rfl
theorem q3426 : (Jvm.Cond.code ({ cls := "CrumblingWallModel", name := "next", desc := "()I" } : Jvm.MethodName) prog_25_method_95_code (1 : Nat) (Option.some Jvm.ClassFile.FieldType.int)) ∈ lw_all := lw_g (lw_at lw_m14 187 rfl) rfl
theorem q3427 : (Jvm.Cond.methodLink "CrumblingWallModel" (314 : Nat) ({ cls := "CrumblingWallModel", name := "readsPlace", desc := "()Z" } : Jvm.MethodName)) ∈ lw_all := lw_g (lw_at lw_m14 188 rfl) rfl
theorem q3428 : (Jvm.Cond.privateMethod ({ cls := "CrumblingWallModel", name := "readsPlace", desc := "()Z" } : Jvm.MethodName)) ∈ lw_tbl := lw_at lw_m14 189 rfl
theorem q3429 : (Jvm.Cond.instanceMethod ({ cls := "CrumblingWallModel", name := "readsPlace", desc := "()Z" } : Jvm.MethodName)) ∈ lw_all := lw_g (lw_at lw_m14 190 rfl) rfl
theorem q3430 : (Jvm.Cond.code ({ cls := "CrumblingWallModel", name := "readsPlace", desc := "()Z" } : Jvm.MethodName) prog_25_method_97_code (1 : Nat) (Option.some Jvm.ClassFile.FieldType.boolean)) ∈ lw_all := lw_g (lw_at lw_m14 191 rfl) rfl
theorem q3431 : (Jvm.Cond.methodLink "CrumblingWallModel" (311 : Nat) ({ cls := "CrumblingWallModel", name := "isDigit", desc := "()Z" } : Jvm.MethodName)) ∈ lw_all := lw_g (lw_at lw_m14 192 rfl) rfl
theorem q3432 : (Jvm.Cond.privateMethod ({ cls := "CrumblingWallModel", name := "isDigit", desc := "()Z" } : Jvm.MethodName)) ∈ lw_tbl := lw_at lw_m14 193 rfl
theorem q3433 : (Jvm.Cond.instanceMethod ({ cls := "CrumblingWallModel", name := "isDigit", desc := "()Z" } : Jvm.MethodName)) ∈ lw_all := lw_g (lw_at lw_m14 194 rfl) rfl
theorem q3434 : (Jvm.Cond.code ({ cls := "CrumblingWallModel", name := "isDigit", desc := "()Z" } : Jvm.MethodName) prog_25_method_96_code (1 : Nat) (Option.some Jvm.ClassFile.FieldType.boolean)) ∈ lw_all := lw_g (lw_at lw_m14 195 rfl) rfl
theorem q3435 : (Jvm.Cond.methodLink "CrumblingWallModel" (317 : Nat) ({ cls := "CrumblingWallModel", name := "readsLamp", desc := "()Z" } : Jvm.MethodName)) ∈ lw_all := lw_g (lw_at lw_m14 196 rfl) rfl
theorem q3436 : (Jvm.Cond.privateMethod ({ cls := "CrumblingWallModel", name := "readsLamp", desc := "()Z" } : Jvm.MethodName)) ∈ lw_tbl := lw_at lw_m14 197 rfl
theorem q3437 : (Jvm.Cond.instanceMethod ({ cls := "CrumblingWallModel", name := "readsLamp", desc := "()Z" } : Jvm.MethodName)) ∈ lw_all := lw_g (lw_at lw_m14 198 rfl) rfl
theorem q3438 : (Jvm.Cond.code ({ cls := "CrumblingWallModel", name := "readsLamp", desc := "()Z" } : Jvm.MethodName) prog_25_method_98_code (1 : Nat) (Option.some Jvm.ClassFile.FieldType.boolean)) ∈ lw_all := lw_g (lw_at lw_m14 199 rfl) rfl
theorem q3439 : (Jvm.Cond.methodLink "CrumblingWallModel" (341 : Nat) ({ cls := "CrumblingWallModel", name := "goesOn", desc := "()I" } : Jvm.MethodName)) ∈ lw_all := lw_g (lw_at lw_m14 200 rfl) rfl
theorem q3440 : (Jvm.Cond.privateMethod ({ cls := "CrumblingWallModel", name := "goesOn", desc := "()I" } : Jvm.MethodName)) ∈ lw_tbl := lw_at lw_m14 201 rfl
theorem q3441 : (Jvm.Cond.instanceMethod ({ cls := "CrumblingWallModel", name := "goesOn", desc := "()I" } : Jvm.MethodName)) ∈ lw_all := lw_g (lw_at lw_m14 202 rfl) rfl
theorem q3442 : (Jvm.Cond.code ({ cls := "CrumblingWallModel", name := "goesOn", desc := "()I" } : Jvm.MethodName) prog_25_method_104_code (2 : Nat) (Option.some Jvm.ClassFile.FieldType.int)) ∈ lw_all := lw_g (lw_at lw_m14 203 rfl) rfl
theorem q3443 : (Jvm.Cond.methodLink "CrumblingWallModel" (326 : Nat) ({ cls := "CrumblingWallModel", name := "isTold", desc := "(I)Z" } : Jvm.MethodName)) ∈ lw_all := lw_g (lw_at lw_m14 204 rfl) rfl
theorem q3444 : (Jvm.Cond.privateMethod ({ cls := "CrumblingWallModel", name := "isTold", desc := "(I)Z" } : Jvm.MethodName)) ∈ lw_tbl := lw_at lw_m14 205 rfl
theorem q3445 : (Jvm.Cond.instanceMethod ({ cls := "CrumblingWallModel", name := "isTold", desc := "(I)Z" } : Jvm.MethodName)) ∈ lw_all := lw_g (lw_at lw_m14 206 rfl) rfl
theorem q3446 : (Jvm.Cond.code ({ cls := "CrumblingWallModel", name := "isTold", desc := "(I)Z" } : Jvm.MethodName) prog_25_method_103_code (2 : Nat) (Option.some Jvm.ClassFile.FieldType.boolean)) ∈ lw_all := lw_g (lw_at lw_m14 207 rfl) rfl
theorem q3447 : (Jvm.Cond.methodLink "CrumblingWallModel" (329 : Nat) ({ cls := "CrumblingWallModel", name := "mayNot", desc := "(I)Z" } : Jvm.MethodName)) ∈ lw_all := lw_g (lw_at lw_m14 208 rfl) rfl
theorem q3448 : (Jvm.Cond.privateMethod ({ cls := "CrumblingWallModel", name := "mayNot", desc := "(I)Z" } : Jvm.MethodName)) ∈ lw_tbl := lw_at lw_m14 209 rfl
theorem q3449 : (Jvm.Cond.instanceMethod ({ cls := "CrumblingWallModel", name := "mayNot", desc := "(I)Z" } : Jvm.MethodName)) ∈ lw_all := lw_g (lw_at lw_m14 210 rfl) rfl
theorem q3450 : (Jvm.Cond.code ({ cls := "CrumblingWallModel", name := "mayNot", desc := "(I)Z" } : Jvm.MethodName) prog_25_method_101_code (4 : Nat) (Option.some Jvm.ClassFile.FieldType.boolean)) ∈ lw_all := lw_g (lw_at lw_m14 211 rfl) rfl
theorem q3451 : (Jvm.Cond.methodLink "CrumblingWallModel" (332 : Nat) ({ cls := "CrumblingWallModel", name := "harms", desc := "(I)Z" } : Jvm.MethodName)) ∈ lw_all := lw_g (lw_at lw_m14 212 rfl) rfl
theorem q3452 : (Jvm.Cond.privateMethod ({ cls := "CrumblingWallModel", name := "harms", desc := "(I)Z" } : Jvm.MethodName)) ∈ lw_tbl := lw_at lw_m14 213 rfl
theorem q3453 : (Jvm.Cond.instanceMethod ({ cls := "CrumblingWallModel", name := "harms", desc := "(I)Z" } : Jvm.MethodName)) ∈ lw_all := lw_g (lw_at lw_m14 214 rfl) rfl
theorem q3454 : (Jvm.Cond.code ({ cls := "CrumblingWallModel", name := "harms", desc := "(I)Z" } : Jvm.MethodName) prog_25_method_105_code (4 : Nat) (Option.some Jvm.ClassFile.FieldType.boolean)) ∈ lw_all := lw_g (lw_at lw_m14 215 rfl) rfl
theorem q3455 : (Jvm.Cond.methodLink "CrumblingWallModel" (335 : Nat) ({ cls := "CrumblingWallModel", name := "carriesOut", desc := "(I)V" } : Jvm.MethodName)) ∈ lw_all := lw_g (lw_at lw_m14 216 rfl) rfl
theorem q3456 : (Jvm.Cond.privateMethod ({ cls := "CrumblingWallModel", name := "carriesOut", desc := "(I)V" } : Jvm.MethodName)) ∈ lw_tbl := lw_at lw_m14 217 rfl
theorem q3457 : (Jvm.Cond.instanceMethod ({ cls := "CrumblingWallModel", name := "carriesOut", desc := "(I)V" } : Jvm.MethodName)) ∈ lw_all := lw_g (lw_at lw_m14 218 rfl) rfl
theorem q3458 : (Jvm.Cond.code ({ cls := "CrumblingWallModel", name := "carriesOut", desc := "(I)V" } : Jvm.MethodName) prog_25_method_102_code (4 : Nat) (Option.none : Option Jvm.ClassFile.FieldType)) ∈ lw_all := lw_g (lw_at lw_m14 219 rfl) rfl
theorem q3459 : (Jvm.Cond.methodLink "CrumblingWallModel" (344 : Nat) ({ cls := "CrumblingWallModel", name := "goesBack", desc := "()V" } : Jvm.MethodName)) ∈ lw_all := lw_g (lw_at lw_m14 220 rfl) rfl
theorem q3460 : (Jvm.Cond.privateMethod ({ cls := "CrumblingWallModel", name := "goesBack", desc := "()V" } : Jvm.MethodName)) ∈ lw_tbl := lw_at lw_m14 221 rfl
theorem q3461 : (Jvm.Cond.instanceMethod ({ cls := "CrumblingWallModel", name := "goesBack", desc := "()V" } : Jvm.MethodName)) ∈ lw_all := lw_g (lw_at lw_m14 222 rfl) rfl
theorem q3462 : (Jvm.Cond.code ({ cls := "CrumblingWallModel", name := "goesBack", desc := "()V" } : Jvm.MethodName) prog_25_method_10_code (2 : Nat) (Option.none : Option Jvm.ClassFile.FieldType)) ∈ lw_all := lw_g (lw_at lw_m14 223 rfl) rfl
theorem q3464 : (Jvm.Cond.instanceMethod ({ cls := "CrumblingWallModel", name := "run", desc := "()I" } : Jvm.MethodName)) ∈ lw_all := lw_g (lw_at lw_m14 225 rfl) rfl
theorem q3465 : (Jvm.Cond.selects "CrumblingWallModel" ({ cls := "CrumblingWallModel", name := "run", desc := "()I" } : Jvm.MethodName) ({ cls := "CrumblingWallModel", name := "run", desc := "()I" } : Jvm.MethodName)) ∈ lw_all := lw_g (lw_at lw_m14 226 rfl) rfl
theorem q3466 : (Jvm.Cond.code ({ cls := "CrumblingWallModel", name := "run", desc := "()I" } : Jvm.MethodName) prog_25_method_107_code (1 : Nat) (Option.some Jvm.ClassFile.FieldType.int)) ∈ lw_all := lw_g (lw_at lw_m14 227 rfl) rfl
theorem q3468 : (Jvm.Cond.instanceMethod ({ cls := "CrumblingWallModel", name := "errorPosition", desc := "()I" } : Jvm.MethodName)) ∈ lw_all := lw_g (lw_at lw_m14 229 rfl) rfl
theorem q3469 : (Jvm.Cond.selects "CrumblingWallModel" ({ cls := "CrumblingWallModel", name := "errorPosition", desc := "()I" } : Jvm.MethodName) ({ cls := "CrumblingWallModel", name := "errorPosition", desc := "()I" } : Jvm.MethodName)) ∈ lw_all := lw_g (lw_at lw_m14 230 rfl) rfl
theorem q3470 : (Jvm.Cond.code ({ cls := "CrumblingWallModel", name := "errorPosition", desc := "()I" } : Jvm.MethodName) prog_25_method_108_code (1 : Nat) (Option.some Jvm.ClassFile.FieldType.int)) ∈ lw_all := lw_g (lw_at lw_m14 231 rfl) rfl
theorem q3472 : (Jvm.Cond.instanceMethod ({ cls := "CrumblingWallModel", name := "reason", desc := "(Z)I" } : Jvm.MethodName)) ∈ lw_all := lw_g (lw_at lw_m14 233 rfl) rfl
theorem q3473 : (Jvm.Cond.selects "CrumblingWallModel" ({ cls := "CrumblingWallModel", name := "reason", desc := "(Z)I" } : Jvm.MethodName) ({ cls := "CrumblingWallModel", name := "reason", desc := "(Z)I" } : Jvm.MethodName)) ∈ lw_all := lw_g (lw_at lw_m14 234 rfl) rfl
theorem q3474 : (Jvm.Cond.code ({ cls := "CrumblingWallModel", name := "reason", desc := "(Z)I" } : Jvm.MethodName) prog_25_method_109_code (2 : Nat) (Option.some Jvm.ClassFile.FieldType.int)) ∈ lw_all := lw_g (lw_at lw_m14 235 rfl) rfl
theorem q3476 : (Jvm.Cond.instanceMethod ({ cls := "CrumblingWallModel", name := "account", desc := "(I)I" } : Jvm.MethodName)) ∈ lw_all := lw_g (lw_at lw_m14 237 rfl) rfl
theorem q3477 : (Jvm.Cond.selects "CrumblingWallModel" ({ cls := "CrumblingWallModel", name := "account", desc := "(I)I" } : Jvm.MethodName) ({ cls := "CrumblingWallModel", name := "account", desc := "(I)I" } : Jvm.MethodName)) ∈ lw_all := lw_g (lw_at lw_m14 238 rfl) rfl
theorem q3478 : (Jvm.Cond.code ({ cls := "CrumblingWallModel", name := "account", desc := "(I)I" } : Jvm.MethodName) prog_25_method_112_code (2 : Nat) (Option.some Jvm.ClassFile.FieldType.int)) ∈ lw_all := lw_g (lw_at lw_m14 239 rfl) rfl
theorem q3479 : (Jvm.Cond.methodLink "CrumblingWallModel" (347 : Nat) ({ cls := "CrumblingWallModel", name := "countHolds", desc := "(I)I" } : Jvm.MethodName)) ∈ lw_all := lw_g (lw_at lw_m15 0 rfl) rfl
theorem q3480 : (Jvm.Cond.privateMethod ({ cls := "CrumblingWallModel", name := "countHolds", desc := "(I)I" } : Jvm.MethodName)) ∈ lw_tbl := lw_at lw_m15 1 rfl
theorem q3481 : (Jvm.Cond.instanceMethod ({ cls := "CrumblingWallModel", name := "countHolds", desc := "(I)I" } : Jvm.MethodName)) ∈ lw_all := lw_g (lw_at lw_m15 2 rfl) rfl
theorem q3482 : (Jvm.Cond.code ({ cls := "CrumblingWallModel", name := "countHolds", desc := "(I)I" } : Jvm.MethodName) prog_25_method_110_code (4 : Nat) (Option.some Jvm.ClassFile.FieldType.int)) ∈ lw_all := lw_g (lw_at lw_m15 3 rfl) rfl
theorem q3483 : (Jvm.Cond.methodLink "CrumblingWallModel" (350 : Nat) ({ cls := "CrumblingWallModel", name := "lit", desc := "()I" } : Jvm.MethodName)) ∈ lw_all := lw_g (lw_at lw_m15 4 rfl) rfl
theorem q3484 : (Jvm.Cond.privateMethod ({ cls := "CrumblingWallModel", name := "lit", desc := "()I" } : Jvm.MethodName)) ∈ lw_tbl := lw_at lw_m15 5 rfl
theorem q3485 : (Jvm.Cond.instanceMethod ({ cls := "CrumblingWallModel", name := "lit", desc := "()I" } : Jvm.MethodName)) ∈ lw_all := lw_g (lw_at lw_m15 6 rfl) rfl
theorem q3486 : (Jvm.Cond.code ({ cls := "CrumblingWallModel", name := "lit", desc := "()I" } : Jvm.MethodName) prog_25_method_111_code (3 : Nat) (Option.some Jvm.ClassFile.FieldType.int)) ∈ lw_all := lw_g (lw_at lw_m15 7 rfl) rfl
theorem q3488 : (Jvm.Cond.instanceMethod ({ cls := "CrumblingWallModel", name := "undo", desc := "()I" } : Jvm.MethodName)) ∈ lw_all := lw_g (lw_at lw_m15 9 rfl) rfl
theorem q3489 : (Jvm.Cond.selects "CrumblingWallModel" ({ cls := "CrumblingWallModel", name := "undo", desc := "()I" } : Jvm.MethodName) ({ cls := "CrumblingWallModel", name := "undo", desc := "()I" } : Jvm.MethodName)) ∈ lw_all := lw_g (lw_at lw_m15 10 rfl) rfl
theorem q3490 : (Jvm.Cond.code ({ cls := "CrumblingWallModel", name := "undo", desc := "()I" } : Jvm.MethodName) prog_25_method_113_code (3 : Nat) (Option.some Jvm.ClassFile.FieldType.int)) ∈ lw_all := lw_g (lw_at lw_m15 11 rfl) rfl
theorem q3492 : (Jvm.Cond.instanceMethod ({ cls := "CrumblingWallModel", name := "save", desc := "()I" } : Jvm.MethodName)) ∈ lw_all := lw_g (lw_at lw_m15 13 rfl) rfl
theorem q3493 : (Jvm.Cond.selects "CrumblingWallModel" ({ cls := "CrumblingWallModel", name := "save", desc := "()I" } : Jvm.MethodName) ({ cls := "CrumblingWallModel", name := "save", desc := "()I" } : Jvm.MethodName)) ∈ lw_all := lw_g (lw_at lw_m15 14 rfl) rfl
theorem q3494 : (Jvm.Cond.code ({ cls := "CrumblingWallModel", name := "save", desc := "()I" } : Jvm.MethodName) prog_25_method_114_code (2 : Nat) (Option.some Jvm.ClassFile.FieldType.int)) ∈ lw_all := lw_g (lw_at lw_m15 15 rfl) rfl
theorem q3496 : (Jvm.Cond.instanceMethod ({ cls := "CrumblingWallModel", name := "restore", desc := "()I" } : Jvm.MethodName)) ∈ lw_all := lw_g (lw_at lw_m15 17 rfl) rfl
theorem q3497 : (Jvm.Cond.selects "CrumblingWallModel" ({ cls := "CrumblingWallModel", name := "restore", desc := "()I" } : Jvm.MethodName) ({ cls := "CrumblingWallModel", name := "restore", desc := "()I" } : Jvm.MethodName)) ∈ lw_all := lw_g (lw_at lw_m15 18 rfl) rfl
theorem q3498 : (Jvm.Cond.code ({ cls := "CrumblingWallModel", name := "restore", desc := "()I" } : Jvm.MethodName) prog_25_method_115_code (2 : Nat) (Option.some Jvm.ClassFile.FieldType.int)) ∈ lw_all := lw_g (lw_at lw_m15 19 rfl) rfl
theorem q3575 : (Jvm.Cond.castable "CrumblingWallModel" "java/lang/Object") ∈ lw_tbl := lw_at lw_m15 96 rfl
theorem in_X5 : ∀ w ∈ wsX50, w ∈ lw_all := lw_in wsX50 [2982, 2984, 2986, 2988, 2990, 2992, 2994, 2996, 2998, 3000, 3002, 3004, 3006, 3008, 3010, 3012, 3014, 3016, 3018, 3020, 3022, 3024, 3026, 3028, 3030, 3032, 3034, 3036, 3038, 3040] (by decide +kernel) (by decide +kernel)
/-! the law's own entry -/
set_option maxRecDepth 100000
abbrev cL_law : ByteArray := code
def dkwL_law_92 : List UInt8 := [167, 0, 3, 132, 5, 5, 167, 247, 40, 4, 172]
abbrev dktL_law_92 : List UInt8 := dkwL_law_92 ++ []
def dkwL_law_91 : List UInt8 := [159, 0, 5, 3, 172, 21, 6, 154, 0, 15, 45, 3, 47, 21, 7, 133, 148, 153, 0, 5, 3, 172]
abbrev dktL_law_91 : List UInt8 := dkwL_law_91 ++ dktL_law_92
def dkwL_law_90 : List UInt8 := [159, 0, 49, 3, 172, 43, 45, 184, 0, 255, 54, 6, 44, 182, 1, 1, 54, 7, 44, 182, 0, 134, 21, 6]
abbrev dktL_law_90 : List UInt8 := dkwL_law_90 ++ dktL_law_91
def dkwL_law_89 : List UInt8 := [45, 3, 47, 21, 7, 133, 148, 153, 0, 5, 3, 172, 167, 0, 60, 43, 182, 0, 251, 44, 182, 0, 254]
abbrev dktL_law_89 : List UInt8 := dkwL_law_89 ++ dktL_law_90
def dkwL_law_88 : List UInt8 := [54, 6, 44, 182, 0, 250, 54, 7, 44, 182, 0, 134, 21, 6, 159, 0, 5, 3, 172, 21, 6, 154, 0, 15]
abbrev dktL_law_88 : List UInt8 := dkwL_law_88 ++ dktL_law_89
def dkwL_law_87 : List UInt8 := [154, 0, 15, 45, 3, 47, 21, 7, 133, 148, 153, 0, 5, 3, 172, 167, 0, 104, 43, 45, 184, 0, 248]
abbrev dktL_law_87 : List UInt8 := dkwL_law_87 ++ dktL_law_88
def dkwL_law_86 : List UInt8 := [21, 5, 4, 96, 46, 182, 0, 247, 54, 7, 44, 182, 0, 134, 21, 6, 159, 0, 5, 3, 172, 21, 6]
abbrev dktL_law_86 : List UInt8 := dkwL_law_86 ++ dktL_law_87
def dkwL_law_85 : List UInt8 := [148, 153, 0, 5, 3, 172, 167, 0, 160, 43, 42, 21, 5, 4, 96, 46, 45, 184, 0, 245, 54, 6, 44, 42]
abbrev dktL_law_85 : List UInt8 := dkwL_law_85 ++ dktL_law_86
def dkwL_law_84 : List UInt8 := [54, 7, 44, 182, 0, 134, 21, 6, 159, 0, 5, 3, 172, 21, 6, 154, 0, 15, 45, 3, 47, 21, 7, 133]
abbrev dktL_law_84 : List UInt8 := dkwL_law_84 ++ dktL_law_85
def dkwL_law_83 : List UInt8 := [184, 0, 241, 54, 6, 44, 42, 21, 5, 4, 96, 46, 153, 0, 7, 4, 167, 0, 4, 3, 182, 0, 244]
abbrev dktL_law_83 : List UInt8 := dkwL_law_83 ++ dktL_law_84
def dkwL_law_82 : List UInt8 := [153, 0, 5, 3, 172, 167, 0, 232, 43, 42, 21, 5, 4, 96, 46, 153, 0, 7, 4, 167, 0, 4, 3, 45]
abbrev dktL_law_82 : List UInt8 := dkwL_law_82 ++ dktL_law_83
def dkwL_law_81 : List UInt8 := [182, 0, 134, 21, 6, 159, 0, 5, 3, 172, 21, 6, 154, 0, 15, 45, 3, 47, 21, 7, 133, 148]
abbrev dktL_law_81 : List UInt8 := dkwL_law_81 ++ dktL_law_82
def dkwL_law_80 : List UInt8 := [148, 153, 0, 5, 3, 172, 167, 1, 20, 43, 45, 184, 0, 238, 54, 6, 44, 182, 0, 240, 54, 7, 44]
abbrev dktL_law_80 : List UInt8 := dkwL_law_80 ++ dktL_law_81
def dkwL_law_79 : List UInt8 := [54, 7, 44, 182, 0, 134, 21, 6, 159, 0, 5, 3, 172, 21, 6, 154, 0, 15, 45, 3, 47, 21, 7, 133]
abbrev dktL_law_79 : List UInt8 := dkwL_law_79 ++ dktL_law_80
def dkwL_law_78 : List UInt8 := [21, 7, 133, 148, 153, 0, 5, 3, 172, 167, 1, 64, 43, 45, 184, 0, 235, 54, 6, 44, 182, 0, 237]
abbrev dktL_law_78 : List UInt8 := dkwL_law_78 ++ dktL_law_79
def dkwL_law_77 : List UInt8 := [182, 0, 234, 54, 7, 44, 182, 0, 134, 21, 6, 159, 0, 5, 3, 172, 21, 6, 154, 0, 15, 45, 3, 47]
abbrev dktL_law_77 : List UInt8 := dkwL_law_77 ++ dktL_law_78
def dkwL_law_76 : List UInt8 := [45, 3, 47, 21, 7, 133, 148, 153, 0, 5, 3, 172, 167, 1, 108, 43, 45, 184, 0, 232, 54, 6, 44]
abbrev dktL_law_76 : List UInt8 := dkwL_law_76 ++ dktL_law_77
def dkwL_law_75 : List UInt8 := [96, 46, 146, 182, 0, 231, 54, 7, 44, 182, 0, 134, 21, 6, 159, 0, 5, 3, 172, 21, 6, 154, 0, 15]
abbrev dktL_law_75 : List UInt8 := dkwL_law_75 ++ dktL_law_76
def dkwL_law_74 : List UInt8 := [159, 1, 168, 3, 172, 43, 42, 21, 5, 4, 96, 46, 146, 45, 184, 0, 228, 54, 6, 44, 42, 21, 5, 4]
abbrev dktL_law_74 : List UInt8 := dkwL_law_74 ++ dktL_law_75
def dkwL_law_73 : List UInt8 := [3, 47, 21, 7, 133, 148, 153, 0, 5, 3, 172, 167, 1, 179, 43, 182, 0, 224, 44, 182, 0, 227]
abbrev dktL_law_73 : List UInt8 := dkwL_law_73 ++ dktL_law_74
def dkwL_law_72 : List UInt8 := [96, 46, 182, 0, 223, 54, 7, 44, 182, 0, 134, 21, 6, 159, 0, 5, 3, 172, 21, 6, 154, 0, 15, 45]
abbrev dktL_law_72 : List UInt8 := dkwL_law_72 ++ dktL_law_73
def dkwL_law_71 : List UInt8 := [46, 42, 21, 5, 5, 96, 46, 45, 184, 0, 221, 54, 6, 44, 42, 21, 5, 4, 96, 46, 42, 21, 5, 5]
abbrev dktL_law_71 : List UInt8 := dkwL_law_71 ++ dktL_law_72
def dkwL_law_70 : List UInt8 := [154, 0, 15, 45, 3, 47, 21, 7, 133, 148, 153, 0, 5, 3, 172, 167, 1, 247, 43, 42, 21, 5, 4, 96]
abbrev dktL_law_70 : List UInt8 := dkwL_law_70 ++ dktL_law_71
def dkwL_law_69 : List UInt8 := [21, 5, 4, 96, 46, 182, 0, 220, 54, 7, 44, 182, 0, 134, 21, 6, 159, 0, 5, 3, 172, 21, 6]
abbrev dktL_law_69 : List UInt8 := dkwL_law_69 ++ dktL_law_70
def dkwL_law_68 : List UInt8 := [148, 153, 0, 5, 3, 172, 167, 2, 47, 43, 42, 21, 5, 4, 96, 46, 45, 184, 0, 218, 54, 6, 44, 42]
abbrev dktL_law_68 : List UInt8 := dkwL_law_68 ++ dktL_law_69
def dkwL_law_67 : List UInt8 := [54, 7, 44, 182, 0, 134, 21, 6, 159, 0, 5, 3, 172, 21, 6, 154, 0, 15, 45, 3, 47, 21, 7, 133]
abbrev dktL_law_67 : List UInt8 := dkwL_law_67 ++ dktL_law_68
def dkwL_law_66 : List UInt8 := [46, 45, 184, 0, 215, 54, 6, 44, 42, 21, 5, 4, 96, 46, 42, 21, 5, 5, 96, 46, 182, 0, 217]
abbrev dktL_law_66 : List UInt8 := dkwL_law_66 ++ dktL_law_67
def dkwL_law_65 : List UInt8 := [21, 7, 133, 148, 153, 0, 5, 3, 172, 167, 2, 115, 43, 42, 21, 5, 4, 96, 46, 42, 21, 5, 5, 96]
abbrev dktL_law_65 : List UInt8 := dkwL_law_65 ++ dktL_law_66
def dkwL_law_64 : List UInt8 := [182, 0, 214, 54, 7, 44, 182, 0, 134, 21, 6, 159, 0, 5, 3, 172, 21, 6, 154, 0, 15, 45, 3, 47]
abbrev dktL_law_64 : List UInt8 := dkwL_law_64 ++ dktL_law_65
def dkwL_law_63 : List UInt8 := [184, 0, 212, 54, 6, 44, 42, 21, 5, 4, 96, 46, 42, 21, 5, 5, 96, 46, 42, 21, 5, 6, 96, 46]
abbrev dktL_law_63 : List UInt8 := dkwL_law_63 ++ dktL_law_64
def dkwL_law_62 : List UInt8 := [167, 2, 195, 43, 42, 21, 5, 4, 96, 46, 42, 21, 5, 5, 96, 46, 42, 21, 5, 6, 96, 46, 45]
abbrev dktL_law_62 : List UInt8 := dkwL_law_62 ++ dktL_law_63
def dkwL_law_61 : List UInt8 := [159, 0, 5, 3, 172, 21, 6, 154, 0, 15, 45, 3, 47, 21, 7, 133, 148, 153, 0, 5, 3, 172]
abbrev dktL_law_61 : List UInt8 := dkwL_law_61 ++ dktL_law_62
def dkwL_law_60 : List UInt8 := [184, 0, 209, 54, 6, 44, 42, 21, 5, 4, 96, 46, 182, 0, 211, 54, 7, 44, 182, 0, 134, 21, 6]
abbrev dktL_law_60 : List UInt8 := dkwL_law_60 ++ dktL_law_61
def dkwL_law_59 : List UInt8 := [153, 0, 11, 23, 7, 23, 7, 149, 154, 0, 5, 3, 172, 167, 2, 251, 43, 42, 21, 5, 4, 96, 46, 45]
abbrev dktL_law_59 : List UInt8 := dkwL_law_59 ++ dktL_law_60
def dkwL_law_58 : List UInt8 := [154, 0, 36, 25, 4, 3, 49, 23, 7, 141, 151, 153, 0, 25, 25, 4, 3, 49, 25, 4, 3, 49, 151]
abbrev dktL_law_58 : List UInt8 := dkwL_law_58 ++ dktL_law_59
def dkwL_law_57 : List UInt8 := [21, 5, 4, 96, 46, 182, 0, 208, 56, 7, 44, 182, 0, 134, 21, 6, 159, 0, 5, 3, 172, 21, 6]
abbrev dktL_law_57 : List UInt8 := dkwL_law_57 ++ dktL_law_58
def dkwL_law_56 : List UInt8 := [153, 0, 5, 3, 172, 167, 3, 73, 43, 42, 21, 5, 4, 96, 46, 25, 4, 184, 0, 205, 54, 6, 44, 42]
abbrev dktL_law_56 : List UInt8 := dkwL_law_56 ++ dktL_law_57
def dkwL_law_55 : List UInt8 := [182, 0, 134, 21, 6, 159, 0, 5, 3, 172, 21, 6, 154, 0, 15, 45, 3, 47, 21, 7, 133, 148]
abbrev dktL_law_55 : List UInt8 := dkwL_law_55 ++ dktL_law_56
def dkwL_law_54 : List UInt8 := [184, 0, 202, 54, 6, 44, 42, 21, 5, 4, 96, 46, 42, 21, 5, 5, 96, 46, 182, 0, 204, 54, 7, 44]
abbrev dktL_law_54 : List UInt8 := dkwL_law_54 ++ dktL_law_55
def dkwL_law_53 : List UInt8 := [153, 0, 5, 3, 172, 167, 3, 141, 43, 42, 21, 5, 4, 96, 46, 42, 21, 5, 5, 96, 46, 45]
abbrev dktL_law_53 : List UInt8 := dkwL_law_53 ++ dktL_law_54
def dkwL_law_52 : List UInt8 := [182, 0, 134, 21, 6, 159, 0, 5, 3, 172, 21, 6, 154, 0, 15, 45, 3, 47, 21, 7, 133, 148]
abbrev dktL_law_52 : List UInt8 := dkwL_law_52 ++ dktL_law_53
def dkwL_law_51 : List UInt8 := [184, 0, 199, 54, 6, 44, 42, 21, 5, 4, 96, 46, 42, 21, 5, 5, 96, 46, 182, 0, 201, 54, 7, 44]
abbrev dktL_law_51 : List UInt8 := dkwL_law_51 ++ dktL_law_52
def dkwL_law_50 : List UInt8 := [148, 153, 0, 5, 3, 172, 167, 3, 209, 43, 42, 21, 5, 4, 96, 46, 42, 21, 5, 5, 96, 46, 45]
abbrev dktL_law_50 : List UInt8 := dkwL_law_50 ++ dktL_law_51
def dkwL_law_49 : List UInt8 := [54, 7, 44, 182, 0, 134, 21, 6, 159, 0, 5, 3, 172, 21, 6, 154, 0, 15, 45, 3, 47, 21, 7, 133]
abbrev dktL_law_49 : List UInt8 := dkwL_law_49 ++ dktL_law_50
def dkwL_law_48 : List UInt8 := [46, 45, 184, 0, 196, 54, 6, 44, 42, 21, 5, 4, 96, 46, 42, 21, 5, 5, 96, 46, 182, 0, 198]
abbrev dktL_law_48 : List UInt8 := dkwL_law_48 ++ dktL_law_49
def dkwL_law_47 : List UInt8 := [182, 0, 192, 44, 182, 0, 195, 159, 4, 23, 3, 172, 43, 42, 21, 5, 4, 96, 46, 42, 21, 5, 5, 96]
abbrev dktL_law_47 : List UInt8 := dkwL_law_47 ++ dktL_law_48
def dkwL_law_46 : List UInt8 := [153, 0, 5, 3, 172, 167, 4, 47, 43, 182, 0, 188, 44, 182, 0, 191, 159, 4, 36, 3, 172, 43]
abbrev dktL_law_46 : List UInt8 := dkwL_law_46 ++ dktL_law_47
def dkwL_law_45 : List UInt8 := [182, 0, 134, 21, 6, 159, 0, 5, 3, 172, 21, 6, 154, 0, 15, 45, 3, 47, 21, 7, 133, 148]
abbrev dktL_law_45 : List UInt8 := dkwL_law_45 ++ dktL_law_46
def dkwL_law_44 : List UInt8 := [21, 5, 4, 96, 46, 45, 184, 0, 185, 54, 6, 44, 42, 21, 5, 4, 96, 46, 182, 0, 187, 54, 7, 44]
abbrev dktL_law_44 : List UInt8 := dkwL_law_44 ++ dktL_law_45
def dkwL_law_43 : List UInt8 := [148, 153, 0, 5, 3, 172, 167, 4, 116, 43, 182, 0, 181, 44, 182, 0, 184, 159, 4, 105, 3, 172, 43, 42]
abbrev dktL_law_43 : List UInt8 := dkwL_law_43 ++ dktL_law_44
def dkwL_law_42 : List UInt8 := [54, 7, 44, 182, 0, 134, 21, 6, 159, 0, 5, 3, 172, 21, 6, 154, 0, 15, 45, 3, 47, 21, 7, 133]
abbrev dktL_law_42 : List UInt8 := dkwL_law_42 ++ dktL_law_43
def dkwL_law_41 : List UInt8 := [21, 7, 133, 148, 153, 0, 5, 3, 172, 167, 4, 160, 43, 45, 184, 0, 178, 54, 6, 44, 182, 0, 180]
abbrev dktL_law_41 : List UInt8 := dkwL_law_41 ++ dktL_law_42
def dkwL_law_40 : List UInt8 := [182, 0, 177, 54, 7, 44, 182, 0, 134, 21, 6, 159, 0, 5, 3, 172, 21, 6, 154, 0, 15, 45, 3, 47]
abbrev dktL_law_40 : List UInt8 := dkwL_law_40 ++ dktL_law_41
def dkwL_law_39 : List UInt8 := [3, 47, 21, 7, 133, 148, 153, 0, 5, 3, 172, 167, 4, 204, 43, 45, 184, 0, 174, 54, 6, 44]
abbrev dktL_law_39 : List UInt8 := dkwL_law_39 ++ dktL_law_40
def dkwL_law_38 : List UInt8 := [96, 46, 182, 0, 173, 54, 7, 44, 182, 0, 134, 21, 6, 159, 0, 5, 3, 172, 21, 6, 154, 0, 15, 45]
abbrev dktL_law_38 : List UInt8 := dkwL_law_38 ++ dktL_law_39
def dkwL_law_37 : List UInt8 := [46, 42, 21, 5, 5, 96, 46, 45, 184, 0, 171, 54, 6, 44, 42, 21, 5, 4, 96, 46, 42, 21, 5, 5]
abbrev dktL_law_37 : List UInt8 := dkwL_law_37 ++ dktL_law_38
def dkwL_law_36 : List UInt8 := [154, 0, 15, 45, 3, 47, 21, 7, 133, 148, 153, 0, 5, 3, 172, 167, 5, 16, 43, 42, 21, 5, 4, 96]
abbrev dktL_law_36 : List UInt8 := dkwL_law_36 ++ dktL_law_37
def dkwL_law_35 : List UInt8 := [42, 21, 5, 5, 96, 46, 182, 0, 170, 54, 7, 44, 182, 0, 134, 21, 6, 159, 0, 5, 3, 172, 21, 6]
abbrev dktL_law_35 : List UInt8 := dkwL_law_35 ++ dktL_law_36
def dkwL_law_34 : List UInt8 := [21, 5, 4, 96, 46, 42, 21, 5, 5, 96, 46, 45, 184, 0, 168, 54, 6, 44, 42, 21, 5, 4, 96, 46]
abbrev dktL_law_34 : List UInt8 := dkwL_law_34 ++ dktL_law_35
def dkwL_law_33 : List UInt8 := [172, 21, 6, 154, 0, 15, 45, 3, 47, 21, 7, 133, 148, 153, 0, 5, 3, 172, 167, 5, 84, 43, 42]
abbrev dktL_law_33 : List UInt8 := dkwL_law_33 ++ dktL_law_34
def dkwL_law_32 : List UInt8 := [54, 6, 44, 42, 21, 5, 4, 96, 46, 182, 0, 167, 54, 7, 44, 182, 0, 134, 21, 6, 159, 0, 5, 3]
abbrev dktL_law_32 : List UInt8 := dkwL_law_32 ++ dktL_law_33
def dkwL_law_31 : List UInt8 := [47, 21, 7, 133, 148, 153, 0, 5, 3, 172, 167, 5, 140, 43, 42, 21, 5, 4, 96, 46, 45, 184, 0, 165]
abbrev dktL_law_31 : List UInt8 := dkwL_law_31 ++ dktL_law_32
def dkwL_law_30 : List UInt8 := [3, 182, 0, 164, 54, 7, 44, 182, 0, 134, 21, 6, 159, 0, 5, 3, 172, 21, 6, 154, 0, 15, 45, 3]
abbrev dktL_law_30 : List UInt8 := dkwL_law_30 ++ dktL_law_31
def dkwL_law_29 : List UInt8 := [21, 5, 4, 96, 46, 42, 21, 5, 5, 96, 46, 42, 21, 5, 6, 96, 46, 153, 0, 7, 4, 167, 0, 4]
abbrev dktL_law_29 : List UInt8 := dkwL_law_29 ++ dktL_law_30
def dkwL_law_28 : List UInt8 := [46, 42, 21, 5, 6, 96, 46, 153, 0, 7, 4, 167, 0, 4, 3, 45, 184, 0, 161, 54, 6, 44, 42]
abbrev dktL_law_28 : List UInt8 := dkwL_law_28 ++ dktL_law_29
def dkwL_law_27 : List UInt8 := [21, 7, 133, 148, 153, 0, 5, 3, 172, 167, 5, 236, 43, 42, 21, 5, 4, 96, 46, 42, 21, 5, 5, 96]
abbrev dktL_law_27 : List UInt8 := dkwL_law_27 ++ dktL_law_28
def dkwL_law_26 : List UInt8 := [182, 0, 160, 54, 7, 44, 182, 0, 134, 21, 6, 159, 0, 5, 3, 172, 21, 6, 154, 0, 15, 45, 3, 47]
abbrev dktL_law_26 : List UInt8 := dkwL_law_26 ++ dktL_law_27
def dkwL_law_25 : List UInt8 := [167, 6, 36, 43, 42, 21, 5, 4, 96, 46, 45, 184, 0, 157, 54, 6, 44, 42, 21, 5, 4, 96, 46]
abbrev dktL_law_25 : List UInt8 := dkwL_law_25 ++ dktL_law_26
def dkwL_law_24 : List UInt8 := [159, 0, 5, 3, 172, 21, 6, 154, 0, 15, 45, 3, 47, 21, 7, 133, 148, 153, 0, 5, 3, 172]
abbrev dktL_law_24 : List UInt8 := dkwL_law_24 ++ dktL_law_25
def dkwL_law_23 : List UInt8 := [21, 5, 4, 96, 46, 42, 21, 5, 5, 96, 46, 182, 0, 156, 54, 7, 44, 182, 0, 134, 21, 6]
abbrev dktL_law_23 : List UInt8 := dkwL_law_23 ++ dktL_law_24
def dkwL_law_22 : List UInt8 := [167, 6, 104, 43, 42, 21, 5, 4, 96, 46, 42, 21, 5, 5, 96, 46, 45, 184, 0, 154, 54, 6, 44, 42]
abbrev dktL_law_22 : List UInt8 := dkwL_law_22 ++ dktL_law_23
def dkwL_law_21 : List UInt8 := [159, 0, 5, 3, 172, 21, 6, 154, 0, 15, 45, 3, 47, 21, 7, 133, 148, 153, 0, 5, 3, 172]
abbrev dktL_law_21 : List UInt8 := dkwL_law_21 ++ dktL_law_22
def dkwL_law_20 : List UInt8 := [21, 5, 4, 96, 46, 42, 21, 5, 5, 96, 46, 182, 0, 153, 54, 7, 44, 182, 0, 134, 21, 6]
abbrev dktL_law_20 : List UInt8 := dkwL_law_20 ++ dktL_law_21
def dkwL_law_19 : List UInt8 := [167, 6, 172, 43, 42, 21, 5, 4, 96, 46, 42, 21, 5, 5, 96, 46, 45, 184, 0, 151, 54, 6, 44, 42]
abbrev dktL_law_19 : List UInt8 := dkwL_law_19 ++ dktL_law_20
def dkwL_law_18 : List UInt8 := [159, 0, 5, 3, 172, 21, 6, 154, 0, 15, 45, 3, 47, 21, 7, 133, 148, 153, 0, 5, 3, 172]
abbrev dktL_law_18 : List UInt8 := dkwL_law_18 ++ dktL_law_19
def dkwL_law_17 : List UInt8 := [21, 5, 4, 96, 46, 42, 21, 5, 5, 96, 46, 182, 0, 150, 54, 7, 44, 182, 0, 134, 21, 6]
abbrev dktL_law_17 : List UInt8 := dkwL_law_17 ++ dktL_law_18
def dkwL_law_16 : List UInt8 := [167, 6, 240, 43, 42, 21, 5, 4, 96, 46, 42, 21, 5, 5, 96, 46, 45, 184, 0, 148, 54, 6, 44, 42]
abbrev dktL_law_16 : List UInt8 := dkwL_law_16 ++ dktL_law_17
def dkwL_law_15 : List UInt8 := [159, 0, 5, 3, 172, 21, 6, 154, 0, 15, 45, 3, 47, 21, 7, 133, 148, 153, 0, 5, 3, 172]
abbrev dktL_law_15 : List UInt8 := dkwL_law_15 ++ dktL_law_16
def dkwL_law_14 : List UInt8 := [21, 5, 5, 96, 46, 42, 21, 5, 6, 96, 46, 182, 0, 147, 54, 7, 44, 182, 0, 134, 21, 6]
abbrev dktL_law_14 : List UInt8 := dkwL_law_14 ++ dktL_law_15
def dkwL_law_13 : List UInt8 := [5, 96, 46, 42, 21, 5, 6, 96, 46, 45, 184, 0, 144, 54, 6, 44, 42, 21, 5, 4, 96, 46, 42]
abbrev dktL_law_13 : List UInt8 := dkwL_law_13 ++ dktL_law_14
def dkwL_law_12 : List UInt8 := [3, 47, 21, 7, 133, 148, 153, 0, 5, 3, 172, 167, 7, 64, 43, 42, 21, 5, 4, 96, 46, 42, 21, 5]
abbrev dktL_law_12 : List UInt8 := dkwL_law_12 ++ dktL_law_13
def dkwL_law_11 : List UInt8 := [96, 46, 182, 0, 143, 54, 7, 44, 182, 0, 134, 21, 6, 159, 0, 5, 3, 172, 21, 6, 154, 0, 15, 45]
abbrev dktL_law_11 : List UInt8 := dkwL_law_11 ++ dktL_law_12
def dkwL_law_10 : List UInt8 := [46, 42, 21, 5, 5, 96, 46, 45, 184, 0, 141, 54, 6, 44, 42, 21, 5, 4, 96, 46, 42, 21, 5, 5]
abbrev dktL_law_10 : List UInt8 := dkwL_law_10 ++ dktL_law_11
def dkwL_law_9 : List UInt8 := [154, 0, 15, 45, 3, 47, 21, 7, 133, 148, 153, 0, 5, 3, 172, 167, 7, 132, 43, 42, 21, 5, 4, 96]
abbrev dktL_law_9 : List UInt8 := dkwL_law_9 ++ dktL_law_10
def dkwL_law_8 : List UInt8 := [21, 5, 5, 96, 46, 182, 0, 140, 54, 7, 44, 182, 0, 134, 21, 6, 159, 0, 5, 3, 172, 21, 6]
abbrev dktL_law_8 : List UInt8 := dkwL_law_8 ++ dktL_law_9
def dkwL_law_7 : List UInt8 := [4, 96, 46, 42, 21, 5, 5, 96, 46, 45, 184, 0, 137, 54, 6, 44, 42, 21, 5, 4, 96, 46, 42]
abbrev dktL_law_7 : List UInt8 := dkwL_law_7 ++ dktL_law_8
def dkwL_law_6 : List UInt8 := [21, 6, 154, 0, 15, 45, 3, 47, 21, 7, 133, 148, 153, 0, 5, 3, 172, 167, 7, 200, 43, 42, 21, 5]
abbrev dktL_law_6 : List UInt8 := dkwL_law_6 ++ dktL_law_7
def dkwL_law_5 : List UInt8 := [96, 46, 42, 21, 5, 7, 96, 46, 182, 0, 133, 54, 7, 44, 182, 0, 134, 21, 6, 159, 0, 5, 3, 172]
abbrev dktL_law_5 : List UInt8 := dkwL_law_5 ++ dktL_law_6
def dkwL_law_4 : List UInt8 := [46, 45, 184, 0, 128, 54, 6, 44, 42, 21, 5, 4, 96, 46, 42, 21, 5, 5, 96, 46, 42, 21, 5, 6]
abbrev dktL_law_4 : List UInt8 := dkwL_law_4 ++ dktL_law_5
def dkwL_law_3 : List UInt8 := [43, 42, 21, 5, 4, 96, 46, 42, 21, 5, 5, 96, 46, 42, 21, 5, 6, 96, 46, 42, 21, 5, 7, 96]
abbrev dktL_law_3 : List UInt8 := dkwL_law_3 ++ dktL_law_4
def dkwL_law_2 : List UInt8 := [170, 0, 0, 0, 0, 0, 8, 197, 0, 0, 0, 0, 0, 0, 0, 36, 0, 0, 0, 164, 0, 0, 1, 0, 0, 0, 1, 68, 0, 0, 1, 136, 0, 0, 1, 216, 0, 0, 2, 28, 0, 0, 2, 96, 0, 0, 2, 164, 0, 0, 2, 220, 0, 0, 3, 60, 0, 0, 3, 116, 0, 0, 3, 184, 0, 0, 3, 252, 0, 0, 4, 40, 0, 0, 4, 84, 0, 0, 4, 97, 0, 0, 4, 153, 0, 0, 4, 166, 0, 0, 4, 179, 0, 0, 4, 247, 0, 0, 5, 59, 0, 0, 5, 127, 0, 0, 5, 205, 0, 0, 6, 5, 0, 0, 6, 85, 0, 0, 6, 153, 0, 0, 6, 209, 0, 0, 7, 21, 0, 0, 7, 34, 0, 0, 7, 92, 0, 0, 7, 136, 0, 0, 7, 180, 0, 0, 7, 224, 0, 0, 8, 40, 0, 0, 8, 96, 0, 0, 8, 140, 0, 0, 8, 153]
abbrev dktL_law_2 : List UInt8 := dkwL_law_2 ++ dktL_law_3
def dkwL_law_1 : List UInt8 := [58, 4, 3, 54, 5, 21, 5, 42, 190, 8, 100, 163, 8, 213, 42, 21, 5, 46, 16, 63, 126]
abbrev dktL_law_1 : List UInt8 := dkwL_law_1 ++ dktL_law_2
def dkwL_law_0 : List UInt8 := [187, 0, 8, 89, 183, 0, 124, 76, 187, 0, 125, 89, 183, 0, 127, 77, 4, 188, 11, 78, 4, 188, 7]
abbrev dktL_law_0 : List UInt8 := dkwL_law_0 ++ dktL_law_1
theorem dksL_law_0 : cL_law.data.toList.drop 0 = dktL_law_0 := by decide +kernel
theorem dksL_law_1 : cL_law.data.toList.drop 23 = dktL_law_1 := dk_seg dksL_law_0 23 rfl rfl
theorem dksL_law_2 : cL_law.data.toList.drop 44 = dktL_law_2 := dk_seg dksL_law_1 21 rfl rfl
theorem dksL_law_3 : cL_law.data.toList.drop 208 = dktL_law_3 := dk_seg dksL_law_2 164 rfl rfl
theorem dksL_law_4 : cL_law.data.toList.drop 232 = dktL_law_4 := dk_seg dksL_law_3 24 rfl rfl
theorem dksL_law_5 : cL_law.data.toList.drop 256 = dktL_law_5 := dk_seg dksL_law_4 24 rfl rfl
theorem dksL_law_6 : cL_law.data.toList.drop 280 = dktL_law_6 := dk_seg dksL_law_5 24 rfl rfl
theorem dksL_law_7 : cL_law.data.toList.drop 304 = dktL_law_7 := dk_seg dksL_law_6 24 rfl rfl
theorem dksL_law_8 : cL_law.data.toList.drop 327 = dktL_law_8 := dk_seg dksL_law_7 23 rfl rfl
theorem dksL_law_9 : cL_law.data.toList.drop 350 = dktL_law_9 := dk_seg dksL_law_8 23 rfl rfl
theorem dksL_law_10 : cL_law.data.toList.drop 374 = dktL_law_10 := dk_seg dksL_law_9 24 rfl rfl
theorem dksL_law_11 : cL_law.data.toList.drop 398 = dktL_law_11 := dk_seg dksL_law_10 24 rfl rfl
theorem dksL_law_12 : cL_law.data.toList.drop 422 = dktL_law_12 := dk_seg dksL_law_11 24 rfl rfl
theorem dksL_law_13 : cL_law.data.toList.drop 446 = dktL_law_13 := dk_seg dksL_law_12 24 rfl rfl
theorem dksL_law_14 : cL_law.data.toList.drop 469 = dktL_law_14 := dk_seg dksL_law_13 23 rfl rfl
theorem dksL_law_15 : cL_law.data.toList.drop 491 = dktL_law_15 := dk_seg dksL_law_14 22 rfl rfl
theorem dksL_law_16 : cL_law.data.toList.drop 513 = dktL_law_16 := dk_seg dksL_law_15 22 rfl rfl
theorem dksL_law_17 : cL_law.data.toList.drop 537 = dktL_law_17 := dk_seg dksL_law_16 24 rfl rfl
theorem dksL_law_18 : cL_law.data.toList.drop 559 = dktL_law_18 := dk_seg dksL_law_17 22 rfl rfl
theorem dksL_law_19 : cL_law.data.toList.drop 581 = dktL_law_19 := dk_seg dksL_law_18 22 rfl rfl
theorem dksL_law_20 : cL_law.data.toList.drop 605 = dktL_law_20 := dk_seg dksL_law_19 24 rfl rfl
theorem dksL_law_21 : cL_law.data.toList.drop 627 = dktL_law_21 := dk_seg dksL_law_20 22 rfl rfl
theorem dksL_law_22 : cL_law.data.toList.drop 649 = dktL_law_22 := dk_seg dksL_law_21 22 rfl rfl
theorem dksL_law_23 : cL_law.data.toList.drop 673 = dktL_law_23 := dk_seg dksL_law_22 24 rfl rfl
theorem dksL_law_24 : cL_law.data.toList.drop 695 = dktL_law_24 := dk_seg dksL_law_23 22 rfl rfl
theorem dksL_law_25 : cL_law.data.toList.drop 717 = dktL_law_25 := dk_seg dksL_law_24 22 rfl rfl
theorem dksL_law_26 : cL_law.data.toList.drop 740 = dktL_law_26 := dk_seg dksL_law_25 23 rfl rfl
theorem dksL_law_27 : cL_law.data.toList.drop 764 = dktL_law_27 := dk_seg dksL_law_26 24 rfl rfl
theorem dksL_law_28 : cL_law.data.toList.drop 788 = dktL_law_28 := dk_seg dksL_law_27 24 rfl rfl
theorem dksL_law_29 : cL_law.data.toList.drop 811 = dktL_law_29 := dk_seg dksL_law_28 23 rfl rfl
theorem dksL_law_30 : cL_law.data.toList.drop 835 = dktL_law_30 := dk_seg dksL_law_29 24 rfl rfl
theorem dksL_law_31 : cL_law.data.toList.drop 859 = dktL_law_31 := dk_seg dksL_law_30 24 rfl rfl
theorem dksL_law_32 : cL_law.data.toList.drop 883 = dktL_law_32 := dk_seg dksL_law_31 24 rfl rfl
theorem dksL_law_33 : cL_law.data.toList.drop 907 = dktL_law_33 := dk_seg dksL_law_32 24 rfl rfl
theorem dksL_law_34 : cL_law.data.toList.drop 930 = dktL_law_34 := dk_seg dksL_law_33 23 rfl rfl
theorem dksL_law_35 : cL_law.data.toList.drop 954 = dktL_law_35 := dk_seg dksL_law_34 24 rfl rfl
theorem dksL_law_36 : cL_law.data.toList.drop 978 = dktL_law_36 := dk_seg dksL_law_35 24 rfl rfl
theorem dksL_law_37 : cL_law.data.toList.drop 1002 = dktL_law_37 := dk_seg dksL_law_36 24 rfl rfl
theorem dksL_law_38 : cL_law.data.toList.drop 1026 = dktL_law_38 := dk_seg dksL_law_37 24 rfl rfl
theorem dksL_law_39 : cL_law.data.toList.drop 1050 = dktL_law_39 := dk_seg dksL_law_38 24 rfl rfl
theorem dksL_law_40 : cL_law.data.toList.drop 1072 = dktL_law_40 := dk_seg dksL_law_39 22 rfl rfl
theorem dksL_law_41 : cL_law.data.toList.drop 1096 = dktL_law_41 := dk_seg dksL_law_40 24 rfl rfl
theorem dksL_law_42 : cL_law.data.toList.drop 1119 = dktL_law_42 := dk_seg dksL_law_41 23 rfl rfl
theorem dksL_law_43 : cL_law.data.toList.drop 1143 = dktL_law_43 := dk_seg dksL_law_42 24 rfl rfl
theorem dksL_law_44 : cL_law.data.toList.drop 1167 = dktL_law_44 := dk_seg dksL_law_43 24 rfl rfl
theorem dksL_law_45 : cL_law.data.toList.drop 1191 = dktL_law_45 := dk_seg dksL_law_44 24 rfl rfl
theorem dksL_law_46 : cL_law.data.toList.drop 1213 = dktL_law_46 := dk_seg dksL_law_45 22 rfl rfl
theorem dksL_law_47 : cL_law.data.toList.drop 1235 = dktL_law_47 := dk_seg dksL_law_46 22 rfl rfl
theorem dksL_law_48 : cL_law.data.toList.drop 1259 = dktL_law_48 := dk_seg dksL_law_47 24 rfl rfl
theorem dksL_law_49 : cL_law.data.toList.drop 1282 = dktL_law_49 := dk_seg dksL_law_48 23 rfl rfl
theorem dksL_law_50 : cL_law.data.toList.drop 1306 = dktL_law_50 := dk_seg dksL_law_49 24 rfl rfl
theorem dksL_law_51 : cL_law.data.toList.drop 1329 = dktL_law_51 := dk_seg dksL_law_50 23 rfl rfl
theorem dksL_law_52 : cL_law.data.toList.drop 1353 = dktL_law_52 := dk_seg dksL_law_51 24 rfl rfl
theorem dksL_law_53 : cL_law.data.toList.drop 1375 = dktL_law_53 := dk_seg dksL_law_52 22 rfl rfl
theorem dksL_law_54 : cL_law.data.toList.drop 1397 = dktL_law_54 := dk_seg dksL_law_53 22 rfl rfl
theorem dksL_law_55 : cL_law.data.toList.drop 1421 = dktL_law_55 := dk_seg dksL_law_54 24 rfl rfl
theorem dksL_law_56 : cL_law.data.toList.drop 1443 = dktL_law_56 := dk_seg dksL_law_55 22 rfl rfl
theorem dksL_law_57 : cL_law.data.toList.drop 1467 = dktL_law_57 := dk_seg dksL_law_56 24 rfl rfl
theorem dksL_law_58 : cL_law.data.toList.drop 1490 = dktL_law_58 := dk_seg dksL_law_57 23 rfl rfl
theorem dksL_law_59 : cL_law.data.toList.drop 1513 = dktL_law_59 := dk_seg dksL_law_58 23 rfl rfl
theorem dksL_law_60 : cL_law.data.toList.drop 1537 = dktL_law_60 := dk_seg dksL_law_59 24 rfl rfl
theorem dksL_law_61 : cL_law.data.toList.drop 1560 = dktL_law_61 := dk_seg dksL_law_60 23 rfl rfl
theorem dksL_law_62 : cL_law.data.toList.drop 1582 = dktL_law_62 := dk_seg dksL_law_61 22 rfl rfl
theorem dksL_law_63 : cL_law.data.toList.drop 1605 = dktL_law_63 := dk_seg dksL_law_62 23 rfl rfl
theorem dksL_law_64 : cL_law.data.toList.drop 1629 = dktL_law_64 := dk_seg dksL_law_63 24 rfl rfl
theorem dksL_law_65 : cL_law.data.toList.drop 1653 = dktL_law_65 := dk_seg dksL_law_64 24 rfl rfl
theorem dksL_law_66 : cL_law.data.toList.drop 1677 = dktL_law_66 := dk_seg dksL_law_65 24 rfl rfl
theorem dksL_law_67 : cL_law.data.toList.drop 1700 = dktL_law_67 := dk_seg dksL_law_66 23 rfl rfl
theorem dksL_law_68 : cL_law.data.toList.drop 1724 = dktL_law_68 := dk_seg dksL_law_67 24 rfl rfl
theorem dksL_law_69 : cL_law.data.toList.drop 1748 = dktL_law_69 := dk_seg dksL_law_68 24 rfl rfl
theorem dksL_law_70 : cL_law.data.toList.drop 1771 = dktL_law_70 := dk_seg dksL_law_69 23 rfl rfl
theorem dksL_law_71 : cL_law.data.toList.drop 1795 = dktL_law_71 := dk_seg dksL_law_70 24 rfl rfl
theorem dksL_law_72 : cL_law.data.toList.drop 1819 = dktL_law_72 := dk_seg dksL_law_71 24 rfl rfl
theorem dksL_law_73 : cL_law.data.toList.drop 1843 = dktL_law_73 := dk_seg dksL_law_72 24 rfl rfl
theorem dksL_law_74 : cL_law.data.toList.drop 1865 = dktL_law_74 := dk_seg dksL_law_73 22 rfl rfl
theorem dksL_law_75 : cL_law.data.toList.drop 1889 = dktL_law_75 := dk_seg dksL_law_74 24 rfl rfl
theorem dksL_law_76 : cL_law.data.toList.drop 1913 = dktL_law_76 := dk_seg dksL_law_75 24 rfl rfl
theorem dksL_law_77 : cL_law.data.toList.drop 1936 = dktL_law_77 := dk_seg dksL_law_76 23 rfl rfl
theorem dksL_law_78 : cL_law.data.toList.drop 1960 = dktL_law_78 := dk_seg dksL_law_77 24 rfl rfl
theorem dksL_law_79 : cL_law.data.toList.drop 1983 = dktL_law_79 := dk_seg dksL_law_78 23 rfl rfl
theorem dksL_law_80 : cL_law.data.toList.drop 2007 = dktL_law_80 := dk_seg dksL_law_79 24 rfl rfl
theorem dksL_law_81 : cL_law.data.toList.drop 2030 = dktL_law_81 := dk_seg dksL_law_80 23 rfl rfl
theorem dksL_law_82 : cL_law.data.toList.drop 2052 = dktL_law_82 := dk_seg dksL_law_81 22 rfl rfl
theorem dksL_law_83 : cL_law.data.toList.drop 2076 = dktL_law_83 := dk_seg dksL_law_82 24 rfl rfl
theorem dksL_law_84 : cL_law.data.toList.drop 2099 = dktL_law_84 := dk_seg dksL_law_83 23 rfl rfl
theorem dksL_law_85 : cL_law.data.toList.drop 2123 = dktL_law_85 := dk_seg dksL_law_84 24 rfl rfl
theorem dksL_law_86 : cL_law.data.toList.drop 2147 = dktL_law_86 := dk_seg dksL_law_85 24 rfl rfl
theorem dksL_law_87 : cL_law.data.toList.drop 2170 = dktL_law_87 := dk_seg dksL_law_86 23 rfl rfl
theorem dksL_law_88 : cL_law.data.toList.drop 2193 = dktL_law_88 := dk_seg dksL_law_87 23 rfl rfl
theorem dksL_law_89 : cL_law.data.toList.drop 2217 = dktL_law_89 := dk_seg dksL_law_88 24 rfl rfl
theorem dksL_law_90 : cL_law.data.toList.drop 2240 = dktL_law_90 := dk_seg dksL_law_89 23 rfl rfl
theorem dksL_law_91 : cL_law.data.toList.drop 2264 = dktL_law_91 := dk_seg dksL_law_90 24 rfl rfl
theorem dksL_law_92 : cL_law.data.toList.drop 2286 = dktL_law_92 := dk_seg dksL_law_91 22 rfl rfl
theorem dL_law_0 : decode cL_law 0 = .ok (.new 8, 3) := dk_187 0 8 (dk_at dksL_law_0 0 rfl rfl)
theorem dL_law_3 : decode cL_law 3 = .ok (.dup, 1) := dk_89 (dk_at dksL_law_0 3 rfl rfl)
theorem dL_law_4 : decode cL_law 4 = .ok (.invokespecial 124, 3) := dk_183 0 124 (dk_at dksL_law_0 4 rfl rfl)
theorem dL_law_7 : decode cL_law 7 = .ok (.astore_n 1, 1) := dk_76 (dk_at dksL_law_0 7 rfl rfl)
theorem dL_law_8 : decode cL_law 8 = .ok (.new 125, 3) := dk_187 0 125 (dk_at dksL_law_0 8 rfl rfl)
theorem dL_law_11 : decode cL_law 11 = .ok (.dup, 1) := dk_89 (dk_at dksL_law_0 11 rfl rfl)
theorem dL_law_12 : decode cL_law 12 = .ok (.invokespecial 127, 3) := dk_183 0 127 (dk_at dksL_law_0 12 rfl rfl)
theorem dL_law_15 : decode cL_law 15 = .ok (.astore_n 2, 1) := dk_77 (dk_at dksL_law_0 15 rfl rfl)
theorem dL_law_16 : decode cL_law 16 = .ok (.iconst 1, 1) := dk_4 (dk_at dksL_law_0 16 rfl rfl)
theorem dL_law_17 : decode cL_law 17 = .ok (.newarray .long, 2) := dk_188_11 (dk_at dksL_law_0 17 rfl rfl)
theorem dL_law_19 : decode cL_law 19 = .ok (.astore_n 3, 1) := dk_78 (dk_at dksL_law_0 19 rfl rfl)
theorem dL_law_20 : decode cL_law 20 = .ok (.iconst 1, 1) := dk_4 (dk_at dksL_law_0 20 rfl rfl)
theorem dL_law_21 : decode cL_law 21 = .ok (.newarray .double, 2) := dk_188_7 (dk_at dksL_law_0 21 rfl rfl)
theorem dL_law_23 : decode cL_law 23 = .ok (.astore 4, 2) := dk_58 4 (dk_at dksL_law_1 0 rfl rfl)
theorem dL_law_25 : decode cL_law 25 = .ok (.iconst 0, 1) := dk_3 (dk_at dksL_law_1 2 rfl rfl)
theorem dL_law_26 : decode cL_law 26 = .ok (.istore 5, 2) := dk_54 5 (dk_at dksL_law_1 3 rfl rfl)
theorem dL_law_28 : decode cL_law 28 = .ok (.iload 5, 2) := dk_21 5 (dk_at dksL_law_1 5 rfl rfl)
theorem dL_law_30 : decode cL_law 30 = .ok (.aload_n 0, 1) := dk_42 (dk_at dksL_law_1 7 rfl rfl)
theorem dL_law_31 : decode cL_law 31 = .ok (.arraylength, 1) := dk_190 (dk_at dksL_law_1 8 rfl rfl)
theorem dL_law_32 : decode cL_law 32 = .ok (.iconst 5, 1) := dk_8 (dk_at dksL_law_1 9 rfl rfl)
theorem dL_law_33 : decode cL_law 33 = .ok (.isub, 1) := dk_100 (dk_at dksL_law_1 10 rfl rfl)
theorem dL_law_34 : decode cL_law 34 = .ok (.if_icmp .gt 2261, 3) := dk_163 8 213 (dk_at dksL_law_1 11 rfl rfl)
theorem dL_law_37 : decode cL_law 37 = .ok (.aload_n 0, 1) := dk_42 (dk_at dksL_law_1 14 rfl rfl)
theorem dL_law_38 : decode cL_law 38 = .ok (.iload 5, 2) := dk_21 5 (dk_at dksL_law_1 15 rfl rfl)
theorem dL_law_40 : decode cL_law 40 = .ok (.iaload, 1) := dk_46 (dk_at dksL_law_1 17 rfl rfl)
theorem dL_law_41 : decode cL_law 41 = .ok (.bipush 63, 2) := dk_16 63 (dk_at dksL_law_1 18 rfl rfl)
theorem dL_law_43 : decode cL_law 43 = .ok (.iand, 1) := dk_126 (dk_at dksL_law_1 20 rfl rfl)
theorem dL_law_44 : decode cL_law 44 = .ok (.tableswitch 2245 0 36 #[164, 256, 324, 392, 472, 540, 608, 676, 732, 828, 884, 952, 1020, 1064, 1108, 1121, 1177, 1190, 1203, 1271, 1339, 1407, 1485, 1541, 1621, 1689, 1745, 1813, 1826, 1884, 1928, 1972, 2016, 2088, 2144, 2188, 2201], 164) := by decide +kernel
theorem dL_law_208 : decode cL_law 208 = .ok (.aload_n 1, 1) := dk_43 (dk_at dksL_law_3 0 rfl rfl)
theorem dL_law_209 : decode cL_law 209 = .ok (.aload_n 0, 1) := dk_42 (dk_at dksL_law_3 1 rfl rfl)
theorem dL_law_210 : decode cL_law 210 = .ok (.iload 5, 2) := dk_21 5 (dk_at dksL_law_3 2 rfl rfl)
theorem dL_law_212 : decode cL_law 212 = .ok (.iconst 1, 1) := dk_4 (dk_at dksL_law_3 4 rfl rfl)
theorem dL_law_213 : decode cL_law 213 = .ok (.iadd, 1) := dk_96 (dk_at dksL_law_3 5 rfl rfl)
theorem dL_law_214 : decode cL_law 214 = .ok (.iaload, 1) := dk_46 (dk_at dksL_law_3 6 rfl rfl)
theorem dL_law_215 : decode cL_law 215 = .ok (.aload_n 0, 1) := dk_42 (dk_at dksL_law_3 7 rfl rfl)
theorem dL_law_216 : decode cL_law 216 = .ok (.iload 5, 2) := dk_21 5 (dk_at dksL_law_3 8 rfl rfl)
theorem dL_law_218 : decode cL_law 218 = .ok (.iconst 2, 1) := dk_5 (dk_at dksL_law_3 10 rfl rfl)
theorem dL_law_219 : decode cL_law 219 = .ok (.iadd, 1) := dk_96 (dk_at dksL_law_3 11 rfl rfl)
theorem dL_law_220 : decode cL_law 220 = .ok (.iaload, 1) := dk_46 (dk_at dksL_law_3 12 rfl rfl)
theorem dL_law_221 : decode cL_law 221 = .ok (.aload_n 0, 1) := dk_42 (dk_at dksL_law_3 13 rfl rfl)
theorem dL_law_222 : decode cL_law 222 = .ok (.iload 5, 2) := dk_21 5 (dk_at dksL_law_3 14 rfl rfl)
theorem dL_law_224 : decode cL_law 224 = .ok (.iconst 3, 1) := dk_6 (dk_at dksL_law_3 16 rfl rfl)
theorem dL_law_225 : decode cL_law 225 = .ok (.iadd, 1) := dk_96 (dk_at dksL_law_3 17 rfl rfl)
theorem dL_law_226 : decode cL_law 226 = .ok (.iaload, 1) := dk_46 (dk_at dksL_law_3 18 rfl rfl)
theorem dL_law_227 : decode cL_law 227 = .ok (.aload_n 0, 1) := dk_42 (dk_at dksL_law_3 19 rfl rfl)
theorem dL_law_228 : decode cL_law 228 = .ok (.iload 5, 2) := dk_21 5 (dk_at dksL_law_3 20 rfl rfl)
theorem dL_law_230 : decode cL_law 230 = .ok (.iconst 4, 1) := dk_7 (dk_at dksL_law_3 22 rfl rfl)
theorem dL_law_231 : decode cL_law 231 = .ok (.iadd, 1) := dk_96 (dk_at dksL_law_3 23 rfl rfl)
theorem dL_law_232 : decode cL_law 232 = .ok (.iaload, 1) := dk_46 (dk_at dksL_law_4 0 rfl rfl)
theorem dL_law_233 : decode cL_law 233 = .ok (.aload_n 3, 1) := dk_45 (dk_at dksL_law_4 1 rfl rfl)
theorem dL_law_234 : decode cL_law 234 = .ok (.invokestatic 128, 3) := dk_184 0 128 (dk_at dksL_law_4 2 rfl rfl)
theorem dL_law_237 : decode cL_law 237 = .ok (.istore 6, 2) := dk_54 6 (dk_at dksL_law_4 5 rfl rfl)
theorem dL_law_239 : decode cL_law 239 = .ok (.aload_n 2, 1) := dk_44 (dk_at dksL_law_4 7 rfl rfl)
theorem dL_law_240 : decode cL_law 240 = .ok (.aload_n 0, 1) := dk_42 (dk_at dksL_law_4 8 rfl rfl)
theorem dL_law_241 : decode cL_law 241 = .ok (.iload 5, 2) := dk_21 5 (dk_at dksL_law_4 9 rfl rfl)
theorem dL_law_243 : decode cL_law 243 = .ok (.iconst 1, 1) := dk_4 (dk_at dksL_law_4 11 rfl rfl)
theorem dL_law_244 : decode cL_law 244 = .ok (.iadd, 1) := dk_96 (dk_at dksL_law_4 12 rfl rfl)
theorem dL_law_245 : decode cL_law 245 = .ok (.iaload, 1) := dk_46 (dk_at dksL_law_4 13 rfl rfl)
theorem dL_law_246 : decode cL_law 246 = .ok (.aload_n 0, 1) := dk_42 (dk_at dksL_law_4 14 rfl rfl)
theorem dL_law_247 : decode cL_law 247 = .ok (.iload 5, 2) := dk_21 5 (dk_at dksL_law_4 15 rfl rfl)
theorem dL_law_249 : decode cL_law 249 = .ok (.iconst 2, 1) := dk_5 (dk_at dksL_law_4 17 rfl rfl)
theorem dL_law_250 : decode cL_law 250 = .ok (.iadd, 1) := dk_96 (dk_at dksL_law_4 18 rfl rfl)
theorem dL_law_251 : decode cL_law 251 = .ok (.iaload, 1) := dk_46 (dk_at dksL_law_4 19 rfl rfl)
theorem dL_law_252 : decode cL_law 252 = .ok (.aload_n 0, 1) := dk_42 (dk_at dksL_law_4 20 rfl rfl)
theorem dL_law_253 : decode cL_law 253 = .ok (.iload 5, 2) := dk_21 5 (dk_at dksL_law_4 21 rfl rfl)
theorem dL_law_255 : decode cL_law 255 = .ok (.iconst 3, 1) := dk_6 (dk_at dksL_law_4 23 rfl rfl)
theorem dL_law_256 : decode cL_law 256 = .ok (.iadd, 1) := dk_96 (dk_at dksL_law_5 0 rfl rfl)
theorem dL_law_257 : decode cL_law 257 = .ok (.iaload, 1) := dk_46 (dk_at dksL_law_5 1 rfl rfl)
theorem dL_law_258 : decode cL_law 258 = .ok (.aload_n 0, 1) := dk_42 (dk_at dksL_law_5 2 rfl rfl)
theorem dL_law_259 : decode cL_law 259 = .ok (.iload 5, 2) := dk_21 5 (dk_at dksL_law_5 3 rfl rfl)
theorem dL_law_261 : decode cL_law 261 = .ok (.iconst 4, 1) := dk_7 (dk_at dksL_law_5 5 rfl rfl)
theorem dL_law_262 : decode cL_law 262 = .ok (.iadd, 1) := dk_96 (dk_at dksL_law_5 6 rfl rfl)
theorem dL_law_263 : decode cL_law 263 = .ok (.iaload, 1) := dk_46 (dk_at dksL_law_5 7 rfl rfl)
theorem dL_law_264 : decode cL_law 264 = .ok (.invokevirtual 133, 3) := dk_182 0 133 (dk_at dksL_law_5 8 rfl rfl)
theorem dL_law_267 : decode cL_law 267 = .ok (.istore 7, 2) := dk_54 7 (dk_at dksL_law_5 11 rfl rfl)
theorem dL_law_269 : decode cL_law 269 = .ok (.aload_n 2, 1) := dk_44 (dk_at dksL_law_5 13 rfl rfl)
theorem dL_law_270 : decode cL_law 270 = .ok (.invokevirtual 134, 3) := dk_182 0 134 (dk_at dksL_law_5 14 rfl rfl)
theorem dL_law_273 : decode cL_law 273 = .ok (.iload 6, 2) := dk_21 6 (dk_at dksL_law_5 17 rfl rfl)
theorem dL_law_275 : decode cL_law 275 = .ok (.if_icmp .eq 5, 3) := dk_159 0 5 (dk_at dksL_law_5 19 rfl rfl)
theorem dL_law_278 : decode cL_law 278 = .ok (.iconst 0, 1) := dk_3 (dk_at dksL_law_5 22 rfl rfl)
theorem dL_law_279 : decode cL_law 279 = .ok (.ireturn, 1) := dk_172 (dk_at dksL_law_5 23 rfl rfl)
theorem dL_law_280 : decode cL_law 280 = .ok (.iload 6, 2) := dk_21 6 (dk_at dksL_law_6 0 rfl rfl)
theorem dL_law_282 : decode cL_law 282 = .ok (.ifCond .ne 15, 3) := dk_154 0 15 (dk_at dksL_law_6 2 rfl rfl)
theorem dL_law_285 : decode cL_law 285 = .ok (.aload_n 3, 1) := dk_45 (dk_at dksL_law_6 5 rfl rfl)
theorem dL_law_286 : decode cL_law 286 = .ok (.iconst 0, 1) := dk_3 (dk_at dksL_law_6 6 rfl rfl)
theorem dL_law_287 : decode cL_law 287 = .ok (.laload, 1) := dk_47 (dk_at dksL_law_6 7 rfl rfl)
theorem dL_law_288 : decode cL_law 288 = .ok (.iload 7, 2) := dk_21 7 (dk_at dksL_law_6 8 rfl rfl)
theorem dL_law_290 : decode cL_law 290 = .ok (.i2l, 1) := dk_133 (dk_at dksL_law_6 10 rfl rfl)
theorem dL_law_291 : decode cL_law 291 = .ok (.lcmp, 1) := dk_148 (dk_at dksL_law_6 11 rfl rfl)
theorem dL_law_292 : decode cL_law 292 = .ok (.ifCond .eq 5, 3) := dk_153 0 5 (dk_at dksL_law_6 12 rfl rfl)
theorem dL_law_295 : decode cL_law 295 = .ok (.iconst 0, 1) := dk_3 (dk_at dksL_law_6 15 rfl rfl)
theorem dL_law_296 : decode cL_law 296 = .ok (.ireturn, 1) := dk_172 (dk_at dksL_law_6 16 rfl rfl)
theorem dL_law_297 : decode cL_law 297 = .ok (.goto 1992, 3) := dk_167 7 200 (dk_at dksL_law_6 17 rfl rfl)
theorem dL_law_300 : decode cL_law 300 = .ok (.aload_n 1, 1) := dk_43 (dk_at dksL_law_6 20 rfl rfl)
theorem dL_law_301 : decode cL_law 301 = .ok (.aload_n 0, 1) := dk_42 (dk_at dksL_law_6 21 rfl rfl)
theorem dL_law_302 : decode cL_law 302 = .ok (.iload 5, 2) := dk_21 5 (dk_at dksL_law_6 22 rfl rfl)
theorem dL_law_304 : decode cL_law 304 = .ok (.iconst 1, 1) := dk_4 (dk_at dksL_law_7 0 rfl rfl)
theorem dL_law_305 : decode cL_law 305 = .ok (.iadd, 1) := dk_96 (dk_at dksL_law_7 1 rfl rfl)
theorem dL_law_306 : decode cL_law 306 = .ok (.iaload, 1) := dk_46 (dk_at dksL_law_7 2 rfl rfl)
theorem dL_law_307 : decode cL_law 307 = .ok (.aload_n 0, 1) := dk_42 (dk_at dksL_law_7 3 rfl rfl)
theorem dL_law_308 : decode cL_law 308 = .ok (.iload 5, 2) := dk_21 5 (dk_at dksL_law_7 4 rfl rfl)
theorem dL_law_310 : decode cL_law 310 = .ok (.iconst 2, 1) := dk_5 (dk_at dksL_law_7 6 rfl rfl)
theorem dL_law_311 : decode cL_law 311 = .ok (.iadd, 1) := dk_96 (dk_at dksL_law_7 7 rfl rfl)
theorem dL_law_312 : decode cL_law 312 = .ok (.iaload, 1) := dk_46 (dk_at dksL_law_7 8 rfl rfl)
theorem dL_law_313 : decode cL_law 313 = .ok (.aload_n 3, 1) := dk_45 (dk_at dksL_law_7 9 rfl rfl)
theorem dL_law_314 : decode cL_law 314 = .ok (.invokestatic 137, 3) := dk_184 0 137 (dk_at dksL_law_7 10 rfl rfl)
theorem dL_law_317 : decode cL_law 317 = .ok (.istore 6, 2) := dk_54 6 (dk_at dksL_law_7 13 rfl rfl)
theorem dL_law_319 : decode cL_law 319 = .ok (.aload_n 2, 1) := dk_44 (dk_at dksL_law_7 15 rfl rfl)
theorem dL_law_320 : decode cL_law 320 = .ok (.aload_n 0, 1) := dk_42 (dk_at dksL_law_7 16 rfl rfl)
theorem dL_law_321 : decode cL_law 321 = .ok (.iload 5, 2) := dk_21 5 (dk_at dksL_law_7 17 rfl rfl)
theorem dL_law_323 : decode cL_law 323 = .ok (.iconst 1, 1) := dk_4 (dk_at dksL_law_7 19 rfl rfl)
theorem dL_law_324 : decode cL_law 324 = .ok (.iadd, 1) := dk_96 (dk_at dksL_law_7 20 rfl rfl)
theorem dL_law_325 : decode cL_law 325 = .ok (.iaload, 1) := dk_46 (dk_at dksL_law_7 21 rfl rfl)
theorem dL_law_326 : decode cL_law 326 = .ok (.aload_n 0, 1) := dk_42 (dk_at dksL_law_7 22 rfl rfl)
theorem dL_law_327 : decode cL_law 327 = .ok (.iload 5, 2) := dk_21 5 (dk_at dksL_law_8 0 rfl rfl)
theorem dL_law_329 : decode cL_law 329 = .ok (.iconst 2, 1) := dk_5 (dk_at dksL_law_8 2 rfl rfl)
theorem dL_law_330 : decode cL_law 330 = .ok (.iadd, 1) := dk_96 (dk_at dksL_law_8 3 rfl rfl)
theorem dL_law_331 : decode cL_law 331 = .ok (.iaload, 1) := dk_46 (dk_at dksL_law_8 4 rfl rfl)
theorem dL_law_332 : decode cL_law 332 = .ok (.invokevirtual 140, 3) := dk_182 0 140 (dk_at dksL_law_8 5 rfl rfl)
theorem dL_law_335 : decode cL_law 335 = .ok (.istore 7, 2) := dk_54 7 (dk_at dksL_law_8 8 rfl rfl)
theorem dL_law_337 : decode cL_law 337 = .ok (.aload_n 2, 1) := dk_44 (dk_at dksL_law_8 10 rfl rfl)
theorem dL_law_338 : decode cL_law 338 = .ok (.invokevirtual 134, 3) := dk_182 0 134 (dk_at dksL_law_8 11 rfl rfl)
theorem dL_law_341 : decode cL_law 341 = .ok (.iload 6, 2) := dk_21 6 (dk_at dksL_law_8 14 rfl rfl)
theorem dL_law_343 : decode cL_law 343 = .ok (.if_icmp .eq 5, 3) := dk_159 0 5 (dk_at dksL_law_8 16 rfl rfl)
theorem dL_law_346 : decode cL_law 346 = .ok (.iconst 0, 1) := dk_3 (dk_at dksL_law_8 19 rfl rfl)
theorem dL_law_347 : decode cL_law 347 = .ok (.ireturn, 1) := dk_172 (dk_at dksL_law_8 20 rfl rfl)
theorem dL_law_348 : decode cL_law 348 = .ok (.iload 6, 2) := dk_21 6 (dk_at dksL_law_8 21 rfl rfl)
theorem dL_law_350 : decode cL_law 350 = .ok (.ifCond .ne 15, 3) := dk_154 0 15 (dk_at dksL_law_9 0 rfl rfl)
theorem dL_law_353 : decode cL_law 353 = .ok (.aload_n 3, 1) := dk_45 (dk_at dksL_law_9 3 rfl rfl)
theorem dL_law_354 : decode cL_law 354 = .ok (.iconst 0, 1) := dk_3 (dk_at dksL_law_9 4 rfl rfl)
theorem dL_law_355 : decode cL_law 355 = .ok (.laload, 1) := dk_47 (dk_at dksL_law_9 5 rfl rfl)
theorem dL_law_356 : decode cL_law 356 = .ok (.iload 7, 2) := dk_21 7 (dk_at dksL_law_9 6 rfl rfl)
theorem dL_law_358 : decode cL_law 358 = .ok (.i2l, 1) := dk_133 (dk_at dksL_law_9 8 rfl rfl)
theorem dL_law_359 : decode cL_law 359 = .ok (.lcmp, 1) := dk_148 (dk_at dksL_law_9 9 rfl rfl)
theorem dL_law_360 : decode cL_law 360 = .ok (.ifCond .eq 5, 3) := dk_153 0 5 (dk_at dksL_law_9 10 rfl rfl)
theorem dL_law_363 : decode cL_law 363 = .ok (.iconst 0, 1) := dk_3 (dk_at dksL_law_9 13 rfl rfl)
theorem dL_law_364 : decode cL_law 364 = .ok (.ireturn, 1) := dk_172 (dk_at dksL_law_9 14 rfl rfl)
theorem dL_law_365 : decode cL_law 365 = .ok (.goto 1924, 3) := dk_167 7 132 (dk_at dksL_law_9 15 rfl rfl)
theorem dL_law_368 : decode cL_law 368 = .ok (.aload_n 1, 1) := dk_43 (dk_at dksL_law_9 18 rfl rfl)
theorem dL_law_369 : decode cL_law 369 = .ok (.aload_n 0, 1) := dk_42 (dk_at dksL_law_9 19 rfl rfl)
theorem dL_law_370 : decode cL_law 370 = .ok (.iload 5, 2) := dk_21 5 (dk_at dksL_law_9 20 rfl rfl)
theorem dL_law_372 : decode cL_law 372 = .ok (.iconst 1, 1) := dk_4 (dk_at dksL_law_9 22 rfl rfl)
theorem dL_law_373 : decode cL_law 373 = .ok (.iadd, 1) := dk_96 (dk_at dksL_law_9 23 rfl rfl)
theorem dL_law_374 : decode cL_law 374 = .ok (.iaload, 1) := dk_46 (dk_at dksL_law_10 0 rfl rfl)
theorem dL_law_375 : decode cL_law 375 = .ok (.aload_n 0, 1) := dk_42 (dk_at dksL_law_10 1 rfl rfl)
theorem dL_law_376 : decode cL_law 376 = .ok (.iload 5, 2) := dk_21 5 (dk_at dksL_law_10 2 rfl rfl)
theorem dL_law_378 : decode cL_law 378 = .ok (.iconst 2, 1) := dk_5 (dk_at dksL_law_10 4 rfl rfl)
theorem dL_law_379 : decode cL_law 379 = .ok (.iadd, 1) := dk_96 (dk_at dksL_law_10 5 rfl rfl)
theorem dL_law_380 : decode cL_law 380 = .ok (.iaload, 1) := dk_46 (dk_at dksL_law_10 6 rfl rfl)
theorem dL_law_381 : decode cL_law 381 = .ok (.aload_n 3, 1) := dk_45 (dk_at dksL_law_10 7 rfl rfl)
theorem dL_law_382 : decode cL_law 382 = .ok (.invokestatic 141, 3) := dk_184 0 141 (dk_at dksL_law_10 8 rfl rfl)
theorem dL_law_385 : decode cL_law 385 = .ok (.istore 6, 2) := dk_54 6 (dk_at dksL_law_10 11 rfl rfl)
theorem dL_law_387 : decode cL_law 387 = .ok (.aload_n 2, 1) := dk_44 (dk_at dksL_law_10 13 rfl rfl)
theorem dL_law_388 : decode cL_law 388 = .ok (.aload_n 0, 1) := dk_42 (dk_at dksL_law_10 14 rfl rfl)
theorem dL_law_389 : decode cL_law 389 = .ok (.iload 5, 2) := dk_21 5 (dk_at dksL_law_10 15 rfl rfl)
theorem dL_law_391 : decode cL_law 391 = .ok (.iconst 1, 1) := dk_4 (dk_at dksL_law_10 17 rfl rfl)
theorem dL_law_392 : decode cL_law 392 = .ok (.iadd, 1) := dk_96 (dk_at dksL_law_10 18 rfl rfl)
theorem dL_law_393 : decode cL_law 393 = .ok (.iaload, 1) := dk_46 (dk_at dksL_law_10 19 rfl rfl)
theorem dL_law_394 : decode cL_law 394 = .ok (.aload_n 0, 1) := dk_42 (dk_at dksL_law_10 20 rfl rfl)
theorem dL_law_395 : decode cL_law 395 = .ok (.iload 5, 2) := dk_21 5 (dk_at dksL_law_10 21 rfl rfl)
theorem dL_law_397 : decode cL_law 397 = .ok (.iconst 2, 1) := dk_5 (dk_at dksL_law_10 23 rfl rfl)
theorem dL_law_398 : decode cL_law 398 = .ok (.iadd, 1) := dk_96 (dk_at dksL_law_11 0 rfl rfl)
theorem dL_law_399 : decode cL_law 399 = .ok (.iaload, 1) := dk_46 (dk_at dksL_law_11 1 rfl rfl)
theorem dL_law_400 : decode cL_law 400 = .ok (.invokevirtual 143, 3) := dk_182 0 143 (dk_at dksL_law_11 2 rfl rfl)
theorem dL_law_403 : decode cL_law 403 = .ok (.istore 7, 2) := dk_54 7 (dk_at dksL_law_11 5 rfl rfl)
theorem dL_law_405 : decode cL_law 405 = .ok (.aload_n 2, 1) := dk_44 (dk_at dksL_law_11 7 rfl rfl)
theorem dL_law_406 : decode cL_law 406 = .ok (.invokevirtual 134, 3) := dk_182 0 134 (dk_at dksL_law_11 8 rfl rfl)
theorem dL_law_409 : decode cL_law 409 = .ok (.iload 6, 2) := dk_21 6 (dk_at dksL_law_11 11 rfl rfl)
theorem dL_law_411 : decode cL_law 411 = .ok (.if_icmp .eq 5, 3) := dk_159 0 5 (dk_at dksL_law_11 13 rfl rfl)
theorem dL_law_414 : decode cL_law 414 = .ok (.iconst 0, 1) := dk_3 (dk_at dksL_law_11 16 rfl rfl)
theorem dL_law_415 : decode cL_law 415 = .ok (.ireturn, 1) := dk_172 (dk_at dksL_law_11 17 rfl rfl)
theorem dL_law_416 : decode cL_law 416 = .ok (.iload 6, 2) := dk_21 6 (dk_at dksL_law_11 18 rfl rfl)
theorem dL_law_418 : decode cL_law 418 = .ok (.ifCond .ne 15, 3) := dk_154 0 15 (dk_at dksL_law_11 20 rfl rfl)
theorem dL_law_421 : decode cL_law 421 = .ok (.aload_n 3, 1) := dk_45 (dk_at dksL_law_11 23 rfl rfl)
theorem dL_law_422 : decode cL_law 422 = .ok (.iconst 0, 1) := dk_3 (dk_at dksL_law_12 0 rfl rfl)
theorem dL_law_423 : decode cL_law 423 = .ok (.laload, 1) := dk_47 (dk_at dksL_law_12 1 rfl rfl)
theorem dL_law_424 : decode cL_law 424 = .ok (.iload 7, 2) := dk_21 7 (dk_at dksL_law_12 2 rfl rfl)
theorem dL_law_426 : decode cL_law 426 = .ok (.i2l, 1) := dk_133 (dk_at dksL_law_12 4 rfl rfl)
theorem dL_law_427 : decode cL_law 427 = .ok (.lcmp, 1) := dk_148 (dk_at dksL_law_12 5 rfl rfl)
theorem dL_law_428 : decode cL_law 428 = .ok (.ifCond .eq 5, 3) := dk_153 0 5 (dk_at dksL_law_12 6 rfl rfl)
theorem dL_law_431 : decode cL_law 431 = .ok (.iconst 0, 1) := dk_3 (dk_at dksL_law_12 9 rfl rfl)
theorem dL_law_432 : decode cL_law 432 = .ok (.ireturn, 1) := dk_172 (dk_at dksL_law_12 10 rfl rfl)
theorem dL_law_433 : decode cL_law 433 = .ok (.goto 1856, 3) := dk_167 7 64 (dk_at dksL_law_12 11 rfl rfl)
theorem dL_law_436 : decode cL_law 436 = .ok (.aload_n 1, 1) := dk_43 (dk_at dksL_law_12 14 rfl rfl)
theorem dL_law_437 : decode cL_law 437 = .ok (.aload_n 0, 1) := dk_42 (dk_at dksL_law_12 15 rfl rfl)
theorem dL_law_438 : decode cL_law 438 = .ok (.iload 5, 2) := dk_21 5 (dk_at dksL_law_12 16 rfl rfl)
theorem dL_law_440 : decode cL_law 440 = .ok (.iconst 1, 1) := dk_4 (dk_at dksL_law_12 18 rfl rfl)
theorem dL_law_441 : decode cL_law 441 = .ok (.iadd, 1) := dk_96 (dk_at dksL_law_12 19 rfl rfl)
theorem dL_law_442 : decode cL_law 442 = .ok (.iaload, 1) := dk_46 (dk_at dksL_law_12 20 rfl rfl)
theorem dL_law_443 : decode cL_law 443 = .ok (.aload_n 0, 1) := dk_42 (dk_at dksL_law_12 21 rfl rfl)
theorem dL_law_444 : decode cL_law 444 = .ok (.iload 5, 2) := dk_21 5 (dk_at dksL_law_12 22 rfl rfl)
theorem dL_law_446 : decode cL_law 446 = .ok (.iconst 2, 1) := dk_5 (dk_at dksL_law_13 0 rfl rfl)
theorem dL_law_447 : decode cL_law 447 = .ok (.iadd, 1) := dk_96 (dk_at dksL_law_13 1 rfl rfl)
theorem dL_law_448 : decode cL_law 448 = .ok (.iaload, 1) := dk_46 (dk_at dksL_law_13 2 rfl rfl)
theorem dL_law_449 : decode cL_law 449 = .ok (.aload_n 0, 1) := dk_42 (dk_at dksL_law_13 3 rfl rfl)
theorem dL_law_450 : decode cL_law 450 = .ok (.iload 5, 2) := dk_21 5 (dk_at dksL_law_13 4 rfl rfl)
theorem dL_law_452 : decode cL_law 452 = .ok (.iconst 3, 1) := dk_6 (dk_at dksL_law_13 6 rfl rfl)
theorem dL_law_453 : decode cL_law 453 = .ok (.iadd, 1) := dk_96 (dk_at dksL_law_13 7 rfl rfl)
theorem dL_law_454 : decode cL_law 454 = .ok (.iaload, 1) := dk_46 (dk_at dksL_law_13 8 rfl rfl)
theorem dL_law_455 : decode cL_law 455 = .ok (.aload_n 3, 1) := dk_45 (dk_at dksL_law_13 9 rfl rfl)
theorem dL_law_456 : decode cL_law 456 = .ok (.invokestatic 144, 3) := dk_184 0 144 (dk_at dksL_law_13 10 rfl rfl)
theorem dL_law_459 : decode cL_law 459 = .ok (.istore 6, 2) := dk_54 6 (dk_at dksL_law_13 13 rfl rfl)
theorem dL_law_461 : decode cL_law 461 = .ok (.aload_n 2, 1) := dk_44 (dk_at dksL_law_13 15 rfl rfl)
theorem dL_law_462 : decode cL_law 462 = .ok (.aload_n 0, 1) := dk_42 (dk_at dksL_law_13 16 rfl rfl)
theorem dL_law_463 : decode cL_law 463 = .ok (.iload 5, 2) := dk_21 5 (dk_at dksL_law_13 17 rfl rfl)
theorem dL_law_465 : decode cL_law 465 = .ok (.iconst 1, 1) := dk_4 (dk_at dksL_law_13 19 rfl rfl)
theorem dL_law_466 : decode cL_law 466 = .ok (.iadd, 1) := dk_96 (dk_at dksL_law_13 20 rfl rfl)
theorem dL_law_467 : decode cL_law 467 = .ok (.iaload, 1) := dk_46 (dk_at dksL_law_13 21 rfl rfl)
theorem dL_law_468 : decode cL_law 468 = .ok (.aload_n 0, 1) := dk_42 (dk_at dksL_law_13 22 rfl rfl)
theorem dL_law_469 : decode cL_law 469 = .ok (.iload 5, 2) := dk_21 5 (dk_at dksL_law_14 0 rfl rfl)
theorem dL_law_471 : decode cL_law 471 = .ok (.iconst 2, 1) := dk_5 (dk_at dksL_law_14 2 rfl rfl)
theorem dL_law_472 : decode cL_law 472 = .ok (.iadd, 1) := dk_96 (dk_at dksL_law_14 3 rfl rfl)
theorem dL_law_473 : decode cL_law 473 = .ok (.iaload, 1) := dk_46 (dk_at dksL_law_14 4 rfl rfl)
theorem dL_law_474 : decode cL_law 474 = .ok (.aload_n 0, 1) := dk_42 (dk_at dksL_law_14 5 rfl rfl)
theorem dL_law_475 : decode cL_law 475 = .ok (.iload 5, 2) := dk_21 5 (dk_at dksL_law_14 6 rfl rfl)
theorem dL_law_477 : decode cL_law 477 = .ok (.iconst 3, 1) := dk_6 (dk_at dksL_law_14 8 rfl rfl)
theorem dL_law_478 : decode cL_law 478 = .ok (.iadd, 1) := dk_96 (dk_at dksL_law_14 9 rfl rfl)
theorem dL_law_479 : decode cL_law 479 = .ok (.iaload, 1) := dk_46 (dk_at dksL_law_14 10 rfl rfl)
theorem dL_law_480 : decode cL_law 480 = .ok (.invokevirtual 147, 3) := dk_182 0 147 (dk_at dksL_law_14 11 rfl rfl)
theorem dL_law_483 : decode cL_law 483 = .ok (.istore 7, 2) := dk_54 7 (dk_at dksL_law_14 14 rfl rfl)
theorem dL_law_485 : decode cL_law 485 = .ok (.aload_n 2, 1) := dk_44 (dk_at dksL_law_14 16 rfl rfl)
theorem dL_law_486 : decode cL_law 486 = .ok (.invokevirtual 134, 3) := dk_182 0 134 (dk_at dksL_law_14 17 rfl rfl)
theorem dL_law_489 : decode cL_law 489 = .ok (.iload 6, 2) := dk_21 6 (dk_at dksL_law_14 20 rfl rfl)
theorem dL_law_491 : decode cL_law 491 = .ok (.if_icmp .eq 5, 3) := dk_159 0 5 (dk_at dksL_law_15 0 rfl rfl)
theorem dL_law_494 : decode cL_law 494 = .ok (.iconst 0, 1) := dk_3 (dk_at dksL_law_15 3 rfl rfl)
theorem dL_law_495 : decode cL_law 495 = .ok (.ireturn, 1) := dk_172 (dk_at dksL_law_15 4 rfl rfl)
theorem dL_law_496 : decode cL_law 496 = .ok (.iload 6, 2) := dk_21 6 (dk_at dksL_law_15 5 rfl rfl)
theorem dL_law_498 : decode cL_law 498 = .ok (.ifCond .ne 15, 3) := dk_154 0 15 (dk_at dksL_law_15 7 rfl rfl)
theorem dL_law_501 : decode cL_law 501 = .ok (.aload_n 3, 1) := dk_45 (dk_at dksL_law_15 10 rfl rfl)
theorem dL_law_502 : decode cL_law 502 = .ok (.iconst 0, 1) := dk_3 (dk_at dksL_law_15 11 rfl rfl)
theorem dL_law_503 : decode cL_law 503 = .ok (.laload, 1) := dk_47 (dk_at dksL_law_15 12 rfl rfl)
theorem dL_law_504 : decode cL_law 504 = .ok (.iload 7, 2) := dk_21 7 (dk_at dksL_law_15 13 rfl rfl)
theorem dL_law_506 : decode cL_law 506 = .ok (.i2l, 1) := dk_133 (dk_at dksL_law_15 15 rfl rfl)
theorem dL_law_507 : decode cL_law 507 = .ok (.lcmp, 1) := dk_148 (dk_at dksL_law_15 16 rfl rfl)
theorem dL_law_508 : decode cL_law 508 = .ok (.ifCond .eq 5, 3) := dk_153 0 5 (dk_at dksL_law_15 17 rfl rfl)
theorem dL_law_511 : decode cL_law 511 = .ok (.iconst 0, 1) := dk_3 (dk_at dksL_law_15 20 rfl rfl)
theorem dL_law_512 : decode cL_law 512 = .ok (.ireturn, 1) := dk_172 (dk_at dksL_law_15 21 rfl rfl)
theorem dL_law_513 : decode cL_law 513 = .ok (.goto 1776, 3) := dk_167 6 240 (dk_at dksL_law_16 0 rfl rfl)
theorem dL_law_516 : decode cL_law 516 = .ok (.aload_n 1, 1) := dk_43 (dk_at dksL_law_16 3 rfl rfl)
theorem dL_law_517 : decode cL_law 517 = .ok (.aload_n 0, 1) := dk_42 (dk_at dksL_law_16 4 rfl rfl)
theorem dL_law_518 : decode cL_law 518 = .ok (.iload 5, 2) := dk_21 5 (dk_at dksL_law_16 5 rfl rfl)
theorem dL_law_520 : decode cL_law 520 = .ok (.iconst 1, 1) := dk_4 (dk_at dksL_law_16 7 rfl rfl)
theorem dL_law_521 : decode cL_law 521 = .ok (.iadd, 1) := dk_96 (dk_at dksL_law_16 8 rfl rfl)
theorem dL_law_522 : decode cL_law 522 = .ok (.iaload, 1) := dk_46 (dk_at dksL_law_16 9 rfl rfl)
theorem dL_law_523 : decode cL_law 523 = .ok (.aload_n 0, 1) := dk_42 (dk_at dksL_law_16 10 rfl rfl)
theorem dL_law_524 : decode cL_law 524 = .ok (.iload 5, 2) := dk_21 5 (dk_at dksL_law_16 11 rfl rfl)
theorem dL_law_526 : decode cL_law 526 = .ok (.iconst 2, 1) := dk_5 (dk_at dksL_law_16 13 rfl rfl)
theorem dL_law_527 : decode cL_law 527 = .ok (.iadd, 1) := dk_96 (dk_at dksL_law_16 14 rfl rfl)
theorem dL_law_528 : decode cL_law 528 = .ok (.iaload, 1) := dk_46 (dk_at dksL_law_16 15 rfl rfl)
theorem dL_law_529 : decode cL_law 529 = .ok (.aload_n 3, 1) := dk_45 (dk_at dksL_law_16 16 rfl rfl)
theorem dL_law_530 : decode cL_law 530 = .ok (.invokestatic 148, 3) := dk_184 0 148 (dk_at dksL_law_16 17 rfl rfl)
theorem dL_law_533 : decode cL_law 533 = .ok (.istore 6, 2) := dk_54 6 (dk_at dksL_law_16 20 rfl rfl)
theorem dL_law_535 : decode cL_law 535 = .ok (.aload_n 2, 1) := dk_44 (dk_at dksL_law_16 22 rfl rfl)
theorem dL_law_536 : decode cL_law 536 = .ok (.aload_n 0, 1) := dk_42 (dk_at dksL_law_16 23 rfl rfl)
theorem dL_law_537 : decode cL_law 537 = .ok (.iload 5, 2) := dk_21 5 (dk_at dksL_law_17 0 rfl rfl)
theorem dL_law_539 : decode cL_law 539 = .ok (.iconst 1, 1) := dk_4 (dk_at dksL_law_17 2 rfl rfl)
theorem dL_law_540 : decode cL_law 540 = .ok (.iadd, 1) := dk_96 (dk_at dksL_law_17 3 rfl rfl)
theorem dL_law_541 : decode cL_law 541 = .ok (.iaload, 1) := dk_46 (dk_at dksL_law_17 4 rfl rfl)
theorem dL_law_542 : decode cL_law 542 = .ok (.aload_n 0, 1) := dk_42 (dk_at dksL_law_17 5 rfl rfl)
theorem dL_law_543 : decode cL_law 543 = .ok (.iload 5, 2) := dk_21 5 (dk_at dksL_law_17 6 rfl rfl)
theorem dL_law_545 : decode cL_law 545 = .ok (.iconst 2, 1) := dk_5 (dk_at dksL_law_17 8 rfl rfl)
theorem dL_law_546 : decode cL_law 546 = .ok (.iadd, 1) := dk_96 (dk_at dksL_law_17 9 rfl rfl)
theorem dL_law_547 : decode cL_law 547 = .ok (.iaload, 1) := dk_46 (dk_at dksL_law_17 10 rfl rfl)
theorem dL_law_548 : decode cL_law 548 = .ok (.invokevirtual 150, 3) := dk_182 0 150 (dk_at dksL_law_17 11 rfl rfl)
theorem dL_law_551 : decode cL_law 551 = .ok (.istore 7, 2) := dk_54 7 (dk_at dksL_law_17 14 rfl rfl)
theorem dL_law_553 : decode cL_law 553 = .ok (.aload_n 2, 1) := dk_44 (dk_at dksL_law_17 16 rfl rfl)
theorem dL_law_554 : decode cL_law 554 = .ok (.invokevirtual 134, 3) := dk_182 0 134 (dk_at dksL_law_17 17 rfl rfl)
theorem dL_law_557 : decode cL_law 557 = .ok (.iload 6, 2) := dk_21 6 (dk_at dksL_law_17 20 rfl rfl)
theorem dL_law_559 : decode cL_law 559 = .ok (.if_icmp .eq 5, 3) := dk_159 0 5 (dk_at dksL_law_18 0 rfl rfl)
theorem dL_law_562 : decode cL_law 562 = .ok (.iconst 0, 1) := dk_3 (dk_at dksL_law_18 3 rfl rfl)
theorem dL_law_563 : decode cL_law 563 = .ok (.ireturn, 1) := dk_172 (dk_at dksL_law_18 4 rfl rfl)
theorem dL_law_564 : decode cL_law 564 = .ok (.iload 6, 2) := dk_21 6 (dk_at dksL_law_18 5 rfl rfl)
theorem dL_law_566 : decode cL_law 566 = .ok (.ifCond .ne 15, 3) := dk_154 0 15 (dk_at dksL_law_18 7 rfl rfl)
theorem dL_law_569 : decode cL_law 569 = .ok (.aload_n 3, 1) := dk_45 (dk_at dksL_law_18 10 rfl rfl)
theorem dL_law_570 : decode cL_law 570 = .ok (.iconst 0, 1) := dk_3 (dk_at dksL_law_18 11 rfl rfl)
theorem dL_law_571 : decode cL_law 571 = .ok (.laload, 1) := dk_47 (dk_at dksL_law_18 12 rfl rfl)
theorem dL_law_572 : decode cL_law 572 = .ok (.iload 7, 2) := dk_21 7 (dk_at dksL_law_18 13 rfl rfl)
theorem dL_law_574 : decode cL_law 574 = .ok (.i2l, 1) := dk_133 (dk_at dksL_law_18 15 rfl rfl)
theorem dL_law_575 : decode cL_law 575 = .ok (.lcmp, 1) := dk_148 (dk_at dksL_law_18 16 rfl rfl)
theorem dL_law_576 : decode cL_law 576 = .ok (.ifCond .eq 5, 3) := dk_153 0 5 (dk_at dksL_law_18 17 rfl rfl)
theorem dL_law_579 : decode cL_law 579 = .ok (.iconst 0, 1) := dk_3 (dk_at dksL_law_18 20 rfl rfl)
theorem dL_law_580 : decode cL_law 580 = .ok (.ireturn, 1) := dk_172 (dk_at dksL_law_18 21 rfl rfl)
theorem dL_law_581 : decode cL_law 581 = .ok (.goto 1708, 3) := dk_167 6 172 (dk_at dksL_law_19 0 rfl rfl)
theorem dL_law_584 : decode cL_law 584 = .ok (.aload_n 1, 1) := dk_43 (dk_at dksL_law_19 3 rfl rfl)
theorem dL_law_585 : decode cL_law 585 = .ok (.aload_n 0, 1) := dk_42 (dk_at dksL_law_19 4 rfl rfl)
theorem dL_law_586 : decode cL_law 586 = .ok (.iload 5, 2) := dk_21 5 (dk_at dksL_law_19 5 rfl rfl)
theorem dL_law_588 : decode cL_law 588 = .ok (.iconst 1, 1) := dk_4 (dk_at dksL_law_19 7 rfl rfl)
theorem dL_law_589 : decode cL_law 589 = .ok (.iadd, 1) := dk_96 (dk_at dksL_law_19 8 rfl rfl)
theorem dL_law_590 : decode cL_law 590 = .ok (.iaload, 1) := dk_46 (dk_at dksL_law_19 9 rfl rfl)
theorem dL_law_591 : decode cL_law 591 = .ok (.aload_n 0, 1) := dk_42 (dk_at dksL_law_19 10 rfl rfl)
theorem dL_law_592 : decode cL_law 592 = .ok (.iload 5, 2) := dk_21 5 (dk_at dksL_law_19 11 rfl rfl)
theorem dL_law_594 : decode cL_law 594 = .ok (.iconst 2, 1) := dk_5 (dk_at dksL_law_19 13 rfl rfl)
theorem dL_law_595 : decode cL_law 595 = .ok (.iadd, 1) := dk_96 (dk_at dksL_law_19 14 rfl rfl)
theorem dL_law_596 : decode cL_law 596 = .ok (.iaload, 1) := dk_46 (dk_at dksL_law_19 15 rfl rfl)
theorem dL_law_597 : decode cL_law 597 = .ok (.aload_n 3, 1) := dk_45 (dk_at dksL_law_19 16 rfl rfl)
theorem dL_law_598 : decode cL_law 598 = .ok (.invokestatic 151, 3) := dk_184 0 151 (dk_at dksL_law_19 17 rfl rfl)
theorem dL_law_601 : decode cL_law 601 = .ok (.istore 6, 2) := dk_54 6 (dk_at dksL_law_19 20 rfl rfl)
theorem dL_law_603 : decode cL_law 603 = .ok (.aload_n 2, 1) := dk_44 (dk_at dksL_law_19 22 rfl rfl)
theorem dL_law_604 : decode cL_law 604 = .ok (.aload_n 0, 1) := dk_42 (dk_at dksL_law_19 23 rfl rfl)
theorem dL_law_605 : decode cL_law 605 = .ok (.iload 5, 2) := dk_21 5 (dk_at dksL_law_20 0 rfl rfl)
theorem dL_law_607 : decode cL_law 607 = .ok (.iconst 1, 1) := dk_4 (dk_at dksL_law_20 2 rfl rfl)
theorem dL_law_608 : decode cL_law 608 = .ok (.iadd, 1) := dk_96 (dk_at dksL_law_20 3 rfl rfl)
theorem dL_law_609 : decode cL_law 609 = .ok (.iaload, 1) := dk_46 (dk_at dksL_law_20 4 rfl rfl)
theorem dL_law_610 : decode cL_law 610 = .ok (.aload_n 0, 1) := dk_42 (dk_at dksL_law_20 5 rfl rfl)
theorem dL_law_611 : decode cL_law 611 = .ok (.iload 5, 2) := dk_21 5 (dk_at dksL_law_20 6 rfl rfl)
theorem dL_law_613 : decode cL_law 613 = .ok (.iconst 2, 1) := dk_5 (dk_at dksL_law_20 8 rfl rfl)
theorem dL_law_614 : decode cL_law 614 = .ok (.iadd, 1) := dk_96 (dk_at dksL_law_20 9 rfl rfl)
theorem dL_law_615 : decode cL_law 615 = .ok (.iaload, 1) := dk_46 (dk_at dksL_law_20 10 rfl rfl)
theorem dL_law_616 : decode cL_law 616 = .ok (.invokevirtual 153, 3) := dk_182 0 153 (dk_at dksL_law_20 11 rfl rfl)
theorem dL_law_619 : decode cL_law 619 = .ok (.istore 7, 2) := dk_54 7 (dk_at dksL_law_20 14 rfl rfl)
theorem dL_law_621 : decode cL_law 621 = .ok (.aload_n 2, 1) := dk_44 (dk_at dksL_law_20 16 rfl rfl)
theorem dL_law_622 : decode cL_law 622 = .ok (.invokevirtual 134, 3) := dk_182 0 134 (dk_at dksL_law_20 17 rfl rfl)
theorem dL_law_625 : decode cL_law 625 = .ok (.iload 6, 2) := dk_21 6 (dk_at dksL_law_20 20 rfl rfl)
theorem dL_law_627 : decode cL_law 627 = .ok (.if_icmp .eq 5, 3) := dk_159 0 5 (dk_at dksL_law_21 0 rfl rfl)
theorem dL_law_630 : decode cL_law 630 = .ok (.iconst 0, 1) := dk_3 (dk_at dksL_law_21 3 rfl rfl)
theorem dL_law_631 : decode cL_law 631 = .ok (.ireturn, 1) := dk_172 (dk_at dksL_law_21 4 rfl rfl)
theorem dL_law_632 : decode cL_law 632 = .ok (.iload 6, 2) := dk_21 6 (dk_at dksL_law_21 5 rfl rfl)
theorem dL_law_634 : decode cL_law 634 = .ok (.ifCond .ne 15, 3) := dk_154 0 15 (dk_at dksL_law_21 7 rfl rfl)
theorem dL_law_637 : decode cL_law 637 = .ok (.aload_n 3, 1) := dk_45 (dk_at dksL_law_21 10 rfl rfl)
theorem dL_law_638 : decode cL_law 638 = .ok (.iconst 0, 1) := dk_3 (dk_at dksL_law_21 11 rfl rfl)
theorem dL_law_639 : decode cL_law 639 = .ok (.laload, 1) := dk_47 (dk_at dksL_law_21 12 rfl rfl)
theorem dL_law_640 : decode cL_law 640 = .ok (.iload 7, 2) := dk_21 7 (dk_at dksL_law_21 13 rfl rfl)
theorem dL_law_642 : decode cL_law 642 = .ok (.i2l, 1) := dk_133 (dk_at dksL_law_21 15 rfl rfl)
theorem dL_law_643 : decode cL_law 643 = .ok (.lcmp, 1) := dk_148 (dk_at dksL_law_21 16 rfl rfl)
theorem dL_law_644 : decode cL_law 644 = .ok (.ifCond .eq 5, 3) := dk_153 0 5 (dk_at dksL_law_21 17 rfl rfl)
theorem dL_law_647 : decode cL_law 647 = .ok (.iconst 0, 1) := dk_3 (dk_at dksL_law_21 20 rfl rfl)
theorem dL_law_648 : decode cL_law 648 = .ok (.ireturn, 1) := dk_172 (dk_at dksL_law_21 21 rfl rfl)
theorem dL_law_649 : decode cL_law 649 = .ok (.goto 1640, 3) := dk_167 6 104 (dk_at dksL_law_22 0 rfl rfl)
theorem dL_law_652 : decode cL_law 652 = .ok (.aload_n 1, 1) := dk_43 (dk_at dksL_law_22 3 rfl rfl)
theorem dL_law_653 : decode cL_law 653 = .ok (.aload_n 0, 1) := dk_42 (dk_at dksL_law_22 4 rfl rfl)
theorem dL_law_654 : decode cL_law 654 = .ok (.iload 5, 2) := dk_21 5 (dk_at dksL_law_22 5 rfl rfl)
theorem dL_law_656 : decode cL_law 656 = .ok (.iconst 1, 1) := dk_4 (dk_at dksL_law_22 7 rfl rfl)
theorem dL_law_657 : decode cL_law 657 = .ok (.iadd, 1) := dk_96 (dk_at dksL_law_22 8 rfl rfl)
theorem dL_law_658 : decode cL_law 658 = .ok (.iaload, 1) := dk_46 (dk_at dksL_law_22 9 rfl rfl)
theorem dL_law_659 : decode cL_law 659 = .ok (.aload_n 0, 1) := dk_42 (dk_at dksL_law_22 10 rfl rfl)
theorem dL_law_660 : decode cL_law 660 = .ok (.iload 5, 2) := dk_21 5 (dk_at dksL_law_22 11 rfl rfl)
theorem dL_law_662 : decode cL_law 662 = .ok (.iconst 2, 1) := dk_5 (dk_at dksL_law_22 13 rfl rfl)
theorem dL_law_663 : decode cL_law 663 = .ok (.iadd, 1) := dk_96 (dk_at dksL_law_22 14 rfl rfl)
theorem dL_law_664 : decode cL_law 664 = .ok (.iaload, 1) := dk_46 (dk_at dksL_law_22 15 rfl rfl)
theorem dL_law_665 : decode cL_law 665 = .ok (.aload_n 3, 1) := dk_45 (dk_at dksL_law_22 16 rfl rfl)
theorem dL_law_666 : decode cL_law 666 = .ok (.invokestatic 154, 3) := dk_184 0 154 (dk_at dksL_law_22 17 rfl rfl)
theorem dL_law_669 : decode cL_law 669 = .ok (.istore 6, 2) := dk_54 6 (dk_at dksL_law_22 20 rfl rfl)
theorem dL_law_671 : decode cL_law 671 = .ok (.aload_n 2, 1) := dk_44 (dk_at dksL_law_22 22 rfl rfl)
theorem dL_law_672 : decode cL_law 672 = .ok (.aload_n 0, 1) := dk_42 (dk_at dksL_law_22 23 rfl rfl)
theorem dL_law_673 : decode cL_law 673 = .ok (.iload 5, 2) := dk_21 5 (dk_at dksL_law_23 0 rfl rfl)
theorem dL_law_675 : decode cL_law 675 = .ok (.iconst 1, 1) := dk_4 (dk_at dksL_law_23 2 rfl rfl)
theorem dL_law_676 : decode cL_law 676 = .ok (.iadd, 1) := dk_96 (dk_at dksL_law_23 3 rfl rfl)
theorem dL_law_677 : decode cL_law 677 = .ok (.iaload, 1) := dk_46 (dk_at dksL_law_23 4 rfl rfl)
theorem dL_law_678 : decode cL_law 678 = .ok (.aload_n 0, 1) := dk_42 (dk_at dksL_law_23 5 rfl rfl)
theorem dL_law_679 : decode cL_law 679 = .ok (.iload 5, 2) := dk_21 5 (dk_at dksL_law_23 6 rfl rfl)
theorem dL_law_681 : decode cL_law 681 = .ok (.iconst 2, 1) := dk_5 (dk_at dksL_law_23 8 rfl rfl)
theorem dL_law_682 : decode cL_law 682 = .ok (.iadd, 1) := dk_96 (dk_at dksL_law_23 9 rfl rfl)
theorem dL_law_683 : decode cL_law 683 = .ok (.iaload, 1) := dk_46 (dk_at dksL_law_23 10 rfl rfl)
theorem dL_law_684 : decode cL_law 684 = .ok (.invokevirtual 156, 3) := dk_182 0 156 (dk_at dksL_law_23 11 rfl rfl)
theorem dL_law_687 : decode cL_law 687 = .ok (.istore 7, 2) := dk_54 7 (dk_at dksL_law_23 14 rfl rfl)
theorem dL_law_689 : decode cL_law 689 = .ok (.aload_n 2, 1) := dk_44 (dk_at dksL_law_23 16 rfl rfl)
theorem dL_law_690 : decode cL_law 690 = .ok (.invokevirtual 134, 3) := dk_182 0 134 (dk_at dksL_law_23 17 rfl rfl)
theorem dL_law_693 : decode cL_law 693 = .ok (.iload 6, 2) := dk_21 6 (dk_at dksL_law_23 20 rfl rfl)
theorem dL_law_695 : decode cL_law 695 = .ok (.if_icmp .eq 5, 3) := dk_159 0 5 (dk_at dksL_law_24 0 rfl rfl)
theorem dL_law_698 : decode cL_law 698 = .ok (.iconst 0, 1) := dk_3 (dk_at dksL_law_24 3 rfl rfl)
theorem dL_law_699 : decode cL_law 699 = .ok (.ireturn, 1) := dk_172 (dk_at dksL_law_24 4 rfl rfl)
theorem dL_law_700 : decode cL_law 700 = .ok (.iload 6, 2) := dk_21 6 (dk_at dksL_law_24 5 rfl rfl)
theorem dL_law_702 : decode cL_law 702 = .ok (.ifCond .ne 15, 3) := dk_154 0 15 (dk_at dksL_law_24 7 rfl rfl)
theorem dL_law_705 : decode cL_law 705 = .ok (.aload_n 3, 1) := dk_45 (dk_at dksL_law_24 10 rfl rfl)
theorem dL_law_706 : decode cL_law 706 = .ok (.iconst 0, 1) := dk_3 (dk_at dksL_law_24 11 rfl rfl)
theorem dL_law_707 : decode cL_law 707 = .ok (.laload, 1) := dk_47 (dk_at dksL_law_24 12 rfl rfl)
theorem dL_law_708 : decode cL_law 708 = .ok (.iload 7, 2) := dk_21 7 (dk_at dksL_law_24 13 rfl rfl)
theorem dL_law_710 : decode cL_law 710 = .ok (.i2l, 1) := dk_133 (dk_at dksL_law_24 15 rfl rfl)
theorem dL_law_711 : decode cL_law 711 = .ok (.lcmp, 1) := dk_148 (dk_at dksL_law_24 16 rfl rfl)
theorem dL_law_712 : decode cL_law 712 = .ok (.ifCond .eq 5, 3) := dk_153 0 5 (dk_at dksL_law_24 17 rfl rfl)
theorem dL_law_715 : decode cL_law 715 = .ok (.iconst 0, 1) := dk_3 (dk_at dksL_law_24 20 rfl rfl)
theorem dL_law_716 : decode cL_law 716 = .ok (.ireturn, 1) := dk_172 (dk_at dksL_law_24 21 rfl rfl)
theorem dL_law_717 : decode cL_law 717 = .ok (.goto 1572, 3) := dk_167 6 36 (dk_at dksL_law_25 0 rfl rfl)
theorem dL_law_720 : decode cL_law 720 = .ok (.aload_n 1, 1) := dk_43 (dk_at dksL_law_25 3 rfl rfl)
theorem dL_law_721 : decode cL_law 721 = .ok (.aload_n 0, 1) := dk_42 (dk_at dksL_law_25 4 rfl rfl)
theorem dL_law_722 : decode cL_law 722 = .ok (.iload 5, 2) := dk_21 5 (dk_at dksL_law_25 5 rfl rfl)
theorem dL_law_724 : decode cL_law 724 = .ok (.iconst 1, 1) := dk_4 (dk_at dksL_law_25 7 rfl rfl)
theorem dL_law_725 : decode cL_law 725 = .ok (.iadd, 1) := dk_96 (dk_at dksL_law_25 8 rfl rfl)
theorem dL_law_726 : decode cL_law 726 = .ok (.iaload, 1) := dk_46 (dk_at dksL_law_25 9 rfl rfl)
theorem dL_law_727 : decode cL_law 727 = .ok (.aload_n 3, 1) := dk_45 (dk_at dksL_law_25 10 rfl rfl)
theorem dL_law_728 : decode cL_law 728 = .ok (.invokestatic 157, 3) := dk_184 0 157 (dk_at dksL_law_25 11 rfl rfl)
theorem dL_law_731 : decode cL_law 731 = .ok (.istore 6, 2) := dk_54 6 (dk_at dksL_law_25 14 rfl rfl)
theorem dL_law_733 : decode cL_law 733 = .ok (.aload_n 2, 1) := dk_44 (dk_at dksL_law_25 16 rfl rfl)
theorem dL_law_734 : decode cL_law 734 = .ok (.aload_n 0, 1) := dk_42 (dk_at dksL_law_25 17 rfl rfl)
theorem dL_law_735 : decode cL_law 735 = .ok (.iload 5, 2) := dk_21 5 (dk_at dksL_law_25 18 rfl rfl)
theorem dL_law_737 : decode cL_law 737 = .ok (.iconst 1, 1) := dk_4 (dk_at dksL_law_25 20 rfl rfl)
theorem dL_law_738 : decode cL_law 738 = .ok (.iadd, 1) := dk_96 (dk_at dksL_law_25 21 rfl rfl)
theorem dL_law_739 : decode cL_law 739 = .ok (.iaload, 1) := dk_46 (dk_at dksL_law_25 22 rfl rfl)
theorem dL_law_740 : decode cL_law 740 = .ok (.invokevirtual 160, 3) := dk_182 0 160 (dk_at dksL_law_26 0 rfl rfl)
theorem dL_law_743 : decode cL_law 743 = .ok (.istore 7, 2) := dk_54 7 (dk_at dksL_law_26 3 rfl rfl)
theorem dL_law_745 : decode cL_law 745 = .ok (.aload_n 2, 1) := dk_44 (dk_at dksL_law_26 5 rfl rfl)
theorem dL_law_746 : decode cL_law 746 = .ok (.invokevirtual 134, 3) := dk_182 0 134 (dk_at dksL_law_26 6 rfl rfl)
theorem dL_law_749 : decode cL_law 749 = .ok (.iload 6, 2) := dk_21 6 (dk_at dksL_law_26 9 rfl rfl)
theorem dL_law_751 : decode cL_law 751 = .ok (.if_icmp .eq 5, 3) := dk_159 0 5 (dk_at dksL_law_26 11 rfl rfl)
theorem dL_law_754 : decode cL_law 754 = .ok (.iconst 0, 1) := dk_3 (dk_at dksL_law_26 14 rfl rfl)
theorem dL_law_755 : decode cL_law 755 = .ok (.ireturn, 1) := dk_172 (dk_at dksL_law_26 15 rfl rfl)
theorem dL_law_756 : decode cL_law 756 = .ok (.iload 6, 2) := dk_21 6 (dk_at dksL_law_26 16 rfl rfl)
theorem dL_law_758 : decode cL_law 758 = .ok (.ifCond .ne 15, 3) := dk_154 0 15 (dk_at dksL_law_26 18 rfl rfl)
theorem dL_law_761 : decode cL_law 761 = .ok (.aload_n 3, 1) := dk_45 (dk_at dksL_law_26 21 rfl rfl)
theorem dL_law_762 : decode cL_law 762 = .ok (.iconst 0, 1) := dk_3 (dk_at dksL_law_26 22 rfl rfl)
theorem dL_law_763 : decode cL_law 763 = .ok (.laload, 1) := dk_47 (dk_at dksL_law_26 23 rfl rfl)
theorem dL_law_764 : decode cL_law 764 = .ok (.iload 7, 2) := dk_21 7 (dk_at dksL_law_27 0 rfl rfl)
theorem dL_law_766 : decode cL_law 766 = .ok (.i2l, 1) := dk_133 (dk_at dksL_law_27 2 rfl rfl)
theorem dL_law_767 : decode cL_law 767 = .ok (.lcmp, 1) := dk_148 (dk_at dksL_law_27 3 rfl rfl)
theorem dL_law_768 : decode cL_law 768 = .ok (.ifCond .eq 5, 3) := dk_153 0 5 (dk_at dksL_law_27 4 rfl rfl)
theorem dL_law_771 : decode cL_law 771 = .ok (.iconst 0, 1) := dk_3 (dk_at dksL_law_27 7 rfl rfl)
theorem dL_law_772 : decode cL_law 772 = .ok (.ireturn, 1) := dk_172 (dk_at dksL_law_27 8 rfl rfl)
theorem dL_law_773 : decode cL_law 773 = .ok (.goto 1516, 3) := dk_167 5 236 (dk_at dksL_law_27 9 rfl rfl)
theorem dL_law_776 : decode cL_law 776 = .ok (.aload_n 1, 1) := dk_43 (dk_at dksL_law_27 12 rfl rfl)
theorem dL_law_777 : decode cL_law 777 = .ok (.aload_n 0, 1) := dk_42 (dk_at dksL_law_27 13 rfl rfl)
theorem dL_law_778 : decode cL_law 778 = .ok (.iload 5, 2) := dk_21 5 (dk_at dksL_law_27 14 rfl rfl)
theorem dL_law_780 : decode cL_law 780 = .ok (.iconst 1, 1) := dk_4 (dk_at dksL_law_27 16 rfl rfl)
theorem dL_law_781 : decode cL_law 781 = .ok (.iadd, 1) := dk_96 (dk_at dksL_law_27 17 rfl rfl)
theorem dL_law_782 : decode cL_law 782 = .ok (.iaload, 1) := dk_46 (dk_at dksL_law_27 18 rfl rfl)
theorem dL_law_783 : decode cL_law 783 = .ok (.aload_n 0, 1) := dk_42 (dk_at dksL_law_27 19 rfl rfl)
theorem dL_law_784 : decode cL_law 784 = .ok (.iload 5, 2) := dk_21 5 (dk_at dksL_law_27 20 rfl rfl)
theorem dL_law_786 : decode cL_law 786 = .ok (.iconst 2, 1) := dk_5 (dk_at dksL_law_27 22 rfl rfl)
theorem dL_law_787 : decode cL_law 787 = .ok (.iadd, 1) := dk_96 (dk_at dksL_law_27 23 rfl rfl)
theorem dL_law_788 : decode cL_law 788 = .ok (.iaload, 1) := dk_46 (dk_at dksL_law_28 0 rfl rfl)
theorem dL_law_789 : decode cL_law 789 = .ok (.aload_n 0, 1) := dk_42 (dk_at dksL_law_28 1 rfl rfl)
theorem dL_law_790 : decode cL_law 790 = .ok (.iload 5, 2) := dk_21 5 (dk_at dksL_law_28 2 rfl rfl)
theorem dL_law_792 : decode cL_law 792 = .ok (.iconst 3, 1) := dk_6 (dk_at dksL_law_28 4 rfl rfl)
theorem dL_law_793 : decode cL_law 793 = .ok (.iadd, 1) := dk_96 (dk_at dksL_law_28 5 rfl rfl)
theorem dL_law_794 : decode cL_law 794 = .ok (.iaload, 1) := dk_46 (dk_at dksL_law_28 6 rfl rfl)
theorem dL_law_795 : decode cL_law 795 = .ok (.ifCond .eq 7, 3) := dk_153 0 7 (dk_at dksL_law_28 7 rfl rfl)
theorem dL_law_798 : decode cL_law 798 = .ok (.iconst 1, 1) := dk_4 (dk_at dksL_law_28 10 rfl rfl)
theorem dL_law_799 : decode cL_law 799 = .ok (.goto 4, 3) := dk_167 0 4 (dk_at dksL_law_28 11 rfl rfl)
theorem dL_law_802 : decode cL_law 802 = .ok (.iconst 0, 1) := dk_3 (dk_at dksL_law_28 14 rfl rfl)
theorem dL_law_803 : decode cL_law 803 = .ok (.aload_n 3, 1) := dk_45 (dk_at dksL_law_28 15 rfl rfl)
theorem dL_law_804 : decode cL_law 804 = .ok (.invokestatic 161, 3) := dk_184 0 161 (dk_at dksL_law_28 16 rfl rfl)
theorem dL_law_807 : decode cL_law 807 = .ok (.istore 6, 2) := dk_54 6 (dk_at dksL_law_28 19 rfl rfl)
theorem dL_law_809 : decode cL_law 809 = .ok (.aload_n 2, 1) := dk_44 (dk_at dksL_law_28 21 rfl rfl)
theorem dL_law_810 : decode cL_law 810 = .ok (.aload_n 0, 1) := dk_42 (dk_at dksL_law_28 22 rfl rfl)
theorem dL_law_811 : decode cL_law 811 = .ok (.iload 5, 2) := dk_21 5 (dk_at dksL_law_29 0 rfl rfl)
theorem dL_law_813 : decode cL_law 813 = .ok (.iconst 1, 1) := dk_4 (dk_at dksL_law_29 2 rfl rfl)
theorem dL_law_814 : decode cL_law 814 = .ok (.iadd, 1) := dk_96 (dk_at dksL_law_29 3 rfl rfl)
theorem dL_law_815 : decode cL_law 815 = .ok (.iaload, 1) := dk_46 (dk_at dksL_law_29 4 rfl rfl)
theorem dL_law_816 : decode cL_law 816 = .ok (.aload_n 0, 1) := dk_42 (dk_at dksL_law_29 5 rfl rfl)
theorem dL_law_817 : decode cL_law 817 = .ok (.iload 5, 2) := dk_21 5 (dk_at dksL_law_29 6 rfl rfl)
theorem dL_law_819 : decode cL_law 819 = .ok (.iconst 2, 1) := dk_5 (dk_at dksL_law_29 8 rfl rfl)
theorem dL_law_820 : decode cL_law 820 = .ok (.iadd, 1) := dk_96 (dk_at dksL_law_29 9 rfl rfl)
theorem dL_law_821 : decode cL_law 821 = .ok (.iaload, 1) := dk_46 (dk_at dksL_law_29 10 rfl rfl)
theorem dL_law_822 : decode cL_law 822 = .ok (.aload_n 0, 1) := dk_42 (dk_at dksL_law_29 11 rfl rfl)
theorem dL_law_823 : decode cL_law 823 = .ok (.iload 5, 2) := dk_21 5 (dk_at dksL_law_29 12 rfl rfl)
theorem dL_law_825 : decode cL_law 825 = .ok (.iconst 3, 1) := dk_6 (dk_at dksL_law_29 14 rfl rfl)
theorem dL_law_826 : decode cL_law 826 = .ok (.iadd, 1) := dk_96 (dk_at dksL_law_29 15 rfl rfl)
theorem dL_law_827 : decode cL_law 827 = .ok (.iaload, 1) := dk_46 (dk_at dksL_law_29 16 rfl rfl)
theorem dL_law_828 : decode cL_law 828 = .ok (.ifCond .eq 7, 3) := dk_153 0 7 (dk_at dksL_law_29 17 rfl rfl)
theorem dL_law_831 : decode cL_law 831 = .ok (.iconst 1, 1) := dk_4 (dk_at dksL_law_29 20 rfl rfl)
theorem dL_law_832 : decode cL_law 832 = .ok (.goto 4, 3) := dk_167 0 4 (dk_at dksL_law_29 21 rfl rfl)
theorem dL_law_835 : decode cL_law 835 = .ok (.iconst 0, 1) := dk_3 (dk_at dksL_law_30 0 rfl rfl)
theorem dL_law_836 : decode cL_law 836 = .ok (.invokevirtual 164, 3) := dk_182 0 164 (dk_at dksL_law_30 1 rfl rfl)
theorem dL_law_839 : decode cL_law 839 = .ok (.istore 7, 2) := dk_54 7 (dk_at dksL_law_30 4 rfl rfl)
theorem dL_law_841 : decode cL_law 841 = .ok (.aload_n 2, 1) := dk_44 (dk_at dksL_law_30 6 rfl rfl)
theorem dL_law_842 : decode cL_law 842 = .ok (.invokevirtual 134, 3) := dk_182 0 134 (dk_at dksL_law_30 7 rfl rfl)
theorem dL_law_845 : decode cL_law 845 = .ok (.iload 6, 2) := dk_21 6 (dk_at dksL_law_30 10 rfl rfl)
theorem dL_law_847 : decode cL_law 847 = .ok (.if_icmp .eq 5, 3) := dk_159 0 5 (dk_at dksL_law_30 12 rfl rfl)
theorem dL_law_850 : decode cL_law 850 = .ok (.iconst 0, 1) := dk_3 (dk_at dksL_law_30 15 rfl rfl)
theorem dL_law_851 : decode cL_law 851 = .ok (.ireturn, 1) := dk_172 (dk_at dksL_law_30 16 rfl rfl)
theorem dL_law_852 : decode cL_law 852 = .ok (.iload 6, 2) := dk_21 6 (dk_at dksL_law_30 17 rfl rfl)
theorem dL_law_854 : decode cL_law 854 = .ok (.ifCond .ne 15, 3) := dk_154 0 15 (dk_at dksL_law_30 19 rfl rfl)
theorem dL_law_857 : decode cL_law 857 = .ok (.aload_n 3, 1) := dk_45 (dk_at dksL_law_30 22 rfl rfl)
theorem dL_law_858 : decode cL_law 858 = .ok (.iconst 0, 1) := dk_3 (dk_at dksL_law_30 23 rfl rfl)
theorem dL_law_859 : decode cL_law 859 = .ok (.laload, 1) := dk_47 (dk_at dksL_law_31 0 rfl rfl)
theorem dL_law_860 : decode cL_law 860 = .ok (.iload 7, 2) := dk_21 7 (dk_at dksL_law_31 1 rfl rfl)
theorem dL_law_862 : decode cL_law 862 = .ok (.i2l, 1) := dk_133 (dk_at dksL_law_31 3 rfl rfl)
theorem dL_law_863 : decode cL_law 863 = .ok (.lcmp, 1) := dk_148 (dk_at dksL_law_31 4 rfl rfl)
theorem dL_law_864 : decode cL_law 864 = .ok (.ifCond .eq 5, 3) := dk_153 0 5 (dk_at dksL_law_31 5 rfl rfl)
theorem dL_law_867 : decode cL_law 867 = .ok (.iconst 0, 1) := dk_3 (dk_at dksL_law_31 8 rfl rfl)
theorem dL_law_868 : decode cL_law 868 = .ok (.ireturn, 1) := dk_172 (dk_at dksL_law_31 9 rfl rfl)
theorem dL_law_869 : decode cL_law 869 = .ok (.goto 1420, 3) := dk_167 5 140 (dk_at dksL_law_31 10 rfl rfl)
theorem dL_law_872 : decode cL_law 872 = .ok (.aload_n 1, 1) := dk_43 (dk_at dksL_law_31 13 rfl rfl)
theorem dL_law_873 : decode cL_law 873 = .ok (.aload_n 0, 1) := dk_42 (dk_at dksL_law_31 14 rfl rfl)
theorem dL_law_874 : decode cL_law 874 = .ok (.iload 5, 2) := dk_21 5 (dk_at dksL_law_31 15 rfl rfl)
theorem dL_law_876 : decode cL_law 876 = .ok (.iconst 1, 1) := dk_4 (dk_at dksL_law_31 17 rfl rfl)
theorem dL_law_877 : decode cL_law 877 = .ok (.iadd, 1) := dk_96 (dk_at dksL_law_31 18 rfl rfl)
theorem dL_law_878 : decode cL_law 878 = .ok (.iaload, 1) := dk_46 (dk_at dksL_law_31 19 rfl rfl)
theorem dL_law_879 : decode cL_law 879 = .ok (.aload_n 3, 1) := dk_45 (dk_at dksL_law_31 20 rfl rfl)
theorem dL_law_880 : decode cL_law 880 = .ok (.invokestatic 165, 3) := dk_184 0 165 (dk_at dksL_law_31 21 rfl rfl)
theorem dL_law_883 : decode cL_law 883 = .ok (.istore 6, 2) := dk_54 6 (dk_at dksL_law_32 0 rfl rfl)
theorem dL_law_885 : decode cL_law 885 = .ok (.aload_n 2, 1) := dk_44 (dk_at dksL_law_32 2 rfl rfl)
theorem dL_law_886 : decode cL_law 886 = .ok (.aload_n 0, 1) := dk_42 (dk_at dksL_law_32 3 rfl rfl)
theorem dL_law_887 : decode cL_law 887 = .ok (.iload 5, 2) := dk_21 5 (dk_at dksL_law_32 4 rfl rfl)
theorem dL_law_889 : decode cL_law 889 = .ok (.iconst 1, 1) := dk_4 (dk_at dksL_law_32 6 rfl rfl)
theorem dL_law_890 : decode cL_law 890 = .ok (.iadd, 1) := dk_96 (dk_at dksL_law_32 7 rfl rfl)
theorem dL_law_891 : decode cL_law 891 = .ok (.iaload, 1) := dk_46 (dk_at dksL_law_32 8 rfl rfl)
theorem dL_law_892 : decode cL_law 892 = .ok (.invokevirtual 167, 3) := dk_182 0 167 (dk_at dksL_law_32 9 rfl rfl)
theorem dL_law_895 : decode cL_law 895 = .ok (.istore 7, 2) := dk_54 7 (dk_at dksL_law_32 12 rfl rfl)
theorem dL_law_897 : decode cL_law 897 = .ok (.aload_n 2, 1) := dk_44 (dk_at dksL_law_32 14 rfl rfl)
theorem dL_law_898 : decode cL_law 898 = .ok (.invokevirtual 134, 3) := dk_182 0 134 (dk_at dksL_law_32 15 rfl rfl)
theorem dL_law_901 : decode cL_law 901 = .ok (.iload 6, 2) := dk_21 6 (dk_at dksL_law_32 18 rfl rfl)
theorem dL_law_903 : decode cL_law 903 = .ok (.if_icmp .eq 5, 3) := dk_159 0 5 (dk_at dksL_law_32 20 rfl rfl)
theorem dL_law_906 : decode cL_law 906 = .ok (.iconst 0, 1) := dk_3 (dk_at dksL_law_32 23 rfl rfl)
theorem dL_law_907 : decode cL_law 907 = .ok (.ireturn, 1) := dk_172 (dk_at dksL_law_33 0 rfl rfl)
theorem dL_law_908 : decode cL_law 908 = .ok (.iload 6, 2) := dk_21 6 (dk_at dksL_law_33 1 rfl rfl)
theorem dL_law_910 : decode cL_law 910 = .ok (.ifCond .ne 15, 3) := dk_154 0 15 (dk_at dksL_law_33 3 rfl rfl)
theorem dL_law_913 : decode cL_law 913 = .ok (.aload_n 3, 1) := dk_45 (dk_at dksL_law_33 6 rfl rfl)
theorem dL_law_914 : decode cL_law 914 = .ok (.iconst 0, 1) := dk_3 (dk_at dksL_law_33 7 rfl rfl)
theorem dL_law_915 : decode cL_law 915 = .ok (.laload, 1) := dk_47 (dk_at dksL_law_33 8 rfl rfl)
theorem dL_law_916 : decode cL_law 916 = .ok (.iload 7, 2) := dk_21 7 (dk_at dksL_law_33 9 rfl rfl)
theorem dL_law_918 : decode cL_law 918 = .ok (.i2l, 1) := dk_133 (dk_at dksL_law_33 11 rfl rfl)
theorem dL_law_919 : decode cL_law 919 = .ok (.lcmp, 1) := dk_148 (dk_at dksL_law_33 12 rfl rfl)
theorem dL_law_920 : decode cL_law 920 = .ok (.ifCond .eq 5, 3) := dk_153 0 5 (dk_at dksL_law_33 13 rfl rfl)
theorem dL_law_923 : decode cL_law 923 = .ok (.iconst 0, 1) := dk_3 (dk_at dksL_law_33 16 rfl rfl)
theorem dL_law_924 : decode cL_law 924 = .ok (.ireturn, 1) := dk_172 (dk_at dksL_law_33 17 rfl rfl)
theorem dL_law_925 : decode cL_law 925 = .ok (.goto 1364, 3) := dk_167 5 84 (dk_at dksL_law_33 18 rfl rfl)
theorem dL_law_928 : decode cL_law 928 = .ok (.aload_n 1, 1) := dk_43 (dk_at dksL_law_33 21 rfl rfl)
theorem dL_law_929 : decode cL_law 929 = .ok (.aload_n 0, 1) := dk_42 (dk_at dksL_law_33 22 rfl rfl)
theorem dL_law_930 : decode cL_law 930 = .ok (.iload 5, 2) := dk_21 5 (dk_at dksL_law_34 0 rfl rfl)
theorem dL_law_932 : decode cL_law 932 = .ok (.iconst 1, 1) := dk_4 (dk_at dksL_law_34 2 rfl rfl)
theorem dL_law_933 : decode cL_law 933 = .ok (.iadd, 1) := dk_96 (dk_at dksL_law_34 3 rfl rfl)
theorem dL_law_934 : decode cL_law 934 = .ok (.iaload, 1) := dk_46 (dk_at dksL_law_34 4 rfl rfl)
theorem dL_law_935 : decode cL_law 935 = .ok (.aload_n 0, 1) := dk_42 (dk_at dksL_law_34 5 rfl rfl)
theorem dL_law_936 : decode cL_law 936 = .ok (.iload 5, 2) := dk_21 5 (dk_at dksL_law_34 6 rfl rfl)
theorem dL_law_938 : decode cL_law 938 = .ok (.iconst 2, 1) := dk_5 (dk_at dksL_law_34 8 rfl rfl)
theorem dL_law_939 : decode cL_law 939 = .ok (.iadd, 1) := dk_96 (dk_at dksL_law_34 9 rfl rfl)
theorem dL_law_940 : decode cL_law 940 = .ok (.iaload, 1) := dk_46 (dk_at dksL_law_34 10 rfl rfl)
theorem dL_law_941 : decode cL_law 941 = .ok (.aload_n 3, 1) := dk_45 (dk_at dksL_law_34 11 rfl rfl)
theorem dL_law_942 : decode cL_law 942 = .ok (.invokestatic 168, 3) := dk_184 0 168 (dk_at dksL_law_34 12 rfl rfl)
theorem dL_law_945 : decode cL_law 945 = .ok (.istore 6, 2) := dk_54 6 (dk_at dksL_law_34 15 rfl rfl)
theorem dL_law_947 : decode cL_law 947 = .ok (.aload_n 2, 1) := dk_44 (dk_at dksL_law_34 17 rfl rfl)
theorem dL_law_948 : decode cL_law 948 = .ok (.aload_n 0, 1) := dk_42 (dk_at dksL_law_34 18 rfl rfl)
theorem dL_law_949 : decode cL_law 949 = .ok (.iload 5, 2) := dk_21 5 (dk_at dksL_law_34 19 rfl rfl)
theorem dL_law_951 : decode cL_law 951 = .ok (.iconst 1, 1) := dk_4 (dk_at dksL_law_34 21 rfl rfl)
theorem dL_law_952 : decode cL_law 952 = .ok (.iadd, 1) := dk_96 (dk_at dksL_law_34 22 rfl rfl)
theorem dL_law_953 : decode cL_law 953 = .ok (.iaload, 1) := dk_46 (dk_at dksL_law_34 23 rfl rfl)
theorem dL_law_954 : decode cL_law 954 = .ok (.aload_n 0, 1) := dk_42 (dk_at dksL_law_35 0 rfl rfl)
theorem dL_law_955 : decode cL_law 955 = .ok (.iload 5, 2) := dk_21 5 (dk_at dksL_law_35 1 rfl rfl)
theorem dL_law_957 : decode cL_law 957 = .ok (.iconst 2, 1) := dk_5 (dk_at dksL_law_35 3 rfl rfl)
theorem dL_law_958 : decode cL_law 958 = .ok (.iadd, 1) := dk_96 (dk_at dksL_law_35 4 rfl rfl)
theorem dL_law_959 : decode cL_law 959 = .ok (.iaload, 1) := dk_46 (dk_at dksL_law_35 5 rfl rfl)
theorem dL_law_960 : decode cL_law 960 = .ok (.invokevirtual 170, 3) := dk_182 0 170 (dk_at dksL_law_35 6 rfl rfl)
theorem dL_law_963 : decode cL_law 963 = .ok (.istore 7, 2) := dk_54 7 (dk_at dksL_law_35 9 rfl rfl)
theorem dL_law_965 : decode cL_law 965 = .ok (.aload_n 2, 1) := dk_44 (dk_at dksL_law_35 11 rfl rfl)
theorem dL_law_966 : decode cL_law 966 = .ok (.invokevirtual 134, 3) := dk_182 0 134 (dk_at dksL_law_35 12 rfl rfl)
theorem dL_law_969 : decode cL_law 969 = .ok (.iload 6, 2) := dk_21 6 (dk_at dksL_law_35 15 rfl rfl)
theorem dL_law_971 : decode cL_law 971 = .ok (.if_icmp .eq 5, 3) := dk_159 0 5 (dk_at dksL_law_35 17 rfl rfl)
theorem dL_law_974 : decode cL_law 974 = .ok (.iconst 0, 1) := dk_3 (dk_at dksL_law_35 20 rfl rfl)
theorem dL_law_975 : decode cL_law 975 = .ok (.ireturn, 1) := dk_172 (dk_at dksL_law_35 21 rfl rfl)
theorem dL_law_976 : decode cL_law 976 = .ok (.iload 6, 2) := dk_21 6 (dk_at dksL_law_35 22 rfl rfl)
theorem dL_law_978 : decode cL_law 978 = .ok (.ifCond .ne 15, 3) := dk_154 0 15 (dk_at dksL_law_36 0 rfl rfl)
theorem dL_law_981 : decode cL_law 981 = .ok (.aload_n 3, 1) := dk_45 (dk_at dksL_law_36 3 rfl rfl)
theorem dL_law_982 : decode cL_law 982 = .ok (.iconst 0, 1) := dk_3 (dk_at dksL_law_36 4 rfl rfl)
theorem dL_law_983 : decode cL_law 983 = .ok (.laload, 1) := dk_47 (dk_at dksL_law_36 5 rfl rfl)
theorem dL_law_984 : decode cL_law 984 = .ok (.iload 7, 2) := dk_21 7 (dk_at dksL_law_36 6 rfl rfl)
theorem dL_law_986 : decode cL_law 986 = .ok (.i2l, 1) := dk_133 (dk_at dksL_law_36 8 rfl rfl)
theorem dL_law_987 : decode cL_law 987 = .ok (.lcmp, 1) := dk_148 (dk_at dksL_law_36 9 rfl rfl)
theorem dL_law_988 : decode cL_law 988 = .ok (.ifCond .eq 5, 3) := dk_153 0 5 (dk_at dksL_law_36 10 rfl rfl)
theorem dL_law_991 : decode cL_law 991 = .ok (.iconst 0, 1) := dk_3 (dk_at dksL_law_36 13 rfl rfl)
theorem dL_law_992 : decode cL_law 992 = .ok (.ireturn, 1) := dk_172 (dk_at dksL_law_36 14 rfl rfl)
theorem dL_law_993 : decode cL_law 993 = .ok (.goto 1296, 3) := dk_167 5 16 (dk_at dksL_law_36 15 rfl rfl)
theorem dL_law_996 : decode cL_law 996 = .ok (.aload_n 1, 1) := dk_43 (dk_at dksL_law_36 18 rfl rfl)
theorem dL_law_997 : decode cL_law 997 = .ok (.aload_n 0, 1) := dk_42 (dk_at dksL_law_36 19 rfl rfl)
theorem dL_law_998 : decode cL_law 998 = .ok (.iload 5, 2) := dk_21 5 (dk_at dksL_law_36 20 rfl rfl)
theorem dL_law_1000 : decode cL_law 1000 = .ok (.iconst 1, 1) := dk_4 (dk_at dksL_law_36 22 rfl rfl)
theorem dL_law_1001 : decode cL_law 1001 = .ok (.iadd, 1) := dk_96 (dk_at dksL_law_36 23 rfl rfl)
theorem dL_law_1002 : decode cL_law 1002 = .ok (.iaload, 1) := dk_46 (dk_at dksL_law_37 0 rfl rfl)
theorem dL_law_1003 : decode cL_law 1003 = .ok (.aload_n 0, 1) := dk_42 (dk_at dksL_law_37 1 rfl rfl)
theorem dL_law_1004 : decode cL_law 1004 = .ok (.iload 5, 2) := dk_21 5 (dk_at dksL_law_37 2 rfl rfl)
theorem dL_law_1006 : decode cL_law 1006 = .ok (.iconst 2, 1) := dk_5 (dk_at dksL_law_37 4 rfl rfl)
theorem dL_law_1007 : decode cL_law 1007 = .ok (.iadd, 1) := dk_96 (dk_at dksL_law_37 5 rfl rfl)
theorem dL_law_1008 : decode cL_law 1008 = .ok (.iaload, 1) := dk_46 (dk_at dksL_law_37 6 rfl rfl)
theorem dL_law_1009 : decode cL_law 1009 = .ok (.aload_n 3, 1) := dk_45 (dk_at dksL_law_37 7 rfl rfl)
theorem dL_law_1010 : decode cL_law 1010 = .ok (.invokestatic 171, 3) := dk_184 0 171 (dk_at dksL_law_37 8 rfl rfl)
theorem dL_law_1013 : decode cL_law 1013 = .ok (.istore 6, 2) := dk_54 6 (dk_at dksL_law_37 11 rfl rfl)
theorem dL_law_1015 : decode cL_law 1015 = .ok (.aload_n 2, 1) := dk_44 (dk_at dksL_law_37 13 rfl rfl)
theorem dL_law_1016 : decode cL_law 1016 = .ok (.aload_n 0, 1) := dk_42 (dk_at dksL_law_37 14 rfl rfl)
theorem dL_law_1017 : decode cL_law 1017 = .ok (.iload 5, 2) := dk_21 5 (dk_at dksL_law_37 15 rfl rfl)
theorem dL_law_1019 : decode cL_law 1019 = .ok (.iconst 1, 1) := dk_4 (dk_at dksL_law_37 17 rfl rfl)
theorem dL_law_1020 : decode cL_law 1020 = .ok (.iadd, 1) := dk_96 (dk_at dksL_law_37 18 rfl rfl)
theorem dL_law_1021 : decode cL_law 1021 = .ok (.iaload, 1) := dk_46 (dk_at dksL_law_37 19 rfl rfl)
theorem dL_law_1022 : decode cL_law 1022 = .ok (.aload_n 0, 1) := dk_42 (dk_at dksL_law_37 20 rfl rfl)
theorem dL_law_1023 : decode cL_law 1023 = .ok (.iload 5, 2) := dk_21 5 (dk_at dksL_law_37 21 rfl rfl)
theorem dL_law_1025 : decode cL_law 1025 = .ok (.iconst 2, 1) := dk_5 (dk_at dksL_law_37 23 rfl rfl)
theorem dL_law_1026 : decode cL_law 1026 = .ok (.iadd, 1) := dk_96 (dk_at dksL_law_38 0 rfl rfl)
theorem dL_law_1027 : decode cL_law 1027 = .ok (.iaload, 1) := dk_46 (dk_at dksL_law_38 1 rfl rfl)
theorem dL_law_1028 : decode cL_law 1028 = .ok (.invokevirtual 173, 3) := dk_182 0 173 (dk_at dksL_law_38 2 rfl rfl)
theorem dL_law_1031 : decode cL_law 1031 = .ok (.istore 7, 2) := dk_54 7 (dk_at dksL_law_38 5 rfl rfl)
theorem dL_law_1033 : decode cL_law 1033 = .ok (.aload_n 2, 1) := dk_44 (dk_at dksL_law_38 7 rfl rfl)
theorem dL_law_1034 : decode cL_law 1034 = .ok (.invokevirtual 134, 3) := dk_182 0 134 (dk_at dksL_law_38 8 rfl rfl)
theorem dL_law_1037 : decode cL_law 1037 = .ok (.iload 6, 2) := dk_21 6 (dk_at dksL_law_38 11 rfl rfl)
theorem dL_law_1039 : decode cL_law 1039 = .ok (.if_icmp .eq 5, 3) := dk_159 0 5 (dk_at dksL_law_38 13 rfl rfl)
theorem dL_law_1042 : decode cL_law 1042 = .ok (.iconst 0, 1) := dk_3 (dk_at dksL_law_38 16 rfl rfl)
theorem dL_law_1043 : decode cL_law 1043 = .ok (.ireturn, 1) := dk_172 (dk_at dksL_law_38 17 rfl rfl)
theorem dL_law_1044 : decode cL_law 1044 = .ok (.iload 6, 2) := dk_21 6 (dk_at dksL_law_38 18 rfl rfl)
theorem dL_law_1046 : decode cL_law 1046 = .ok (.ifCond .ne 15, 3) := dk_154 0 15 (dk_at dksL_law_38 20 rfl rfl)
theorem dL_law_1049 : decode cL_law 1049 = .ok (.aload_n 3, 1) := dk_45 (dk_at dksL_law_38 23 rfl rfl)
theorem dL_law_1050 : decode cL_law 1050 = .ok (.iconst 0, 1) := dk_3 (dk_at dksL_law_39 0 rfl rfl)
theorem dL_law_1051 : decode cL_law 1051 = .ok (.laload, 1) := dk_47 (dk_at dksL_law_39 1 rfl rfl)
theorem dL_law_1052 : decode cL_law 1052 = .ok (.iload 7, 2) := dk_21 7 (dk_at dksL_law_39 2 rfl rfl)
theorem dL_law_1054 : decode cL_law 1054 = .ok (.i2l, 1) := dk_133 (dk_at dksL_law_39 4 rfl rfl)
theorem dL_law_1055 : decode cL_law 1055 = .ok (.lcmp, 1) := dk_148 (dk_at dksL_law_39 5 rfl rfl)
theorem dL_law_1056 : decode cL_law 1056 = .ok (.ifCond .eq 5, 3) := dk_153 0 5 (dk_at dksL_law_39 6 rfl rfl)
theorem dL_law_1059 : decode cL_law 1059 = .ok (.iconst 0, 1) := dk_3 (dk_at dksL_law_39 9 rfl rfl)
theorem dL_law_1060 : decode cL_law 1060 = .ok (.ireturn, 1) := dk_172 (dk_at dksL_law_39 10 rfl rfl)
theorem dL_law_1061 : decode cL_law 1061 = .ok (.goto 1228, 3) := dk_167 4 204 (dk_at dksL_law_39 11 rfl rfl)
theorem dL_law_1064 : decode cL_law 1064 = .ok (.aload_n 1, 1) := dk_43 (dk_at dksL_law_39 14 rfl rfl)
theorem dL_law_1065 : decode cL_law 1065 = .ok (.aload_n 3, 1) := dk_45 (dk_at dksL_law_39 15 rfl rfl)
theorem dL_law_1066 : decode cL_law 1066 = .ok (.invokestatic 174, 3) := dk_184 0 174 (dk_at dksL_law_39 16 rfl rfl)
theorem dL_law_1069 : decode cL_law 1069 = .ok (.istore 6, 2) := dk_54 6 (dk_at dksL_law_39 19 rfl rfl)
theorem dL_law_1071 : decode cL_law 1071 = .ok (.aload_n 2, 1) := dk_44 (dk_at dksL_law_39 21 rfl rfl)
theorem dL_law_1072 : decode cL_law 1072 = .ok (.invokevirtual 177, 3) := dk_182 0 177 (dk_at dksL_law_40 0 rfl rfl)
theorem dL_law_1075 : decode cL_law 1075 = .ok (.istore 7, 2) := dk_54 7 (dk_at dksL_law_40 3 rfl rfl)
theorem dL_law_1077 : decode cL_law 1077 = .ok (.aload_n 2, 1) := dk_44 (dk_at dksL_law_40 5 rfl rfl)
theorem dL_law_1078 : decode cL_law 1078 = .ok (.invokevirtual 134, 3) := dk_182 0 134 (dk_at dksL_law_40 6 rfl rfl)
theorem dL_law_1081 : decode cL_law 1081 = .ok (.iload 6, 2) := dk_21 6 (dk_at dksL_law_40 9 rfl rfl)
theorem dL_law_1083 : decode cL_law 1083 = .ok (.if_icmp .eq 5, 3) := dk_159 0 5 (dk_at dksL_law_40 11 rfl rfl)
theorem dL_law_1086 : decode cL_law 1086 = .ok (.iconst 0, 1) := dk_3 (dk_at dksL_law_40 14 rfl rfl)
theorem dL_law_1087 : decode cL_law 1087 = .ok (.ireturn, 1) := dk_172 (dk_at dksL_law_40 15 rfl rfl)
theorem dL_law_1088 : decode cL_law 1088 = .ok (.iload 6, 2) := dk_21 6 (dk_at dksL_law_40 16 rfl rfl)
theorem dL_law_1090 : decode cL_law 1090 = .ok (.ifCond .ne 15, 3) := dk_154 0 15 (dk_at dksL_law_40 18 rfl rfl)
theorem dL_law_1093 : decode cL_law 1093 = .ok (.aload_n 3, 1) := dk_45 (dk_at dksL_law_40 21 rfl rfl)
theorem dL_law_1094 : decode cL_law 1094 = .ok (.iconst 0, 1) := dk_3 (dk_at dksL_law_40 22 rfl rfl)
theorem dL_law_1095 : decode cL_law 1095 = .ok (.laload, 1) := dk_47 (dk_at dksL_law_40 23 rfl rfl)
theorem dL_law_1096 : decode cL_law 1096 = .ok (.iload 7, 2) := dk_21 7 (dk_at dksL_law_41 0 rfl rfl)
theorem dL_law_1098 : decode cL_law 1098 = .ok (.i2l, 1) := dk_133 (dk_at dksL_law_41 2 rfl rfl)
theorem dL_law_1099 : decode cL_law 1099 = .ok (.lcmp, 1) := dk_148 (dk_at dksL_law_41 3 rfl rfl)
theorem dL_law_1100 : decode cL_law 1100 = .ok (.ifCond .eq 5, 3) := dk_153 0 5 (dk_at dksL_law_41 4 rfl rfl)
theorem dL_law_1103 : decode cL_law 1103 = .ok (.iconst 0, 1) := dk_3 (dk_at dksL_law_41 7 rfl rfl)
theorem dL_law_1104 : decode cL_law 1104 = .ok (.ireturn, 1) := dk_172 (dk_at dksL_law_41 8 rfl rfl)
theorem dL_law_1105 : decode cL_law 1105 = .ok (.goto 1184, 3) := dk_167 4 160 (dk_at dksL_law_41 9 rfl rfl)
theorem dL_law_1108 : decode cL_law 1108 = .ok (.aload_n 1, 1) := dk_43 (dk_at dksL_law_41 12 rfl rfl)
theorem dL_law_1109 : decode cL_law 1109 = .ok (.aload_n 3, 1) := dk_45 (dk_at dksL_law_41 13 rfl rfl)
theorem dL_law_1110 : decode cL_law 1110 = .ok (.invokestatic 178, 3) := dk_184 0 178 (dk_at dksL_law_41 14 rfl rfl)
theorem dL_law_1113 : decode cL_law 1113 = .ok (.istore 6, 2) := dk_54 6 (dk_at dksL_law_41 17 rfl rfl)
theorem dL_law_1115 : decode cL_law 1115 = .ok (.aload_n 2, 1) := dk_44 (dk_at dksL_law_41 19 rfl rfl)
theorem dL_law_1116 : decode cL_law 1116 = .ok (.invokevirtual 180, 3) := dk_182 0 180 (dk_at dksL_law_41 20 rfl rfl)
theorem dL_law_1119 : decode cL_law 1119 = .ok (.istore 7, 2) := dk_54 7 (dk_at dksL_law_42 0 rfl rfl)
theorem dL_law_1121 : decode cL_law 1121 = .ok (.aload_n 2, 1) := dk_44 (dk_at dksL_law_42 2 rfl rfl)
theorem dL_law_1122 : decode cL_law 1122 = .ok (.invokevirtual 134, 3) := dk_182 0 134 (dk_at dksL_law_42 3 rfl rfl)
theorem dL_law_1125 : decode cL_law 1125 = .ok (.iload 6, 2) := dk_21 6 (dk_at dksL_law_42 6 rfl rfl)
theorem dL_law_1127 : decode cL_law 1127 = .ok (.if_icmp .eq 5, 3) := dk_159 0 5 (dk_at dksL_law_42 8 rfl rfl)
theorem dL_law_1130 : decode cL_law 1130 = .ok (.iconst 0, 1) := dk_3 (dk_at dksL_law_42 11 rfl rfl)
theorem dL_law_1131 : decode cL_law 1131 = .ok (.ireturn, 1) := dk_172 (dk_at dksL_law_42 12 rfl rfl)
theorem dL_law_1132 : decode cL_law 1132 = .ok (.iload 6, 2) := dk_21 6 (dk_at dksL_law_42 13 rfl rfl)
theorem dL_law_1134 : decode cL_law 1134 = .ok (.ifCond .ne 15, 3) := dk_154 0 15 (dk_at dksL_law_42 15 rfl rfl)
theorem dL_law_1137 : decode cL_law 1137 = .ok (.aload_n 3, 1) := dk_45 (dk_at dksL_law_42 18 rfl rfl)
theorem dL_law_1138 : decode cL_law 1138 = .ok (.iconst 0, 1) := dk_3 (dk_at dksL_law_42 19 rfl rfl)
theorem dL_law_1139 : decode cL_law 1139 = .ok (.laload, 1) := dk_47 (dk_at dksL_law_42 20 rfl rfl)
theorem dL_law_1140 : decode cL_law 1140 = .ok (.iload 7, 2) := dk_21 7 (dk_at dksL_law_42 21 rfl rfl)
theorem dL_law_1142 : decode cL_law 1142 = .ok (.i2l, 1) := dk_133 (dk_at dksL_law_42 23 rfl rfl)
theorem dL_law_1143 : decode cL_law 1143 = .ok (.lcmp, 1) := dk_148 (dk_at dksL_law_43 0 rfl rfl)
theorem dL_law_1144 : decode cL_law 1144 = .ok (.ifCond .eq 5, 3) := dk_153 0 5 (dk_at dksL_law_43 1 rfl rfl)
theorem dL_law_1147 : decode cL_law 1147 = .ok (.iconst 0, 1) := dk_3 (dk_at dksL_law_43 4 rfl rfl)
theorem dL_law_1148 : decode cL_law 1148 = .ok (.ireturn, 1) := dk_172 (dk_at dksL_law_43 5 rfl rfl)
theorem dL_law_1149 : decode cL_law 1149 = .ok (.goto 1140, 3) := dk_167 4 116 (dk_at dksL_law_43 6 rfl rfl)
theorem dL_law_1152 : decode cL_law 1152 = .ok (.aload_n 1, 1) := dk_43 (dk_at dksL_law_43 9 rfl rfl)
theorem dL_law_1153 : decode cL_law 1153 = .ok (.invokevirtual 181, 3) := dk_182 0 181 (dk_at dksL_law_43 10 rfl rfl)
theorem dL_law_1156 : decode cL_law 1156 = .ok (.aload_n 2, 1) := dk_44 (dk_at dksL_law_43 13 rfl rfl)
theorem dL_law_1157 : decode cL_law 1157 = .ok (.invokevirtual 184, 3) := dk_182 0 184 (dk_at dksL_law_43 14 rfl rfl)
theorem dL_law_1160 : decode cL_law 1160 = .ok (.if_icmp .eq 1129, 3) := dk_159 4 105 (dk_at dksL_law_43 17 rfl rfl)
theorem dL_law_1163 : decode cL_law 1163 = .ok (.iconst 0, 1) := dk_3 (dk_at dksL_law_43 20 rfl rfl)
theorem dL_law_1164 : decode cL_law 1164 = .ok (.ireturn, 1) := dk_172 (dk_at dksL_law_43 21 rfl rfl)
theorem dL_law_1165 : decode cL_law 1165 = .ok (.aload_n 1, 1) := dk_43 (dk_at dksL_law_43 22 rfl rfl)
theorem dL_law_1166 : decode cL_law 1166 = .ok (.aload_n 0, 1) := dk_42 (dk_at dksL_law_43 23 rfl rfl)
theorem dL_law_1167 : decode cL_law 1167 = .ok (.iload 5, 2) := dk_21 5 (dk_at dksL_law_44 0 rfl rfl)
theorem dL_law_1169 : decode cL_law 1169 = .ok (.iconst 1, 1) := dk_4 (dk_at dksL_law_44 2 rfl rfl)
theorem dL_law_1170 : decode cL_law 1170 = .ok (.iadd, 1) := dk_96 (dk_at dksL_law_44 3 rfl rfl)
theorem dL_law_1171 : decode cL_law 1171 = .ok (.iaload, 1) := dk_46 (dk_at dksL_law_44 4 rfl rfl)
theorem dL_law_1172 : decode cL_law 1172 = .ok (.aload_n 3, 1) := dk_45 (dk_at dksL_law_44 5 rfl rfl)
theorem dL_law_1173 : decode cL_law 1173 = .ok (.invokestatic 185, 3) := dk_184 0 185 (dk_at dksL_law_44 6 rfl rfl)
theorem dL_law_1176 : decode cL_law 1176 = .ok (.istore 6, 2) := dk_54 6 (dk_at dksL_law_44 9 rfl rfl)
theorem dL_law_1178 : decode cL_law 1178 = .ok (.aload_n 2, 1) := dk_44 (dk_at dksL_law_44 11 rfl rfl)
theorem dL_law_1179 : decode cL_law 1179 = .ok (.aload_n 0, 1) := dk_42 (dk_at dksL_law_44 12 rfl rfl)
theorem dL_law_1180 : decode cL_law 1180 = .ok (.iload 5, 2) := dk_21 5 (dk_at dksL_law_44 13 rfl rfl)
theorem dL_law_1182 : decode cL_law 1182 = .ok (.iconst 1, 1) := dk_4 (dk_at dksL_law_44 15 rfl rfl)
theorem dL_law_1183 : decode cL_law 1183 = .ok (.iadd, 1) := dk_96 (dk_at dksL_law_44 16 rfl rfl)
theorem dL_law_1184 : decode cL_law 1184 = .ok (.iaload, 1) := dk_46 (dk_at dksL_law_44 17 rfl rfl)
theorem dL_law_1185 : decode cL_law 1185 = .ok (.invokevirtual 187, 3) := dk_182 0 187 (dk_at dksL_law_44 18 rfl rfl)
theorem dL_law_1188 : decode cL_law 1188 = .ok (.istore 7, 2) := dk_54 7 (dk_at dksL_law_44 21 rfl rfl)
theorem dL_law_1190 : decode cL_law 1190 = .ok (.aload_n 2, 1) := dk_44 (dk_at dksL_law_44 23 rfl rfl)
theorem dL_law_1191 : decode cL_law 1191 = .ok (.invokevirtual 134, 3) := dk_182 0 134 (dk_at dksL_law_45 0 rfl rfl)
theorem dL_law_1194 : decode cL_law 1194 = .ok (.iload 6, 2) := dk_21 6 (dk_at dksL_law_45 3 rfl rfl)
theorem dL_law_1196 : decode cL_law 1196 = .ok (.if_icmp .eq 5, 3) := dk_159 0 5 (dk_at dksL_law_45 5 rfl rfl)
theorem dL_law_1199 : decode cL_law 1199 = .ok (.iconst 0, 1) := dk_3 (dk_at dksL_law_45 8 rfl rfl)
theorem dL_law_1200 : decode cL_law 1200 = .ok (.ireturn, 1) := dk_172 (dk_at dksL_law_45 9 rfl rfl)
theorem dL_law_1201 : decode cL_law 1201 = .ok (.iload 6, 2) := dk_21 6 (dk_at dksL_law_45 10 rfl rfl)
theorem dL_law_1203 : decode cL_law 1203 = .ok (.ifCond .ne 15, 3) := dk_154 0 15 (dk_at dksL_law_45 12 rfl rfl)
theorem dL_law_1206 : decode cL_law 1206 = .ok (.aload_n 3, 1) := dk_45 (dk_at dksL_law_45 15 rfl rfl)
theorem dL_law_1207 : decode cL_law 1207 = .ok (.iconst 0, 1) := dk_3 (dk_at dksL_law_45 16 rfl rfl)
theorem dL_law_1208 : decode cL_law 1208 = .ok (.laload, 1) := dk_47 (dk_at dksL_law_45 17 rfl rfl)
theorem dL_law_1209 : decode cL_law 1209 = .ok (.iload 7, 2) := dk_21 7 (dk_at dksL_law_45 18 rfl rfl)
theorem dL_law_1211 : decode cL_law 1211 = .ok (.i2l, 1) := dk_133 (dk_at dksL_law_45 20 rfl rfl)
theorem dL_law_1212 : decode cL_law 1212 = .ok (.lcmp, 1) := dk_148 (dk_at dksL_law_45 21 rfl rfl)
theorem dL_law_1213 : decode cL_law 1213 = .ok (.ifCond .eq 5, 3) := dk_153 0 5 (dk_at dksL_law_46 0 rfl rfl)
theorem dL_law_1216 : decode cL_law 1216 = .ok (.iconst 0, 1) := dk_3 (dk_at dksL_law_46 3 rfl rfl)
theorem dL_law_1217 : decode cL_law 1217 = .ok (.ireturn, 1) := dk_172 (dk_at dksL_law_46 4 rfl rfl)
theorem dL_law_1218 : decode cL_law 1218 = .ok (.goto 1071, 3) := dk_167 4 47 (dk_at dksL_law_46 5 rfl rfl)
theorem dL_law_1221 : decode cL_law 1221 = .ok (.aload_n 1, 1) := dk_43 (dk_at dksL_law_46 8 rfl rfl)
theorem dL_law_1222 : decode cL_law 1222 = .ok (.invokevirtual 188, 3) := dk_182 0 188 (dk_at dksL_law_46 9 rfl rfl)
theorem dL_law_1225 : decode cL_law 1225 = .ok (.aload_n 2, 1) := dk_44 (dk_at dksL_law_46 12 rfl rfl)
theorem dL_law_1226 : decode cL_law 1226 = .ok (.invokevirtual 191, 3) := dk_182 0 191 (dk_at dksL_law_46 13 rfl rfl)
theorem dL_law_1229 : decode cL_law 1229 = .ok (.if_icmp .eq 1060, 3) := dk_159 4 36 (dk_at dksL_law_46 16 rfl rfl)
theorem dL_law_1232 : decode cL_law 1232 = .ok (.iconst 0, 1) := dk_3 (dk_at dksL_law_46 19 rfl rfl)
theorem dL_law_1233 : decode cL_law 1233 = .ok (.ireturn, 1) := dk_172 (dk_at dksL_law_46 20 rfl rfl)
theorem dL_law_1234 : decode cL_law 1234 = .ok (.aload_n 1, 1) := dk_43 (dk_at dksL_law_46 21 rfl rfl)
theorem dL_law_1235 : decode cL_law 1235 = .ok (.invokevirtual 192, 3) := dk_182 0 192 (dk_at dksL_law_47 0 rfl rfl)
theorem dL_law_1238 : decode cL_law 1238 = .ok (.aload_n 2, 1) := dk_44 (dk_at dksL_law_47 3 rfl rfl)
theorem dL_law_1239 : decode cL_law 1239 = .ok (.invokevirtual 195, 3) := dk_182 0 195 (dk_at dksL_law_47 4 rfl rfl)
theorem dL_law_1242 : decode cL_law 1242 = .ok (.if_icmp .eq 1047, 3) := dk_159 4 23 (dk_at dksL_law_47 7 rfl rfl)
theorem dL_law_1245 : decode cL_law 1245 = .ok (.iconst 0, 1) := dk_3 (dk_at dksL_law_47 10 rfl rfl)
theorem dL_law_1246 : decode cL_law 1246 = .ok (.ireturn, 1) := dk_172 (dk_at dksL_law_47 11 rfl rfl)
theorem dL_law_1247 : decode cL_law 1247 = .ok (.aload_n 1, 1) := dk_43 (dk_at dksL_law_47 12 rfl rfl)
theorem dL_law_1248 : decode cL_law 1248 = .ok (.aload_n 0, 1) := dk_42 (dk_at dksL_law_47 13 rfl rfl)
theorem dL_law_1249 : decode cL_law 1249 = .ok (.iload 5, 2) := dk_21 5 (dk_at dksL_law_47 14 rfl rfl)
theorem dL_law_1251 : decode cL_law 1251 = .ok (.iconst 1, 1) := dk_4 (dk_at dksL_law_47 16 rfl rfl)
theorem dL_law_1252 : decode cL_law 1252 = .ok (.iadd, 1) := dk_96 (dk_at dksL_law_47 17 rfl rfl)
theorem dL_law_1253 : decode cL_law 1253 = .ok (.iaload, 1) := dk_46 (dk_at dksL_law_47 18 rfl rfl)
theorem dL_law_1254 : decode cL_law 1254 = .ok (.aload_n 0, 1) := dk_42 (dk_at dksL_law_47 19 rfl rfl)
theorem dL_law_1255 : decode cL_law 1255 = .ok (.iload 5, 2) := dk_21 5 (dk_at dksL_law_47 20 rfl rfl)
theorem dL_law_1257 : decode cL_law 1257 = .ok (.iconst 2, 1) := dk_5 (dk_at dksL_law_47 22 rfl rfl)
theorem dL_law_1258 : decode cL_law 1258 = .ok (.iadd, 1) := dk_96 (dk_at dksL_law_47 23 rfl rfl)
theorem dL_law_1259 : decode cL_law 1259 = .ok (.iaload, 1) := dk_46 (dk_at dksL_law_48 0 rfl rfl)
theorem dL_law_1260 : decode cL_law 1260 = .ok (.aload_n 3, 1) := dk_45 (dk_at dksL_law_48 1 rfl rfl)
theorem dL_law_1261 : decode cL_law 1261 = .ok (.invokestatic 196, 3) := dk_184 0 196 (dk_at dksL_law_48 2 rfl rfl)
theorem dL_law_1264 : decode cL_law 1264 = .ok (.istore 6, 2) := dk_54 6 (dk_at dksL_law_48 5 rfl rfl)
theorem dL_law_1266 : decode cL_law 1266 = .ok (.aload_n 2, 1) := dk_44 (dk_at dksL_law_48 7 rfl rfl)
theorem dL_law_1267 : decode cL_law 1267 = .ok (.aload_n 0, 1) := dk_42 (dk_at dksL_law_48 8 rfl rfl)
theorem dL_law_1268 : decode cL_law 1268 = .ok (.iload 5, 2) := dk_21 5 (dk_at dksL_law_48 9 rfl rfl)
theorem dL_law_1270 : decode cL_law 1270 = .ok (.iconst 1, 1) := dk_4 (dk_at dksL_law_48 11 rfl rfl)
theorem dL_law_1271 : decode cL_law 1271 = .ok (.iadd, 1) := dk_96 (dk_at dksL_law_48 12 rfl rfl)
theorem dL_law_1272 : decode cL_law 1272 = .ok (.iaload, 1) := dk_46 (dk_at dksL_law_48 13 rfl rfl)
theorem dL_law_1273 : decode cL_law 1273 = .ok (.aload_n 0, 1) := dk_42 (dk_at dksL_law_48 14 rfl rfl)
theorem dL_law_1274 : decode cL_law 1274 = .ok (.iload 5, 2) := dk_21 5 (dk_at dksL_law_48 15 rfl rfl)
theorem dL_law_1276 : decode cL_law 1276 = .ok (.iconst 2, 1) := dk_5 (dk_at dksL_law_48 17 rfl rfl)
theorem dL_law_1277 : decode cL_law 1277 = .ok (.iadd, 1) := dk_96 (dk_at dksL_law_48 18 rfl rfl)
theorem dL_law_1278 : decode cL_law 1278 = .ok (.iaload, 1) := dk_46 (dk_at dksL_law_48 19 rfl rfl)
theorem dL_law_1279 : decode cL_law 1279 = .ok (.invokevirtual 198, 3) := dk_182 0 198 (dk_at dksL_law_48 20 rfl rfl)
theorem dL_law_1282 : decode cL_law 1282 = .ok (.istore 7, 2) := dk_54 7 (dk_at dksL_law_49 0 rfl rfl)
theorem dL_law_1284 : decode cL_law 1284 = .ok (.aload_n 2, 1) := dk_44 (dk_at dksL_law_49 2 rfl rfl)
theorem dL_law_1285 : decode cL_law 1285 = .ok (.invokevirtual 134, 3) := dk_182 0 134 (dk_at dksL_law_49 3 rfl rfl)
theorem dL_law_1288 : decode cL_law 1288 = .ok (.iload 6, 2) := dk_21 6 (dk_at dksL_law_49 6 rfl rfl)
theorem dL_law_1290 : decode cL_law 1290 = .ok (.if_icmp .eq 5, 3) := dk_159 0 5 (dk_at dksL_law_49 8 rfl rfl)
theorem dL_law_1293 : decode cL_law 1293 = .ok (.iconst 0, 1) := dk_3 (dk_at dksL_law_49 11 rfl rfl)
theorem dL_law_1294 : decode cL_law 1294 = .ok (.ireturn, 1) := dk_172 (dk_at dksL_law_49 12 rfl rfl)
theorem dL_law_1295 : decode cL_law 1295 = .ok (.iload 6, 2) := dk_21 6 (dk_at dksL_law_49 13 rfl rfl)
theorem dL_law_1297 : decode cL_law 1297 = .ok (.ifCond .ne 15, 3) := dk_154 0 15 (dk_at dksL_law_49 15 rfl rfl)
theorem dL_law_1300 : decode cL_law 1300 = .ok (.aload_n 3, 1) := dk_45 (dk_at dksL_law_49 18 rfl rfl)
theorem dL_law_1301 : decode cL_law 1301 = .ok (.iconst 0, 1) := dk_3 (dk_at dksL_law_49 19 rfl rfl)
theorem dL_law_1302 : decode cL_law 1302 = .ok (.laload, 1) := dk_47 (dk_at dksL_law_49 20 rfl rfl)
theorem dL_law_1303 : decode cL_law 1303 = .ok (.iload 7, 2) := dk_21 7 (dk_at dksL_law_49 21 rfl rfl)
theorem dL_law_1305 : decode cL_law 1305 = .ok (.i2l, 1) := dk_133 (dk_at dksL_law_49 23 rfl rfl)
theorem dL_law_1306 : decode cL_law 1306 = .ok (.lcmp, 1) := dk_148 (dk_at dksL_law_50 0 rfl rfl)
theorem dL_law_1307 : decode cL_law 1307 = .ok (.ifCond .eq 5, 3) := dk_153 0 5 (dk_at dksL_law_50 1 rfl rfl)
theorem dL_law_1310 : decode cL_law 1310 = .ok (.iconst 0, 1) := dk_3 (dk_at dksL_law_50 4 rfl rfl)
theorem dL_law_1311 : decode cL_law 1311 = .ok (.ireturn, 1) := dk_172 (dk_at dksL_law_50 5 rfl rfl)
theorem dL_law_1312 : decode cL_law 1312 = .ok (.goto 977, 3) := dk_167 3 209 (dk_at dksL_law_50 6 rfl rfl)
theorem dL_law_1315 : decode cL_law 1315 = .ok (.aload_n 1, 1) := dk_43 (dk_at dksL_law_50 9 rfl rfl)
theorem dL_law_1316 : decode cL_law 1316 = .ok (.aload_n 0, 1) := dk_42 (dk_at dksL_law_50 10 rfl rfl)
theorem dL_law_1317 : decode cL_law 1317 = .ok (.iload 5, 2) := dk_21 5 (dk_at dksL_law_50 11 rfl rfl)
theorem dL_law_1319 : decode cL_law 1319 = .ok (.iconst 1, 1) := dk_4 (dk_at dksL_law_50 13 rfl rfl)
theorem dL_law_1320 : decode cL_law 1320 = .ok (.iadd, 1) := dk_96 (dk_at dksL_law_50 14 rfl rfl)
theorem dL_law_1321 : decode cL_law 1321 = .ok (.iaload, 1) := dk_46 (dk_at dksL_law_50 15 rfl rfl)
theorem dL_law_1322 : decode cL_law 1322 = .ok (.aload_n 0, 1) := dk_42 (dk_at dksL_law_50 16 rfl rfl)
theorem dL_law_1323 : decode cL_law 1323 = .ok (.iload 5, 2) := dk_21 5 (dk_at dksL_law_50 17 rfl rfl)
theorem dL_law_1325 : decode cL_law 1325 = .ok (.iconst 2, 1) := dk_5 (dk_at dksL_law_50 19 rfl rfl)
theorem dL_law_1326 : decode cL_law 1326 = .ok (.iadd, 1) := dk_96 (dk_at dksL_law_50 20 rfl rfl)
theorem dL_law_1327 : decode cL_law 1327 = .ok (.iaload, 1) := dk_46 (dk_at dksL_law_50 21 rfl rfl)
theorem dL_law_1328 : decode cL_law 1328 = .ok (.aload_n 3, 1) := dk_45 (dk_at dksL_law_50 22 rfl rfl)
theorem dL_law_1329 : decode cL_law 1329 = .ok (.invokestatic 199, 3) := dk_184 0 199 (dk_at dksL_law_51 0 rfl rfl)
theorem dL_law_1332 : decode cL_law 1332 = .ok (.istore 6, 2) := dk_54 6 (dk_at dksL_law_51 3 rfl rfl)
theorem dL_law_1334 : decode cL_law 1334 = .ok (.aload_n 2, 1) := dk_44 (dk_at dksL_law_51 5 rfl rfl)
theorem dL_law_1335 : decode cL_law 1335 = .ok (.aload_n 0, 1) := dk_42 (dk_at dksL_law_51 6 rfl rfl)
theorem dL_law_1336 : decode cL_law 1336 = .ok (.iload 5, 2) := dk_21 5 (dk_at dksL_law_51 7 rfl rfl)
theorem dL_law_1338 : decode cL_law 1338 = .ok (.iconst 1, 1) := dk_4 (dk_at dksL_law_51 9 rfl rfl)
theorem dL_law_1339 : decode cL_law 1339 = .ok (.iadd, 1) := dk_96 (dk_at dksL_law_51 10 rfl rfl)
theorem dL_law_1340 : decode cL_law 1340 = .ok (.iaload, 1) := dk_46 (dk_at dksL_law_51 11 rfl rfl)
theorem dL_law_1341 : decode cL_law 1341 = .ok (.aload_n 0, 1) := dk_42 (dk_at dksL_law_51 12 rfl rfl)
theorem dL_law_1342 : decode cL_law 1342 = .ok (.iload 5, 2) := dk_21 5 (dk_at dksL_law_51 13 rfl rfl)
theorem dL_law_1344 : decode cL_law 1344 = .ok (.iconst 2, 1) := dk_5 (dk_at dksL_law_51 15 rfl rfl)
theorem dL_law_1345 : decode cL_law 1345 = .ok (.iadd, 1) := dk_96 (dk_at dksL_law_51 16 rfl rfl)
theorem dL_law_1346 : decode cL_law 1346 = .ok (.iaload, 1) := dk_46 (dk_at dksL_law_51 17 rfl rfl)
theorem dL_law_1347 : decode cL_law 1347 = .ok (.invokevirtual 201, 3) := dk_182 0 201 (dk_at dksL_law_51 18 rfl rfl)
theorem dL_law_1350 : decode cL_law 1350 = .ok (.istore 7, 2) := dk_54 7 (dk_at dksL_law_51 21 rfl rfl)
theorem dL_law_1352 : decode cL_law 1352 = .ok (.aload_n 2, 1) := dk_44 (dk_at dksL_law_51 23 rfl rfl)
theorem dL_law_1353 : decode cL_law 1353 = .ok (.invokevirtual 134, 3) := dk_182 0 134 (dk_at dksL_law_52 0 rfl rfl)
theorem dL_law_1356 : decode cL_law 1356 = .ok (.iload 6, 2) := dk_21 6 (dk_at dksL_law_52 3 rfl rfl)
theorem dL_law_1358 : decode cL_law 1358 = .ok (.if_icmp .eq 5, 3) := dk_159 0 5 (dk_at dksL_law_52 5 rfl rfl)
theorem dL_law_1361 : decode cL_law 1361 = .ok (.iconst 0, 1) := dk_3 (dk_at dksL_law_52 8 rfl rfl)
theorem dL_law_1362 : decode cL_law 1362 = .ok (.ireturn, 1) := dk_172 (dk_at dksL_law_52 9 rfl rfl)
theorem dL_law_1363 : decode cL_law 1363 = .ok (.iload 6, 2) := dk_21 6 (dk_at dksL_law_52 10 rfl rfl)
theorem dL_law_1365 : decode cL_law 1365 = .ok (.ifCond .ne 15, 3) := dk_154 0 15 (dk_at dksL_law_52 12 rfl rfl)
theorem dL_law_1368 : decode cL_law 1368 = .ok (.aload_n 3, 1) := dk_45 (dk_at dksL_law_52 15 rfl rfl)
theorem dL_law_1369 : decode cL_law 1369 = .ok (.iconst 0, 1) := dk_3 (dk_at dksL_law_52 16 rfl rfl)
theorem dL_law_1370 : decode cL_law 1370 = .ok (.laload, 1) := dk_47 (dk_at dksL_law_52 17 rfl rfl)
theorem dL_law_1371 : decode cL_law 1371 = .ok (.iload 7, 2) := dk_21 7 (dk_at dksL_law_52 18 rfl rfl)
theorem dL_law_1373 : decode cL_law 1373 = .ok (.i2l, 1) := dk_133 (dk_at dksL_law_52 20 rfl rfl)
theorem dL_law_1374 : decode cL_law 1374 = .ok (.lcmp, 1) := dk_148 (dk_at dksL_law_52 21 rfl rfl)
theorem dL_law_1375 : decode cL_law 1375 = .ok (.ifCond .eq 5, 3) := dk_153 0 5 (dk_at dksL_law_53 0 rfl rfl)
theorem dL_law_1378 : decode cL_law 1378 = .ok (.iconst 0, 1) := dk_3 (dk_at dksL_law_53 3 rfl rfl)
theorem dL_law_1379 : decode cL_law 1379 = .ok (.ireturn, 1) := dk_172 (dk_at dksL_law_53 4 rfl rfl)
theorem dL_law_1380 : decode cL_law 1380 = .ok (.goto 909, 3) := dk_167 3 141 (dk_at dksL_law_53 5 rfl rfl)
theorem dL_law_1383 : decode cL_law 1383 = .ok (.aload_n 1, 1) := dk_43 (dk_at dksL_law_53 8 rfl rfl)
theorem dL_law_1384 : decode cL_law 1384 = .ok (.aload_n 0, 1) := dk_42 (dk_at dksL_law_53 9 rfl rfl)
theorem dL_law_1385 : decode cL_law 1385 = .ok (.iload 5, 2) := dk_21 5 (dk_at dksL_law_53 10 rfl rfl)
theorem dL_law_1387 : decode cL_law 1387 = .ok (.iconst 1, 1) := dk_4 (dk_at dksL_law_53 12 rfl rfl)
theorem dL_law_1388 : decode cL_law 1388 = .ok (.iadd, 1) := dk_96 (dk_at dksL_law_53 13 rfl rfl)
theorem dL_law_1389 : decode cL_law 1389 = .ok (.iaload, 1) := dk_46 (dk_at dksL_law_53 14 rfl rfl)
theorem dL_law_1390 : decode cL_law 1390 = .ok (.aload_n 0, 1) := dk_42 (dk_at dksL_law_53 15 rfl rfl)
theorem dL_law_1391 : decode cL_law 1391 = .ok (.iload 5, 2) := dk_21 5 (dk_at dksL_law_53 16 rfl rfl)
theorem dL_law_1393 : decode cL_law 1393 = .ok (.iconst 2, 1) := dk_5 (dk_at dksL_law_53 18 rfl rfl)
theorem dL_law_1394 : decode cL_law 1394 = .ok (.iadd, 1) := dk_96 (dk_at dksL_law_53 19 rfl rfl)
theorem dL_law_1395 : decode cL_law 1395 = .ok (.iaload, 1) := dk_46 (dk_at dksL_law_53 20 rfl rfl)
theorem dL_law_1396 : decode cL_law 1396 = .ok (.aload_n 3, 1) := dk_45 (dk_at dksL_law_53 21 rfl rfl)
theorem dL_law_1397 : decode cL_law 1397 = .ok (.invokestatic 202, 3) := dk_184 0 202 (dk_at dksL_law_54 0 rfl rfl)
theorem dL_law_1400 : decode cL_law 1400 = .ok (.istore 6, 2) := dk_54 6 (dk_at dksL_law_54 3 rfl rfl)
theorem dL_law_1402 : decode cL_law 1402 = .ok (.aload_n 2, 1) := dk_44 (dk_at dksL_law_54 5 rfl rfl)
theorem dL_law_1403 : decode cL_law 1403 = .ok (.aload_n 0, 1) := dk_42 (dk_at dksL_law_54 6 rfl rfl)
theorem dL_law_1404 : decode cL_law 1404 = .ok (.iload 5, 2) := dk_21 5 (dk_at dksL_law_54 7 rfl rfl)
theorem dL_law_1406 : decode cL_law 1406 = .ok (.iconst 1, 1) := dk_4 (dk_at dksL_law_54 9 rfl rfl)
theorem dL_law_1407 : decode cL_law 1407 = .ok (.iadd, 1) := dk_96 (dk_at dksL_law_54 10 rfl rfl)
theorem dL_law_1408 : decode cL_law 1408 = .ok (.iaload, 1) := dk_46 (dk_at dksL_law_54 11 rfl rfl)
theorem dL_law_1409 : decode cL_law 1409 = .ok (.aload_n 0, 1) := dk_42 (dk_at dksL_law_54 12 rfl rfl)
theorem dL_law_1410 : decode cL_law 1410 = .ok (.iload 5, 2) := dk_21 5 (dk_at dksL_law_54 13 rfl rfl)
theorem dL_law_1412 : decode cL_law 1412 = .ok (.iconst 2, 1) := dk_5 (dk_at dksL_law_54 15 rfl rfl)
theorem dL_law_1413 : decode cL_law 1413 = .ok (.iadd, 1) := dk_96 (dk_at dksL_law_54 16 rfl rfl)
theorem dL_law_1414 : decode cL_law 1414 = .ok (.iaload, 1) := dk_46 (dk_at dksL_law_54 17 rfl rfl)
theorem dL_law_1415 : decode cL_law 1415 = .ok (.invokevirtual 204, 3) := dk_182 0 204 (dk_at dksL_law_54 18 rfl rfl)
theorem dL_law_1418 : decode cL_law 1418 = .ok (.istore 7, 2) := dk_54 7 (dk_at dksL_law_54 21 rfl rfl)
theorem dL_law_1420 : decode cL_law 1420 = .ok (.aload_n 2, 1) := dk_44 (dk_at dksL_law_54 23 rfl rfl)
theorem dL_law_1421 : decode cL_law 1421 = .ok (.invokevirtual 134, 3) := dk_182 0 134 (dk_at dksL_law_55 0 rfl rfl)
theorem dL_law_1424 : decode cL_law 1424 = .ok (.iload 6, 2) := dk_21 6 (dk_at dksL_law_55 3 rfl rfl)
theorem dL_law_1426 : decode cL_law 1426 = .ok (.if_icmp .eq 5, 3) := dk_159 0 5 (dk_at dksL_law_55 5 rfl rfl)
theorem dL_law_1429 : decode cL_law 1429 = .ok (.iconst 0, 1) := dk_3 (dk_at dksL_law_55 8 rfl rfl)
theorem dL_law_1430 : decode cL_law 1430 = .ok (.ireturn, 1) := dk_172 (dk_at dksL_law_55 9 rfl rfl)
theorem dL_law_1431 : decode cL_law 1431 = .ok (.iload 6, 2) := dk_21 6 (dk_at dksL_law_55 10 rfl rfl)
theorem dL_law_1433 : decode cL_law 1433 = .ok (.ifCond .ne 15, 3) := dk_154 0 15 (dk_at dksL_law_55 12 rfl rfl)
theorem dL_law_1436 : decode cL_law 1436 = .ok (.aload_n 3, 1) := dk_45 (dk_at dksL_law_55 15 rfl rfl)
theorem dL_law_1437 : decode cL_law 1437 = .ok (.iconst 0, 1) := dk_3 (dk_at dksL_law_55 16 rfl rfl)
theorem dL_law_1438 : decode cL_law 1438 = .ok (.laload, 1) := dk_47 (dk_at dksL_law_55 17 rfl rfl)
theorem dL_law_1439 : decode cL_law 1439 = .ok (.iload 7, 2) := dk_21 7 (dk_at dksL_law_55 18 rfl rfl)
theorem dL_law_1441 : decode cL_law 1441 = .ok (.i2l, 1) := dk_133 (dk_at dksL_law_55 20 rfl rfl)
theorem dL_law_1442 : decode cL_law 1442 = .ok (.lcmp, 1) := dk_148 (dk_at dksL_law_55 21 rfl rfl)
theorem dL_law_1443 : decode cL_law 1443 = .ok (.ifCond .eq 5, 3) := dk_153 0 5 (dk_at dksL_law_56 0 rfl rfl)
theorem dL_law_1446 : decode cL_law 1446 = .ok (.iconst 0, 1) := dk_3 (dk_at dksL_law_56 3 rfl rfl)
theorem dL_law_1447 : decode cL_law 1447 = .ok (.ireturn, 1) := dk_172 (dk_at dksL_law_56 4 rfl rfl)
theorem dL_law_1448 : decode cL_law 1448 = .ok (.goto 841, 3) := dk_167 3 73 (dk_at dksL_law_56 5 rfl rfl)
theorem dL_law_1451 : decode cL_law 1451 = .ok (.aload_n 1, 1) := dk_43 (dk_at dksL_law_56 8 rfl rfl)
theorem dL_law_1452 : decode cL_law 1452 = .ok (.aload_n 0, 1) := dk_42 (dk_at dksL_law_56 9 rfl rfl)
theorem dL_law_1453 : decode cL_law 1453 = .ok (.iload 5, 2) := dk_21 5 (dk_at dksL_law_56 10 rfl rfl)
theorem dL_law_1455 : decode cL_law 1455 = .ok (.iconst 1, 1) := dk_4 (dk_at dksL_law_56 12 rfl rfl)
theorem dL_law_1456 : decode cL_law 1456 = .ok (.iadd, 1) := dk_96 (dk_at dksL_law_56 13 rfl rfl)
theorem dL_law_1457 : decode cL_law 1457 = .ok (.iaload, 1) := dk_46 (dk_at dksL_law_56 14 rfl rfl)
theorem dL_law_1458 : decode cL_law 1458 = .ok (.aload 4, 2) := dk_25 4 (dk_at dksL_law_56 15 rfl rfl)
theorem dL_law_1460 : decode cL_law 1460 = .ok (.invokestatic 205, 3) := dk_184 0 205 (dk_at dksL_law_56 17 rfl rfl)
theorem dL_law_1463 : decode cL_law 1463 = .ok (.istore 6, 2) := dk_54 6 (dk_at dksL_law_56 20 rfl rfl)
theorem dL_law_1465 : decode cL_law 1465 = .ok (.aload_n 2, 1) := dk_44 (dk_at dksL_law_56 22 rfl rfl)
theorem dL_law_1466 : decode cL_law 1466 = .ok (.aload_n 0, 1) := dk_42 (dk_at dksL_law_56 23 rfl rfl)
theorem dL_law_1467 : decode cL_law 1467 = .ok (.iload 5, 2) := dk_21 5 (dk_at dksL_law_57 0 rfl rfl)
theorem dL_law_1469 : decode cL_law 1469 = .ok (.iconst 1, 1) := dk_4 (dk_at dksL_law_57 2 rfl rfl)
theorem dL_law_1470 : decode cL_law 1470 = .ok (.iadd, 1) := dk_96 (dk_at dksL_law_57 3 rfl rfl)
theorem dL_law_1471 : decode cL_law 1471 = .ok (.iaload, 1) := dk_46 (dk_at dksL_law_57 4 rfl rfl)
theorem dL_law_1472 : decode cL_law 1472 = .ok (.invokevirtual 208, 3) := dk_182 0 208 (dk_at dksL_law_57 5 rfl rfl)
theorem dL_law_1475 : decode cL_law 1475 = .ok (.fstore 7, 2) := dk_56 7 (dk_at dksL_law_57 8 rfl rfl)
theorem dL_law_1477 : decode cL_law 1477 = .ok (.aload_n 2, 1) := dk_44 (dk_at dksL_law_57 10 rfl rfl)
theorem dL_law_1478 : decode cL_law 1478 = .ok (.invokevirtual 134, 3) := dk_182 0 134 (dk_at dksL_law_57 11 rfl rfl)
theorem dL_law_1481 : decode cL_law 1481 = .ok (.iload 6, 2) := dk_21 6 (dk_at dksL_law_57 14 rfl rfl)
theorem dL_law_1483 : decode cL_law 1483 = .ok (.if_icmp .eq 5, 3) := dk_159 0 5 (dk_at dksL_law_57 16 rfl rfl)
theorem dL_law_1486 : decode cL_law 1486 = .ok (.iconst 0, 1) := dk_3 (dk_at dksL_law_57 19 rfl rfl)
theorem dL_law_1487 : decode cL_law 1487 = .ok (.ireturn, 1) := dk_172 (dk_at dksL_law_57 20 rfl rfl)
theorem dL_law_1488 : decode cL_law 1488 = .ok (.iload 6, 2) := dk_21 6 (dk_at dksL_law_57 21 rfl rfl)
theorem dL_law_1490 : decode cL_law 1490 = .ok (.ifCond .ne 36, 3) := dk_154 0 36 (dk_at dksL_law_58 0 rfl rfl)
theorem dL_law_1493 : decode cL_law 1493 = .ok (.aload 4, 2) := dk_25 4 (dk_at dksL_law_58 3 rfl rfl)
theorem dL_law_1495 : decode cL_law 1495 = .ok (.iconst 0, 1) := dk_3 (dk_at dksL_law_58 5 rfl rfl)
theorem dL_law_1496 : decode cL_law 1496 = .ok (.daload, 1) := dk_49 (dk_at dksL_law_58 6 rfl rfl)
theorem dL_law_1497 : decode cL_law 1497 = .ok (.fload 7, 2) := dk_23 7 (dk_at dksL_law_58 7 rfl rfl)
theorem dL_law_1499 : decode cL_law 1499 = .ok (.f2d, 1) := dk_141 (dk_at dksL_law_58 9 rfl rfl)
theorem dL_law_1500 : decode cL_law 1500 = .ok (.dcmp .l, 1) := dk_151 (dk_at dksL_law_58 10 rfl rfl)
theorem dL_law_1501 : decode cL_law 1501 = .ok (.ifCond .eq 25, 3) := dk_153 0 25 (dk_at dksL_law_58 11 rfl rfl)
theorem dL_law_1504 : decode cL_law 1504 = .ok (.aload 4, 2) := dk_25 4 (dk_at dksL_law_58 14 rfl rfl)
theorem dL_law_1506 : decode cL_law 1506 = .ok (.iconst 0, 1) := dk_3 (dk_at dksL_law_58 16 rfl rfl)
theorem dL_law_1507 : decode cL_law 1507 = .ok (.daload, 1) := dk_49 (dk_at dksL_law_58 17 rfl rfl)
theorem dL_law_1508 : decode cL_law 1508 = .ok (.aload 4, 2) := dk_25 4 (dk_at dksL_law_58 18 rfl rfl)
theorem dL_law_1510 : decode cL_law 1510 = .ok (.iconst 0, 1) := dk_3 (dk_at dksL_law_58 20 rfl rfl)
theorem dL_law_1511 : decode cL_law 1511 = .ok (.daload, 1) := dk_49 (dk_at dksL_law_58 21 rfl rfl)
theorem dL_law_1512 : decode cL_law 1512 = .ok (.dcmp .l, 1) := dk_151 (dk_at dksL_law_58 22 rfl rfl)
theorem dL_law_1513 : decode cL_law 1513 = .ok (.ifCond .eq 11, 3) := dk_153 0 11 (dk_at dksL_law_59 0 rfl rfl)
theorem dL_law_1516 : decode cL_law 1516 = .ok (.fload 7, 2) := dk_23 7 (dk_at dksL_law_59 3 rfl rfl)
theorem dL_law_1518 : decode cL_law 1518 = .ok (.fload 7, 2) := dk_23 7 (dk_at dksL_law_59 5 rfl rfl)
theorem dL_law_1520 : decode cL_law 1520 = .ok (.fcmp .l, 1) := dk_149 (dk_at dksL_law_59 7 rfl rfl)
theorem dL_law_1521 : decode cL_law 1521 = .ok (.ifCond .ne 5, 3) := dk_154 0 5 (dk_at dksL_law_59 8 rfl rfl)
theorem dL_law_1524 : decode cL_law 1524 = .ok (.iconst 0, 1) := dk_3 (dk_at dksL_law_59 11 rfl rfl)
theorem dL_law_1525 : decode cL_law 1525 = .ok (.ireturn, 1) := dk_172 (dk_at dksL_law_59 12 rfl rfl)
theorem dL_law_1526 : decode cL_law 1526 = .ok (.goto 763, 3) := dk_167 2 251 (dk_at dksL_law_59 13 rfl rfl)
theorem dL_law_1529 : decode cL_law 1529 = .ok (.aload_n 1, 1) := dk_43 (dk_at dksL_law_59 16 rfl rfl)
theorem dL_law_1530 : decode cL_law 1530 = .ok (.aload_n 0, 1) := dk_42 (dk_at dksL_law_59 17 rfl rfl)
theorem dL_law_1531 : decode cL_law 1531 = .ok (.iload 5, 2) := dk_21 5 (dk_at dksL_law_59 18 rfl rfl)
theorem dL_law_1533 : decode cL_law 1533 = .ok (.iconst 1, 1) := dk_4 (dk_at dksL_law_59 20 rfl rfl)
theorem dL_law_1534 : decode cL_law 1534 = .ok (.iadd, 1) := dk_96 (dk_at dksL_law_59 21 rfl rfl)
theorem dL_law_1535 : decode cL_law 1535 = .ok (.iaload, 1) := dk_46 (dk_at dksL_law_59 22 rfl rfl)
theorem dL_law_1536 : decode cL_law 1536 = .ok (.aload_n 3, 1) := dk_45 (dk_at dksL_law_59 23 rfl rfl)
theorem dL_law_1537 : decode cL_law 1537 = .ok (.invokestatic 209, 3) := dk_184 0 209 (dk_at dksL_law_60 0 rfl rfl)
theorem dL_law_1540 : decode cL_law 1540 = .ok (.istore 6, 2) := dk_54 6 (dk_at dksL_law_60 3 rfl rfl)
theorem dL_law_1542 : decode cL_law 1542 = .ok (.aload_n 2, 1) := dk_44 (dk_at dksL_law_60 5 rfl rfl)
theorem dL_law_1543 : decode cL_law 1543 = .ok (.aload_n 0, 1) := dk_42 (dk_at dksL_law_60 6 rfl rfl)
theorem dL_law_1544 : decode cL_law 1544 = .ok (.iload 5, 2) := dk_21 5 (dk_at dksL_law_60 7 rfl rfl)
theorem dL_law_1546 : decode cL_law 1546 = .ok (.iconst 1, 1) := dk_4 (dk_at dksL_law_60 9 rfl rfl)
theorem dL_law_1547 : decode cL_law 1547 = .ok (.iadd, 1) := dk_96 (dk_at dksL_law_60 10 rfl rfl)
theorem dL_law_1548 : decode cL_law 1548 = .ok (.iaload, 1) := dk_46 (dk_at dksL_law_60 11 rfl rfl)
theorem dL_law_1549 : decode cL_law 1549 = .ok (.invokevirtual 211, 3) := dk_182 0 211 (dk_at dksL_law_60 12 rfl rfl)
theorem dL_law_1552 : decode cL_law 1552 = .ok (.istore 7, 2) := dk_54 7 (dk_at dksL_law_60 15 rfl rfl)
theorem dL_law_1554 : decode cL_law 1554 = .ok (.aload_n 2, 1) := dk_44 (dk_at dksL_law_60 17 rfl rfl)
theorem dL_law_1555 : decode cL_law 1555 = .ok (.invokevirtual 134, 3) := dk_182 0 134 (dk_at dksL_law_60 18 rfl rfl)
theorem dL_law_1558 : decode cL_law 1558 = .ok (.iload 6, 2) := dk_21 6 (dk_at dksL_law_60 21 rfl rfl)
theorem dL_law_1560 : decode cL_law 1560 = .ok (.if_icmp .eq 5, 3) := dk_159 0 5 (dk_at dksL_law_61 0 rfl rfl)
theorem dL_law_1563 : decode cL_law 1563 = .ok (.iconst 0, 1) := dk_3 (dk_at dksL_law_61 3 rfl rfl)
theorem dL_law_1564 : decode cL_law 1564 = .ok (.ireturn, 1) := dk_172 (dk_at dksL_law_61 4 rfl rfl)
theorem dL_law_1565 : decode cL_law 1565 = .ok (.iload 6, 2) := dk_21 6 (dk_at dksL_law_61 5 rfl rfl)
theorem dL_law_1567 : decode cL_law 1567 = .ok (.ifCond .ne 15, 3) := dk_154 0 15 (dk_at dksL_law_61 7 rfl rfl)
theorem dL_law_1570 : decode cL_law 1570 = .ok (.aload_n 3, 1) := dk_45 (dk_at dksL_law_61 10 rfl rfl)
theorem dL_law_1571 : decode cL_law 1571 = .ok (.iconst 0, 1) := dk_3 (dk_at dksL_law_61 11 rfl rfl)
theorem dL_law_1572 : decode cL_law 1572 = .ok (.laload, 1) := dk_47 (dk_at dksL_law_61 12 rfl rfl)
theorem dL_law_1573 : decode cL_law 1573 = .ok (.iload 7, 2) := dk_21 7 (dk_at dksL_law_61 13 rfl rfl)
theorem dL_law_1575 : decode cL_law 1575 = .ok (.i2l, 1) := dk_133 (dk_at dksL_law_61 15 rfl rfl)
theorem dL_law_1576 : decode cL_law 1576 = .ok (.lcmp, 1) := dk_148 (dk_at dksL_law_61 16 rfl rfl)
theorem dL_law_1577 : decode cL_law 1577 = .ok (.ifCond .eq 5, 3) := dk_153 0 5 (dk_at dksL_law_61 17 rfl rfl)
theorem dL_law_1580 : decode cL_law 1580 = .ok (.iconst 0, 1) := dk_3 (dk_at dksL_law_61 20 rfl rfl)
theorem dL_law_1581 : decode cL_law 1581 = .ok (.ireturn, 1) := dk_172 (dk_at dksL_law_61 21 rfl rfl)
theorem dL_law_1582 : decode cL_law 1582 = .ok (.goto 707, 3) := dk_167 2 195 (dk_at dksL_law_62 0 rfl rfl)
theorem dL_law_1585 : decode cL_law 1585 = .ok (.aload_n 1, 1) := dk_43 (dk_at dksL_law_62 3 rfl rfl)
theorem dL_law_1586 : decode cL_law 1586 = .ok (.aload_n 0, 1) := dk_42 (dk_at dksL_law_62 4 rfl rfl)
theorem dL_law_1587 : decode cL_law 1587 = .ok (.iload 5, 2) := dk_21 5 (dk_at dksL_law_62 5 rfl rfl)
theorem dL_law_1589 : decode cL_law 1589 = .ok (.iconst 1, 1) := dk_4 (dk_at dksL_law_62 7 rfl rfl)
theorem dL_law_1590 : decode cL_law 1590 = .ok (.iadd, 1) := dk_96 (dk_at dksL_law_62 8 rfl rfl)
theorem dL_law_1591 : decode cL_law 1591 = .ok (.iaload, 1) := dk_46 (dk_at dksL_law_62 9 rfl rfl)
theorem dL_law_1592 : decode cL_law 1592 = .ok (.aload_n 0, 1) := dk_42 (dk_at dksL_law_62 10 rfl rfl)
theorem dL_law_1593 : decode cL_law 1593 = .ok (.iload 5, 2) := dk_21 5 (dk_at dksL_law_62 11 rfl rfl)
theorem dL_law_1595 : decode cL_law 1595 = .ok (.iconst 2, 1) := dk_5 (dk_at dksL_law_62 13 rfl rfl)
theorem dL_law_1596 : decode cL_law 1596 = .ok (.iadd, 1) := dk_96 (dk_at dksL_law_62 14 rfl rfl)
theorem dL_law_1597 : decode cL_law 1597 = .ok (.iaload, 1) := dk_46 (dk_at dksL_law_62 15 rfl rfl)
theorem dL_law_1598 : decode cL_law 1598 = .ok (.aload_n 0, 1) := dk_42 (dk_at dksL_law_62 16 rfl rfl)
theorem dL_law_1599 : decode cL_law 1599 = .ok (.iload 5, 2) := dk_21 5 (dk_at dksL_law_62 17 rfl rfl)
theorem dL_law_1601 : decode cL_law 1601 = .ok (.iconst 3, 1) := dk_6 (dk_at dksL_law_62 19 rfl rfl)
theorem dL_law_1602 : decode cL_law 1602 = .ok (.iadd, 1) := dk_96 (dk_at dksL_law_62 20 rfl rfl)
theorem dL_law_1603 : decode cL_law 1603 = .ok (.iaload, 1) := dk_46 (dk_at dksL_law_62 21 rfl rfl)
theorem dL_law_1604 : decode cL_law 1604 = .ok (.aload_n 3, 1) := dk_45 (dk_at dksL_law_62 22 rfl rfl)
theorem dL_law_1605 : decode cL_law 1605 = .ok (.invokestatic 212, 3) := dk_184 0 212 (dk_at dksL_law_63 0 rfl rfl)
theorem dL_law_1608 : decode cL_law 1608 = .ok (.istore 6, 2) := dk_54 6 (dk_at dksL_law_63 3 rfl rfl)
theorem dL_law_1610 : decode cL_law 1610 = .ok (.aload_n 2, 1) := dk_44 (dk_at dksL_law_63 5 rfl rfl)
theorem dL_law_1611 : decode cL_law 1611 = .ok (.aload_n 0, 1) := dk_42 (dk_at dksL_law_63 6 rfl rfl)
theorem dL_law_1612 : decode cL_law 1612 = .ok (.iload 5, 2) := dk_21 5 (dk_at dksL_law_63 7 rfl rfl)
theorem dL_law_1614 : decode cL_law 1614 = .ok (.iconst 1, 1) := dk_4 (dk_at dksL_law_63 9 rfl rfl)
theorem dL_law_1615 : decode cL_law 1615 = .ok (.iadd, 1) := dk_96 (dk_at dksL_law_63 10 rfl rfl)
theorem dL_law_1616 : decode cL_law 1616 = .ok (.iaload, 1) := dk_46 (dk_at dksL_law_63 11 rfl rfl)
theorem dL_law_1617 : decode cL_law 1617 = .ok (.aload_n 0, 1) := dk_42 (dk_at dksL_law_63 12 rfl rfl)
theorem dL_law_1618 : decode cL_law 1618 = .ok (.iload 5, 2) := dk_21 5 (dk_at dksL_law_63 13 rfl rfl)
theorem dL_law_1620 : decode cL_law 1620 = .ok (.iconst 2, 1) := dk_5 (dk_at dksL_law_63 15 rfl rfl)
theorem dL_law_1621 : decode cL_law 1621 = .ok (.iadd, 1) := dk_96 (dk_at dksL_law_63 16 rfl rfl)
theorem dL_law_1622 : decode cL_law 1622 = .ok (.iaload, 1) := dk_46 (dk_at dksL_law_63 17 rfl rfl)
theorem dL_law_1623 : decode cL_law 1623 = .ok (.aload_n 0, 1) := dk_42 (dk_at dksL_law_63 18 rfl rfl)
theorem dL_law_1624 : decode cL_law 1624 = .ok (.iload 5, 2) := dk_21 5 (dk_at dksL_law_63 19 rfl rfl)
theorem dL_law_1626 : decode cL_law 1626 = .ok (.iconst 3, 1) := dk_6 (dk_at dksL_law_63 21 rfl rfl)
theorem dL_law_1627 : decode cL_law 1627 = .ok (.iadd, 1) := dk_96 (dk_at dksL_law_63 22 rfl rfl)
theorem dL_law_1628 : decode cL_law 1628 = .ok (.iaload, 1) := dk_46 (dk_at dksL_law_63 23 rfl rfl)
theorem dL_law_1629 : decode cL_law 1629 = .ok (.invokevirtual 214, 3) := dk_182 0 214 (dk_at dksL_law_64 0 rfl rfl)
theorem dL_law_1632 : decode cL_law 1632 = .ok (.istore 7, 2) := dk_54 7 (dk_at dksL_law_64 3 rfl rfl)
theorem dL_law_1634 : decode cL_law 1634 = .ok (.aload_n 2, 1) := dk_44 (dk_at dksL_law_64 5 rfl rfl)
theorem dL_law_1635 : decode cL_law 1635 = .ok (.invokevirtual 134, 3) := dk_182 0 134 (dk_at dksL_law_64 6 rfl rfl)
theorem dL_law_1638 : decode cL_law 1638 = .ok (.iload 6, 2) := dk_21 6 (dk_at dksL_law_64 9 rfl rfl)
theorem dL_law_1640 : decode cL_law 1640 = .ok (.if_icmp .eq 5, 3) := dk_159 0 5 (dk_at dksL_law_64 11 rfl rfl)
theorem dL_law_1643 : decode cL_law 1643 = .ok (.iconst 0, 1) := dk_3 (dk_at dksL_law_64 14 rfl rfl)
theorem dL_law_1644 : decode cL_law 1644 = .ok (.ireturn, 1) := dk_172 (dk_at dksL_law_64 15 rfl rfl)
theorem dL_law_1645 : decode cL_law 1645 = .ok (.iload 6, 2) := dk_21 6 (dk_at dksL_law_64 16 rfl rfl)
theorem dL_law_1647 : decode cL_law 1647 = .ok (.ifCond .ne 15, 3) := dk_154 0 15 (dk_at dksL_law_64 18 rfl rfl)
theorem dL_law_1650 : decode cL_law 1650 = .ok (.aload_n 3, 1) := dk_45 (dk_at dksL_law_64 21 rfl rfl)
theorem dL_law_1651 : decode cL_law 1651 = .ok (.iconst 0, 1) := dk_3 (dk_at dksL_law_64 22 rfl rfl)
theorem dL_law_1652 : decode cL_law 1652 = .ok (.laload, 1) := dk_47 (dk_at dksL_law_64 23 rfl rfl)
theorem dL_law_1653 : decode cL_law 1653 = .ok (.iload 7, 2) := dk_21 7 (dk_at dksL_law_65 0 rfl rfl)
theorem dL_law_1655 : decode cL_law 1655 = .ok (.i2l, 1) := dk_133 (dk_at dksL_law_65 2 rfl rfl)
theorem dL_law_1656 : decode cL_law 1656 = .ok (.lcmp, 1) := dk_148 (dk_at dksL_law_65 3 rfl rfl)
theorem dL_law_1657 : decode cL_law 1657 = .ok (.ifCond .eq 5, 3) := dk_153 0 5 (dk_at dksL_law_65 4 rfl rfl)
theorem dL_law_1660 : decode cL_law 1660 = .ok (.iconst 0, 1) := dk_3 (dk_at dksL_law_65 7 rfl rfl)
theorem dL_law_1661 : decode cL_law 1661 = .ok (.ireturn, 1) := dk_172 (dk_at dksL_law_65 8 rfl rfl)
theorem dL_law_1662 : decode cL_law 1662 = .ok (.goto 627, 3) := dk_167 2 115 (dk_at dksL_law_65 9 rfl rfl)
theorem dL_law_1665 : decode cL_law 1665 = .ok (.aload_n 1, 1) := dk_43 (dk_at dksL_law_65 12 rfl rfl)
theorem dL_law_1666 : decode cL_law 1666 = .ok (.aload_n 0, 1) := dk_42 (dk_at dksL_law_65 13 rfl rfl)
theorem dL_law_1667 : decode cL_law 1667 = .ok (.iload 5, 2) := dk_21 5 (dk_at dksL_law_65 14 rfl rfl)
theorem dL_law_1669 : decode cL_law 1669 = .ok (.iconst 1, 1) := dk_4 (dk_at dksL_law_65 16 rfl rfl)
theorem dL_law_1670 : decode cL_law 1670 = .ok (.iadd, 1) := dk_96 (dk_at dksL_law_65 17 rfl rfl)
theorem dL_law_1671 : decode cL_law 1671 = .ok (.iaload, 1) := dk_46 (dk_at dksL_law_65 18 rfl rfl)
theorem dL_law_1672 : decode cL_law 1672 = .ok (.aload_n 0, 1) := dk_42 (dk_at dksL_law_65 19 rfl rfl)
theorem dL_law_1673 : decode cL_law 1673 = .ok (.iload 5, 2) := dk_21 5 (dk_at dksL_law_65 20 rfl rfl)
theorem dL_law_1675 : decode cL_law 1675 = .ok (.iconst 2, 1) := dk_5 (dk_at dksL_law_65 22 rfl rfl)
theorem dL_law_1676 : decode cL_law 1676 = .ok (.iadd, 1) := dk_96 (dk_at dksL_law_65 23 rfl rfl)
theorem dL_law_1677 : decode cL_law 1677 = .ok (.iaload, 1) := dk_46 (dk_at dksL_law_66 0 rfl rfl)
theorem dL_law_1678 : decode cL_law 1678 = .ok (.aload_n 3, 1) := dk_45 (dk_at dksL_law_66 1 rfl rfl)
theorem dL_law_1679 : decode cL_law 1679 = .ok (.invokestatic 215, 3) := dk_184 0 215 (dk_at dksL_law_66 2 rfl rfl)
theorem dL_law_1682 : decode cL_law 1682 = .ok (.istore 6, 2) := dk_54 6 (dk_at dksL_law_66 5 rfl rfl)
theorem dL_law_1684 : decode cL_law 1684 = .ok (.aload_n 2, 1) := dk_44 (dk_at dksL_law_66 7 rfl rfl)
theorem dL_law_1685 : decode cL_law 1685 = .ok (.aload_n 0, 1) := dk_42 (dk_at dksL_law_66 8 rfl rfl)
theorem dL_law_1686 : decode cL_law 1686 = .ok (.iload 5, 2) := dk_21 5 (dk_at dksL_law_66 9 rfl rfl)
theorem dL_law_1688 : decode cL_law 1688 = .ok (.iconst 1, 1) := dk_4 (dk_at dksL_law_66 11 rfl rfl)
theorem dL_law_1689 : decode cL_law 1689 = .ok (.iadd, 1) := dk_96 (dk_at dksL_law_66 12 rfl rfl)
theorem dL_law_1690 : decode cL_law 1690 = .ok (.iaload, 1) := dk_46 (dk_at dksL_law_66 13 rfl rfl)
theorem dL_law_1691 : decode cL_law 1691 = .ok (.aload_n 0, 1) := dk_42 (dk_at dksL_law_66 14 rfl rfl)
theorem dL_law_1692 : decode cL_law 1692 = .ok (.iload 5, 2) := dk_21 5 (dk_at dksL_law_66 15 rfl rfl)
theorem dL_law_1694 : decode cL_law 1694 = .ok (.iconst 2, 1) := dk_5 (dk_at dksL_law_66 17 rfl rfl)
theorem dL_law_1695 : decode cL_law 1695 = .ok (.iadd, 1) := dk_96 (dk_at dksL_law_66 18 rfl rfl)
theorem dL_law_1696 : decode cL_law 1696 = .ok (.iaload, 1) := dk_46 (dk_at dksL_law_66 19 rfl rfl)
theorem dL_law_1697 : decode cL_law 1697 = .ok (.invokevirtual 217, 3) := dk_182 0 217 (dk_at dksL_law_66 20 rfl rfl)
theorem dL_law_1700 : decode cL_law 1700 = .ok (.istore 7, 2) := dk_54 7 (dk_at dksL_law_67 0 rfl rfl)
theorem dL_law_1702 : decode cL_law 1702 = .ok (.aload_n 2, 1) := dk_44 (dk_at dksL_law_67 2 rfl rfl)
theorem dL_law_1703 : decode cL_law 1703 = .ok (.invokevirtual 134, 3) := dk_182 0 134 (dk_at dksL_law_67 3 rfl rfl)
theorem dL_law_1706 : decode cL_law 1706 = .ok (.iload 6, 2) := dk_21 6 (dk_at dksL_law_67 6 rfl rfl)
theorem dL_law_1708 : decode cL_law 1708 = .ok (.if_icmp .eq 5, 3) := dk_159 0 5 (dk_at dksL_law_67 8 rfl rfl)
theorem dL_law_1711 : decode cL_law 1711 = .ok (.iconst 0, 1) := dk_3 (dk_at dksL_law_67 11 rfl rfl)
theorem dL_law_1712 : decode cL_law 1712 = .ok (.ireturn, 1) := dk_172 (dk_at dksL_law_67 12 rfl rfl)
theorem dL_law_1713 : decode cL_law 1713 = .ok (.iload 6, 2) := dk_21 6 (dk_at dksL_law_67 13 rfl rfl)
theorem dL_law_1715 : decode cL_law 1715 = .ok (.ifCond .ne 15, 3) := dk_154 0 15 (dk_at dksL_law_67 15 rfl rfl)
theorem dL_law_1718 : decode cL_law 1718 = .ok (.aload_n 3, 1) := dk_45 (dk_at dksL_law_67 18 rfl rfl)
theorem dL_law_1719 : decode cL_law 1719 = .ok (.iconst 0, 1) := dk_3 (dk_at dksL_law_67 19 rfl rfl)
theorem dL_law_1720 : decode cL_law 1720 = .ok (.laload, 1) := dk_47 (dk_at dksL_law_67 20 rfl rfl)
theorem dL_law_1721 : decode cL_law 1721 = .ok (.iload 7, 2) := dk_21 7 (dk_at dksL_law_67 21 rfl rfl)
theorem dL_law_1723 : decode cL_law 1723 = .ok (.i2l, 1) := dk_133 (dk_at dksL_law_67 23 rfl rfl)
theorem dL_law_1724 : decode cL_law 1724 = .ok (.lcmp, 1) := dk_148 (dk_at dksL_law_68 0 rfl rfl)
theorem dL_law_1725 : decode cL_law 1725 = .ok (.ifCond .eq 5, 3) := dk_153 0 5 (dk_at dksL_law_68 1 rfl rfl)
theorem dL_law_1728 : decode cL_law 1728 = .ok (.iconst 0, 1) := dk_3 (dk_at dksL_law_68 4 rfl rfl)
theorem dL_law_1729 : decode cL_law 1729 = .ok (.ireturn, 1) := dk_172 (dk_at dksL_law_68 5 rfl rfl)
theorem dL_law_1730 : decode cL_law 1730 = .ok (.goto 559, 3) := dk_167 2 47 (dk_at dksL_law_68 6 rfl rfl)
theorem dL_law_1733 : decode cL_law 1733 = .ok (.aload_n 1, 1) := dk_43 (dk_at dksL_law_68 9 rfl rfl)
theorem dL_law_1734 : decode cL_law 1734 = .ok (.aload_n 0, 1) := dk_42 (dk_at dksL_law_68 10 rfl rfl)
theorem dL_law_1735 : decode cL_law 1735 = .ok (.iload 5, 2) := dk_21 5 (dk_at dksL_law_68 11 rfl rfl)
theorem dL_law_1737 : decode cL_law 1737 = .ok (.iconst 1, 1) := dk_4 (dk_at dksL_law_68 13 rfl rfl)
theorem dL_law_1738 : decode cL_law 1738 = .ok (.iadd, 1) := dk_96 (dk_at dksL_law_68 14 rfl rfl)
theorem dL_law_1739 : decode cL_law 1739 = .ok (.iaload, 1) := dk_46 (dk_at dksL_law_68 15 rfl rfl)
theorem dL_law_1740 : decode cL_law 1740 = .ok (.aload_n 3, 1) := dk_45 (dk_at dksL_law_68 16 rfl rfl)
theorem dL_law_1741 : decode cL_law 1741 = .ok (.invokestatic 218, 3) := dk_184 0 218 (dk_at dksL_law_68 17 rfl rfl)
theorem dL_law_1744 : decode cL_law 1744 = .ok (.istore 6, 2) := dk_54 6 (dk_at dksL_law_68 20 rfl rfl)
theorem dL_law_1746 : decode cL_law 1746 = .ok (.aload_n 2, 1) := dk_44 (dk_at dksL_law_68 22 rfl rfl)
theorem dL_law_1747 : decode cL_law 1747 = .ok (.aload_n 0, 1) := dk_42 (dk_at dksL_law_68 23 rfl rfl)
theorem dL_law_1748 : decode cL_law 1748 = .ok (.iload 5, 2) := dk_21 5 (dk_at dksL_law_69 0 rfl rfl)
theorem dL_law_1750 : decode cL_law 1750 = .ok (.iconst 1, 1) := dk_4 (dk_at dksL_law_69 2 rfl rfl)
theorem dL_law_1751 : decode cL_law 1751 = .ok (.iadd, 1) := dk_96 (dk_at dksL_law_69 3 rfl rfl)
theorem dL_law_1752 : decode cL_law 1752 = .ok (.iaload, 1) := dk_46 (dk_at dksL_law_69 4 rfl rfl)
theorem dL_law_1753 : decode cL_law 1753 = .ok (.invokevirtual 220, 3) := dk_182 0 220 (dk_at dksL_law_69 5 rfl rfl)
theorem dL_law_1756 : decode cL_law 1756 = .ok (.istore 7, 2) := dk_54 7 (dk_at dksL_law_69 8 rfl rfl)
theorem dL_law_1758 : decode cL_law 1758 = .ok (.aload_n 2, 1) := dk_44 (dk_at dksL_law_69 10 rfl rfl)
theorem dL_law_1759 : decode cL_law 1759 = .ok (.invokevirtual 134, 3) := dk_182 0 134 (dk_at dksL_law_69 11 rfl rfl)
theorem dL_law_1762 : decode cL_law 1762 = .ok (.iload 6, 2) := dk_21 6 (dk_at dksL_law_69 14 rfl rfl)
theorem dL_law_1764 : decode cL_law 1764 = .ok (.if_icmp .eq 5, 3) := dk_159 0 5 (dk_at dksL_law_69 16 rfl rfl)
theorem dL_law_1767 : decode cL_law 1767 = .ok (.iconst 0, 1) := dk_3 (dk_at dksL_law_69 19 rfl rfl)
theorem dL_law_1768 : decode cL_law 1768 = .ok (.ireturn, 1) := dk_172 (dk_at dksL_law_69 20 rfl rfl)
theorem dL_law_1769 : decode cL_law 1769 = .ok (.iload 6, 2) := dk_21 6 (dk_at dksL_law_69 21 rfl rfl)
theorem dL_law_1771 : decode cL_law 1771 = .ok (.ifCond .ne 15, 3) := dk_154 0 15 (dk_at dksL_law_70 0 rfl rfl)
theorem dL_law_1774 : decode cL_law 1774 = .ok (.aload_n 3, 1) := dk_45 (dk_at dksL_law_70 3 rfl rfl)
theorem dL_law_1775 : decode cL_law 1775 = .ok (.iconst 0, 1) := dk_3 (dk_at dksL_law_70 4 rfl rfl)
theorem dL_law_1776 : decode cL_law 1776 = .ok (.laload, 1) := dk_47 (dk_at dksL_law_70 5 rfl rfl)
theorem dL_law_1777 : decode cL_law 1777 = .ok (.iload 7, 2) := dk_21 7 (dk_at dksL_law_70 6 rfl rfl)
theorem dL_law_1779 : decode cL_law 1779 = .ok (.i2l, 1) := dk_133 (dk_at dksL_law_70 8 rfl rfl)
theorem dL_law_1780 : decode cL_law 1780 = .ok (.lcmp, 1) := dk_148 (dk_at dksL_law_70 9 rfl rfl)
theorem dL_law_1781 : decode cL_law 1781 = .ok (.ifCond .eq 5, 3) := dk_153 0 5 (dk_at dksL_law_70 10 rfl rfl)
theorem dL_law_1784 : decode cL_law 1784 = .ok (.iconst 0, 1) := dk_3 (dk_at dksL_law_70 13 rfl rfl)
theorem dL_law_1785 : decode cL_law 1785 = .ok (.ireturn, 1) := dk_172 (dk_at dksL_law_70 14 rfl rfl)
theorem dL_law_1786 : decode cL_law 1786 = .ok (.goto 503, 3) := dk_167 1 247 (dk_at dksL_law_70 15 rfl rfl)
theorem dL_law_1789 : decode cL_law 1789 = .ok (.aload_n 1, 1) := dk_43 (dk_at dksL_law_70 18 rfl rfl)
theorem dL_law_1790 : decode cL_law 1790 = .ok (.aload_n 0, 1) := dk_42 (dk_at dksL_law_70 19 rfl rfl)
theorem dL_law_1791 : decode cL_law 1791 = .ok (.iload 5, 2) := dk_21 5 (dk_at dksL_law_70 20 rfl rfl)
theorem dL_law_1793 : decode cL_law 1793 = .ok (.iconst 1, 1) := dk_4 (dk_at dksL_law_70 22 rfl rfl)
theorem dL_law_1794 : decode cL_law 1794 = .ok (.iadd, 1) := dk_96 (dk_at dksL_law_70 23 rfl rfl)
theorem dL_law_1795 : decode cL_law 1795 = .ok (.iaload, 1) := dk_46 (dk_at dksL_law_71 0 rfl rfl)
theorem dL_law_1796 : decode cL_law 1796 = .ok (.aload_n 0, 1) := dk_42 (dk_at dksL_law_71 1 rfl rfl)
theorem dL_law_1797 : decode cL_law 1797 = .ok (.iload 5, 2) := dk_21 5 (dk_at dksL_law_71 2 rfl rfl)
theorem dL_law_1799 : decode cL_law 1799 = .ok (.iconst 2, 1) := dk_5 (dk_at dksL_law_71 4 rfl rfl)
theorem dL_law_1800 : decode cL_law 1800 = .ok (.iadd, 1) := dk_96 (dk_at dksL_law_71 5 rfl rfl)
theorem dL_law_1801 : decode cL_law 1801 = .ok (.iaload, 1) := dk_46 (dk_at dksL_law_71 6 rfl rfl)
theorem dL_law_1802 : decode cL_law 1802 = .ok (.aload_n 3, 1) := dk_45 (dk_at dksL_law_71 7 rfl rfl)
theorem dL_law_1803 : decode cL_law 1803 = .ok (.invokestatic 221, 3) := dk_184 0 221 (dk_at dksL_law_71 8 rfl rfl)
theorem dL_law_1806 : decode cL_law 1806 = .ok (.istore 6, 2) := dk_54 6 (dk_at dksL_law_71 11 rfl rfl)
theorem dL_law_1808 : decode cL_law 1808 = .ok (.aload_n 2, 1) := dk_44 (dk_at dksL_law_71 13 rfl rfl)
theorem dL_law_1809 : decode cL_law 1809 = .ok (.aload_n 0, 1) := dk_42 (dk_at dksL_law_71 14 rfl rfl)
theorem dL_law_1810 : decode cL_law 1810 = .ok (.iload 5, 2) := dk_21 5 (dk_at dksL_law_71 15 rfl rfl)
theorem dL_law_1812 : decode cL_law 1812 = .ok (.iconst 1, 1) := dk_4 (dk_at dksL_law_71 17 rfl rfl)
theorem dL_law_1813 : decode cL_law 1813 = .ok (.iadd, 1) := dk_96 (dk_at dksL_law_71 18 rfl rfl)
theorem dL_law_1814 : decode cL_law 1814 = .ok (.iaload, 1) := dk_46 (dk_at dksL_law_71 19 rfl rfl)
theorem dL_law_1815 : decode cL_law 1815 = .ok (.aload_n 0, 1) := dk_42 (dk_at dksL_law_71 20 rfl rfl)
theorem dL_law_1816 : decode cL_law 1816 = .ok (.iload 5, 2) := dk_21 5 (dk_at dksL_law_71 21 rfl rfl)
theorem dL_law_1818 : decode cL_law 1818 = .ok (.iconst 2, 1) := dk_5 (dk_at dksL_law_71 23 rfl rfl)
theorem dL_law_1819 : decode cL_law 1819 = .ok (.iadd, 1) := dk_96 (dk_at dksL_law_72 0 rfl rfl)
theorem dL_law_1820 : decode cL_law 1820 = .ok (.iaload, 1) := dk_46 (dk_at dksL_law_72 1 rfl rfl)
theorem dL_law_1821 : decode cL_law 1821 = .ok (.invokevirtual 223, 3) := dk_182 0 223 (dk_at dksL_law_72 2 rfl rfl)
theorem dL_law_1824 : decode cL_law 1824 = .ok (.istore 7, 2) := dk_54 7 (dk_at dksL_law_72 5 rfl rfl)
theorem dL_law_1826 : decode cL_law 1826 = .ok (.aload_n 2, 1) := dk_44 (dk_at dksL_law_72 7 rfl rfl)
theorem dL_law_1827 : decode cL_law 1827 = .ok (.invokevirtual 134, 3) := dk_182 0 134 (dk_at dksL_law_72 8 rfl rfl)
theorem dL_law_1830 : decode cL_law 1830 = .ok (.iload 6, 2) := dk_21 6 (dk_at dksL_law_72 11 rfl rfl)
theorem dL_law_1832 : decode cL_law 1832 = .ok (.if_icmp .eq 5, 3) := dk_159 0 5 (dk_at dksL_law_72 13 rfl rfl)
theorem dL_law_1835 : decode cL_law 1835 = .ok (.iconst 0, 1) := dk_3 (dk_at dksL_law_72 16 rfl rfl)
theorem dL_law_1836 : decode cL_law 1836 = .ok (.ireturn, 1) := dk_172 (dk_at dksL_law_72 17 rfl rfl)
theorem dL_law_1837 : decode cL_law 1837 = .ok (.iload 6, 2) := dk_21 6 (dk_at dksL_law_72 18 rfl rfl)
theorem dL_law_1839 : decode cL_law 1839 = .ok (.ifCond .ne 15, 3) := dk_154 0 15 (dk_at dksL_law_72 20 rfl rfl)
theorem dL_law_1842 : decode cL_law 1842 = .ok (.aload_n 3, 1) := dk_45 (dk_at dksL_law_72 23 rfl rfl)
theorem dL_law_1843 : decode cL_law 1843 = .ok (.iconst 0, 1) := dk_3 (dk_at dksL_law_73 0 rfl rfl)
theorem dL_law_1844 : decode cL_law 1844 = .ok (.laload, 1) := dk_47 (dk_at dksL_law_73 1 rfl rfl)
theorem dL_law_1845 : decode cL_law 1845 = .ok (.iload 7, 2) := dk_21 7 (dk_at dksL_law_73 2 rfl rfl)
theorem dL_law_1847 : decode cL_law 1847 = .ok (.i2l, 1) := dk_133 (dk_at dksL_law_73 4 rfl rfl)
theorem dL_law_1848 : decode cL_law 1848 = .ok (.lcmp, 1) := dk_148 (dk_at dksL_law_73 5 rfl rfl)
theorem dL_law_1849 : decode cL_law 1849 = .ok (.ifCond .eq 5, 3) := dk_153 0 5 (dk_at dksL_law_73 6 rfl rfl)
theorem dL_law_1852 : decode cL_law 1852 = .ok (.iconst 0, 1) := dk_3 (dk_at dksL_law_73 9 rfl rfl)
theorem dL_law_1853 : decode cL_law 1853 = .ok (.ireturn, 1) := dk_172 (dk_at dksL_law_73 10 rfl rfl)
theorem dL_law_1854 : decode cL_law 1854 = .ok (.goto 435, 3) := dk_167 1 179 (dk_at dksL_law_73 11 rfl rfl)
theorem dL_law_1857 : decode cL_law 1857 = .ok (.aload_n 1, 1) := dk_43 (dk_at dksL_law_73 14 rfl rfl)
theorem dL_law_1858 : decode cL_law 1858 = .ok (.invokevirtual 224, 3) := dk_182 0 224 (dk_at dksL_law_73 15 rfl rfl)
theorem dL_law_1861 : decode cL_law 1861 = .ok (.aload_n 2, 1) := dk_44 (dk_at dksL_law_73 18 rfl rfl)
theorem dL_law_1862 : decode cL_law 1862 = .ok (.invokevirtual 227, 3) := dk_182 0 227 (dk_at dksL_law_73 19 rfl rfl)
theorem dL_law_1865 : decode cL_law 1865 = .ok (.if_icmp .eq 424, 3) := dk_159 1 168 (dk_at dksL_law_74 0 rfl rfl)
theorem dL_law_1868 : decode cL_law 1868 = .ok (.iconst 0, 1) := dk_3 (dk_at dksL_law_74 3 rfl rfl)
theorem dL_law_1869 : decode cL_law 1869 = .ok (.ireturn, 1) := dk_172 (dk_at dksL_law_74 4 rfl rfl)
theorem dL_law_1870 : decode cL_law 1870 = .ok (.aload_n 1, 1) := dk_43 (dk_at dksL_law_74 5 rfl rfl)
theorem dL_law_1871 : decode cL_law 1871 = .ok (.aload_n 0, 1) := dk_42 (dk_at dksL_law_74 6 rfl rfl)
theorem dL_law_1872 : decode cL_law 1872 = .ok (.iload 5, 2) := dk_21 5 (dk_at dksL_law_74 7 rfl rfl)
theorem dL_law_1874 : decode cL_law 1874 = .ok (.iconst 1, 1) := dk_4 (dk_at dksL_law_74 9 rfl rfl)
theorem dL_law_1875 : decode cL_law 1875 = .ok (.iadd, 1) := dk_96 (dk_at dksL_law_74 10 rfl rfl)
theorem dL_law_1876 : decode cL_law 1876 = .ok (.iaload, 1) := dk_46 (dk_at dksL_law_74 11 rfl rfl)
theorem dL_law_1877 : decode cL_law 1877 = .ok (.i2c, 1) := dk_146 (dk_at dksL_law_74 12 rfl rfl)
theorem dL_law_1878 : decode cL_law 1878 = .ok (.aload_n 3, 1) := dk_45 (dk_at dksL_law_74 13 rfl rfl)
theorem dL_law_1879 : decode cL_law 1879 = .ok (.invokestatic 228, 3) := dk_184 0 228 (dk_at dksL_law_74 14 rfl rfl)
theorem dL_law_1882 : decode cL_law 1882 = .ok (.istore 6, 2) := dk_54 6 (dk_at dksL_law_74 17 rfl rfl)
theorem dL_law_1884 : decode cL_law 1884 = .ok (.aload_n 2, 1) := dk_44 (dk_at dksL_law_74 19 rfl rfl)
theorem dL_law_1885 : decode cL_law 1885 = .ok (.aload_n 0, 1) := dk_42 (dk_at dksL_law_74 20 rfl rfl)
theorem dL_law_1886 : decode cL_law 1886 = .ok (.iload 5, 2) := dk_21 5 (dk_at dksL_law_74 21 rfl rfl)
theorem dL_law_1888 : decode cL_law 1888 = .ok (.iconst 1, 1) := dk_4 (dk_at dksL_law_74 23 rfl rfl)
theorem dL_law_1889 : decode cL_law 1889 = .ok (.iadd, 1) := dk_96 (dk_at dksL_law_75 0 rfl rfl)
theorem dL_law_1890 : decode cL_law 1890 = .ok (.iaload, 1) := dk_46 (dk_at dksL_law_75 1 rfl rfl)
theorem dL_law_1891 : decode cL_law 1891 = .ok (.i2c, 1) := dk_146 (dk_at dksL_law_75 2 rfl rfl)
theorem dL_law_1892 : decode cL_law 1892 = .ok (.invokevirtual 231, 3) := dk_182 0 231 (dk_at dksL_law_75 3 rfl rfl)
theorem dL_law_1895 : decode cL_law 1895 = .ok (.istore 7, 2) := dk_54 7 (dk_at dksL_law_75 6 rfl rfl)
theorem dL_law_1897 : decode cL_law 1897 = .ok (.aload_n 2, 1) := dk_44 (dk_at dksL_law_75 8 rfl rfl)
theorem dL_law_1898 : decode cL_law 1898 = .ok (.invokevirtual 134, 3) := dk_182 0 134 (dk_at dksL_law_75 9 rfl rfl)
theorem dL_law_1901 : decode cL_law 1901 = .ok (.iload 6, 2) := dk_21 6 (dk_at dksL_law_75 12 rfl rfl)
theorem dL_law_1903 : decode cL_law 1903 = .ok (.if_icmp .eq 5, 3) := dk_159 0 5 (dk_at dksL_law_75 14 rfl rfl)
theorem dL_law_1906 : decode cL_law 1906 = .ok (.iconst 0, 1) := dk_3 (dk_at dksL_law_75 17 rfl rfl)
theorem dL_law_1907 : decode cL_law 1907 = .ok (.ireturn, 1) := dk_172 (dk_at dksL_law_75 18 rfl rfl)
theorem dL_law_1908 : decode cL_law 1908 = .ok (.iload 6, 2) := dk_21 6 (dk_at dksL_law_75 19 rfl rfl)
theorem dL_law_1910 : decode cL_law 1910 = .ok (.ifCond .ne 15, 3) := dk_154 0 15 (dk_at dksL_law_75 21 rfl rfl)
theorem dL_law_1913 : decode cL_law 1913 = .ok (.aload_n 3, 1) := dk_45 (dk_at dksL_law_76 0 rfl rfl)
theorem dL_law_1914 : decode cL_law 1914 = .ok (.iconst 0, 1) := dk_3 (dk_at dksL_law_76 1 rfl rfl)
theorem dL_law_1915 : decode cL_law 1915 = .ok (.laload, 1) := dk_47 (dk_at dksL_law_76 2 rfl rfl)
theorem dL_law_1916 : decode cL_law 1916 = .ok (.iload 7, 2) := dk_21 7 (dk_at dksL_law_76 3 rfl rfl)
theorem dL_law_1918 : decode cL_law 1918 = .ok (.i2l, 1) := dk_133 (dk_at dksL_law_76 5 rfl rfl)
theorem dL_law_1919 : decode cL_law 1919 = .ok (.lcmp, 1) := dk_148 (dk_at dksL_law_76 6 rfl rfl)
theorem dL_law_1920 : decode cL_law 1920 = .ok (.ifCond .eq 5, 3) := dk_153 0 5 (dk_at dksL_law_76 7 rfl rfl)
theorem dL_law_1923 : decode cL_law 1923 = .ok (.iconst 0, 1) := dk_3 (dk_at dksL_law_76 10 rfl rfl)
theorem dL_law_1924 : decode cL_law 1924 = .ok (.ireturn, 1) := dk_172 (dk_at dksL_law_76 11 rfl rfl)
theorem dL_law_1925 : decode cL_law 1925 = .ok (.goto 364, 3) := dk_167 1 108 (dk_at dksL_law_76 12 rfl rfl)
theorem dL_law_1928 : decode cL_law 1928 = .ok (.aload_n 1, 1) := dk_43 (dk_at dksL_law_76 15 rfl rfl)
theorem dL_law_1929 : decode cL_law 1929 = .ok (.aload_n 3, 1) := dk_45 (dk_at dksL_law_76 16 rfl rfl)
theorem dL_law_1930 : decode cL_law 1930 = .ok (.invokestatic 232, 3) := dk_184 0 232 (dk_at dksL_law_76 17 rfl rfl)
theorem dL_law_1933 : decode cL_law 1933 = .ok (.istore 6, 2) := dk_54 6 (dk_at dksL_law_76 20 rfl rfl)
theorem dL_law_1935 : decode cL_law 1935 = .ok (.aload_n 2, 1) := dk_44 (dk_at dksL_law_76 22 rfl rfl)
theorem dL_law_1936 : decode cL_law 1936 = .ok (.invokevirtual 234, 3) := dk_182 0 234 (dk_at dksL_law_77 0 rfl rfl)
theorem dL_law_1939 : decode cL_law 1939 = .ok (.istore 7, 2) := dk_54 7 (dk_at dksL_law_77 3 rfl rfl)
theorem dL_law_1941 : decode cL_law 1941 = .ok (.aload_n 2, 1) := dk_44 (dk_at dksL_law_77 5 rfl rfl)
theorem dL_law_1942 : decode cL_law 1942 = .ok (.invokevirtual 134, 3) := dk_182 0 134 (dk_at dksL_law_77 6 rfl rfl)
theorem dL_law_1945 : decode cL_law 1945 = .ok (.iload 6, 2) := dk_21 6 (dk_at dksL_law_77 9 rfl rfl)
theorem dL_law_1947 : decode cL_law 1947 = .ok (.if_icmp .eq 5, 3) := dk_159 0 5 (dk_at dksL_law_77 11 rfl rfl)
theorem dL_law_1950 : decode cL_law 1950 = .ok (.iconst 0, 1) := dk_3 (dk_at dksL_law_77 14 rfl rfl)
theorem dL_law_1951 : decode cL_law 1951 = .ok (.ireturn, 1) := dk_172 (dk_at dksL_law_77 15 rfl rfl)
theorem dL_law_1952 : decode cL_law 1952 = .ok (.iload 6, 2) := dk_21 6 (dk_at dksL_law_77 16 rfl rfl)
theorem dL_law_1954 : decode cL_law 1954 = .ok (.ifCond .ne 15, 3) := dk_154 0 15 (dk_at dksL_law_77 18 rfl rfl)
theorem dL_law_1957 : decode cL_law 1957 = .ok (.aload_n 3, 1) := dk_45 (dk_at dksL_law_77 21 rfl rfl)
theorem dL_law_1958 : decode cL_law 1958 = .ok (.iconst 0, 1) := dk_3 (dk_at dksL_law_77 22 rfl rfl)
theorem dL_law_1959 : decode cL_law 1959 = .ok (.laload, 1) := dk_47 (dk_at dksL_law_77 23 rfl rfl)
theorem dL_law_1960 : decode cL_law 1960 = .ok (.iload 7, 2) := dk_21 7 (dk_at dksL_law_78 0 rfl rfl)
theorem dL_law_1962 : decode cL_law 1962 = .ok (.i2l, 1) := dk_133 (dk_at dksL_law_78 2 rfl rfl)
theorem dL_law_1963 : decode cL_law 1963 = .ok (.lcmp, 1) := dk_148 (dk_at dksL_law_78 3 rfl rfl)
theorem dL_law_1964 : decode cL_law 1964 = .ok (.ifCond .eq 5, 3) := dk_153 0 5 (dk_at dksL_law_78 4 rfl rfl)
theorem dL_law_1967 : decode cL_law 1967 = .ok (.iconst 0, 1) := dk_3 (dk_at dksL_law_78 7 rfl rfl)
theorem dL_law_1968 : decode cL_law 1968 = .ok (.ireturn, 1) := dk_172 (dk_at dksL_law_78 8 rfl rfl)
theorem dL_law_1969 : decode cL_law 1969 = .ok (.goto 320, 3) := dk_167 1 64 (dk_at dksL_law_78 9 rfl rfl)
theorem dL_law_1972 : decode cL_law 1972 = .ok (.aload_n 1, 1) := dk_43 (dk_at dksL_law_78 12 rfl rfl)
theorem dL_law_1973 : decode cL_law 1973 = .ok (.aload_n 3, 1) := dk_45 (dk_at dksL_law_78 13 rfl rfl)
theorem dL_law_1974 : decode cL_law 1974 = .ok (.invokestatic 235, 3) := dk_184 0 235 (dk_at dksL_law_78 14 rfl rfl)
theorem dL_law_1977 : decode cL_law 1977 = .ok (.istore 6, 2) := dk_54 6 (dk_at dksL_law_78 17 rfl rfl)
theorem dL_law_1979 : decode cL_law 1979 = .ok (.aload_n 2, 1) := dk_44 (dk_at dksL_law_78 19 rfl rfl)
theorem dL_law_1980 : decode cL_law 1980 = .ok (.invokevirtual 237, 3) := dk_182 0 237 (dk_at dksL_law_78 20 rfl rfl)
theorem dL_law_1983 : decode cL_law 1983 = .ok (.istore 7, 2) := dk_54 7 (dk_at dksL_law_79 0 rfl rfl)
theorem dL_law_1985 : decode cL_law 1985 = .ok (.aload_n 2, 1) := dk_44 (dk_at dksL_law_79 2 rfl rfl)
theorem dL_law_1986 : decode cL_law 1986 = .ok (.invokevirtual 134, 3) := dk_182 0 134 (dk_at dksL_law_79 3 rfl rfl)
theorem dL_law_1989 : decode cL_law 1989 = .ok (.iload 6, 2) := dk_21 6 (dk_at dksL_law_79 6 rfl rfl)
theorem dL_law_1991 : decode cL_law 1991 = .ok (.if_icmp .eq 5, 3) := dk_159 0 5 (dk_at dksL_law_79 8 rfl rfl)
theorem dL_law_1994 : decode cL_law 1994 = .ok (.iconst 0, 1) := dk_3 (dk_at dksL_law_79 11 rfl rfl)
theorem dL_law_1995 : decode cL_law 1995 = .ok (.ireturn, 1) := dk_172 (dk_at dksL_law_79 12 rfl rfl)
theorem dL_law_1996 : decode cL_law 1996 = .ok (.iload 6, 2) := dk_21 6 (dk_at dksL_law_79 13 rfl rfl)
theorem dL_law_1998 : decode cL_law 1998 = .ok (.ifCond .ne 15, 3) := dk_154 0 15 (dk_at dksL_law_79 15 rfl rfl)
theorem dL_law_2001 : decode cL_law 2001 = .ok (.aload_n 3, 1) := dk_45 (dk_at dksL_law_79 18 rfl rfl)
theorem dL_law_2002 : decode cL_law 2002 = .ok (.iconst 0, 1) := dk_3 (dk_at dksL_law_79 19 rfl rfl)
theorem dL_law_2003 : decode cL_law 2003 = .ok (.laload, 1) := dk_47 (dk_at dksL_law_79 20 rfl rfl)
theorem dL_law_2004 : decode cL_law 2004 = .ok (.iload 7, 2) := dk_21 7 (dk_at dksL_law_79 21 rfl rfl)
theorem dL_law_2006 : decode cL_law 2006 = .ok (.i2l, 1) := dk_133 (dk_at dksL_law_79 23 rfl rfl)
theorem dL_law_2007 : decode cL_law 2007 = .ok (.lcmp, 1) := dk_148 (dk_at dksL_law_80 0 rfl rfl)
theorem dL_law_2008 : decode cL_law 2008 = .ok (.ifCond .eq 5, 3) := dk_153 0 5 (dk_at dksL_law_80 1 rfl rfl)
theorem dL_law_2011 : decode cL_law 2011 = .ok (.iconst 0, 1) := dk_3 (dk_at dksL_law_80 4 rfl rfl)
theorem dL_law_2012 : decode cL_law 2012 = .ok (.ireturn, 1) := dk_172 (dk_at dksL_law_80 5 rfl rfl)
theorem dL_law_2013 : decode cL_law 2013 = .ok (.goto 276, 3) := dk_167 1 20 (dk_at dksL_law_80 6 rfl rfl)
theorem dL_law_2016 : decode cL_law 2016 = .ok (.aload_n 1, 1) := dk_43 (dk_at dksL_law_80 9 rfl rfl)
theorem dL_law_2017 : decode cL_law 2017 = .ok (.aload_n 3, 1) := dk_45 (dk_at dksL_law_80 10 rfl rfl)
theorem dL_law_2018 : decode cL_law 2018 = .ok (.invokestatic 238, 3) := dk_184 0 238 (dk_at dksL_law_80 11 rfl rfl)
theorem dL_law_2021 : decode cL_law 2021 = .ok (.istore 6, 2) := dk_54 6 (dk_at dksL_law_80 14 rfl rfl)
theorem dL_law_2023 : decode cL_law 2023 = .ok (.aload_n 2, 1) := dk_44 (dk_at dksL_law_80 16 rfl rfl)
theorem dL_law_2024 : decode cL_law 2024 = .ok (.invokevirtual 240, 3) := dk_182 0 240 (dk_at dksL_law_80 17 rfl rfl)
theorem dL_law_2027 : decode cL_law 2027 = .ok (.istore 7, 2) := dk_54 7 (dk_at dksL_law_80 20 rfl rfl)
theorem dL_law_2029 : decode cL_law 2029 = .ok (.aload_n 2, 1) := dk_44 (dk_at dksL_law_80 22 rfl rfl)
theorem dL_law_2030 : decode cL_law 2030 = .ok (.invokevirtual 134, 3) := dk_182 0 134 (dk_at dksL_law_81 0 rfl rfl)
theorem dL_law_2033 : decode cL_law 2033 = .ok (.iload 6, 2) := dk_21 6 (dk_at dksL_law_81 3 rfl rfl)
theorem dL_law_2035 : decode cL_law 2035 = .ok (.if_icmp .eq 5, 3) := dk_159 0 5 (dk_at dksL_law_81 5 rfl rfl)
theorem dL_law_2038 : decode cL_law 2038 = .ok (.iconst 0, 1) := dk_3 (dk_at dksL_law_81 8 rfl rfl)
theorem dL_law_2039 : decode cL_law 2039 = .ok (.ireturn, 1) := dk_172 (dk_at dksL_law_81 9 rfl rfl)
theorem dL_law_2040 : decode cL_law 2040 = .ok (.iload 6, 2) := dk_21 6 (dk_at dksL_law_81 10 rfl rfl)
theorem dL_law_2042 : decode cL_law 2042 = .ok (.ifCond .ne 15, 3) := dk_154 0 15 (dk_at dksL_law_81 12 rfl rfl)
theorem dL_law_2045 : decode cL_law 2045 = .ok (.aload_n 3, 1) := dk_45 (dk_at dksL_law_81 15 rfl rfl)
theorem dL_law_2046 : decode cL_law 2046 = .ok (.iconst 0, 1) := dk_3 (dk_at dksL_law_81 16 rfl rfl)
theorem dL_law_2047 : decode cL_law 2047 = .ok (.laload, 1) := dk_47 (dk_at dksL_law_81 17 rfl rfl)
theorem dL_law_2048 : decode cL_law 2048 = .ok (.iload 7, 2) := dk_21 7 (dk_at dksL_law_81 18 rfl rfl)
theorem dL_law_2050 : decode cL_law 2050 = .ok (.i2l, 1) := dk_133 (dk_at dksL_law_81 20 rfl rfl)
theorem dL_law_2051 : decode cL_law 2051 = .ok (.lcmp, 1) := dk_148 (dk_at dksL_law_81 21 rfl rfl)
theorem dL_law_2052 : decode cL_law 2052 = .ok (.ifCond .eq 5, 3) := dk_153 0 5 (dk_at dksL_law_82 0 rfl rfl)
theorem dL_law_2055 : decode cL_law 2055 = .ok (.iconst 0, 1) := dk_3 (dk_at dksL_law_82 3 rfl rfl)
theorem dL_law_2056 : decode cL_law 2056 = .ok (.ireturn, 1) := dk_172 (dk_at dksL_law_82 4 rfl rfl)
theorem dL_law_2057 : decode cL_law 2057 = .ok (.goto 232, 3) := dk_167 0 232 (dk_at dksL_law_82 5 rfl rfl)
theorem dL_law_2060 : decode cL_law 2060 = .ok (.aload_n 1, 1) := dk_43 (dk_at dksL_law_82 8 rfl rfl)
theorem dL_law_2061 : decode cL_law 2061 = .ok (.aload_n 0, 1) := dk_42 (dk_at dksL_law_82 9 rfl rfl)
theorem dL_law_2062 : decode cL_law 2062 = .ok (.iload 5, 2) := dk_21 5 (dk_at dksL_law_82 10 rfl rfl)
theorem dL_law_2064 : decode cL_law 2064 = .ok (.iconst 1, 1) := dk_4 (dk_at dksL_law_82 12 rfl rfl)
theorem dL_law_2065 : decode cL_law 2065 = .ok (.iadd, 1) := dk_96 (dk_at dksL_law_82 13 rfl rfl)
theorem dL_law_2066 : decode cL_law 2066 = .ok (.iaload, 1) := dk_46 (dk_at dksL_law_82 14 rfl rfl)
theorem dL_law_2067 : decode cL_law 2067 = .ok (.ifCond .eq 7, 3) := dk_153 0 7 (dk_at dksL_law_82 15 rfl rfl)
theorem dL_law_2070 : decode cL_law 2070 = .ok (.iconst 1, 1) := dk_4 (dk_at dksL_law_82 18 rfl rfl)
theorem dL_law_2071 : decode cL_law 2071 = .ok (.goto 4, 3) := dk_167 0 4 (dk_at dksL_law_82 19 rfl rfl)
theorem dL_law_2074 : decode cL_law 2074 = .ok (.iconst 0, 1) := dk_3 (dk_at dksL_law_82 22 rfl rfl)
theorem dL_law_2075 : decode cL_law 2075 = .ok (.aload_n 3, 1) := dk_45 (dk_at dksL_law_82 23 rfl rfl)
theorem dL_law_2076 : decode cL_law 2076 = .ok (.invokestatic 241, 3) := dk_184 0 241 (dk_at dksL_law_83 0 rfl rfl)
theorem dL_law_2079 : decode cL_law 2079 = .ok (.istore 6, 2) := dk_54 6 (dk_at dksL_law_83 3 rfl rfl)
theorem dL_law_2081 : decode cL_law 2081 = .ok (.aload_n 2, 1) := dk_44 (dk_at dksL_law_83 5 rfl rfl)
theorem dL_law_2082 : decode cL_law 2082 = .ok (.aload_n 0, 1) := dk_42 (dk_at dksL_law_83 6 rfl rfl)
theorem dL_law_2083 : decode cL_law 2083 = .ok (.iload 5, 2) := dk_21 5 (dk_at dksL_law_83 7 rfl rfl)
theorem dL_law_2085 : decode cL_law 2085 = .ok (.iconst 1, 1) := dk_4 (dk_at dksL_law_83 9 rfl rfl)
theorem dL_law_2086 : decode cL_law 2086 = .ok (.iadd, 1) := dk_96 (dk_at dksL_law_83 10 rfl rfl)
theorem dL_law_2087 : decode cL_law 2087 = .ok (.iaload, 1) := dk_46 (dk_at dksL_law_83 11 rfl rfl)
theorem dL_law_2088 : decode cL_law 2088 = .ok (.ifCond .eq 7, 3) := dk_153 0 7 (dk_at dksL_law_83 12 rfl rfl)
theorem dL_law_2091 : decode cL_law 2091 = .ok (.iconst 1, 1) := dk_4 (dk_at dksL_law_83 15 rfl rfl)
theorem dL_law_2092 : decode cL_law 2092 = .ok (.goto 4, 3) := dk_167 0 4 (dk_at dksL_law_83 16 rfl rfl)
theorem dL_law_2095 : decode cL_law 2095 = .ok (.iconst 0, 1) := dk_3 (dk_at dksL_law_83 19 rfl rfl)
theorem dL_law_2096 : decode cL_law 2096 = .ok (.invokevirtual 244, 3) := dk_182 0 244 (dk_at dksL_law_83 20 rfl rfl)
theorem dL_law_2099 : decode cL_law 2099 = .ok (.istore 7, 2) := dk_54 7 (dk_at dksL_law_84 0 rfl rfl)
theorem dL_law_2101 : decode cL_law 2101 = .ok (.aload_n 2, 1) := dk_44 (dk_at dksL_law_84 2 rfl rfl)
theorem dL_law_2102 : decode cL_law 2102 = .ok (.invokevirtual 134, 3) := dk_182 0 134 (dk_at dksL_law_84 3 rfl rfl)
theorem dL_law_2105 : decode cL_law 2105 = .ok (.iload 6, 2) := dk_21 6 (dk_at dksL_law_84 6 rfl rfl)
theorem dL_law_2107 : decode cL_law 2107 = .ok (.if_icmp .eq 5, 3) := dk_159 0 5 (dk_at dksL_law_84 8 rfl rfl)
theorem dL_law_2110 : decode cL_law 2110 = .ok (.iconst 0, 1) := dk_3 (dk_at dksL_law_84 11 rfl rfl)
theorem dL_law_2111 : decode cL_law 2111 = .ok (.ireturn, 1) := dk_172 (dk_at dksL_law_84 12 rfl rfl)
theorem dL_law_2112 : decode cL_law 2112 = .ok (.iload 6, 2) := dk_21 6 (dk_at dksL_law_84 13 rfl rfl)
theorem dL_law_2114 : decode cL_law 2114 = .ok (.ifCond .ne 15, 3) := dk_154 0 15 (dk_at dksL_law_84 15 rfl rfl)
theorem dL_law_2117 : decode cL_law 2117 = .ok (.aload_n 3, 1) := dk_45 (dk_at dksL_law_84 18 rfl rfl)
theorem dL_law_2118 : decode cL_law 2118 = .ok (.iconst 0, 1) := dk_3 (dk_at dksL_law_84 19 rfl rfl)
theorem dL_law_2119 : decode cL_law 2119 = .ok (.laload, 1) := dk_47 (dk_at dksL_law_84 20 rfl rfl)
theorem dL_law_2120 : decode cL_law 2120 = .ok (.iload 7, 2) := dk_21 7 (dk_at dksL_law_84 21 rfl rfl)
theorem dL_law_2122 : decode cL_law 2122 = .ok (.i2l, 1) := dk_133 (dk_at dksL_law_84 23 rfl rfl)
theorem dL_law_2123 : decode cL_law 2123 = .ok (.lcmp, 1) := dk_148 (dk_at dksL_law_85 0 rfl rfl)
theorem dL_law_2124 : decode cL_law 2124 = .ok (.ifCond .eq 5, 3) := dk_153 0 5 (dk_at dksL_law_85 1 rfl rfl)
theorem dL_law_2127 : decode cL_law 2127 = .ok (.iconst 0, 1) := dk_3 (dk_at dksL_law_85 4 rfl rfl)
theorem dL_law_2128 : decode cL_law 2128 = .ok (.ireturn, 1) := dk_172 (dk_at dksL_law_85 5 rfl rfl)
theorem dL_law_2129 : decode cL_law 2129 = .ok (.goto 160, 3) := dk_167 0 160 (dk_at dksL_law_85 6 rfl rfl)
theorem dL_law_2132 : decode cL_law 2132 = .ok (.aload_n 1, 1) := dk_43 (dk_at dksL_law_85 9 rfl rfl)
theorem dL_law_2133 : decode cL_law 2133 = .ok (.aload_n 0, 1) := dk_42 (dk_at dksL_law_85 10 rfl rfl)
theorem dL_law_2134 : decode cL_law 2134 = .ok (.iload 5, 2) := dk_21 5 (dk_at dksL_law_85 11 rfl rfl)
theorem dL_law_2136 : decode cL_law 2136 = .ok (.iconst 1, 1) := dk_4 (dk_at dksL_law_85 13 rfl rfl)
theorem dL_law_2137 : decode cL_law 2137 = .ok (.iadd, 1) := dk_96 (dk_at dksL_law_85 14 rfl rfl)
theorem dL_law_2138 : decode cL_law 2138 = .ok (.iaload, 1) := dk_46 (dk_at dksL_law_85 15 rfl rfl)
theorem dL_law_2139 : decode cL_law 2139 = .ok (.aload_n 3, 1) := dk_45 (dk_at dksL_law_85 16 rfl rfl)
theorem dL_law_2140 : decode cL_law 2140 = .ok (.invokestatic 245, 3) := dk_184 0 245 (dk_at dksL_law_85 17 rfl rfl)
theorem dL_law_2143 : decode cL_law 2143 = .ok (.istore 6, 2) := dk_54 6 (dk_at dksL_law_85 20 rfl rfl)
theorem dL_law_2145 : decode cL_law 2145 = .ok (.aload_n 2, 1) := dk_44 (dk_at dksL_law_85 22 rfl rfl)
theorem dL_law_2146 : decode cL_law 2146 = .ok (.aload_n 0, 1) := dk_42 (dk_at dksL_law_85 23 rfl rfl)
theorem dL_law_2147 : decode cL_law 2147 = .ok (.iload 5, 2) := dk_21 5 (dk_at dksL_law_86 0 rfl rfl)
theorem dL_law_2149 : decode cL_law 2149 = .ok (.iconst 1, 1) := dk_4 (dk_at dksL_law_86 2 rfl rfl)
theorem dL_law_2150 : decode cL_law 2150 = .ok (.iadd, 1) := dk_96 (dk_at dksL_law_86 3 rfl rfl)
theorem dL_law_2151 : decode cL_law 2151 = .ok (.iaload, 1) := dk_46 (dk_at dksL_law_86 4 rfl rfl)
theorem dL_law_2152 : decode cL_law 2152 = .ok (.invokevirtual 247, 3) := dk_182 0 247 (dk_at dksL_law_86 5 rfl rfl)
theorem dL_law_2155 : decode cL_law 2155 = .ok (.istore 7, 2) := dk_54 7 (dk_at dksL_law_86 8 rfl rfl)
theorem dL_law_2157 : decode cL_law 2157 = .ok (.aload_n 2, 1) := dk_44 (dk_at dksL_law_86 10 rfl rfl)
theorem dL_law_2158 : decode cL_law 2158 = .ok (.invokevirtual 134, 3) := dk_182 0 134 (dk_at dksL_law_86 11 rfl rfl)
theorem dL_law_2161 : decode cL_law 2161 = .ok (.iload 6, 2) := dk_21 6 (dk_at dksL_law_86 14 rfl rfl)
theorem dL_law_2163 : decode cL_law 2163 = .ok (.if_icmp .eq 5, 3) := dk_159 0 5 (dk_at dksL_law_86 16 rfl rfl)
theorem dL_law_2166 : decode cL_law 2166 = .ok (.iconst 0, 1) := dk_3 (dk_at dksL_law_86 19 rfl rfl)
theorem dL_law_2167 : decode cL_law 2167 = .ok (.ireturn, 1) := dk_172 (dk_at dksL_law_86 20 rfl rfl)
theorem dL_law_2168 : decode cL_law 2168 = .ok (.iload 6, 2) := dk_21 6 (dk_at dksL_law_86 21 rfl rfl)
theorem dL_law_2170 : decode cL_law 2170 = .ok (.ifCond .ne 15, 3) := dk_154 0 15 (dk_at dksL_law_87 0 rfl rfl)
theorem dL_law_2173 : decode cL_law 2173 = .ok (.aload_n 3, 1) := dk_45 (dk_at dksL_law_87 3 rfl rfl)
theorem dL_law_2174 : decode cL_law 2174 = .ok (.iconst 0, 1) := dk_3 (dk_at dksL_law_87 4 rfl rfl)
theorem dL_law_2175 : decode cL_law 2175 = .ok (.laload, 1) := dk_47 (dk_at dksL_law_87 5 rfl rfl)
theorem dL_law_2176 : decode cL_law 2176 = .ok (.iload 7, 2) := dk_21 7 (dk_at dksL_law_87 6 rfl rfl)
theorem dL_law_2178 : decode cL_law 2178 = .ok (.i2l, 1) := dk_133 (dk_at dksL_law_87 8 rfl rfl)
theorem dL_law_2179 : decode cL_law 2179 = .ok (.lcmp, 1) := dk_148 (dk_at dksL_law_87 9 rfl rfl)
theorem dL_law_2180 : decode cL_law 2180 = .ok (.ifCond .eq 5, 3) := dk_153 0 5 (dk_at dksL_law_87 10 rfl rfl)
theorem dL_law_2183 : decode cL_law 2183 = .ok (.iconst 0, 1) := dk_3 (dk_at dksL_law_87 13 rfl rfl)
theorem dL_law_2184 : decode cL_law 2184 = .ok (.ireturn, 1) := dk_172 (dk_at dksL_law_87 14 rfl rfl)
theorem dL_law_2185 : decode cL_law 2185 = .ok (.goto 104, 3) := dk_167 0 104 (dk_at dksL_law_87 15 rfl rfl)
theorem dL_law_2188 : decode cL_law 2188 = .ok (.aload_n 1, 1) := dk_43 (dk_at dksL_law_87 18 rfl rfl)
theorem dL_law_2189 : decode cL_law 2189 = .ok (.aload_n 3, 1) := dk_45 (dk_at dksL_law_87 19 rfl rfl)
theorem dL_law_2190 : decode cL_law 2190 = .ok (.invokestatic 248, 3) := dk_184 0 248 (dk_at dksL_law_87 20 rfl rfl)
theorem dL_law_2193 : decode cL_law 2193 = .ok (.istore 6, 2) := dk_54 6 (dk_at dksL_law_88 0 rfl rfl)
theorem dL_law_2195 : decode cL_law 2195 = .ok (.aload_n 2, 1) := dk_44 (dk_at dksL_law_88 2 rfl rfl)
theorem dL_law_2196 : decode cL_law 2196 = .ok (.invokevirtual 250, 3) := dk_182 0 250 (dk_at dksL_law_88 3 rfl rfl)
theorem dL_law_2199 : decode cL_law 2199 = .ok (.istore 7, 2) := dk_54 7 (dk_at dksL_law_88 6 rfl rfl)
theorem dL_law_2201 : decode cL_law 2201 = .ok (.aload_n 2, 1) := dk_44 (dk_at dksL_law_88 8 rfl rfl)
theorem dL_law_2202 : decode cL_law 2202 = .ok (.invokevirtual 134, 3) := dk_182 0 134 (dk_at dksL_law_88 9 rfl rfl)
theorem dL_law_2205 : decode cL_law 2205 = .ok (.iload 6, 2) := dk_21 6 (dk_at dksL_law_88 12 rfl rfl)
theorem dL_law_2207 : decode cL_law 2207 = .ok (.if_icmp .eq 5, 3) := dk_159 0 5 (dk_at dksL_law_88 14 rfl rfl)
theorem dL_law_2210 : decode cL_law 2210 = .ok (.iconst 0, 1) := dk_3 (dk_at dksL_law_88 17 rfl rfl)
theorem dL_law_2211 : decode cL_law 2211 = .ok (.ireturn, 1) := dk_172 (dk_at dksL_law_88 18 rfl rfl)
theorem dL_law_2212 : decode cL_law 2212 = .ok (.iload 6, 2) := dk_21 6 (dk_at dksL_law_88 19 rfl rfl)
theorem dL_law_2214 : decode cL_law 2214 = .ok (.ifCond .ne 15, 3) := dk_154 0 15 (dk_at dksL_law_88 21 rfl rfl)
theorem dL_law_2217 : decode cL_law 2217 = .ok (.aload_n 3, 1) := dk_45 (dk_at dksL_law_89 0 rfl rfl)
theorem dL_law_2218 : decode cL_law 2218 = .ok (.iconst 0, 1) := dk_3 (dk_at dksL_law_89 1 rfl rfl)
theorem dL_law_2219 : decode cL_law 2219 = .ok (.laload, 1) := dk_47 (dk_at dksL_law_89 2 rfl rfl)
theorem dL_law_2220 : decode cL_law 2220 = .ok (.iload 7, 2) := dk_21 7 (dk_at dksL_law_89 3 rfl rfl)
theorem dL_law_2222 : decode cL_law 2222 = .ok (.i2l, 1) := dk_133 (dk_at dksL_law_89 5 rfl rfl)
theorem dL_law_2223 : decode cL_law 2223 = .ok (.lcmp, 1) := dk_148 (dk_at dksL_law_89 6 rfl rfl)
theorem dL_law_2224 : decode cL_law 2224 = .ok (.ifCond .eq 5, 3) := dk_153 0 5 (dk_at dksL_law_89 7 rfl rfl)
theorem dL_law_2227 : decode cL_law 2227 = .ok (.iconst 0, 1) := dk_3 (dk_at dksL_law_89 10 rfl rfl)
theorem dL_law_2228 : decode cL_law 2228 = .ok (.ireturn, 1) := dk_172 (dk_at dksL_law_89 11 rfl rfl)
theorem dL_law_2229 : decode cL_law 2229 = .ok (.goto 60, 3) := dk_167 0 60 (dk_at dksL_law_89 12 rfl rfl)
theorem dL_law_2232 : decode cL_law 2232 = .ok (.aload_n 1, 1) := dk_43 (dk_at dksL_law_89 15 rfl rfl)
theorem dL_law_2233 : decode cL_law 2233 = .ok (.invokevirtual 251, 3) := dk_182 0 251 (dk_at dksL_law_89 16 rfl rfl)
theorem dL_law_2236 : decode cL_law 2236 = .ok (.aload_n 2, 1) := dk_44 (dk_at dksL_law_89 19 rfl rfl)
theorem dL_law_2237 : decode cL_law 2237 = .ok (.invokevirtual 254, 3) := dk_182 0 254 (dk_at dksL_law_89 20 rfl rfl)
theorem dL_law_2240 : decode cL_law 2240 = .ok (.if_icmp .eq 49, 3) := dk_159 0 49 (dk_at dksL_law_90 0 rfl rfl)
theorem dL_law_2243 : decode cL_law 2243 = .ok (.iconst 0, 1) := dk_3 (dk_at dksL_law_90 3 rfl rfl)
theorem dL_law_2244 : decode cL_law 2244 = .ok (.ireturn, 1) := dk_172 (dk_at dksL_law_90 4 rfl rfl)
theorem dL_law_2245 : decode cL_law 2245 = .ok (.aload_n 1, 1) := dk_43 (dk_at dksL_law_90 5 rfl rfl)
theorem dL_law_2246 : decode cL_law 2246 = .ok (.aload_n 3, 1) := dk_45 (dk_at dksL_law_90 6 rfl rfl)
theorem dL_law_2247 : decode cL_law 2247 = .ok (.invokestatic 255, 3) := dk_184 0 255 (dk_at dksL_law_90 7 rfl rfl)
theorem dL_law_2250 : decode cL_law 2250 = .ok (.istore 6, 2) := dk_54 6 (dk_at dksL_law_90 10 rfl rfl)
theorem dL_law_2252 : decode cL_law 2252 = .ok (.aload_n 2, 1) := dk_44 (dk_at dksL_law_90 12 rfl rfl)
theorem dL_law_2253 : decode cL_law 2253 = .ok (.invokevirtual 257, 3) := dk_182 1 1 (dk_at dksL_law_90 13 rfl rfl)
theorem dL_law_2256 : decode cL_law 2256 = .ok (.istore 7, 2) := dk_54 7 (dk_at dksL_law_90 16 rfl rfl)
theorem dL_law_2258 : decode cL_law 2258 = .ok (.aload_n 2, 1) := dk_44 (dk_at dksL_law_90 18 rfl rfl)
theorem dL_law_2259 : decode cL_law 2259 = .ok (.invokevirtual 134, 3) := dk_182 0 134 (dk_at dksL_law_90 19 rfl rfl)
theorem dL_law_2262 : decode cL_law 2262 = .ok (.iload 6, 2) := dk_21 6 (dk_at dksL_law_90 22 rfl rfl)
theorem dL_law_2264 : decode cL_law 2264 = .ok (.if_icmp .eq 5, 3) := dk_159 0 5 (dk_at dksL_law_91 0 rfl rfl)
theorem dL_law_2267 : decode cL_law 2267 = .ok (.iconst 0, 1) := dk_3 (dk_at dksL_law_91 3 rfl rfl)
theorem dL_law_2268 : decode cL_law 2268 = .ok (.ireturn, 1) := dk_172 (dk_at dksL_law_91 4 rfl rfl)
theorem dL_law_2269 : decode cL_law 2269 = .ok (.iload 6, 2) := dk_21 6 (dk_at dksL_law_91 5 rfl rfl)
theorem dL_law_2271 : decode cL_law 2271 = .ok (.ifCond .ne 15, 3) := dk_154 0 15 (dk_at dksL_law_91 7 rfl rfl)
theorem dL_law_2274 : decode cL_law 2274 = .ok (.aload_n 3, 1) := dk_45 (dk_at dksL_law_91 10 rfl rfl)
theorem dL_law_2275 : decode cL_law 2275 = .ok (.iconst 0, 1) := dk_3 (dk_at dksL_law_91 11 rfl rfl)
theorem dL_law_2276 : decode cL_law 2276 = .ok (.laload, 1) := dk_47 (dk_at dksL_law_91 12 rfl rfl)
theorem dL_law_2277 : decode cL_law 2277 = .ok (.iload 7, 2) := dk_21 7 (dk_at dksL_law_91 13 rfl rfl)
theorem dL_law_2279 : decode cL_law 2279 = .ok (.i2l, 1) := dk_133 (dk_at dksL_law_91 15 rfl rfl)
theorem dL_law_2280 : decode cL_law 2280 = .ok (.lcmp, 1) := dk_148 (dk_at dksL_law_91 16 rfl rfl)
theorem dL_law_2281 : decode cL_law 2281 = .ok (.ifCond .eq 5, 3) := dk_153 0 5 (dk_at dksL_law_91 17 rfl rfl)
theorem dL_law_2284 : decode cL_law 2284 = .ok (.iconst 0, 1) := dk_3 (dk_at dksL_law_91 20 rfl rfl)
theorem dL_law_2285 : decode cL_law 2285 = .ok (.ireturn, 1) := dk_172 (dk_at dksL_law_91 21 rfl rfl)
theorem dL_law_2286 : decode cL_law 2286 = .ok (.goto 3, 3) := dk_167 0 3 (dk_at dksL_law_92 0 rfl rfl)
theorem dL_law_2289 : decode cL_law 2289 = .ok (.iinc 5 5, 3) := dk_132 5 5 (dk_at dksL_law_92 3 rfl rfl)
theorem dL_law_2292 : decode cL_law 2292 = .ok (.goto (-2264), 3) := dk_167 247 40 (dk_at dksL_law_92 6 rfl rfl)
theorem dL_law_2295 : decode cL_law 2295 = .ok (.iconst 1, 1) := dk_4 (dk_at dksL_law_92 9 rfl rfl)
theorem dL_law_2296 : decode cL_law 2296 = .ok (.ireturn, 1) := dk_172 (dk_at dksL_law_92 10 rfl rfl)
