/-! GlassLeadersLaw -/
set_option maxRecDepth 100000
def RX0 : String := "GlassLeadersLaw"
abbrev cX0_land : ByteArray := method_3_code
def yX0_land : MethodName := ⟨RX0, "land", "(LGlassLeaders;I[J)I"⟩
def dkwX0_land_0 : List UInt8 := [44, 3, 42, 27, 182, 0, 7, 133, 80, 167, 0, 6, 78, 4, 172, 3, 172]
abbrev dktX0_land_0 : List UInt8 := dkwX0_land_0 ++ []
theorem dksX0_land_0 : cX0_land.data.toList.drop 0 = dktX0_land_0 := by decide +kernel
theorem dX0_land_0 : decode cX0_land 0 = .ok (.aload_n 2, 1) := dk_44 (dk_at dksX0_land_0 0 rfl rfl)
theorem dX0_land_1 : decode cX0_land 1 = .ok (.iconst 0, 1) := dk_3 (dk_at dksX0_land_0 1 rfl rfl)
theorem dX0_land_2 : decode cX0_land 2 = .ok (.aload_n 0, 1) := dk_42 (dk_at dksX0_land_0 2 rfl rfl)
theorem dX0_land_3 : decode cX0_land 3 = .ok (.iload_n 1, 1) := dk_27 (dk_at dksX0_land_0 3 rfl rfl)
theorem dX0_land_4 : decode cX0_land 4 = .ok (.invokevirtual 7, 3) := dk_182 0 7 (dk_at dksX0_land_0 4 rfl rfl)
theorem dX0_land_7 : decode cX0_land 7 = .ok (.i2l, 1) := dk_133 (dk_at dksX0_land_0 7 rfl rfl)
theorem dX0_land_8 : decode cX0_land 8 = .ok (.lastore, 1) := dk_80 (dk_at dksX0_land_0 8 rfl rfl)
theorem dX0_land_9 : decode cX0_land 9 = .ok (.goto 6, 3) := dk_167 0 6 (dk_at dksX0_land_0 9 rfl rfl)
theorem dX0_land_12 : decode cX0_land 12 = .ok (.astore_n 3, 1) := dk_78 (dk_at dksX0_land_0 12 rfl rfl)
theorem dX0_land_13 : decode cX0_land 13 = .ok (.iconst 1, 1) := dk_4 (dk_at dksX0_land_0 13 rfl rfl)
theorem dX0_land_14 : decode cX0_land 14 = .ok (.ireturn, 1) := dk_172 (dk_at dksX0_land_0 14 rfl rfl)
theorem dX0_land_15 : decode cX0_land 15 = .ok (.iconst 0, 1) := dk_3 (dk_at dksX0_land_0 15 rfl rfl)
theorem dX0_land_16 : decode cX0_land 16 = .ok (.ireturn, 1) := dk_172 (dk_at dksX0_land_0 16 rfl rfl)
abbrev cX0_law : ByteArray := method_4_code
def yX0_law : MethodName := ⟨RX0, "law", "(LGlassLeaders;I[J)I"⟩
def dkwX0_law_0 : List UInt8 := [44, 3, 42, 27, 182, 0, 15, 133, 80, 167, 0, 6, 78, 4, 172, 3, 172]
abbrev dktX0_law_0 : List UInt8 := dkwX0_law_0 ++ []
theorem dksX0_law_0 : cX0_law.data.toList.drop 0 = dktX0_law_0 := by decide +kernel
theorem dX0_law_0 : decode cX0_law 0 = .ok (.aload_n 2, 1) := dk_44 (dk_at dksX0_law_0 0 rfl rfl)
theorem dX0_law_1 : decode cX0_law 1 = .ok (.iconst 0, 1) := dk_3 (dk_at dksX0_law_0 1 rfl rfl)
theorem dX0_law_2 : decode cX0_law 2 = .ok (.aload_n 0, 1) := dk_42 (dk_at dksX0_law_0 2 rfl rfl)
theorem dX0_law_3 : decode cX0_law 3 = .ok (.iload_n 1, 1) := dk_27 (dk_at dksX0_law_0 3 rfl rfl)
theorem dX0_law_4 : decode cX0_law 4 = .ok (.invokevirtual 15, 3) := dk_182 0 15 (dk_at dksX0_law_0 4 rfl rfl)
theorem dX0_law_7 : decode cX0_law 7 = .ok (.i2l, 1) := dk_133 (dk_at dksX0_law_0 7 rfl rfl)
theorem dX0_law_8 : decode cX0_law 8 = .ok (.lastore, 1) := dk_80 (dk_at dksX0_law_0 8 rfl rfl)
theorem dX0_law_9 : decode cX0_law 9 = .ok (.goto 6, 3) := dk_167 0 6 (dk_at dksX0_law_0 9 rfl rfl)
theorem dX0_law_12 : decode cX0_law 12 = .ok (.astore_n 3, 1) := dk_78 (dk_at dksX0_law_0 12 rfl rfl)
theorem dX0_law_13 : decode cX0_law 13 = .ok (.iconst 1, 1) := dk_4 (dk_at dksX0_law_0 13 rfl rfl)
theorem dX0_law_14 : decode cX0_law 14 = .ok (.ireturn, 1) := dk_172 (dk_at dksX0_law_0 14 rfl rfl)
theorem dX0_law_15 : decode cX0_law 15 = .ok (.iconst 0, 1) := dk_3 (dk_at dksX0_law_0 15 rfl rfl)
theorem dX0_law_16 : decode cX0_law 16 = .ok (.ireturn, 1) := dk_172 (dk_at dksX0_law_0 16 rfl rfl)
abbrev cX0_told : ByteArray := method_5_code
def yX0_told : MethodName := ⟨RX0, "told", "(LGlassLeaders;I[J)I"⟩
def dkwX0_told_0 : List UInt8 := [44, 3, 42, 27, 182, 0, 18, 133, 80, 167, 0, 6, 78, 4, 172, 3, 172]
abbrev dktX0_told_0 : List UInt8 := dkwX0_told_0 ++ []
theorem dksX0_told_0 : cX0_told.data.toList.drop 0 = dktX0_told_0 := by decide +kernel
theorem dX0_told_0 : decode cX0_told 0 = .ok (.aload_n 2, 1) := dk_44 (dk_at dksX0_told_0 0 rfl rfl)
theorem dX0_told_1 : decode cX0_told 1 = .ok (.iconst 0, 1) := dk_3 (dk_at dksX0_told_0 1 rfl rfl)
theorem dX0_told_2 : decode cX0_told 2 = .ok (.aload_n 0, 1) := dk_42 (dk_at dksX0_told_0 2 rfl rfl)
theorem dX0_told_3 : decode cX0_told 3 = .ok (.iload_n 1, 1) := dk_27 (dk_at dksX0_told_0 3 rfl rfl)
theorem dX0_told_4 : decode cX0_told 4 = .ok (.invokevirtual 18, 3) := dk_182 0 18 (dk_at dksX0_told_0 4 rfl rfl)
theorem dX0_told_7 : decode cX0_told 7 = .ok (.i2l, 1) := dk_133 (dk_at dksX0_told_0 7 rfl rfl)
theorem dX0_told_8 : decode cX0_told 8 = .ok (.lastore, 1) := dk_80 (dk_at dksX0_told_0 8 rfl rfl)
theorem dX0_told_9 : decode cX0_told 9 = .ok (.goto 6, 3) := dk_167 0 6 (dk_at dksX0_told_0 9 rfl rfl)
theorem dX0_told_12 : decode cX0_told 12 = .ok (.astore_n 3, 1) := dk_78 (dk_at dksX0_told_0 12 rfl rfl)
theorem dX0_told_13 : decode cX0_told 13 = .ok (.iconst 1, 1) := dk_4 (dk_at dksX0_told_0 13 rfl rfl)
theorem dX0_told_14 : decode cX0_told 14 = .ok (.ireturn, 1) := dk_172 (dk_at dksX0_told_0 14 rfl rfl)
theorem dX0_told_15 : decode cX0_told 15 = .ok (.iconst 0, 1) := dk_3 (dk_at dksX0_told_0 15 rfl rfl)
theorem dX0_told_16 : decode cX0_told 16 = .ok (.ireturn, 1) := dk_172 (dk_at dksX0_told_0 16 rfl rfl)
abbrev cX0_snow : ByteArray := method_6_code
def yX0_snow : MethodName := ⟨RX0, "snow", "(LGlassLeaders;II[J)I"⟩
def dkwX0_snow_0 : List UInt8 := [45, 3, 42, 27, 28, 182, 0, 21, 133, 80, 167, 0, 11, 58, 4, 4, 172, 58, 4, 5, 172, 3, 172]
abbrev dktX0_snow_0 : List UInt8 := dkwX0_snow_0 ++ []
theorem dksX0_snow_0 : cX0_snow.data.toList.drop 0 = dktX0_snow_0 := by decide +kernel
theorem dX0_snow_0 : decode cX0_snow 0 = .ok (.aload_n 3, 1) := dk_45 (dk_at dksX0_snow_0 0 rfl rfl)
theorem dX0_snow_1 : decode cX0_snow 1 = .ok (.iconst 0, 1) := dk_3 (dk_at dksX0_snow_0 1 rfl rfl)
theorem dX0_snow_2 : decode cX0_snow 2 = .ok (.aload_n 0, 1) := dk_42 (dk_at dksX0_snow_0 2 rfl rfl)
theorem dX0_snow_3 : decode cX0_snow 3 = .ok (.iload_n 1, 1) := dk_27 (dk_at dksX0_snow_0 3 rfl rfl)
theorem dX0_snow_4 : decode cX0_snow 4 = .ok (.iload_n 2, 1) := dk_28 (dk_at dksX0_snow_0 4 rfl rfl)
theorem dX0_snow_5 : decode cX0_snow 5 = .ok (.invokevirtual 21, 3) := dk_182 0 21 (dk_at dksX0_snow_0 5 rfl rfl)
theorem dX0_snow_8 : decode cX0_snow 8 = .ok (.i2l, 1) := dk_133 (dk_at dksX0_snow_0 8 rfl rfl)
theorem dX0_snow_9 : decode cX0_snow 9 = .ok (.lastore, 1) := dk_80 (dk_at dksX0_snow_0 9 rfl rfl)
theorem dX0_snow_10 : decode cX0_snow 10 = .ok (.goto 11, 3) := dk_167 0 11 (dk_at dksX0_snow_0 10 rfl rfl)
theorem dX0_snow_13 : decode cX0_snow 13 = .ok (.astore 4, 2) := dk_58 4 (dk_at dksX0_snow_0 13 rfl rfl)
theorem dX0_snow_15 : decode cX0_snow 15 = .ok (.iconst 1, 1) := dk_4 (dk_at dksX0_snow_0 15 rfl rfl)
theorem dX0_snow_16 : decode cX0_snow 16 = .ok (.ireturn, 1) := dk_172 (dk_at dksX0_snow_0 16 rfl rfl)
theorem dX0_snow_17 : decode cX0_snow 17 = .ok (.astore 4, 2) := dk_58 4 (dk_at dksX0_snow_0 17 rfl rfl)
theorem dX0_snow_19 : decode cX0_snow 19 = .ok (.iconst 2, 1) := dk_5 (dk_at dksX0_snow_0 19 rfl rfl)
theorem dX0_snow_20 : decode cX0_snow 20 = .ok (.ireturn, 1) := dk_172 (dk_at dksX0_snow_0 20 rfl rfl)
theorem dX0_snow_21 : decode cX0_snow 21 = .ok (.iconst 0, 1) := dk_3 (dk_at dksX0_snow_0 21 rfl rfl)
theorem dX0_snow_22 : decode cX0_snow 22 = .ok (.ireturn, 1) := dk_172 (dk_at dksX0_snow_0 22 rfl rfl)
abbrev cX0_wants : ByteArray := method_7_code
def yX0_wants : MethodName := ⟨RX0, "wants", "(LGlassLeaders;II[J)I"⟩
def dkwX0_wants_0 : List UInt8 := [45, 3, 42, 27, 28, 182, 0, 27, 133, 80, 167, 0, 11, 58, 4, 4, 172, 58, 4, 5, 172, 3, 172]
abbrev dktX0_wants_0 : List UInt8 := dkwX0_wants_0 ++ []
theorem dksX0_wants_0 : cX0_wants.data.toList.drop 0 = dktX0_wants_0 := by decide +kernel
theorem dX0_wants_0 : decode cX0_wants 0 = .ok (.aload_n 3, 1) := dk_45 (dk_at dksX0_wants_0 0 rfl rfl)
theorem dX0_wants_1 : decode cX0_wants 1 = .ok (.iconst 0, 1) := dk_3 (dk_at dksX0_wants_0 1 rfl rfl)
theorem dX0_wants_2 : decode cX0_wants 2 = .ok (.aload_n 0, 1) := dk_42 (dk_at dksX0_wants_0 2 rfl rfl)
theorem dX0_wants_3 : decode cX0_wants 3 = .ok (.iload_n 1, 1) := dk_27 (dk_at dksX0_wants_0 3 rfl rfl)
theorem dX0_wants_4 : decode cX0_wants 4 = .ok (.iload_n 2, 1) := dk_28 (dk_at dksX0_wants_0 4 rfl rfl)
theorem dX0_wants_5 : decode cX0_wants 5 = .ok (.invokevirtual 27, 3) := dk_182 0 27 (dk_at dksX0_wants_0 5 rfl rfl)
theorem dX0_wants_8 : decode cX0_wants 8 = .ok (.i2l, 1) := dk_133 (dk_at dksX0_wants_0 8 rfl rfl)
theorem dX0_wants_9 : decode cX0_wants 9 = .ok (.lastore, 1) := dk_80 (dk_at dksX0_wants_0 9 rfl rfl)
theorem dX0_wants_10 : decode cX0_wants 10 = .ok (.goto 11, 3) := dk_167 0 11 (dk_at dksX0_wants_0 10 rfl rfl)
theorem dX0_wants_13 : decode cX0_wants 13 = .ok (.astore 4, 2) := dk_58 4 (dk_at dksX0_wants_0 13 rfl rfl)
theorem dX0_wants_15 : decode cX0_wants 15 = .ok (.iconst 1, 1) := dk_4 (dk_at dksX0_wants_0 15 rfl rfl)
theorem dX0_wants_16 : decode cX0_wants 16 = .ok (.ireturn, 1) := dk_172 (dk_at dksX0_wants_0 16 rfl rfl)
theorem dX0_wants_17 : decode cX0_wants 17 = .ok (.astore 4, 2) := dk_58 4 (dk_at dksX0_wants_0 17 rfl rfl)
theorem dX0_wants_19 : decode cX0_wants 19 = .ok (.iconst 2, 1) := dk_5 (dk_at dksX0_wants_0 19 rfl rfl)
theorem dX0_wants_20 : decode cX0_wants 20 = .ok (.ireturn, 1) := dk_172 (dk_at dksX0_wants_0 20 rfl rfl)
theorem dX0_wants_21 : decode cX0_wants 21 = .ok (.iconst 0, 1) := dk_3 (dk_at dksX0_wants_0 21 rfl rfl)
theorem dX0_wants_22 : decode cX0_wants 22 = .ok (.ireturn, 1) := dk_172 (dk_at dksX0_wants_0 22 rfl rfl)
abbrev cX0_kind : ByteArray := method_8_code
def yX0_kind : MethodName := ⟨RX0, "kind", "(LGlassLeaders;II[J)I"⟩
def dkwX0_kind_0 : List UInt8 := [45, 3, 42, 27, 28, 182, 0, 32, 133, 80, 167, 0, 11, 58, 4, 4, 172, 58, 4, 5, 172, 3, 172]
abbrev dktX0_kind_0 : List UInt8 := dkwX0_kind_0 ++ []
theorem dksX0_kind_0 : cX0_kind.data.toList.drop 0 = dktX0_kind_0 := by decide +kernel
theorem dX0_kind_0 : decode cX0_kind 0 = .ok (.aload_n 3, 1) := dk_45 (dk_at dksX0_kind_0 0 rfl rfl)
theorem dX0_kind_1 : decode cX0_kind 1 = .ok (.iconst 0, 1) := dk_3 (dk_at dksX0_kind_0 1 rfl rfl)
theorem dX0_kind_2 : decode cX0_kind 2 = .ok (.aload_n 0, 1) := dk_42 (dk_at dksX0_kind_0 2 rfl rfl)
theorem dX0_kind_3 : decode cX0_kind 3 = .ok (.iload_n 1, 1) := dk_27 (dk_at dksX0_kind_0 3 rfl rfl)
theorem dX0_kind_4 : decode cX0_kind 4 = .ok (.iload_n 2, 1) := dk_28 (dk_at dksX0_kind_0 4 rfl rfl)
theorem dX0_kind_5 : decode cX0_kind 5 = .ok (.invokevirtual 32, 3) := dk_182 0 32 (dk_at dksX0_kind_0 5 rfl rfl)
theorem dX0_kind_8 : decode cX0_kind 8 = .ok (.i2l, 1) := dk_133 (dk_at dksX0_kind_0 8 rfl rfl)
theorem dX0_kind_9 : decode cX0_kind 9 = .ok (.lastore, 1) := dk_80 (dk_at dksX0_kind_0 9 rfl rfl)
theorem dX0_kind_10 : decode cX0_kind 10 = .ok (.goto 11, 3) := dk_167 0 11 (dk_at dksX0_kind_0 10 rfl rfl)
theorem dX0_kind_13 : decode cX0_kind 13 = .ok (.astore 4, 2) := dk_58 4 (dk_at dksX0_kind_0 13 rfl rfl)
theorem dX0_kind_15 : decode cX0_kind 15 = .ok (.iconst 1, 1) := dk_4 (dk_at dksX0_kind_0 15 rfl rfl)
theorem dX0_kind_16 : decode cX0_kind 16 = .ok (.ireturn, 1) := dk_172 (dk_at dksX0_kind_0 16 rfl rfl)
theorem dX0_kind_17 : decode cX0_kind 17 = .ok (.astore 4, 2) := dk_58 4 (dk_at dksX0_kind_0 17 rfl rfl)
theorem dX0_kind_19 : decode cX0_kind 19 = .ok (.iconst 2, 1) := dk_5 (dk_at dksX0_kind_0 19 rfl rfl)
theorem dX0_kind_20 : decode cX0_kind 20 = .ok (.ireturn, 1) := dk_172 (dk_at dksX0_kind_0 20 rfl rfl)
theorem dX0_kind_21 : decode cX0_kind 21 = .ok (.iconst 0, 1) := dk_3 (dk_at dksX0_kind_0 21 rfl rfl)
theorem dX0_kind_22 : decode cX0_kind 22 = .ok (.ireturn, 1) := dk_172 (dk_at dksX0_kind_0 22 rfl rfl)
abbrev cX0_plan : ByteArray := method_9_code
def yX0_plan : MethodName := ⟨RX0, "plan", "(LGlassLeaders;II[J)I"⟩
def dkwX0_plan_0 : List UInt8 := [45, 3, 42, 27, 28, 182, 0, 35, 133, 80, 167, 0, 7, 58, 4, 4, 172, 3, 172]
abbrev dktX0_plan_0 : List UInt8 := dkwX0_plan_0 ++ []
theorem dksX0_plan_0 : cX0_plan.data.toList.drop 0 = dktX0_plan_0 := by decide +kernel
theorem dX0_plan_0 : decode cX0_plan 0 = .ok (.aload_n 3, 1) := dk_45 (dk_at dksX0_plan_0 0 rfl rfl)
theorem dX0_plan_1 : decode cX0_plan 1 = .ok (.iconst 0, 1) := dk_3 (dk_at dksX0_plan_0 1 rfl rfl)
theorem dX0_plan_2 : decode cX0_plan 2 = .ok (.aload_n 0, 1) := dk_42 (dk_at dksX0_plan_0 2 rfl rfl)
theorem dX0_plan_3 : decode cX0_plan 3 = .ok (.iload_n 1, 1) := dk_27 (dk_at dksX0_plan_0 3 rfl rfl)
theorem dX0_plan_4 : decode cX0_plan 4 = .ok (.iload_n 2, 1) := dk_28 (dk_at dksX0_plan_0 4 rfl rfl)
theorem dX0_plan_5 : decode cX0_plan 5 = .ok (.invokevirtual 35, 3) := dk_182 0 35 (dk_at dksX0_plan_0 5 rfl rfl)
theorem dX0_plan_8 : decode cX0_plan 8 = .ok (.i2l, 1) := dk_133 (dk_at dksX0_plan_0 8 rfl rfl)
theorem dX0_plan_9 : decode cX0_plan 9 = .ok (.lastore, 1) := dk_80 (dk_at dksX0_plan_0 9 rfl rfl)
theorem dX0_plan_10 : decode cX0_plan 10 = .ok (.goto 7, 3) := dk_167 0 7 (dk_at dksX0_plan_0 10 rfl rfl)
theorem dX0_plan_13 : decode cX0_plan 13 = .ok (.astore 4, 2) := dk_58 4 (dk_at dksX0_plan_0 13 rfl rfl)
theorem dX0_plan_15 : decode cX0_plan 15 = .ok (.iconst 1, 1) := dk_4 (dk_at dksX0_plan_0 15 rfl rfl)
theorem dX0_plan_16 : decode cX0_plan 16 = .ok (.ireturn, 1) := dk_172 (dk_at dksX0_plan_0 16 rfl rfl)
theorem dX0_plan_17 : decode cX0_plan 17 = .ok (.iconst 0, 1) := dk_3 (dk_at dksX0_plan_0 17 rfl rfl)
theorem dX0_plan_18 : decode cX0_plan 18 = .ok (.ireturn, 1) := dk_172 (dk_at dksX0_plan_0 18 rfl rfl)
abbrev cX0_turn : ByteArray := method_10_code
def yX0_turn : MethodName := ⟨RX0, "turn", "(LGlassLeaders;II[J)I"⟩
def dkwX0_turn_0 : List UInt8 := [45, 3, 42, 27, 28, 182, 0, 38, 133, 80, 167, 0, 11, 58, 4, 4, 172, 58, 4, 5, 172, 3, 172]
abbrev dktX0_turn_0 : List UInt8 := dkwX0_turn_0 ++ []
theorem dksX0_turn_0 : cX0_turn.data.toList.drop 0 = dktX0_turn_0 := by decide +kernel
theorem dX0_turn_0 : decode cX0_turn 0 = .ok (.aload_n 3, 1) := dk_45 (dk_at dksX0_turn_0 0 rfl rfl)
theorem dX0_turn_1 : decode cX0_turn 1 = .ok (.iconst 0, 1) := dk_3 (dk_at dksX0_turn_0 1 rfl rfl)
theorem dX0_turn_2 : decode cX0_turn 2 = .ok (.aload_n 0, 1) := dk_42 (dk_at dksX0_turn_0 2 rfl rfl)
theorem dX0_turn_3 : decode cX0_turn 3 = .ok (.iload_n 1, 1) := dk_27 (dk_at dksX0_turn_0 3 rfl rfl)
theorem dX0_turn_4 : decode cX0_turn 4 = .ok (.iload_n 2, 1) := dk_28 (dk_at dksX0_turn_0 4 rfl rfl)
theorem dX0_turn_5 : decode cX0_turn 5 = .ok (.invokevirtual 38, 3) := dk_182 0 38 (dk_at dksX0_turn_0 5 rfl rfl)
theorem dX0_turn_8 : decode cX0_turn 8 = .ok (.i2l, 1) := dk_133 (dk_at dksX0_turn_0 8 rfl rfl)
theorem dX0_turn_9 : decode cX0_turn 9 = .ok (.lastore, 1) := dk_80 (dk_at dksX0_turn_0 9 rfl rfl)
theorem dX0_turn_10 : decode cX0_turn 10 = .ok (.goto 11, 3) := dk_167 0 11 (dk_at dksX0_turn_0 10 rfl rfl)
theorem dX0_turn_13 : decode cX0_turn 13 = .ok (.astore 4, 2) := dk_58 4 (dk_at dksX0_turn_0 13 rfl rfl)
theorem dX0_turn_15 : decode cX0_turn 15 = .ok (.iconst 1, 1) := dk_4 (dk_at dksX0_turn_0 15 rfl rfl)
theorem dX0_turn_16 : decode cX0_turn 16 = .ok (.ireturn, 1) := dk_172 (dk_at dksX0_turn_0 16 rfl rfl)
theorem dX0_turn_17 : decode cX0_turn 17 = .ok (.astore 4, 2) := dk_58 4 (dk_at dksX0_turn_0 17 rfl rfl)
theorem dX0_turn_19 : decode cX0_turn 19 = .ok (.iconst 2, 1) := dk_5 (dk_at dksX0_turn_0 19 rfl rfl)
theorem dX0_turn_20 : decode cX0_turn 20 = .ok (.ireturn, 1) := dk_172 (dk_at dksX0_turn_0 20 rfl rfl)
theorem dX0_turn_21 : decode cX0_turn 21 = .ok (.iconst 0, 1) := dk_3 (dk_at dksX0_turn_0 21 rfl rfl)
theorem dX0_turn_22 : decode cX0_turn 22 = .ok (.ireturn, 1) := dk_172 (dk_at dksX0_turn_0 22 rfl rfl)
abbrev cX0_days : ByteArray := method_11_code
def yX0_days : MethodName := ⟨RX0, "days", "(LGlassLeaders;I[J)I"⟩
def dkwX0_days_0 : List UInt8 := [44, 3, 42, 27, 182, 0, 41, 133, 80, 167, 0, 6, 78, 4, 172, 3, 172]
abbrev dktX0_days_0 : List UInt8 := dkwX0_days_0 ++ []
theorem dksX0_days_0 : cX0_days.data.toList.drop 0 = dktX0_days_0 := by decide +kernel
theorem dX0_days_0 : decode cX0_days 0 = .ok (.aload_n 2, 1) := dk_44 (dk_at dksX0_days_0 0 rfl rfl)
theorem dX0_days_1 : decode cX0_days 1 = .ok (.iconst 0, 1) := dk_3 (dk_at dksX0_days_0 1 rfl rfl)
theorem dX0_days_2 : decode cX0_days 2 = .ok (.aload_n 0, 1) := dk_42 (dk_at dksX0_days_0 2 rfl rfl)
theorem dX0_days_3 : decode cX0_days 3 = .ok (.iload_n 1, 1) := dk_27 (dk_at dksX0_days_0 3 rfl rfl)
theorem dX0_days_4 : decode cX0_days 4 = .ok (.invokevirtual 41, 3) := dk_182 0 41 (dk_at dksX0_days_0 4 rfl rfl)
theorem dX0_days_7 : decode cX0_days 7 = .ok (.i2l, 1) := dk_133 (dk_at dksX0_days_0 7 rfl rfl)
theorem dX0_days_8 : decode cX0_days 8 = .ok (.lastore, 1) := dk_80 (dk_at dksX0_days_0 8 rfl rfl)
theorem dX0_days_9 : decode cX0_days 9 = .ok (.goto 6, 3) := dk_167 0 6 (dk_at dksX0_days_0 9 rfl rfl)
theorem dX0_days_12 : decode cX0_days 12 = .ok (.astore_n 3, 1) := dk_78 (dk_at dksX0_days_0 12 rfl rfl)
theorem dX0_days_13 : decode cX0_days 13 = .ok (.iconst 1, 1) := dk_4 (dk_at dksX0_days_0 13 rfl rfl)
theorem dX0_days_14 : decode cX0_days 14 = .ok (.ireturn, 1) := dk_172 (dk_at dksX0_days_0 14 rfl rfl)
theorem dX0_days_15 : decode cX0_days 15 = .ok (.iconst 0, 1) := dk_3 (dk_at dksX0_days_0 15 rfl rfl)
theorem dX0_days_16 : decode cX0_days 16 = .ok (.ireturn, 1) := dk_172 (dk_at dksX0_days_0 16 rfl rfl)
abbrev cX0_whose : ByteArray := method_12_code
def yX0_whose : MethodName := ⟨RX0, "whose", "(LGlassLeaders;I[J)I"⟩
def dkwX0_whose_0 : List UInt8 := [44, 3, 42, 27, 182, 0, 44, 133, 80, 167, 0, 9, 78, 4, 172, 78, 5, 172, 3, 172]
abbrev dktX0_whose_0 : List UInt8 := dkwX0_whose_0 ++ []
theorem dksX0_whose_0 : cX0_whose.data.toList.drop 0 = dktX0_whose_0 := by decide +kernel
theorem dX0_whose_0 : decode cX0_whose 0 = .ok (.aload_n 2, 1) := dk_44 (dk_at dksX0_whose_0 0 rfl rfl)
theorem dX0_whose_1 : decode cX0_whose 1 = .ok (.iconst 0, 1) := dk_3 (dk_at dksX0_whose_0 1 rfl rfl)
theorem dX0_whose_2 : decode cX0_whose 2 = .ok (.aload_n 0, 1) := dk_42 (dk_at dksX0_whose_0 2 rfl rfl)
theorem dX0_whose_3 : decode cX0_whose 3 = .ok (.iload_n 1, 1) := dk_27 (dk_at dksX0_whose_0 3 rfl rfl)
theorem dX0_whose_4 : decode cX0_whose 4 = .ok (.invokevirtual 44, 3) := dk_182 0 44 (dk_at dksX0_whose_0 4 rfl rfl)
theorem dX0_whose_7 : decode cX0_whose 7 = .ok (.i2l, 1) := dk_133 (dk_at dksX0_whose_0 7 rfl rfl)
theorem dX0_whose_8 : decode cX0_whose 8 = .ok (.lastore, 1) := dk_80 (dk_at dksX0_whose_0 8 rfl rfl)
theorem dX0_whose_9 : decode cX0_whose 9 = .ok (.goto 9, 3) := dk_167 0 9 (dk_at dksX0_whose_0 9 rfl rfl)
theorem dX0_whose_12 : decode cX0_whose 12 = .ok (.astore_n 3, 1) := dk_78 (dk_at dksX0_whose_0 12 rfl rfl)
theorem dX0_whose_13 : decode cX0_whose 13 = .ok (.iconst 1, 1) := dk_4 (dk_at dksX0_whose_0 13 rfl rfl)
theorem dX0_whose_14 : decode cX0_whose 14 = .ok (.ireturn, 1) := dk_172 (dk_at dksX0_whose_0 14 rfl rfl)
theorem dX0_whose_15 : decode cX0_whose 15 = .ok (.astore_n 3, 1) := dk_78 (dk_at dksX0_whose_0 15 rfl rfl)
theorem dX0_whose_16 : decode cX0_whose 16 = .ok (.iconst 2, 1) := dk_5 (dk_at dksX0_whose_0 16 rfl rfl)
theorem dX0_whose_17 : decode cX0_whose 17 = .ok (.ireturn, 1) := dk_172 (dk_at dksX0_whose_0 17 rfl rfl)
theorem dX0_whose_18 : decode cX0_whose 18 = .ok (.iconst 0, 1) := dk_3 (dk_at dksX0_whose_0 18 rfl rfl)
theorem dX0_whose_19 : decode cX0_whose 19 = .ok (.ireturn, 1) := dk_172 (dk_at dksX0_whose_0 19 rfl rfl)
abbrev cX0_next : ByteArray := method_13_code
def yX0_next : MethodName := ⟨RX0, "next", "(LGlassLeaders;III[J)I"⟩
def dkwX0_next_1 : List UInt8 := [172]
abbrev dktX0_next_1 : List UInt8 := dkwX0_next_1 ++ []
def dkwX0_next_0 : List UInt8 := [25, 4, 3, 42, 27, 28, 29, 182, 0, 49, 133, 80, 167, 0, 11, 58, 5, 4, 172, 58, 5, 5, 172, 3]
abbrev dktX0_next_0 : List UInt8 := dkwX0_next_0 ++ dktX0_next_1
theorem dksX0_next_0 : cX0_next.data.toList.drop 0 = dktX0_next_0 := by decide +kernel
theorem dksX0_next_1 : cX0_next.data.toList.drop 24 = dktX0_next_1 := dk_seg dksX0_next_0 24 rfl rfl
theorem dX0_next_0 : decode cX0_next 0 = .ok (.aload 4, 2) := dk_25 4 (dk_at dksX0_next_0 0 rfl rfl)
theorem dX0_next_2 : decode cX0_next 2 = .ok (.iconst 0, 1) := dk_3 (dk_at dksX0_next_0 2 rfl rfl)
theorem dX0_next_3 : decode cX0_next 3 = .ok (.aload_n 0, 1) := dk_42 (dk_at dksX0_next_0 3 rfl rfl)
theorem dX0_next_4 : decode cX0_next 4 = .ok (.iload_n 1, 1) := dk_27 (dk_at dksX0_next_0 4 rfl rfl)
theorem dX0_next_5 : decode cX0_next 5 = .ok (.iload_n 2, 1) := dk_28 (dk_at dksX0_next_0 5 rfl rfl)
theorem dX0_next_6 : decode cX0_next 6 = .ok (.iload_n 3, 1) := dk_29 (dk_at dksX0_next_0 6 rfl rfl)
theorem dX0_next_7 : decode cX0_next 7 = .ok (.invokevirtual 49, 3) := dk_182 0 49 (dk_at dksX0_next_0 7 rfl rfl)
theorem dX0_next_10 : decode cX0_next 10 = .ok (.i2l, 1) := dk_133 (dk_at dksX0_next_0 10 rfl rfl)
theorem dX0_next_11 : decode cX0_next 11 = .ok (.lastore, 1) := dk_80 (dk_at dksX0_next_0 11 rfl rfl)
theorem dX0_next_12 : decode cX0_next 12 = .ok (.goto 11, 3) := dk_167 0 11 (dk_at dksX0_next_0 12 rfl rfl)
theorem dX0_next_15 : decode cX0_next 15 = .ok (.astore 5, 2) := dk_58 5 (dk_at dksX0_next_0 15 rfl rfl)
theorem dX0_next_17 : decode cX0_next 17 = .ok (.iconst 1, 1) := dk_4 (dk_at dksX0_next_0 17 rfl rfl)
theorem dX0_next_18 : decode cX0_next 18 = .ok (.ireturn, 1) := dk_172 (dk_at dksX0_next_0 18 rfl rfl)
theorem dX0_next_19 : decode cX0_next 19 = .ok (.astore 5, 2) := dk_58 5 (dk_at dksX0_next_0 19 rfl rfl)
theorem dX0_next_21 : decode cX0_next 21 = .ok (.iconst 2, 1) := dk_5 (dk_at dksX0_next_0 21 rfl rfl)
theorem dX0_next_22 : decode cX0_next 22 = .ok (.ireturn, 1) := dk_172 (dk_at dksX0_next_0 22 rfl rfl)
theorem dX0_next_23 : decode cX0_next 23 = .ok (.iconst 0, 1) := dk_3 (dk_at dksX0_next_0 23 rfl rfl)
theorem dX0_next_24 : decode cX0_next 24 = .ok (.ireturn, 1) := dk_172 (dk_at dksX0_next_1 0 rfl rfl)
abbrev cX0_takes : ByteArray := method_14_code
def yX0_takes : MethodName := ⟨RX0, "takes", "(LGlassLeaders;III[J)I"⟩
def dkwX0_takes_1 : List UInt8 := [172]
abbrev dktX0_takes_1 : List UInt8 := dkwX0_takes_1 ++ []
def dkwX0_takes_0 : List UInt8 := [25, 4, 3, 42, 27, 28, 29, 182, 0, 53, 133, 80, 167, 0, 11, 58, 5, 4, 172, 58, 5, 5, 172, 3]
abbrev dktX0_takes_0 : List UInt8 := dkwX0_takes_0 ++ dktX0_takes_1
theorem dksX0_takes_0 : cX0_takes.data.toList.drop 0 = dktX0_takes_0 := by decide +kernel
theorem dksX0_takes_1 : cX0_takes.data.toList.drop 24 = dktX0_takes_1 := dk_seg dksX0_takes_0 24 rfl rfl
theorem dX0_takes_0 : decode cX0_takes 0 = .ok (.aload 4, 2) := dk_25 4 (dk_at dksX0_takes_0 0 rfl rfl)
theorem dX0_takes_2 : decode cX0_takes 2 = .ok (.iconst 0, 1) := dk_3 (dk_at dksX0_takes_0 2 rfl rfl)
theorem dX0_takes_3 : decode cX0_takes 3 = .ok (.aload_n 0, 1) := dk_42 (dk_at dksX0_takes_0 3 rfl rfl)
theorem dX0_takes_4 : decode cX0_takes 4 = .ok (.iload_n 1, 1) := dk_27 (dk_at dksX0_takes_0 4 rfl rfl)
theorem dX0_takes_5 : decode cX0_takes 5 = .ok (.iload_n 2, 1) := dk_28 (dk_at dksX0_takes_0 5 rfl rfl)
theorem dX0_takes_6 : decode cX0_takes 6 = .ok (.iload_n 3, 1) := dk_29 (dk_at dksX0_takes_0 6 rfl rfl)
theorem dX0_takes_7 : decode cX0_takes 7 = .ok (.invokevirtual 53, 3) := dk_182 0 53 (dk_at dksX0_takes_0 7 rfl rfl)
theorem dX0_takes_10 : decode cX0_takes 10 = .ok (.i2l, 1) := dk_133 (dk_at dksX0_takes_0 10 rfl rfl)
theorem dX0_takes_11 : decode cX0_takes 11 = .ok (.lastore, 1) := dk_80 (dk_at dksX0_takes_0 11 rfl rfl)
theorem dX0_takes_12 : decode cX0_takes 12 = .ok (.goto 11, 3) := dk_167 0 11 (dk_at dksX0_takes_0 12 rfl rfl)
theorem dX0_takes_15 : decode cX0_takes 15 = .ok (.astore 5, 2) := dk_58 5 (dk_at dksX0_takes_0 15 rfl rfl)
theorem dX0_takes_17 : decode cX0_takes 17 = .ok (.iconst 1, 1) := dk_4 (dk_at dksX0_takes_0 17 rfl rfl)
theorem dX0_takes_18 : decode cX0_takes 18 = .ok (.ireturn, 1) := dk_172 (dk_at dksX0_takes_0 18 rfl rfl)
theorem dX0_takes_19 : decode cX0_takes 19 = .ok (.astore 5, 2) := dk_58 5 (dk_at dksX0_takes_0 19 rfl rfl)
theorem dX0_takes_21 : decode cX0_takes 21 = .ok (.iconst 2, 1) := dk_5 (dk_at dksX0_takes_0 21 rfl rfl)
theorem dX0_takes_22 : decode cX0_takes 22 = .ok (.ireturn, 1) := dk_172 (dk_at dksX0_takes_0 22 rfl rfl)
theorem dX0_takes_23 : decode cX0_takes 23 = .ok (.iconst 0, 1) := dk_3 (dk_at dksX0_takes_0 23 rfl rfl)
theorem dX0_takes_24 : decode cX0_takes 24 = .ok (.ireturn, 1) := dk_172 (dk_at dksX0_takes_1 0 rfl rfl)
abbrev cX0_value : ByteArray := method_15_code
def yX0_value : MethodName := ⟨RX0, "value", "(LGlassLeaders;IIII[J)I"⟩
def dkwX0_value_1 : List UInt8 := [58, 6, 6, 172, 3, 172]
abbrev dktX0_value_1 : List UInt8 := dkwX0_value_1 ++ []
def dkwX0_value_0 : List UInt8 := [25, 5, 3, 42, 27, 28, 29, 21, 4, 182, 0, 56, 80, 167, 0, 15, 58, 6, 4, 172, 58, 6, 5, 172]
abbrev dktX0_value_0 : List UInt8 := dkwX0_value_0 ++ dktX0_value_1
theorem dksX0_value_0 : cX0_value.data.toList.drop 0 = dktX0_value_0 := by decide +kernel
theorem dksX0_value_1 : cX0_value.data.toList.drop 24 = dktX0_value_1 := dk_seg dksX0_value_0 24 rfl rfl
theorem dX0_value_0 : decode cX0_value 0 = .ok (.aload 5, 2) := dk_25 5 (dk_at dksX0_value_0 0 rfl rfl)
theorem dX0_value_2 : decode cX0_value 2 = .ok (.iconst 0, 1) := dk_3 (dk_at dksX0_value_0 2 rfl rfl)
theorem dX0_value_3 : decode cX0_value 3 = .ok (.aload_n 0, 1) := dk_42 (dk_at dksX0_value_0 3 rfl rfl)
theorem dX0_value_4 : decode cX0_value 4 = .ok (.iload_n 1, 1) := dk_27 (dk_at dksX0_value_0 4 rfl rfl)
theorem dX0_value_5 : decode cX0_value 5 = .ok (.iload_n 2, 1) := dk_28 (dk_at dksX0_value_0 5 rfl rfl)
theorem dX0_value_6 : decode cX0_value 6 = .ok (.iload_n 3, 1) := dk_29 (dk_at dksX0_value_0 6 rfl rfl)
theorem dX0_value_7 : decode cX0_value 7 = .ok (.iload 4, 2) := dk_21 4 (dk_at dksX0_value_0 7 rfl rfl)
theorem dX0_value_9 : decode cX0_value 9 = .ok (.invokevirtual 56, 3) := dk_182 0 56 (dk_at dksX0_value_0 9 rfl rfl)
theorem dX0_value_12 : decode cX0_value 12 = .ok (.lastore, 1) := dk_80 (dk_at dksX0_value_0 12 rfl rfl)
theorem dX0_value_13 : decode cX0_value 13 = .ok (.goto 15, 3) := dk_167 0 15 (dk_at dksX0_value_0 13 rfl rfl)
theorem dX0_value_16 : decode cX0_value 16 = .ok (.astore 6, 2) := dk_58 6 (dk_at dksX0_value_0 16 rfl rfl)
theorem dX0_value_18 : decode cX0_value 18 = .ok (.iconst 1, 1) := dk_4 (dk_at dksX0_value_0 18 rfl rfl)
theorem dX0_value_19 : decode cX0_value 19 = .ok (.ireturn, 1) := dk_172 (dk_at dksX0_value_0 19 rfl rfl)
theorem dX0_value_20 : decode cX0_value 20 = .ok (.astore 6, 2) := dk_58 6 (dk_at dksX0_value_0 20 rfl rfl)
theorem dX0_value_22 : decode cX0_value 22 = .ok (.iconst 2, 1) := dk_5 (dk_at dksX0_value_0 22 rfl rfl)
theorem dX0_value_23 : decode cX0_value 23 = .ok (.ireturn, 1) := dk_172 (dk_at dksX0_value_0 23 rfl rfl)
theorem dX0_value_24 : decode cX0_value 24 = .ok (.astore 6, 2) := dk_58 6 (dk_at dksX0_value_1 0 rfl rfl)
theorem dX0_value_26 : decode cX0_value 26 = .ok (.iconst 3, 1) := dk_6 (dk_at dksX0_value_1 2 rfl rfl)
theorem dX0_value_27 : decode cX0_value 27 = .ok (.ireturn, 1) := dk_172 (dk_at dksX0_value_1 3 rfl rfl)
theorem dX0_value_28 : decode cX0_value 28 = .ok (.iconst 0, 1) := dk_3 (dk_at dksX0_value_1 4 rfl rfl)
theorem dX0_value_29 : decode cX0_value 29 = .ok (.ireturn, 1) := dk_172 (dk_at dksX0_value_1 5 rfl rfl)
abbrev cX0_scale : ByteArray := method_16_code
def yX0_scale : MethodName := ⟨RX0, "scale", "(LGlassLeaders;I[J)I"⟩
def dkwX0_scale_0 : List UInt8 := [44, 3, 42, 27, 182, 0, 60, 80, 167, 0, 9, 78, 4, 172, 78, 5, 172, 3, 172]
abbrev dktX0_scale_0 : List UInt8 := dkwX0_scale_0 ++ []
theorem dksX0_scale_0 : cX0_scale.data.toList.drop 0 = dktX0_scale_0 := by decide +kernel
theorem dX0_scale_0 : decode cX0_scale 0 = .ok (.aload_n 2, 1) := dk_44 (dk_at dksX0_scale_0 0 rfl rfl)
theorem dX0_scale_1 : decode cX0_scale 1 = .ok (.iconst 0, 1) := dk_3 (dk_at dksX0_scale_0 1 rfl rfl)
theorem dX0_scale_2 : decode cX0_scale 2 = .ok (.aload_n 0, 1) := dk_42 (dk_at dksX0_scale_0 2 rfl rfl)
theorem dX0_scale_3 : decode cX0_scale 3 = .ok (.iload_n 1, 1) := dk_27 (dk_at dksX0_scale_0 3 rfl rfl)
theorem dX0_scale_4 : decode cX0_scale 4 = .ok (.invokevirtual 60, 3) := dk_182 0 60 (dk_at dksX0_scale_0 4 rfl rfl)
theorem dX0_scale_7 : decode cX0_scale 7 = .ok (.lastore, 1) := dk_80 (dk_at dksX0_scale_0 7 rfl rfl)
theorem dX0_scale_8 : decode cX0_scale 8 = .ok (.goto 9, 3) := dk_167 0 9 (dk_at dksX0_scale_0 8 rfl rfl)
theorem dX0_scale_11 : decode cX0_scale 11 = .ok (.astore_n 3, 1) := dk_78 (dk_at dksX0_scale_0 11 rfl rfl)
theorem dX0_scale_12 : decode cX0_scale 12 = .ok (.iconst 1, 1) := dk_4 (dk_at dksX0_scale_0 12 rfl rfl)
theorem dX0_scale_13 : decode cX0_scale 13 = .ok (.ireturn, 1) := dk_172 (dk_at dksX0_scale_0 13 rfl rfl)
theorem dX0_scale_14 : decode cX0_scale 14 = .ok (.astore_n 3, 1) := dk_78 (dk_at dksX0_scale_0 14 rfl rfl)
theorem dX0_scale_15 : decode cX0_scale 15 = .ok (.iconst 2, 1) := dk_5 (dk_at dksX0_scale_0 15 rfl rfl)
theorem dX0_scale_16 : decode cX0_scale 16 = .ok (.ireturn, 1) := dk_172 (dk_at dksX0_scale_0 16 rfl rfl)
theorem dX0_scale_17 : decode cX0_scale 17 = .ok (.iconst 0, 1) := dk_3 (dk_at dksX0_scale_0 17 rfl rfl)
theorem dX0_scale_18 : decode cX0_scale 18 = .ok (.ireturn, 1) := dk_172 (dk_at dksX0_scale_0 18 rfl rfl)
abbrev cX0_all : ByteArray := method_17_code
def yX0_all : MethodName := ⟨RX0, "all", "(LGlassLeaders;[J)I"⟩
def dkwX0_all_0 : List UInt8 := [43, 3, 42, 182, 0, 64, 80, 167, 0, 6, 77, 4, 172, 3, 172]
abbrev dktX0_all_0 : List UInt8 := dkwX0_all_0 ++ []
theorem dksX0_all_0 : cX0_all.data.toList.drop 0 = dktX0_all_0 := by decide +kernel
theorem dX0_all_0 : decode cX0_all 0 = .ok (.aload_n 1, 1) := dk_43 (dk_at dksX0_all_0 0 rfl rfl)
theorem dX0_all_1 : decode cX0_all 1 = .ok (.iconst 0, 1) := dk_3 (dk_at dksX0_all_0 1 rfl rfl)
theorem dX0_all_2 : decode cX0_all 2 = .ok (.aload_n 0, 1) := dk_42 (dk_at dksX0_all_0 2 rfl rfl)
theorem dX0_all_3 : decode cX0_all 3 = .ok (.invokevirtual 64, 3) := dk_182 0 64 (dk_at dksX0_all_0 3 rfl rfl)
theorem dX0_all_6 : decode cX0_all 6 = .ok (.lastore, 1) := dk_80 (dk_at dksX0_all_0 6 rfl rfl)
theorem dX0_all_7 : decode cX0_all 7 = .ok (.goto 6, 3) := dk_167 0 6 (dk_at dksX0_all_0 7 rfl rfl)
theorem dX0_all_10 : decode cX0_all 10 = .ok (.astore_n 2, 1) := dk_77 (dk_at dksX0_all_0 10 rfl rfl)
theorem dX0_all_11 : decode cX0_all 11 = .ok (.iconst 1, 1) := dk_4 (dk_at dksX0_all_0 11 rfl rfl)
theorem dX0_all_12 : decode cX0_all 12 = .ok (.ireturn, 1) := dk_172 (dk_at dksX0_all_0 12 rfl rfl)
theorem dX0_all_13 : decode cX0_all 13 = .ok (.iconst 0, 1) := dk_3 (dk_at dksX0_all_0 13 rfl rfl)
theorem dX0_all_14 : decode cX0_all 14 = .ok (.ireturn, 1) := dk_172 (dk_at dksX0_all_0 14 rfl rfl)
abbrev cX0_alone : ByteArray := method_18_code
def yX0_alone : MethodName := ⟨RX0, "alone", "(LGlassLeaders;I[J)I"⟩
def dkwX0_alone_0 : List UInt8 := [44, 3, 42, 27, 182, 0, 68, 80, 167, 0, 9, 78, 4, 172, 78, 5, 172, 3, 172]
abbrev dktX0_alone_0 : List UInt8 := dkwX0_alone_0 ++ []
theorem dksX0_alone_0 : cX0_alone.data.toList.drop 0 = dktX0_alone_0 := by decide +kernel
theorem dX0_alone_0 : decode cX0_alone 0 = .ok (.aload_n 2, 1) := dk_44 (dk_at dksX0_alone_0 0 rfl rfl)
theorem dX0_alone_1 : decode cX0_alone 1 = .ok (.iconst 0, 1) := dk_3 (dk_at dksX0_alone_0 1 rfl rfl)
theorem dX0_alone_2 : decode cX0_alone 2 = .ok (.aload_n 0, 1) := dk_42 (dk_at dksX0_alone_0 2 rfl rfl)
theorem dX0_alone_3 : decode cX0_alone 3 = .ok (.iload_n 1, 1) := dk_27 (dk_at dksX0_alone_0 3 rfl rfl)
theorem dX0_alone_4 : decode cX0_alone 4 = .ok (.invokevirtual 68, 3) := dk_182 0 68 (dk_at dksX0_alone_0 4 rfl rfl)
theorem dX0_alone_7 : decode cX0_alone 7 = .ok (.lastore, 1) := dk_80 (dk_at dksX0_alone_0 7 rfl rfl)
theorem dX0_alone_8 : decode cX0_alone 8 = .ok (.goto 9, 3) := dk_167 0 9 (dk_at dksX0_alone_0 8 rfl rfl)
theorem dX0_alone_11 : decode cX0_alone 11 = .ok (.astore_n 3, 1) := dk_78 (dk_at dksX0_alone_0 11 rfl rfl)
theorem dX0_alone_12 : decode cX0_alone 12 = .ok (.iconst 1, 1) := dk_4 (dk_at dksX0_alone_0 12 rfl rfl)
theorem dX0_alone_13 : decode cX0_alone 13 = .ok (.ireturn, 1) := dk_172 (dk_at dksX0_alone_0 13 rfl rfl)
theorem dX0_alone_14 : decode cX0_alone 14 = .ok (.astore_n 3, 1) := dk_78 (dk_at dksX0_alone_0 14 rfl rfl)
theorem dX0_alone_15 : decode cX0_alone 15 = .ok (.iconst 2, 1) := dk_5 (dk_at dksX0_alone_0 15 rfl rfl)
theorem dX0_alone_16 : decode cX0_alone 16 = .ok (.ireturn, 1) := dk_172 (dk_at dksX0_alone_0 16 rfl rfl)
theorem dX0_alone_17 : decode cX0_alone 17 = .ok (.iconst 0, 1) := dk_3 (dk_at dksX0_alone_0 17 rfl rfl)
theorem dX0_alone_18 : decode cX0_alone 18 = .ok (.ireturn, 1) := dk_172 (dk_at dksX0_alone_0 18 rfl rfl)
abbrev cX0_run : ByteArray := method_19_code
def yX0_run : MethodName := ⟨RX0, "run", "(LGlassLeaders;I[J)I"⟩
def dkwX0_run_0 : List UInt8 := [44, 3, 42, 27, 182, 0, 71, 133, 80, 167, 0, 6, 78, 4, 172, 3, 172]
abbrev dktX0_run_0 : List UInt8 := dkwX0_run_0 ++ []
theorem dksX0_run_0 : cX0_run.data.toList.drop 0 = dktX0_run_0 := by decide +kernel
theorem dX0_run_0 : decode cX0_run 0 = .ok (.aload_n 2, 1) := dk_44 (dk_at dksX0_run_0 0 rfl rfl)
theorem dX0_run_1 : decode cX0_run 1 = .ok (.iconst 0, 1) := dk_3 (dk_at dksX0_run_0 1 rfl rfl)
theorem dX0_run_2 : decode cX0_run 2 = .ok (.aload_n 0, 1) := dk_42 (dk_at dksX0_run_0 2 rfl rfl)
theorem dX0_run_3 : decode cX0_run 3 = .ok (.iload_n 1, 1) := dk_27 (dk_at dksX0_run_0 3 rfl rfl)
theorem dX0_run_4 : decode cX0_run 4 = .ok (.invokevirtual 71, 3) := dk_182 0 71 (dk_at dksX0_run_0 4 rfl rfl)
theorem dX0_run_7 : decode cX0_run 7 = .ok (.i2l, 1) := dk_133 (dk_at dksX0_run_0 7 rfl rfl)
theorem dX0_run_8 : decode cX0_run 8 = .ok (.lastore, 1) := dk_80 (dk_at dksX0_run_0 8 rfl rfl)
theorem dX0_run_9 : decode cX0_run 9 = .ok (.goto 6, 3) := dk_167 0 6 (dk_at dksX0_run_0 9 rfl rfl)
theorem dX0_run_12 : decode cX0_run 12 = .ok (.astore_n 3, 1) := dk_78 (dk_at dksX0_run_0 12 rfl rfl)
theorem dX0_run_13 : decode cX0_run 13 = .ok (.iconst 1, 1) := dk_4 (dk_at dksX0_run_0 13 rfl rfl)
theorem dX0_run_14 : decode cX0_run 14 = .ok (.ireturn, 1) := dk_172 (dk_at dksX0_run_0 14 rfl rfl)
theorem dX0_run_15 : decode cX0_run 15 = .ok (.iconst 0, 1) := dk_3 (dk_at dksX0_run_0 15 rfl rfl)
theorem dX0_run_16 : decode cX0_run 16 = .ok (.ireturn, 1) := dk_172 (dk_at dksX0_run_0 16 rfl rfl)
abbrev cX0_was : ByteArray := method_20_code
def yX0_was : MethodName := ⟨RX0, "was", "(LGlassLeaders;II[J)I"⟩
def dkwX0_was_0 : List UInt8 := [45, 3, 42, 27, 28, 182, 0, 74, 133, 80, 167, 0, 7, 58, 4, 4, 172, 3, 172]
abbrev dktX0_was_0 : List UInt8 := dkwX0_was_0 ++ []
theorem dksX0_was_0 : cX0_was.data.toList.drop 0 = dktX0_was_0 := by decide +kernel
theorem dX0_was_0 : decode cX0_was 0 = .ok (.aload_n 3, 1) := dk_45 (dk_at dksX0_was_0 0 rfl rfl)
theorem dX0_was_1 : decode cX0_was 1 = .ok (.iconst 0, 1) := dk_3 (dk_at dksX0_was_0 1 rfl rfl)
theorem dX0_was_2 : decode cX0_was 2 = .ok (.aload_n 0, 1) := dk_42 (dk_at dksX0_was_0 2 rfl rfl)
theorem dX0_was_3 : decode cX0_was 3 = .ok (.iload_n 1, 1) := dk_27 (dk_at dksX0_was_0 3 rfl rfl)
theorem dX0_was_4 : decode cX0_was 4 = .ok (.iload_n 2, 1) := dk_28 (dk_at dksX0_was_0 4 rfl rfl)
theorem dX0_was_5 : decode cX0_was 5 = .ok (.invokevirtual 74, 3) := dk_182 0 74 (dk_at dksX0_was_0 5 rfl rfl)
theorem dX0_was_8 : decode cX0_was 8 = .ok (.i2l, 1) := dk_133 (dk_at dksX0_was_0 8 rfl rfl)
theorem dX0_was_9 : decode cX0_was 9 = .ok (.lastore, 1) := dk_80 (dk_at dksX0_was_0 9 rfl rfl)
theorem dX0_was_10 : decode cX0_was 10 = .ok (.goto 7, 3) := dk_167 0 7 (dk_at dksX0_was_0 10 rfl rfl)
theorem dX0_was_13 : decode cX0_was 13 = .ok (.astore 4, 2) := dk_58 4 (dk_at dksX0_was_0 13 rfl rfl)
theorem dX0_was_15 : decode cX0_was 15 = .ok (.iconst 1, 1) := dk_4 (dk_at dksX0_was_0 15 rfl rfl)
theorem dX0_was_16 : decode cX0_was 16 = .ok (.ireturn, 1) := dk_172 (dk_at dksX0_was_0 16 rfl rfl)
theorem dX0_was_17 : decode cX0_was 17 = .ok (.iconst 0, 1) := dk_3 (dk_at dksX0_was_0 17 rfl rfl)
theorem dX0_was_18 : decode cX0_was 18 = .ok (.ireturn, 1) := dk_172 (dk_at dksX0_was_0 18 rfl rfl)
abbrev cX0_row : ByteArray := method_21_code
def yX0_row : MethodName := ⟨RX0, "row", "(LGlassLeaders;I[J)I"⟩
def dkwX0_row_0 : List UInt8 := [44, 3, 42, 27, 182, 0, 77, 133, 80, 167, 0, 6, 78, 4, 172, 3, 172]
abbrev dktX0_row_0 : List UInt8 := dkwX0_row_0 ++ []
theorem dksX0_row_0 : cX0_row.data.toList.drop 0 = dktX0_row_0 := by decide +kernel
theorem dX0_row_0 : decode cX0_row 0 = .ok (.aload_n 2, 1) := dk_44 (dk_at dksX0_row_0 0 rfl rfl)
theorem dX0_row_1 : decode cX0_row 1 = .ok (.iconst 0, 1) := dk_3 (dk_at dksX0_row_0 1 rfl rfl)
theorem dX0_row_2 : decode cX0_row 2 = .ok (.aload_n 0, 1) := dk_42 (dk_at dksX0_row_0 2 rfl rfl)
theorem dX0_row_3 : decode cX0_row 3 = .ok (.iload_n 1, 1) := dk_27 (dk_at dksX0_row_0 3 rfl rfl)
theorem dX0_row_4 : decode cX0_row 4 = .ok (.invokevirtual 77, 3) := dk_182 0 77 (dk_at dksX0_row_0 4 rfl rfl)
theorem dX0_row_7 : decode cX0_row 7 = .ok (.i2l, 1) := dk_133 (dk_at dksX0_row_0 7 rfl rfl)
theorem dX0_row_8 : decode cX0_row 8 = .ok (.lastore, 1) := dk_80 (dk_at dksX0_row_0 8 rfl rfl)
theorem dX0_row_9 : decode cX0_row 9 = .ok (.goto 6, 3) := dk_167 0 6 (dk_at dksX0_row_0 9 rfl rfl)
theorem dX0_row_12 : decode cX0_row 12 = .ok (.astore_n 3, 1) := dk_78 (dk_at dksX0_row_0 12 rfl rfl)
theorem dX0_row_13 : decode cX0_row 13 = .ok (.iconst 1, 1) := dk_4 (dk_at dksX0_row_0 13 rfl rfl)
theorem dX0_row_14 : decode cX0_row 14 = .ok (.ireturn, 1) := dk_172 (dk_at dksX0_row_0 14 rfl rfl)
theorem dX0_row_15 : decode cX0_row 15 = .ok (.iconst 0, 1) := dk_3 (dk_at dksX0_row_0 15 rfl rfl)
theorem dX0_row_16 : decode cX0_row 16 = .ok (.ireturn, 1) := dk_172 (dk_at dksX0_row_0 16 rfl rfl)
abbrev cX0_judge : ByteArray := method_22_code
def yX0_judge : MethodName := ⟨RX0, "judge", "(LGlassLeaders;[J)I"⟩
def dkwX0_judge_0 : List UInt8 := [43, 3, 42, 182, 0, 80, 133, 80, 167, 0, 6, 77, 4, 172, 3, 172]
abbrev dktX0_judge_0 : List UInt8 := dkwX0_judge_0 ++ []
theorem dksX0_judge_0 : cX0_judge.data.toList.drop 0 = dktX0_judge_0 := by decide +kernel
theorem dX0_judge_0 : decode cX0_judge 0 = .ok (.aload_n 1, 1) := dk_43 (dk_at dksX0_judge_0 0 rfl rfl)
theorem dX0_judge_1 : decode cX0_judge 1 = .ok (.iconst 0, 1) := dk_3 (dk_at dksX0_judge_0 1 rfl rfl)
theorem dX0_judge_2 : decode cX0_judge 2 = .ok (.aload_n 0, 1) := dk_42 (dk_at dksX0_judge_0 2 rfl rfl)
theorem dX0_judge_3 : decode cX0_judge 3 = .ok (.invokevirtual 80, 3) := dk_182 0 80 (dk_at dksX0_judge_0 3 rfl rfl)
theorem dX0_judge_6 : decode cX0_judge 6 = .ok (.i2l, 1) := dk_133 (dk_at dksX0_judge_0 6 rfl rfl)
theorem dX0_judge_7 : decode cX0_judge 7 = .ok (.lastore, 1) := dk_80 (dk_at dksX0_judge_0 7 rfl rfl)
theorem dX0_judge_8 : decode cX0_judge 8 = .ok (.goto 6, 3) := dk_167 0 6 (dk_at dksX0_judge_0 8 rfl rfl)
theorem dX0_judge_11 : decode cX0_judge 11 = .ok (.astore_n 2, 1) := dk_77 (dk_at dksX0_judge_0 11 rfl rfl)
theorem dX0_judge_12 : decode cX0_judge 12 = .ok (.iconst 1, 1) := dk_4 (dk_at dksX0_judge_0 12 rfl rfl)
theorem dX0_judge_13 : decode cX0_judge 13 = .ok (.ireturn, 1) := dk_172 (dk_at dksX0_judge_0 13 rfl rfl)
theorem dX0_judge_14 : decode cX0_judge 14 = .ok (.iconst 0, 1) := dk_3 (dk_at dksX0_judge_0 14 rfl rfl)
theorem dX0_judge_15 : decode cX0_judge 15 = .ok (.ireturn, 1) := dk_172 (dk_at dksX0_judge_0 15 rfl rfl)
abbrev cX0_proof : ByteArray := method_23_code
def yX0_proof : MethodName := ⟨RX0, "proof", "(LGlassLeaders;I[J)I"⟩
def dkwX0_proof_0 : List UInt8 := [44, 3, 42, 27, 182, 0, 84, 133, 80, 167, 0, 9, 78, 4, 172, 78, 5, 172, 3, 172]
abbrev dktX0_proof_0 : List UInt8 := dkwX0_proof_0 ++ []
theorem dksX0_proof_0 : cX0_proof.data.toList.drop 0 = dktX0_proof_0 := by decide +kernel
theorem dX0_proof_0 : decode cX0_proof 0 = .ok (.aload_n 2, 1) := dk_44 (dk_at dksX0_proof_0 0 rfl rfl)
theorem dX0_proof_1 : decode cX0_proof 1 = .ok (.iconst 0, 1) := dk_3 (dk_at dksX0_proof_0 1 rfl rfl)
theorem dX0_proof_2 : decode cX0_proof 2 = .ok (.aload_n 0, 1) := dk_42 (dk_at dksX0_proof_0 2 rfl rfl)
theorem dX0_proof_3 : decode cX0_proof 3 = .ok (.iload_n 1, 1) := dk_27 (dk_at dksX0_proof_0 3 rfl rfl)
theorem dX0_proof_4 : decode cX0_proof 4 = .ok (.invokevirtual 84, 3) := dk_182 0 84 (dk_at dksX0_proof_0 4 rfl rfl)
theorem dX0_proof_7 : decode cX0_proof 7 = .ok (.i2l, 1) := dk_133 (dk_at dksX0_proof_0 7 rfl rfl)
theorem dX0_proof_8 : decode cX0_proof 8 = .ok (.lastore, 1) := dk_80 (dk_at dksX0_proof_0 8 rfl rfl)
theorem dX0_proof_9 : decode cX0_proof 9 = .ok (.goto 9, 3) := dk_167 0 9 (dk_at dksX0_proof_0 9 rfl rfl)
theorem dX0_proof_12 : decode cX0_proof 12 = .ok (.astore_n 3, 1) := dk_78 (dk_at dksX0_proof_0 12 rfl rfl)
theorem dX0_proof_13 : decode cX0_proof 13 = .ok (.iconst 1, 1) := dk_4 (dk_at dksX0_proof_0 13 rfl rfl)
theorem dX0_proof_14 : decode cX0_proof 14 = .ok (.ireturn, 1) := dk_172 (dk_at dksX0_proof_0 14 rfl rfl)
theorem dX0_proof_15 : decode cX0_proof 15 = .ok (.astore_n 3, 1) := dk_78 (dk_at dksX0_proof_0 15 rfl rfl)
theorem dX0_proof_16 : decode cX0_proof 16 = .ok (.iconst 2, 1) := dk_5 (dk_at dksX0_proof_0 16 rfl rfl)
theorem dX0_proof_17 : decode cX0_proof 17 = .ok (.ireturn, 1) := dk_172 (dk_at dksX0_proof_0 17 rfl rfl)
theorem dX0_proof_18 : decode cX0_proof 18 = .ok (.iconst 0, 1) := dk_3 (dk_at dksX0_proof_0 18 rfl rfl)
theorem dX0_proof_19 : decode cX0_proof 19 = .ok (.ireturn, 1) := dk_172 (dk_at dksX0_proof_0 19 rfl rfl)
abbrev cX0_hour : ByteArray := method_24_code
def yX0_hour : MethodName := ⟨RX0, "hour", "(LGlassLeaders;II[J)I"⟩
def dkwX0_hour_1 : List UInt8 := [3, 172]
abbrev dktX0_hour_1 : List UInt8 := dkwX0_hour_1 ++ []
def dkwX0_hour_0 : List UInt8 := [45, 3, 42, 27, 28, 182, 0, 87, 80, 167, 0, 15, 58, 4, 4, 172, 58, 4, 5, 172, 58, 4, 6, 172]
abbrev dktX0_hour_0 : List UInt8 := dkwX0_hour_0 ++ dktX0_hour_1
theorem dksX0_hour_0 : cX0_hour.data.toList.drop 0 = dktX0_hour_0 := by decide +kernel
theorem dksX0_hour_1 : cX0_hour.data.toList.drop 24 = dktX0_hour_1 := dk_seg dksX0_hour_0 24 rfl rfl
theorem dX0_hour_0 : decode cX0_hour 0 = .ok (.aload_n 3, 1) := dk_45 (dk_at dksX0_hour_0 0 rfl rfl)
theorem dX0_hour_1 : decode cX0_hour 1 = .ok (.iconst 0, 1) := dk_3 (dk_at dksX0_hour_0 1 rfl rfl)
theorem dX0_hour_2 : decode cX0_hour 2 = .ok (.aload_n 0, 1) := dk_42 (dk_at dksX0_hour_0 2 rfl rfl)
theorem dX0_hour_3 : decode cX0_hour 3 = .ok (.iload_n 1, 1) := dk_27 (dk_at dksX0_hour_0 3 rfl rfl)
theorem dX0_hour_4 : decode cX0_hour 4 = .ok (.iload_n 2, 1) := dk_28 (dk_at dksX0_hour_0 4 rfl rfl)
theorem dX0_hour_5 : decode cX0_hour 5 = .ok (.invokevirtual 87, 3) := dk_182 0 87 (dk_at dksX0_hour_0 5 rfl rfl)
theorem dX0_hour_8 : decode cX0_hour 8 = .ok (.lastore, 1) := dk_80 (dk_at dksX0_hour_0 8 rfl rfl)
theorem dX0_hour_9 : decode cX0_hour 9 = .ok (.goto 15, 3) := dk_167 0 15 (dk_at dksX0_hour_0 9 rfl rfl)
theorem dX0_hour_12 : decode cX0_hour 12 = .ok (.astore 4, 2) := dk_58 4 (dk_at dksX0_hour_0 12 rfl rfl)
theorem dX0_hour_14 : decode cX0_hour 14 = .ok (.iconst 1, 1) := dk_4 (dk_at dksX0_hour_0 14 rfl rfl)
theorem dX0_hour_15 : decode cX0_hour 15 = .ok (.ireturn, 1) := dk_172 (dk_at dksX0_hour_0 15 rfl rfl)
theorem dX0_hour_16 : decode cX0_hour 16 = .ok (.astore 4, 2) := dk_58 4 (dk_at dksX0_hour_0 16 rfl rfl)
theorem dX0_hour_18 : decode cX0_hour 18 = .ok (.iconst 2, 1) := dk_5 (dk_at dksX0_hour_0 18 rfl rfl)
theorem dX0_hour_19 : decode cX0_hour 19 = .ok (.ireturn, 1) := dk_172 (dk_at dksX0_hour_0 19 rfl rfl)
theorem dX0_hour_20 : decode cX0_hour 20 = .ok (.astore 4, 2) := dk_58 4 (dk_at dksX0_hour_0 20 rfl rfl)
theorem dX0_hour_22 : decode cX0_hour 22 = .ok (.iconst 3, 1) := dk_6 (dk_at dksX0_hour_0 22 rfl rfl)
theorem dX0_hour_23 : decode cX0_hour 23 = .ok (.ireturn, 1) := dk_172 (dk_at dksX0_hour_0 23 rfl rfl)
theorem dX0_hour_24 : decode cX0_hour 24 = .ok (.iconst 0, 1) := dk_3 (dk_at dksX0_hour_1 0 rfl rfl)
theorem dX0_hour_25 : decode cX0_hour 25 = .ok (.ireturn, 1) := dk_172 (dk_at dksX0_hour_1 1 rfl rfl)
abbrev cX0_give : ByteArray := method_25_code
def yX0_give : MethodName := ⟨RX0, "give", "(LGlassLeaders;[J)I"⟩
def dkwX0_give_0 : List UInt8 := [43, 3, 42, 182, 0, 91, 133, 80, 167, 0, 6, 77, 4, 172, 3, 172]
abbrev dktX0_give_0 : List UInt8 := dkwX0_give_0 ++ []
theorem dksX0_give_0 : cX0_give.data.toList.drop 0 = dktX0_give_0 := by decide +kernel
theorem dX0_give_0 : decode cX0_give 0 = .ok (.aload_n 1, 1) := dk_43 (dk_at dksX0_give_0 0 rfl rfl)
theorem dX0_give_1 : decode cX0_give 1 = .ok (.iconst 0, 1) := dk_3 (dk_at dksX0_give_0 1 rfl rfl)
theorem dX0_give_2 : decode cX0_give 2 = .ok (.aload_n 0, 1) := dk_42 (dk_at dksX0_give_0 2 rfl rfl)
theorem dX0_give_3 : decode cX0_give 3 = .ok (.invokevirtual 91, 3) := dk_182 0 91 (dk_at dksX0_give_0 3 rfl rfl)
theorem dX0_give_6 : decode cX0_give 6 = .ok (.i2l, 1) := dk_133 (dk_at dksX0_give_0 6 rfl rfl)
theorem dX0_give_7 : decode cX0_give 7 = .ok (.lastore, 1) := dk_80 (dk_at dksX0_give_0 7 rfl rfl)
theorem dX0_give_8 : decode cX0_give 8 = .ok (.goto 6, 3) := dk_167 0 6 (dk_at dksX0_give_0 8 rfl rfl)
theorem dX0_give_11 : decode cX0_give 11 = .ok (.astore_n 2, 1) := dk_77 (dk_at dksX0_give_0 11 rfl rfl)
theorem dX0_give_12 : decode cX0_give 12 = .ok (.iconst 1, 1) := dk_4 (dk_at dksX0_give_0 12 rfl rfl)
theorem dX0_give_13 : decode cX0_give 13 = .ok (.ireturn, 1) := dk_172 (dk_at dksX0_give_0 13 rfl rfl)
theorem dX0_give_14 : decode cX0_give 14 = .ok (.iconst 0, 1) := dk_3 (dk_at dksX0_give_0 14 rfl rfl)
theorem dX0_give_15 : decode cX0_give 15 = .ok (.ireturn, 1) := dk_172 (dk_at dksX0_give_0 15 rfl rfl)
abbrev cX0_price : ByteArray := method_26_code
def yX0_price : MethodName := ⟨RX0, "price", "(LGlassLeaders;II[J)I"⟩
def dkwX0_price_1 : List UInt8 := [3, 172]
abbrev dktX0_price_1 : List UInt8 := dkwX0_price_1 ++ []
def dkwX0_price_0 : List UInt8 := [45, 3, 42, 27, 28, 182, 0, 94, 80, 167, 0, 15, 58, 4, 4, 172, 58, 4, 5, 172, 58, 4, 6, 172]
abbrev dktX0_price_0 : List UInt8 := dkwX0_price_0 ++ dktX0_price_1
theorem dksX0_price_0 : cX0_price.data.toList.drop 0 = dktX0_price_0 := by decide +kernel
theorem dksX0_price_1 : cX0_price.data.toList.drop 24 = dktX0_price_1 := dk_seg dksX0_price_0 24 rfl rfl
theorem dX0_price_0 : decode cX0_price 0 = .ok (.aload_n 3, 1) := dk_45 (dk_at dksX0_price_0 0 rfl rfl)
theorem dX0_price_1 : decode cX0_price 1 = .ok (.iconst 0, 1) := dk_3 (dk_at dksX0_price_0 1 rfl rfl)
theorem dX0_price_2 : decode cX0_price 2 = .ok (.aload_n 0, 1) := dk_42 (dk_at dksX0_price_0 2 rfl rfl)
theorem dX0_price_3 : decode cX0_price 3 = .ok (.iload_n 1, 1) := dk_27 (dk_at dksX0_price_0 3 rfl rfl)
theorem dX0_price_4 : decode cX0_price 4 = .ok (.iload_n 2, 1) := dk_28 (dk_at dksX0_price_0 4 rfl rfl)
theorem dX0_price_5 : decode cX0_price 5 = .ok (.invokevirtual 94, 3) := dk_182 0 94 (dk_at dksX0_price_0 5 rfl rfl)
theorem dX0_price_8 : decode cX0_price 8 = .ok (.lastore, 1) := dk_80 (dk_at dksX0_price_0 8 rfl rfl)
theorem dX0_price_9 : decode cX0_price 9 = .ok (.goto 15, 3) := dk_167 0 15 (dk_at dksX0_price_0 9 rfl rfl)
theorem dX0_price_12 : decode cX0_price 12 = .ok (.astore 4, 2) := dk_58 4 (dk_at dksX0_price_0 12 rfl rfl)
theorem dX0_price_14 : decode cX0_price 14 = .ok (.iconst 1, 1) := dk_4 (dk_at dksX0_price_0 14 rfl rfl)
theorem dX0_price_15 : decode cX0_price 15 = .ok (.ireturn, 1) := dk_172 (dk_at dksX0_price_0 15 rfl rfl)
theorem dX0_price_16 : decode cX0_price 16 = .ok (.astore 4, 2) := dk_58 4 (dk_at dksX0_price_0 16 rfl rfl)
theorem dX0_price_18 : decode cX0_price 18 = .ok (.iconst 2, 1) := dk_5 (dk_at dksX0_price_0 18 rfl rfl)
theorem dX0_price_19 : decode cX0_price 19 = .ok (.ireturn, 1) := dk_172 (dk_at dksX0_price_0 19 rfl rfl)
theorem dX0_price_20 : decode cX0_price 20 = .ok (.astore 4, 2) := dk_58 4 (dk_at dksX0_price_0 20 rfl rfl)
theorem dX0_price_22 : decode cX0_price 22 = .ok (.iconst 3, 1) := dk_6 (dk_at dksX0_price_0 22 rfl rfl)
theorem dX0_price_23 : decode cX0_price 23 = .ok (.ireturn, 1) := dk_172 (dk_at dksX0_price_0 23 rfl rfl)
theorem dX0_price_24 : decode cX0_price 24 = .ok (.iconst 0, 1) := dk_3 (dk_at dksX0_price_1 0 rfl rfl)
theorem dX0_price_25 : decode cX0_price 25 = .ok (.ireturn, 1) := dk_172 (dk_at dksX0_price_1 1 rfl rfl)
abbrev cX0_order : ByteArray := method_27_code
def yX0_order : MethodName := ⟨RX0, "order", "(LGlassLeaders;I[J)I"⟩
def dkwX0_order_0 : List UInt8 := [44, 3, 42, 27, 182, 0, 97, 133, 80, 167, 0, 9, 78, 4, 172, 78, 5, 172, 3, 172]
abbrev dktX0_order_0 : List UInt8 := dkwX0_order_0 ++ []
theorem dksX0_order_0 : cX0_order.data.toList.drop 0 = dktX0_order_0 := by decide +kernel
theorem dX0_order_0 : decode cX0_order 0 = .ok (.aload_n 2, 1) := dk_44 (dk_at dksX0_order_0 0 rfl rfl)
theorem dX0_order_1 : decode cX0_order 1 = .ok (.iconst 0, 1) := dk_3 (dk_at dksX0_order_0 1 rfl rfl)
theorem dX0_order_2 : decode cX0_order 2 = .ok (.aload_n 0, 1) := dk_42 (dk_at dksX0_order_0 2 rfl rfl)
theorem dX0_order_3 : decode cX0_order 3 = .ok (.iload_n 1, 1) := dk_27 (dk_at dksX0_order_0 3 rfl rfl)
theorem dX0_order_4 : decode cX0_order 4 = .ok (.invokevirtual 97, 3) := dk_182 0 97 (dk_at dksX0_order_0 4 rfl rfl)
theorem dX0_order_7 : decode cX0_order 7 = .ok (.i2l, 1) := dk_133 (dk_at dksX0_order_0 7 rfl rfl)
theorem dX0_order_8 : decode cX0_order 8 = .ok (.lastore, 1) := dk_80 (dk_at dksX0_order_0 8 rfl rfl)
theorem dX0_order_9 : decode cX0_order 9 = .ok (.goto 9, 3) := dk_167 0 9 (dk_at dksX0_order_0 9 rfl rfl)
theorem dX0_order_12 : decode cX0_order 12 = .ok (.astore_n 3, 1) := dk_78 (dk_at dksX0_order_0 12 rfl rfl)
theorem dX0_order_13 : decode cX0_order 13 = .ok (.iconst 1, 1) := dk_4 (dk_at dksX0_order_0 13 rfl rfl)
theorem dX0_order_14 : decode cX0_order 14 = .ok (.ireturn, 1) := dk_172 (dk_at dksX0_order_0 14 rfl rfl)
theorem dX0_order_15 : decode cX0_order 15 = .ok (.astore_n 3, 1) := dk_78 (dk_at dksX0_order_0 15 rfl rfl)
theorem dX0_order_16 : decode cX0_order 16 = .ok (.iconst 2, 1) := dk_5 (dk_at dksX0_order_0 16 rfl rfl)
theorem dX0_order_17 : decode cX0_order 17 = .ok (.ireturn, 1) := dk_172 (dk_at dksX0_order_0 17 rfl rfl)
theorem dX0_order_18 : decode cX0_order 18 = .ok (.iconst 0, 1) := dk_3 (dk_at dksX0_order_0 18 rfl rfl)
theorem dX0_order_19 : decode cX0_order 19 = .ok (.ireturn, 1) := dk_172 (dk_at dksX0_order_0 19 rfl rfl)
abbrev cX0_length : ByteArray := method_28_code
def yX0_length : MethodName := ⟨RX0, "length", "(LGlassLeaders;I[J)I"⟩
def dkwX0_length_0 : List UInt8 := [44, 3, 42, 27, 182, 0, 100, 133, 80, 167, 0, 9, 78, 4, 172, 78, 5, 172, 3, 172]
abbrev dktX0_length_0 : List UInt8 := dkwX0_length_0 ++ []
theorem dksX0_length_0 : cX0_length.data.toList.drop 0 = dktX0_length_0 := by decide +kernel
theorem dX0_length_0 : decode cX0_length 0 = .ok (.aload_n 2, 1) := dk_44 (dk_at dksX0_length_0 0 rfl rfl)
theorem dX0_length_1 : decode cX0_length 1 = .ok (.iconst 0, 1) := dk_3 (dk_at dksX0_length_0 1 rfl rfl)
theorem dX0_length_2 : decode cX0_length 2 = .ok (.aload_n 0, 1) := dk_42 (dk_at dksX0_length_0 2 rfl rfl)
theorem dX0_length_3 : decode cX0_length 3 = .ok (.iload_n 1, 1) := dk_27 (dk_at dksX0_length_0 3 rfl rfl)
theorem dX0_length_4 : decode cX0_length 4 = .ok (.invokevirtual 100, 3) := dk_182 0 100 (dk_at dksX0_length_0 4 rfl rfl)
theorem dX0_length_7 : decode cX0_length 7 = .ok (.i2l, 1) := dk_133 (dk_at dksX0_length_0 7 rfl rfl)
theorem dX0_length_8 : decode cX0_length 8 = .ok (.lastore, 1) := dk_80 (dk_at dksX0_length_0 8 rfl rfl)
theorem dX0_length_9 : decode cX0_length 9 = .ok (.goto 9, 3) := dk_167 0 9 (dk_at dksX0_length_0 9 rfl rfl)
theorem dX0_length_12 : decode cX0_length 12 = .ok (.astore_n 3, 1) := dk_78 (dk_at dksX0_length_0 12 rfl rfl)
theorem dX0_length_13 : decode cX0_length 13 = .ok (.iconst 1, 1) := dk_4 (dk_at dksX0_length_0 13 rfl rfl)
theorem dX0_length_14 : decode cX0_length 14 = .ok (.ireturn, 1) := dk_172 (dk_at dksX0_length_0 14 rfl rfl)
theorem dX0_length_15 : decode cX0_length 15 = .ok (.astore_n 3, 1) := dk_78 (dk_at dksX0_length_0 15 rfl rfl)
theorem dX0_length_16 : decode cX0_length 16 = .ok (.iconst 2, 1) := dk_5 (dk_at dksX0_length_0 16 rfl rfl)
theorem dX0_length_17 : decode cX0_length 17 = .ok (.ireturn, 1) := dk_172 (dk_at dksX0_length_0 17 rfl rfl)
theorem dX0_length_18 : decode cX0_length 18 = .ok (.iconst 0, 1) := dk_3 (dk_at dksX0_length_0 18 rfl rfl)
theorem dX0_length_19 : decode cX0_length 19 = .ok (.ireturn, 1) := dk_172 (dk_at dksX0_length_0 19 rfl rfl)
abbrev cX0_trap : ByteArray := method_29_code
def yX0_trap : MethodName := ⟨RX0, "trap", "(LGlassLeaders;III[J)I"⟩
def dkwX0_trap_1 : List UInt8 := [4, 172, 58, 5, 5, 172, 3, 172]
abbrev dktX0_trap_1 : List UInt8 := dkwX0_trap_1 ++ []
def dkwX0_trap_0 : List UInt8 := [25, 4, 3, 42, 27, 28, 29, 182, 0, 103, 153, 0, 7, 10, 167, 0, 4, 9, 80, 167, 0, 11, 58, 5]
abbrev dktX0_trap_0 : List UInt8 := dkwX0_trap_0 ++ dktX0_trap_1
theorem dksX0_trap_0 : cX0_trap.data.toList.drop 0 = dktX0_trap_0 := by decide +kernel
theorem dksX0_trap_1 : cX0_trap.data.toList.drop 24 = dktX0_trap_1 := dk_seg dksX0_trap_0 24 rfl rfl
theorem dX0_trap_0 : decode cX0_trap 0 = .ok (.aload 4, 2) := dk_25 4 (dk_at dksX0_trap_0 0 rfl rfl)
theorem dX0_trap_2 : decode cX0_trap 2 = .ok (.iconst 0, 1) := dk_3 (dk_at dksX0_trap_0 2 rfl rfl)
theorem dX0_trap_3 : decode cX0_trap 3 = .ok (.aload_n 0, 1) := dk_42 (dk_at dksX0_trap_0 3 rfl rfl)
theorem dX0_trap_4 : decode cX0_trap 4 = .ok (.iload_n 1, 1) := dk_27 (dk_at dksX0_trap_0 4 rfl rfl)
theorem dX0_trap_5 : decode cX0_trap 5 = .ok (.iload_n 2, 1) := dk_28 (dk_at dksX0_trap_0 5 rfl rfl)
theorem dX0_trap_6 : decode cX0_trap 6 = .ok (.iload_n 3, 1) := dk_29 (dk_at dksX0_trap_0 6 rfl rfl)
theorem dX0_trap_7 : decode cX0_trap 7 = .ok (.invokevirtual 103, 3) := dk_182 0 103 (dk_at dksX0_trap_0 7 rfl rfl)
theorem dX0_trap_10 : decode cX0_trap 10 = .ok (.ifCond .eq 7, 3) := dk_153 0 7 (dk_at dksX0_trap_0 10 rfl rfl)
theorem dX0_trap_13 : decode cX0_trap 13 = .ok (.lconst 1, 1) := dk_10 (dk_at dksX0_trap_0 13 rfl rfl)
theorem dX0_trap_14 : decode cX0_trap 14 = .ok (.goto 4, 3) := dk_167 0 4 (dk_at dksX0_trap_0 14 rfl rfl)
theorem dX0_trap_17 : decode cX0_trap 17 = .ok (.lconst 0, 1) := dk_9 (dk_at dksX0_trap_0 17 rfl rfl)
theorem dX0_trap_18 : decode cX0_trap 18 = .ok (.lastore, 1) := dk_80 (dk_at dksX0_trap_0 18 rfl rfl)
theorem dX0_trap_19 : decode cX0_trap 19 = .ok (.goto 11, 3) := dk_167 0 11 (dk_at dksX0_trap_0 19 rfl rfl)
theorem dX0_trap_22 : decode cX0_trap 22 = .ok (.astore 5, 2) := dk_58 5 (dk_at dksX0_trap_0 22 rfl rfl)
theorem dX0_trap_24 : decode cX0_trap 24 = .ok (.iconst 1, 1) := dk_4 (dk_at dksX0_trap_1 0 rfl rfl)
theorem dX0_trap_25 : decode cX0_trap 25 = .ok (.ireturn, 1) := dk_172 (dk_at dksX0_trap_1 1 rfl rfl)
theorem dX0_trap_26 : decode cX0_trap 26 = .ok (.astore 5, 2) := dk_58 5 (dk_at dksX0_trap_1 2 rfl rfl)
theorem dX0_trap_28 : decode cX0_trap 28 = .ok (.iconst 2, 1) := dk_5 (dk_at dksX0_trap_1 4 rfl rfl)
theorem dX0_trap_29 : decode cX0_trap 29 = .ok (.ireturn, 1) := dk_172 (dk_at dksX0_trap_1 5 rfl rfl)
theorem dX0_trap_30 : decode cX0_trap 30 = .ok (.iconst 0, 1) := dk_3 (dk_at dksX0_trap_1 6 rfl rfl)
theorem dX0_trap_31 : decode cX0_trap 31 = .ok (.ireturn, 1) := dk_172 (dk_at dksX0_trap_1 7 rfl rfl)
abbrev cX0_force : ByteArray := method_30_code
def yX0_force : MethodName := ⟨RX0, "force", "(LGlassLeaders;III[J)I"⟩
def dkwX0_force_1 : List UInt8 := [172]
abbrev dktX0_force_1 : List UInt8 := dkwX0_force_1 ++ []
def dkwX0_force_0 : List UInt8 := [25, 4, 3, 42, 27, 28, 29, 182, 0, 107, 133, 80, 167, 0, 11, 58, 5, 4, 172, 58, 5, 5, 172, 3]
abbrev dktX0_force_0 : List UInt8 := dkwX0_force_0 ++ dktX0_force_1
theorem dksX0_force_0 : cX0_force.data.toList.drop 0 = dktX0_force_0 := by decide +kernel
theorem dksX0_force_1 : cX0_force.data.toList.drop 24 = dktX0_force_1 := dk_seg dksX0_force_0 24 rfl rfl
theorem dX0_force_0 : decode cX0_force 0 = .ok (.aload 4, 2) := dk_25 4 (dk_at dksX0_force_0 0 rfl rfl)
theorem dX0_force_2 : decode cX0_force 2 = .ok (.iconst 0, 1) := dk_3 (dk_at dksX0_force_0 2 rfl rfl)
theorem dX0_force_3 : decode cX0_force 3 = .ok (.aload_n 0, 1) := dk_42 (dk_at dksX0_force_0 3 rfl rfl)
theorem dX0_force_4 : decode cX0_force 4 = .ok (.iload_n 1, 1) := dk_27 (dk_at dksX0_force_0 4 rfl rfl)
theorem dX0_force_5 : decode cX0_force 5 = .ok (.iload_n 2, 1) := dk_28 (dk_at dksX0_force_0 5 rfl rfl)
theorem dX0_force_6 : decode cX0_force 6 = .ok (.iload_n 3, 1) := dk_29 (dk_at dksX0_force_0 6 rfl rfl)
theorem dX0_force_7 : decode cX0_force 7 = .ok (.invokevirtual 107, 3) := dk_182 0 107 (dk_at dksX0_force_0 7 rfl rfl)
theorem dX0_force_10 : decode cX0_force 10 = .ok (.i2l, 1) := dk_133 (dk_at dksX0_force_0 10 rfl rfl)
theorem dX0_force_11 : decode cX0_force 11 = .ok (.lastore, 1) := dk_80 (dk_at dksX0_force_0 11 rfl rfl)
theorem dX0_force_12 : decode cX0_force 12 = .ok (.goto 11, 3) := dk_167 0 11 (dk_at dksX0_force_0 12 rfl rfl)
theorem dX0_force_15 : decode cX0_force 15 = .ok (.astore 5, 2) := dk_58 5 (dk_at dksX0_force_0 15 rfl rfl)
theorem dX0_force_17 : decode cX0_force 17 = .ok (.iconst 1, 1) := dk_4 (dk_at dksX0_force_0 17 rfl rfl)
theorem dX0_force_18 : decode cX0_force 18 = .ok (.ireturn, 1) := dk_172 (dk_at dksX0_force_0 18 rfl rfl)
theorem dX0_force_19 : decode cX0_force 19 = .ok (.astore 5, 2) := dk_58 5 (dk_at dksX0_force_0 19 rfl rfl)
theorem dX0_force_21 : decode cX0_force 21 = .ok (.iconst 2, 1) := dk_5 (dk_at dksX0_force_0 21 rfl rfl)
theorem dX0_force_22 : decode cX0_force 22 = .ok (.ireturn, 1) := dk_172 (dk_at dksX0_force_0 22 rfl rfl)
theorem dX0_force_23 : decode cX0_force 23 = .ok (.iconst 0, 1) := dk_3 (dk_at dksX0_force_0 23 rfl rfl)
theorem dX0_force_24 : decode cX0_force 24 = .ok (.ireturn, 1) := dk_172 (dk_at dksX0_force_1 0 rfl rfl)
abbrev cX0_ever : ByteArray := method_31_code
def yX0_ever : MethodName := ⟨RX0, "ever", "(LGlassLeaders;III[J)I"⟩
def dkwX0_ever_1 : List UInt8 := [172]
abbrev dktX0_ever_1 : List UInt8 := dkwX0_ever_1 ++ []
def dkwX0_ever_0 : List UInt8 := [25, 4, 3, 42, 27, 28, 29, 182, 0, 110, 133, 80, 167, 0, 11, 58, 5, 4, 172, 58, 5, 5, 172, 3]
abbrev dktX0_ever_0 : List UInt8 := dkwX0_ever_0 ++ dktX0_ever_1
theorem dksX0_ever_0 : cX0_ever.data.toList.drop 0 = dktX0_ever_0 := by decide +kernel
theorem dksX0_ever_1 : cX0_ever.data.toList.drop 24 = dktX0_ever_1 := dk_seg dksX0_ever_0 24 rfl rfl
theorem dX0_ever_0 : decode cX0_ever 0 = .ok (.aload 4, 2) := dk_25 4 (dk_at dksX0_ever_0 0 rfl rfl)
theorem dX0_ever_2 : decode cX0_ever 2 = .ok (.iconst 0, 1) := dk_3 (dk_at dksX0_ever_0 2 rfl rfl)
theorem dX0_ever_3 : decode cX0_ever 3 = .ok (.aload_n 0, 1) := dk_42 (dk_at dksX0_ever_0 3 rfl rfl)
theorem dX0_ever_4 : decode cX0_ever 4 = .ok (.iload_n 1, 1) := dk_27 (dk_at dksX0_ever_0 4 rfl rfl)
theorem dX0_ever_5 : decode cX0_ever 5 = .ok (.iload_n 2, 1) := dk_28 (dk_at dksX0_ever_0 5 rfl rfl)
theorem dX0_ever_6 : decode cX0_ever 6 = .ok (.iload_n 3, 1) := dk_29 (dk_at dksX0_ever_0 6 rfl rfl)
theorem dX0_ever_7 : decode cX0_ever 7 = .ok (.invokevirtual 110, 3) := dk_182 0 110 (dk_at dksX0_ever_0 7 rfl rfl)
theorem dX0_ever_10 : decode cX0_ever 10 = .ok (.i2l, 1) := dk_133 (dk_at dksX0_ever_0 10 rfl rfl)
theorem dX0_ever_11 : decode cX0_ever 11 = .ok (.lastore, 1) := dk_80 (dk_at dksX0_ever_0 11 rfl rfl)
theorem dX0_ever_12 : decode cX0_ever 12 = .ok (.goto 11, 3) := dk_167 0 11 (dk_at dksX0_ever_0 12 rfl rfl)
theorem dX0_ever_15 : decode cX0_ever 15 = .ok (.astore 5, 2) := dk_58 5 (dk_at dksX0_ever_0 15 rfl rfl)
theorem dX0_ever_17 : decode cX0_ever 17 = .ok (.iconst 1, 1) := dk_4 (dk_at dksX0_ever_0 17 rfl rfl)
theorem dX0_ever_18 : decode cX0_ever 18 = .ok (.ireturn, 1) := dk_172 (dk_at dksX0_ever_0 18 rfl rfl)
theorem dX0_ever_19 : decode cX0_ever 19 = .ok (.astore 5, 2) := dk_58 5 (dk_at dksX0_ever_0 19 rfl rfl)
theorem dX0_ever_21 : decode cX0_ever 21 = .ok (.iconst 2, 1) := dk_5 (dk_at dksX0_ever_0 21 rfl rfl)
theorem dX0_ever_22 : decode cX0_ever 22 = .ok (.ireturn, 1) := dk_172 (dk_at dksX0_ever_0 22 rfl rfl)
theorem dX0_ever_23 : decode cX0_ever 23 = .ok (.iconst 0, 1) := dk_3 (dk_at dksX0_ever_0 23 rfl rfl)
theorem dX0_ever_24 : decode cX0_ever 24 = .ok (.ireturn, 1) := dk_172 (dk_at dksX0_ever_1 0 rfl rfl)
abbrev cX0_there : ByteArray := method_32_code
def yX0_there : MethodName := ⟨RX0, "there", "(LGlassLeaders;I[J)I"⟩
def dkwX0_there_0 : List UInt8 := [44, 3, 42, 27, 182, 0, 113, 80, 167, 0, 9, 78, 4, 172, 78, 5, 172, 3, 172]
abbrev dktX0_there_0 : List UInt8 := dkwX0_there_0 ++ []
theorem dksX0_there_0 : cX0_there.data.toList.drop 0 = dktX0_there_0 := by decide +kernel
theorem dX0_there_0 : decode cX0_there 0 = .ok (.aload_n 2, 1) := dk_44 (dk_at dksX0_there_0 0 rfl rfl)
theorem dX0_there_1 : decode cX0_there 1 = .ok (.iconst 0, 1) := dk_3 (dk_at dksX0_there_0 1 rfl rfl)
theorem dX0_there_2 : decode cX0_there 2 = .ok (.aload_n 0, 1) := dk_42 (dk_at dksX0_there_0 2 rfl rfl)
theorem dX0_there_3 : decode cX0_there 3 = .ok (.iload_n 1, 1) := dk_27 (dk_at dksX0_there_0 3 rfl rfl)
theorem dX0_there_4 : decode cX0_there 4 = .ok (.invokevirtual 113, 3) := dk_182 0 113 (dk_at dksX0_there_0 4 rfl rfl)
theorem dX0_there_7 : decode cX0_there 7 = .ok (.lastore, 1) := dk_80 (dk_at dksX0_there_0 7 rfl rfl)
theorem dX0_there_8 : decode cX0_there 8 = .ok (.goto 9, 3) := dk_167 0 9 (dk_at dksX0_there_0 8 rfl rfl)
theorem dX0_there_11 : decode cX0_there 11 = .ok (.astore_n 3, 1) := dk_78 (dk_at dksX0_there_0 11 rfl rfl)
theorem dX0_there_12 : decode cX0_there 12 = .ok (.iconst 1, 1) := dk_4 (dk_at dksX0_there_0 12 rfl rfl)
theorem dX0_there_13 : decode cX0_there 13 = .ok (.ireturn, 1) := dk_172 (dk_at dksX0_there_0 13 rfl rfl)
theorem dX0_there_14 : decode cX0_there 14 = .ok (.astore_n 3, 1) := dk_78 (dk_at dksX0_there_0 14 rfl rfl)
theorem dX0_there_15 : decode cX0_there 15 = .ok (.iconst 2, 1) := dk_5 (dk_at dksX0_there_0 15 rfl rfl)
theorem dX0_there_16 : decode cX0_there 16 = .ok (.ireturn, 1) := dk_172 (dk_at dksX0_there_0 16 rfl rfl)
theorem dX0_there_17 : decode cX0_there 17 = .ok (.iconst 0, 1) := dk_3 (dk_at dksX0_there_0 17 rfl rfl)
theorem dX0_there_18 : decode cX0_there 18 = .ok (.ireturn, 1) := dk_172 (dk_at dksX0_there_0 18 rfl rfl)
abbrev cX0_blind : ByteArray := method_33_code
def yX0_blind : MethodName := ⟨RX0, "blind", "(LGlassLeaders;I[J)I"⟩
def dkwX0_blind_0 : List UInt8 := [44, 3, 42, 27, 182, 0, 116, 80, 167, 0, 9, 78, 4, 172, 78, 5, 172, 3, 172]
abbrev dktX0_blind_0 : List UInt8 := dkwX0_blind_0 ++ []
theorem dksX0_blind_0 : cX0_blind.data.toList.drop 0 = dktX0_blind_0 := by decide +kernel
theorem dX0_blind_0 : decode cX0_blind 0 = .ok (.aload_n 2, 1) := dk_44 (dk_at dksX0_blind_0 0 rfl rfl)
theorem dX0_blind_1 : decode cX0_blind 1 = .ok (.iconst 0, 1) := dk_3 (dk_at dksX0_blind_0 1 rfl rfl)
theorem dX0_blind_2 : decode cX0_blind 2 = .ok (.aload_n 0, 1) := dk_42 (dk_at dksX0_blind_0 2 rfl rfl)
theorem dX0_blind_3 : decode cX0_blind 3 = .ok (.iload_n 1, 1) := dk_27 (dk_at dksX0_blind_0 3 rfl rfl)
theorem dX0_blind_4 : decode cX0_blind 4 = .ok (.invokevirtual 116, 3) := dk_182 0 116 (dk_at dksX0_blind_0 4 rfl rfl)
theorem dX0_blind_7 : decode cX0_blind 7 = .ok (.lastore, 1) := dk_80 (dk_at dksX0_blind_0 7 rfl rfl)
theorem dX0_blind_8 : decode cX0_blind 8 = .ok (.goto 9, 3) := dk_167 0 9 (dk_at dksX0_blind_0 8 rfl rfl)
theorem dX0_blind_11 : decode cX0_blind 11 = .ok (.astore_n 3, 1) := dk_78 (dk_at dksX0_blind_0 11 rfl rfl)
theorem dX0_blind_12 : decode cX0_blind 12 = .ok (.iconst 1, 1) := dk_4 (dk_at dksX0_blind_0 12 rfl rfl)
theorem dX0_blind_13 : decode cX0_blind 13 = .ok (.ireturn, 1) := dk_172 (dk_at dksX0_blind_0 13 rfl rfl)
theorem dX0_blind_14 : decode cX0_blind 14 = .ok (.astore_n 3, 1) := dk_78 (dk_at dksX0_blind_0 14 rfl rfl)
theorem dX0_blind_15 : decode cX0_blind 15 = .ok (.iconst 2, 1) := dk_5 (dk_at dksX0_blind_0 15 rfl rfl)
theorem dX0_blind_16 : decode cX0_blind 16 = .ok (.ireturn, 1) := dk_172 (dk_at dksX0_blind_0 16 rfl rfl)
theorem dX0_blind_17 : decode cX0_blind 17 = .ok (.iconst 0, 1) := dk_3 (dk_at dksX0_blind_0 17 rfl rfl)
theorem dX0_blind_18 : decode cX0_blind 18 = .ok (.ireturn, 1) := dk_172 (dk_at dksX0_blind_0 18 rfl rfl)
abbrev cX0_asks : ByteArray := method_34_code
def yX0_asks : MethodName := ⟨RX0, "asks", "(LGlassLeaders;I[J)I"⟩
def dkwX0_asks_0 : List UInt8 := [44, 3, 42, 27, 182, 0, 119, 133, 80, 167, 0, 9, 78, 4, 172, 78, 5, 172, 3, 172]
abbrev dktX0_asks_0 : List UInt8 := dkwX0_asks_0 ++ []
theorem dksX0_asks_0 : cX0_asks.data.toList.drop 0 = dktX0_asks_0 := by decide +kernel
theorem dX0_asks_0 : decode cX0_asks 0 = .ok (.aload_n 2, 1) := dk_44 (dk_at dksX0_asks_0 0 rfl rfl)
theorem dX0_asks_1 : decode cX0_asks 1 = .ok (.iconst 0, 1) := dk_3 (dk_at dksX0_asks_0 1 rfl rfl)
theorem dX0_asks_2 : decode cX0_asks 2 = .ok (.aload_n 0, 1) := dk_42 (dk_at dksX0_asks_0 2 rfl rfl)
theorem dX0_asks_3 : decode cX0_asks 3 = .ok (.iload_n 1, 1) := dk_27 (dk_at dksX0_asks_0 3 rfl rfl)
theorem dX0_asks_4 : decode cX0_asks 4 = .ok (.invokevirtual 119, 3) := dk_182 0 119 (dk_at dksX0_asks_0 4 rfl rfl)
theorem dX0_asks_7 : decode cX0_asks 7 = .ok (.i2l, 1) := dk_133 (dk_at dksX0_asks_0 7 rfl rfl)
theorem dX0_asks_8 : decode cX0_asks 8 = .ok (.lastore, 1) := dk_80 (dk_at dksX0_asks_0 8 rfl rfl)
theorem dX0_asks_9 : decode cX0_asks 9 = .ok (.goto 9, 3) := dk_167 0 9 (dk_at dksX0_asks_0 9 rfl rfl)
theorem dX0_asks_12 : decode cX0_asks 12 = .ok (.astore_n 3, 1) := dk_78 (dk_at dksX0_asks_0 12 rfl rfl)
theorem dX0_asks_13 : decode cX0_asks 13 = .ok (.iconst 1, 1) := dk_4 (dk_at dksX0_asks_0 13 rfl rfl)
theorem dX0_asks_14 : decode cX0_asks 14 = .ok (.ireturn, 1) := dk_172 (dk_at dksX0_asks_0 14 rfl rfl)
theorem dX0_asks_15 : decode cX0_asks 15 = .ok (.astore_n 3, 1) := dk_78 (dk_at dksX0_asks_0 15 rfl rfl)
theorem dX0_asks_16 : decode cX0_asks 16 = .ok (.iconst 2, 1) := dk_5 (dk_at dksX0_asks_0 16 rfl rfl)
theorem dX0_asks_17 : decode cX0_asks 17 = .ok (.ireturn, 1) := dk_172 (dk_at dksX0_asks_0 17 rfl rfl)
theorem dX0_asks_18 : decode cX0_asks 18 = .ok (.iconst 0, 1) := dk_3 (dk_at dksX0_asks_0 18 rfl rfl)
theorem dX0_asks_19 : decode cX0_asks 19 = .ok (.ireturn, 1) := dk_172 (dk_at dksX0_asks_0 19 rfl rfl)
abbrev cX0_beside : ByteArray := method_35_code
def yX0_beside : MethodName := ⟨RX0, "beside", "(LGlassLeaders;I[J)I"⟩
def dkwX0_beside_0 : List UInt8 := [44, 3, 42, 27, 182, 0, 122, 80, 167, 0, 9, 78, 4, 172, 78, 5, 172, 3, 172]
abbrev dktX0_beside_0 : List UInt8 := dkwX0_beside_0 ++ []
theorem dksX0_beside_0 : cX0_beside.data.toList.drop 0 = dktX0_beside_0 := by decide +kernel
theorem dX0_beside_0 : decode cX0_beside 0 = .ok (.aload_n 2, 1) := dk_44 (dk_at dksX0_beside_0 0 rfl rfl)
theorem dX0_beside_1 : decode cX0_beside 1 = .ok (.iconst 0, 1) := dk_3 (dk_at dksX0_beside_0 1 rfl rfl)
theorem dX0_beside_2 : decode cX0_beside 2 = .ok (.aload_n 0, 1) := dk_42 (dk_at dksX0_beside_0 2 rfl rfl)
theorem dX0_beside_3 : decode cX0_beside 3 = .ok (.iload_n 1, 1) := dk_27 (dk_at dksX0_beside_0 3 rfl rfl)
theorem dX0_beside_4 : decode cX0_beside 4 = .ok (.invokevirtual 122, 3) := dk_182 0 122 (dk_at dksX0_beside_0 4 rfl rfl)
theorem dX0_beside_7 : decode cX0_beside 7 = .ok (.lastore, 1) := dk_80 (dk_at dksX0_beside_0 7 rfl rfl)
theorem dX0_beside_8 : decode cX0_beside 8 = .ok (.goto 9, 3) := dk_167 0 9 (dk_at dksX0_beside_0 8 rfl rfl)
theorem dX0_beside_11 : decode cX0_beside 11 = .ok (.astore_n 3, 1) := dk_78 (dk_at dksX0_beside_0 11 rfl rfl)
theorem dX0_beside_12 : decode cX0_beside 12 = .ok (.iconst 1, 1) := dk_4 (dk_at dksX0_beside_0 12 rfl rfl)
theorem dX0_beside_13 : decode cX0_beside 13 = .ok (.ireturn, 1) := dk_172 (dk_at dksX0_beside_0 13 rfl rfl)
theorem dX0_beside_14 : decode cX0_beside 14 = .ok (.astore_n 3, 1) := dk_78 (dk_at dksX0_beside_0 14 rfl rfl)
theorem dX0_beside_15 : decode cX0_beside 15 = .ok (.iconst 2, 1) := dk_5 (dk_at dksX0_beside_0 15 rfl rfl)
theorem dX0_beside_16 : decode cX0_beside 16 = .ok (.ireturn, 1) := dk_172 (dk_at dksX0_beside_0 16 rfl rfl)
theorem dX0_beside_17 : decode cX0_beside 17 = .ok (.iconst 0, 1) := dk_3 (dk_at dksX0_beside_0 17 rfl rfl)
theorem dX0_beside_18 : decode cX0_beside 18 = .ok (.ireturn, 1) := dk_172 (dk_at dksX0_beside_0 18 rfl rfl)
abbrev cX0_pact : ByteArray := method_36_code
def yX0_pact : MethodName := ⟨RX0, "pact", "(LGlassLeaders;III[J)I"⟩
def dkwX0_pact_1 : List UInt8 := [6, 172, 3, 172]
abbrev dktX0_pact_1 : List UInt8 := dkwX0_pact_1 ++ []
def dkwX0_pact_0 : List UInt8 := [25, 4, 3, 42, 27, 28, 29, 182, 0, 125, 80, 167, 0, 15, 58, 5, 4, 172, 58, 5, 5, 172, 58, 5]
abbrev dktX0_pact_0 : List UInt8 := dkwX0_pact_0 ++ dktX0_pact_1
theorem dksX0_pact_0 : cX0_pact.data.toList.drop 0 = dktX0_pact_0 := by decide +kernel
theorem dksX0_pact_1 : cX0_pact.data.toList.drop 24 = dktX0_pact_1 := dk_seg dksX0_pact_0 24 rfl rfl
theorem dX0_pact_0 : decode cX0_pact 0 = .ok (.aload 4, 2) := dk_25 4 (dk_at dksX0_pact_0 0 rfl rfl)
theorem dX0_pact_2 : decode cX0_pact 2 = .ok (.iconst 0, 1) := dk_3 (dk_at dksX0_pact_0 2 rfl rfl)
theorem dX0_pact_3 : decode cX0_pact 3 = .ok (.aload_n 0, 1) := dk_42 (dk_at dksX0_pact_0 3 rfl rfl)
theorem dX0_pact_4 : decode cX0_pact 4 = .ok (.iload_n 1, 1) := dk_27 (dk_at dksX0_pact_0 4 rfl rfl)
theorem dX0_pact_5 : decode cX0_pact 5 = .ok (.iload_n 2, 1) := dk_28 (dk_at dksX0_pact_0 5 rfl rfl)
theorem dX0_pact_6 : decode cX0_pact 6 = .ok (.iload_n 3, 1) := dk_29 (dk_at dksX0_pact_0 6 rfl rfl)
theorem dX0_pact_7 : decode cX0_pact 7 = .ok (.invokevirtual 125, 3) := dk_182 0 125 (dk_at dksX0_pact_0 7 rfl rfl)
theorem dX0_pact_10 : decode cX0_pact 10 = .ok (.lastore, 1) := dk_80 (dk_at dksX0_pact_0 10 rfl rfl)
theorem dX0_pact_11 : decode cX0_pact 11 = .ok (.goto 15, 3) := dk_167 0 15 (dk_at dksX0_pact_0 11 rfl rfl)
theorem dX0_pact_14 : decode cX0_pact 14 = .ok (.astore 5, 2) := dk_58 5 (dk_at dksX0_pact_0 14 rfl rfl)
theorem dX0_pact_16 : decode cX0_pact 16 = .ok (.iconst 1, 1) := dk_4 (dk_at dksX0_pact_0 16 rfl rfl)
theorem dX0_pact_17 : decode cX0_pact 17 = .ok (.ireturn, 1) := dk_172 (dk_at dksX0_pact_0 17 rfl rfl)
theorem dX0_pact_18 : decode cX0_pact 18 = .ok (.astore 5, 2) := dk_58 5 (dk_at dksX0_pact_0 18 rfl rfl)
theorem dX0_pact_20 : decode cX0_pact 20 = .ok (.iconst 2, 1) := dk_5 (dk_at dksX0_pact_0 20 rfl rfl)
theorem dX0_pact_21 : decode cX0_pact 21 = .ok (.ireturn, 1) := dk_172 (dk_at dksX0_pact_0 21 rfl rfl)
theorem dX0_pact_22 : decode cX0_pact 22 = .ok (.astore 5, 2) := dk_58 5 (dk_at dksX0_pact_0 22 rfl rfl)
theorem dX0_pact_24 : decode cX0_pact 24 = .ok (.iconst 3, 1) := dk_6 (dk_at dksX0_pact_1 0 rfl rfl)
theorem dX0_pact_25 : decode cX0_pact 25 = .ok (.ireturn, 1) := dk_172 (dk_at dksX0_pact_1 1 rfl rfl)
theorem dX0_pact_26 : decode cX0_pact 26 = .ok (.iconst 0, 1) := dk_3 (dk_at dksX0_pact_1 2 rfl rfl)
theorem dX0_pact_27 : decode cX0_pact 27 = .ok (.ireturn, 1) := dk_172 (dk_at dksX0_pact_1 3 rfl rfl)
abbrev cX0_holds : ByteArray := method_37_code
def yX0_holds : MethodName := ⟨RX0, "holds", "(LGlassLeaders;[J)I"⟩
def dkwX0_holds_0 : List UInt8 := [43, 3, 42, 182, 0, 129, 133, 80, 167, 0, 6, 77, 4, 172, 3, 172]
abbrev dktX0_holds_0 : List UInt8 := dkwX0_holds_0 ++ []
theorem dksX0_holds_0 : cX0_holds.data.toList.drop 0 = dktX0_holds_0 := by decide +kernel
theorem dX0_holds_0 : decode cX0_holds 0 = .ok (.aload_n 1, 1) := dk_43 (dk_at dksX0_holds_0 0 rfl rfl)
theorem dX0_holds_1 : decode cX0_holds 1 = .ok (.iconst 0, 1) := dk_3 (dk_at dksX0_holds_0 1 rfl rfl)
theorem dX0_holds_2 : decode cX0_holds 2 = .ok (.aload_n 0, 1) := dk_42 (dk_at dksX0_holds_0 2 rfl rfl)
theorem dX0_holds_3 : decode cX0_holds 3 = .ok (.invokevirtual 129, 3) := dk_182 0 129 (dk_at dksX0_holds_0 3 rfl rfl)
theorem dX0_holds_6 : decode cX0_holds 6 = .ok (.i2l, 1) := dk_133 (dk_at dksX0_holds_0 6 rfl rfl)
theorem dX0_holds_7 : decode cX0_holds 7 = .ok (.lastore, 1) := dk_80 (dk_at dksX0_holds_0 7 rfl rfl)
theorem dX0_holds_8 : decode cX0_holds 8 = .ok (.goto 6, 3) := dk_167 0 6 (dk_at dksX0_holds_0 8 rfl rfl)
theorem dX0_holds_11 : decode cX0_holds 11 = .ok (.astore_n 2, 1) := dk_77 (dk_at dksX0_holds_0 11 rfl rfl)
theorem dX0_holds_12 : decode cX0_holds 12 = .ok (.iconst 1, 1) := dk_4 (dk_at dksX0_holds_0 12 rfl rfl)
theorem dX0_holds_13 : decode cX0_holds 13 = .ok (.ireturn, 1) := dk_172 (dk_at dksX0_holds_0 13 rfl rfl)
theorem dX0_holds_14 : decode cX0_holds 14 = .ok (.iconst 0, 1) := dk_3 (dk_at dksX0_holds_0 14 rfl rfl)
theorem dX0_holds_15 : decode cX0_holds 15 = .ok (.ireturn, 1) := dk_172 (dk_at dksX0_holds_0 15 rfl rfl)
abbrev cX0_mind : ByteArray := method_38_code
def yX0_mind : MethodName := ⟨RX0, "mind", "(LGlassLeaders;[J)I"⟩
def dkwX0_mind_0 : List UInt8 := [43, 3, 42, 182, 0, 132, 133, 80, 167, 0, 6, 77, 4, 172, 3, 172]
abbrev dktX0_mind_0 : List UInt8 := dkwX0_mind_0 ++ []
theorem dksX0_mind_0 : cX0_mind.data.toList.drop 0 = dktX0_mind_0 := by decide +kernel
theorem dX0_mind_0 : decode cX0_mind 0 = .ok (.aload_n 1, 1) := dk_43 (dk_at dksX0_mind_0 0 rfl rfl)
theorem dX0_mind_1 : decode cX0_mind 1 = .ok (.iconst 0, 1) := dk_3 (dk_at dksX0_mind_0 1 rfl rfl)
theorem dX0_mind_2 : decode cX0_mind 2 = .ok (.aload_n 0, 1) := dk_42 (dk_at dksX0_mind_0 2 rfl rfl)
theorem dX0_mind_3 : decode cX0_mind 3 = .ok (.invokevirtual 132, 3) := dk_182 0 132 (dk_at dksX0_mind_0 3 rfl rfl)
theorem dX0_mind_6 : decode cX0_mind 6 = .ok (.i2l, 1) := dk_133 (dk_at dksX0_mind_0 6 rfl rfl)
theorem dX0_mind_7 : decode cX0_mind 7 = .ok (.lastore, 1) := dk_80 (dk_at dksX0_mind_0 7 rfl rfl)
theorem dX0_mind_8 : decode cX0_mind 8 = .ok (.goto 6, 3) := dk_167 0 6 (dk_at dksX0_mind_0 8 rfl rfl)
theorem dX0_mind_11 : decode cX0_mind 11 = .ok (.astore_n 2, 1) := dk_77 (dk_at dksX0_mind_0 11 rfl rfl)
theorem dX0_mind_12 : decode cX0_mind 12 = .ok (.iconst 1, 1) := dk_4 (dk_at dksX0_mind_0 12 rfl rfl)
theorem dX0_mind_13 : decode cX0_mind 13 = .ok (.ireturn, 1) := dk_172 (dk_at dksX0_mind_0 13 rfl rfl)
theorem dX0_mind_14 : decode cX0_mind 14 = .ok (.iconst 0, 1) := dk_3 (dk_at dksX0_mind_0 14 rfl rfl)
theorem dX0_mind_15 : decode cX0_mind 15 = .ok (.ireturn, 1) := dk_172 (dk_at dksX0_mind_0 15 rfl rfl)
abbrev cX0_arrives : ByteArray := method_39_code
def yX0_arrives : MethodName := ⟨RX0, "arrives", "(LGlassLeaders;II[J)I"⟩
def dkwX0_arrives_0 : List UInt8 := [45, 3, 42, 27, 28, 182, 0, 135, 80, 167, 0, 11, 58, 4, 4, 172, 58, 4, 5, 172, 3, 172]
abbrev dktX0_arrives_0 : List UInt8 := dkwX0_arrives_0 ++ []
theorem dksX0_arrives_0 : cX0_arrives.data.toList.drop 0 = dktX0_arrives_0 := by decide +kernel
theorem dX0_arrives_0 : decode cX0_arrives 0 = .ok (.aload_n 3, 1) := dk_45 (dk_at dksX0_arrives_0 0 rfl rfl)
theorem dX0_arrives_1 : decode cX0_arrives 1 = .ok (.iconst 0, 1) := dk_3 (dk_at dksX0_arrives_0 1 rfl rfl)
theorem dX0_arrives_2 : decode cX0_arrives 2 = .ok (.aload_n 0, 1) := dk_42 (dk_at dksX0_arrives_0 2 rfl rfl)
theorem dX0_arrives_3 : decode cX0_arrives 3 = .ok (.iload_n 1, 1) := dk_27 (dk_at dksX0_arrives_0 3 rfl rfl)
theorem dX0_arrives_4 : decode cX0_arrives 4 = .ok (.iload_n 2, 1) := dk_28 (dk_at dksX0_arrives_0 4 rfl rfl)
theorem dX0_arrives_5 : decode cX0_arrives 5 = .ok (.invokevirtual 135, 3) := dk_182 0 135 (dk_at dksX0_arrives_0 5 rfl rfl)
theorem dX0_arrives_8 : decode cX0_arrives 8 = .ok (.lastore, 1) := dk_80 (dk_at dksX0_arrives_0 8 rfl rfl)
theorem dX0_arrives_9 : decode cX0_arrives 9 = .ok (.goto 11, 3) := dk_167 0 11 (dk_at dksX0_arrives_0 9 rfl rfl)
theorem dX0_arrives_12 : decode cX0_arrives 12 = .ok (.astore 4, 2) := dk_58 4 (dk_at dksX0_arrives_0 12 rfl rfl)
theorem dX0_arrives_14 : decode cX0_arrives 14 = .ok (.iconst 1, 1) := dk_4 (dk_at dksX0_arrives_0 14 rfl rfl)
theorem dX0_arrives_15 : decode cX0_arrives 15 = .ok (.ireturn, 1) := dk_172 (dk_at dksX0_arrives_0 15 rfl rfl)
theorem dX0_arrives_16 : decode cX0_arrives 16 = .ok (.astore 4, 2) := dk_58 4 (dk_at dksX0_arrives_0 16 rfl rfl)
theorem dX0_arrives_18 : decode cX0_arrives 18 = .ok (.iconst 2, 1) := dk_5 (dk_at dksX0_arrives_0 18 rfl rfl)
theorem dX0_arrives_19 : decode cX0_arrives 19 = .ok (.ireturn, 1) := dk_172 (dk_at dksX0_arrives_0 19 rfl rfl)
theorem dX0_arrives_20 : decode cX0_arrives 20 = .ok (.iconst 0, 1) := dk_3 (dk_at dksX0_arrives_0 20 rfl rfl)
theorem dX0_arrives_21 : decode cX0_arrives 21 = .ok (.ireturn, 1) := dk_172 (dk_at dksX0_arrives_0 21 rfl rfl)
abbrev cX0_visits : ByteArray := method_40_code
def yX0_visits : MethodName := ⟨RX0, "visits", "(LGlassLeaders;I[J)I"⟩
def dkwX0_visits_0 : List UInt8 := [44, 3, 42, 27, 182, 0, 138, 80, 167, 0, 9, 78, 4, 172, 78, 5, 172, 3, 172]
abbrev dktX0_visits_0 : List UInt8 := dkwX0_visits_0 ++ []
theorem dksX0_visits_0 : cX0_visits.data.toList.drop 0 = dktX0_visits_0 := by decide +kernel
theorem dX0_visits_0 : decode cX0_visits 0 = .ok (.aload_n 2, 1) := dk_44 (dk_at dksX0_visits_0 0 rfl rfl)
theorem dX0_visits_1 : decode cX0_visits 1 = .ok (.iconst 0, 1) := dk_3 (dk_at dksX0_visits_0 1 rfl rfl)
theorem dX0_visits_2 : decode cX0_visits 2 = .ok (.aload_n 0, 1) := dk_42 (dk_at dksX0_visits_0 2 rfl rfl)
theorem dX0_visits_3 : decode cX0_visits 3 = .ok (.iload_n 1, 1) := dk_27 (dk_at dksX0_visits_0 3 rfl rfl)
theorem dX0_visits_4 : decode cX0_visits 4 = .ok (.invokevirtual 138, 3) := dk_182 0 138 (dk_at dksX0_visits_0 4 rfl rfl)
theorem dX0_visits_7 : decode cX0_visits 7 = .ok (.lastore, 1) := dk_80 (dk_at dksX0_visits_0 7 rfl rfl)
theorem dX0_visits_8 : decode cX0_visits 8 = .ok (.goto 9, 3) := dk_167 0 9 (dk_at dksX0_visits_0 8 rfl rfl)
theorem dX0_visits_11 : decode cX0_visits 11 = .ok (.astore_n 3, 1) := dk_78 (dk_at dksX0_visits_0 11 rfl rfl)
theorem dX0_visits_12 : decode cX0_visits 12 = .ok (.iconst 1, 1) := dk_4 (dk_at dksX0_visits_0 12 rfl rfl)
theorem dX0_visits_13 : decode cX0_visits 13 = .ok (.ireturn, 1) := dk_172 (dk_at dksX0_visits_0 13 rfl rfl)
theorem dX0_visits_14 : decode cX0_visits 14 = .ok (.astore_n 3, 1) := dk_78 (dk_at dksX0_visits_0 14 rfl rfl)
theorem dX0_visits_15 : decode cX0_visits 15 = .ok (.iconst 2, 1) := dk_5 (dk_at dksX0_visits_0 15 rfl rfl)
theorem dX0_visits_16 : decode cX0_visits 16 = .ok (.ireturn, 1) := dk_172 (dk_at dksX0_visits_0 16 rfl rfl)
theorem dX0_visits_17 : decode cX0_visits 17 = .ok (.iconst 0, 1) := dk_3 (dk_at dksX0_visits_0 17 rfl rfl)
theorem dX0_visits_18 : decode cX0_visits 18 = .ok (.ireturn, 1) := dk_172 (dk_at dksX0_visits_0 18 rfl rfl)
abbrev cX0_without : ByteArray := method_41_code
def yX0_without : MethodName := ⟨RX0, "without", "(LGlassLeaders;II[J)I"⟩
def dkwX0_without_1 : List UInt8 := [3, 172]
abbrev dktX0_without_1 : List UInt8 := dkwX0_without_1 ++ []
def dkwX0_without_0 : List UInt8 := [45, 3, 42, 27, 28, 182, 0, 141, 80, 167, 0, 15, 58, 4, 4, 172, 58, 4, 5, 172, 58, 4, 6, 172]
abbrev dktX0_without_0 : List UInt8 := dkwX0_without_0 ++ dktX0_without_1
theorem dksX0_without_0 : cX0_without.data.toList.drop 0 = dktX0_without_0 := by decide +kernel
theorem dksX0_without_1 : cX0_without.data.toList.drop 24 = dktX0_without_1 := dk_seg dksX0_without_0 24 rfl rfl
theorem dX0_without_0 : decode cX0_without 0 = .ok (.aload_n 3, 1) := dk_45 (dk_at dksX0_without_0 0 rfl rfl)
theorem dX0_without_1 : decode cX0_without 1 = .ok (.iconst 0, 1) := dk_3 (dk_at dksX0_without_0 1 rfl rfl)
theorem dX0_without_2 : decode cX0_without 2 = .ok (.aload_n 0, 1) := dk_42 (dk_at dksX0_without_0 2 rfl rfl)
theorem dX0_without_3 : decode cX0_without 3 = .ok (.iload_n 1, 1) := dk_27 (dk_at dksX0_without_0 3 rfl rfl)
theorem dX0_without_4 : decode cX0_without 4 = .ok (.iload_n 2, 1) := dk_28 (dk_at dksX0_without_0 4 rfl rfl)
theorem dX0_without_5 : decode cX0_without 5 = .ok (.invokevirtual 141, 3) := dk_182 0 141 (dk_at dksX0_without_0 5 rfl rfl)
theorem dX0_without_8 : decode cX0_without 8 = .ok (.lastore, 1) := dk_80 (dk_at dksX0_without_0 8 rfl rfl)
theorem dX0_without_9 : decode cX0_without 9 = .ok (.goto 15, 3) := dk_167 0 15 (dk_at dksX0_without_0 9 rfl rfl)
theorem dX0_without_12 : decode cX0_without 12 = .ok (.astore 4, 2) := dk_58 4 (dk_at dksX0_without_0 12 rfl rfl)
theorem dX0_without_14 : decode cX0_without 14 = .ok (.iconst 1, 1) := dk_4 (dk_at dksX0_without_0 14 rfl rfl)
theorem dX0_without_15 : decode cX0_without 15 = .ok (.ireturn, 1) := dk_172 (dk_at dksX0_without_0 15 rfl rfl)
theorem dX0_without_16 : decode cX0_without 16 = .ok (.astore 4, 2) := dk_58 4 (dk_at dksX0_without_0 16 rfl rfl)
theorem dX0_without_18 : decode cX0_without 18 = .ok (.iconst 2, 1) := dk_5 (dk_at dksX0_without_0 18 rfl rfl)
theorem dX0_without_19 : decode cX0_without 19 = .ok (.ireturn, 1) := dk_172 (dk_at dksX0_without_0 19 rfl rfl)
theorem dX0_without_20 : decode cX0_without 20 = .ok (.astore 4, 2) := dk_58 4 (dk_at dksX0_without_0 20 rfl rfl)
theorem dX0_without_22 : decode cX0_without 22 = .ok (.iconst 3, 1) := dk_6 (dk_at dksX0_without_0 22 rfl rfl)
theorem dX0_without_23 : decode cX0_without 23 = .ok (.ireturn, 1) := dk_172 (dk_at dksX0_without_0 23 rfl rfl)
theorem dX0_without_24 : decode cX0_without 24 = .ok (.iconst 0, 1) := dk_3 (dk_at dksX0_without_1 0 rfl rfl)
theorem dX0_without_25 : decode cX0_without 25 = .ok (.ireturn, 1) := dk_172 (dk_at dksX0_without_1 1 rfl rfl)
abbrev cX0_swap : ByteArray := method_42_code
def yX0_swap : MethodName := ⟨RX0, "swap", "(LGlassLeaders;II[J)I"⟩
def dkwX0_swap_1 : List UInt8 := [172, 3, 172]
abbrev dktX0_swap_1 : List UInt8 := dkwX0_swap_1 ++ []
def dkwX0_swap_0 : List UInt8 := [45, 3, 42, 27, 28, 182, 0, 144, 133, 80, 167, 0, 15, 58, 4, 4, 172, 58, 4, 5, 172, 58, 4, 6]
abbrev dktX0_swap_0 : List UInt8 := dkwX0_swap_0 ++ dktX0_swap_1
theorem dksX0_swap_0 : cX0_swap.data.toList.drop 0 = dktX0_swap_0 := by decide +kernel
theorem dksX0_swap_1 : cX0_swap.data.toList.drop 24 = dktX0_swap_1 := dk_seg dksX0_swap_0 24 rfl rfl
theorem dX0_swap_0 : decode cX0_swap 0 = .ok (.aload_n 3, 1) := dk_45 (dk_at dksX0_swap_0 0 rfl rfl)
theorem dX0_swap_1 : decode cX0_swap 1 = .ok (.iconst 0, 1) := dk_3 (dk_at dksX0_swap_0 1 rfl rfl)
theorem dX0_swap_2 : decode cX0_swap 2 = .ok (.aload_n 0, 1) := dk_42 (dk_at dksX0_swap_0 2 rfl rfl)
theorem dX0_swap_3 : decode cX0_swap 3 = .ok (.iload_n 1, 1) := dk_27 (dk_at dksX0_swap_0 3 rfl rfl)
theorem dX0_swap_4 : decode cX0_swap 4 = .ok (.iload_n 2, 1) := dk_28 (dk_at dksX0_swap_0 4 rfl rfl)
theorem dX0_swap_5 : decode cX0_swap 5 = .ok (.invokevirtual 144, 3) := dk_182 0 144 (dk_at dksX0_swap_0 5 rfl rfl)
theorem dX0_swap_8 : decode cX0_swap 8 = .ok (.i2l, 1) := dk_133 (dk_at dksX0_swap_0 8 rfl rfl)
theorem dX0_swap_9 : decode cX0_swap 9 = .ok (.lastore, 1) := dk_80 (dk_at dksX0_swap_0 9 rfl rfl)
theorem dX0_swap_10 : decode cX0_swap 10 = .ok (.goto 15, 3) := dk_167 0 15 (dk_at dksX0_swap_0 10 rfl rfl)
theorem dX0_swap_13 : decode cX0_swap 13 = .ok (.astore 4, 2) := dk_58 4 (dk_at dksX0_swap_0 13 rfl rfl)
theorem dX0_swap_15 : decode cX0_swap 15 = .ok (.iconst 1, 1) := dk_4 (dk_at dksX0_swap_0 15 rfl rfl)
theorem dX0_swap_16 : decode cX0_swap 16 = .ok (.ireturn, 1) := dk_172 (dk_at dksX0_swap_0 16 rfl rfl)
theorem dX0_swap_17 : decode cX0_swap 17 = .ok (.astore 4, 2) := dk_58 4 (dk_at dksX0_swap_0 17 rfl rfl)
theorem dX0_swap_19 : decode cX0_swap 19 = .ok (.iconst 2, 1) := dk_5 (dk_at dksX0_swap_0 19 rfl rfl)
theorem dX0_swap_20 : decode cX0_swap 20 = .ok (.ireturn, 1) := dk_172 (dk_at dksX0_swap_0 20 rfl rfl)
theorem dX0_swap_21 : decode cX0_swap 21 = .ok (.astore 4, 2) := dk_58 4 (dk_at dksX0_swap_0 21 rfl rfl)
theorem dX0_swap_23 : decode cX0_swap 23 = .ok (.iconst 3, 1) := dk_6 (dk_at dksX0_swap_0 23 rfl rfl)
theorem dX0_swap_24 : decode cX0_swap 24 = .ok (.ireturn, 1) := dk_172 (dk_at dksX0_swap_1 0 rfl rfl)
theorem dX0_swap_25 : decode cX0_swap 25 = .ok (.iconst 0, 1) := dk_3 (dk_at dksX0_swap_1 1 rfl rfl)
theorem dX0_swap_26 : decode cX0_swap 26 = .ok (.ireturn, 1) := dk_172 (dk_at dksX0_swap_1 2 rfl rfl)
abbrev cX0_vote : ByteArray := method_43_code
def yX0_vote : MethodName := ⟨RX0, "vote", "(LGlassLeaders;[J)I"⟩
def dkwX0_vote_0 : List UInt8 := [43, 3, 42, 182, 0, 147, 80, 167, 0, 6, 77, 4, 172, 3, 172]
abbrev dktX0_vote_0 : List UInt8 := dkwX0_vote_0 ++ []
theorem dksX0_vote_0 : cX0_vote.data.toList.drop 0 = dktX0_vote_0 := by decide +kernel
theorem dX0_vote_0 : decode cX0_vote 0 = .ok (.aload_n 1, 1) := dk_43 (dk_at dksX0_vote_0 0 rfl rfl)
theorem dX0_vote_1 : decode cX0_vote 1 = .ok (.iconst 0, 1) := dk_3 (dk_at dksX0_vote_0 1 rfl rfl)
theorem dX0_vote_2 : decode cX0_vote 2 = .ok (.aload_n 0, 1) := dk_42 (dk_at dksX0_vote_0 2 rfl rfl)
theorem dX0_vote_3 : decode cX0_vote 3 = .ok (.invokevirtual 147, 3) := dk_182 0 147 (dk_at dksX0_vote_0 3 rfl rfl)
theorem dX0_vote_6 : decode cX0_vote 6 = .ok (.lastore, 1) := dk_80 (dk_at dksX0_vote_0 6 rfl rfl)
theorem dX0_vote_7 : decode cX0_vote 7 = .ok (.goto 6, 3) := dk_167 0 6 (dk_at dksX0_vote_0 7 rfl rfl)
theorem dX0_vote_10 : decode cX0_vote 10 = .ok (.astore_n 2, 1) := dk_77 (dk_at dksX0_vote_0 10 rfl rfl)
theorem dX0_vote_11 : decode cX0_vote 11 = .ok (.iconst 1, 1) := dk_4 (dk_at dksX0_vote_0 11 rfl rfl)
theorem dX0_vote_12 : decode cX0_vote 12 = .ok (.ireturn, 1) := dk_172 (dk_at dksX0_vote_0 12 rfl rfl)
theorem dX0_vote_13 : decode cX0_vote 13 = .ok (.iconst 0, 1) := dk_3 (dk_at dksX0_vote_0 13 rfl rfl)
theorem dX0_vote_14 : decode cX0_vote 14 = .ok (.ireturn, 1) := dk_172 (dk_at dksX0_vote_0 14 rfl rfl)
abbrev cX0_needs : ByteArray := method_44_code
def yX0_needs : MethodName := ⟨RX0, "needs", "(LGlassLeaders;[J)I"⟩
def dkwX0_needs_0 : List UInt8 := [43, 3, 42, 182, 0, 150, 133, 80, 167, 0, 6, 77, 4, 172, 3, 172]
abbrev dktX0_needs_0 : List UInt8 := dkwX0_needs_0 ++ []
theorem dksX0_needs_0 : cX0_needs.data.toList.drop 0 = dktX0_needs_0 := by decide +kernel
theorem dX0_needs_0 : decode cX0_needs 0 = .ok (.aload_n 1, 1) := dk_43 (dk_at dksX0_needs_0 0 rfl rfl)
theorem dX0_needs_1 : decode cX0_needs 1 = .ok (.iconst 0, 1) := dk_3 (dk_at dksX0_needs_0 1 rfl rfl)
theorem dX0_needs_2 : decode cX0_needs 2 = .ok (.aload_n 0, 1) := dk_42 (dk_at dksX0_needs_0 2 rfl rfl)
theorem dX0_needs_3 : decode cX0_needs 3 = .ok (.invokevirtual 150, 3) := dk_182 0 150 (dk_at dksX0_needs_0 3 rfl rfl)
theorem dX0_needs_6 : decode cX0_needs 6 = .ok (.i2l, 1) := dk_133 (dk_at dksX0_needs_0 6 rfl rfl)
theorem dX0_needs_7 : decode cX0_needs 7 = .ok (.lastore, 1) := dk_80 (dk_at dksX0_needs_0 7 rfl rfl)
theorem dX0_needs_8 : decode cX0_needs 8 = .ok (.goto 6, 3) := dk_167 0 6 (dk_at dksX0_needs_0 8 rfl rfl)
theorem dX0_needs_11 : decode cX0_needs 11 = .ok (.astore_n 2, 1) := dk_77 (dk_at dksX0_needs_0 11 rfl rfl)
theorem dX0_needs_12 : decode cX0_needs 12 = .ok (.iconst 1, 1) := dk_4 (dk_at dksX0_needs_0 12 rfl rfl)
theorem dX0_needs_13 : decode cX0_needs 13 = .ok (.ireturn, 1) := dk_172 (dk_at dksX0_needs_0 13 rfl rfl)
theorem dX0_needs_14 : decode cX0_needs 14 = .ok (.iconst 0, 1) := dk_3 (dk_at dksX0_needs_0 14 rfl rfl)
theorem dX0_needs_15 : decode cX0_needs 15 = .ok (.ireturn, 1) := dk_172 (dk_at dksX0_needs_0 15 rfl rfl)
theorem q133 : (Jvm.Cond.initialized "GlassLeadersLaw") ∈ lw_all := lw_g (lw_at lw_m1 0 rfl) rfl
theorem q182 : (Jvm.Cond.classLink "GlassLeadersLaw" (8 : Nat) "GlassLeaders") ∈ lw_all := lw_g (lw_at lw_m1 49 rfl) rfl
theorem q184 : (Jvm.Cond.methodLink "GlassLeadersLaw" (153 : Nat) ({ cls := "GlassLeaders", name := "<init>", desc := "()V" } : Jvm.MethodName)) ∈ lw_all := lw_g (lw_at lw_m1 51 rfl) rfl
theorem q568 : (Jvm.Cond.methodLink "GlassLeadersLaw" (157 : Nat) ({ cls := "GlassLeaders", name := "feed", desc := "(IIIII)I" } : Jvm.MethodName)) ∈ lw_all := lw_g (lw_at lw_m2 195 rfl) rfl
theorem q572 : (Jvm.Cond.methodLink "GlassLeadersLaw" (174 : Nat) ({ cls := "GlassLeaders", name := "fault", desc := "()I" } : Jvm.MethodName)) ∈ lw_all := lw_g (lw_at lw_m2 199 rfl) rfl
theorem q576 : (Jvm.Cond.methodLink "GlassLeadersLaw" (230 : Nat) ({ cls := "GlassLeaders", name := "ended", desc := "()I" } : Jvm.MethodName)) ∈ lw_all := lw_g (lw_at lw_m2 203 rfl) rfl
theorem q580 : (Jvm.Cond.methodLink "GlassLeadersLaw" (237 : Nat) ({ cls := "GlassLeaders", name := "clear", desc := "()I" } : Jvm.MethodName)) ∈ lw_all := lw_g (lw_at lw_m2 207 rfl) rfl
theorem q584 : (Jvm.Cond.methodLink "GlassLeadersLaw" (310 : Nat) ({ cls := "GlassLeaders", name := "image", desc := "()I" } : Jvm.MethodName)) ∈ lw_all := lw_g (lw_at lw_m2 211 rfl) rfl
theorem q673 : (Jvm.Cond.methodLink "GlassLeadersLaw" (314 : Nat) ({ cls := "GlassLeaders", name := "on", desc := "()I" } : Jvm.MethodName)) ∈ lw_all := lw_g (lw_at lw_m3 60 rfl) rfl
theorem q700 : (Jvm.Cond.methodLink "GlassLeadersLaw" (318 : Nat) ({ cls := "GlassLeaders", name := "status", desc := "(I)I" } : Jvm.MethodName)) ∈ lw_all := lw_g (lw_at lw_m3 87 rfl) rfl
theorem q707 : (Jvm.Cond.methodLink "GlassLeadersLaw" (322 : Nat) ({ cls := "GlassLeaders", name := "count", desc := "(I)I" } : Jvm.MethodName)) ∈ lw_all := lw_g (lw_at lw_m3 94 rfl) rfl
theorem q711 : (Jvm.Cond.methodLink "GlassLeadersLaw" (162 : Nat) ({ cls := "GlassLeadersLaw", name := "land", desc := "(LGlassLeaders;I[J)I" } : Jvm.MethodName)) ∈ lw_all := lw_g (lw_at lw_m3 98 rfl) rfl
theorem q712 : (Jvm.Cond.static ({ cls := "GlassLeadersLaw", name := "land", desc := "(LGlassLeaders;I[J)I" } : Jvm.MethodName)) ∈ lw_all := lw_g (lw_at lw_m3 99 rfl) rfl
theorem q713 : (Jvm.Cond.codeWith ({ cls := "GlassLeadersLaw", name := "land", desc := "(LGlassLeaders;I[J)I" } : Jvm.MethodName) method_3_code (4 : Nat) (Option.some Jvm.ClassFile.FieldType.int) [((0 : Nat), (9 : Nat), (12 : Nat), (13 : Nat))]) ∈ lw_all := lw_g (lw_at lw_m3 100 rfl) rfl
theorem q714 : (Jvm.Cond.classLink "GlassLeadersLaw" (13 : Nat) "java/lang/IllegalArgumentException") ∈ lw_all := lw_g (lw_at lw_m3 101 rfl) rfl
theorem q715 : (Jvm.Cond.methodLink "GlassLeadersLaw" (7 : Nat) ({ cls := "GlassLeaders", name := "land", desc := "(I)I" } : Jvm.MethodName)) ∈ lw_all := lw_g (lw_at lw_m3 102 rfl) rfl
theorem q1020 : (Jvm.Cond.methodLink "GlassLeadersLaw" (171 : Nat) ({ cls := "GlassLeadersLaw", name := "law", desc := "(LGlassLeaders;I[J)I" } : Jvm.MethodName)) ∈ lw_all := lw_g (lw_at lw_m4 167 rfl) rfl
theorem q1021 : (Jvm.Cond.static ({ cls := "GlassLeadersLaw", name := "law", desc := "(LGlassLeaders;I[J)I" } : Jvm.MethodName)) ∈ lw_all := lw_g (lw_at lw_m4 168 rfl) rfl
theorem q1022 : (Jvm.Cond.codeWith ({ cls := "GlassLeadersLaw", name := "law", desc := "(LGlassLeaders;I[J)I" } : Jvm.MethodName) method_4_code (4 : Nat) (Option.some Jvm.ClassFile.FieldType.int) [((0 : Nat), (9 : Nat), (12 : Nat), (13 : Nat))]) ∈ lw_all := lw_g (lw_at lw_m4 169 rfl) rfl
theorem q1023 : (Jvm.Cond.methodLink "GlassLeadersLaw" (15 : Nat) ({ cls := "GlassLeaders", name := "law", desc := "(I)I" } : Jvm.MethodName)) ∈ lw_all := lw_g (lw_at lw_m4 170 rfl) rfl
theorem q1226 : (Jvm.Cond.methodLink "GlassLeadersLaw" (178 : Nat) ({ cls := "GlassLeadersLaw", name := "told", desc := "(LGlassLeaders;I[J)I" } : Jvm.MethodName)) ∈ lw_all := lw_g (lw_at lw_m5 133 rfl) rfl
theorem q1227 : (Jvm.Cond.static ({ cls := "GlassLeadersLaw", name := "told", desc := "(LGlassLeaders;I[J)I" } : Jvm.MethodName)) ∈ lw_all := lw_g (lw_at lw_m5 134 rfl) rfl
theorem q1228 : (Jvm.Cond.codeWith ({ cls := "GlassLeadersLaw", name := "told", desc := "(LGlassLeaders;I[J)I" } : Jvm.MethodName) method_5_code (4 : Nat) (Option.some Jvm.ClassFile.FieldType.int) [((0 : Nat), (9 : Nat), (12 : Nat), (13 : Nat))]) ∈ lw_all := lw_g (lw_at lw_m5 135 rfl) rfl
theorem q1229 : (Jvm.Cond.methodLink "GlassLeadersLaw" (18 : Nat) ({ cls := "GlassLeaders", name := "told", desc := "(I)I" } : Jvm.MethodName)) ∈ lw_all := lw_g (lw_at lw_m5 136 rfl) rfl
theorem q1234 : (Jvm.Cond.methodLink "GlassLeadersLaw" (181 : Nat) ({ cls := "GlassLeadersLaw", name := "snow", desc := "(LGlassLeaders;II[J)I" } : Jvm.MethodName)) ∈ lw_all := lw_g (lw_at lw_m5 141 rfl) rfl
theorem q1235 : (Jvm.Cond.static ({ cls := "GlassLeadersLaw", name := "snow", desc := "(LGlassLeaders;II[J)I" } : Jvm.MethodName)) ∈ lw_all := lw_g (lw_at lw_m5 142 rfl) rfl
theorem q1236 : (Jvm.Cond.codeWith ({ cls := "GlassLeadersLaw", name := "snow", desc := "(LGlassLeaders;II[J)I" } : Jvm.MethodName) method_6_code (5 : Nat) (Option.some Jvm.ClassFile.FieldType.int) [((0 : Nat), (10 : Nat), (13 : Nat), (25 : Nat)), ((0 : Nat), (10 : Nat), (17 : Nat), (13 : Nat))]) ∈ lw_all := lw_g (lw_at lw_m5 143 rfl) rfl
theorem q1237 : (Jvm.Cond.classLink "GlassLeadersLaw" (25 : Nat) "java/util/NoSuchElementException") ∈ lw_all := lw_g (lw_at lw_m5 144 rfl) rfl
theorem q1238 : (Jvm.Cond.methodLink "GlassLeadersLaw" (21 : Nat) ({ cls := "GlassLeaders", name := "snow", desc := "(II)I" } : Jvm.MethodName)) ∈ lw_all := lw_g (lw_at lw_m5 145 rfl) rfl
theorem q1261 : (Jvm.Cond.methodLink "GlassLeadersLaw" (185 : Nat) ({ cls := "GlassLeadersLaw", name := "wants", desc := "(LGlassLeaders;II[J)I" } : Jvm.MethodName)) ∈ lw_all := lw_g (lw_at lw_m5 168 rfl) rfl
theorem q1262 : (Jvm.Cond.static ({ cls := "GlassLeadersLaw", name := "wants", desc := "(LGlassLeaders;II[J)I" } : Jvm.MethodName)) ∈ lw_all := lw_g (lw_at lw_m5 169 rfl) rfl
theorem q1263 : (Jvm.Cond.codeWith ({ cls := "GlassLeadersLaw", name := "wants", desc := "(LGlassLeaders;II[J)I" } : Jvm.MethodName) method_7_code (5 : Nat) (Option.some Jvm.ClassFile.FieldType.int) [((0 : Nat), (10 : Nat), (13 : Nat), (30 : Nat)), ((0 : Nat), (10 : Nat), (17 : Nat), (13 : Nat))]) ∈ lw_all := lw_g (lw_at lw_m5 170 rfl) rfl
theorem q1264 : (Jvm.Cond.classLink "GlassLeadersLaw" (30 : Nat) "java/lang/IndexOutOfBoundsException") ∈ lw_all := lw_g (lw_at lw_m5 171 rfl) rfl
theorem q1296 : (Jvm.Cond.methodLink "GlassLeadersLaw" (27 : Nat) ({ cls := "GlassLeaders", name := "wants", desc := "(II)I" } : Jvm.MethodName)) ∈ lw_all := lw_g (lw_at lw_m5 203 rfl) rfl
theorem q1319 : (Jvm.Cond.methodLink "GlassLeadersLaw" (188 : Nat) ({ cls := "GlassLeadersLaw", name := "kind", desc := "(LGlassLeaders;II[J)I" } : Jvm.MethodName)) ∈ lw_all := lw_g (lw_at lw_m5 226 rfl) rfl
theorem q1320 : (Jvm.Cond.static ({ cls := "GlassLeadersLaw", name := "kind", desc := "(LGlassLeaders;II[J)I" } : Jvm.MethodName)) ∈ lw_all := lw_g (lw_at lw_m5 227 rfl) rfl
theorem q1321 : (Jvm.Cond.codeWith ({ cls := "GlassLeadersLaw", name := "kind", desc := "(LGlassLeaders;II[J)I" } : Jvm.MethodName) method_8_code (5 : Nat) (Option.some Jvm.ClassFile.FieldType.int) [((0 : Nat), (10 : Nat), (13 : Nat), (30 : Nat)), ((0 : Nat), (10 : Nat), (17 : Nat), (13 : Nat))]) ∈ lw_all := lw_g (lw_at lw_m5 228 rfl) rfl
theorem q1322 : (Jvm.Cond.methodLink "GlassLeadersLaw" (32 : Nat) ({ cls := "GlassLeaders", name := "kind", desc := "(II)I" } : Jvm.MethodName)) ∈ lw_all := lw_g (lw_at lw_m5 229 rfl) rfl
theorem q1326 : (Jvm.Cond.methodLink "GlassLeadersLaw" (191 : Nat) ({ cls := "GlassLeadersLaw", name := "plan", desc := "(LGlassLeaders;II[J)I" } : Jvm.MethodName)) ∈ lw_all := lw_g (lw_at lw_m5 233 rfl) rfl
theorem q1327 : (Jvm.Cond.static ({ cls := "GlassLeadersLaw", name := "plan", desc := "(LGlassLeaders;II[J)I" } : Jvm.MethodName)) ∈ lw_all := lw_g (lw_at lw_m5 234 rfl) rfl
theorem q1328 : (Jvm.Cond.codeWith ({ cls := "GlassLeadersLaw", name := "plan", desc := "(LGlassLeaders;II[J)I" } : Jvm.MethodName) method_9_code (5 : Nat) (Option.some Jvm.ClassFile.FieldType.int) [((0 : Nat), (10 : Nat), (13 : Nat), (13 : Nat))]) ∈ lw_all := lw_g (lw_at lw_m5 235 rfl) rfl
theorem q1329 : (Jvm.Cond.methodLink "GlassLeadersLaw" (35 : Nat) ({ cls := "GlassLeaders", name := "plan", desc := "(II)I" } : Jvm.MethodName)) ∈ lw_all := lw_g (lw_at lw_m5 236 rfl) rfl
theorem q1333 : (Jvm.Cond.methodLink "GlassLeadersLaw" (194 : Nat) ({ cls := "GlassLeadersLaw", name := "turn", desc := "(LGlassLeaders;II[J)I" } : Jvm.MethodName)) ∈ lw_all := lw_g (lw_at lw_m6 0 rfl) rfl
theorem q1334 : (Jvm.Cond.static ({ cls := "GlassLeadersLaw", name := "turn", desc := "(LGlassLeaders;II[J)I" } : Jvm.MethodName)) ∈ lw_all := lw_g (lw_at lw_m6 1 rfl) rfl
theorem q1335 : (Jvm.Cond.codeWith ({ cls := "GlassLeadersLaw", name := "turn", desc := "(LGlassLeaders;II[J)I" } : Jvm.MethodName) method_10_code (5 : Nat) (Option.some Jvm.ClassFile.FieldType.int) [((0 : Nat), (10 : Nat), (13 : Nat), (30 : Nat)), ((0 : Nat), (10 : Nat), (17 : Nat), (13 : Nat))]) ∈ lw_all := lw_g (lw_at lw_m6 2 rfl) rfl
theorem q1336 : (Jvm.Cond.methodLink "GlassLeadersLaw" (38 : Nat) ({ cls := "GlassLeaders", name := "turn", desc := "(II)I" } : Jvm.MethodName)) ∈ lw_all := lw_g (lw_at lw_m6 3 rfl) rfl
theorem q1340 : (Jvm.Cond.methodLink "GlassLeadersLaw" (197 : Nat) ({ cls := "GlassLeadersLaw", name := "days", desc := "(LGlassLeaders;I[J)I" } : Jvm.MethodName)) ∈ lw_all := lw_g (lw_at lw_m6 7 rfl) rfl
theorem q1341 : (Jvm.Cond.static ({ cls := "GlassLeadersLaw", name := "days", desc := "(LGlassLeaders;I[J)I" } : Jvm.MethodName)) ∈ lw_all := lw_g (lw_at lw_m6 8 rfl) rfl
theorem q1342 : (Jvm.Cond.codeWith ({ cls := "GlassLeadersLaw", name := "days", desc := "(LGlassLeaders;I[J)I" } : Jvm.MethodName) method_11_code (4 : Nat) (Option.some Jvm.ClassFile.FieldType.int) [((0 : Nat), (9 : Nat), (12 : Nat), (13 : Nat))]) ∈ lw_all := lw_g (lw_at lw_m6 9 rfl) rfl
theorem q1343 : (Jvm.Cond.methodLink "GlassLeadersLaw" (41 : Nat) ({ cls := "GlassLeaders", name := "days", desc := "(I)I" } : Jvm.MethodName)) ∈ lw_all := lw_g (lw_at lw_m6 10 rfl) rfl
theorem q1347 : (Jvm.Cond.methodLink "GlassLeadersLaw" (200 : Nat) ({ cls := "GlassLeadersLaw", name := "whose", desc := "(LGlassLeaders;I[J)I" } : Jvm.MethodName)) ∈ lw_all := lw_g (lw_at lw_m6 14 rfl) rfl
theorem q1348 : (Jvm.Cond.static ({ cls := "GlassLeadersLaw", name := "whose", desc := "(LGlassLeaders;I[J)I" } : Jvm.MethodName)) ∈ lw_all := lw_g (lw_at lw_m6 15 rfl) rfl
theorem q1349 : (Jvm.Cond.codeWith ({ cls := "GlassLeadersLaw", name := "whose", desc := "(LGlassLeaders;I[J)I" } : Jvm.MethodName) method_12_code (4 : Nat) (Option.some Jvm.ClassFile.FieldType.int) [((0 : Nat), (9 : Nat), (12 : Nat), (13 : Nat)), ((0 : Nat), (9 : Nat), (15 : Nat), (47 : Nat))]) ∈ lw_all := lw_g (lw_at lw_m6 16 rfl) rfl
theorem q1350 : (Jvm.Cond.classLink "GlassLeadersLaw" (47 : Nat) "java/lang/IllegalStateException") ∈ lw_all := lw_g (lw_at lw_m6 17 rfl) rfl
theorem q1351 : (Jvm.Cond.methodLink "GlassLeadersLaw" (44 : Nat) ({ cls := "GlassLeaders", name := "whose", desc := "(I)I" } : Jvm.MethodName)) ∈ lw_all := lw_g (lw_at lw_m6 18 rfl) rfl
theorem q1378 : (Jvm.Cond.methodLink "GlassLeadersLaw" (203 : Nat) ({ cls := "GlassLeadersLaw", name := "next", desc := "(LGlassLeaders;III[J)I" } : Jvm.MethodName)) ∈ lw_all := lw_g (lw_at lw_m6 45 rfl) rfl
theorem q1379 : (Jvm.Cond.static ({ cls := "GlassLeadersLaw", name := "next", desc := "(LGlassLeaders;III[J)I" } : Jvm.MethodName)) ∈ lw_all := lw_g (lw_at lw_m6 46 rfl) rfl
theorem q1380 : (Jvm.Cond.codeWith ({ cls := "GlassLeadersLaw", name := "next", desc := "(LGlassLeaders;III[J)I" } : Jvm.MethodName) method_13_code (6 : Nat) (Option.some Jvm.ClassFile.FieldType.int) [((0 : Nat), (12 : Nat), (15 : Nat), (13 : Nat)), ((0 : Nat), (12 : Nat), (19 : Nat), (47 : Nat))]) ∈ lw_all := lw_g (lw_at lw_m6 47 rfl) rfl
theorem q1381 : (Jvm.Cond.methodLink "GlassLeadersLaw" (49 : Nat) ({ cls := "GlassLeaders", name := "next", desc := "(III)I" } : Jvm.MethodName)) ∈ lw_all := lw_g (lw_at lw_m6 48 rfl) rfl
theorem q1471 : (Jvm.Cond.methodLink "GlassLeadersLaw" (207 : Nat) ({ cls := "GlassLeadersLaw", name := "takes", desc := "(LGlassLeaders;III[J)I" } : Jvm.MethodName)) ∈ lw_all := lw_g (lw_at lw_m6 138 rfl) rfl
theorem q1472 : (Jvm.Cond.static ({ cls := "GlassLeadersLaw", name := "takes", desc := "(LGlassLeaders;III[J)I" } : Jvm.MethodName)) ∈ lw_all := lw_g (lw_at lw_m6 139 rfl) rfl
theorem q1473 : (Jvm.Cond.codeWith ({ cls := "GlassLeadersLaw", name := "takes", desc := "(LGlassLeaders;III[J)I" } : Jvm.MethodName) method_14_code (6 : Nat) (Option.some Jvm.ClassFile.FieldType.int) [((0 : Nat), (12 : Nat), (15 : Nat), (13 : Nat)), ((0 : Nat), (12 : Nat), (19 : Nat), (47 : Nat))]) ∈ lw_all := lw_g (lw_at lw_m6 140 rfl) rfl
theorem q1474 : (Jvm.Cond.methodLink "GlassLeadersLaw" (53 : Nat) ({ cls := "GlassLeaders", name := "takes", desc := "(III)I" } : Jvm.MethodName)) ∈ lw_all := lw_g (lw_at lw_m6 141 rfl) rfl
theorem q1628 : (Jvm.Cond.methodLink "GlassLeadersLaw" (210 : Nat) ({ cls := "GlassLeadersLaw", name := "value", desc := "(LGlassLeaders;IIII[J)I" } : Jvm.MethodName)) ∈ lw_all := lw_g (lw_at lw_m7 55 rfl) rfl
theorem q1629 : (Jvm.Cond.static ({ cls := "GlassLeadersLaw", name := "value", desc := "(LGlassLeaders;IIII[J)I" } : Jvm.MethodName)) ∈ lw_all := lw_g (lw_at lw_m7 56 rfl) rfl
theorem q1630 : (Jvm.Cond.codeWith ({ cls := "GlassLeadersLaw", name := "value", desc := "(LGlassLeaders;IIII[J)I" } : Jvm.MethodName) method_15_code (7 : Nat) (Option.some Jvm.ClassFile.FieldType.int) [((0 : Nat), (13 : Nat), (16 : Nat), (30 : Nat)), ((0 : Nat), (13 : Nat), (20 : Nat), (13 : Nat)), ((0 : Nat), (13 : Nat), (24 : Nat), (47 : Nat))]) ∈ lw_all := lw_g (lw_at lw_m7 57 rfl) rfl
theorem q1631 : (Jvm.Cond.methodLink "GlassLeadersLaw" (56 : Nat) ({ cls := "GlassLeaders", name := "value", desc := "(IIII)J" } : Jvm.MethodName)) ∈ lw_all := lw_g (lw_at lw_m7 58 rfl) rfl
theorem q1635 : (Jvm.Cond.methodLink "GlassLeadersLaw" (214 : Nat) ({ cls := "GlassLeadersLaw", name := "scale", desc := "(LGlassLeaders;I[J)I" } : Jvm.MethodName)) ∈ lw_all := lw_g (lw_at lw_m7 62 rfl) rfl
theorem q1636 : (Jvm.Cond.static ({ cls := "GlassLeadersLaw", name := "scale", desc := "(LGlassLeaders;I[J)I" } : Jvm.MethodName)) ∈ lw_all := lw_g (lw_at lw_m7 63 rfl) rfl
theorem q1637 : (Jvm.Cond.codeWith ({ cls := "GlassLeadersLaw", name := "scale", desc := "(LGlassLeaders;I[J)I" } : Jvm.MethodName) method_16_code (4 : Nat) (Option.some Jvm.ClassFile.FieldType.int) [((0 : Nat), (8 : Nat), (11 : Nat), (13 : Nat)), ((0 : Nat), (8 : Nat), (14 : Nat), (47 : Nat))]) ∈ lw_all := lw_g (lw_at lw_m7 64 rfl) rfl
theorem q1638 : (Jvm.Cond.methodLink "GlassLeadersLaw" (60 : Nat) ({ cls := "GlassLeaders", name := "scale", desc := "(I)J" } : Jvm.MethodName)) ∈ lw_all := lw_g (lw_at lw_m7 65 rfl) rfl
theorem q1642 : (Jvm.Cond.methodLink "GlassLeadersLaw" (217 : Nat) ({ cls := "GlassLeadersLaw", name := "all", desc := "(LGlassLeaders;[J)I" } : Jvm.MethodName)) ∈ lw_all := lw_g (lw_at lw_m7 69 rfl) rfl
theorem q1643 : (Jvm.Cond.static ({ cls := "GlassLeadersLaw", name := "all", desc := "(LGlassLeaders;[J)I" } : Jvm.MethodName)) ∈ lw_all := lw_g (lw_at lw_m7 70 rfl) rfl
theorem q1644 : (Jvm.Cond.codeWith ({ cls := "GlassLeadersLaw", name := "all", desc := "(LGlassLeaders;[J)I" } : Jvm.MethodName) method_17_code (3 : Nat) (Option.some Jvm.ClassFile.FieldType.int) [((0 : Nat), (7 : Nat), (10 : Nat), (47 : Nat))]) ∈ lw_all := lw_g (lw_at lw_m7 71 rfl) rfl
theorem q1645 : (Jvm.Cond.methodLink "GlassLeadersLaw" (64 : Nat) ({ cls := "GlassLeaders", name := "all", desc := "()J" } : Jvm.MethodName)) ∈ lw_all := lw_g (lw_at lw_m7 72 rfl) rfl
theorem q1657 : (Jvm.Cond.methodLink "GlassLeadersLaw" (221 : Nat) ({ cls := "GlassLeadersLaw", name := "alone", desc := "(LGlassLeaders;I[J)I" } : Jvm.MethodName)) ∈ lw_all := lw_g (lw_at lw_m7 84 rfl) rfl
theorem q1658 : (Jvm.Cond.static ({ cls := "GlassLeadersLaw", name := "alone", desc := "(LGlassLeaders;I[J)I" } : Jvm.MethodName)) ∈ lw_all := lw_g (lw_at lw_m7 85 rfl) rfl
theorem q1659 : (Jvm.Cond.codeWith ({ cls := "GlassLeadersLaw", name := "alone", desc := "(LGlassLeaders;I[J)I" } : Jvm.MethodName) method_18_code (4 : Nat) (Option.some Jvm.ClassFile.FieldType.int) [((0 : Nat), (8 : Nat), (11 : Nat), (30 : Nat)), ((0 : Nat), (8 : Nat), (14 : Nat), (47 : Nat))]) ∈ lw_all := lw_g (lw_at lw_m7 86 rfl) rfl
theorem q1660 : (Jvm.Cond.methodLink "GlassLeadersLaw" (68 : Nat) ({ cls := "GlassLeaders", name := "alone", desc := "(I)J" } : Jvm.MethodName)) ∈ lw_all := lw_g (lw_at lw_m7 87 rfl) rfl
theorem q1664 : (Jvm.Cond.methodLink "GlassLeadersLaw" (224 : Nat) ({ cls := "GlassLeadersLaw", name := "run", desc := "(LGlassLeaders;I[J)I" } : Jvm.MethodName)) ∈ lw_all := lw_g (lw_at lw_m7 91 rfl) rfl
theorem q1665 : (Jvm.Cond.static ({ cls := "GlassLeadersLaw", name := "run", desc := "(LGlassLeaders;I[J)I" } : Jvm.MethodName)) ∈ lw_all := lw_g (lw_at lw_m7 92 rfl) rfl
theorem q1666 : (Jvm.Cond.codeWith ({ cls := "GlassLeadersLaw", name := "run", desc := "(LGlassLeaders;I[J)I" } : Jvm.MethodName) method_19_code (4 : Nat) (Option.some Jvm.ClassFile.FieldType.int) [((0 : Nat), (9 : Nat), (12 : Nat), (47 : Nat))]) ∈ lw_all := lw_g (lw_at lw_m7 93 rfl) rfl
theorem q1667 : (Jvm.Cond.methodLink "GlassLeadersLaw" (71 : Nat) ({ cls := "GlassLeaders", name := "run", desc := "(I)I" } : Jvm.MethodName)) ∈ lw_all := lw_g (lw_at lw_m7 94 rfl) rfl
theorem q1680 : (Jvm.Cond.methodLink "GlassLeadersLaw" (227 : Nat) ({ cls := "GlassLeadersLaw", name := "was", desc := "(LGlassLeaders;II[J)I" } : Jvm.MethodName)) ∈ lw_all := lw_g (lw_at lw_m7 107 rfl) rfl
theorem q1681 : (Jvm.Cond.static ({ cls := "GlassLeadersLaw", name := "was", desc := "(LGlassLeaders;II[J)I" } : Jvm.MethodName)) ∈ lw_all := lw_g (lw_at lw_m7 108 rfl) rfl
theorem q1682 : (Jvm.Cond.codeWith ({ cls := "GlassLeadersLaw", name := "was", desc := "(LGlassLeaders;II[J)I" } : Jvm.MethodName) method_20_code (5 : Nat) (Option.some Jvm.ClassFile.FieldType.int) [((0 : Nat), (10 : Nat), (13 : Nat), (13 : Nat))]) ∈ lw_all := lw_g (lw_at lw_m7 109 rfl) rfl
theorem q1683 : (Jvm.Cond.methodLink "GlassLeadersLaw" (74 : Nat) ({ cls := "GlassLeaders", name := "was", desc := "(II)I" } : Jvm.MethodName)) ∈ lw_all := lw_g (lw_at lw_m7 110 rfl) rfl
theorem q1687 : (Jvm.Cond.methodLink "GlassLeadersLaw" (234 : Nat) ({ cls := "GlassLeadersLaw", name := "row", desc := "(LGlassLeaders;I[J)I" } : Jvm.MethodName)) ∈ lw_all := lw_g (lw_at lw_m7 114 rfl) rfl
theorem q1688 : (Jvm.Cond.static ({ cls := "GlassLeadersLaw", name := "row", desc := "(LGlassLeaders;I[J)I" } : Jvm.MethodName)) ∈ lw_all := lw_g (lw_at lw_m7 115 rfl) rfl
theorem q1689 : (Jvm.Cond.codeWith ({ cls := "GlassLeadersLaw", name := "row", desc := "(LGlassLeaders;I[J)I" } : Jvm.MethodName) method_21_code (4 : Nat) (Option.some Jvm.ClassFile.FieldType.int) [((0 : Nat), (9 : Nat), (12 : Nat), (13 : Nat))]) ∈ lw_all := lw_g (lw_at lw_m7 116 rfl) rfl
theorem q1690 : (Jvm.Cond.methodLink "GlassLeadersLaw" (77 : Nat) ({ cls := "GlassLeaders", name := "row", desc := "(I)I" } : Jvm.MethodName)) ∈ lw_all := lw_g (lw_at lw_m7 117 rfl) rfl
theorem q1694 : (Jvm.Cond.methodLink "GlassLeadersLaw" (241 : Nat) ({ cls := "GlassLeadersLaw", name := "judge", desc := "(LGlassLeaders;[J)I" } : Jvm.MethodName)) ∈ lw_all := lw_g (lw_at lw_m7 121 rfl) rfl
theorem q1695 : (Jvm.Cond.static ({ cls := "GlassLeadersLaw", name := "judge", desc := "(LGlassLeaders;[J)I" } : Jvm.MethodName)) ∈ lw_all := lw_g (lw_at lw_m7 122 rfl) rfl
theorem q1696 : (Jvm.Cond.codeWith ({ cls := "GlassLeadersLaw", name := "judge", desc := "(LGlassLeaders;[J)I" } : Jvm.MethodName) method_22_code (3 : Nat) (Option.some Jvm.ClassFile.FieldType.int) [((0 : Nat), (8 : Nat), (11 : Nat), (47 : Nat))]) ∈ lw_all := lw_g (lw_at lw_m7 123 rfl) rfl
theorem q1697 : (Jvm.Cond.methodLink "GlassLeadersLaw" (80 : Nat) ({ cls := "GlassLeaders", name := "judge", desc := "()I" } : Jvm.MethodName)) ∈ lw_all := lw_g (lw_at lw_m7 124 rfl) rfl
theorem q1701 : (Jvm.Cond.methodLink "GlassLeadersLaw" (244 : Nat) ({ cls := "GlassLeadersLaw", name := "proof", desc := "(LGlassLeaders;I[J)I" } : Jvm.MethodName)) ∈ lw_all := lw_g (lw_at lw_m7 128 rfl) rfl
theorem q1702 : (Jvm.Cond.static ({ cls := "GlassLeadersLaw", name := "proof", desc := "(LGlassLeaders;I[J)I" } : Jvm.MethodName)) ∈ lw_all := lw_g (lw_at lw_m7 129 rfl) rfl
theorem q1703 : (Jvm.Cond.codeWith ({ cls := "GlassLeadersLaw", name := "proof", desc := "(LGlassLeaders;I[J)I" } : Jvm.MethodName) method_23_code (4 : Nat) (Option.some Jvm.ClassFile.FieldType.int) [((0 : Nat), (9 : Nat), (12 : Nat), (30 : Nat)), ((0 : Nat), (9 : Nat), (15 : Nat), (47 : Nat))]) ∈ lw_all := lw_g (lw_at lw_m7 130 rfl) rfl
theorem q1704 : (Jvm.Cond.methodLink "GlassLeadersLaw" (84 : Nat) ({ cls := "GlassLeaders", name := "proof", desc := "(I)I" } : Jvm.MethodName)) ∈ lw_all := lw_g (lw_at lw_m7 131 rfl) rfl
theorem q1714 : (Jvm.Cond.methodLink "GlassLeadersLaw" (247 : Nat) ({ cls := "GlassLeadersLaw", name := "hour", desc := "(LGlassLeaders;II[J)I" } : Jvm.MethodName)) ∈ lw_all := lw_g (lw_at lw_m7 141 rfl) rfl
theorem q1715 : (Jvm.Cond.static ({ cls := "GlassLeadersLaw", name := "hour", desc := "(LGlassLeaders;II[J)I" } : Jvm.MethodName)) ∈ lw_all := lw_g (lw_at lw_m7 142 rfl) rfl
theorem q1716 : (Jvm.Cond.codeWith ({ cls := "GlassLeadersLaw", name := "hour", desc := "(LGlassLeaders;II[J)I" } : Jvm.MethodName) method_24_code (5 : Nat) (Option.some Jvm.ClassFile.FieldType.int) [((0 : Nat), (9 : Nat), (12 : Nat), (30 : Nat)), ((0 : Nat), (9 : Nat), (16 : Nat), (13 : Nat)), ((0 : Nat), (9 : Nat), (20 : Nat), (47 : Nat))]) ∈ lw_all := lw_g (lw_at lw_m7 143 rfl) rfl
theorem q1717 : (Jvm.Cond.methodLink "GlassLeadersLaw" (87 : Nat) ({ cls := "GlassLeaders", name := "hour", desc := "(II)J" } : Jvm.MethodName)) ∈ lw_all := lw_g (lw_at lw_m7 144 rfl) rfl
theorem q1725 : (Jvm.Cond.methodLink "GlassLeadersLaw" (250 : Nat) ({ cls := "GlassLeadersLaw", name := "give", desc := "(LGlassLeaders;[J)I" } : Jvm.MethodName)) ∈ lw_all := lw_g (lw_at lw_m7 152 rfl) rfl
theorem q1726 : (Jvm.Cond.static ({ cls := "GlassLeadersLaw", name := "give", desc := "(LGlassLeaders;[J)I" } : Jvm.MethodName)) ∈ lw_all := lw_g (lw_at lw_m7 153 rfl) rfl
theorem q1727 : (Jvm.Cond.codeWith ({ cls := "GlassLeadersLaw", name := "give", desc := "(LGlassLeaders;[J)I" } : Jvm.MethodName) method_25_code (3 : Nat) (Option.some Jvm.ClassFile.FieldType.int) [((0 : Nat), (8 : Nat), (11 : Nat), (47 : Nat))]) ∈ lw_all := lw_g (lw_at lw_m7 154 rfl) rfl
theorem q1728 : (Jvm.Cond.methodLink "GlassLeadersLaw" (91 : Nat) ({ cls := "GlassLeaders", name := "give", desc := "()I" } : Jvm.MethodName)) ∈ lw_all := lw_g (lw_at lw_m7 155 rfl) rfl
theorem q1736 : (Jvm.Cond.methodLink "GlassLeadersLaw" (253 : Nat) ({ cls := "GlassLeadersLaw", name := "price", desc := "(LGlassLeaders;II[J)I" } : Jvm.MethodName)) ∈ lw_all := lw_g (lw_at lw_m7 163 rfl) rfl
theorem q1737 : (Jvm.Cond.static ({ cls := "GlassLeadersLaw", name := "price", desc := "(LGlassLeaders;II[J)I" } : Jvm.MethodName)) ∈ lw_all := lw_g (lw_at lw_m7 164 rfl) rfl
theorem q1738 : (Jvm.Cond.codeWith ({ cls := "GlassLeadersLaw", name := "price", desc := "(LGlassLeaders;II[J)I" } : Jvm.MethodName) method_26_code (5 : Nat) (Option.some Jvm.ClassFile.FieldType.int) [((0 : Nat), (9 : Nat), (12 : Nat), (30 : Nat)), ((0 : Nat), (9 : Nat), (16 : Nat), (13 : Nat)), ((0 : Nat), (9 : Nat), (20 : Nat), (47 : Nat))]) ∈ lw_all := lw_g (lw_at lw_m7 165 rfl) rfl
theorem q1739 : (Jvm.Cond.methodLink "GlassLeadersLaw" (94 : Nat) ({ cls := "GlassLeaders", name := "price", desc := "(II)J" } : Jvm.MethodName)) ∈ lw_all := lw_g (lw_at lw_m7 166 rfl) rfl
theorem q1743 : (Jvm.Cond.methodLink "GlassLeadersLaw" (256 : Nat) ({ cls := "GlassLeadersLaw", name := "order", desc := "(LGlassLeaders;I[J)I" } : Jvm.MethodName)) ∈ lw_all := lw_g (lw_at lw_m7 170 rfl) rfl
theorem q1744 : (Jvm.Cond.static ({ cls := "GlassLeadersLaw", name := "order", desc := "(LGlassLeaders;I[J)I" } : Jvm.MethodName)) ∈ lw_all := lw_g (lw_at lw_m7 171 rfl) rfl
theorem q1745 : (Jvm.Cond.codeWith ({ cls := "GlassLeadersLaw", name := "order", desc := "(LGlassLeaders;I[J)I" } : Jvm.MethodName) method_27_code (4 : Nat) (Option.some Jvm.ClassFile.FieldType.int) [((0 : Nat), (9 : Nat), (12 : Nat), (30 : Nat)), ((0 : Nat), (9 : Nat), (15 : Nat), (47 : Nat))]) ∈ lw_all := lw_g (lw_at lw_m7 172 rfl) rfl
theorem q1746 : (Jvm.Cond.methodLink "GlassLeadersLaw" (97 : Nat) ({ cls := "GlassLeaders", name := "order", desc := "(I)I" } : Jvm.MethodName)) ∈ lw_all := lw_g (lw_at lw_m7 173 rfl) rfl
theorem q1762 : (Jvm.Cond.methodLink "GlassLeadersLaw" (259 : Nat) ({ cls := "GlassLeadersLaw", name := "length", desc := "(LGlassLeaders;I[J)I" } : Jvm.MethodName)) ∈ lw_all := lw_g (lw_at lw_m7 189 rfl) rfl
theorem q1763 : (Jvm.Cond.static ({ cls := "GlassLeadersLaw", name := "length", desc := "(LGlassLeaders;I[J)I" } : Jvm.MethodName)) ∈ lw_all := lw_g (lw_at lw_m7 190 rfl) rfl
theorem q1764 : (Jvm.Cond.codeWith ({ cls := "GlassLeadersLaw", name := "length", desc := "(LGlassLeaders;I[J)I" } : Jvm.MethodName) method_28_code (4 : Nat) (Option.some Jvm.ClassFile.FieldType.int) [((0 : Nat), (9 : Nat), (12 : Nat), (30 : Nat)), ((0 : Nat), (9 : Nat), (15 : Nat), (47 : Nat))]) ∈ lw_all := lw_g (lw_at lw_m7 191 rfl) rfl
theorem q1765 : (Jvm.Cond.methodLink "GlassLeadersLaw" (100 : Nat) ({ cls := "GlassLeaders", name := "length", desc := "(I)I" } : Jvm.MethodName)) ∈ lw_all := lw_g (lw_at lw_m7 192 rfl) rfl
theorem q1769 : (Jvm.Cond.methodLink "GlassLeadersLaw" (262 : Nat) ({ cls := "GlassLeadersLaw", name := "trap", desc := "(LGlassLeaders;III[J)I" } : Jvm.MethodName)) ∈ lw_all := lw_g (lw_at lw_m7 196 rfl) rfl
theorem q1770 : (Jvm.Cond.static ({ cls := "GlassLeadersLaw", name := "trap", desc := "(LGlassLeaders;III[J)I" } : Jvm.MethodName)) ∈ lw_all := lw_g (lw_at lw_m7 197 rfl) rfl
theorem q1771 : (Jvm.Cond.codeWith ({ cls := "GlassLeadersLaw", name := "trap", desc := "(LGlassLeaders;III[J)I" } : Jvm.MethodName) method_29_code (6 : Nat) (Option.some Jvm.ClassFile.FieldType.int) [((0 : Nat), (19 : Nat), (22 : Nat), (13 : Nat)), ((0 : Nat), (19 : Nat), (26 : Nat), (47 : Nat))]) ∈ lw_all := lw_g (lw_at lw_m7 198 rfl) rfl
theorem q1772 : (Jvm.Cond.methodLink "GlassLeadersLaw" (103 : Nat) ({ cls := "GlassLeaders", name := "trap", desc := "(III)Z" } : Jvm.MethodName)) ∈ lw_all := lw_g (lw_at lw_m7 199 rfl) rfl
theorem q1780 : (Jvm.Cond.methodLink "GlassLeadersLaw" (265 : Nat) ({ cls := "GlassLeadersLaw", name := "force", desc := "(LGlassLeaders;III[J)I" } : Jvm.MethodName)) ∈ lw_all := lw_g (lw_at lw_m7 207 rfl) rfl
theorem q1781 : (Jvm.Cond.static ({ cls := "GlassLeadersLaw", name := "force", desc := "(LGlassLeaders;III[J)I" } : Jvm.MethodName)) ∈ lw_all := lw_g (lw_at lw_m7 208 rfl) rfl
theorem q1782 : (Jvm.Cond.codeWith ({ cls := "GlassLeadersLaw", name := "force", desc := "(LGlassLeaders;III[J)I" } : Jvm.MethodName) method_30_code (6 : Nat) (Option.some Jvm.ClassFile.FieldType.int) [((0 : Nat), (12 : Nat), (15 : Nat), (13 : Nat)), ((0 : Nat), (12 : Nat), (19 : Nat), (47 : Nat))]) ∈ lw_all := lw_g (lw_at lw_m7 209 rfl) rfl
theorem q1783 : (Jvm.Cond.methodLink "GlassLeadersLaw" (107 : Nat) ({ cls := "GlassLeaders", name := "force", desc := "(III)I" } : Jvm.MethodName)) ∈ lw_all := lw_g (lw_at lw_m7 210 rfl) rfl
theorem q1787 : (Jvm.Cond.methodLink "GlassLeadersLaw" (268 : Nat) ({ cls := "GlassLeadersLaw", name := "ever", desc := "(LGlassLeaders;III[J)I" } : Jvm.MethodName)) ∈ lw_all := lw_g (lw_at lw_m7 214 rfl) rfl
theorem q1788 : (Jvm.Cond.static ({ cls := "GlassLeadersLaw", name := "ever", desc := "(LGlassLeaders;III[J)I" } : Jvm.MethodName)) ∈ lw_all := lw_g (lw_at lw_m7 215 rfl) rfl
theorem q1789 : (Jvm.Cond.codeWith ({ cls := "GlassLeadersLaw", name := "ever", desc := "(LGlassLeaders;III[J)I" } : Jvm.MethodName) method_31_code (6 : Nat) (Option.some Jvm.ClassFile.FieldType.int) [((0 : Nat), (12 : Nat), (15 : Nat), (13 : Nat)), ((0 : Nat), (12 : Nat), (19 : Nat), (47 : Nat))]) ∈ lw_all := lw_g (lw_at lw_m7 216 rfl) rfl
theorem q1790 : (Jvm.Cond.methodLink "GlassLeadersLaw" (110 : Nat) ({ cls := "GlassLeaders", name := "ever", desc := "(III)I" } : Jvm.MethodName)) ∈ lw_all := lw_g (lw_at lw_m7 217 rfl) rfl
theorem q1798 : (Jvm.Cond.methodLink "GlassLeadersLaw" (271 : Nat) ({ cls := "GlassLeadersLaw", name := "there", desc := "(LGlassLeaders;I[J)I" } : Jvm.MethodName)) ∈ lw_all := lw_g (lw_at lw_m7 225 rfl) rfl
theorem q1799 : (Jvm.Cond.static ({ cls := "GlassLeadersLaw", name := "there", desc := "(LGlassLeaders;I[J)I" } : Jvm.MethodName)) ∈ lw_all := lw_g (lw_at lw_m7 226 rfl) rfl
theorem q1800 : (Jvm.Cond.codeWith ({ cls := "GlassLeadersLaw", name := "there", desc := "(LGlassLeaders;I[J)I" } : Jvm.MethodName) method_32_code (4 : Nat) (Option.some Jvm.ClassFile.FieldType.int) [((0 : Nat), (8 : Nat), (11 : Nat), (13 : Nat)), ((0 : Nat), (8 : Nat), (14 : Nat), (47 : Nat))]) ∈ lw_all := lw_g (lw_at lw_m7 227 rfl) rfl
theorem q1801 : (Jvm.Cond.methodLink "GlassLeadersLaw" (113 : Nat) ({ cls := "GlassLeaders", name := "there", desc := "(I)J" } : Jvm.MethodName)) ∈ lw_all := lw_g (lw_at lw_m7 228 rfl) rfl
theorem q1805 : (Jvm.Cond.methodLink "GlassLeadersLaw" (274 : Nat) ({ cls := "GlassLeadersLaw", name := "blind", desc := "(LGlassLeaders;I[J)I" } : Jvm.MethodName)) ∈ lw_all := lw_g (lw_at lw_m7 232 rfl) rfl
theorem q1806 : (Jvm.Cond.static ({ cls := "GlassLeadersLaw", name := "blind", desc := "(LGlassLeaders;I[J)I" } : Jvm.MethodName)) ∈ lw_all := lw_g (lw_at lw_m7 233 rfl) rfl
theorem q1807 : (Jvm.Cond.codeWith ({ cls := "GlassLeadersLaw", name := "blind", desc := "(LGlassLeaders;I[J)I" } : Jvm.MethodName) method_33_code (4 : Nat) (Option.some Jvm.ClassFile.FieldType.int) [((0 : Nat), (8 : Nat), (11 : Nat), (30 : Nat)), ((0 : Nat), (8 : Nat), (14 : Nat), (47 : Nat))]) ∈ lw_all := lw_g (lw_at lw_m7 234 rfl) rfl
theorem q1808 : (Jvm.Cond.methodLink "GlassLeadersLaw" (116 : Nat) ({ cls := "GlassLeaders", name := "blind", desc := "(I)J" } : Jvm.MethodName)) ∈ lw_all := lw_g (lw_at lw_m7 235 rfl) rfl
theorem q1816 : (Jvm.Cond.methodLink "GlassLeadersLaw" (277 : Nat) ({ cls := "GlassLeadersLaw", name := "asks", desc := "(LGlassLeaders;I[J)I" } : Jvm.MethodName)) ∈ lw_all := lw_g (lw_at lw_m8 3 rfl) rfl
theorem q1817 : (Jvm.Cond.static ({ cls := "GlassLeadersLaw", name := "asks", desc := "(LGlassLeaders;I[J)I" } : Jvm.MethodName)) ∈ lw_all := lw_g (lw_at lw_m8 4 rfl) rfl
theorem q1818 : (Jvm.Cond.codeWith ({ cls := "GlassLeadersLaw", name := "asks", desc := "(LGlassLeaders;I[J)I" } : Jvm.MethodName) method_34_code (4 : Nat) (Option.some Jvm.ClassFile.FieldType.int) [((0 : Nat), (9 : Nat), (12 : Nat), (30 : Nat)), ((0 : Nat), (9 : Nat), (15 : Nat), (47 : Nat))]) ∈ lw_all := lw_g (lw_at lw_m8 5 rfl) rfl
theorem q1819 : (Jvm.Cond.methodLink "GlassLeadersLaw" (119 : Nat) ({ cls := "GlassLeaders", name := "asks", desc := "(I)I" } : Jvm.MethodName)) ∈ lw_all := lw_g (lw_at lw_m8 6 rfl) rfl
theorem q1823 : (Jvm.Cond.methodLink "GlassLeadersLaw" (280 : Nat) ({ cls := "GlassLeadersLaw", name := "beside", desc := "(LGlassLeaders;I[J)I" } : Jvm.MethodName)) ∈ lw_all := lw_g (lw_at lw_m8 10 rfl) rfl
theorem q1824 : (Jvm.Cond.static ({ cls := "GlassLeadersLaw", name := "beside", desc := "(LGlassLeaders;I[J)I" } : Jvm.MethodName)) ∈ lw_all := lw_g (lw_at lw_m8 11 rfl) rfl
theorem q1825 : (Jvm.Cond.codeWith ({ cls := "GlassLeadersLaw", name := "beside", desc := "(LGlassLeaders;I[J)I" } : Jvm.MethodName) method_35_code (4 : Nat) (Option.some Jvm.ClassFile.FieldType.int) [((0 : Nat), (8 : Nat), (11 : Nat), (30 : Nat)), ((0 : Nat), (8 : Nat), (14 : Nat), (47 : Nat))]) ∈ lw_all := lw_g (lw_at lw_m8 12 rfl) rfl
theorem q1826 : (Jvm.Cond.methodLink "GlassLeadersLaw" (122 : Nat) ({ cls := "GlassLeaders", name := "beside", desc := "(I)J" } : Jvm.MethodName)) ∈ lw_all := lw_g (lw_at lw_m8 13 rfl) rfl
theorem q1830 : (Jvm.Cond.methodLink "GlassLeadersLaw" (283 : Nat) ({ cls := "GlassLeadersLaw", name := "pact", desc := "(LGlassLeaders;III[J)I" } : Jvm.MethodName)) ∈ lw_all := lw_g (lw_at lw_m8 17 rfl) rfl
theorem q1831 : (Jvm.Cond.static ({ cls := "GlassLeadersLaw", name := "pact", desc := "(LGlassLeaders;III[J)I" } : Jvm.MethodName)) ∈ lw_all := lw_g (lw_at lw_m8 18 rfl) rfl
theorem q1832 : (Jvm.Cond.codeWith ({ cls := "GlassLeadersLaw", name := "pact", desc := "(LGlassLeaders;III[J)I" } : Jvm.MethodName) method_36_code (6 : Nat) (Option.some Jvm.ClassFile.FieldType.int) [((0 : Nat), (11 : Nat), (14 : Nat), (30 : Nat)), ((0 : Nat), (11 : Nat), (18 : Nat), (13 : Nat)), ((0 : Nat), (11 : Nat), (22 : Nat), (47 : Nat))]) ∈ lw_all := lw_g (lw_at lw_m8 19 rfl) rfl
theorem q1833 : (Jvm.Cond.methodLink "GlassLeadersLaw" (125 : Nat) ({ cls := "GlassLeaders", name := "pact", desc := "(III)J" } : Jvm.MethodName)) ∈ lw_all := lw_g (lw_at lw_m8 20 rfl) rfl
theorem q1841 : (Jvm.Cond.methodLink "GlassLeadersLaw" (286 : Nat) ({ cls := "GlassLeadersLaw", name := "holds", desc := "(LGlassLeaders;[J)I" } : Jvm.MethodName)) ∈ lw_all := lw_g (lw_at lw_m8 28 rfl) rfl
theorem q1842 : (Jvm.Cond.static ({ cls := "GlassLeadersLaw", name := "holds", desc := "(LGlassLeaders;[J)I" } : Jvm.MethodName)) ∈ lw_all := lw_g (lw_at lw_m8 29 rfl) rfl
theorem q1843 : (Jvm.Cond.codeWith ({ cls := "GlassLeadersLaw", name := "holds", desc := "(LGlassLeaders;[J)I" } : Jvm.MethodName) method_37_code (3 : Nat) (Option.some Jvm.ClassFile.FieldType.int) [((0 : Nat), (8 : Nat), (11 : Nat), (47 : Nat))]) ∈ lw_all := lw_g (lw_at lw_m8 30 rfl) rfl
theorem q1844 : (Jvm.Cond.methodLink "GlassLeadersLaw" (129 : Nat) ({ cls := "GlassLeaders", name := "holds", desc := "()I" } : Jvm.MethodName)) ∈ lw_all := lw_g (lw_at lw_m8 31 rfl) rfl
theorem q1848 : (Jvm.Cond.methodLink "GlassLeadersLaw" (289 : Nat) ({ cls := "GlassLeadersLaw", name := "mind", desc := "(LGlassLeaders;[J)I" } : Jvm.MethodName)) ∈ lw_all := lw_g (lw_at lw_m8 35 rfl) rfl
theorem q1849 : (Jvm.Cond.static ({ cls := "GlassLeadersLaw", name := "mind", desc := "(LGlassLeaders;[J)I" } : Jvm.MethodName)) ∈ lw_all := lw_g (lw_at lw_m8 36 rfl) rfl
theorem q1850 : (Jvm.Cond.codeWith ({ cls := "GlassLeadersLaw", name := "mind", desc := "(LGlassLeaders;[J)I" } : Jvm.MethodName) method_38_code (3 : Nat) (Option.some Jvm.ClassFile.FieldType.int) [((0 : Nat), (8 : Nat), (11 : Nat), (47 : Nat))]) ∈ lw_all := lw_g (lw_at lw_m8 37 rfl) rfl
theorem q1851 : (Jvm.Cond.methodLink "GlassLeadersLaw" (132 : Nat) ({ cls := "GlassLeaders", name := "mind", desc := "()I" } : Jvm.MethodName)) ∈ lw_all := lw_g (lw_at lw_m8 38 rfl) rfl
theorem q1859 : (Jvm.Cond.methodLink "GlassLeadersLaw" (292 : Nat) ({ cls := "GlassLeadersLaw", name := "arrives", desc := "(LGlassLeaders;II[J)I" } : Jvm.MethodName)) ∈ lw_all := lw_g (lw_at lw_m8 46 rfl) rfl
theorem q1860 : (Jvm.Cond.static ({ cls := "GlassLeadersLaw", name := "arrives", desc := "(LGlassLeaders;II[J)I" } : Jvm.MethodName)) ∈ lw_all := lw_g (lw_at lw_m8 47 rfl) rfl
theorem q1861 : (Jvm.Cond.codeWith ({ cls := "GlassLeadersLaw", name := "arrives", desc := "(LGlassLeaders;II[J)I" } : Jvm.MethodName) method_39_code (5 : Nat) (Option.some Jvm.ClassFile.FieldType.int) [((0 : Nat), (9 : Nat), (12 : Nat), (13 : Nat)), ((0 : Nat), (9 : Nat), (16 : Nat), (47 : Nat))]) ∈ lw_all := lw_g (lw_at lw_m8 48 rfl) rfl
theorem q1862 : (Jvm.Cond.methodLink "GlassLeadersLaw" (135 : Nat) ({ cls := "GlassLeaders", name := "arrives", desc := "(II)J" } : Jvm.MethodName)) ∈ lw_all := lw_g (lw_at lw_m8 49 rfl) rfl
theorem q1870 : (Jvm.Cond.methodLink "GlassLeadersLaw" (295 : Nat) ({ cls := "GlassLeadersLaw", name := "visits", desc := "(LGlassLeaders;I[J)I" } : Jvm.MethodName)) ∈ lw_all := lw_g (lw_at lw_m8 57 rfl) rfl
theorem q1871 : (Jvm.Cond.static ({ cls := "GlassLeadersLaw", name := "visits", desc := "(LGlassLeaders;I[J)I" } : Jvm.MethodName)) ∈ lw_all := lw_g (lw_at lw_m8 58 rfl) rfl
theorem q1872 : (Jvm.Cond.codeWith ({ cls := "GlassLeadersLaw", name := "visits", desc := "(LGlassLeaders;I[J)I" } : Jvm.MethodName) method_40_code (4 : Nat) (Option.some Jvm.ClassFile.FieldType.int) [((0 : Nat), (8 : Nat), (11 : Nat), (13 : Nat)), ((0 : Nat), (8 : Nat), (14 : Nat), (47 : Nat))]) ∈ lw_all := lw_g (lw_at lw_m8 59 rfl) rfl
theorem q1873 : (Jvm.Cond.methodLink "GlassLeadersLaw" (138 : Nat) ({ cls := "GlassLeaders", name := "visits", desc := "(I)J" } : Jvm.MethodName)) ∈ lw_all := lw_g (lw_at lw_m8 60 rfl) rfl
theorem q1877 : (Jvm.Cond.methodLink "GlassLeadersLaw" (298 : Nat) ({ cls := "GlassLeadersLaw", name := "without", desc := "(LGlassLeaders;II[J)I" } : Jvm.MethodName)) ∈ lw_all := lw_g (lw_at lw_m8 64 rfl) rfl
theorem q1878 : (Jvm.Cond.static ({ cls := "GlassLeadersLaw", name := "without", desc := "(LGlassLeaders;II[J)I" } : Jvm.MethodName)) ∈ lw_all := lw_g (lw_at lw_m8 65 rfl) rfl
theorem q1879 : (Jvm.Cond.codeWith ({ cls := "GlassLeadersLaw", name := "without", desc := "(LGlassLeaders;II[J)I" } : Jvm.MethodName) method_41_code (5 : Nat) (Option.some Jvm.ClassFile.FieldType.int) [((0 : Nat), (9 : Nat), (12 : Nat), (30 : Nat)), ((0 : Nat), (9 : Nat), (16 : Nat), (25 : Nat)), ((0 : Nat), (9 : Nat), (20 : Nat), (47 : Nat))]) ∈ lw_all := lw_g (lw_at lw_m8 66 rfl) rfl
theorem q1880 : (Jvm.Cond.methodLink "GlassLeadersLaw" (141 : Nat) ({ cls := "GlassLeaders", name := "without", desc := "(II)J" } : Jvm.MethodName)) ∈ lw_all := lw_g (lw_at lw_m8 67 rfl) rfl
theorem q2104 : (Jvm.Cond.methodLink "GlassLeadersLaw" (301 : Nat) ({ cls := "GlassLeadersLaw", name := "swap", desc := "(LGlassLeaders;II[J)I" } : Jvm.MethodName)) ∈ lw_all := lw_g (lw_at lw_m9 51 rfl) rfl
theorem q2105 : (Jvm.Cond.static ({ cls := "GlassLeadersLaw", name := "swap", desc := "(LGlassLeaders;II[J)I" } : Jvm.MethodName)) ∈ lw_all := lw_g (lw_at lw_m9 52 rfl) rfl
theorem q2106 : (Jvm.Cond.codeWith ({ cls := "GlassLeadersLaw", name := "swap", desc := "(LGlassLeaders;II[J)I" } : Jvm.MethodName) method_42_code (5 : Nat) (Option.some Jvm.ClassFile.FieldType.int) [((0 : Nat), (10 : Nat), (13 : Nat), (30 : Nat)), ((0 : Nat), (10 : Nat), (17 : Nat), (13 : Nat)), ((0 : Nat), (10 : Nat), (21 : Nat), (47 : Nat))]) ∈ lw_all := lw_g (lw_at lw_m9 53 rfl) rfl
theorem q2107 : (Jvm.Cond.methodLink "GlassLeadersLaw" (144 : Nat) ({ cls := "GlassLeaders", name := "swap", desc := "(II)I" } : Jvm.MethodName)) ∈ lw_all := lw_g (lw_at lw_m9 54 rfl) rfl
theorem q2111 : (Jvm.Cond.methodLink "GlassLeadersLaw" (304 : Nat) ({ cls := "GlassLeadersLaw", name := "vote", desc := "(LGlassLeaders;[J)I" } : Jvm.MethodName)) ∈ lw_all := lw_g (lw_at lw_m9 58 rfl) rfl
theorem q2112 : (Jvm.Cond.static ({ cls := "GlassLeadersLaw", name := "vote", desc := "(LGlassLeaders;[J)I" } : Jvm.MethodName)) ∈ lw_all := lw_g (lw_at lw_m9 59 rfl) rfl
theorem q2113 : (Jvm.Cond.codeWith ({ cls := "GlassLeadersLaw", name := "vote", desc := "(LGlassLeaders;[J)I" } : Jvm.MethodName) method_43_code (3 : Nat) (Option.some Jvm.ClassFile.FieldType.int) [((0 : Nat), (7 : Nat), (10 : Nat), (47 : Nat))]) ∈ lw_all := lw_g (lw_at lw_m9 60 rfl) rfl
theorem q2114 : (Jvm.Cond.methodLink "GlassLeadersLaw" (147 : Nat) ({ cls := "GlassLeaders", name := "vote", desc := "()J" } : Jvm.MethodName)) ∈ lw_all := lw_g (lw_at lw_m9 61 rfl) rfl
theorem q2118 : (Jvm.Cond.methodLink "GlassLeadersLaw" (307 : Nat) ({ cls := "GlassLeadersLaw", name := "needs", desc := "(LGlassLeaders;[J)I" } : Jvm.MethodName)) ∈ lw_all := lw_g (lw_at lw_m9 65 rfl) rfl
theorem q2119 : (Jvm.Cond.static ({ cls := "GlassLeadersLaw", name := "needs", desc := "(LGlassLeaders;[J)I" } : Jvm.MethodName)) ∈ lw_all := lw_g (lw_at lw_m9 66 rfl) rfl
theorem q2120 : (Jvm.Cond.codeWith ({ cls := "GlassLeadersLaw", name := "needs", desc := "(LGlassLeaders;[J)I" } : Jvm.MethodName) method_44_code (3 : Nat) (Option.some Jvm.ClassFile.FieldType.int) [((0 : Nat), (8 : Nat), (11 : Nat), (47 : Nat))]) ∈ lw_all := lw_g (lw_at lw_m9 67 rfl) rfl
theorem q2121 : (Jvm.Cond.methodLink "GlassLeadersLaw" (150 : Nat) ({ cls := "GlassLeaders", name := "needs", desc := "()I" } : Jvm.MethodName)) ∈ lw_all := lw_g (lw_at lw_m9 68 rfl) rfl
theorem q2125 : (Jvm.Cond.methodLink "GlassLeadersLaw" (168 : Nat) ({ cls := "GlassLeadersModel", name := "thrown", desc := "()I" } : Jvm.MethodName)) ∈ lw_all := lw_g (lw_at lw_m9 72 rfl) rfl
theorem q2129 : (Jvm.Cond.classLink "GlassLeadersLaw" (154 : Nat) "GlassLeadersModel") ∈ lw_all := lw_g (lw_at lw_m9 76 rfl) rfl
theorem q2131 : (Jvm.Cond.methodLink "GlassLeadersLaw" (156 : Nat) ({ cls := "GlassLeadersModel", name := "<init>", desc := "()V" } : Jvm.MethodName)) ∈ lw_all := lw_g (lw_at lw_m9 78 rfl) rfl
theorem q2299 : (Jvm.Cond.methodLink "GlassLeadersLaw" (161 : Nat) ({ cls := "GlassLeadersModel", name := "feed", desc := "(IIIII)I" } : Jvm.MethodName)) ∈ lw_all := lw_g (lw_at lw_m10 6 rfl) rfl
theorem q2303 : (Jvm.Cond.methodLink "GlassLeadersLaw" (177 : Nat) ({ cls := "GlassLeadersModel", name := "fault", desc := "()I" } : Jvm.MethodName)) ∈ lw_all := lw_g (lw_at lw_m10 10 rfl) rfl
theorem q2307 : (Jvm.Cond.methodLink "GlassLeadersLaw" (167 : Nat) ({ cls := "GlassLeadersModel", name := "land", desc := "(I)I" } : Jvm.MethodName)) ∈ lw_all := lw_g (lw_at lw_m10 14 rfl) rfl
theorem q2412 : (Jvm.Cond.methodLink "GlassLeadersLaw" (173 : Nat) ({ cls := "GlassLeadersModel", name := "law", desc := "(I)I" } : Jvm.MethodName)) ∈ lw_all := lw_g (lw_at lw_m10 119 rfl) rfl
theorem q2462 : (Jvm.Cond.methodLink "GlassLeadersLaw" (180 : Nat) ({ cls := "GlassLeadersModel", name := "told", desc := "(I)I" } : Jvm.MethodName)) ∈ lw_all := lw_g (lw_at lw_m10 169 rfl) rfl
theorem q2473 : (Jvm.Cond.methodLink "GlassLeadersLaw" (184 : Nat) ({ cls := "GlassLeadersModel", name := "snow", desc := "(II)I" } : Jvm.MethodName)) ∈ lw_all := lw_g (lw_at lw_m10 180 rfl) rfl
theorem q2480 : (Jvm.Cond.methodLink "GlassLeadersLaw" (187 : Nat) ({ cls := "GlassLeadersModel", name := "wants", desc := "(II)I" } : Jvm.MethodName)) ∈ lw_all := lw_g (lw_at lw_m10 187 rfl) rfl
theorem q2488 : (Jvm.Cond.methodLink "GlassLeadersLaw" (190 : Nat) ({ cls := "GlassLeadersModel", name := "kind", desc := "(II)I" } : Jvm.MethodName)) ∈ lw_all := lw_g (lw_at lw_m10 195 rfl) rfl
theorem q2492 : (Jvm.Cond.methodLink "GlassLeadersLaw" (193 : Nat) ({ cls := "GlassLeadersModel", name := "plan", desc := "(II)I" } : Jvm.MethodName)) ∈ lw_all := lw_g (lw_at lw_m10 199 rfl) rfl
theorem q2496 : (Jvm.Cond.methodLink "GlassLeadersLaw" (196 : Nat) ({ cls := "GlassLeadersModel", name := "turn", desc := "(II)I" } : Jvm.MethodName)) ∈ lw_all := lw_g (lw_at lw_m10 203 rfl) rfl
theorem q2504 : (Jvm.Cond.methodLink "GlassLeadersLaw" (199 : Nat) ({ cls := "GlassLeadersModel", name := "days", desc := "(I)I" } : Jvm.MethodName)) ∈ lw_all := lw_g (lw_at lw_m10 211 rfl) rfl
theorem q2508 : (Jvm.Cond.methodLink "GlassLeadersLaw" (202 : Nat) ({ cls := "GlassLeadersModel", name := "whose", desc := "(I)I" } : Jvm.MethodName)) ∈ lw_all := lw_g (lw_at lw_m10 215 rfl) rfl
theorem q2520 : (Jvm.Cond.methodLink "GlassLeadersLaw" (206 : Nat) ({ cls := "GlassLeadersModel", name := "next", desc := "(III)I" } : Jvm.MethodName)) ∈ lw_all := lw_g (lw_at lw_m10 227 rfl) rfl
theorem q2588 : (Jvm.Cond.methodLink "GlassLeadersLaw" (209 : Nat) ({ cls := "GlassLeadersModel", name := "takes", desc := "(III)I" } : Jvm.MethodName)) ∈ lw_all := lw_g (lw_at lw_m11 55 rfl) rfl
theorem q2623 : (Jvm.Cond.methodLink "GlassLeadersLaw" (213 : Nat) ({ cls := "GlassLeadersModel", name := "value", desc := "(IIII)J" } : Jvm.MethodName)) ∈ lw_all := lw_g (lw_at lw_m11 90 rfl) rfl
theorem q2627 : (Jvm.Cond.methodLink "GlassLeadersLaw" (216 : Nat) ({ cls := "GlassLeadersModel", name := "scale", desc := "(I)J" } : Jvm.MethodName)) ∈ lw_all := lw_g (lw_at lw_m11 94 rfl) rfl
theorem q2631 : (Jvm.Cond.methodLink "GlassLeadersLaw" (220 : Nat) ({ cls := "GlassLeadersModel", name := "all", desc := "()J" } : Jvm.MethodName)) ∈ lw_all := lw_g (lw_at lw_m11 98 rfl) rfl
theorem q2647 : (Jvm.Cond.methodLink "GlassLeadersLaw" (223 : Nat) ({ cls := "GlassLeadersModel", name := "alone", desc := "(I)J" } : Jvm.MethodName)) ∈ lw_all := lw_g (lw_at lw_m11 114 rfl) rfl
theorem q2651 : (Jvm.Cond.methodLink "GlassLeadersLaw" (226 : Nat) ({ cls := "GlassLeadersModel", name := "run", desc := "(I)I" } : Jvm.MethodName)) ∈ lw_all := lw_g (lw_at lw_m11 118 rfl) rfl
theorem q2656 : (Jvm.Cond.methodLink "GlassLeadersLaw" (229 : Nat) ({ cls := "GlassLeadersModel", name := "was", desc := "(II)I" } : Jvm.MethodName)) ∈ lw_all := lw_g (lw_at lw_m11 123 rfl) rfl
theorem q2660 : (Jvm.Cond.methodLink "GlassLeadersLaw" (233 : Nat) ({ cls := "GlassLeadersModel", name := "ended", desc := "()I" } : Jvm.MethodName)) ∈ lw_all := lw_g (lw_at lw_m11 127 rfl) rfl
theorem q2664 : (Jvm.Cond.methodLink "GlassLeadersLaw" (236 : Nat) ({ cls := "GlassLeadersModel", name := "row", desc := "(I)I" } : Jvm.MethodName)) ∈ lw_all := lw_g (lw_at lw_m11 131 rfl) rfl
theorem q2668 : (Jvm.Cond.methodLink "GlassLeadersLaw" (240 : Nat) ({ cls := "GlassLeadersModel", name := "clear", desc := "()I" } : Jvm.MethodName)) ∈ lw_all := lw_g (lw_at lw_m11 135 rfl) rfl
theorem q2672 : (Jvm.Cond.methodLink "GlassLeadersLaw" (243 : Nat) ({ cls := "GlassLeadersModel", name := "judge", desc := "()I" } : Jvm.MethodName)) ∈ lw_all := lw_g (lw_at lw_m11 139 rfl) rfl
theorem q2684 : (Jvm.Cond.methodLink "GlassLeadersLaw" (246 : Nat) ({ cls := "GlassLeadersModel", name := "proof", desc := "(I)I" } : Jvm.MethodName)) ∈ lw_all := lw_g (lw_at lw_m11 151 rfl) rfl
theorem q2688 : (Jvm.Cond.methodLink "GlassLeadersLaw" (249 : Nat) ({ cls := "GlassLeadersModel", name := "hour", desc := "(II)J" } : Jvm.MethodName)) ∈ lw_all := lw_g (lw_at lw_m11 155 rfl) rfl
theorem q2704 : (Jvm.Cond.methodLink "GlassLeadersLaw" (252 : Nat) ({ cls := "GlassLeadersModel", name := "give", desc := "()I" } : Jvm.MethodName)) ∈ lw_all := lw_g (lw_at lw_m11 171 rfl) rfl
theorem q2708 : (Jvm.Cond.methodLink "GlassLeadersLaw" (255 : Nat) ({ cls := "GlassLeadersModel", name := "price", desc := "(II)J" } : Jvm.MethodName)) ∈ lw_all := lw_g (lw_at lw_m11 175 rfl) rfl
theorem q2712 : (Jvm.Cond.methodLink "GlassLeadersLaw" (303 : Nat) ({ cls := "GlassLeadersModel", name := "swap", desc := "(II)I" } : Jvm.MethodName)) ∈ lw_all := lw_g (lw_at lw_m11 179 rfl) rfl
theorem q2716 : (Jvm.Cond.methodLink "GlassLeadersLaw" (258 : Nat) ({ cls := "GlassLeadersModel", name := "order", desc := "(I)I" } : Jvm.MethodName)) ∈ lw_all := lw_g (lw_at lw_m11 183 rfl) rfl
theorem q2728 : (Jvm.Cond.methodLink "GlassLeadersLaw" (261 : Nat) ({ cls := "GlassLeadersModel", name := "length", desc := "(I)I" } : Jvm.MethodName)) ∈ lw_all := lw_g (lw_at lw_m11 195 rfl) rfl
theorem q2732 : (Jvm.Cond.methodLink "GlassLeadersLaw" (264 : Nat) ({ cls := "GlassLeadersModel", name := "trap", desc := "(III)Z" } : Jvm.MethodName)) ∈ lw_all := lw_g (lw_at lw_m11 199 rfl) rfl
theorem q2740 : (Jvm.Cond.methodLink "GlassLeadersLaw" (267 : Nat) ({ cls := "GlassLeadersModel", name := "force", desc := "(III)I" } : Jvm.MethodName)) ∈ lw_all := lw_g (lw_at lw_m11 207 rfl) rfl
theorem q2744 : (Jvm.Cond.methodLink "GlassLeadersLaw" (270 : Nat) ({ cls := "GlassLeadersModel", name := "ever", desc := "(III)I" } : Jvm.MethodName)) ∈ lw_all := lw_g (lw_at lw_m11 211 rfl) rfl
theorem q2748 : (Jvm.Cond.methodLink "GlassLeadersLaw" (273 : Nat) ({ cls := "GlassLeadersModel", name := "there", desc := "(I)J" } : Jvm.MethodName)) ∈ lw_all := lw_g (lw_at lw_m11 215 rfl) rfl
theorem q2764 : (Jvm.Cond.methodLink "GlassLeadersLaw" (294 : Nat) ({ cls := "GlassLeadersModel", name := "arrives", desc := "(II)J" } : Jvm.MethodName)) ∈ lw_all := lw_g (lw_at lw_m11 231 rfl) rfl
theorem q2768 : (Jvm.Cond.methodLink "GlassLeadersLaw" (297 : Nat) ({ cls := "GlassLeadersModel", name := "visits", desc := "(I)J" } : Jvm.MethodName)) ∈ lw_all := lw_g (lw_at lw_m11 235 rfl) rfl
theorem q2772 : (Jvm.Cond.methodLink "GlassLeadersLaw" (309 : Nat) ({ cls := "GlassLeadersModel", name := "needs", desc := "()I" } : Jvm.MethodName)) ∈ lw_all := lw_g (lw_at lw_m11 239 rfl) rfl
theorem q2776 : (Jvm.Cond.methodLink "GlassLeadersLaw" (276 : Nat) ({ cls := "GlassLeadersModel", name := "blind", desc := "(I)J" } : Jvm.MethodName)) ∈ lw_all := lw_g (lw_at lw_m12 3 rfl) rfl
theorem q2784 : (Jvm.Cond.methodLink "GlassLeadersLaw" (279 : Nat) ({ cls := "GlassLeadersModel", name := "asks", desc := "(I)I" } : Jvm.MethodName)) ∈ lw_all := lw_g (lw_at lw_m12 11 rfl) rfl
theorem q2788 : (Jvm.Cond.methodLink "GlassLeadersLaw" (282 : Nat) ({ cls := "GlassLeadersModel", name := "beside", desc := "(I)J" } : Jvm.MethodName)) ∈ lw_all := lw_g (lw_at lw_m12 15 rfl) rfl
theorem q2792 : (Jvm.Cond.methodLink "GlassLeadersLaw" (285 : Nat) ({ cls := "GlassLeadersModel", name := "pact", desc := "(III)J" } : Jvm.MethodName)) ∈ lw_all := lw_g (lw_at lw_m12 19 rfl) rfl
theorem q2800 : (Jvm.Cond.methodLink "GlassLeadersLaw" (288 : Nat) ({ cls := "GlassLeadersModel", name := "holds", desc := "()I" } : Jvm.MethodName)) ∈ lw_all := lw_g (lw_at lw_m12 27 rfl) rfl
theorem q2804 : (Jvm.Cond.methodLink "GlassLeadersLaw" (306 : Nat) ({ cls := "GlassLeadersModel", name := "vote", desc := "()J" } : Jvm.MethodName)) ∈ lw_all := lw_g (lw_at lw_m12 31 rfl) rfl
theorem q2808 : (Jvm.Cond.methodLink "GlassLeadersLaw" (300 : Nat) ({ cls := "GlassLeadersModel", name := "without", desc := "(II)J" } : Jvm.MethodName)) ∈ lw_all := lw_g (lw_at lw_m12 35 rfl) rfl
theorem q2812 : (Jvm.Cond.methodLink "GlassLeadersLaw" (291 : Nat) ({ cls := "GlassLeadersModel", name := "mind", desc := "()I" } : Jvm.MethodName)) ∈ lw_all := lw_g (lw_at lw_m12 39 rfl) rfl
theorem q2820 : (Jvm.Cond.methodLink "GlassLeadersLaw" (313 : Nat) ({ cls := "GlassLeadersModel", name := "image", desc := "()I" } : Jvm.MethodName)) ∈ lw_all := lw_g (lw_at lw_m12 47 rfl) rfl
theorem q2824 : (Jvm.Cond.methodLink "GlassLeadersLaw" (317 : Nat) ({ cls := "GlassLeadersModel", name := "on", desc := "()I" } : Jvm.MethodName)) ∈ lw_all := lw_g (lw_at lw_m12 51 rfl) rfl
theorem q2828 : (Jvm.Cond.methodLink "GlassLeadersLaw" (321 : Nat) ({ cls := "GlassLeadersModel", name := "status", desc := "(I)I" } : Jvm.MethodName)) ∈ lw_all := lw_g (lw_at lw_m12 55 rfl) rfl
theorem q2832 : (Jvm.Cond.methodLink "GlassLeadersLaw" (325 : Nat) ({ cls := "GlassLeadersModel", name := "count", desc := "(I)I" } : Jvm.MethodName)) ∈ lw_all := lw_g (lw_at lw_m12 59 rfl) rfl
/-! the law's own entry -/
set_option maxRecDepth 100000
abbrev cL_law : ByteArray := code
def dkwL_law_120 : List UInt8 := [46, 182, 1, 69, 159, 0, 5, 3, 172, 132, 4, 6, 167, 244, 75, 4, 172]
abbrev dktL_law_120 : List UInt8 := dkwL_law_120 ++ []
def dkwL_law_119 : List UInt8 := [182, 1, 65, 159, 0, 30, 3, 172, 43, 42, 21, 4, 4, 96, 46, 182, 1, 66, 44, 42, 21, 4, 4, 96]
abbrev dktL_law_119 : List UInt8 := dkwL_law_119 ++ dktL_law_120
def dkwL_law_118 : List UInt8 := [159, 0, 55, 3, 172, 43, 42, 21, 4, 4, 96, 46, 182, 1, 62, 44, 42, 21, 4, 4, 96, 46]
abbrev dktL_law_118 : List UInt8 := dkwL_law_118 ++ dktL_law_119
def dkwL_law_117 : List UInt8 := [167, 0, 79, 43, 182, 1, 54, 44, 182, 1, 57, 159, 0, 68, 3, 172, 43, 182, 1, 58, 44, 182, 1, 61]
abbrev dktL_law_117 : List UInt8 := dkwL_law_117 ++ dktL_law_118
def dkwL_law_116 : List UInt8 := [159, 0, 5, 3, 172, 21, 5, 154, 0, 15, 45, 3, 47, 21, 6, 133, 148, 153, 0, 5, 3, 172]
abbrev dktL_law_116 : List UInt8 := dkwL_law_116 ++ dktL_law_117
def dkwL_law_115 : List UInt8 := [3, 172, 167, 0, 123, 43, 45, 184, 1, 51, 54, 5, 44, 182, 1, 53, 54, 6, 44, 182, 0, 168, 21, 5]
abbrev dktL_law_115 : List UInt8 := dkwL_law_115 ++ dktL_law_116
def dkwL_law_114 : List UInt8 := [182, 0, 168, 21, 5, 159, 0, 5, 3, 172, 21, 5, 154, 0, 14, 45, 3, 47, 22, 6, 148, 153, 0, 5]
abbrev dktL_law_114 : List UInt8 := dkwL_law_114 ++ dktL_law_115
def dkwL_law_113 : List UInt8 := [153, 0, 5, 3, 172, 167, 0, 166, 43, 45, 184, 1, 48, 54, 5, 44, 182, 1, 50, 55, 6, 44]
abbrev dktL_law_113 : List UInt8 := dkwL_law_113 ++ dktL_law_114
def dkwL_law_112 : List UInt8 := [182, 0, 168, 21, 5, 159, 0, 5, 3, 172, 21, 5, 154, 0, 15, 45, 3, 47, 21, 6, 133, 148]
abbrev dktL_law_112 : List UInt8 := dkwL_law_112 ++ dktL_law_113
def dkwL_law_111 : List UInt8 := [184, 1, 45, 54, 5, 44, 42, 21, 4, 4, 96, 46, 42, 21, 4, 5, 96, 46, 182, 1, 47, 54, 6, 44]
abbrev dktL_law_111 : List UInt8 := dkwL_law_111 ++ dktL_law_112
def dkwL_law_110 : List UInt8 := [153, 0, 5, 3, 172, 167, 0, 234, 43, 42, 21, 4, 4, 96, 46, 42, 21, 4, 5, 96, 46, 45]
abbrev dktL_law_110 : List UInt8 := dkwL_law_110 ++ dktL_law_111
def dkwL_law_109 : List UInt8 := [55, 6, 44, 182, 0, 168, 21, 5, 159, 0, 5, 3, 172, 21, 5, 154, 0, 14, 45, 3, 47, 22, 6, 148]
abbrev dktL_law_109 : List UInt8 := dkwL_law_109 ++ dktL_law_110
def dkwL_law_108 : List UInt8 := [46, 45, 184, 1, 42, 54, 5, 44, 42, 21, 4, 4, 96, 46, 42, 21, 4, 5, 96, 46, 182, 1, 44]
abbrev dktL_law_108 : List UInt8 := dkwL_law_108 ++ dktL_law_109
def dkwL_law_107 : List UInt8 := [47, 22, 6, 148, 153, 0, 5, 3, 172, 167, 1, 45, 43, 42, 21, 4, 4, 96, 46, 42, 21, 4, 5, 96]
abbrev dktL_law_107 : List UInt8 := dkwL_law_107 ++ dktL_law_108
def dkwL_law_106 : List UInt8 := [46, 182, 1, 41, 55, 6, 44, 182, 0, 168, 21, 5, 159, 0, 5, 3, 172, 21, 5, 154, 0, 14, 45, 3]
abbrev dktL_law_106 : List UInt8 := dkwL_law_106 ++ dktL_law_107
def dkwL_law_105 : List UInt8 := [3, 172, 167, 1, 100, 43, 42, 21, 4, 4, 96, 46, 45, 184, 1, 39, 54, 5, 44, 42, 21, 4, 4, 96]
abbrev dktL_law_105 : List UInt8 := dkwL_law_105 ++ dktL_law_106
def dkwL_law_104 : List UInt8 := [182, 0, 168, 21, 5, 159, 0, 5, 3, 172, 21, 5, 154, 0, 14, 45, 3, 47, 22, 6, 148, 153, 0, 5]
abbrev dktL_law_104 : List UInt8 := dkwL_law_104 ++ dktL_law_105
def dkwL_law_103 : List UInt8 := [184, 1, 36, 54, 5, 44, 42, 21, 4, 4, 96, 46, 42, 21, 4, 5, 96, 46, 182, 1, 38, 55, 6, 44]
abbrev dktL_law_103 : List UInt8 := dkwL_law_103 ++ dktL_law_104
def dkwL_law_102 : List UInt8 := [153, 0, 5, 3, 172, 167, 1, 167, 43, 42, 21, 4, 4, 96, 46, 42, 21, 4, 5, 96, 46, 45]
abbrev dktL_law_102 : List UInt8 := dkwL_law_102 ++ dktL_law_103
def dkwL_law_101 : List UInt8 := [182, 0, 168, 21, 5, 159, 0, 5, 3, 172, 21, 5, 154, 0, 15, 45, 3, 47, 21, 6, 133, 148]
abbrev dktL_law_101 : List UInt8 := dkwL_law_101 ++ dktL_law_102
def dkwL_law_100 : List UInt8 := [148, 153, 0, 5, 3, 172, 167, 1, 211, 43, 45, 184, 1, 33, 54, 5, 44, 182, 1, 35, 54, 6, 44]
abbrev dktL_law_100 : List UInt8 := dkwL_law_100 ++ dktL_law_101
def dkwL_law_99 : List UInt8 := [54, 6, 44, 182, 0, 168, 21, 5, 159, 0, 5, 3, 172, 21, 5, 154, 0, 15, 45, 3, 47, 21, 6, 133]
abbrev dktL_law_99 : List UInt8 := dkwL_law_99 ++ dktL_law_100
def dkwL_law_98 : List UInt8 := [47, 22, 6, 148, 153, 0, 5, 3, 172, 167, 1, 255, 43, 45, 184, 1, 30, 54, 5, 44, 182, 1, 32]
abbrev dktL_law_98 : List UInt8 := dkwL_law_98 ++ dktL_law_99
def dkwL_law_97 : List UInt8 := [46, 182, 1, 29, 55, 6, 44, 182, 0, 168, 21, 5, 159, 0, 5, 3, 172, 21, 5, 154, 0, 14, 45, 3]
abbrev dktL_law_97 : List UInt8 := dkwL_law_97 ++ dktL_law_98
def dkwL_law_96 : List UInt8 := [45, 184, 1, 27, 54, 5, 44, 42, 21, 4, 4, 96, 46, 42, 21, 4, 5, 96, 46, 42, 21, 4, 6, 96]
abbrev dktL_law_96 : List UInt8 := dkwL_law_96 ++ dktL_law_97
def dkwL_law_95 : List UInt8 := [3, 172, 167, 2, 78, 43, 42, 21, 4, 4, 96, 46, 42, 21, 4, 5, 96, 46, 42, 21, 4, 6, 96, 46]
abbrev dktL_law_95 : List UInt8 := dkwL_law_95 ++ dktL_law_96
def dkwL_law_94 : List UInt8 := [182, 0, 168, 21, 5, 159, 0, 5, 3, 172, 21, 5, 154, 0, 14, 45, 3, 47, 22, 6, 148, 153, 0, 5]
abbrev dktL_law_94 : List UInt8 := dkwL_law_94 ++ dktL_law_95
def dkwL_law_93 : List UInt8 := [21, 4, 4, 96, 46, 45, 184, 1, 24, 54, 5, 44, 42, 21, 4, 4, 96, 46, 182, 1, 26, 55, 6, 44]
abbrev dktL_law_93 : List UInt8 := dkwL_law_93 ++ dktL_law_94
def dkwL_law_92 : List UInt8 := [172, 21, 5, 154, 0, 15, 45, 3, 47, 21, 6, 133, 148, 153, 0, 5, 3, 172, 167, 2, 133, 43, 42]
abbrev dktL_law_92 : List UInt8 := dkwL_law_92 ++ dktL_law_93
def dkwL_law_91 : List UInt8 := [54, 5, 44, 42, 21, 4, 4, 96, 46, 182, 1, 23, 54, 6, 44, 182, 0, 168, 21, 5, 159, 0, 5, 3]
abbrev dktL_law_91 : List UInt8 := dkwL_law_91 ++ dktL_law_92
def dkwL_law_90 : List UInt8 := [47, 22, 6, 148, 153, 0, 5, 3, 172, 167, 2, 189, 43, 42, 21, 4, 4, 96, 46, 45, 184, 1, 21]
abbrev dktL_law_90 : List UInt8 := dkwL_law_90 ++ dktL_law_91
def dkwL_law_89 : List UInt8 := [46, 182, 1, 20, 55, 6, 44, 182, 0, 168, 21, 5, 159, 0, 5, 3, 172, 21, 5, 154, 0, 14, 45, 3]
abbrev dktL_law_89 : List UInt8 := dkwL_law_89 ++ dktL_law_90
def dkwL_law_88 : List UInt8 := [3, 172, 167, 2, 244, 43, 42, 21, 4, 4, 96, 46, 45, 184, 1, 18, 54, 5, 44, 42, 21, 4, 4, 96]
abbrev dktL_law_88 : List UInt8 := dkwL_law_88 ++ dktL_law_89
def dkwL_law_87 : List UInt8 := [182, 0, 168, 21, 5, 159, 0, 5, 3, 172, 21, 5, 154, 0, 14, 45, 3, 47, 22, 6, 148, 153, 0, 5]
abbrev dktL_law_87 : List UInt8 := dkwL_law_87 ++ dktL_law_88
def dkwL_law_86 : List UInt8 := [4, 96, 46, 45, 184, 1, 15, 54, 5, 44, 42, 21, 4, 4, 96, 46, 182, 1, 17, 55, 6, 44]
abbrev dktL_law_86 : List UInt8 := dkwL_law_86 ++ dktL_law_87
def dkwL_law_85 : List UInt8 := [21, 5, 154, 0, 15, 45, 3, 47, 21, 6, 133, 148, 153, 0, 5, 3, 172, 167, 3, 43, 43, 42, 21, 4]
abbrev dktL_law_85 : List UInt8 := dkwL_law_85 ++ dktL_law_86
def dkwL_law_84 : List UInt8 := [96, 46, 42, 21, 4, 6, 96, 46, 182, 1, 14, 54, 6, 44, 182, 0, 168, 21, 5, 159, 0, 5, 3, 172]
abbrev dktL_law_84 : List UInt8 := dkwL_law_84 ++ dktL_law_85
def dkwL_law_83 : List UInt8 := [46, 42, 21, 4, 6, 96, 46, 45, 184, 1, 12, 54, 5, 44, 42, 21, 4, 4, 96, 46, 42, 21, 4, 5]
abbrev dktL_law_83 : List UInt8 := dkwL_law_83 ++ dktL_law_84
def dkwL_law_82 : List UInt8 := [21, 6, 133, 148, 153, 0, 5, 3, 172, 167, 3, 123, 43, 42, 21, 4, 4, 96, 46, 42, 21, 4, 5, 96]
abbrev dktL_law_82 : List UInt8 := dkwL_law_82 ++ dktL_law_83
def dkwL_law_81 : List UInt8 := [182, 1, 11, 54, 6, 44, 182, 0, 168, 21, 5, 159, 0, 5, 3, 172, 21, 5, 154, 0, 15, 45, 3, 47]
abbrev dktL_law_81 : List UInt8 := dkwL_law_81 ++ dktL_law_82
def dkwL_law_80 : List UInt8 := [184, 1, 9, 54, 5, 44, 42, 21, 4, 4, 96, 46, 42, 21, 4, 5, 96, 46, 42, 21, 4, 6, 96, 46]
abbrev dktL_law_80 : List UInt8 := dkwL_law_80 ++ dktL_law_81
def dkwL_law_79 : List UInt8 := [167, 3, 203, 43, 42, 21, 4, 4, 96, 46, 42, 21, 4, 5, 96, 46, 42, 21, 4, 6, 96, 46, 45]
abbrev dktL_law_79 : List UInt8 := dkwL_law_79 ++ dktL_law_80
def dkwL_law_78 : List UInt8 := [21, 5, 154, 0, 22, 45, 3, 47, 21, 6, 153, 0, 7, 10, 167, 0, 4, 9, 148, 153, 0, 5, 3, 172]
abbrev dktL_law_78 : List UInt8 := dkwL_law_78 ++ dktL_law_79
def dkwL_law_77 : List UInt8 := [96, 46, 42, 21, 4, 6, 96, 46, 182, 1, 8, 54, 6, 44, 182, 0, 168, 21, 5, 159, 0, 5, 3, 172]
abbrev dktL_law_77 : List UInt8 := dkwL_law_77 ++ dktL_law_78
def dkwL_law_76 : List UInt8 := [46, 42, 21, 4, 6, 96, 46, 45, 184, 1, 6, 54, 5, 44, 42, 21, 4, 4, 96, 46, 42, 21, 4, 5]
abbrev dktL_law_76 : List UInt8 := dkwL_law_76 ++ dktL_law_77
def dkwL_law_75 : List UInt8 := [21, 6, 133, 148, 153, 0, 5, 3, 172, 167, 4, 34, 43, 42, 21, 4, 4, 96, 46, 42, 21, 4, 5, 96]
abbrev dktL_law_75 : List UInt8 := dkwL_law_75 ++ dktL_law_76
def dkwL_law_74 : List UInt8 := [182, 1, 5, 54, 6, 44, 182, 0, 168, 21, 5, 159, 0, 5, 3, 172, 21, 5, 154, 0, 15, 45, 3, 47]
abbrev dktL_law_74 : List UInt8 := dkwL_law_74 ++ dktL_law_75
def dkwL_law_73 : List UInt8 := [167, 4, 90, 43, 42, 21, 4, 4, 96, 46, 45, 184, 1, 3, 54, 5, 44, 42, 21, 4, 4, 96, 46]
abbrev dktL_law_73 : List UInt8 := dkwL_law_73 ++ dktL_law_74
def dkwL_law_72 : List UInt8 := [159, 0, 5, 3, 172, 21, 5, 154, 0, 15, 45, 3, 47, 21, 6, 133, 148, 153, 0, 5, 3, 172]
abbrev dktL_law_72 : List UInt8 := dkwL_law_72 ++ dktL_law_73
def dkwL_law_71 : List UInt8 := [45, 184, 1, 0, 54, 5, 44, 42, 21, 4, 4, 96, 46, 182, 1, 2, 54, 6, 44, 182, 0, 168, 21, 5]
abbrev dktL_law_71 : List UInt8 := dkwL_law_71 ++ dktL_law_72
def dkwL_law_70 : List UInt8 := [154, 0, 14, 45, 3, 47, 22, 6, 148, 153, 0, 5, 3, 172, 167, 4, 146, 43, 42, 21, 4, 4, 96, 46]
abbrev dktL_law_70 : List UInt8 := dkwL_law_70 ++ dktL_law_71
def dkwL_law_69 : List UInt8 := [21, 4, 5, 96, 46, 182, 0, 255, 55, 6, 44, 182, 0, 168, 21, 5, 159, 0, 5, 3, 172, 21, 5]
abbrev dktL_law_69 : List UInt8 := dkwL_law_69 ++ dktL_law_70
def dkwL_law_68 : List UInt8 := [4, 96, 46, 42, 21, 4, 5, 96, 46, 45, 184, 0, 253, 54, 5, 44, 42, 21, 4, 4, 96, 46, 42]
abbrev dktL_law_68 : List UInt8 := dkwL_law_68 ++ dktL_law_69
def dkwL_law_67 : List UInt8 := [21, 5, 154, 0, 15, 45, 3, 47, 21, 6, 133, 148, 153, 0, 5, 3, 172, 167, 4, 213, 43, 42, 21, 4]
abbrev dktL_law_67 : List UInt8 := dkwL_law_67 ++ dktL_law_68
def dkwL_law_66 : List UInt8 := [43, 45, 184, 0, 250, 54, 5, 44, 182, 0, 252, 54, 6, 44, 182, 0, 168, 21, 5, 159, 0, 5, 3, 172]
abbrev dktL_law_66 : List UInt8 := dkwL_law_66 ++ dktL_law_67
def dkwL_law_65 : List UInt8 := [159, 0, 5, 3, 172, 21, 5, 154, 0, 14, 45, 3, 47, 22, 6, 148, 153, 0, 5, 3, 172, 167, 5, 1]
abbrev dktL_law_65 : List UInt8 := dkwL_law_65 ++ dktL_law_66
def dkwL_law_64 : List UInt8 := [21, 4, 4, 96, 46, 42, 21, 4, 5, 96, 46, 182, 0, 249, 55, 6, 44, 182, 0, 168, 21, 5]
abbrev dktL_law_64 : List UInt8 := dkwL_law_64 ++ dktL_law_65
def dkwL_law_63 : List UInt8 := [167, 5, 68, 43, 42, 21, 4, 4, 96, 46, 42, 21, 4, 5, 96, 46, 45, 184, 0, 247, 54, 5, 44, 42]
abbrev dktL_law_63 : List UInt8 := dkwL_law_63 ++ dktL_law_64
def dkwL_law_62 : List UInt8 := [21, 5, 159, 0, 5, 3, 172, 21, 5, 154, 0, 15, 45, 3, 47, 21, 6, 133, 148, 153, 0, 5, 3, 172]
abbrev dktL_law_62 : List UInt8 := dkwL_law_62 ++ dktL_law_63
def dkwL_law_61 : List UInt8 := [46, 45, 184, 0, 244, 54, 5, 44, 42, 21, 4, 4, 96, 46, 182, 0, 246, 54, 6, 44, 182, 0, 168]
abbrev dktL_law_61 : List UInt8 := dkwL_law_61 ++ dktL_law_62
def dkwL_law_60 : List UInt8 := [154, 0, 15, 45, 3, 47, 21, 6, 133, 148, 153, 0, 5, 3, 172, 167, 5, 124, 43, 42, 21, 4, 4, 96]
abbrev dktL_law_60 : List UInt8 := dkwL_law_60 ++ dktL_law_61
def dkwL_law_59 : List UInt8 := [184, 0, 241, 54, 5, 44, 182, 0, 243, 54, 6, 44, 182, 0, 168, 21, 5, 159, 0, 5, 3, 172, 21, 5]
abbrev dktL_law_59 : List UInt8 := dkwL_law_59 ++ dktL_law_60
def dkwL_law_58 : List UInt8 := [153, 0, 5, 3, 172, 167, 5, 181, 43, 182, 0, 237, 44, 182, 0, 240, 159, 5, 170, 3, 172, 43, 45]
abbrev dktL_law_58 : List UInt8 := dkwL_law_58 ++ dktL_law_59
def dkwL_law_57 : List UInt8 := [182, 0, 168, 21, 5, 159, 0, 5, 3, 172, 21, 5, 154, 0, 15, 45, 3, 47, 21, 6, 133, 148]
abbrev dktL_law_57 : List UInt8 := dkwL_law_57 ++ dktL_law_58
def dkwL_law_56 : List UInt8 := [21, 4, 4, 96, 46, 45, 184, 0, 234, 54, 5, 44, 42, 21, 4, 4, 96, 46, 182, 0, 236, 54, 6, 44]
abbrev dktL_law_56 : List UInt8 := dkwL_law_56 ++ dktL_law_57
def dkwL_law_55 : List UInt8 := [148, 153, 0, 5, 3, 172, 167, 5, 250, 43, 182, 0, 230, 44, 182, 0, 233, 159, 5, 239, 3, 172, 43, 42]
abbrev dktL_law_55 : List UInt8 := dkwL_law_55 ++ dktL_law_56
def dkwL_law_54 : List UInt8 := [54, 6, 44, 182, 0, 168, 21, 5, 159, 0, 5, 3, 172, 21, 5, 154, 0, 15, 45, 3, 47, 21, 6, 133]
abbrev dktL_law_54 : List UInt8 := dkwL_law_54 ++ dktL_law_55
def dkwL_law_53 : List UInt8 := [46, 45, 184, 0, 227, 54, 5, 44, 42, 21, 4, 4, 96, 46, 42, 21, 4, 5, 96, 46, 182, 0, 229]
abbrev dktL_law_53 : List UInt8 := dkwL_law_53 ++ dktL_law_54
def dkwL_law_52 : List UInt8 := [21, 6, 133, 148, 153, 0, 5, 3, 172, 167, 6, 62, 43, 42, 21, 4, 4, 96, 46, 42, 21, 4, 5, 96]
abbrev dktL_law_52 : List UInt8 := dkwL_law_52 ++ dktL_law_53
def dkwL_law_51 : List UInt8 := [182, 0, 226, 54, 6, 44, 182, 0, 168, 21, 5, 159, 0, 5, 3, 172, 21, 5, 154, 0, 15, 45, 3, 47]
abbrev dktL_law_51 : List UInt8 := dkwL_law_51 ++ dktL_law_52
def dkwL_law_50 : List UInt8 := [167, 6, 118, 43, 42, 21, 4, 4, 96, 46, 45, 184, 0, 224, 54, 5, 44, 42, 21, 4, 4, 96, 46]
abbrev dktL_law_50 : List UInt8 := dkwL_law_50 ++ dktL_law_51
def dkwL_law_49 : List UInt8 := [21, 5, 159, 0, 5, 3, 172, 21, 5, 154, 0, 14, 45, 3, 47, 22, 6, 148, 153, 0, 5, 3, 172]
abbrev dktL_law_49 : List UInt8 := dkwL_law_49 ++ dktL_law_50
def dkwL_law_48 : List UInt8 := [96, 46, 45, 184, 0, 221, 54, 5, 44, 42, 21, 4, 4, 96, 46, 182, 0, 223, 55, 6, 44, 182, 0, 168]
abbrev dktL_law_48 : List UInt8 := dkwL_law_48 ++ dktL_law_49
def dkwL_law_47 : List UInt8 := [21, 5, 154, 0, 14, 45, 3, 47, 22, 6, 148, 153, 0, 5, 3, 172, 167, 6, 173, 43, 42, 21, 4, 4]
abbrev dktL_law_47 : List UInt8 := dkwL_law_47 ++ dktL_law_48
def dkwL_law_46 : List UInt8 := [43, 45, 184, 0, 217, 54, 5, 44, 182, 0, 220, 55, 6, 44, 182, 0, 168, 21, 5, 159, 0, 5, 3, 172]
abbrev dktL_law_46 : List UInt8 := dkwL_law_46 ++ dktL_law_47
def dkwL_law_45 : List UInt8 := [159, 0, 5, 3, 172, 21, 5, 154, 0, 14, 45, 3, 47, 22, 6, 148, 153, 0, 5, 3, 172, 167, 6, 216]
abbrev dktL_law_45 : List UInt8 := dkwL_law_45 ++ dktL_law_46
def dkwL_law_44 : List UInt8 := [45, 184, 0, 214, 54, 5, 44, 42, 21, 4, 4, 96, 46, 182, 0, 216, 55, 6, 44, 182, 0, 168, 21, 5]
abbrev dktL_law_44 : List UInt8 := dkwL_law_44 ++ dktL_law_45
def dkwL_law_43 : List UInt8 := [154, 0, 14, 45, 3, 47, 22, 6, 148, 153, 0, 5, 3, 172, 167, 7, 15, 43, 42, 21, 4, 4, 96, 46]
abbrev dktL_law_43 : List UInt8 := dkwL_law_43 ++ dktL_law_44
def dkwL_law_42 : List UInt8 := [42, 21, 4, 7, 96, 46, 182, 0, 213, 55, 6, 44, 182, 0, 168, 21, 5, 159, 0, 5, 3, 172, 21, 5]
abbrev dktL_law_42 : List UInt8 := dkwL_law_42 ++ dktL_law_43
def dkwL_law_41 : List UInt8 := [184, 0, 210, 54, 5, 44, 42, 21, 4, 4, 96, 46, 42, 21, 4, 5, 96, 46, 42, 21, 4, 6, 96, 46]
abbrev dktL_law_41 : List UInt8 := dkwL_law_41 ++ dktL_law_42
def dkwL_law_40 : List UInt8 := [4, 96, 46, 42, 21, 4, 5, 96, 46, 42, 21, 4, 6, 96, 46, 42, 21, 4, 7, 96, 46, 45]
abbrev dktL_law_40 : List UInt8 := dkwL_law_40 ++ dktL_law_41
def dkwL_law_39 : List UInt8 := [21, 5, 154, 0, 15, 45, 3, 47, 21, 6, 133, 148, 153, 0, 5, 3, 172, 167, 7, 106, 43, 42, 21, 4]
abbrev dktL_law_39 : List UInt8 := dkwL_law_39 ++ dktL_law_40
def dkwL_law_38 : List UInt8 := [96, 46, 42, 21, 4, 6, 96, 46, 182, 0, 209, 54, 6, 44, 182, 0, 168, 21, 5, 159, 0, 5, 3, 172]
abbrev dktL_law_38 : List UInt8 := dkwL_law_38 ++ dktL_law_39
def dkwL_law_37 : List UInt8 := [46, 42, 21, 4, 6, 96, 46, 45, 184, 0, 207, 54, 5, 44, 42, 21, 4, 4, 96, 46, 42, 21, 4, 5]
abbrev dktL_law_37 : List UInt8 := dkwL_law_37 ++ dktL_law_38
def dkwL_law_36 : List UInt8 := [21, 6, 133, 148, 153, 0, 5, 3, 172, 167, 7, 186, 43, 42, 21, 4, 4, 96, 46, 42, 21, 4, 5, 96]
abbrev dktL_law_36 : List UInt8 := dkwL_law_36 ++ dktL_law_37
def dkwL_law_35 : List UInt8 := [182, 0, 206, 54, 6, 44, 182, 0, 168, 21, 5, 159, 0, 5, 3, 172, 21, 5, 154, 0, 15, 45, 3, 47]
abbrev dktL_law_35 : List UInt8 := dkwL_law_35 ++ dktL_law_36
def dkwL_law_34 : List UInt8 := [184, 0, 203, 54, 5, 44, 42, 21, 4, 4, 96, 46, 42, 21, 4, 5, 96, 46, 42, 21, 4, 6, 96, 46]
abbrev dktL_law_34 : List UInt8 := dkwL_law_34 ++ dktL_law_35
def dkwL_law_33 : List UInt8 := [167, 8, 10, 43, 42, 21, 4, 4, 96, 46, 42, 21, 4, 5, 96, 46, 42, 21, 4, 6, 96, 46, 45]
abbrev dktL_law_33 : List UInt8 := dkwL_law_33 ++ dktL_law_34
def dkwL_law_32 : List UInt8 := [21, 5, 159, 0, 5, 3, 172, 21, 5, 154, 0, 15, 45, 3, 47, 21, 6, 133, 148, 153, 0, 5, 3, 172]
abbrev dktL_law_32 : List UInt8 := dkwL_law_32 ++ dktL_law_33
def dkwL_law_31 : List UInt8 := [46, 45, 184, 0, 200, 54, 5, 44, 42, 21, 4, 4, 96, 46, 182, 0, 202, 54, 6, 44, 182, 0, 168]
abbrev dktL_law_31 : List UInt8 := dkwL_law_31 ++ dktL_law_32
def dkwL_law_30 : List UInt8 := [154, 0, 15, 45, 3, 47, 21, 6, 133, 148, 153, 0, 5, 3, 172, 167, 8, 66, 43, 42, 21, 4, 4, 96]
abbrev dktL_law_30 : List UInt8 := dkwL_law_30 ++ dktL_law_31
def dkwL_law_29 : List UInt8 := [21, 4, 4, 96, 46, 182, 0, 199, 54, 6, 44, 182, 0, 168, 21, 5, 159, 0, 5, 3, 172, 21, 5]
abbrev dktL_law_29 : List UInt8 := dkwL_law_29 ++ dktL_law_30
def dkwL_law_28 : List UInt8 := [153, 0, 5, 3, 172, 167, 8, 122, 43, 42, 21, 4, 4, 96, 46, 45, 184, 0, 197, 54, 5, 44, 42]
abbrev dktL_law_28 : List UInt8 := dkwL_law_28 ++ dktL_law_29
def dkwL_law_27 : List UInt8 := [182, 0, 168, 21, 5, 159, 0, 5, 3, 172, 21, 5, 154, 0, 15, 45, 3, 47, 21, 6, 133, 148]
abbrev dktL_law_27 : List UInt8 := dkwL_law_27 ++ dktL_law_28
def dkwL_law_26 : List UInt8 := [184, 0, 194, 54, 5, 44, 42, 21, 4, 4, 96, 46, 42, 21, 4, 5, 96, 46, 182, 0, 196, 54, 6, 44]
abbrev dktL_law_26 : List UInt8 := dkwL_law_26 ++ dktL_law_27
def dkwL_law_25 : List UInt8 := [153, 0, 5, 3, 172, 167, 8, 190, 43, 42, 21, 4, 4, 96, 46, 42, 21, 4, 5, 96, 46, 45]
abbrev dktL_law_25 : List UInt8 := dkwL_law_25 ++ dktL_law_26
def dkwL_law_24 : List UInt8 := [182, 0, 168, 21, 5, 159, 0, 5, 3, 172, 21, 5, 154, 0, 15, 45, 3, 47, 21, 6, 133, 148]
abbrev dktL_law_24 : List UInt8 := dkwL_law_24 ++ dktL_law_25
def dkwL_law_23 : List UInt8 := [184, 0, 191, 54, 5, 44, 42, 21, 4, 4, 96, 46, 42, 21, 4, 5, 96, 46, 182, 0, 193, 54, 6, 44]
abbrev dktL_law_23 : List UInt8 := dkwL_law_23 ++ dktL_law_24
def dkwL_law_22 : List UInt8 := [148, 153, 0, 5, 3, 172, 167, 9, 2, 43, 42, 21, 4, 4, 96, 46, 42, 21, 4, 5, 96, 46, 45]
abbrev dktL_law_22 : List UInt8 := dkwL_law_22 ++ dktL_law_23
def dkwL_law_21 : List UInt8 := [54, 6, 44, 182, 0, 168, 21, 5, 159, 0, 5, 3, 172, 21, 5, 154, 0, 15, 45, 3, 47, 21, 6, 133]
abbrev dktL_law_21 : List UInt8 := dkwL_law_21 ++ dktL_law_22
def dkwL_law_20 : List UInt8 := [46, 45, 184, 0, 188, 54, 5, 44, 42, 21, 4, 4, 96, 46, 42, 21, 4, 5, 96, 46, 182, 0, 190]
abbrev dktL_law_20 : List UInt8 := dkwL_law_20 ++ dktL_law_21
def dkwL_law_19 : List UInt8 := [21, 6, 133, 148, 153, 0, 5, 3, 172, 167, 9, 70, 43, 42, 21, 4, 4, 96, 46, 42, 21, 4, 5, 96]
abbrev dktL_law_19 : List UInt8 := dkwL_law_19 ++ dktL_law_20
def dkwL_law_18 : List UInt8 := [182, 0, 187, 54, 6, 44, 182, 0, 168, 21, 5, 159, 0, 5, 3, 172, 21, 5, 154, 0, 15, 45, 3, 47]
abbrev dktL_law_18 : List UInt8 := dkwL_law_18 ++ dktL_law_19
def dkwL_law_17 : List UInt8 := [5, 96, 46, 45, 184, 0, 185, 54, 5, 44, 42, 21, 4, 4, 96, 46, 42, 21, 4, 5, 96, 46]
abbrev dktL_law_17 : List UInt8 := dkwL_law_17 ++ dktL_law_18
def dkwL_law_16 : List UInt8 := [3, 47, 21, 6, 133, 148, 153, 0, 5, 3, 172, 167, 9, 138, 43, 42, 21, 4, 4, 96, 46, 42, 21, 4]
abbrev dktL_law_16 : List UInt8 := dkwL_law_16 ++ dktL_law_17
def dkwL_law_15 : List UInt8 := [96, 46, 182, 0, 184, 54, 6, 44, 182, 0, 168, 21, 5, 159, 0, 5, 3, 172, 21, 5, 154, 0, 15, 45]
abbrev dktL_law_15 : List UInt8 := dkwL_law_15 ++ dktL_law_16
def dkwL_law_14 : List UInt8 := [46, 42, 21, 4, 5, 96, 46, 45, 184, 0, 181, 54, 5, 44, 42, 21, 4, 4, 96, 46, 42, 21, 4, 5]
abbrev dktL_law_14 : List UInt8 := dkwL_law_14 ++ dktL_law_15
def dkwL_law_13 : List UInt8 := [154, 0, 15, 45, 3, 47, 21, 6, 133, 148, 153, 0, 5, 3, 172, 167, 9, 206, 43, 42, 21, 4, 4, 96]
abbrev dktL_law_13 : List UInt8 := dkwL_law_13 ++ dktL_law_14
def dkwL_law_12 : List UInt8 := [21, 4, 4, 96, 46, 182, 0, 180, 54, 6, 44, 182, 0, 168, 21, 5, 159, 0, 5, 3, 172, 21, 5]
abbrev dktL_law_12 : List UInt8 := dkwL_law_12 ++ dktL_law_13
def dkwL_law_11 : List UInt8 := [182, 0, 177, 159, 10, 8, 3, 172, 43, 42, 21, 4, 4, 96, 46, 45, 184, 0, 178, 54, 5, 44, 42]
abbrev dktL_law_11 : List UInt8 := dkwL_law_11 ++ dktL_law_12
def dkwL_law_10 : List UInt8 := [154, 0, 15, 45, 3, 47, 21, 6, 133, 148, 153, 0, 5, 3, 172, 167, 10, 19, 43, 182, 0, 174, 44]
abbrev dktL_law_10 : List UInt8 := dkwL_law_10 ++ dktL_law_11
def dkwL_law_9 : List UInt8 := [21, 4, 4, 96, 46, 182, 0, 173, 54, 6, 44, 182, 0, 168, 21, 5, 159, 0, 5, 3, 172, 21, 5]
abbrev dktL_law_9 : List UInt8 := dkwL_law_9 ++ dktL_law_10
def dkwL_law_8 : List UInt8 := [148, 153, 0, 5, 3, 172, 167, 10, 75, 43, 42, 21, 4, 4, 96, 46, 45, 184, 0, 171, 54, 5, 44, 42]
abbrev dktL_law_8 : List UInt8 := dkwL_law_8 ++ dktL_law_9
def dkwL_law_7 : List UInt8 := [54, 6, 44, 182, 0, 168, 21, 5, 159, 0, 5, 3, 172, 21, 5, 154, 0, 15, 45, 3, 47, 21, 6, 133]
abbrev dktL_law_7 : List UInt8 := dkwL_law_7 ++ dktL_law_8
def dkwL_law_6 : List UInt8 := [172, 43, 42, 21, 4, 4, 96, 46, 45, 184, 0, 162, 54, 5, 44, 42, 21, 4, 4, 96, 46, 182, 0, 167]
abbrev dktL_law_6 : List UInt8 := dkwL_law_6 ++ dktL_law_7
def dkwL_law_5 : List UInt8 := [21, 4, 6, 96, 46, 42, 21, 4, 7, 96, 46, 42, 21, 4, 8, 96, 46, 182, 0, 161, 159, 10, 133, 3]
abbrev dktL_law_5 : List UInt8 := dkwL_law_5 ++ dktL_law_6
def dkwL_law_4 : List UInt8 := [46, 42, 21, 4, 8, 96, 46, 182, 0, 157, 44, 42, 21, 4, 4, 96, 46, 42, 21, 4, 5, 96, 46, 42]
abbrev dktL_law_4 : List UInt8 := dkwL_law_4 ++ dktL_law_5
def dkwL_law_3 : List UInt8 := [43, 42, 21, 4, 4, 96, 46, 42, 21, 4, 5, 96, 46, 42, 21, 4, 6, 96, 46, 42, 21, 4, 7, 96]
abbrev dktL_law_3 : List UInt8 := dkwL_law_3 ++ dktL_law_4
def dkwL_law_2 : List UInt8 := [170, 0, 0, 0, 0, 0, 11, 161, 0, 0, 0, 0, 0, 0, 0, 49, 0, 0, 0, 216, 0, 0, 1, 33, 0, 0, 1, 89, 0, 0, 1, 145, 0, 0, 1, 158, 0, 0, 1, 214, 0, 0, 2, 26, 0, 0, 2, 94, 0, 0, 2, 162, 0, 0, 2, 230, 0, 0, 3, 42, 0, 0, 3, 98, 0, 0, 3, 154, 0, 0, 3, 234, 0, 0, 4, 58, 0, 0, 4, 149, 0, 0, 4, 204, 0, 0, 4, 247, 0, 0, 5, 46, 0, 0, 5, 102, 0, 0, 5, 170, 0, 0, 5, 183, 0, 0, 5, 239, 0, 0, 5, 252, 0, 0, 6, 40, 0, 0, 6, 96, 0, 0, 6, 163, 0, 0, 6, 207, 0, 0, 7, 18, 0, 0, 7, 74, 0, 0, 7, 130, 0, 0, 7, 217, 0, 0, 8, 41, 0, 0, 8, 121, 0, 0, 8, 176, 0, 0, 8, 231, 0, 0, 9, 31, 0, 0, 9, 86, 0, 0, 9, 165, 0, 0, 9, 209, 0, 0, 9, 253, 0, 0, 10, 64, 0, 0, 10, 119, 0, 0, 10, 186, 0, 0, 10, 254, 0, 0, 11, 41, 0, 0, 11, 85, 0, 0, 11, 98, 0, 0, 11, 111, 0, 0, 11, 136]
abbrev dktL_law_2 : List UInt8 := dkwL_law_2 ++ dktL_law_3
def dkwL_law_1 : List UInt8 := [21, 4, 42, 190, 16, 6, 100, 163, 11, 177, 42, 21, 4, 46, 16, 63, 126]
abbrev dktL_law_1 : List UInt8 := dkwL_law_1 ++ dktL_law_2
def dkwL_law_0 : List UInt8 := [187, 0, 8, 89, 183, 0, 153, 76, 187, 0, 154, 89, 183, 0, 156, 77, 4, 188, 11, 78, 3, 54, 4]
abbrev dktL_law_0 : List UInt8 := dkwL_law_0 ++ dktL_law_1
theorem dksL_law_0 : cL_law.data.toList.drop 0 = dktL_law_0 := by decide +kernel
theorem dksL_law_1 : cL_law.data.toList.drop 23 = dktL_law_1 := dk_seg dksL_law_0 23 rfl rfl
theorem dksL_law_2 : cL_law.data.toList.drop 40 = dktL_law_2 := dk_seg dksL_law_1 17 rfl rfl
theorem dksL_law_3 : cL_law.data.toList.drop 256 = dktL_law_3 := dk_seg dksL_law_2 216 rfl rfl
theorem dksL_law_4 : cL_law.data.toList.drop 280 = dktL_law_4 := dk_seg dksL_law_3 24 rfl rfl
theorem dksL_law_5 : cL_law.data.toList.drop 304 = dktL_law_5 := dk_seg dksL_law_4 24 rfl rfl
theorem dksL_law_6 : cL_law.data.toList.drop 328 = dktL_law_6 := dk_seg dksL_law_5 24 rfl rfl
theorem dksL_law_7 : cL_law.data.toList.drop 352 = dktL_law_7 := dk_seg dksL_law_6 24 rfl rfl
theorem dksL_law_8 : cL_law.data.toList.drop 376 = dktL_law_8 := dk_seg dksL_law_7 24 rfl rfl
theorem dksL_law_9 : cL_law.data.toList.drop 400 = dktL_law_9 := dk_seg dksL_law_8 24 rfl rfl
theorem dksL_law_10 : cL_law.data.toList.drop 423 = dktL_law_10 := dk_seg dksL_law_9 23 rfl rfl
theorem dksL_law_11 : cL_law.data.toList.drop 446 = dktL_law_11 := dk_seg dksL_law_10 23 rfl rfl
theorem dksL_law_12 : cL_law.data.toList.drop 469 = dktL_law_12 := dk_seg dksL_law_11 23 rfl rfl
theorem dksL_law_13 : cL_law.data.toList.drop 492 = dktL_law_13 := dk_seg dksL_law_12 23 rfl rfl
theorem dksL_law_14 : cL_law.data.toList.drop 516 = dktL_law_14 := dk_seg dksL_law_13 24 rfl rfl
theorem dksL_law_15 : cL_law.data.toList.drop 540 = dktL_law_15 := dk_seg dksL_law_14 24 rfl rfl
theorem dksL_law_16 : cL_law.data.toList.drop 564 = dktL_law_16 := dk_seg dksL_law_15 24 rfl rfl
theorem dksL_law_17 : cL_law.data.toList.drop 588 = dktL_law_17 := dk_seg dksL_law_16 24 rfl rfl
theorem dksL_law_18 : cL_law.data.toList.drop 610 = dktL_law_18 := dk_seg dksL_law_17 22 rfl rfl
theorem dksL_law_19 : cL_law.data.toList.drop 634 = dktL_law_19 := dk_seg dksL_law_18 24 rfl rfl
theorem dksL_law_20 : cL_law.data.toList.drop 658 = dktL_law_20 := dk_seg dksL_law_19 24 rfl rfl
theorem dksL_law_21 : cL_law.data.toList.drop 681 = dktL_law_21 := dk_seg dksL_law_20 23 rfl rfl
theorem dksL_law_22 : cL_law.data.toList.drop 705 = dktL_law_22 := dk_seg dksL_law_21 24 rfl rfl
theorem dksL_law_23 : cL_law.data.toList.drop 728 = dktL_law_23 := dk_seg dksL_law_22 23 rfl rfl
theorem dksL_law_24 : cL_law.data.toList.drop 752 = dktL_law_24 := dk_seg dksL_law_23 24 rfl rfl
theorem dksL_law_25 : cL_law.data.toList.drop 774 = dktL_law_25 := dk_seg dksL_law_24 22 rfl rfl
theorem dksL_law_26 : cL_law.data.toList.drop 796 = dktL_law_26 := dk_seg dksL_law_25 22 rfl rfl
theorem dksL_law_27 : cL_law.data.toList.drop 820 = dktL_law_27 := dk_seg dksL_law_26 24 rfl rfl
theorem dksL_law_28 : cL_law.data.toList.drop 842 = dktL_law_28 := dk_seg dksL_law_27 22 rfl rfl
theorem dksL_law_29 : cL_law.data.toList.drop 865 = dktL_law_29 := dk_seg dksL_law_28 23 rfl rfl
theorem dksL_law_30 : cL_law.data.toList.drop 888 = dktL_law_30 := dk_seg dksL_law_29 23 rfl rfl
theorem dksL_law_31 : cL_law.data.toList.drop 912 = dktL_law_31 := dk_seg dksL_law_30 24 rfl rfl
theorem dksL_law_32 : cL_law.data.toList.drop 935 = dktL_law_32 := dk_seg dksL_law_31 23 rfl rfl
theorem dksL_law_33 : cL_law.data.toList.drop 959 = dktL_law_33 := dk_seg dksL_law_32 24 rfl rfl
theorem dksL_law_34 : cL_law.data.toList.drop 982 = dktL_law_34 := dk_seg dksL_law_33 23 rfl rfl
theorem dksL_law_35 : cL_law.data.toList.drop 1006 = dktL_law_35 := dk_seg dksL_law_34 24 rfl rfl
theorem dksL_law_36 : cL_law.data.toList.drop 1030 = dktL_law_36 := dk_seg dksL_law_35 24 rfl rfl
theorem dksL_law_37 : cL_law.data.toList.drop 1054 = dktL_law_37 := dk_seg dksL_law_36 24 rfl rfl
theorem dksL_law_38 : cL_law.data.toList.drop 1078 = dktL_law_38 := dk_seg dksL_law_37 24 rfl rfl
theorem dksL_law_39 : cL_law.data.toList.drop 1102 = dktL_law_39 := dk_seg dksL_law_38 24 rfl rfl
theorem dksL_law_40 : cL_law.data.toList.drop 1126 = dktL_law_40 := dk_seg dksL_law_39 24 rfl rfl
theorem dksL_law_41 : cL_law.data.toList.drop 1148 = dktL_law_41 := dk_seg dksL_law_40 22 rfl rfl
theorem dksL_law_42 : cL_law.data.toList.drop 1172 = dktL_law_42 := dk_seg dksL_law_41 24 rfl rfl
theorem dksL_law_43 : cL_law.data.toList.drop 1196 = dktL_law_43 := dk_seg dksL_law_42 24 rfl rfl
theorem dksL_law_44 : cL_law.data.toList.drop 1220 = dktL_law_44 := dk_seg dksL_law_43 24 rfl rfl
theorem dksL_law_45 : cL_law.data.toList.drop 1244 = dktL_law_45 := dk_seg dksL_law_44 24 rfl rfl
theorem dksL_law_46 : cL_law.data.toList.drop 1268 = dktL_law_46 := dk_seg dksL_law_45 24 rfl rfl
theorem dksL_law_47 : cL_law.data.toList.drop 1292 = dktL_law_47 := dk_seg dksL_law_46 24 rfl rfl
theorem dksL_law_48 : cL_law.data.toList.drop 1316 = dktL_law_48 := dk_seg dksL_law_47 24 rfl rfl
theorem dksL_law_49 : cL_law.data.toList.drop 1340 = dktL_law_49 := dk_seg dksL_law_48 24 rfl rfl
theorem dksL_law_50 : cL_law.data.toList.drop 1363 = dktL_law_50 := dk_seg dksL_law_49 23 rfl rfl
theorem dksL_law_51 : cL_law.data.toList.drop 1386 = dktL_law_51 := dk_seg dksL_law_50 23 rfl rfl
theorem dksL_law_52 : cL_law.data.toList.drop 1410 = dktL_law_52 := dk_seg dksL_law_51 24 rfl rfl
theorem dksL_law_53 : cL_law.data.toList.drop 1434 = dktL_law_53 := dk_seg dksL_law_52 24 rfl rfl
theorem dksL_law_54 : cL_law.data.toList.drop 1457 = dktL_law_54 := dk_seg dksL_law_53 23 rfl rfl
theorem dksL_law_55 : cL_law.data.toList.drop 1481 = dktL_law_55 := dk_seg dksL_law_54 24 rfl rfl
theorem dksL_law_56 : cL_law.data.toList.drop 1505 = dktL_law_56 := dk_seg dksL_law_55 24 rfl rfl
theorem dksL_law_57 : cL_law.data.toList.drop 1529 = dktL_law_57 := dk_seg dksL_law_56 24 rfl rfl
theorem dksL_law_58 : cL_law.data.toList.drop 1551 = dktL_law_58 := dk_seg dksL_law_57 22 rfl rfl
theorem dksL_law_59 : cL_law.data.toList.drop 1574 = dktL_law_59 := dk_seg dksL_law_58 23 rfl rfl
theorem dksL_law_60 : cL_law.data.toList.drop 1598 = dktL_law_60 := dk_seg dksL_law_59 24 rfl rfl
theorem dksL_law_61 : cL_law.data.toList.drop 1622 = dktL_law_61 := dk_seg dksL_law_60 24 rfl rfl
theorem dksL_law_62 : cL_law.data.toList.drop 1645 = dktL_law_62 := dk_seg dksL_law_61 23 rfl rfl
theorem dksL_law_63 : cL_law.data.toList.drop 1669 = dktL_law_63 := dk_seg dksL_law_62 24 rfl rfl
theorem dksL_law_64 : cL_law.data.toList.drop 1693 = dktL_law_64 := dk_seg dksL_law_63 24 rfl rfl
theorem dksL_law_65 : cL_law.data.toList.drop 1715 = dktL_law_65 := dk_seg dksL_law_64 22 rfl rfl
theorem dksL_law_66 : cL_law.data.toList.drop 1739 = dktL_law_66 := dk_seg dksL_law_65 24 rfl rfl
theorem dksL_law_67 : cL_law.data.toList.drop 1763 = dktL_law_67 := dk_seg dksL_law_66 24 rfl rfl
theorem dksL_law_68 : cL_law.data.toList.drop 1787 = dktL_law_68 := dk_seg dksL_law_67 24 rfl rfl
theorem dksL_law_69 : cL_law.data.toList.drop 1810 = dktL_law_69 := dk_seg dksL_law_68 23 rfl rfl
theorem dksL_law_70 : cL_law.data.toList.drop 1833 = dktL_law_70 := dk_seg dksL_law_69 23 rfl rfl
theorem dksL_law_71 : cL_law.data.toList.drop 1857 = dktL_law_71 := dk_seg dksL_law_70 24 rfl rfl
theorem dksL_law_72 : cL_law.data.toList.drop 1881 = dktL_law_72 := dk_seg dksL_law_71 24 rfl rfl
theorem dksL_law_73 : cL_law.data.toList.drop 1903 = dktL_law_73 := dk_seg dksL_law_72 22 rfl rfl
theorem dksL_law_74 : cL_law.data.toList.drop 1926 = dktL_law_74 := dk_seg dksL_law_73 23 rfl rfl
theorem dksL_law_75 : cL_law.data.toList.drop 1950 = dktL_law_75 := dk_seg dksL_law_74 24 rfl rfl
theorem dksL_law_76 : cL_law.data.toList.drop 1974 = dktL_law_76 := dk_seg dksL_law_75 24 rfl rfl
theorem dksL_law_77 : cL_law.data.toList.drop 1998 = dktL_law_77 := dk_seg dksL_law_76 24 rfl rfl
theorem dksL_law_78 : cL_law.data.toList.drop 2022 = dktL_law_78 := dk_seg dksL_law_77 24 rfl rfl
theorem dksL_law_79 : cL_law.data.toList.drop 2046 = dktL_law_79 := dk_seg dksL_law_78 24 rfl rfl
theorem dksL_law_80 : cL_law.data.toList.drop 2069 = dktL_law_80 := dk_seg dksL_law_79 23 rfl rfl
theorem dksL_law_81 : cL_law.data.toList.drop 2093 = dktL_law_81 := dk_seg dksL_law_80 24 rfl rfl
theorem dksL_law_82 : cL_law.data.toList.drop 2117 = dktL_law_82 := dk_seg dksL_law_81 24 rfl rfl
theorem dksL_law_83 : cL_law.data.toList.drop 2141 = dktL_law_83 := dk_seg dksL_law_82 24 rfl rfl
theorem dksL_law_84 : cL_law.data.toList.drop 2165 = dktL_law_84 := dk_seg dksL_law_83 24 rfl rfl
theorem dksL_law_85 : cL_law.data.toList.drop 2189 = dktL_law_85 := dk_seg dksL_law_84 24 rfl rfl
theorem dksL_law_86 : cL_law.data.toList.drop 2213 = dktL_law_86 := dk_seg dksL_law_85 24 rfl rfl
theorem dksL_law_87 : cL_law.data.toList.drop 2235 = dktL_law_87 := dk_seg dksL_law_86 22 rfl rfl
theorem dksL_law_88 : cL_law.data.toList.drop 2259 = dktL_law_88 := dk_seg dksL_law_87 24 rfl rfl
theorem dksL_law_89 : cL_law.data.toList.drop 2283 = dktL_law_89 := dk_seg dksL_law_88 24 rfl rfl
theorem dksL_law_90 : cL_law.data.toList.drop 2307 = dktL_law_90 := dk_seg dksL_law_89 24 rfl rfl
theorem dksL_law_91 : cL_law.data.toList.drop 2330 = dktL_law_91 := dk_seg dksL_law_90 23 rfl rfl
theorem dksL_law_92 : cL_law.data.toList.drop 2354 = dktL_law_92 := dk_seg dksL_law_91 24 rfl rfl
theorem dksL_law_93 : cL_law.data.toList.drop 2377 = dktL_law_93 := dk_seg dksL_law_92 23 rfl rfl
theorem dksL_law_94 : cL_law.data.toList.drop 2401 = dktL_law_94 := dk_seg dksL_law_93 24 rfl rfl
theorem dksL_law_95 : cL_law.data.toList.drop 2425 = dktL_law_95 := dk_seg dksL_law_94 24 rfl rfl
theorem dksL_law_96 : cL_law.data.toList.drop 2449 = dktL_law_96 := dk_seg dksL_law_95 24 rfl rfl
theorem dksL_law_97 : cL_law.data.toList.drop 2473 = dktL_law_97 := dk_seg dksL_law_96 24 rfl rfl
theorem dksL_law_98 : cL_law.data.toList.drop 2497 = dktL_law_98 := dk_seg dksL_law_97 24 rfl rfl
theorem dksL_law_99 : cL_law.data.toList.drop 2520 = dktL_law_99 := dk_seg dksL_law_98 23 rfl rfl
theorem dksL_law_100 : cL_law.data.toList.drop 2544 = dktL_law_100 := dk_seg dksL_law_99 24 rfl rfl
theorem dksL_law_101 : cL_law.data.toList.drop 2567 = dktL_law_101 := dk_seg dksL_law_100 23 rfl rfl
theorem dksL_law_102 : cL_law.data.toList.drop 2589 = dktL_law_102 := dk_seg dksL_law_101 22 rfl rfl
theorem dksL_law_103 : cL_law.data.toList.drop 2611 = dktL_law_103 := dk_seg dksL_law_102 22 rfl rfl
theorem dksL_law_104 : cL_law.data.toList.drop 2635 = dktL_law_104 := dk_seg dksL_law_103 24 rfl rfl
theorem dksL_law_105 : cL_law.data.toList.drop 2659 = dktL_law_105 := dk_seg dksL_law_104 24 rfl rfl
theorem dksL_law_106 : cL_law.data.toList.drop 2683 = dktL_law_106 := dk_seg dksL_law_105 24 rfl rfl
theorem dksL_law_107 : cL_law.data.toList.drop 2707 = dktL_law_107 := dk_seg dksL_law_106 24 rfl rfl
theorem dksL_law_108 : cL_law.data.toList.drop 2731 = dktL_law_108 := dk_seg dksL_law_107 24 rfl rfl
theorem dksL_law_109 : cL_law.data.toList.drop 2754 = dktL_law_109 := dk_seg dksL_law_108 23 rfl rfl
theorem dksL_law_110 : cL_law.data.toList.drop 2778 = dktL_law_110 := dk_seg dksL_law_109 24 rfl rfl
theorem dksL_law_111 : cL_law.data.toList.drop 2800 = dktL_law_111 := dk_seg dksL_law_110 22 rfl rfl
theorem dksL_law_112 : cL_law.data.toList.drop 2824 = dktL_law_112 := dk_seg dksL_law_111 24 rfl rfl
theorem dksL_law_113 : cL_law.data.toList.drop 2846 = dktL_law_113 := dk_seg dksL_law_112 22 rfl rfl
theorem dksL_law_114 : cL_law.data.toList.drop 2868 = dktL_law_114 := dk_seg dksL_law_113 22 rfl rfl
theorem dksL_law_115 : cL_law.data.toList.drop 2892 = dktL_law_115 := dk_seg dksL_law_114 24 rfl rfl
theorem dksL_law_116 : cL_law.data.toList.drop 2916 = dktL_law_116 := dk_seg dksL_law_115 24 rfl rfl
theorem dksL_law_117 : cL_law.data.toList.drop 2938 = dktL_law_117 := dk_seg dksL_law_116 22 rfl rfl
theorem dksL_law_118 : cL_law.data.toList.drop 2962 = dktL_law_118 := dk_seg dksL_law_117 24 rfl rfl
theorem dksL_law_119 : cL_law.data.toList.drop 2984 = dktL_law_119 := dk_seg dksL_law_118 22 rfl rfl
theorem dksL_law_120 : cL_law.data.toList.drop 3008 = dktL_law_120 := dk_seg dksL_law_119 24 rfl rfl
theorem dL_law_0 : decode cL_law 0 = .ok (.new 8, 3) := dk_187 0 8 (dk_at dksL_law_0 0 rfl rfl)
theorem dL_law_3 : decode cL_law 3 = .ok (.dup, 1) := dk_89 (dk_at dksL_law_0 3 rfl rfl)
theorem dL_law_4 : decode cL_law 4 = .ok (.invokespecial 153, 3) := dk_183 0 153 (dk_at dksL_law_0 4 rfl rfl)
theorem dL_law_7 : decode cL_law 7 = .ok (.astore_n 1, 1) := dk_76 (dk_at dksL_law_0 7 rfl rfl)
theorem dL_law_8 : decode cL_law 8 = .ok (.new 154, 3) := dk_187 0 154 (dk_at dksL_law_0 8 rfl rfl)
theorem dL_law_11 : decode cL_law 11 = .ok (.dup, 1) := dk_89 (dk_at dksL_law_0 11 rfl rfl)
theorem dL_law_12 : decode cL_law 12 = .ok (.invokespecial 156, 3) := dk_183 0 156 (dk_at dksL_law_0 12 rfl rfl)
theorem dL_law_15 : decode cL_law 15 = .ok (.astore_n 2, 1) := dk_77 (dk_at dksL_law_0 15 rfl rfl)
theorem dL_law_16 : decode cL_law 16 = .ok (.iconst 1, 1) := dk_4 (dk_at dksL_law_0 16 rfl rfl)
theorem dL_law_17 : decode cL_law 17 = .ok (.newarray .long, 2) := dk_188_11 (dk_at dksL_law_0 17 rfl rfl)
theorem dL_law_19 : decode cL_law 19 = .ok (.astore_n 3, 1) := dk_78 (dk_at dksL_law_0 19 rfl rfl)
theorem dL_law_20 : decode cL_law 20 = .ok (.iconst 0, 1) := dk_3 (dk_at dksL_law_0 20 rfl rfl)
theorem dL_law_21 : decode cL_law 21 = .ok (.istore 4, 2) := dk_54 4 (dk_at dksL_law_0 21 rfl rfl)
theorem dL_law_23 : decode cL_law 23 = .ok (.iload 4, 2) := dk_21 4 (dk_at dksL_law_1 0 rfl rfl)
theorem dL_law_25 : decode cL_law 25 = .ok (.aload_n 0, 1) := dk_42 (dk_at dksL_law_1 2 rfl rfl)
theorem dL_law_26 : decode cL_law 26 = .ok (.arraylength, 1) := dk_190 (dk_at dksL_law_1 3 rfl rfl)
theorem dL_law_27 : decode cL_law 27 = .ok (.bipush 6, 2) := dk_16 6 (dk_at dksL_law_1 4 rfl rfl)
theorem dL_law_29 : decode cL_law 29 = .ok (.isub, 1) := dk_100 (dk_at dksL_law_1 6 rfl rfl)
theorem dL_law_30 : decode cL_law 30 = .ok (.if_icmp .gt 2993, 3) := dk_163 11 177 (dk_at dksL_law_1 7 rfl rfl)
theorem dL_law_33 : decode cL_law 33 = .ok (.aload_n 0, 1) := dk_42 (dk_at dksL_law_1 10 rfl rfl)
theorem dL_law_34 : decode cL_law 34 = .ok (.iload 4, 2) := dk_21 4 (dk_at dksL_law_1 11 rfl rfl)
theorem dL_law_36 : decode cL_law 36 = .ok (.iaload, 1) := dk_46 (dk_at dksL_law_1 13 rfl rfl)
theorem dL_law_37 : decode cL_law 37 = .ok (.bipush 63, 2) := dk_16 63 (dk_at dksL_law_1 14 rfl rfl)
theorem dL_law_39 : decode cL_law 39 = .ok (.iand, 1) := dk_126 (dk_at dksL_law_1 16 rfl rfl)
theorem dL_law_40 : decode cL_law 40 = .ok (.tableswitch 2977 0 49 #[216, 289, 345, 401, 414, 470, 538, 606, 674, 742, 810, 866, 922, 1002, 1082, 1173, 1228, 1271, 1326, 1382, 1450, 1463, 1519, 1532, 1576, 1632, 1699, 1743, 1810, 1866, 1922, 2009, 2089, 2169, 2224, 2279, 2335, 2390, 2469, 2513, 2557, 2624, 2679, 2746, 2814, 2857, 2901, 2914, 2927, 2952], 216) := by decide +kernel
theorem dL_law_256 : decode cL_law 256 = .ok (.aload_n 1, 1) := dk_43 (dk_at dksL_law_3 0 rfl rfl)
theorem dL_law_257 : decode cL_law 257 = .ok (.aload_n 0, 1) := dk_42 (dk_at dksL_law_3 1 rfl rfl)
theorem dL_law_258 : decode cL_law 258 = .ok (.iload 4, 2) := dk_21 4 (dk_at dksL_law_3 2 rfl rfl)
theorem dL_law_260 : decode cL_law 260 = .ok (.iconst 1, 1) := dk_4 (dk_at dksL_law_3 4 rfl rfl)
theorem dL_law_261 : decode cL_law 261 = .ok (.iadd, 1) := dk_96 (dk_at dksL_law_3 5 rfl rfl)
theorem dL_law_262 : decode cL_law 262 = .ok (.iaload, 1) := dk_46 (dk_at dksL_law_3 6 rfl rfl)
theorem dL_law_263 : decode cL_law 263 = .ok (.aload_n 0, 1) := dk_42 (dk_at dksL_law_3 7 rfl rfl)
theorem dL_law_264 : decode cL_law 264 = .ok (.iload 4, 2) := dk_21 4 (dk_at dksL_law_3 8 rfl rfl)
theorem dL_law_266 : decode cL_law 266 = .ok (.iconst 2, 1) := dk_5 (dk_at dksL_law_3 10 rfl rfl)
theorem dL_law_267 : decode cL_law 267 = .ok (.iadd, 1) := dk_96 (dk_at dksL_law_3 11 rfl rfl)
theorem dL_law_268 : decode cL_law 268 = .ok (.iaload, 1) := dk_46 (dk_at dksL_law_3 12 rfl rfl)
theorem dL_law_269 : decode cL_law 269 = .ok (.aload_n 0, 1) := dk_42 (dk_at dksL_law_3 13 rfl rfl)
theorem dL_law_270 : decode cL_law 270 = .ok (.iload 4, 2) := dk_21 4 (dk_at dksL_law_3 14 rfl rfl)
theorem dL_law_272 : decode cL_law 272 = .ok (.iconst 3, 1) := dk_6 (dk_at dksL_law_3 16 rfl rfl)
theorem dL_law_273 : decode cL_law 273 = .ok (.iadd, 1) := dk_96 (dk_at dksL_law_3 17 rfl rfl)
theorem dL_law_274 : decode cL_law 274 = .ok (.iaload, 1) := dk_46 (dk_at dksL_law_3 18 rfl rfl)
theorem dL_law_275 : decode cL_law 275 = .ok (.aload_n 0, 1) := dk_42 (dk_at dksL_law_3 19 rfl rfl)
theorem dL_law_276 : decode cL_law 276 = .ok (.iload 4, 2) := dk_21 4 (dk_at dksL_law_3 20 rfl rfl)
theorem dL_law_278 : decode cL_law 278 = .ok (.iconst 4, 1) := dk_7 (dk_at dksL_law_3 22 rfl rfl)
theorem dL_law_279 : decode cL_law 279 = .ok (.iadd, 1) := dk_96 (dk_at dksL_law_3 23 rfl rfl)
theorem dL_law_280 : decode cL_law 280 = .ok (.iaload, 1) := dk_46 (dk_at dksL_law_4 0 rfl rfl)
theorem dL_law_281 : decode cL_law 281 = .ok (.aload_n 0, 1) := dk_42 (dk_at dksL_law_4 1 rfl rfl)
theorem dL_law_282 : decode cL_law 282 = .ok (.iload 4, 2) := dk_21 4 (dk_at dksL_law_4 2 rfl rfl)
theorem dL_law_284 : decode cL_law 284 = .ok (.iconst 5, 1) := dk_8 (dk_at dksL_law_4 4 rfl rfl)
theorem dL_law_285 : decode cL_law 285 = .ok (.iadd, 1) := dk_96 (dk_at dksL_law_4 5 rfl rfl)
theorem dL_law_286 : decode cL_law 286 = .ok (.iaload, 1) := dk_46 (dk_at dksL_law_4 6 rfl rfl)
theorem dL_law_287 : decode cL_law 287 = .ok (.invokevirtual 157, 3) := dk_182 0 157 (dk_at dksL_law_4 7 rfl rfl)
theorem dL_law_290 : decode cL_law 290 = .ok (.aload_n 2, 1) := dk_44 (dk_at dksL_law_4 10 rfl rfl)
theorem dL_law_291 : decode cL_law 291 = .ok (.aload_n 0, 1) := dk_42 (dk_at dksL_law_4 11 rfl rfl)
theorem dL_law_292 : decode cL_law 292 = .ok (.iload 4, 2) := dk_21 4 (dk_at dksL_law_4 12 rfl rfl)
theorem dL_law_294 : decode cL_law 294 = .ok (.iconst 1, 1) := dk_4 (dk_at dksL_law_4 14 rfl rfl)
theorem dL_law_295 : decode cL_law 295 = .ok (.iadd, 1) := dk_96 (dk_at dksL_law_4 15 rfl rfl)
theorem dL_law_296 : decode cL_law 296 = .ok (.iaload, 1) := dk_46 (dk_at dksL_law_4 16 rfl rfl)
theorem dL_law_297 : decode cL_law 297 = .ok (.aload_n 0, 1) := dk_42 (dk_at dksL_law_4 17 rfl rfl)
theorem dL_law_298 : decode cL_law 298 = .ok (.iload 4, 2) := dk_21 4 (dk_at dksL_law_4 18 rfl rfl)
theorem dL_law_300 : decode cL_law 300 = .ok (.iconst 2, 1) := dk_5 (dk_at dksL_law_4 20 rfl rfl)
theorem dL_law_301 : decode cL_law 301 = .ok (.iadd, 1) := dk_96 (dk_at dksL_law_4 21 rfl rfl)
theorem dL_law_302 : decode cL_law 302 = .ok (.iaload, 1) := dk_46 (dk_at dksL_law_4 22 rfl rfl)
theorem dL_law_303 : decode cL_law 303 = .ok (.aload_n 0, 1) := dk_42 (dk_at dksL_law_4 23 rfl rfl)
theorem dL_law_304 : decode cL_law 304 = .ok (.iload 4, 2) := dk_21 4 (dk_at dksL_law_5 0 rfl rfl)
theorem dL_law_306 : decode cL_law 306 = .ok (.iconst 3, 1) := dk_6 (dk_at dksL_law_5 2 rfl rfl)
theorem dL_law_307 : decode cL_law 307 = .ok (.iadd, 1) := dk_96 (dk_at dksL_law_5 3 rfl rfl)
theorem dL_law_308 : decode cL_law 308 = .ok (.iaload, 1) := dk_46 (dk_at dksL_law_5 4 rfl rfl)
theorem dL_law_309 : decode cL_law 309 = .ok (.aload_n 0, 1) := dk_42 (dk_at dksL_law_5 5 rfl rfl)
theorem dL_law_310 : decode cL_law 310 = .ok (.iload 4, 2) := dk_21 4 (dk_at dksL_law_5 6 rfl rfl)
theorem dL_law_312 : decode cL_law 312 = .ok (.iconst 4, 1) := dk_7 (dk_at dksL_law_5 8 rfl rfl)
theorem dL_law_313 : decode cL_law 313 = .ok (.iadd, 1) := dk_96 (dk_at dksL_law_5 9 rfl rfl)
theorem dL_law_314 : decode cL_law 314 = .ok (.iaload, 1) := dk_46 (dk_at dksL_law_5 10 rfl rfl)
theorem dL_law_315 : decode cL_law 315 = .ok (.aload_n 0, 1) := dk_42 (dk_at dksL_law_5 11 rfl rfl)
theorem dL_law_316 : decode cL_law 316 = .ok (.iload 4, 2) := dk_21 4 (dk_at dksL_law_5 12 rfl rfl)
theorem dL_law_318 : decode cL_law 318 = .ok (.iconst 5, 1) := dk_8 (dk_at dksL_law_5 14 rfl rfl)
theorem dL_law_319 : decode cL_law 319 = .ok (.iadd, 1) := dk_96 (dk_at dksL_law_5 15 rfl rfl)
theorem dL_law_320 : decode cL_law 320 = .ok (.iaload, 1) := dk_46 (dk_at dksL_law_5 16 rfl rfl)
theorem dL_law_321 : decode cL_law 321 = .ok (.invokevirtual 161, 3) := dk_182 0 161 (dk_at dksL_law_5 17 rfl rfl)
theorem dL_law_324 : decode cL_law 324 = .ok (.if_icmp .eq 2693, 3) := dk_159 10 133 (dk_at dksL_law_5 20 rfl rfl)
theorem dL_law_327 : decode cL_law 327 = .ok (.iconst 0, 1) := dk_3 (dk_at dksL_law_5 23 rfl rfl)
theorem dL_law_328 : decode cL_law 328 = .ok (.ireturn, 1) := dk_172 (dk_at dksL_law_6 0 rfl rfl)
theorem dL_law_329 : decode cL_law 329 = .ok (.aload_n 1, 1) := dk_43 (dk_at dksL_law_6 1 rfl rfl)
theorem dL_law_330 : decode cL_law 330 = .ok (.aload_n 0, 1) := dk_42 (dk_at dksL_law_6 2 rfl rfl)
theorem dL_law_331 : decode cL_law 331 = .ok (.iload 4, 2) := dk_21 4 (dk_at dksL_law_6 3 rfl rfl)
theorem dL_law_333 : decode cL_law 333 = .ok (.iconst 1, 1) := dk_4 (dk_at dksL_law_6 5 rfl rfl)
theorem dL_law_334 : decode cL_law 334 = .ok (.iadd, 1) := dk_96 (dk_at dksL_law_6 6 rfl rfl)
theorem dL_law_335 : decode cL_law 335 = .ok (.iaload, 1) := dk_46 (dk_at dksL_law_6 7 rfl rfl)
theorem dL_law_336 : decode cL_law 336 = .ok (.aload_n 3, 1) := dk_45 (dk_at dksL_law_6 8 rfl rfl)
theorem dL_law_337 : decode cL_law 337 = .ok (.invokestatic 162, 3) := dk_184 0 162 (dk_at dksL_law_6 9 rfl rfl)
theorem dL_law_340 : decode cL_law 340 = .ok (.istore 5, 2) := dk_54 5 (dk_at dksL_law_6 12 rfl rfl)
theorem dL_law_342 : decode cL_law 342 = .ok (.aload_n 2, 1) := dk_44 (dk_at dksL_law_6 14 rfl rfl)
theorem dL_law_343 : decode cL_law 343 = .ok (.aload_n 0, 1) := dk_42 (dk_at dksL_law_6 15 rfl rfl)
theorem dL_law_344 : decode cL_law 344 = .ok (.iload 4, 2) := dk_21 4 (dk_at dksL_law_6 16 rfl rfl)
theorem dL_law_346 : decode cL_law 346 = .ok (.iconst 1, 1) := dk_4 (dk_at dksL_law_6 18 rfl rfl)
theorem dL_law_347 : decode cL_law 347 = .ok (.iadd, 1) := dk_96 (dk_at dksL_law_6 19 rfl rfl)
theorem dL_law_348 : decode cL_law 348 = .ok (.iaload, 1) := dk_46 (dk_at dksL_law_6 20 rfl rfl)
theorem dL_law_349 : decode cL_law 349 = .ok (.invokevirtual 167, 3) := dk_182 0 167 (dk_at dksL_law_6 21 rfl rfl)
theorem dL_law_352 : decode cL_law 352 = .ok (.istore 6, 2) := dk_54 6 (dk_at dksL_law_7 0 rfl rfl)
theorem dL_law_354 : decode cL_law 354 = .ok (.aload_n 2, 1) := dk_44 (dk_at dksL_law_7 2 rfl rfl)
theorem dL_law_355 : decode cL_law 355 = .ok (.invokevirtual 168, 3) := dk_182 0 168 (dk_at dksL_law_7 3 rfl rfl)
theorem dL_law_358 : decode cL_law 358 = .ok (.iload 5, 2) := dk_21 5 (dk_at dksL_law_7 6 rfl rfl)
theorem dL_law_360 : decode cL_law 360 = .ok (.if_icmp .eq 5, 3) := dk_159 0 5 (dk_at dksL_law_7 8 rfl rfl)
theorem dL_law_363 : decode cL_law 363 = .ok (.iconst 0, 1) := dk_3 (dk_at dksL_law_7 11 rfl rfl)
theorem dL_law_364 : decode cL_law 364 = .ok (.ireturn, 1) := dk_172 (dk_at dksL_law_7 12 rfl rfl)
theorem dL_law_365 : decode cL_law 365 = .ok (.iload 5, 2) := dk_21 5 (dk_at dksL_law_7 13 rfl rfl)
theorem dL_law_367 : decode cL_law 367 = .ok (.ifCond .ne 15, 3) := dk_154 0 15 (dk_at dksL_law_7 15 rfl rfl)
theorem dL_law_370 : decode cL_law 370 = .ok (.aload_n 3, 1) := dk_45 (dk_at dksL_law_7 18 rfl rfl)
theorem dL_law_371 : decode cL_law 371 = .ok (.iconst 0, 1) := dk_3 (dk_at dksL_law_7 19 rfl rfl)
theorem dL_law_372 : decode cL_law 372 = .ok (.laload, 1) := dk_47 (dk_at dksL_law_7 20 rfl rfl)
theorem dL_law_373 : decode cL_law 373 = .ok (.iload 6, 2) := dk_21 6 (dk_at dksL_law_7 21 rfl rfl)
theorem dL_law_375 : decode cL_law 375 = .ok (.i2l, 1) := dk_133 (dk_at dksL_law_7 23 rfl rfl)
theorem dL_law_376 : decode cL_law 376 = .ok (.lcmp, 1) := dk_148 (dk_at dksL_law_8 0 rfl rfl)
theorem dL_law_377 : decode cL_law 377 = .ok (.ifCond .eq 5, 3) := dk_153 0 5 (dk_at dksL_law_8 1 rfl rfl)
theorem dL_law_380 : decode cL_law 380 = .ok (.iconst 0, 1) := dk_3 (dk_at dksL_law_8 4 rfl rfl)
theorem dL_law_381 : decode cL_law 381 = .ok (.ireturn, 1) := dk_172 (dk_at dksL_law_8 5 rfl rfl)
theorem dL_law_382 : decode cL_law 382 = .ok (.goto 2635, 3) := dk_167 10 75 (dk_at dksL_law_8 6 rfl rfl)
theorem dL_law_385 : decode cL_law 385 = .ok (.aload_n 1, 1) := dk_43 (dk_at dksL_law_8 9 rfl rfl)
theorem dL_law_386 : decode cL_law 386 = .ok (.aload_n 0, 1) := dk_42 (dk_at dksL_law_8 10 rfl rfl)
theorem dL_law_387 : decode cL_law 387 = .ok (.iload 4, 2) := dk_21 4 (dk_at dksL_law_8 11 rfl rfl)
theorem dL_law_389 : decode cL_law 389 = .ok (.iconst 1, 1) := dk_4 (dk_at dksL_law_8 13 rfl rfl)
theorem dL_law_390 : decode cL_law 390 = .ok (.iadd, 1) := dk_96 (dk_at dksL_law_8 14 rfl rfl)
theorem dL_law_391 : decode cL_law 391 = .ok (.iaload, 1) := dk_46 (dk_at dksL_law_8 15 rfl rfl)
theorem dL_law_392 : decode cL_law 392 = .ok (.aload_n 3, 1) := dk_45 (dk_at dksL_law_8 16 rfl rfl)
theorem dL_law_393 : decode cL_law 393 = .ok (.invokestatic 171, 3) := dk_184 0 171 (dk_at dksL_law_8 17 rfl rfl)
theorem dL_law_396 : decode cL_law 396 = .ok (.istore 5, 2) := dk_54 5 (dk_at dksL_law_8 20 rfl rfl)
theorem dL_law_398 : decode cL_law 398 = .ok (.aload_n 2, 1) := dk_44 (dk_at dksL_law_8 22 rfl rfl)
theorem dL_law_399 : decode cL_law 399 = .ok (.aload_n 0, 1) := dk_42 (dk_at dksL_law_8 23 rfl rfl)
theorem dL_law_400 : decode cL_law 400 = .ok (.iload 4, 2) := dk_21 4 (dk_at dksL_law_9 0 rfl rfl)
theorem dL_law_402 : decode cL_law 402 = .ok (.iconst 1, 1) := dk_4 (dk_at dksL_law_9 2 rfl rfl)
theorem dL_law_403 : decode cL_law 403 = .ok (.iadd, 1) := dk_96 (dk_at dksL_law_9 3 rfl rfl)
theorem dL_law_404 : decode cL_law 404 = .ok (.iaload, 1) := dk_46 (dk_at dksL_law_9 4 rfl rfl)
theorem dL_law_405 : decode cL_law 405 = .ok (.invokevirtual 173, 3) := dk_182 0 173 (dk_at dksL_law_9 5 rfl rfl)
theorem dL_law_408 : decode cL_law 408 = .ok (.istore 6, 2) := dk_54 6 (dk_at dksL_law_9 8 rfl rfl)
theorem dL_law_410 : decode cL_law 410 = .ok (.aload_n 2, 1) := dk_44 (dk_at dksL_law_9 10 rfl rfl)
theorem dL_law_411 : decode cL_law 411 = .ok (.invokevirtual 168, 3) := dk_182 0 168 (dk_at dksL_law_9 11 rfl rfl)
theorem dL_law_414 : decode cL_law 414 = .ok (.iload 5, 2) := dk_21 5 (dk_at dksL_law_9 14 rfl rfl)
theorem dL_law_416 : decode cL_law 416 = .ok (.if_icmp .eq 5, 3) := dk_159 0 5 (dk_at dksL_law_9 16 rfl rfl)
theorem dL_law_419 : decode cL_law 419 = .ok (.iconst 0, 1) := dk_3 (dk_at dksL_law_9 19 rfl rfl)
theorem dL_law_420 : decode cL_law 420 = .ok (.ireturn, 1) := dk_172 (dk_at dksL_law_9 20 rfl rfl)
theorem dL_law_421 : decode cL_law 421 = .ok (.iload 5, 2) := dk_21 5 (dk_at dksL_law_9 21 rfl rfl)
theorem dL_law_423 : decode cL_law 423 = .ok (.ifCond .ne 15, 3) := dk_154 0 15 (dk_at dksL_law_10 0 rfl rfl)
theorem dL_law_426 : decode cL_law 426 = .ok (.aload_n 3, 1) := dk_45 (dk_at dksL_law_10 3 rfl rfl)
theorem dL_law_427 : decode cL_law 427 = .ok (.iconst 0, 1) := dk_3 (dk_at dksL_law_10 4 rfl rfl)
theorem dL_law_428 : decode cL_law 428 = .ok (.laload, 1) := dk_47 (dk_at dksL_law_10 5 rfl rfl)
theorem dL_law_429 : decode cL_law 429 = .ok (.iload 6, 2) := dk_21 6 (dk_at dksL_law_10 6 rfl rfl)
theorem dL_law_431 : decode cL_law 431 = .ok (.i2l, 1) := dk_133 (dk_at dksL_law_10 8 rfl rfl)
theorem dL_law_432 : decode cL_law 432 = .ok (.lcmp, 1) := dk_148 (dk_at dksL_law_10 9 rfl rfl)
theorem dL_law_433 : decode cL_law 433 = .ok (.ifCond .eq 5, 3) := dk_153 0 5 (dk_at dksL_law_10 10 rfl rfl)
theorem dL_law_436 : decode cL_law 436 = .ok (.iconst 0, 1) := dk_3 (dk_at dksL_law_10 13 rfl rfl)
theorem dL_law_437 : decode cL_law 437 = .ok (.ireturn, 1) := dk_172 (dk_at dksL_law_10 14 rfl rfl)
theorem dL_law_438 : decode cL_law 438 = .ok (.goto 2579, 3) := dk_167 10 19 (dk_at dksL_law_10 15 rfl rfl)
theorem dL_law_441 : decode cL_law 441 = .ok (.aload_n 1, 1) := dk_43 (dk_at dksL_law_10 18 rfl rfl)
theorem dL_law_442 : decode cL_law 442 = .ok (.invokevirtual 174, 3) := dk_182 0 174 (dk_at dksL_law_10 19 rfl rfl)
theorem dL_law_445 : decode cL_law 445 = .ok (.aload_n 2, 1) := dk_44 (dk_at dksL_law_10 22 rfl rfl)
theorem dL_law_446 : decode cL_law 446 = .ok (.invokevirtual 177, 3) := dk_182 0 177 (dk_at dksL_law_11 0 rfl rfl)
theorem dL_law_449 : decode cL_law 449 = .ok (.if_icmp .eq 2568, 3) := dk_159 10 8 (dk_at dksL_law_11 3 rfl rfl)
theorem dL_law_452 : decode cL_law 452 = .ok (.iconst 0, 1) := dk_3 (dk_at dksL_law_11 6 rfl rfl)
theorem dL_law_453 : decode cL_law 453 = .ok (.ireturn, 1) := dk_172 (dk_at dksL_law_11 7 rfl rfl)
theorem dL_law_454 : decode cL_law 454 = .ok (.aload_n 1, 1) := dk_43 (dk_at dksL_law_11 8 rfl rfl)
theorem dL_law_455 : decode cL_law 455 = .ok (.aload_n 0, 1) := dk_42 (dk_at dksL_law_11 9 rfl rfl)
theorem dL_law_456 : decode cL_law 456 = .ok (.iload 4, 2) := dk_21 4 (dk_at dksL_law_11 10 rfl rfl)
theorem dL_law_458 : decode cL_law 458 = .ok (.iconst 1, 1) := dk_4 (dk_at dksL_law_11 12 rfl rfl)
theorem dL_law_459 : decode cL_law 459 = .ok (.iadd, 1) := dk_96 (dk_at dksL_law_11 13 rfl rfl)
theorem dL_law_460 : decode cL_law 460 = .ok (.iaload, 1) := dk_46 (dk_at dksL_law_11 14 rfl rfl)
theorem dL_law_461 : decode cL_law 461 = .ok (.aload_n 3, 1) := dk_45 (dk_at dksL_law_11 15 rfl rfl)
theorem dL_law_462 : decode cL_law 462 = .ok (.invokestatic 178, 3) := dk_184 0 178 (dk_at dksL_law_11 16 rfl rfl)
theorem dL_law_465 : decode cL_law 465 = .ok (.istore 5, 2) := dk_54 5 (dk_at dksL_law_11 19 rfl rfl)
theorem dL_law_467 : decode cL_law 467 = .ok (.aload_n 2, 1) := dk_44 (dk_at dksL_law_11 21 rfl rfl)
theorem dL_law_468 : decode cL_law 468 = .ok (.aload_n 0, 1) := dk_42 (dk_at dksL_law_11 22 rfl rfl)
theorem dL_law_469 : decode cL_law 469 = .ok (.iload 4, 2) := dk_21 4 (dk_at dksL_law_12 0 rfl rfl)
theorem dL_law_471 : decode cL_law 471 = .ok (.iconst 1, 1) := dk_4 (dk_at dksL_law_12 2 rfl rfl)
theorem dL_law_472 : decode cL_law 472 = .ok (.iadd, 1) := dk_96 (dk_at dksL_law_12 3 rfl rfl)
theorem dL_law_473 : decode cL_law 473 = .ok (.iaload, 1) := dk_46 (dk_at dksL_law_12 4 rfl rfl)
theorem dL_law_474 : decode cL_law 474 = .ok (.invokevirtual 180, 3) := dk_182 0 180 (dk_at dksL_law_12 5 rfl rfl)
theorem dL_law_477 : decode cL_law 477 = .ok (.istore 6, 2) := dk_54 6 (dk_at dksL_law_12 8 rfl rfl)
theorem dL_law_479 : decode cL_law 479 = .ok (.aload_n 2, 1) := dk_44 (dk_at dksL_law_12 10 rfl rfl)
theorem dL_law_480 : decode cL_law 480 = .ok (.invokevirtual 168, 3) := dk_182 0 168 (dk_at dksL_law_12 11 rfl rfl)
theorem dL_law_483 : decode cL_law 483 = .ok (.iload 5, 2) := dk_21 5 (dk_at dksL_law_12 14 rfl rfl)
theorem dL_law_485 : decode cL_law 485 = .ok (.if_icmp .eq 5, 3) := dk_159 0 5 (dk_at dksL_law_12 16 rfl rfl)
theorem dL_law_488 : decode cL_law 488 = .ok (.iconst 0, 1) := dk_3 (dk_at dksL_law_12 19 rfl rfl)
theorem dL_law_489 : decode cL_law 489 = .ok (.ireturn, 1) := dk_172 (dk_at dksL_law_12 20 rfl rfl)
theorem dL_law_490 : decode cL_law 490 = .ok (.iload 5, 2) := dk_21 5 (dk_at dksL_law_12 21 rfl rfl)
theorem dL_law_492 : decode cL_law 492 = .ok (.ifCond .ne 15, 3) := dk_154 0 15 (dk_at dksL_law_13 0 rfl rfl)
theorem dL_law_495 : decode cL_law 495 = .ok (.aload_n 3, 1) := dk_45 (dk_at dksL_law_13 3 rfl rfl)
theorem dL_law_496 : decode cL_law 496 = .ok (.iconst 0, 1) := dk_3 (dk_at dksL_law_13 4 rfl rfl)
theorem dL_law_497 : decode cL_law 497 = .ok (.laload, 1) := dk_47 (dk_at dksL_law_13 5 rfl rfl)
theorem dL_law_498 : decode cL_law 498 = .ok (.iload 6, 2) := dk_21 6 (dk_at dksL_law_13 6 rfl rfl)
theorem dL_law_500 : decode cL_law 500 = .ok (.i2l, 1) := dk_133 (dk_at dksL_law_13 8 rfl rfl)
theorem dL_law_501 : decode cL_law 501 = .ok (.lcmp, 1) := dk_148 (dk_at dksL_law_13 9 rfl rfl)
theorem dL_law_502 : decode cL_law 502 = .ok (.ifCond .eq 5, 3) := dk_153 0 5 (dk_at dksL_law_13 10 rfl rfl)
theorem dL_law_505 : decode cL_law 505 = .ok (.iconst 0, 1) := dk_3 (dk_at dksL_law_13 13 rfl rfl)
theorem dL_law_506 : decode cL_law 506 = .ok (.ireturn, 1) := dk_172 (dk_at dksL_law_13 14 rfl rfl)
theorem dL_law_507 : decode cL_law 507 = .ok (.goto 2510, 3) := dk_167 9 206 (dk_at dksL_law_13 15 rfl rfl)
theorem dL_law_510 : decode cL_law 510 = .ok (.aload_n 1, 1) := dk_43 (dk_at dksL_law_13 18 rfl rfl)
theorem dL_law_511 : decode cL_law 511 = .ok (.aload_n 0, 1) := dk_42 (dk_at dksL_law_13 19 rfl rfl)
theorem dL_law_512 : decode cL_law 512 = .ok (.iload 4, 2) := dk_21 4 (dk_at dksL_law_13 20 rfl rfl)
theorem dL_law_514 : decode cL_law 514 = .ok (.iconst 1, 1) := dk_4 (dk_at dksL_law_13 22 rfl rfl)
theorem dL_law_515 : decode cL_law 515 = .ok (.iadd, 1) := dk_96 (dk_at dksL_law_13 23 rfl rfl)
theorem dL_law_516 : decode cL_law 516 = .ok (.iaload, 1) := dk_46 (dk_at dksL_law_14 0 rfl rfl)
theorem dL_law_517 : decode cL_law 517 = .ok (.aload_n 0, 1) := dk_42 (dk_at dksL_law_14 1 rfl rfl)
theorem dL_law_518 : decode cL_law 518 = .ok (.iload 4, 2) := dk_21 4 (dk_at dksL_law_14 2 rfl rfl)
theorem dL_law_520 : decode cL_law 520 = .ok (.iconst 2, 1) := dk_5 (dk_at dksL_law_14 4 rfl rfl)
theorem dL_law_521 : decode cL_law 521 = .ok (.iadd, 1) := dk_96 (dk_at dksL_law_14 5 rfl rfl)
theorem dL_law_522 : decode cL_law 522 = .ok (.iaload, 1) := dk_46 (dk_at dksL_law_14 6 rfl rfl)
theorem dL_law_523 : decode cL_law 523 = .ok (.aload_n 3, 1) := dk_45 (dk_at dksL_law_14 7 rfl rfl)
theorem dL_law_524 : decode cL_law 524 = .ok (.invokestatic 181, 3) := dk_184 0 181 (dk_at dksL_law_14 8 rfl rfl)
theorem dL_law_527 : decode cL_law 527 = .ok (.istore 5, 2) := dk_54 5 (dk_at dksL_law_14 11 rfl rfl)
theorem dL_law_529 : decode cL_law 529 = .ok (.aload_n 2, 1) := dk_44 (dk_at dksL_law_14 13 rfl rfl)
theorem dL_law_530 : decode cL_law 530 = .ok (.aload_n 0, 1) := dk_42 (dk_at dksL_law_14 14 rfl rfl)
theorem dL_law_531 : decode cL_law 531 = .ok (.iload 4, 2) := dk_21 4 (dk_at dksL_law_14 15 rfl rfl)
theorem dL_law_533 : decode cL_law 533 = .ok (.iconst 1, 1) := dk_4 (dk_at dksL_law_14 17 rfl rfl)
theorem dL_law_534 : decode cL_law 534 = .ok (.iadd, 1) := dk_96 (dk_at dksL_law_14 18 rfl rfl)
theorem dL_law_535 : decode cL_law 535 = .ok (.iaload, 1) := dk_46 (dk_at dksL_law_14 19 rfl rfl)
theorem dL_law_536 : decode cL_law 536 = .ok (.aload_n 0, 1) := dk_42 (dk_at dksL_law_14 20 rfl rfl)
theorem dL_law_537 : decode cL_law 537 = .ok (.iload 4, 2) := dk_21 4 (dk_at dksL_law_14 21 rfl rfl)
theorem dL_law_539 : decode cL_law 539 = .ok (.iconst 2, 1) := dk_5 (dk_at dksL_law_14 23 rfl rfl)
theorem dL_law_540 : decode cL_law 540 = .ok (.iadd, 1) := dk_96 (dk_at dksL_law_15 0 rfl rfl)
theorem dL_law_541 : decode cL_law 541 = .ok (.iaload, 1) := dk_46 (dk_at dksL_law_15 1 rfl rfl)
theorem dL_law_542 : decode cL_law 542 = .ok (.invokevirtual 184, 3) := dk_182 0 184 (dk_at dksL_law_15 2 rfl rfl)
theorem dL_law_545 : decode cL_law 545 = .ok (.istore 6, 2) := dk_54 6 (dk_at dksL_law_15 5 rfl rfl)
theorem dL_law_547 : decode cL_law 547 = .ok (.aload_n 2, 1) := dk_44 (dk_at dksL_law_15 7 rfl rfl)
theorem dL_law_548 : decode cL_law 548 = .ok (.invokevirtual 168, 3) := dk_182 0 168 (dk_at dksL_law_15 8 rfl rfl)
theorem dL_law_551 : decode cL_law 551 = .ok (.iload 5, 2) := dk_21 5 (dk_at dksL_law_15 11 rfl rfl)
theorem dL_law_553 : decode cL_law 553 = .ok (.if_icmp .eq 5, 3) := dk_159 0 5 (dk_at dksL_law_15 13 rfl rfl)
theorem dL_law_556 : decode cL_law 556 = .ok (.iconst 0, 1) := dk_3 (dk_at dksL_law_15 16 rfl rfl)
theorem dL_law_557 : decode cL_law 557 = .ok (.ireturn, 1) := dk_172 (dk_at dksL_law_15 17 rfl rfl)
theorem dL_law_558 : decode cL_law 558 = .ok (.iload 5, 2) := dk_21 5 (dk_at dksL_law_15 18 rfl rfl)
theorem dL_law_560 : decode cL_law 560 = .ok (.ifCond .ne 15, 3) := dk_154 0 15 (dk_at dksL_law_15 20 rfl rfl)
theorem dL_law_563 : decode cL_law 563 = .ok (.aload_n 3, 1) := dk_45 (dk_at dksL_law_15 23 rfl rfl)
theorem dL_law_564 : decode cL_law 564 = .ok (.iconst 0, 1) := dk_3 (dk_at dksL_law_16 0 rfl rfl)
theorem dL_law_565 : decode cL_law 565 = .ok (.laload, 1) := dk_47 (dk_at dksL_law_16 1 rfl rfl)
theorem dL_law_566 : decode cL_law 566 = .ok (.iload 6, 2) := dk_21 6 (dk_at dksL_law_16 2 rfl rfl)
theorem dL_law_568 : decode cL_law 568 = .ok (.i2l, 1) := dk_133 (dk_at dksL_law_16 4 rfl rfl)
theorem dL_law_569 : decode cL_law 569 = .ok (.lcmp, 1) := dk_148 (dk_at dksL_law_16 5 rfl rfl)
theorem dL_law_570 : decode cL_law 570 = .ok (.ifCond .eq 5, 3) := dk_153 0 5 (dk_at dksL_law_16 6 rfl rfl)
theorem dL_law_573 : decode cL_law 573 = .ok (.iconst 0, 1) := dk_3 (dk_at dksL_law_16 9 rfl rfl)
theorem dL_law_574 : decode cL_law 574 = .ok (.ireturn, 1) := dk_172 (dk_at dksL_law_16 10 rfl rfl)
theorem dL_law_575 : decode cL_law 575 = .ok (.goto 2442, 3) := dk_167 9 138 (dk_at dksL_law_16 11 rfl rfl)
theorem dL_law_578 : decode cL_law 578 = .ok (.aload_n 1, 1) := dk_43 (dk_at dksL_law_16 14 rfl rfl)
theorem dL_law_579 : decode cL_law 579 = .ok (.aload_n 0, 1) := dk_42 (dk_at dksL_law_16 15 rfl rfl)
theorem dL_law_580 : decode cL_law 580 = .ok (.iload 4, 2) := dk_21 4 (dk_at dksL_law_16 16 rfl rfl)
theorem dL_law_582 : decode cL_law 582 = .ok (.iconst 1, 1) := dk_4 (dk_at dksL_law_16 18 rfl rfl)
theorem dL_law_583 : decode cL_law 583 = .ok (.iadd, 1) := dk_96 (dk_at dksL_law_16 19 rfl rfl)
theorem dL_law_584 : decode cL_law 584 = .ok (.iaload, 1) := dk_46 (dk_at dksL_law_16 20 rfl rfl)
theorem dL_law_585 : decode cL_law 585 = .ok (.aload_n 0, 1) := dk_42 (dk_at dksL_law_16 21 rfl rfl)
theorem dL_law_586 : decode cL_law 586 = .ok (.iload 4, 2) := dk_21 4 (dk_at dksL_law_16 22 rfl rfl)
theorem dL_law_588 : decode cL_law 588 = .ok (.iconst 2, 1) := dk_5 (dk_at dksL_law_17 0 rfl rfl)
theorem dL_law_589 : decode cL_law 589 = .ok (.iadd, 1) := dk_96 (dk_at dksL_law_17 1 rfl rfl)
theorem dL_law_590 : decode cL_law 590 = .ok (.iaload, 1) := dk_46 (dk_at dksL_law_17 2 rfl rfl)
theorem dL_law_591 : decode cL_law 591 = .ok (.aload_n 3, 1) := dk_45 (dk_at dksL_law_17 3 rfl rfl)
theorem dL_law_592 : decode cL_law 592 = .ok (.invokestatic 185, 3) := dk_184 0 185 (dk_at dksL_law_17 4 rfl rfl)
theorem dL_law_595 : decode cL_law 595 = .ok (.istore 5, 2) := dk_54 5 (dk_at dksL_law_17 7 rfl rfl)
theorem dL_law_597 : decode cL_law 597 = .ok (.aload_n 2, 1) := dk_44 (dk_at dksL_law_17 9 rfl rfl)
theorem dL_law_598 : decode cL_law 598 = .ok (.aload_n 0, 1) := dk_42 (dk_at dksL_law_17 10 rfl rfl)
theorem dL_law_599 : decode cL_law 599 = .ok (.iload 4, 2) := dk_21 4 (dk_at dksL_law_17 11 rfl rfl)
theorem dL_law_601 : decode cL_law 601 = .ok (.iconst 1, 1) := dk_4 (dk_at dksL_law_17 13 rfl rfl)
theorem dL_law_602 : decode cL_law 602 = .ok (.iadd, 1) := dk_96 (dk_at dksL_law_17 14 rfl rfl)
theorem dL_law_603 : decode cL_law 603 = .ok (.iaload, 1) := dk_46 (dk_at dksL_law_17 15 rfl rfl)
theorem dL_law_604 : decode cL_law 604 = .ok (.aload_n 0, 1) := dk_42 (dk_at dksL_law_17 16 rfl rfl)
theorem dL_law_605 : decode cL_law 605 = .ok (.iload 4, 2) := dk_21 4 (dk_at dksL_law_17 17 rfl rfl)
theorem dL_law_607 : decode cL_law 607 = .ok (.iconst 2, 1) := dk_5 (dk_at dksL_law_17 19 rfl rfl)
theorem dL_law_608 : decode cL_law 608 = .ok (.iadd, 1) := dk_96 (dk_at dksL_law_17 20 rfl rfl)
theorem dL_law_609 : decode cL_law 609 = .ok (.iaload, 1) := dk_46 (dk_at dksL_law_17 21 rfl rfl)
theorem dL_law_610 : decode cL_law 610 = .ok (.invokevirtual 187, 3) := dk_182 0 187 (dk_at dksL_law_18 0 rfl rfl)
theorem dL_law_613 : decode cL_law 613 = .ok (.istore 6, 2) := dk_54 6 (dk_at dksL_law_18 3 rfl rfl)
theorem dL_law_615 : decode cL_law 615 = .ok (.aload_n 2, 1) := dk_44 (dk_at dksL_law_18 5 rfl rfl)
theorem dL_law_616 : decode cL_law 616 = .ok (.invokevirtual 168, 3) := dk_182 0 168 (dk_at dksL_law_18 6 rfl rfl)
theorem dL_law_619 : decode cL_law 619 = .ok (.iload 5, 2) := dk_21 5 (dk_at dksL_law_18 9 rfl rfl)
theorem dL_law_621 : decode cL_law 621 = .ok (.if_icmp .eq 5, 3) := dk_159 0 5 (dk_at dksL_law_18 11 rfl rfl)
theorem dL_law_624 : decode cL_law 624 = .ok (.iconst 0, 1) := dk_3 (dk_at dksL_law_18 14 rfl rfl)
theorem dL_law_625 : decode cL_law 625 = .ok (.ireturn, 1) := dk_172 (dk_at dksL_law_18 15 rfl rfl)
theorem dL_law_626 : decode cL_law 626 = .ok (.iload 5, 2) := dk_21 5 (dk_at dksL_law_18 16 rfl rfl)
theorem dL_law_628 : decode cL_law 628 = .ok (.ifCond .ne 15, 3) := dk_154 0 15 (dk_at dksL_law_18 18 rfl rfl)
theorem dL_law_631 : decode cL_law 631 = .ok (.aload_n 3, 1) := dk_45 (dk_at dksL_law_18 21 rfl rfl)
theorem dL_law_632 : decode cL_law 632 = .ok (.iconst 0, 1) := dk_3 (dk_at dksL_law_18 22 rfl rfl)
theorem dL_law_633 : decode cL_law 633 = .ok (.laload, 1) := dk_47 (dk_at dksL_law_18 23 rfl rfl)
theorem dL_law_634 : decode cL_law 634 = .ok (.iload 6, 2) := dk_21 6 (dk_at dksL_law_19 0 rfl rfl)
theorem dL_law_636 : decode cL_law 636 = .ok (.i2l, 1) := dk_133 (dk_at dksL_law_19 2 rfl rfl)
theorem dL_law_637 : decode cL_law 637 = .ok (.lcmp, 1) := dk_148 (dk_at dksL_law_19 3 rfl rfl)
theorem dL_law_638 : decode cL_law 638 = .ok (.ifCond .eq 5, 3) := dk_153 0 5 (dk_at dksL_law_19 4 rfl rfl)
theorem dL_law_641 : decode cL_law 641 = .ok (.iconst 0, 1) := dk_3 (dk_at dksL_law_19 7 rfl rfl)
theorem dL_law_642 : decode cL_law 642 = .ok (.ireturn, 1) := dk_172 (dk_at dksL_law_19 8 rfl rfl)
theorem dL_law_643 : decode cL_law 643 = .ok (.goto 2374, 3) := dk_167 9 70 (dk_at dksL_law_19 9 rfl rfl)
theorem dL_law_646 : decode cL_law 646 = .ok (.aload_n 1, 1) := dk_43 (dk_at dksL_law_19 12 rfl rfl)
theorem dL_law_647 : decode cL_law 647 = .ok (.aload_n 0, 1) := dk_42 (dk_at dksL_law_19 13 rfl rfl)
theorem dL_law_648 : decode cL_law 648 = .ok (.iload 4, 2) := dk_21 4 (dk_at dksL_law_19 14 rfl rfl)
theorem dL_law_650 : decode cL_law 650 = .ok (.iconst 1, 1) := dk_4 (dk_at dksL_law_19 16 rfl rfl)
theorem dL_law_651 : decode cL_law 651 = .ok (.iadd, 1) := dk_96 (dk_at dksL_law_19 17 rfl rfl)
theorem dL_law_652 : decode cL_law 652 = .ok (.iaload, 1) := dk_46 (dk_at dksL_law_19 18 rfl rfl)
theorem dL_law_653 : decode cL_law 653 = .ok (.aload_n 0, 1) := dk_42 (dk_at dksL_law_19 19 rfl rfl)
theorem dL_law_654 : decode cL_law 654 = .ok (.iload 4, 2) := dk_21 4 (dk_at dksL_law_19 20 rfl rfl)
theorem dL_law_656 : decode cL_law 656 = .ok (.iconst 2, 1) := dk_5 (dk_at dksL_law_19 22 rfl rfl)
theorem dL_law_657 : decode cL_law 657 = .ok (.iadd, 1) := dk_96 (dk_at dksL_law_19 23 rfl rfl)
theorem dL_law_658 : decode cL_law 658 = .ok (.iaload, 1) := dk_46 (dk_at dksL_law_20 0 rfl rfl)
theorem dL_law_659 : decode cL_law 659 = .ok (.aload_n 3, 1) := dk_45 (dk_at dksL_law_20 1 rfl rfl)
theorem dL_law_660 : decode cL_law 660 = .ok (.invokestatic 188, 3) := dk_184 0 188 (dk_at dksL_law_20 2 rfl rfl)
theorem dL_law_663 : decode cL_law 663 = .ok (.istore 5, 2) := dk_54 5 (dk_at dksL_law_20 5 rfl rfl)
theorem dL_law_665 : decode cL_law 665 = .ok (.aload_n 2, 1) := dk_44 (dk_at dksL_law_20 7 rfl rfl)
theorem dL_law_666 : decode cL_law 666 = .ok (.aload_n 0, 1) := dk_42 (dk_at dksL_law_20 8 rfl rfl)
theorem dL_law_667 : decode cL_law 667 = .ok (.iload 4, 2) := dk_21 4 (dk_at dksL_law_20 9 rfl rfl)
theorem dL_law_669 : decode cL_law 669 = .ok (.iconst 1, 1) := dk_4 (dk_at dksL_law_20 11 rfl rfl)
theorem dL_law_670 : decode cL_law 670 = .ok (.iadd, 1) := dk_96 (dk_at dksL_law_20 12 rfl rfl)
theorem dL_law_671 : decode cL_law 671 = .ok (.iaload, 1) := dk_46 (dk_at dksL_law_20 13 rfl rfl)
theorem dL_law_672 : decode cL_law 672 = .ok (.aload_n 0, 1) := dk_42 (dk_at dksL_law_20 14 rfl rfl)
theorem dL_law_673 : decode cL_law 673 = .ok (.iload 4, 2) := dk_21 4 (dk_at dksL_law_20 15 rfl rfl)
theorem dL_law_675 : decode cL_law 675 = .ok (.iconst 2, 1) := dk_5 (dk_at dksL_law_20 17 rfl rfl)
theorem dL_law_676 : decode cL_law 676 = .ok (.iadd, 1) := dk_96 (dk_at dksL_law_20 18 rfl rfl)
theorem dL_law_677 : decode cL_law 677 = .ok (.iaload, 1) := dk_46 (dk_at dksL_law_20 19 rfl rfl)
theorem dL_law_678 : decode cL_law 678 = .ok (.invokevirtual 190, 3) := dk_182 0 190 (dk_at dksL_law_20 20 rfl rfl)
theorem dL_law_681 : decode cL_law 681 = .ok (.istore 6, 2) := dk_54 6 (dk_at dksL_law_21 0 rfl rfl)
theorem dL_law_683 : decode cL_law 683 = .ok (.aload_n 2, 1) := dk_44 (dk_at dksL_law_21 2 rfl rfl)
theorem dL_law_684 : decode cL_law 684 = .ok (.invokevirtual 168, 3) := dk_182 0 168 (dk_at dksL_law_21 3 rfl rfl)
theorem dL_law_687 : decode cL_law 687 = .ok (.iload 5, 2) := dk_21 5 (dk_at dksL_law_21 6 rfl rfl)
theorem dL_law_689 : decode cL_law 689 = .ok (.if_icmp .eq 5, 3) := dk_159 0 5 (dk_at dksL_law_21 8 rfl rfl)
theorem dL_law_692 : decode cL_law 692 = .ok (.iconst 0, 1) := dk_3 (dk_at dksL_law_21 11 rfl rfl)
theorem dL_law_693 : decode cL_law 693 = .ok (.ireturn, 1) := dk_172 (dk_at dksL_law_21 12 rfl rfl)
theorem dL_law_694 : decode cL_law 694 = .ok (.iload 5, 2) := dk_21 5 (dk_at dksL_law_21 13 rfl rfl)
theorem dL_law_696 : decode cL_law 696 = .ok (.ifCond .ne 15, 3) := dk_154 0 15 (dk_at dksL_law_21 15 rfl rfl)
theorem dL_law_699 : decode cL_law 699 = .ok (.aload_n 3, 1) := dk_45 (dk_at dksL_law_21 18 rfl rfl)
theorem dL_law_700 : decode cL_law 700 = .ok (.iconst 0, 1) := dk_3 (dk_at dksL_law_21 19 rfl rfl)
theorem dL_law_701 : decode cL_law 701 = .ok (.laload, 1) := dk_47 (dk_at dksL_law_21 20 rfl rfl)
theorem dL_law_702 : decode cL_law 702 = .ok (.iload 6, 2) := dk_21 6 (dk_at dksL_law_21 21 rfl rfl)
theorem dL_law_704 : decode cL_law 704 = .ok (.i2l, 1) := dk_133 (dk_at dksL_law_21 23 rfl rfl)
theorem dL_law_705 : decode cL_law 705 = .ok (.lcmp, 1) := dk_148 (dk_at dksL_law_22 0 rfl rfl)
theorem dL_law_706 : decode cL_law 706 = .ok (.ifCond .eq 5, 3) := dk_153 0 5 (dk_at dksL_law_22 1 rfl rfl)
theorem dL_law_709 : decode cL_law 709 = .ok (.iconst 0, 1) := dk_3 (dk_at dksL_law_22 4 rfl rfl)
theorem dL_law_710 : decode cL_law 710 = .ok (.ireturn, 1) := dk_172 (dk_at dksL_law_22 5 rfl rfl)
theorem dL_law_711 : decode cL_law 711 = .ok (.goto 2306, 3) := dk_167 9 2 (dk_at dksL_law_22 6 rfl rfl)
theorem dL_law_714 : decode cL_law 714 = .ok (.aload_n 1, 1) := dk_43 (dk_at dksL_law_22 9 rfl rfl)
theorem dL_law_715 : decode cL_law 715 = .ok (.aload_n 0, 1) := dk_42 (dk_at dksL_law_22 10 rfl rfl)
theorem dL_law_716 : decode cL_law 716 = .ok (.iload 4, 2) := dk_21 4 (dk_at dksL_law_22 11 rfl rfl)
theorem dL_law_718 : decode cL_law 718 = .ok (.iconst 1, 1) := dk_4 (dk_at dksL_law_22 13 rfl rfl)
theorem dL_law_719 : decode cL_law 719 = .ok (.iadd, 1) := dk_96 (dk_at dksL_law_22 14 rfl rfl)
theorem dL_law_720 : decode cL_law 720 = .ok (.iaload, 1) := dk_46 (dk_at dksL_law_22 15 rfl rfl)
theorem dL_law_721 : decode cL_law 721 = .ok (.aload_n 0, 1) := dk_42 (dk_at dksL_law_22 16 rfl rfl)
theorem dL_law_722 : decode cL_law 722 = .ok (.iload 4, 2) := dk_21 4 (dk_at dksL_law_22 17 rfl rfl)
theorem dL_law_724 : decode cL_law 724 = .ok (.iconst 2, 1) := dk_5 (dk_at dksL_law_22 19 rfl rfl)
theorem dL_law_725 : decode cL_law 725 = .ok (.iadd, 1) := dk_96 (dk_at dksL_law_22 20 rfl rfl)
theorem dL_law_726 : decode cL_law 726 = .ok (.iaload, 1) := dk_46 (dk_at dksL_law_22 21 rfl rfl)
theorem dL_law_727 : decode cL_law 727 = .ok (.aload_n 3, 1) := dk_45 (dk_at dksL_law_22 22 rfl rfl)
theorem dL_law_728 : decode cL_law 728 = .ok (.invokestatic 191, 3) := dk_184 0 191 (dk_at dksL_law_23 0 rfl rfl)
theorem dL_law_731 : decode cL_law 731 = .ok (.istore 5, 2) := dk_54 5 (dk_at dksL_law_23 3 rfl rfl)
theorem dL_law_733 : decode cL_law 733 = .ok (.aload_n 2, 1) := dk_44 (dk_at dksL_law_23 5 rfl rfl)
theorem dL_law_734 : decode cL_law 734 = .ok (.aload_n 0, 1) := dk_42 (dk_at dksL_law_23 6 rfl rfl)
theorem dL_law_735 : decode cL_law 735 = .ok (.iload 4, 2) := dk_21 4 (dk_at dksL_law_23 7 rfl rfl)
theorem dL_law_737 : decode cL_law 737 = .ok (.iconst 1, 1) := dk_4 (dk_at dksL_law_23 9 rfl rfl)
theorem dL_law_738 : decode cL_law 738 = .ok (.iadd, 1) := dk_96 (dk_at dksL_law_23 10 rfl rfl)
theorem dL_law_739 : decode cL_law 739 = .ok (.iaload, 1) := dk_46 (dk_at dksL_law_23 11 rfl rfl)
theorem dL_law_740 : decode cL_law 740 = .ok (.aload_n 0, 1) := dk_42 (dk_at dksL_law_23 12 rfl rfl)
theorem dL_law_741 : decode cL_law 741 = .ok (.iload 4, 2) := dk_21 4 (dk_at dksL_law_23 13 rfl rfl)
theorem dL_law_743 : decode cL_law 743 = .ok (.iconst 2, 1) := dk_5 (dk_at dksL_law_23 15 rfl rfl)
theorem dL_law_744 : decode cL_law 744 = .ok (.iadd, 1) := dk_96 (dk_at dksL_law_23 16 rfl rfl)
theorem dL_law_745 : decode cL_law 745 = .ok (.iaload, 1) := dk_46 (dk_at dksL_law_23 17 rfl rfl)
theorem dL_law_746 : decode cL_law 746 = .ok (.invokevirtual 193, 3) := dk_182 0 193 (dk_at dksL_law_23 18 rfl rfl)
theorem dL_law_749 : decode cL_law 749 = .ok (.istore 6, 2) := dk_54 6 (dk_at dksL_law_23 21 rfl rfl)
theorem dL_law_751 : decode cL_law 751 = .ok (.aload_n 2, 1) := dk_44 (dk_at dksL_law_23 23 rfl rfl)
theorem dL_law_752 : decode cL_law 752 = .ok (.invokevirtual 168, 3) := dk_182 0 168 (dk_at dksL_law_24 0 rfl rfl)
theorem dL_law_755 : decode cL_law 755 = .ok (.iload 5, 2) := dk_21 5 (dk_at dksL_law_24 3 rfl rfl)
theorem dL_law_757 : decode cL_law 757 = .ok (.if_icmp .eq 5, 3) := dk_159 0 5 (dk_at dksL_law_24 5 rfl rfl)
theorem dL_law_760 : decode cL_law 760 = .ok (.iconst 0, 1) := dk_3 (dk_at dksL_law_24 8 rfl rfl)
theorem dL_law_761 : decode cL_law 761 = .ok (.ireturn, 1) := dk_172 (dk_at dksL_law_24 9 rfl rfl)
theorem dL_law_762 : decode cL_law 762 = .ok (.iload 5, 2) := dk_21 5 (dk_at dksL_law_24 10 rfl rfl)
theorem dL_law_764 : decode cL_law 764 = .ok (.ifCond .ne 15, 3) := dk_154 0 15 (dk_at dksL_law_24 12 rfl rfl)
theorem dL_law_767 : decode cL_law 767 = .ok (.aload_n 3, 1) := dk_45 (dk_at dksL_law_24 15 rfl rfl)
theorem dL_law_768 : decode cL_law 768 = .ok (.iconst 0, 1) := dk_3 (dk_at dksL_law_24 16 rfl rfl)
theorem dL_law_769 : decode cL_law 769 = .ok (.laload, 1) := dk_47 (dk_at dksL_law_24 17 rfl rfl)
theorem dL_law_770 : decode cL_law 770 = .ok (.iload 6, 2) := dk_21 6 (dk_at dksL_law_24 18 rfl rfl)
theorem dL_law_772 : decode cL_law 772 = .ok (.i2l, 1) := dk_133 (dk_at dksL_law_24 20 rfl rfl)
theorem dL_law_773 : decode cL_law 773 = .ok (.lcmp, 1) := dk_148 (dk_at dksL_law_24 21 rfl rfl)
theorem dL_law_774 : decode cL_law 774 = .ok (.ifCond .eq 5, 3) := dk_153 0 5 (dk_at dksL_law_25 0 rfl rfl)
theorem dL_law_777 : decode cL_law 777 = .ok (.iconst 0, 1) := dk_3 (dk_at dksL_law_25 3 rfl rfl)
theorem dL_law_778 : decode cL_law 778 = .ok (.ireturn, 1) := dk_172 (dk_at dksL_law_25 4 rfl rfl)
theorem dL_law_779 : decode cL_law 779 = .ok (.goto 2238, 3) := dk_167 8 190 (dk_at dksL_law_25 5 rfl rfl)
theorem dL_law_782 : decode cL_law 782 = .ok (.aload_n 1, 1) := dk_43 (dk_at dksL_law_25 8 rfl rfl)
theorem dL_law_783 : decode cL_law 783 = .ok (.aload_n 0, 1) := dk_42 (dk_at dksL_law_25 9 rfl rfl)
theorem dL_law_784 : decode cL_law 784 = .ok (.iload 4, 2) := dk_21 4 (dk_at dksL_law_25 10 rfl rfl)
theorem dL_law_786 : decode cL_law 786 = .ok (.iconst 1, 1) := dk_4 (dk_at dksL_law_25 12 rfl rfl)
theorem dL_law_787 : decode cL_law 787 = .ok (.iadd, 1) := dk_96 (dk_at dksL_law_25 13 rfl rfl)
theorem dL_law_788 : decode cL_law 788 = .ok (.iaload, 1) := dk_46 (dk_at dksL_law_25 14 rfl rfl)
theorem dL_law_789 : decode cL_law 789 = .ok (.aload_n 0, 1) := dk_42 (dk_at dksL_law_25 15 rfl rfl)
theorem dL_law_790 : decode cL_law 790 = .ok (.iload 4, 2) := dk_21 4 (dk_at dksL_law_25 16 rfl rfl)
theorem dL_law_792 : decode cL_law 792 = .ok (.iconst 2, 1) := dk_5 (dk_at dksL_law_25 18 rfl rfl)
theorem dL_law_793 : decode cL_law 793 = .ok (.iadd, 1) := dk_96 (dk_at dksL_law_25 19 rfl rfl)
theorem dL_law_794 : decode cL_law 794 = .ok (.iaload, 1) := dk_46 (dk_at dksL_law_25 20 rfl rfl)
theorem dL_law_795 : decode cL_law 795 = .ok (.aload_n 3, 1) := dk_45 (dk_at dksL_law_25 21 rfl rfl)
theorem dL_law_796 : decode cL_law 796 = .ok (.invokestatic 194, 3) := dk_184 0 194 (dk_at dksL_law_26 0 rfl rfl)
theorem dL_law_799 : decode cL_law 799 = .ok (.istore 5, 2) := dk_54 5 (dk_at dksL_law_26 3 rfl rfl)
theorem dL_law_801 : decode cL_law 801 = .ok (.aload_n 2, 1) := dk_44 (dk_at dksL_law_26 5 rfl rfl)
theorem dL_law_802 : decode cL_law 802 = .ok (.aload_n 0, 1) := dk_42 (dk_at dksL_law_26 6 rfl rfl)
theorem dL_law_803 : decode cL_law 803 = .ok (.iload 4, 2) := dk_21 4 (dk_at dksL_law_26 7 rfl rfl)
theorem dL_law_805 : decode cL_law 805 = .ok (.iconst 1, 1) := dk_4 (dk_at dksL_law_26 9 rfl rfl)
theorem dL_law_806 : decode cL_law 806 = .ok (.iadd, 1) := dk_96 (dk_at dksL_law_26 10 rfl rfl)
theorem dL_law_807 : decode cL_law 807 = .ok (.iaload, 1) := dk_46 (dk_at dksL_law_26 11 rfl rfl)
theorem dL_law_808 : decode cL_law 808 = .ok (.aload_n 0, 1) := dk_42 (dk_at dksL_law_26 12 rfl rfl)
theorem dL_law_809 : decode cL_law 809 = .ok (.iload 4, 2) := dk_21 4 (dk_at dksL_law_26 13 rfl rfl)
theorem dL_law_811 : decode cL_law 811 = .ok (.iconst 2, 1) := dk_5 (dk_at dksL_law_26 15 rfl rfl)
theorem dL_law_812 : decode cL_law 812 = .ok (.iadd, 1) := dk_96 (dk_at dksL_law_26 16 rfl rfl)
theorem dL_law_813 : decode cL_law 813 = .ok (.iaload, 1) := dk_46 (dk_at dksL_law_26 17 rfl rfl)
theorem dL_law_814 : decode cL_law 814 = .ok (.invokevirtual 196, 3) := dk_182 0 196 (dk_at dksL_law_26 18 rfl rfl)
theorem dL_law_817 : decode cL_law 817 = .ok (.istore 6, 2) := dk_54 6 (dk_at dksL_law_26 21 rfl rfl)
theorem dL_law_819 : decode cL_law 819 = .ok (.aload_n 2, 1) := dk_44 (dk_at dksL_law_26 23 rfl rfl)
theorem dL_law_820 : decode cL_law 820 = .ok (.invokevirtual 168, 3) := dk_182 0 168 (dk_at dksL_law_27 0 rfl rfl)
theorem dL_law_823 : decode cL_law 823 = .ok (.iload 5, 2) := dk_21 5 (dk_at dksL_law_27 3 rfl rfl)
theorem dL_law_825 : decode cL_law 825 = .ok (.if_icmp .eq 5, 3) := dk_159 0 5 (dk_at dksL_law_27 5 rfl rfl)
theorem dL_law_828 : decode cL_law 828 = .ok (.iconst 0, 1) := dk_3 (dk_at dksL_law_27 8 rfl rfl)
theorem dL_law_829 : decode cL_law 829 = .ok (.ireturn, 1) := dk_172 (dk_at dksL_law_27 9 rfl rfl)
theorem dL_law_830 : decode cL_law 830 = .ok (.iload 5, 2) := dk_21 5 (dk_at dksL_law_27 10 rfl rfl)
theorem dL_law_832 : decode cL_law 832 = .ok (.ifCond .ne 15, 3) := dk_154 0 15 (dk_at dksL_law_27 12 rfl rfl)
theorem dL_law_835 : decode cL_law 835 = .ok (.aload_n 3, 1) := dk_45 (dk_at dksL_law_27 15 rfl rfl)
theorem dL_law_836 : decode cL_law 836 = .ok (.iconst 0, 1) := dk_3 (dk_at dksL_law_27 16 rfl rfl)
theorem dL_law_837 : decode cL_law 837 = .ok (.laload, 1) := dk_47 (dk_at dksL_law_27 17 rfl rfl)
theorem dL_law_838 : decode cL_law 838 = .ok (.iload 6, 2) := dk_21 6 (dk_at dksL_law_27 18 rfl rfl)
theorem dL_law_840 : decode cL_law 840 = .ok (.i2l, 1) := dk_133 (dk_at dksL_law_27 20 rfl rfl)
theorem dL_law_841 : decode cL_law 841 = .ok (.lcmp, 1) := dk_148 (dk_at dksL_law_27 21 rfl rfl)
theorem dL_law_842 : decode cL_law 842 = .ok (.ifCond .eq 5, 3) := dk_153 0 5 (dk_at dksL_law_28 0 rfl rfl)
theorem dL_law_845 : decode cL_law 845 = .ok (.iconst 0, 1) := dk_3 (dk_at dksL_law_28 3 rfl rfl)
theorem dL_law_846 : decode cL_law 846 = .ok (.ireturn, 1) := dk_172 (dk_at dksL_law_28 4 rfl rfl)
theorem dL_law_847 : decode cL_law 847 = .ok (.goto 2170, 3) := dk_167 8 122 (dk_at dksL_law_28 5 rfl rfl)
theorem dL_law_850 : decode cL_law 850 = .ok (.aload_n 1, 1) := dk_43 (dk_at dksL_law_28 8 rfl rfl)
theorem dL_law_851 : decode cL_law 851 = .ok (.aload_n 0, 1) := dk_42 (dk_at dksL_law_28 9 rfl rfl)
theorem dL_law_852 : decode cL_law 852 = .ok (.iload 4, 2) := dk_21 4 (dk_at dksL_law_28 10 rfl rfl)
theorem dL_law_854 : decode cL_law 854 = .ok (.iconst 1, 1) := dk_4 (dk_at dksL_law_28 12 rfl rfl)
theorem dL_law_855 : decode cL_law 855 = .ok (.iadd, 1) := dk_96 (dk_at dksL_law_28 13 rfl rfl)
theorem dL_law_856 : decode cL_law 856 = .ok (.iaload, 1) := dk_46 (dk_at dksL_law_28 14 rfl rfl)
theorem dL_law_857 : decode cL_law 857 = .ok (.aload_n 3, 1) := dk_45 (dk_at dksL_law_28 15 rfl rfl)
theorem dL_law_858 : decode cL_law 858 = .ok (.invokestatic 197, 3) := dk_184 0 197 (dk_at dksL_law_28 16 rfl rfl)
theorem dL_law_861 : decode cL_law 861 = .ok (.istore 5, 2) := dk_54 5 (dk_at dksL_law_28 19 rfl rfl)
theorem dL_law_863 : decode cL_law 863 = .ok (.aload_n 2, 1) := dk_44 (dk_at dksL_law_28 21 rfl rfl)
theorem dL_law_864 : decode cL_law 864 = .ok (.aload_n 0, 1) := dk_42 (dk_at dksL_law_28 22 rfl rfl)
theorem dL_law_865 : decode cL_law 865 = .ok (.iload 4, 2) := dk_21 4 (dk_at dksL_law_29 0 rfl rfl)
theorem dL_law_867 : decode cL_law 867 = .ok (.iconst 1, 1) := dk_4 (dk_at dksL_law_29 2 rfl rfl)
theorem dL_law_868 : decode cL_law 868 = .ok (.iadd, 1) := dk_96 (dk_at dksL_law_29 3 rfl rfl)
theorem dL_law_869 : decode cL_law 869 = .ok (.iaload, 1) := dk_46 (dk_at dksL_law_29 4 rfl rfl)
theorem dL_law_870 : decode cL_law 870 = .ok (.invokevirtual 199, 3) := dk_182 0 199 (dk_at dksL_law_29 5 rfl rfl)
theorem dL_law_873 : decode cL_law 873 = .ok (.istore 6, 2) := dk_54 6 (dk_at dksL_law_29 8 rfl rfl)
theorem dL_law_875 : decode cL_law 875 = .ok (.aload_n 2, 1) := dk_44 (dk_at dksL_law_29 10 rfl rfl)
theorem dL_law_876 : decode cL_law 876 = .ok (.invokevirtual 168, 3) := dk_182 0 168 (dk_at dksL_law_29 11 rfl rfl)
theorem dL_law_879 : decode cL_law 879 = .ok (.iload 5, 2) := dk_21 5 (dk_at dksL_law_29 14 rfl rfl)
theorem dL_law_881 : decode cL_law 881 = .ok (.if_icmp .eq 5, 3) := dk_159 0 5 (dk_at dksL_law_29 16 rfl rfl)
theorem dL_law_884 : decode cL_law 884 = .ok (.iconst 0, 1) := dk_3 (dk_at dksL_law_29 19 rfl rfl)
theorem dL_law_885 : decode cL_law 885 = .ok (.ireturn, 1) := dk_172 (dk_at dksL_law_29 20 rfl rfl)
theorem dL_law_886 : decode cL_law 886 = .ok (.iload 5, 2) := dk_21 5 (dk_at dksL_law_29 21 rfl rfl)
theorem dL_law_888 : decode cL_law 888 = .ok (.ifCond .ne 15, 3) := dk_154 0 15 (dk_at dksL_law_30 0 rfl rfl)
theorem dL_law_891 : decode cL_law 891 = .ok (.aload_n 3, 1) := dk_45 (dk_at dksL_law_30 3 rfl rfl)
theorem dL_law_892 : decode cL_law 892 = .ok (.iconst 0, 1) := dk_3 (dk_at dksL_law_30 4 rfl rfl)
theorem dL_law_893 : decode cL_law 893 = .ok (.laload, 1) := dk_47 (dk_at dksL_law_30 5 rfl rfl)
theorem dL_law_894 : decode cL_law 894 = .ok (.iload 6, 2) := dk_21 6 (dk_at dksL_law_30 6 rfl rfl)
theorem dL_law_896 : decode cL_law 896 = .ok (.i2l, 1) := dk_133 (dk_at dksL_law_30 8 rfl rfl)
theorem dL_law_897 : decode cL_law 897 = .ok (.lcmp, 1) := dk_148 (dk_at dksL_law_30 9 rfl rfl)
theorem dL_law_898 : decode cL_law 898 = .ok (.ifCond .eq 5, 3) := dk_153 0 5 (dk_at dksL_law_30 10 rfl rfl)
theorem dL_law_901 : decode cL_law 901 = .ok (.iconst 0, 1) := dk_3 (dk_at dksL_law_30 13 rfl rfl)
theorem dL_law_902 : decode cL_law 902 = .ok (.ireturn, 1) := dk_172 (dk_at dksL_law_30 14 rfl rfl)
theorem dL_law_903 : decode cL_law 903 = .ok (.goto 2114, 3) := dk_167 8 66 (dk_at dksL_law_30 15 rfl rfl)
theorem dL_law_906 : decode cL_law 906 = .ok (.aload_n 1, 1) := dk_43 (dk_at dksL_law_30 18 rfl rfl)
theorem dL_law_907 : decode cL_law 907 = .ok (.aload_n 0, 1) := dk_42 (dk_at dksL_law_30 19 rfl rfl)
theorem dL_law_908 : decode cL_law 908 = .ok (.iload 4, 2) := dk_21 4 (dk_at dksL_law_30 20 rfl rfl)
theorem dL_law_910 : decode cL_law 910 = .ok (.iconst 1, 1) := dk_4 (dk_at dksL_law_30 22 rfl rfl)
theorem dL_law_911 : decode cL_law 911 = .ok (.iadd, 1) := dk_96 (dk_at dksL_law_30 23 rfl rfl)
theorem dL_law_912 : decode cL_law 912 = .ok (.iaload, 1) := dk_46 (dk_at dksL_law_31 0 rfl rfl)
theorem dL_law_913 : decode cL_law 913 = .ok (.aload_n 3, 1) := dk_45 (dk_at dksL_law_31 1 rfl rfl)
theorem dL_law_914 : decode cL_law 914 = .ok (.invokestatic 200, 3) := dk_184 0 200 (dk_at dksL_law_31 2 rfl rfl)
theorem dL_law_917 : decode cL_law 917 = .ok (.istore 5, 2) := dk_54 5 (dk_at dksL_law_31 5 rfl rfl)
theorem dL_law_919 : decode cL_law 919 = .ok (.aload_n 2, 1) := dk_44 (dk_at dksL_law_31 7 rfl rfl)
theorem dL_law_920 : decode cL_law 920 = .ok (.aload_n 0, 1) := dk_42 (dk_at dksL_law_31 8 rfl rfl)
theorem dL_law_921 : decode cL_law 921 = .ok (.iload 4, 2) := dk_21 4 (dk_at dksL_law_31 9 rfl rfl)
theorem dL_law_923 : decode cL_law 923 = .ok (.iconst 1, 1) := dk_4 (dk_at dksL_law_31 11 rfl rfl)
theorem dL_law_924 : decode cL_law 924 = .ok (.iadd, 1) := dk_96 (dk_at dksL_law_31 12 rfl rfl)
theorem dL_law_925 : decode cL_law 925 = .ok (.iaload, 1) := dk_46 (dk_at dksL_law_31 13 rfl rfl)
theorem dL_law_926 : decode cL_law 926 = .ok (.invokevirtual 202, 3) := dk_182 0 202 (dk_at dksL_law_31 14 rfl rfl)
theorem dL_law_929 : decode cL_law 929 = .ok (.istore 6, 2) := dk_54 6 (dk_at dksL_law_31 17 rfl rfl)
theorem dL_law_931 : decode cL_law 931 = .ok (.aload_n 2, 1) := dk_44 (dk_at dksL_law_31 19 rfl rfl)
theorem dL_law_932 : decode cL_law 932 = .ok (.invokevirtual 168, 3) := dk_182 0 168 (dk_at dksL_law_31 20 rfl rfl)
theorem dL_law_935 : decode cL_law 935 = .ok (.iload 5, 2) := dk_21 5 (dk_at dksL_law_32 0 rfl rfl)
theorem dL_law_937 : decode cL_law 937 = .ok (.if_icmp .eq 5, 3) := dk_159 0 5 (dk_at dksL_law_32 2 rfl rfl)
theorem dL_law_940 : decode cL_law 940 = .ok (.iconst 0, 1) := dk_3 (dk_at dksL_law_32 5 rfl rfl)
theorem dL_law_941 : decode cL_law 941 = .ok (.ireturn, 1) := dk_172 (dk_at dksL_law_32 6 rfl rfl)
theorem dL_law_942 : decode cL_law 942 = .ok (.iload 5, 2) := dk_21 5 (dk_at dksL_law_32 7 rfl rfl)
theorem dL_law_944 : decode cL_law 944 = .ok (.ifCond .ne 15, 3) := dk_154 0 15 (dk_at dksL_law_32 9 rfl rfl)
theorem dL_law_947 : decode cL_law 947 = .ok (.aload_n 3, 1) := dk_45 (dk_at dksL_law_32 12 rfl rfl)
theorem dL_law_948 : decode cL_law 948 = .ok (.iconst 0, 1) := dk_3 (dk_at dksL_law_32 13 rfl rfl)
theorem dL_law_949 : decode cL_law 949 = .ok (.laload, 1) := dk_47 (dk_at dksL_law_32 14 rfl rfl)
theorem dL_law_950 : decode cL_law 950 = .ok (.iload 6, 2) := dk_21 6 (dk_at dksL_law_32 15 rfl rfl)
theorem dL_law_952 : decode cL_law 952 = .ok (.i2l, 1) := dk_133 (dk_at dksL_law_32 17 rfl rfl)
theorem dL_law_953 : decode cL_law 953 = .ok (.lcmp, 1) := dk_148 (dk_at dksL_law_32 18 rfl rfl)
theorem dL_law_954 : decode cL_law 954 = .ok (.ifCond .eq 5, 3) := dk_153 0 5 (dk_at dksL_law_32 19 rfl rfl)
theorem dL_law_957 : decode cL_law 957 = .ok (.iconst 0, 1) := dk_3 (dk_at dksL_law_32 22 rfl rfl)
theorem dL_law_958 : decode cL_law 958 = .ok (.ireturn, 1) := dk_172 (dk_at dksL_law_32 23 rfl rfl)
theorem dL_law_959 : decode cL_law 959 = .ok (.goto 2058, 3) := dk_167 8 10 (dk_at dksL_law_33 0 rfl rfl)
theorem dL_law_962 : decode cL_law 962 = .ok (.aload_n 1, 1) := dk_43 (dk_at dksL_law_33 3 rfl rfl)
theorem dL_law_963 : decode cL_law 963 = .ok (.aload_n 0, 1) := dk_42 (dk_at dksL_law_33 4 rfl rfl)
theorem dL_law_964 : decode cL_law 964 = .ok (.iload 4, 2) := dk_21 4 (dk_at dksL_law_33 5 rfl rfl)
theorem dL_law_966 : decode cL_law 966 = .ok (.iconst 1, 1) := dk_4 (dk_at dksL_law_33 7 rfl rfl)
theorem dL_law_967 : decode cL_law 967 = .ok (.iadd, 1) := dk_96 (dk_at dksL_law_33 8 rfl rfl)
theorem dL_law_968 : decode cL_law 968 = .ok (.iaload, 1) := dk_46 (dk_at dksL_law_33 9 rfl rfl)
theorem dL_law_969 : decode cL_law 969 = .ok (.aload_n 0, 1) := dk_42 (dk_at dksL_law_33 10 rfl rfl)
theorem dL_law_970 : decode cL_law 970 = .ok (.iload 4, 2) := dk_21 4 (dk_at dksL_law_33 11 rfl rfl)
theorem dL_law_972 : decode cL_law 972 = .ok (.iconst 2, 1) := dk_5 (dk_at dksL_law_33 13 rfl rfl)
theorem dL_law_973 : decode cL_law 973 = .ok (.iadd, 1) := dk_96 (dk_at dksL_law_33 14 rfl rfl)
theorem dL_law_974 : decode cL_law 974 = .ok (.iaload, 1) := dk_46 (dk_at dksL_law_33 15 rfl rfl)
theorem dL_law_975 : decode cL_law 975 = .ok (.aload_n 0, 1) := dk_42 (dk_at dksL_law_33 16 rfl rfl)
theorem dL_law_976 : decode cL_law 976 = .ok (.iload 4, 2) := dk_21 4 (dk_at dksL_law_33 17 rfl rfl)
theorem dL_law_978 : decode cL_law 978 = .ok (.iconst 3, 1) := dk_6 (dk_at dksL_law_33 19 rfl rfl)
theorem dL_law_979 : decode cL_law 979 = .ok (.iadd, 1) := dk_96 (dk_at dksL_law_33 20 rfl rfl)
theorem dL_law_980 : decode cL_law 980 = .ok (.iaload, 1) := dk_46 (dk_at dksL_law_33 21 rfl rfl)
theorem dL_law_981 : decode cL_law 981 = .ok (.aload_n 3, 1) := dk_45 (dk_at dksL_law_33 22 rfl rfl)
theorem dL_law_982 : decode cL_law 982 = .ok (.invokestatic 203, 3) := dk_184 0 203 (dk_at dksL_law_34 0 rfl rfl)
theorem dL_law_985 : decode cL_law 985 = .ok (.istore 5, 2) := dk_54 5 (dk_at dksL_law_34 3 rfl rfl)
theorem dL_law_987 : decode cL_law 987 = .ok (.aload_n 2, 1) := dk_44 (dk_at dksL_law_34 5 rfl rfl)
theorem dL_law_988 : decode cL_law 988 = .ok (.aload_n 0, 1) := dk_42 (dk_at dksL_law_34 6 rfl rfl)
theorem dL_law_989 : decode cL_law 989 = .ok (.iload 4, 2) := dk_21 4 (dk_at dksL_law_34 7 rfl rfl)
theorem dL_law_991 : decode cL_law 991 = .ok (.iconst 1, 1) := dk_4 (dk_at dksL_law_34 9 rfl rfl)
theorem dL_law_992 : decode cL_law 992 = .ok (.iadd, 1) := dk_96 (dk_at dksL_law_34 10 rfl rfl)
theorem dL_law_993 : decode cL_law 993 = .ok (.iaload, 1) := dk_46 (dk_at dksL_law_34 11 rfl rfl)
theorem dL_law_994 : decode cL_law 994 = .ok (.aload_n 0, 1) := dk_42 (dk_at dksL_law_34 12 rfl rfl)
theorem dL_law_995 : decode cL_law 995 = .ok (.iload 4, 2) := dk_21 4 (dk_at dksL_law_34 13 rfl rfl)
theorem dL_law_997 : decode cL_law 997 = .ok (.iconst 2, 1) := dk_5 (dk_at dksL_law_34 15 rfl rfl)
theorem dL_law_998 : decode cL_law 998 = .ok (.iadd, 1) := dk_96 (dk_at dksL_law_34 16 rfl rfl)
theorem dL_law_999 : decode cL_law 999 = .ok (.iaload, 1) := dk_46 (dk_at dksL_law_34 17 rfl rfl)
theorem dL_law_1000 : decode cL_law 1000 = .ok (.aload_n 0, 1) := dk_42 (dk_at dksL_law_34 18 rfl rfl)
theorem dL_law_1001 : decode cL_law 1001 = .ok (.iload 4, 2) := dk_21 4 (dk_at dksL_law_34 19 rfl rfl)
theorem dL_law_1003 : decode cL_law 1003 = .ok (.iconst 3, 1) := dk_6 (dk_at dksL_law_34 21 rfl rfl)
theorem dL_law_1004 : decode cL_law 1004 = .ok (.iadd, 1) := dk_96 (dk_at dksL_law_34 22 rfl rfl)
theorem dL_law_1005 : decode cL_law 1005 = .ok (.iaload, 1) := dk_46 (dk_at dksL_law_34 23 rfl rfl)
theorem dL_law_1006 : decode cL_law 1006 = .ok (.invokevirtual 206, 3) := dk_182 0 206 (dk_at dksL_law_35 0 rfl rfl)
theorem dL_law_1009 : decode cL_law 1009 = .ok (.istore 6, 2) := dk_54 6 (dk_at dksL_law_35 3 rfl rfl)
theorem dL_law_1011 : decode cL_law 1011 = .ok (.aload_n 2, 1) := dk_44 (dk_at dksL_law_35 5 rfl rfl)
theorem dL_law_1012 : decode cL_law 1012 = .ok (.invokevirtual 168, 3) := dk_182 0 168 (dk_at dksL_law_35 6 rfl rfl)
theorem dL_law_1015 : decode cL_law 1015 = .ok (.iload 5, 2) := dk_21 5 (dk_at dksL_law_35 9 rfl rfl)
theorem dL_law_1017 : decode cL_law 1017 = .ok (.if_icmp .eq 5, 3) := dk_159 0 5 (dk_at dksL_law_35 11 rfl rfl)
theorem dL_law_1020 : decode cL_law 1020 = .ok (.iconst 0, 1) := dk_3 (dk_at dksL_law_35 14 rfl rfl)
theorem dL_law_1021 : decode cL_law 1021 = .ok (.ireturn, 1) := dk_172 (dk_at dksL_law_35 15 rfl rfl)
theorem dL_law_1022 : decode cL_law 1022 = .ok (.iload 5, 2) := dk_21 5 (dk_at dksL_law_35 16 rfl rfl)
theorem dL_law_1024 : decode cL_law 1024 = .ok (.ifCond .ne 15, 3) := dk_154 0 15 (dk_at dksL_law_35 18 rfl rfl)
theorem dL_law_1027 : decode cL_law 1027 = .ok (.aload_n 3, 1) := dk_45 (dk_at dksL_law_35 21 rfl rfl)
theorem dL_law_1028 : decode cL_law 1028 = .ok (.iconst 0, 1) := dk_3 (dk_at dksL_law_35 22 rfl rfl)
theorem dL_law_1029 : decode cL_law 1029 = .ok (.laload, 1) := dk_47 (dk_at dksL_law_35 23 rfl rfl)
theorem dL_law_1030 : decode cL_law 1030 = .ok (.iload 6, 2) := dk_21 6 (dk_at dksL_law_36 0 rfl rfl)
theorem dL_law_1032 : decode cL_law 1032 = .ok (.i2l, 1) := dk_133 (dk_at dksL_law_36 2 rfl rfl)
theorem dL_law_1033 : decode cL_law 1033 = .ok (.lcmp, 1) := dk_148 (dk_at dksL_law_36 3 rfl rfl)
theorem dL_law_1034 : decode cL_law 1034 = .ok (.ifCond .eq 5, 3) := dk_153 0 5 (dk_at dksL_law_36 4 rfl rfl)
theorem dL_law_1037 : decode cL_law 1037 = .ok (.iconst 0, 1) := dk_3 (dk_at dksL_law_36 7 rfl rfl)
theorem dL_law_1038 : decode cL_law 1038 = .ok (.ireturn, 1) := dk_172 (dk_at dksL_law_36 8 rfl rfl)
theorem dL_law_1039 : decode cL_law 1039 = .ok (.goto 1978, 3) := dk_167 7 186 (dk_at dksL_law_36 9 rfl rfl)
theorem dL_law_1042 : decode cL_law 1042 = .ok (.aload_n 1, 1) := dk_43 (dk_at dksL_law_36 12 rfl rfl)
theorem dL_law_1043 : decode cL_law 1043 = .ok (.aload_n 0, 1) := dk_42 (dk_at dksL_law_36 13 rfl rfl)
theorem dL_law_1044 : decode cL_law 1044 = .ok (.iload 4, 2) := dk_21 4 (dk_at dksL_law_36 14 rfl rfl)
theorem dL_law_1046 : decode cL_law 1046 = .ok (.iconst 1, 1) := dk_4 (dk_at dksL_law_36 16 rfl rfl)
theorem dL_law_1047 : decode cL_law 1047 = .ok (.iadd, 1) := dk_96 (dk_at dksL_law_36 17 rfl rfl)
theorem dL_law_1048 : decode cL_law 1048 = .ok (.iaload, 1) := dk_46 (dk_at dksL_law_36 18 rfl rfl)
theorem dL_law_1049 : decode cL_law 1049 = .ok (.aload_n 0, 1) := dk_42 (dk_at dksL_law_36 19 rfl rfl)
theorem dL_law_1050 : decode cL_law 1050 = .ok (.iload 4, 2) := dk_21 4 (dk_at dksL_law_36 20 rfl rfl)
theorem dL_law_1052 : decode cL_law 1052 = .ok (.iconst 2, 1) := dk_5 (dk_at dksL_law_36 22 rfl rfl)
theorem dL_law_1053 : decode cL_law 1053 = .ok (.iadd, 1) := dk_96 (dk_at dksL_law_36 23 rfl rfl)
theorem dL_law_1054 : decode cL_law 1054 = .ok (.iaload, 1) := dk_46 (dk_at dksL_law_37 0 rfl rfl)
theorem dL_law_1055 : decode cL_law 1055 = .ok (.aload_n 0, 1) := dk_42 (dk_at dksL_law_37 1 rfl rfl)
theorem dL_law_1056 : decode cL_law 1056 = .ok (.iload 4, 2) := dk_21 4 (dk_at dksL_law_37 2 rfl rfl)
theorem dL_law_1058 : decode cL_law 1058 = .ok (.iconst 3, 1) := dk_6 (dk_at dksL_law_37 4 rfl rfl)
theorem dL_law_1059 : decode cL_law 1059 = .ok (.iadd, 1) := dk_96 (dk_at dksL_law_37 5 rfl rfl)
theorem dL_law_1060 : decode cL_law 1060 = .ok (.iaload, 1) := dk_46 (dk_at dksL_law_37 6 rfl rfl)
theorem dL_law_1061 : decode cL_law 1061 = .ok (.aload_n 3, 1) := dk_45 (dk_at dksL_law_37 7 rfl rfl)
theorem dL_law_1062 : decode cL_law 1062 = .ok (.invokestatic 207, 3) := dk_184 0 207 (dk_at dksL_law_37 8 rfl rfl)
theorem dL_law_1065 : decode cL_law 1065 = .ok (.istore 5, 2) := dk_54 5 (dk_at dksL_law_37 11 rfl rfl)
theorem dL_law_1067 : decode cL_law 1067 = .ok (.aload_n 2, 1) := dk_44 (dk_at dksL_law_37 13 rfl rfl)
theorem dL_law_1068 : decode cL_law 1068 = .ok (.aload_n 0, 1) := dk_42 (dk_at dksL_law_37 14 rfl rfl)
theorem dL_law_1069 : decode cL_law 1069 = .ok (.iload 4, 2) := dk_21 4 (dk_at dksL_law_37 15 rfl rfl)
theorem dL_law_1071 : decode cL_law 1071 = .ok (.iconst 1, 1) := dk_4 (dk_at dksL_law_37 17 rfl rfl)
theorem dL_law_1072 : decode cL_law 1072 = .ok (.iadd, 1) := dk_96 (dk_at dksL_law_37 18 rfl rfl)
theorem dL_law_1073 : decode cL_law 1073 = .ok (.iaload, 1) := dk_46 (dk_at dksL_law_37 19 rfl rfl)
theorem dL_law_1074 : decode cL_law 1074 = .ok (.aload_n 0, 1) := dk_42 (dk_at dksL_law_37 20 rfl rfl)
theorem dL_law_1075 : decode cL_law 1075 = .ok (.iload 4, 2) := dk_21 4 (dk_at dksL_law_37 21 rfl rfl)
theorem dL_law_1077 : decode cL_law 1077 = .ok (.iconst 2, 1) := dk_5 (dk_at dksL_law_37 23 rfl rfl)
theorem dL_law_1078 : decode cL_law 1078 = .ok (.iadd, 1) := dk_96 (dk_at dksL_law_38 0 rfl rfl)
theorem dL_law_1079 : decode cL_law 1079 = .ok (.iaload, 1) := dk_46 (dk_at dksL_law_38 1 rfl rfl)
theorem dL_law_1080 : decode cL_law 1080 = .ok (.aload_n 0, 1) := dk_42 (dk_at dksL_law_38 2 rfl rfl)
theorem dL_law_1081 : decode cL_law 1081 = .ok (.iload 4, 2) := dk_21 4 (dk_at dksL_law_38 3 rfl rfl)
theorem dL_law_1083 : decode cL_law 1083 = .ok (.iconst 3, 1) := dk_6 (dk_at dksL_law_38 5 rfl rfl)
theorem dL_law_1084 : decode cL_law 1084 = .ok (.iadd, 1) := dk_96 (dk_at dksL_law_38 6 rfl rfl)
theorem dL_law_1085 : decode cL_law 1085 = .ok (.iaload, 1) := dk_46 (dk_at dksL_law_38 7 rfl rfl)
theorem dL_law_1086 : decode cL_law 1086 = .ok (.invokevirtual 209, 3) := dk_182 0 209 (dk_at dksL_law_38 8 rfl rfl)
theorem dL_law_1089 : decode cL_law 1089 = .ok (.istore 6, 2) := dk_54 6 (dk_at dksL_law_38 11 rfl rfl)
theorem dL_law_1091 : decode cL_law 1091 = .ok (.aload_n 2, 1) := dk_44 (dk_at dksL_law_38 13 rfl rfl)
theorem dL_law_1092 : decode cL_law 1092 = .ok (.invokevirtual 168, 3) := dk_182 0 168 (dk_at dksL_law_38 14 rfl rfl)
theorem dL_law_1095 : decode cL_law 1095 = .ok (.iload 5, 2) := dk_21 5 (dk_at dksL_law_38 17 rfl rfl)
theorem dL_law_1097 : decode cL_law 1097 = .ok (.if_icmp .eq 5, 3) := dk_159 0 5 (dk_at dksL_law_38 19 rfl rfl)
theorem dL_law_1100 : decode cL_law 1100 = .ok (.iconst 0, 1) := dk_3 (dk_at dksL_law_38 22 rfl rfl)
theorem dL_law_1101 : decode cL_law 1101 = .ok (.ireturn, 1) := dk_172 (dk_at dksL_law_38 23 rfl rfl)
theorem dL_law_1102 : decode cL_law 1102 = .ok (.iload 5, 2) := dk_21 5 (dk_at dksL_law_39 0 rfl rfl)
theorem dL_law_1104 : decode cL_law 1104 = .ok (.ifCond .ne 15, 3) := dk_154 0 15 (dk_at dksL_law_39 2 rfl rfl)
theorem dL_law_1107 : decode cL_law 1107 = .ok (.aload_n 3, 1) := dk_45 (dk_at dksL_law_39 5 rfl rfl)
theorem dL_law_1108 : decode cL_law 1108 = .ok (.iconst 0, 1) := dk_3 (dk_at dksL_law_39 6 rfl rfl)
theorem dL_law_1109 : decode cL_law 1109 = .ok (.laload, 1) := dk_47 (dk_at dksL_law_39 7 rfl rfl)
theorem dL_law_1110 : decode cL_law 1110 = .ok (.iload 6, 2) := dk_21 6 (dk_at dksL_law_39 8 rfl rfl)
theorem dL_law_1112 : decode cL_law 1112 = .ok (.i2l, 1) := dk_133 (dk_at dksL_law_39 10 rfl rfl)
theorem dL_law_1113 : decode cL_law 1113 = .ok (.lcmp, 1) := dk_148 (dk_at dksL_law_39 11 rfl rfl)
theorem dL_law_1114 : decode cL_law 1114 = .ok (.ifCond .eq 5, 3) := dk_153 0 5 (dk_at dksL_law_39 12 rfl rfl)
theorem dL_law_1117 : decode cL_law 1117 = .ok (.iconst 0, 1) := dk_3 (dk_at dksL_law_39 15 rfl rfl)
theorem dL_law_1118 : decode cL_law 1118 = .ok (.ireturn, 1) := dk_172 (dk_at dksL_law_39 16 rfl rfl)
theorem dL_law_1119 : decode cL_law 1119 = .ok (.goto 1898, 3) := dk_167 7 106 (dk_at dksL_law_39 17 rfl rfl)
theorem dL_law_1122 : decode cL_law 1122 = .ok (.aload_n 1, 1) := dk_43 (dk_at dksL_law_39 20 rfl rfl)
theorem dL_law_1123 : decode cL_law 1123 = .ok (.aload_n 0, 1) := dk_42 (dk_at dksL_law_39 21 rfl rfl)
theorem dL_law_1124 : decode cL_law 1124 = .ok (.iload 4, 2) := dk_21 4 (dk_at dksL_law_39 22 rfl rfl)
theorem dL_law_1126 : decode cL_law 1126 = .ok (.iconst 1, 1) := dk_4 (dk_at dksL_law_40 0 rfl rfl)
theorem dL_law_1127 : decode cL_law 1127 = .ok (.iadd, 1) := dk_96 (dk_at dksL_law_40 1 rfl rfl)
theorem dL_law_1128 : decode cL_law 1128 = .ok (.iaload, 1) := dk_46 (dk_at dksL_law_40 2 rfl rfl)
theorem dL_law_1129 : decode cL_law 1129 = .ok (.aload_n 0, 1) := dk_42 (dk_at dksL_law_40 3 rfl rfl)
theorem dL_law_1130 : decode cL_law 1130 = .ok (.iload 4, 2) := dk_21 4 (dk_at dksL_law_40 4 rfl rfl)
theorem dL_law_1132 : decode cL_law 1132 = .ok (.iconst 2, 1) := dk_5 (dk_at dksL_law_40 6 rfl rfl)
theorem dL_law_1133 : decode cL_law 1133 = .ok (.iadd, 1) := dk_96 (dk_at dksL_law_40 7 rfl rfl)
theorem dL_law_1134 : decode cL_law 1134 = .ok (.iaload, 1) := dk_46 (dk_at dksL_law_40 8 rfl rfl)
theorem dL_law_1135 : decode cL_law 1135 = .ok (.aload_n 0, 1) := dk_42 (dk_at dksL_law_40 9 rfl rfl)
theorem dL_law_1136 : decode cL_law 1136 = .ok (.iload 4, 2) := dk_21 4 (dk_at dksL_law_40 10 rfl rfl)
theorem dL_law_1138 : decode cL_law 1138 = .ok (.iconst 3, 1) := dk_6 (dk_at dksL_law_40 12 rfl rfl)
theorem dL_law_1139 : decode cL_law 1139 = .ok (.iadd, 1) := dk_96 (dk_at dksL_law_40 13 rfl rfl)
theorem dL_law_1140 : decode cL_law 1140 = .ok (.iaload, 1) := dk_46 (dk_at dksL_law_40 14 rfl rfl)
theorem dL_law_1141 : decode cL_law 1141 = .ok (.aload_n 0, 1) := dk_42 (dk_at dksL_law_40 15 rfl rfl)
theorem dL_law_1142 : decode cL_law 1142 = .ok (.iload 4, 2) := dk_21 4 (dk_at dksL_law_40 16 rfl rfl)
theorem dL_law_1144 : decode cL_law 1144 = .ok (.iconst 4, 1) := dk_7 (dk_at dksL_law_40 18 rfl rfl)
theorem dL_law_1145 : decode cL_law 1145 = .ok (.iadd, 1) := dk_96 (dk_at dksL_law_40 19 rfl rfl)
theorem dL_law_1146 : decode cL_law 1146 = .ok (.iaload, 1) := dk_46 (dk_at dksL_law_40 20 rfl rfl)
theorem dL_law_1147 : decode cL_law 1147 = .ok (.aload_n 3, 1) := dk_45 (dk_at dksL_law_40 21 rfl rfl)
theorem dL_law_1148 : decode cL_law 1148 = .ok (.invokestatic 210, 3) := dk_184 0 210 (dk_at dksL_law_41 0 rfl rfl)
theorem dL_law_1151 : decode cL_law 1151 = .ok (.istore 5, 2) := dk_54 5 (dk_at dksL_law_41 3 rfl rfl)
theorem dL_law_1153 : decode cL_law 1153 = .ok (.aload_n 2, 1) := dk_44 (dk_at dksL_law_41 5 rfl rfl)
theorem dL_law_1154 : decode cL_law 1154 = .ok (.aload_n 0, 1) := dk_42 (dk_at dksL_law_41 6 rfl rfl)
theorem dL_law_1155 : decode cL_law 1155 = .ok (.iload 4, 2) := dk_21 4 (dk_at dksL_law_41 7 rfl rfl)
theorem dL_law_1157 : decode cL_law 1157 = .ok (.iconst 1, 1) := dk_4 (dk_at dksL_law_41 9 rfl rfl)
theorem dL_law_1158 : decode cL_law 1158 = .ok (.iadd, 1) := dk_96 (dk_at dksL_law_41 10 rfl rfl)
theorem dL_law_1159 : decode cL_law 1159 = .ok (.iaload, 1) := dk_46 (dk_at dksL_law_41 11 rfl rfl)
theorem dL_law_1160 : decode cL_law 1160 = .ok (.aload_n 0, 1) := dk_42 (dk_at dksL_law_41 12 rfl rfl)
theorem dL_law_1161 : decode cL_law 1161 = .ok (.iload 4, 2) := dk_21 4 (dk_at dksL_law_41 13 rfl rfl)
theorem dL_law_1163 : decode cL_law 1163 = .ok (.iconst 2, 1) := dk_5 (dk_at dksL_law_41 15 rfl rfl)
theorem dL_law_1164 : decode cL_law 1164 = .ok (.iadd, 1) := dk_96 (dk_at dksL_law_41 16 rfl rfl)
theorem dL_law_1165 : decode cL_law 1165 = .ok (.iaload, 1) := dk_46 (dk_at dksL_law_41 17 rfl rfl)
theorem dL_law_1166 : decode cL_law 1166 = .ok (.aload_n 0, 1) := dk_42 (dk_at dksL_law_41 18 rfl rfl)
theorem dL_law_1167 : decode cL_law 1167 = .ok (.iload 4, 2) := dk_21 4 (dk_at dksL_law_41 19 rfl rfl)
theorem dL_law_1169 : decode cL_law 1169 = .ok (.iconst 3, 1) := dk_6 (dk_at dksL_law_41 21 rfl rfl)
theorem dL_law_1170 : decode cL_law 1170 = .ok (.iadd, 1) := dk_96 (dk_at dksL_law_41 22 rfl rfl)
theorem dL_law_1171 : decode cL_law 1171 = .ok (.iaload, 1) := dk_46 (dk_at dksL_law_41 23 rfl rfl)
theorem dL_law_1172 : decode cL_law 1172 = .ok (.aload_n 0, 1) := dk_42 (dk_at dksL_law_42 0 rfl rfl)
theorem dL_law_1173 : decode cL_law 1173 = .ok (.iload 4, 2) := dk_21 4 (dk_at dksL_law_42 1 rfl rfl)
theorem dL_law_1175 : decode cL_law 1175 = .ok (.iconst 4, 1) := dk_7 (dk_at dksL_law_42 3 rfl rfl)
theorem dL_law_1176 : decode cL_law 1176 = .ok (.iadd, 1) := dk_96 (dk_at dksL_law_42 4 rfl rfl)
theorem dL_law_1177 : decode cL_law 1177 = .ok (.iaload, 1) := dk_46 (dk_at dksL_law_42 5 rfl rfl)
theorem dL_law_1178 : decode cL_law 1178 = .ok (.invokevirtual 213, 3) := dk_182 0 213 (dk_at dksL_law_42 6 rfl rfl)
theorem dL_law_1181 : decode cL_law 1181 = .ok (.lstore 6, 2) := dk_55 6 (dk_at dksL_law_42 9 rfl rfl)
theorem dL_law_1183 : decode cL_law 1183 = .ok (.aload_n 2, 1) := dk_44 (dk_at dksL_law_42 11 rfl rfl)
theorem dL_law_1184 : decode cL_law 1184 = .ok (.invokevirtual 168, 3) := dk_182 0 168 (dk_at dksL_law_42 12 rfl rfl)
theorem dL_law_1187 : decode cL_law 1187 = .ok (.iload 5, 2) := dk_21 5 (dk_at dksL_law_42 15 rfl rfl)
theorem dL_law_1189 : decode cL_law 1189 = .ok (.if_icmp .eq 5, 3) := dk_159 0 5 (dk_at dksL_law_42 17 rfl rfl)
theorem dL_law_1192 : decode cL_law 1192 = .ok (.iconst 0, 1) := dk_3 (dk_at dksL_law_42 20 rfl rfl)
theorem dL_law_1193 : decode cL_law 1193 = .ok (.ireturn, 1) := dk_172 (dk_at dksL_law_42 21 rfl rfl)
theorem dL_law_1194 : decode cL_law 1194 = .ok (.iload 5, 2) := dk_21 5 (dk_at dksL_law_42 22 rfl rfl)
theorem dL_law_1196 : decode cL_law 1196 = .ok (.ifCond .ne 14, 3) := dk_154 0 14 (dk_at dksL_law_43 0 rfl rfl)
theorem dL_law_1199 : decode cL_law 1199 = .ok (.aload_n 3, 1) := dk_45 (dk_at dksL_law_43 3 rfl rfl)
theorem dL_law_1200 : decode cL_law 1200 = .ok (.iconst 0, 1) := dk_3 (dk_at dksL_law_43 4 rfl rfl)
theorem dL_law_1201 : decode cL_law 1201 = .ok (.laload, 1) := dk_47 (dk_at dksL_law_43 5 rfl rfl)
theorem dL_law_1202 : decode cL_law 1202 = .ok (.lload 6, 2) := dk_22 6 (dk_at dksL_law_43 6 rfl rfl)
theorem dL_law_1204 : decode cL_law 1204 = .ok (.lcmp, 1) := dk_148 (dk_at dksL_law_43 8 rfl rfl)
theorem dL_law_1205 : decode cL_law 1205 = .ok (.ifCond .eq 5, 3) := dk_153 0 5 (dk_at dksL_law_43 9 rfl rfl)
theorem dL_law_1208 : decode cL_law 1208 = .ok (.iconst 0, 1) := dk_3 (dk_at dksL_law_43 12 rfl rfl)
theorem dL_law_1209 : decode cL_law 1209 = .ok (.ireturn, 1) := dk_172 (dk_at dksL_law_43 13 rfl rfl)
theorem dL_law_1210 : decode cL_law 1210 = .ok (.goto 1807, 3) := dk_167 7 15 (dk_at dksL_law_43 14 rfl rfl)
theorem dL_law_1213 : decode cL_law 1213 = .ok (.aload_n 1, 1) := dk_43 (dk_at dksL_law_43 17 rfl rfl)
theorem dL_law_1214 : decode cL_law 1214 = .ok (.aload_n 0, 1) := dk_42 (dk_at dksL_law_43 18 rfl rfl)
theorem dL_law_1215 : decode cL_law 1215 = .ok (.iload 4, 2) := dk_21 4 (dk_at dksL_law_43 19 rfl rfl)
theorem dL_law_1217 : decode cL_law 1217 = .ok (.iconst 1, 1) := dk_4 (dk_at dksL_law_43 21 rfl rfl)
theorem dL_law_1218 : decode cL_law 1218 = .ok (.iadd, 1) := dk_96 (dk_at dksL_law_43 22 rfl rfl)
theorem dL_law_1219 : decode cL_law 1219 = .ok (.iaload, 1) := dk_46 (dk_at dksL_law_43 23 rfl rfl)
theorem dL_law_1220 : decode cL_law 1220 = .ok (.aload_n 3, 1) := dk_45 (dk_at dksL_law_44 0 rfl rfl)
theorem dL_law_1221 : decode cL_law 1221 = .ok (.invokestatic 214, 3) := dk_184 0 214 (dk_at dksL_law_44 1 rfl rfl)
theorem dL_law_1224 : decode cL_law 1224 = .ok (.istore 5, 2) := dk_54 5 (dk_at dksL_law_44 4 rfl rfl)
theorem dL_law_1226 : decode cL_law 1226 = .ok (.aload_n 2, 1) := dk_44 (dk_at dksL_law_44 6 rfl rfl)
theorem dL_law_1227 : decode cL_law 1227 = .ok (.aload_n 0, 1) := dk_42 (dk_at dksL_law_44 7 rfl rfl)
theorem dL_law_1228 : decode cL_law 1228 = .ok (.iload 4, 2) := dk_21 4 (dk_at dksL_law_44 8 rfl rfl)
theorem dL_law_1230 : decode cL_law 1230 = .ok (.iconst 1, 1) := dk_4 (dk_at dksL_law_44 10 rfl rfl)
theorem dL_law_1231 : decode cL_law 1231 = .ok (.iadd, 1) := dk_96 (dk_at dksL_law_44 11 rfl rfl)
theorem dL_law_1232 : decode cL_law 1232 = .ok (.iaload, 1) := dk_46 (dk_at dksL_law_44 12 rfl rfl)
theorem dL_law_1233 : decode cL_law 1233 = .ok (.invokevirtual 216, 3) := dk_182 0 216 (dk_at dksL_law_44 13 rfl rfl)
theorem dL_law_1236 : decode cL_law 1236 = .ok (.lstore 6, 2) := dk_55 6 (dk_at dksL_law_44 16 rfl rfl)
theorem dL_law_1238 : decode cL_law 1238 = .ok (.aload_n 2, 1) := dk_44 (dk_at dksL_law_44 18 rfl rfl)
theorem dL_law_1239 : decode cL_law 1239 = .ok (.invokevirtual 168, 3) := dk_182 0 168 (dk_at dksL_law_44 19 rfl rfl)
theorem dL_law_1242 : decode cL_law 1242 = .ok (.iload 5, 2) := dk_21 5 (dk_at dksL_law_44 22 rfl rfl)
theorem dL_law_1244 : decode cL_law 1244 = .ok (.if_icmp .eq 5, 3) := dk_159 0 5 (dk_at dksL_law_45 0 rfl rfl)
theorem dL_law_1247 : decode cL_law 1247 = .ok (.iconst 0, 1) := dk_3 (dk_at dksL_law_45 3 rfl rfl)
theorem dL_law_1248 : decode cL_law 1248 = .ok (.ireturn, 1) := dk_172 (dk_at dksL_law_45 4 rfl rfl)
theorem dL_law_1249 : decode cL_law 1249 = .ok (.iload 5, 2) := dk_21 5 (dk_at dksL_law_45 5 rfl rfl)
theorem dL_law_1251 : decode cL_law 1251 = .ok (.ifCond .ne 14, 3) := dk_154 0 14 (dk_at dksL_law_45 7 rfl rfl)
theorem dL_law_1254 : decode cL_law 1254 = .ok (.aload_n 3, 1) := dk_45 (dk_at dksL_law_45 10 rfl rfl)
theorem dL_law_1255 : decode cL_law 1255 = .ok (.iconst 0, 1) := dk_3 (dk_at dksL_law_45 11 rfl rfl)
theorem dL_law_1256 : decode cL_law 1256 = .ok (.laload, 1) := dk_47 (dk_at dksL_law_45 12 rfl rfl)
theorem dL_law_1257 : decode cL_law 1257 = .ok (.lload 6, 2) := dk_22 6 (dk_at dksL_law_45 13 rfl rfl)
theorem dL_law_1259 : decode cL_law 1259 = .ok (.lcmp, 1) := dk_148 (dk_at dksL_law_45 15 rfl rfl)
theorem dL_law_1260 : decode cL_law 1260 = .ok (.ifCond .eq 5, 3) := dk_153 0 5 (dk_at dksL_law_45 16 rfl rfl)
theorem dL_law_1263 : decode cL_law 1263 = .ok (.iconst 0, 1) := dk_3 (dk_at dksL_law_45 19 rfl rfl)
theorem dL_law_1264 : decode cL_law 1264 = .ok (.ireturn, 1) := dk_172 (dk_at dksL_law_45 20 rfl rfl)
theorem dL_law_1265 : decode cL_law 1265 = .ok (.goto 1752, 3) := dk_167 6 216 (dk_at dksL_law_45 21 rfl rfl)
theorem dL_law_1268 : decode cL_law 1268 = .ok (.aload_n 1, 1) := dk_43 (dk_at dksL_law_46 0 rfl rfl)
theorem dL_law_1269 : decode cL_law 1269 = .ok (.aload_n 3, 1) := dk_45 (dk_at dksL_law_46 1 rfl rfl)
theorem dL_law_1270 : decode cL_law 1270 = .ok (.invokestatic 217, 3) := dk_184 0 217 (dk_at dksL_law_46 2 rfl rfl)
theorem dL_law_1273 : decode cL_law 1273 = .ok (.istore 5, 2) := dk_54 5 (dk_at dksL_law_46 5 rfl rfl)
theorem dL_law_1275 : decode cL_law 1275 = .ok (.aload_n 2, 1) := dk_44 (dk_at dksL_law_46 7 rfl rfl)
theorem dL_law_1276 : decode cL_law 1276 = .ok (.invokevirtual 220, 3) := dk_182 0 220 (dk_at dksL_law_46 8 rfl rfl)
theorem dL_law_1279 : decode cL_law 1279 = .ok (.lstore 6, 2) := dk_55 6 (dk_at dksL_law_46 11 rfl rfl)
theorem dL_law_1281 : decode cL_law 1281 = .ok (.aload_n 2, 1) := dk_44 (dk_at dksL_law_46 13 rfl rfl)
theorem dL_law_1282 : decode cL_law 1282 = .ok (.invokevirtual 168, 3) := dk_182 0 168 (dk_at dksL_law_46 14 rfl rfl)
theorem dL_law_1285 : decode cL_law 1285 = .ok (.iload 5, 2) := dk_21 5 (dk_at dksL_law_46 17 rfl rfl)
theorem dL_law_1287 : decode cL_law 1287 = .ok (.if_icmp .eq 5, 3) := dk_159 0 5 (dk_at dksL_law_46 19 rfl rfl)
theorem dL_law_1290 : decode cL_law 1290 = .ok (.iconst 0, 1) := dk_3 (dk_at dksL_law_46 22 rfl rfl)
theorem dL_law_1291 : decode cL_law 1291 = .ok (.ireturn, 1) := dk_172 (dk_at dksL_law_46 23 rfl rfl)
theorem dL_law_1292 : decode cL_law 1292 = .ok (.iload 5, 2) := dk_21 5 (dk_at dksL_law_47 0 rfl rfl)
theorem dL_law_1294 : decode cL_law 1294 = .ok (.ifCond .ne 14, 3) := dk_154 0 14 (dk_at dksL_law_47 2 rfl rfl)
theorem dL_law_1297 : decode cL_law 1297 = .ok (.aload_n 3, 1) := dk_45 (dk_at dksL_law_47 5 rfl rfl)
theorem dL_law_1298 : decode cL_law 1298 = .ok (.iconst 0, 1) := dk_3 (dk_at dksL_law_47 6 rfl rfl)
theorem dL_law_1299 : decode cL_law 1299 = .ok (.laload, 1) := dk_47 (dk_at dksL_law_47 7 rfl rfl)
theorem dL_law_1300 : decode cL_law 1300 = .ok (.lload 6, 2) := dk_22 6 (dk_at dksL_law_47 8 rfl rfl)
theorem dL_law_1302 : decode cL_law 1302 = .ok (.lcmp, 1) := dk_148 (dk_at dksL_law_47 10 rfl rfl)
theorem dL_law_1303 : decode cL_law 1303 = .ok (.ifCond .eq 5, 3) := dk_153 0 5 (dk_at dksL_law_47 11 rfl rfl)
theorem dL_law_1306 : decode cL_law 1306 = .ok (.iconst 0, 1) := dk_3 (dk_at dksL_law_47 14 rfl rfl)
theorem dL_law_1307 : decode cL_law 1307 = .ok (.ireturn, 1) := dk_172 (dk_at dksL_law_47 15 rfl rfl)
theorem dL_law_1308 : decode cL_law 1308 = .ok (.goto 1709, 3) := dk_167 6 173 (dk_at dksL_law_47 16 rfl rfl)
theorem dL_law_1311 : decode cL_law 1311 = .ok (.aload_n 1, 1) := dk_43 (dk_at dksL_law_47 19 rfl rfl)
theorem dL_law_1312 : decode cL_law 1312 = .ok (.aload_n 0, 1) := dk_42 (dk_at dksL_law_47 20 rfl rfl)
theorem dL_law_1313 : decode cL_law 1313 = .ok (.iload 4, 2) := dk_21 4 (dk_at dksL_law_47 21 rfl rfl)
theorem dL_law_1315 : decode cL_law 1315 = .ok (.iconst 1, 1) := dk_4 (dk_at dksL_law_47 23 rfl rfl)
theorem dL_law_1316 : decode cL_law 1316 = .ok (.iadd, 1) := dk_96 (dk_at dksL_law_48 0 rfl rfl)
theorem dL_law_1317 : decode cL_law 1317 = .ok (.iaload, 1) := dk_46 (dk_at dksL_law_48 1 rfl rfl)
theorem dL_law_1318 : decode cL_law 1318 = .ok (.aload_n 3, 1) := dk_45 (dk_at dksL_law_48 2 rfl rfl)
theorem dL_law_1319 : decode cL_law 1319 = .ok (.invokestatic 221, 3) := dk_184 0 221 (dk_at dksL_law_48 3 rfl rfl)
theorem dL_law_1322 : decode cL_law 1322 = .ok (.istore 5, 2) := dk_54 5 (dk_at dksL_law_48 6 rfl rfl)
theorem dL_law_1324 : decode cL_law 1324 = .ok (.aload_n 2, 1) := dk_44 (dk_at dksL_law_48 8 rfl rfl)
theorem dL_law_1325 : decode cL_law 1325 = .ok (.aload_n 0, 1) := dk_42 (dk_at dksL_law_48 9 rfl rfl)
theorem dL_law_1326 : decode cL_law 1326 = .ok (.iload 4, 2) := dk_21 4 (dk_at dksL_law_48 10 rfl rfl)
theorem dL_law_1328 : decode cL_law 1328 = .ok (.iconst 1, 1) := dk_4 (dk_at dksL_law_48 12 rfl rfl)
theorem dL_law_1329 : decode cL_law 1329 = .ok (.iadd, 1) := dk_96 (dk_at dksL_law_48 13 rfl rfl)
theorem dL_law_1330 : decode cL_law 1330 = .ok (.iaload, 1) := dk_46 (dk_at dksL_law_48 14 rfl rfl)
theorem dL_law_1331 : decode cL_law 1331 = .ok (.invokevirtual 223, 3) := dk_182 0 223 (dk_at dksL_law_48 15 rfl rfl)
theorem dL_law_1334 : decode cL_law 1334 = .ok (.lstore 6, 2) := dk_55 6 (dk_at dksL_law_48 18 rfl rfl)
theorem dL_law_1336 : decode cL_law 1336 = .ok (.aload_n 2, 1) := dk_44 (dk_at dksL_law_48 20 rfl rfl)
theorem dL_law_1337 : decode cL_law 1337 = .ok (.invokevirtual 168, 3) := dk_182 0 168 (dk_at dksL_law_48 21 rfl rfl)
theorem dL_law_1340 : decode cL_law 1340 = .ok (.iload 5, 2) := dk_21 5 (dk_at dksL_law_49 0 rfl rfl)
theorem dL_law_1342 : decode cL_law 1342 = .ok (.if_icmp .eq 5, 3) := dk_159 0 5 (dk_at dksL_law_49 2 rfl rfl)
theorem dL_law_1345 : decode cL_law 1345 = .ok (.iconst 0, 1) := dk_3 (dk_at dksL_law_49 5 rfl rfl)
theorem dL_law_1346 : decode cL_law 1346 = .ok (.ireturn, 1) := dk_172 (dk_at dksL_law_49 6 rfl rfl)
theorem dL_law_1347 : decode cL_law 1347 = .ok (.iload 5, 2) := dk_21 5 (dk_at dksL_law_49 7 rfl rfl)
theorem dL_law_1349 : decode cL_law 1349 = .ok (.ifCond .ne 14, 3) := dk_154 0 14 (dk_at dksL_law_49 9 rfl rfl)
theorem dL_law_1352 : decode cL_law 1352 = .ok (.aload_n 3, 1) := dk_45 (dk_at dksL_law_49 12 rfl rfl)
theorem dL_law_1353 : decode cL_law 1353 = .ok (.iconst 0, 1) := dk_3 (dk_at dksL_law_49 13 rfl rfl)
theorem dL_law_1354 : decode cL_law 1354 = .ok (.laload, 1) := dk_47 (dk_at dksL_law_49 14 rfl rfl)
theorem dL_law_1355 : decode cL_law 1355 = .ok (.lload 6, 2) := dk_22 6 (dk_at dksL_law_49 15 rfl rfl)
theorem dL_law_1357 : decode cL_law 1357 = .ok (.lcmp, 1) := dk_148 (dk_at dksL_law_49 17 rfl rfl)
theorem dL_law_1358 : decode cL_law 1358 = .ok (.ifCond .eq 5, 3) := dk_153 0 5 (dk_at dksL_law_49 18 rfl rfl)
theorem dL_law_1361 : decode cL_law 1361 = .ok (.iconst 0, 1) := dk_3 (dk_at dksL_law_49 21 rfl rfl)
theorem dL_law_1362 : decode cL_law 1362 = .ok (.ireturn, 1) := dk_172 (dk_at dksL_law_49 22 rfl rfl)
theorem dL_law_1363 : decode cL_law 1363 = .ok (.goto 1654, 3) := dk_167 6 118 (dk_at dksL_law_50 0 rfl rfl)
theorem dL_law_1366 : decode cL_law 1366 = .ok (.aload_n 1, 1) := dk_43 (dk_at dksL_law_50 3 rfl rfl)
theorem dL_law_1367 : decode cL_law 1367 = .ok (.aload_n 0, 1) := dk_42 (dk_at dksL_law_50 4 rfl rfl)
theorem dL_law_1368 : decode cL_law 1368 = .ok (.iload 4, 2) := dk_21 4 (dk_at dksL_law_50 5 rfl rfl)
theorem dL_law_1370 : decode cL_law 1370 = .ok (.iconst 1, 1) := dk_4 (dk_at dksL_law_50 7 rfl rfl)
theorem dL_law_1371 : decode cL_law 1371 = .ok (.iadd, 1) := dk_96 (dk_at dksL_law_50 8 rfl rfl)
theorem dL_law_1372 : decode cL_law 1372 = .ok (.iaload, 1) := dk_46 (dk_at dksL_law_50 9 rfl rfl)
theorem dL_law_1373 : decode cL_law 1373 = .ok (.aload_n 3, 1) := dk_45 (dk_at dksL_law_50 10 rfl rfl)
theorem dL_law_1374 : decode cL_law 1374 = .ok (.invokestatic 224, 3) := dk_184 0 224 (dk_at dksL_law_50 11 rfl rfl)
theorem dL_law_1377 : decode cL_law 1377 = .ok (.istore 5, 2) := dk_54 5 (dk_at dksL_law_50 14 rfl rfl)
theorem dL_law_1379 : decode cL_law 1379 = .ok (.aload_n 2, 1) := dk_44 (dk_at dksL_law_50 16 rfl rfl)
theorem dL_law_1380 : decode cL_law 1380 = .ok (.aload_n 0, 1) := dk_42 (dk_at dksL_law_50 17 rfl rfl)
theorem dL_law_1381 : decode cL_law 1381 = .ok (.iload 4, 2) := dk_21 4 (dk_at dksL_law_50 18 rfl rfl)
theorem dL_law_1383 : decode cL_law 1383 = .ok (.iconst 1, 1) := dk_4 (dk_at dksL_law_50 20 rfl rfl)
theorem dL_law_1384 : decode cL_law 1384 = .ok (.iadd, 1) := dk_96 (dk_at dksL_law_50 21 rfl rfl)
theorem dL_law_1385 : decode cL_law 1385 = .ok (.iaload, 1) := dk_46 (dk_at dksL_law_50 22 rfl rfl)
theorem dL_law_1386 : decode cL_law 1386 = .ok (.invokevirtual 226, 3) := dk_182 0 226 (dk_at dksL_law_51 0 rfl rfl)
theorem dL_law_1389 : decode cL_law 1389 = .ok (.istore 6, 2) := dk_54 6 (dk_at dksL_law_51 3 rfl rfl)
theorem dL_law_1391 : decode cL_law 1391 = .ok (.aload_n 2, 1) := dk_44 (dk_at dksL_law_51 5 rfl rfl)
theorem dL_law_1392 : decode cL_law 1392 = .ok (.invokevirtual 168, 3) := dk_182 0 168 (dk_at dksL_law_51 6 rfl rfl)
theorem dL_law_1395 : decode cL_law 1395 = .ok (.iload 5, 2) := dk_21 5 (dk_at dksL_law_51 9 rfl rfl)
theorem dL_law_1397 : decode cL_law 1397 = .ok (.if_icmp .eq 5, 3) := dk_159 0 5 (dk_at dksL_law_51 11 rfl rfl)
theorem dL_law_1400 : decode cL_law 1400 = .ok (.iconst 0, 1) := dk_3 (dk_at dksL_law_51 14 rfl rfl)
theorem dL_law_1401 : decode cL_law 1401 = .ok (.ireturn, 1) := dk_172 (dk_at dksL_law_51 15 rfl rfl)
theorem dL_law_1402 : decode cL_law 1402 = .ok (.iload 5, 2) := dk_21 5 (dk_at dksL_law_51 16 rfl rfl)
theorem dL_law_1404 : decode cL_law 1404 = .ok (.ifCond .ne 15, 3) := dk_154 0 15 (dk_at dksL_law_51 18 rfl rfl)
theorem dL_law_1407 : decode cL_law 1407 = .ok (.aload_n 3, 1) := dk_45 (dk_at dksL_law_51 21 rfl rfl)
theorem dL_law_1408 : decode cL_law 1408 = .ok (.iconst 0, 1) := dk_3 (dk_at dksL_law_51 22 rfl rfl)
theorem dL_law_1409 : decode cL_law 1409 = .ok (.laload, 1) := dk_47 (dk_at dksL_law_51 23 rfl rfl)
theorem dL_law_1410 : decode cL_law 1410 = .ok (.iload 6, 2) := dk_21 6 (dk_at dksL_law_52 0 rfl rfl)
theorem dL_law_1412 : decode cL_law 1412 = .ok (.i2l, 1) := dk_133 (dk_at dksL_law_52 2 rfl rfl)
theorem dL_law_1413 : decode cL_law 1413 = .ok (.lcmp, 1) := dk_148 (dk_at dksL_law_52 3 rfl rfl)
theorem dL_law_1414 : decode cL_law 1414 = .ok (.ifCond .eq 5, 3) := dk_153 0 5 (dk_at dksL_law_52 4 rfl rfl)
theorem dL_law_1417 : decode cL_law 1417 = .ok (.iconst 0, 1) := dk_3 (dk_at dksL_law_52 7 rfl rfl)
theorem dL_law_1418 : decode cL_law 1418 = .ok (.ireturn, 1) := dk_172 (dk_at dksL_law_52 8 rfl rfl)
theorem dL_law_1419 : decode cL_law 1419 = .ok (.goto 1598, 3) := dk_167 6 62 (dk_at dksL_law_52 9 rfl rfl)
theorem dL_law_1422 : decode cL_law 1422 = .ok (.aload_n 1, 1) := dk_43 (dk_at dksL_law_52 12 rfl rfl)
theorem dL_law_1423 : decode cL_law 1423 = .ok (.aload_n 0, 1) := dk_42 (dk_at dksL_law_52 13 rfl rfl)
theorem dL_law_1424 : decode cL_law 1424 = .ok (.iload 4, 2) := dk_21 4 (dk_at dksL_law_52 14 rfl rfl)
theorem dL_law_1426 : decode cL_law 1426 = .ok (.iconst 1, 1) := dk_4 (dk_at dksL_law_52 16 rfl rfl)
theorem dL_law_1427 : decode cL_law 1427 = .ok (.iadd, 1) := dk_96 (dk_at dksL_law_52 17 rfl rfl)
theorem dL_law_1428 : decode cL_law 1428 = .ok (.iaload, 1) := dk_46 (dk_at dksL_law_52 18 rfl rfl)
theorem dL_law_1429 : decode cL_law 1429 = .ok (.aload_n 0, 1) := dk_42 (dk_at dksL_law_52 19 rfl rfl)
theorem dL_law_1430 : decode cL_law 1430 = .ok (.iload 4, 2) := dk_21 4 (dk_at dksL_law_52 20 rfl rfl)
theorem dL_law_1432 : decode cL_law 1432 = .ok (.iconst 2, 1) := dk_5 (dk_at dksL_law_52 22 rfl rfl)
theorem dL_law_1433 : decode cL_law 1433 = .ok (.iadd, 1) := dk_96 (dk_at dksL_law_52 23 rfl rfl)
theorem dL_law_1434 : decode cL_law 1434 = .ok (.iaload, 1) := dk_46 (dk_at dksL_law_53 0 rfl rfl)
theorem dL_law_1435 : decode cL_law 1435 = .ok (.aload_n 3, 1) := dk_45 (dk_at dksL_law_53 1 rfl rfl)
theorem dL_law_1436 : decode cL_law 1436 = .ok (.invokestatic 227, 3) := dk_184 0 227 (dk_at dksL_law_53 2 rfl rfl)
theorem dL_law_1439 : decode cL_law 1439 = .ok (.istore 5, 2) := dk_54 5 (dk_at dksL_law_53 5 rfl rfl)
theorem dL_law_1441 : decode cL_law 1441 = .ok (.aload_n 2, 1) := dk_44 (dk_at dksL_law_53 7 rfl rfl)
theorem dL_law_1442 : decode cL_law 1442 = .ok (.aload_n 0, 1) := dk_42 (dk_at dksL_law_53 8 rfl rfl)
theorem dL_law_1443 : decode cL_law 1443 = .ok (.iload 4, 2) := dk_21 4 (dk_at dksL_law_53 9 rfl rfl)
theorem dL_law_1445 : decode cL_law 1445 = .ok (.iconst 1, 1) := dk_4 (dk_at dksL_law_53 11 rfl rfl)
theorem dL_law_1446 : decode cL_law 1446 = .ok (.iadd, 1) := dk_96 (dk_at dksL_law_53 12 rfl rfl)
theorem dL_law_1447 : decode cL_law 1447 = .ok (.iaload, 1) := dk_46 (dk_at dksL_law_53 13 rfl rfl)
theorem dL_law_1448 : decode cL_law 1448 = .ok (.aload_n 0, 1) := dk_42 (dk_at dksL_law_53 14 rfl rfl)
theorem dL_law_1449 : decode cL_law 1449 = .ok (.iload 4, 2) := dk_21 4 (dk_at dksL_law_53 15 rfl rfl)
theorem dL_law_1451 : decode cL_law 1451 = .ok (.iconst 2, 1) := dk_5 (dk_at dksL_law_53 17 rfl rfl)
theorem dL_law_1452 : decode cL_law 1452 = .ok (.iadd, 1) := dk_96 (dk_at dksL_law_53 18 rfl rfl)
theorem dL_law_1453 : decode cL_law 1453 = .ok (.iaload, 1) := dk_46 (dk_at dksL_law_53 19 rfl rfl)
theorem dL_law_1454 : decode cL_law 1454 = .ok (.invokevirtual 229, 3) := dk_182 0 229 (dk_at dksL_law_53 20 rfl rfl)
theorem dL_law_1457 : decode cL_law 1457 = .ok (.istore 6, 2) := dk_54 6 (dk_at dksL_law_54 0 rfl rfl)
theorem dL_law_1459 : decode cL_law 1459 = .ok (.aload_n 2, 1) := dk_44 (dk_at dksL_law_54 2 rfl rfl)
theorem dL_law_1460 : decode cL_law 1460 = .ok (.invokevirtual 168, 3) := dk_182 0 168 (dk_at dksL_law_54 3 rfl rfl)
theorem dL_law_1463 : decode cL_law 1463 = .ok (.iload 5, 2) := dk_21 5 (dk_at dksL_law_54 6 rfl rfl)
theorem dL_law_1465 : decode cL_law 1465 = .ok (.if_icmp .eq 5, 3) := dk_159 0 5 (dk_at dksL_law_54 8 rfl rfl)
theorem dL_law_1468 : decode cL_law 1468 = .ok (.iconst 0, 1) := dk_3 (dk_at dksL_law_54 11 rfl rfl)
theorem dL_law_1469 : decode cL_law 1469 = .ok (.ireturn, 1) := dk_172 (dk_at dksL_law_54 12 rfl rfl)
theorem dL_law_1470 : decode cL_law 1470 = .ok (.iload 5, 2) := dk_21 5 (dk_at dksL_law_54 13 rfl rfl)
theorem dL_law_1472 : decode cL_law 1472 = .ok (.ifCond .ne 15, 3) := dk_154 0 15 (dk_at dksL_law_54 15 rfl rfl)
theorem dL_law_1475 : decode cL_law 1475 = .ok (.aload_n 3, 1) := dk_45 (dk_at dksL_law_54 18 rfl rfl)
theorem dL_law_1476 : decode cL_law 1476 = .ok (.iconst 0, 1) := dk_3 (dk_at dksL_law_54 19 rfl rfl)
theorem dL_law_1477 : decode cL_law 1477 = .ok (.laload, 1) := dk_47 (dk_at dksL_law_54 20 rfl rfl)
theorem dL_law_1478 : decode cL_law 1478 = .ok (.iload 6, 2) := dk_21 6 (dk_at dksL_law_54 21 rfl rfl)
theorem dL_law_1480 : decode cL_law 1480 = .ok (.i2l, 1) := dk_133 (dk_at dksL_law_54 23 rfl rfl)
theorem dL_law_1481 : decode cL_law 1481 = .ok (.lcmp, 1) := dk_148 (dk_at dksL_law_55 0 rfl rfl)
theorem dL_law_1482 : decode cL_law 1482 = .ok (.ifCond .eq 5, 3) := dk_153 0 5 (dk_at dksL_law_55 1 rfl rfl)
theorem dL_law_1485 : decode cL_law 1485 = .ok (.iconst 0, 1) := dk_3 (dk_at dksL_law_55 4 rfl rfl)
theorem dL_law_1486 : decode cL_law 1486 = .ok (.ireturn, 1) := dk_172 (dk_at dksL_law_55 5 rfl rfl)
theorem dL_law_1487 : decode cL_law 1487 = .ok (.goto 1530, 3) := dk_167 5 250 (dk_at dksL_law_55 6 rfl rfl)
theorem dL_law_1490 : decode cL_law 1490 = .ok (.aload_n 1, 1) := dk_43 (dk_at dksL_law_55 9 rfl rfl)
theorem dL_law_1491 : decode cL_law 1491 = .ok (.invokevirtual 230, 3) := dk_182 0 230 (dk_at dksL_law_55 10 rfl rfl)
theorem dL_law_1494 : decode cL_law 1494 = .ok (.aload_n 2, 1) := dk_44 (dk_at dksL_law_55 13 rfl rfl)
theorem dL_law_1495 : decode cL_law 1495 = .ok (.invokevirtual 233, 3) := dk_182 0 233 (dk_at dksL_law_55 14 rfl rfl)
theorem dL_law_1498 : decode cL_law 1498 = .ok (.if_icmp .eq 1519, 3) := dk_159 5 239 (dk_at dksL_law_55 17 rfl rfl)
theorem dL_law_1501 : decode cL_law 1501 = .ok (.iconst 0, 1) := dk_3 (dk_at dksL_law_55 20 rfl rfl)
theorem dL_law_1502 : decode cL_law 1502 = .ok (.ireturn, 1) := dk_172 (dk_at dksL_law_55 21 rfl rfl)
theorem dL_law_1503 : decode cL_law 1503 = .ok (.aload_n 1, 1) := dk_43 (dk_at dksL_law_55 22 rfl rfl)
theorem dL_law_1504 : decode cL_law 1504 = .ok (.aload_n 0, 1) := dk_42 (dk_at dksL_law_55 23 rfl rfl)
theorem dL_law_1505 : decode cL_law 1505 = .ok (.iload 4, 2) := dk_21 4 (dk_at dksL_law_56 0 rfl rfl)
theorem dL_law_1507 : decode cL_law 1507 = .ok (.iconst 1, 1) := dk_4 (dk_at dksL_law_56 2 rfl rfl)
theorem dL_law_1508 : decode cL_law 1508 = .ok (.iadd, 1) := dk_96 (dk_at dksL_law_56 3 rfl rfl)
theorem dL_law_1509 : decode cL_law 1509 = .ok (.iaload, 1) := dk_46 (dk_at dksL_law_56 4 rfl rfl)
theorem dL_law_1510 : decode cL_law 1510 = .ok (.aload_n 3, 1) := dk_45 (dk_at dksL_law_56 5 rfl rfl)
theorem dL_law_1511 : decode cL_law 1511 = .ok (.invokestatic 234, 3) := dk_184 0 234 (dk_at dksL_law_56 6 rfl rfl)
theorem dL_law_1514 : decode cL_law 1514 = .ok (.istore 5, 2) := dk_54 5 (dk_at dksL_law_56 9 rfl rfl)
theorem dL_law_1516 : decode cL_law 1516 = .ok (.aload_n 2, 1) := dk_44 (dk_at dksL_law_56 11 rfl rfl)
theorem dL_law_1517 : decode cL_law 1517 = .ok (.aload_n 0, 1) := dk_42 (dk_at dksL_law_56 12 rfl rfl)
theorem dL_law_1518 : decode cL_law 1518 = .ok (.iload 4, 2) := dk_21 4 (dk_at dksL_law_56 13 rfl rfl)
theorem dL_law_1520 : decode cL_law 1520 = .ok (.iconst 1, 1) := dk_4 (dk_at dksL_law_56 15 rfl rfl)
theorem dL_law_1521 : decode cL_law 1521 = .ok (.iadd, 1) := dk_96 (dk_at dksL_law_56 16 rfl rfl)
theorem dL_law_1522 : decode cL_law 1522 = .ok (.iaload, 1) := dk_46 (dk_at dksL_law_56 17 rfl rfl)
theorem dL_law_1523 : decode cL_law 1523 = .ok (.invokevirtual 236, 3) := dk_182 0 236 (dk_at dksL_law_56 18 rfl rfl)
theorem dL_law_1526 : decode cL_law 1526 = .ok (.istore 6, 2) := dk_54 6 (dk_at dksL_law_56 21 rfl rfl)
theorem dL_law_1528 : decode cL_law 1528 = .ok (.aload_n 2, 1) := dk_44 (dk_at dksL_law_56 23 rfl rfl)
theorem dL_law_1529 : decode cL_law 1529 = .ok (.invokevirtual 168, 3) := dk_182 0 168 (dk_at dksL_law_57 0 rfl rfl)
theorem dL_law_1532 : decode cL_law 1532 = .ok (.iload 5, 2) := dk_21 5 (dk_at dksL_law_57 3 rfl rfl)
theorem dL_law_1534 : decode cL_law 1534 = .ok (.if_icmp .eq 5, 3) := dk_159 0 5 (dk_at dksL_law_57 5 rfl rfl)
theorem dL_law_1537 : decode cL_law 1537 = .ok (.iconst 0, 1) := dk_3 (dk_at dksL_law_57 8 rfl rfl)
theorem dL_law_1538 : decode cL_law 1538 = .ok (.ireturn, 1) := dk_172 (dk_at dksL_law_57 9 rfl rfl)
theorem dL_law_1539 : decode cL_law 1539 = .ok (.iload 5, 2) := dk_21 5 (dk_at dksL_law_57 10 rfl rfl)
theorem dL_law_1541 : decode cL_law 1541 = .ok (.ifCond .ne 15, 3) := dk_154 0 15 (dk_at dksL_law_57 12 rfl rfl)
theorem dL_law_1544 : decode cL_law 1544 = .ok (.aload_n 3, 1) := dk_45 (dk_at dksL_law_57 15 rfl rfl)
theorem dL_law_1545 : decode cL_law 1545 = .ok (.iconst 0, 1) := dk_3 (dk_at dksL_law_57 16 rfl rfl)
theorem dL_law_1546 : decode cL_law 1546 = .ok (.laload, 1) := dk_47 (dk_at dksL_law_57 17 rfl rfl)
theorem dL_law_1547 : decode cL_law 1547 = .ok (.iload 6, 2) := dk_21 6 (dk_at dksL_law_57 18 rfl rfl)
theorem dL_law_1549 : decode cL_law 1549 = .ok (.i2l, 1) := dk_133 (dk_at dksL_law_57 20 rfl rfl)
theorem dL_law_1550 : decode cL_law 1550 = .ok (.lcmp, 1) := dk_148 (dk_at dksL_law_57 21 rfl rfl)
theorem dL_law_1551 : decode cL_law 1551 = .ok (.ifCond .eq 5, 3) := dk_153 0 5 (dk_at dksL_law_58 0 rfl rfl)
theorem dL_law_1554 : decode cL_law 1554 = .ok (.iconst 0, 1) := dk_3 (dk_at dksL_law_58 3 rfl rfl)
theorem dL_law_1555 : decode cL_law 1555 = .ok (.ireturn, 1) := dk_172 (dk_at dksL_law_58 4 rfl rfl)
theorem dL_law_1556 : decode cL_law 1556 = .ok (.goto 1461, 3) := dk_167 5 181 (dk_at dksL_law_58 5 rfl rfl)
theorem dL_law_1559 : decode cL_law 1559 = .ok (.aload_n 1, 1) := dk_43 (dk_at dksL_law_58 8 rfl rfl)
theorem dL_law_1560 : decode cL_law 1560 = .ok (.invokevirtual 237, 3) := dk_182 0 237 (dk_at dksL_law_58 9 rfl rfl)
theorem dL_law_1563 : decode cL_law 1563 = .ok (.aload_n 2, 1) := dk_44 (dk_at dksL_law_58 12 rfl rfl)
theorem dL_law_1564 : decode cL_law 1564 = .ok (.invokevirtual 240, 3) := dk_182 0 240 (dk_at dksL_law_58 13 rfl rfl)
theorem dL_law_1567 : decode cL_law 1567 = .ok (.if_icmp .eq 1450, 3) := dk_159 5 170 (dk_at dksL_law_58 16 rfl rfl)
theorem dL_law_1570 : decode cL_law 1570 = .ok (.iconst 0, 1) := dk_3 (dk_at dksL_law_58 19 rfl rfl)
theorem dL_law_1571 : decode cL_law 1571 = .ok (.ireturn, 1) := dk_172 (dk_at dksL_law_58 20 rfl rfl)
theorem dL_law_1572 : decode cL_law 1572 = .ok (.aload_n 1, 1) := dk_43 (dk_at dksL_law_58 21 rfl rfl)
theorem dL_law_1573 : decode cL_law 1573 = .ok (.aload_n 3, 1) := dk_45 (dk_at dksL_law_58 22 rfl rfl)
theorem dL_law_1574 : decode cL_law 1574 = .ok (.invokestatic 241, 3) := dk_184 0 241 (dk_at dksL_law_59 0 rfl rfl)
theorem dL_law_1577 : decode cL_law 1577 = .ok (.istore 5, 2) := dk_54 5 (dk_at dksL_law_59 3 rfl rfl)
theorem dL_law_1579 : decode cL_law 1579 = .ok (.aload_n 2, 1) := dk_44 (dk_at dksL_law_59 5 rfl rfl)
theorem dL_law_1580 : decode cL_law 1580 = .ok (.invokevirtual 243, 3) := dk_182 0 243 (dk_at dksL_law_59 6 rfl rfl)
theorem dL_law_1583 : decode cL_law 1583 = .ok (.istore 6, 2) := dk_54 6 (dk_at dksL_law_59 9 rfl rfl)
theorem dL_law_1585 : decode cL_law 1585 = .ok (.aload_n 2, 1) := dk_44 (dk_at dksL_law_59 11 rfl rfl)
theorem dL_law_1586 : decode cL_law 1586 = .ok (.invokevirtual 168, 3) := dk_182 0 168 (dk_at dksL_law_59 12 rfl rfl)
theorem dL_law_1589 : decode cL_law 1589 = .ok (.iload 5, 2) := dk_21 5 (dk_at dksL_law_59 15 rfl rfl)
theorem dL_law_1591 : decode cL_law 1591 = .ok (.if_icmp .eq 5, 3) := dk_159 0 5 (dk_at dksL_law_59 17 rfl rfl)
theorem dL_law_1594 : decode cL_law 1594 = .ok (.iconst 0, 1) := dk_3 (dk_at dksL_law_59 20 rfl rfl)
theorem dL_law_1595 : decode cL_law 1595 = .ok (.ireturn, 1) := dk_172 (dk_at dksL_law_59 21 rfl rfl)
theorem dL_law_1596 : decode cL_law 1596 = .ok (.iload 5, 2) := dk_21 5 (dk_at dksL_law_59 22 rfl rfl)
theorem dL_law_1598 : decode cL_law 1598 = .ok (.ifCond .ne 15, 3) := dk_154 0 15 (dk_at dksL_law_60 0 rfl rfl)
theorem dL_law_1601 : decode cL_law 1601 = .ok (.aload_n 3, 1) := dk_45 (dk_at dksL_law_60 3 rfl rfl)
theorem dL_law_1602 : decode cL_law 1602 = .ok (.iconst 0, 1) := dk_3 (dk_at dksL_law_60 4 rfl rfl)
theorem dL_law_1603 : decode cL_law 1603 = .ok (.laload, 1) := dk_47 (dk_at dksL_law_60 5 rfl rfl)
theorem dL_law_1604 : decode cL_law 1604 = .ok (.iload 6, 2) := dk_21 6 (dk_at dksL_law_60 6 rfl rfl)
theorem dL_law_1606 : decode cL_law 1606 = .ok (.i2l, 1) := dk_133 (dk_at dksL_law_60 8 rfl rfl)
theorem dL_law_1607 : decode cL_law 1607 = .ok (.lcmp, 1) := dk_148 (dk_at dksL_law_60 9 rfl rfl)
theorem dL_law_1608 : decode cL_law 1608 = .ok (.ifCond .eq 5, 3) := dk_153 0 5 (dk_at dksL_law_60 10 rfl rfl)
theorem dL_law_1611 : decode cL_law 1611 = .ok (.iconst 0, 1) := dk_3 (dk_at dksL_law_60 13 rfl rfl)
theorem dL_law_1612 : decode cL_law 1612 = .ok (.ireturn, 1) := dk_172 (dk_at dksL_law_60 14 rfl rfl)
theorem dL_law_1613 : decode cL_law 1613 = .ok (.goto 1404, 3) := dk_167 5 124 (dk_at dksL_law_60 15 rfl rfl)
theorem dL_law_1616 : decode cL_law 1616 = .ok (.aload_n 1, 1) := dk_43 (dk_at dksL_law_60 18 rfl rfl)
theorem dL_law_1617 : decode cL_law 1617 = .ok (.aload_n 0, 1) := dk_42 (dk_at dksL_law_60 19 rfl rfl)
theorem dL_law_1618 : decode cL_law 1618 = .ok (.iload 4, 2) := dk_21 4 (dk_at dksL_law_60 20 rfl rfl)
theorem dL_law_1620 : decode cL_law 1620 = .ok (.iconst 1, 1) := dk_4 (dk_at dksL_law_60 22 rfl rfl)
theorem dL_law_1621 : decode cL_law 1621 = .ok (.iadd, 1) := dk_96 (dk_at dksL_law_60 23 rfl rfl)
theorem dL_law_1622 : decode cL_law 1622 = .ok (.iaload, 1) := dk_46 (dk_at dksL_law_61 0 rfl rfl)
theorem dL_law_1623 : decode cL_law 1623 = .ok (.aload_n 3, 1) := dk_45 (dk_at dksL_law_61 1 rfl rfl)
theorem dL_law_1624 : decode cL_law 1624 = .ok (.invokestatic 244, 3) := dk_184 0 244 (dk_at dksL_law_61 2 rfl rfl)
theorem dL_law_1627 : decode cL_law 1627 = .ok (.istore 5, 2) := dk_54 5 (dk_at dksL_law_61 5 rfl rfl)
theorem dL_law_1629 : decode cL_law 1629 = .ok (.aload_n 2, 1) := dk_44 (dk_at dksL_law_61 7 rfl rfl)
theorem dL_law_1630 : decode cL_law 1630 = .ok (.aload_n 0, 1) := dk_42 (dk_at dksL_law_61 8 rfl rfl)
theorem dL_law_1631 : decode cL_law 1631 = .ok (.iload 4, 2) := dk_21 4 (dk_at dksL_law_61 9 rfl rfl)
theorem dL_law_1633 : decode cL_law 1633 = .ok (.iconst 1, 1) := dk_4 (dk_at dksL_law_61 11 rfl rfl)
theorem dL_law_1634 : decode cL_law 1634 = .ok (.iadd, 1) := dk_96 (dk_at dksL_law_61 12 rfl rfl)
theorem dL_law_1635 : decode cL_law 1635 = .ok (.iaload, 1) := dk_46 (dk_at dksL_law_61 13 rfl rfl)
theorem dL_law_1636 : decode cL_law 1636 = .ok (.invokevirtual 246, 3) := dk_182 0 246 (dk_at dksL_law_61 14 rfl rfl)
theorem dL_law_1639 : decode cL_law 1639 = .ok (.istore 6, 2) := dk_54 6 (dk_at dksL_law_61 17 rfl rfl)
theorem dL_law_1641 : decode cL_law 1641 = .ok (.aload_n 2, 1) := dk_44 (dk_at dksL_law_61 19 rfl rfl)
theorem dL_law_1642 : decode cL_law 1642 = .ok (.invokevirtual 168, 3) := dk_182 0 168 (dk_at dksL_law_61 20 rfl rfl)
theorem dL_law_1645 : decode cL_law 1645 = .ok (.iload 5, 2) := dk_21 5 (dk_at dksL_law_62 0 rfl rfl)
theorem dL_law_1647 : decode cL_law 1647 = .ok (.if_icmp .eq 5, 3) := dk_159 0 5 (dk_at dksL_law_62 2 rfl rfl)
theorem dL_law_1650 : decode cL_law 1650 = .ok (.iconst 0, 1) := dk_3 (dk_at dksL_law_62 5 rfl rfl)
theorem dL_law_1651 : decode cL_law 1651 = .ok (.ireturn, 1) := dk_172 (dk_at dksL_law_62 6 rfl rfl)
theorem dL_law_1652 : decode cL_law 1652 = .ok (.iload 5, 2) := dk_21 5 (dk_at dksL_law_62 7 rfl rfl)
theorem dL_law_1654 : decode cL_law 1654 = .ok (.ifCond .ne 15, 3) := dk_154 0 15 (dk_at dksL_law_62 9 rfl rfl)
theorem dL_law_1657 : decode cL_law 1657 = .ok (.aload_n 3, 1) := dk_45 (dk_at dksL_law_62 12 rfl rfl)
theorem dL_law_1658 : decode cL_law 1658 = .ok (.iconst 0, 1) := dk_3 (dk_at dksL_law_62 13 rfl rfl)
theorem dL_law_1659 : decode cL_law 1659 = .ok (.laload, 1) := dk_47 (dk_at dksL_law_62 14 rfl rfl)
theorem dL_law_1660 : decode cL_law 1660 = .ok (.iload 6, 2) := dk_21 6 (dk_at dksL_law_62 15 rfl rfl)
theorem dL_law_1662 : decode cL_law 1662 = .ok (.i2l, 1) := dk_133 (dk_at dksL_law_62 17 rfl rfl)
theorem dL_law_1663 : decode cL_law 1663 = .ok (.lcmp, 1) := dk_148 (dk_at dksL_law_62 18 rfl rfl)
theorem dL_law_1664 : decode cL_law 1664 = .ok (.ifCond .eq 5, 3) := dk_153 0 5 (dk_at dksL_law_62 19 rfl rfl)
theorem dL_law_1667 : decode cL_law 1667 = .ok (.iconst 0, 1) := dk_3 (dk_at dksL_law_62 22 rfl rfl)
theorem dL_law_1668 : decode cL_law 1668 = .ok (.ireturn, 1) := dk_172 (dk_at dksL_law_62 23 rfl rfl)
theorem dL_law_1669 : decode cL_law 1669 = .ok (.goto 1348, 3) := dk_167 5 68 (dk_at dksL_law_63 0 rfl rfl)
theorem dL_law_1672 : decode cL_law 1672 = .ok (.aload_n 1, 1) := dk_43 (dk_at dksL_law_63 3 rfl rfl)
theorem dL_law_1673 : decode cL_law 1673 = .ok (.aload_n 0, 1) := dk_42 (dk_at dksL_law_63 4 rfl rfl)
theorem dL_law_1674 : decode cL_law 1674 = .ok (.iload 4, 2) := dk_21 4 (dk_at dksL_law_63 5 rfl rfl)
theorem dL_law_1676 : decode cL_law 1676 = .ok (.iconst 1, 1) := dk_4 (dk_at dksL_law_63 7 rfl rfl)
theorem dL_law_1677 : decode cL_law 1677 = .ok (.iadd, 1) := dk_96 (dk_at dksL_law_63 8 rfl rfl)
theorem dL_law_1678 : decode cL_law 1678 = .ok (.iaload, 1) := dk_46 (dk_at dksL_law_63 9 rfl rfl)
theorem dL_law_1679 : decode cL_law 1679 = .ok (.aload_n 0, 1) := dk_42 (dk_at dksL_law_63 10 rfl rfl)
theorem dL_law_1680 : decode cL_law 1680 = .ok (.iload 4, 2) := dk_21 4 (dk_at dksL_law_63 11 rfl rfl)
theorem dL_law_1682 : decode cL_law 1682 = .ok (.iconst 2, 1) := dk_5 (dk_at dksL_law_63 13 rfl rfl)
theorem dL_law_1683 : decode cL_law 1683 = .ok (.iadd, 1) := dk_96 (dk_at dksL_law_63 14 rfl rfl)
theorem dL_law_1684 : decode cL_law 1684 = .ok (.iaload, 1) := dk_46 (dk_at dksL_law_63 15 rfl rfl)
theorem dL_law_1685 : decode cL_law 1685 = .ok (.aload_n 3, 1) := dk_45 (dk_at dksL_law_63 16 rfl rfl)
theorem dL_law_1686 : decode cL_law 1686 = .ok (.invokestatic 247, 3) := dk_184 0 247 (dk_at dksL_law_63 17 rfl rfl)
theorem dL_law_1689 : decode cL_law 1689 = .ok (.istore 5, 2) := dk_54 5 (dk_at dksL_law_63 20 rfl rfl)
theorem dL_law_1691 : decode cL_law 1691 = .ok (.aload_n 2, 1) := dk_44 (dk_at dksL_law_63 22 rfl rfl)
theorem dL_law_1692 : decode cL_law 1692 = .ok (.aload_n 0, 1) := dk_42 (dk_at dksL_law_63 23 rfl rfl)
theorem dL_law_1693 : decode cL_law 1693 = .ok (.iload 4, 2) := dk_21 4 (dk_at dksL_law_64 0 rfl rfl)
theorem dL_law_1695 : decode cL_law 1695 = .ok (.iconst 1, 1) := dk_4 (dk_at dksL_law_64 2 rfl rfl)
theorem dL_law_1696 : decode cL_law 1696 = .ok (.iadd, 1) := dk_96 (dk_at dksL_law_64 3 rfl rfl)
theorem dL_law_1697 : decode cL_law 1697 = .ok (.iaload, 1) := dk_46 (dk_at dksL_law_64 4 rfl rfl)
theorem dL_law_1698 : decode cL_law 1698 = .ok (.aload_n 0, 1) := dk_42 (dk_at dksL_law_64 5 rfl rfl)
theorem dL_law_1699 : decode cL_law 1699 = .ok (.iload 4, 2) := dk_21 4 (dk_at dksL_law_64 6 rfl rfl)
theorem dL_law_1701 : decode cL_law 1701 = .ok (.iconst 2, 1) := dk_5 (dk_at dksL_law_64 8 rfl rfl)
theorem dL_law_1702 : decode cL_law 1702 = .ok (.iadd, 1) := dk_96 (dk_at dksL_law_64 9 rfl rfl)
theorem dL_law_1703 : decode cL_law 1703 = .ok (.iaload, 1) := dk_46 (dk_at dksL_law_64 10 rfl rfl)
theorem dL_law_1704 : decode cL_law 1704 = .ok (.invokevirtual 249, 3) := dk_182 0 249 (dk_at dksL_law_64 11 rfl rfl)
theorem dL_law_1707 : decode cL_law 1707 = .ok (.lstore 6, 2) := dk_55 6 (dk_at dksL_law_64 14 rfl rfl)
theorem dL_law_1709 : decode cL_law 1709 = .ok (.aload_n 2, 1) := dk_44 (dk_at dksL_law_64 16 rfl rfl)
theorem dL_law_1710 : decode cL_law 1710 = .ok (.invokevirtual 168, 3) := dk_182 0 168 (dk_at dksL_law_64 17 rfl rfl)
theorem dL_law_1713 : decode cL_law 1713 = .ok (.iload 5, 2) := dk_21 5 (dk_at dksL_law_64 20 rfl rfl)
theorem dL_law_1715 : decode cL_law 1715 = .ok (.if_icmp .eq 5, 3) := dk_159 0 5 (dk_at dksL_law_65 0 rfl rfl)
theorem dL_law_1718 : decode cL_law 1718 = .ok (.iconst 0, 1) := dk_3 (dk_at dksL_law_65 3 rfl rfl)
theorem dL_law_1719 : decode cL_law 1719 = .ok (.ireturn, 1) := dk_172 (dk_at dksL_law_65 4 rfl rfl)
theorem dL_law_1720 : decode cL_law 1720 = .ok (.iload 5, 2) := dk_21 5 (dk_at dksL_law_65 5 rfl rfl)
theorem dL_law_1722 : decode cL_law 1722 = .ok (.ifCond .ne 14, 3) := dk_154 0 14 (dk_at dksL_law_65 7 rfl rfl)
theorem dL_law_1725 : decode cL_law 1725 = .ok (.aload_n 3, 1) := dk_45 (dk_at dksL_law_65 10 rfl rfl)
theorem dL_law_1726 : decode cL_law 1726 = .ok (.iconst 0, 1) := dk_3 (dk_at dksL_law_65 11 rfl rfl)
theorem dL_law_1727 : decode cL_law 1727 = .ok (.laload, 1) := dk_47 (dk_at dksL_law_65 12 rfl rfl)
theorem dL_law_1728 : decode cL_law 1728 = .ok (.lload 6, 2) := dk_22 6 (dk_at dksL_law_65 13 rfl rfl)
theorem dL_law_1730 : decode cL_law 1730 = .ok (.lcmp, 1) := dk_148 (dk_at dksL_law_65 15 rfl rfl)
theorem dL_law_1731 : decode cL_law 1731 = .ok (.ifCond .eq 5, 3) := dk_153 0 5 (dk_at dksL_law_65 16 rfl rfl)
theorem dL_law_1734 : decode cL_law 1734 = .ok (.iconst 0, 1) := dk_3 (dk_at dksL_law_65 19 rfl rfl)
theorem dL_law_1735 : decode cL_law 1735 = .ok (.ireturn, 1) := dk_172 (dk_at dksL_law_65 20 rfl rfl)
theorem dL_law_1736 : decode cL_law 1736 = .ok (.goto 1281, 3) := dk_167 5 1 (dk_at dksL_law_65 21 rfl rfl)
theorem dL_law_1739 : decode cL_law 1739 = .ok (.aload_n 1, 1) := dk_43 (dk_at dksL_law_66 0 rfl rfl)
theorem dL_law_1740 : decode cL_law 1740 = .ok (.aload_n 3, 1) := dk_45 (dk_at dksL_law_66 1 rfl rfl)
theorem dL_law_1741 : decode cL_law 1741 = .ok (.invokestatic 250, 3) := dk_184 0 250 (dk_at dksL_law_66 2 rfl rfl)
theorem dL_law_1744 : decode cL_law 1744 = .ok (.istore 5, 2) := dk_54 5 (dk_at dksL_law_66 5 rfl rfl)
theorem dL_law_1746 : decode cL_law 1746 = .ok (.aload_n 2, 1) := dk_44 (dk_at dksL_law_66 7 rfl rfl)
theorem dL_law_1747 : decode cL_law 1747 = .ok (.invokevirtual 252, 3) := dk_182 0 252 (dk_at dksL_law_66 8 rfl rfl)
theorem dL_law_1750 : decode cL_law 1750 = .ok (.istore 6, 2) := dk_54 6 (dk_at dksL_law_66 11 rfl rfl)
theorem dL_law_1752 : decode cL_law 1752 = .ok (.aload_n 2, 1) := dk_44 (dk_at dksL_law_66 13 rfl rfl)
theorem dL_law_1753 : decode cL_law 1753 = .ok (.invokevirtual 168, 3) := dk_182 0 168 (dk_at dksL_law_66 14 rfl rfl)
theorem dL_law_1756 : decode cL_law 1756 = .ok (.iload 5, 2) := dk_21 5 (dk_at dksL_law_66 17 rfl rfl)
theorem dL_law_1758 : decode cL_law 1758 = .ok (.if_icmp .eq 5, 3) := dk_159 0 5 (dk_at dksL_law_66 19 rfl rfl)
theorem dL_law_1761 : decode cL_law 1761 = .ok (.iconst 0, 1) := dk_3 (dk_at dksL_law_66 22 rfl rfl)
theorem dL_law_1762 : decode cL_law 1762 = .ok (.ireturn, 1) := dk_172 (dk_at dksL_law_66 23 rfl rfl)
theorem dL_law_1763 : decode cL_law 1763 = .ok (.iload 5, 2) := dk_21 5 (dk_at dksL_law_67 0 rfl rfl)
theorem dL_law_1765 : decode cL_law 1765 = .ok (.ifCond .ne 15, 3) := dk_154 0 15 (dk_at dksL_law_67 2 rfl rfl)
theorem dL_law_1768 : decode cL_law 1768 = .ok (.aload_n 3, 1) := dk_45 (dk_at dksL_law_67 5 rfl rfl)
theorem dL_law_1769 : decode cL_law 1769 = .ok (.iconst 0, 1) := dk_3 (dk_at dksL_law_67 6 rfl rfl)
theorem dL_law_1770 : decode cL_law 1770 = .ok (.laload, 1) := dk_47 (dk_at dksL_law_67 7 rfl rfl)
theorem dL_law_1771 : decode cL_law 1771 = .ok (.iload 6, 2) := dk_21 6 (dk_at dksL_law_67 8 rfl rfl)
theorem dL_law_1773 : decode cL_law 1773 = .ok (.i2l, 1) := dk_133 (dk_at dksL_law_67 10 rfl rfl)
theorem dL_law_1774 : decode cL_law 1774 = .ok (.lcmp, 1) := dk_148 (dk_at dksL_law_67 11 rfl rfl)
theorem dL_law_1775 : decode cL_law 1775 = .ok (.ifCond .eq 5, 3) := dk_153 0 5 (dk_at dksL_law_67 12 rfl rfl)
theorem dL_law_1778 : decode cL_law 1778 = .ok (.iconst 0, 1) := dk_3 (dk_at dksL_law_67 15 rfl rfl)
theorem dL_law_1779 : decode cL_law 1779 = .ok (.ireturn, 1) := dk_172 (dk_at dksL_law_67 16 rfl rfl)
theorem dL_law_1780 : decode cL_law 1780 = .ok (.goto 1237, 3) := dk_167 4 213 (dk_at dksL_law_67 17 rfl rfl)
theorem dL_law_1783 : decode cL_law 1783 = .ok (.aload_n 1, 1) := dk_43 (dk_at dksL_law_67 20 rfl rfl)
theorem dL_law_1784 : decode cL_law 1784 = .ok (.aload_n 0, 1) := dk_42 (dk_at dksL_law_67 21 rfl rfl)
theorem dL_law_1785 : decode cL_law 1785 = .ok (.iload 4, 2) := dk_21 4 (dk_at dksL_law_67 22 rfl rfl)
theorem dL_law_1787 : decode cL_law 1787 = .ok (.iconst 1, 1) := dk_4 (dk_at dksL_law_68 0 rfl rfl)
theorem dL_law_1788 : decode cL_law 1788 = .ok (.iadd, 1) := dk_96 (dk_at dksL_law_68 1 rfl rfl)
theorem dL_law_1789 : decode cL_law 1789 = .ok (.iaload, 1) := dk_46 (dk_at dksL_law_68 2 rfl rfl)
theorem dL_law_1790 : decode cL_law 1790 = .ok (.aload_n 0, 1) := dk_42 (dk_at dksL_law_68 3 rfl rfl)
theorem dL_law_1791 : decode cL_law 1791 = .ok (.iload 4, 2) := dk_21 4 (dk_at dksL_law_68 4 rfl rfl)
theorem dL_law_1793 : decode cL_law 1793 = .ok (.iconst 2, 1) := dk_5 (dk_at dksL_law_68 6 rfl rfl)
theorem dL_law_1794 : decode cL_law 1794 = .ok (.iadd, 1) := dk_96 (dk_at dksL_law_68 7 rfl rfl)
theorem dL_law_1795 : decode cL_law 1795 = .ok (.iaload, 1) := dk_46 (dk_at dksL_law_68 8 rfl rfl)
theorem dL_law_1796 : decode cL_law 1796 = .ok (.aload_n 3, 1) := dk_45 (dk_at dksL_law_68 9 rfl rfl)
theorem dL_law_1797 : decode cL_law 1797 = .ok (.invokestatic 253, 3) := dk_184 0 253 (dk_at dksL_law_68 10 rfl rfl)
theorem dL_law_1800 : decode cL_law 1800 = .ok (.istore 5, 2) := dk_54 5 (dk_at dksL_law_68 13 rfl rfl)
theorem dL_law_1802 : decode cL_law 1802 = .ok (.aload_n 2, 1) := dk_44 (dk_at dksL_law_68 15 rfl rfl)
theorem dL_law_1803 : decode cL_law 1803 = .ok (.aload_n 0, 1) := dk_42 (dk_at dksL_law_68 16 rfl rfl)
theorem dL_law_1804 : decode cL_law 1804 = .ok (.iload 4, 2) := dk_21 4 (dk_at dksL_law_68 17 rfl rfl)
theorem dL_law_1806 : decode cL_law 1806 = .ok (.iconst 1, 1) := dk_4 (dk_at dksL_law_68 19 rfl rfl)
theorem dL_law_1807 : decode cL_law 1807 = .ok (.iadd, 1) := dk_96 (dk_at dksL_law_68 20 rfl rfl)
theorem dL_law_1808 : decode cL_law 1808 = .ok (.iaload, 1) := dk_46 (dk_at dksL_law_68 21 rfl rfl)
theorem dL_law_1809 : decode cL_law 1809 = .ok (.aload_n 0, 1) := dk_42 (dk_at dksL_law_68 22 rfl rfl)
theorem dL_law_1810 : decode cL_law 1810 = .ok (.iload 4, 2) := dk_21 4 (dk_at dksL_law_69 0 rfl rfl)
theorem dL_law_1812 : decode cL_law 1812 = .ok (.iconst 2, 1) := dk_5 (dk_at dksL_law_69 2 rfl rfl)
theorem dL_law_1813 : decode cL_law 1813 = .ok (.iadd, 1) := dk_96 (dk_at dksL_law_69 3 rfl rfl)
theorem dL_law_1814 : decode cL_law 1814 = .ok (.iaload, 1) := dk_46 (dk_at dksL_law_69 4 rfl rfl)
theorem dL_law_1815 : decode cL_law 1815 = .ok (.invokevirtual 255, 3) := dk_182 0 255 (dk_at dksL_law_69 5 rfl rfl)
theorem dL_law_1818 : decode cL_law 1818 = .ok (.lstore 6, 2) := dk_55 6 (dk_at dksL_law_69 8 rfl rfl)
theorem dL_law_1820 : decode cL_law 1820 = .ok (.aload_n 2, 1) := dk_44 (dk_at dksL_law_69 10 rfl rfl)
theorem dL_law_1821 : decode cL_law 1821 = .ok (.invokevirtual 168, 3) := dk_182 0 168 (dk_at dksL_law_69 11 rfl rfl)
theorem dL_law_1824 : decode cL_law 1824 = .ok (.iload 5, 2) := dk_21 5 (dk_at dksL_law_69 14 rfl rfl)
theorem dL_law_1826 : decode cL_law 1826 = .ok (.if_icmp .eq 5, 3) := dk_159 0 5 (dk_at dksL_law_69 16 rfl rfl)
theorem dL_law_1829 : decode cL_law 1829 = .ok (.iconst 0, 1) := dk_3 (dk_at dksL_law_69 19 rfl rfl)
theorem dL_law_1830 : decode cL_law 1830 = .ok (.ireturn, 1) := dk_172 (dk_at dksL_law_69 20 rfl rfl)
theorem dL_law_1831 : decode cL_law 1831 = .ok (.iload 5, 2) := dk_21 5 (dk_at dksL_law_69 21 rfl rfl)
theorem dL_law_1833 : decode cL_law 1833 = .ok (.ifCond .ne 14, 3) := dk_154 0 14 (dk_at dksL_law_70 0 rfl rfl)
theorem dL_law_1836 : decode cL_law 1836 = .ok (.aload_n 3, 1) := dk_45 (dk_at dksL_law_70 3 rfl rfl)
theorem dL_law_1837 : decode cL_law 1837 = .ok (.iconst 0, 1) := dk_3 (dk_at dksL_law_70 4 rfl rfl)
theorem dL_law_1838 : decode cL_law 1838 = .ok (.laload, 1) := dk_47 (dk_at dksL_law_70 5 rfl rfl)
theorem dL_law_1839 : decode cL_law 1839 = .ok (.lload 6, 2) := dk_22 6 (dk_at dksL_law_70 6 rfl rfl)
theorem dL_law_1841 : decode cL_law 1841 = .ok (.lcmp, 1) := dk_148 (dk_at dksL_law_70 8 rfl rfl)
theorem dL_law_1842 : decode cL_law 1842 = .ok (.ifCond .eq 5, 3) := dk_153 0 5 (dk_at dksL_law_70 9 rfl rfl)
theorem dL_law_1845 : decode cL_law 1845 = .ok (.iconst 0, 1) := dk_3 (dk_at dksL_law_70 12 rfl rfl)
theorem dL_law_1846 : decode cL_law 1846 = .ok (.ireturn, 1) := dk_172 (dk_at dksL_law_70 13 rfl rfl)
theorem dL_law_1847 : decode cL_law 1847 = .ok (.goto 1170, 3) := dk_167 4 146 (dk_at dksL_law_70 14 rfl rfl)
theorem dL_law_1850 : decode cL_law 1850 = .ok (.aload_n 1, 1) := dk_43 (dk_at dksL_law_70 17 rfl rfl)
theorem dL_law_1851 : decode cL_law 1851 = .ok (.aload_n 0, 1) := dk_42 (dk_at dksL_law_70 18 rfl rfl)
theorem dL_law_1852 : decode cL_law 1852 = .ok (.iload 4, 2) := dk_21 4 (dk_at dksL_law_70 19 rfl rfl)
theorem dL_law_1854 : decode cL_law 1854 = .ok (.iconst 1, 1) := dk_4 (dk_at dksL_law_70 21 rfl rfl)
theorem dL_law_1855 : decode cL_law 1855 = .ok (.iadd, 1) := dk_96 (dk_at dksL_law_70 22 rfl rfl)
theorem dL_law_1856 : decode cL_law 1856 = .ok (.iaload, 1) := dk_46 (dk_at dksL_law_70 23 rfl rfl)
theorem dL_law_1857 : decode cL_law 1857 = .ok (.aload_n 3, 1) := dk_45 (dk_at dksL_law_71 0 rfl rfl)
theorem dL_law_1858 : decode cL_law 1858 = .ok (.invokestatic 256, 3) := dk_184 1 0 (dk_at dksL_law_71 1 rfl rfl)
theorem dL_law_1861 : decode cL_law 1861 = .ok (.istore 5, 2) := dk_54 5 (dk_at dksL_law_71 4 rfl rfl)
theorem dL_law_1863 : decode cL_law 1863 = .ok (.aload_n 2, 1) := dk_44 (dk_at dksL_law_71 6 rfl rfl)
theorem dL_law_1864 : decode cL_law 1864 = .ok (.aload_n 0, 1) := dk_42 (dk_at dksL_law_71 7 rfl rfl)
theorem dL_law_1865 : decode cL_law 1865 = .ok (.iload 4, 2) := dk_21 4 (dk_at dksL_law_71 8 rfl rfl)
theorem dL_law_1867 : decode cL_law 1867 = .ok (.iconst 1, 1) := dk_4 (dk_at dksL_law_71 10 rfl rfl)
theorem dL_law_1868 : decode cL_law 1868 = .ok (.iadd, 1) := dk_96 (dk_at dksL_law_71 11 rfl rfl)
theorem dL_law_1869 : decode cL_law 1869 = .ok (.iaload, 1) := dk_46 (dk_at dksL_law_71 12 rfl rfl)
theorem dL_law_1870 : decode cL_law 1870 = .ok (.invokevirtual 258, 3) := dk_182 1 2 (dk_at dksL_law_71 13 rfl rfl)
theorem dL_law_1873 : decode cL_law 1873 = .ok (.istore 6, 2) := dk_54 6 (dk_at dksL_law_71 16 rfl rfl)
theorem dL_law_1875 : decode cL_law 1875 = .ok (.aload_n 2, 1) := dk_44 (dk_at dksL_law_71 18 rfl rfl)
theorem dL_law_1876 : decode cL_law 1876 = .ok (.invokevirtual 168, 3) := dk_182 0 168 (dk_at dksL_law_71 19 rfl rfl)
theorem dL_law_1879 : decode cL_law 1879 = .ok (.iload 5, 2) := dk_21 5 (dk_at dksL_law_71 22 rfl rfl)
theorem dL_law_1881 : decode cL_law 1881 = .ok (.if_icmp .eq 5, 3) := dk_159 0 5 (dk_at dksL_law_72 0 rfl rfl)
theorem dL_law_1884 : decode cL_law 1884 = .ok (.iconst 0, 1) := dk_3 (dk_at dksL_law_72 3 rfl rfl)
theorem dL_law_1885 : decode cL_law 1885 = .ok (.ireturn, 1) := dk_172 (dk_at dksL_law_72 4 rfl rfl)
theorem dL_law_1886 : decode cL_law 1886 = .ok (.iload 5, 2) := dk_21 5 (dk_at dksL_law_72 5 rfl rfl)
theorem dL_law_1888 : decode cL_law 1888 = .ok (.ifCond .ne 15, 3) := dk_154 0 15 (dk_at dksL_law_72 7 rfl rfl)
theorem dL_law_1891 : decode cL_law 1891 = .ok (.aload_n 3, 1) := dk_45 (dk_at dksL_law_72 10 rfl rfl)
theorem dL_law_1892 : decode cL_law 1892 = .ok (.iconst 0, 1) := dk_3 (dk_at dksL_law_72 11 rfl rfl)
theorem dL_law_1893 : decode cL_law 1893 = .ok (.laload, 1) := dk_47 (dk_at dksL_law_72 12 rfl rfl)
theorem dL_law_1894 : decode cL_law 1894 = .ok (.iload 6, 2) := dk_21 6 (dk_at dksL_law_72 13 rfl rfl)
theorem dL_law_1896 : decode cL_law 1896 = .ok (.i2l, 1) := dk_133 (dk_at dksL_law_72 15 rfl rfl)
theorem dL_law_1897 : decode cL_law 1897 = .ok (.lcmp, 1) := dk_148 (dk_at dksL_law_72 16 rfl rfl)
theorem dL_law_1898 : decode cL_law 1898 = .ok (.ifCond .eq 5, 3) := dk_153 0 5 (dk_at dksL_law_72 17 rfl rfl)
theorem dL_law_1901 : decode cL_law 1901 = .ok (.iconst 0, 1) := dk_3 (dk_at dksL_law_72 20 rfl rfl)
theorem dL_law_1902 : decode cL_law 1902 = .ok (.ireturn, 1) := dk_172 (dk_at dksL_law_72 21 rfl rfl)
theorem dL_law_1903 : decode cL_law 1903 = .ok (.goto 1114, 3) := dk_167 4 90 (dk_at dksL_law_73 0 rfl rfl)
theorem dL_law_1906 : decode cL_law 1906 = .ok (.aload_n 1, 1) := dk_43 (dk_at dksL_law_73 3 rfl rfl)
theorem dL_law_1907 : decode cL_law 1907 = .ok (.aload_n 0, 1) := dk_42 (dk_at dksL_law_73 4 rfl rfl)
theorem dL_law_1908 : decode cL_law 1908 = .ok (.iload 4, 2) := dk_21 4 (dk_at dksL_law_73 5 rfl rfl)
theorem dL_law_1910 : decode cL_law 1910 = .ok (.iconst 1, 1) := dk_4 (dk_at dksL_law_73 7 rfl rfl)
theorem dL_law_1911 : decode cL_law 1911 = .ok (.iadd, 1) := dk_96 (dk_at dksL_law_73 8 rfl rfl)
theorem dL_law_1912 : decode cL_law 1912 = .ok (.iaload, 1) := dk_46 (dk_at dksL_law_73 9 rfl rfl)
theorem dL_law_1913 : decode cL_law 1913 = .ok (.aload_n 3, 1) := dk_45 (dk_at dksL_law_73 10 rfl rfl)
theorem dL_law_1914 : decode cL_law 1914 = .ok (.invokestatic 259, 3) := dk_184 1 3 (dk_at dksL_law_73 11 rfl rfl)
theorem dL_law_1917 : decode cL_law 1917 = .ok (.istore 5, 2) := dk_54 5 (dk_at dksL_law_73 14 rfl rfl)
theorem dL_law_1919 : decode cL_law 1919 = .ok (.aload_n 2, 1) := dk_44 (dk_at dksL_law_73 16 rfl rfl)
theorem dL_law_1920 : decode cL_law 1920 = .ok (.aload_n 0, 1) := dk_42 (dk_at dksL_law_73 17 rfl rfl)
theorem dL_law_1921 : decode cL_law 1921 = .ok (.iload 4, 2) := dk_21 4 (dk_at dksL_law_73 18 rfl rfl)
theorem dL_law_1923 : decode cL_law 1923 = .ok (.iconst 1, 1) := dk_4 (dk_at dksL_law_73 20 rfl rfl)
theorem dL_law_1924 : decode cL_law 1924 = .ok (.iadd, 1) := dk_96 (dk_at dksL_law_73 21 rfl rfl)
theorem dL_law_1925 : decode cL_law 1925 = .ok (.iaload, 1) := dk_46 (dk_at dksL_law_73 22 rfl rfl)
theorem dL_law_1926 : decode cL_law 1926 = .ok (.invokevirtual 261, 3) := dk_182 1 5 (dk_at dksL_law_74 0 rfl rfl)
theorem dL_law_1929 : decode cL_law 1929 = .ok (.istore 6, 2) := dk_54 6 (dk_at dksL_law_74 3 rfl rfl)
theorem dL_law_1931 : decode cL_law 1931 = .ok (.aload_n 2, 1) := dk_44 (dk_at dksL_law_74 5 rfl rfl)
theorem dL_law_1932 : decode cL_law 1932 = .ok (.invokevirtual 168, 3) := dk_182 0 168 (dk_at dksL_law_74 6 rfl rfl)
theorem dL_law_1935 : decode cL_law 1935 = .ok (.iload 5, 2) := dk_21 5 (dk_at dksL_law_74 9 rfl rfl)
theorem dL_law_1937 : decode cL_law 1937 = .ok (.if_icmp .eq 5, 3) := dk_159 0 5 (dk_at dksL_law_74 11 rfl rfl)
theorem dL_law_1940 : decode cL_law 1940 = .ok (.iconst 0, 1) := dk_3 (dk_at dksL_law_74 14 rfl rfl)
theorem dL_law_1941 : decode cL_law 1941 = .ok (.ireturn, 1) := dk_172 (dk_at dksL_law_74 15 rfl rfl)
theorem dL_law_1942 : decode cL_law 1942 = .ok (.iload 5, 2) := dk_21 5 (dk_at dksL_law_74 16 rfl rfl)
theorem dL_law_1944 : decode cL_law 1944 = .ok (.ifCond .ne 15, 3) := dk_154 0 15 (dk_at dksL_law_74 18 rfl rfl)
theorem dL_law_1947 : decode cL_law 1947 = .ok (.aload_n 3, 1) := dk_45 (dk_at dksL_law_74 21 rfl rfl)
theorem dL_law_1948 : decode cL_law 1948 = .ok (.iconst 0, 1) := dk_3 (dk_at dksL_law_74 22 rfl rfl)
theorem dL_law_1949 : decode cL_law 1949 = .ok (.laload, 1) := dk_47 (dk_at dksL_law_74 23 rfl rfl)
theorem dL_law_1950 : decode cL_law 1950 = .ok (.iload 6, 2) := dk_21 6 (dk_at dksL_law_75 0 rfl rfl)
theorem dL_law_1952 : decode cL_law 1952 = .ok (.i2l, 1) := dk_133 (dk_at dksL_law_75 2 rfl rfl)
theorem dL_law_1953 : decode cL_law 1953 = .ok (.lcmp, 1) := dk_148 (dk_at dksL_law_75 3 rfl rfl)
theorem dL_law_1954 : decode cL_law 1954 = .ok (.ifCond .eq 5, 3) := dk_153 0 5 (dk_at dksL_law_75 4 rfl rfl)
theorem dL_law_1957 : decode cL_law 1957 = .ok (.iconst 0, 1) := dk_3 (dk_at dksL_law_75 7 rfl rfl)
theorem dL_law_1958 : decode cL_law 1958 = .ok (.ireturn, 1) := dk_172 (dk_at dksL_law_75 8 rfl rfl)
theorem dL_law_1959 : decode cL_law 1959 = .ok (.goto 1058, 3) := dk_167 4 34 (dk_at dksL_law_75 9 rfl rfl)
theorem dL_law_1962 : decode cL_law 1962 = .ok (.aload_n 1, 1) := dk_43 (dk_at dksL_law_75 12 rfl rfl)
theorem dL_law_1963 : decode cL_law 1963 = .ok (.aload_n 0, 1) := dk_42 (dk_at dksL_law_75 13 rfl rfl)
theorem dL_law_1964 : decode cL_law 1964 = .ok (.iload 4, 2) := dk_21 4 (dk_at dksL_law_75 14 rfl rfl)
theorem dL_law_1966 : decode cL_law 1966 = .ok (.iconst 1, 1) := dk_4 (dk_at dksL_law_75 16 rfl rfl)
theorem dL_law_1967 : decode cL_law 1967 = .ok (.iadd, 1) := dk_96 (dk_at dksL_law_75 17 rfl rfl)
theorem dL_law_1968 : decode cL_law 1968 = .ok (.iaload, 1) := dk_46 (dk_at dksL_law_75 18 rfl rfl)
theorem dL_law_1969 : decode cL_law 1969 = .ok (.aload_n 0, 1) := dk_42 (dk_at dksL_law_75 19 rfl rfl)
theorem dL_law_1970 : decode cL_law 1970 = .ok (.iload 4, 2) := dk_21 4 (dk_at dksL_law_75 20 rfl rfl)
theorem dL_law_1972 : decode cL_law 1972 = .ok (.iconst 2, 1) := dk_5 (dk_at dksL_law_75 22 rfl rfl)
theorem dL_law_1973 : decode cL_law 1973 = .ok (.iadd, 1) := dk_96 (dk_at dksL_law_75 23 rfl rfl)
theorem dL_law_1974 : decode cL_law 1974 = .ok (.iaload, 1) := dk_46 (dk_at dksL_law_76 0 rfl rfl)
theorem dL_law_1975 : decode cL_law 1975 = .ok (.aload_n 0, 1) := dk_42 (dk_at dksL_law_76 1 rfl rfl)
theorem dL_law_1976 : decode cL_law 1976 = .ok (.iload 4, 2) := dk_21 4 (dk_at dksL_law_76 2 rfl rfl)
theorem dL_law_1978 : decode cL_law 1978 = .ok (.iconst 3, 1) := dk_6 (dk_at dksL_law_76 4 rfl rfl)
theorem dL_law_1979 : decode cL_law 1979 = .ok (.iadd, 1) := dk_96 (dk_at dksL_law_76 5 rfl rfl)
theorem dL_law_1980 : decode cL_law 1980 = .ok (.iaload, 1) := dk_46 (dk_at dksL_law_76 6 rfl rfl)
theorem dL_law_1981 : decode cL_law 1981 = .ok (.aload_n 3, 1) := dk_45 (dk_at dksL_law_76 7 rfl rfl)
theorem dL_law_1982 : decode cL_law 1982 = .ok (.invokestatic 262, 3) := dk_184 1 6 (dk_at dksL_law_76 8 rfl rfl)
theorem dL_law_1985 : decode cL_law 1985 = .ok (.istore 5, 2) := dk_54 5 (dk_at dksL_law_76 11 rfl rfl)
theorem dL_law_1987 : decode cL_law 1987 = .ok (.aload_n 2, 1) := dk_44 (dk_at dksL_law_76 13 rfl rfl)
theorem dL_law_1988 : decode cL_law 1988 = .ok (.aload_n 0, 1) := dk_42 (dk_at dksL_law_76 14 rfl rfl)
theorem dL_law_1989 : decode cL_law 1989 = .ok (.iload 4, 2) := dk_21 4 (dk_at dksL_law_76 15 rfl rfl)
theorem dL_law_1991 : decode cL_law 1991 = .ok (.iconst 1, 1) := dk_4 (dk_at dksL_law_76 17 rfl rfl)
theorem dL_law_1992 : decode cL_law 1992 = .ok (.iadd, 1) := dk_96 (dk_at dksL_law_76 18 rfl rfl)
theorem dL_law_1993 : decode cL_law 1993 = .ok (.iaload, 1) := dk_46 (dk_at dksL_law_76 19 rfl rfl)
theorem dL_law_1994 : decode cL_law 1994 = .ok (.aload_n 0, 1) := dk_42 (dk_at dksL_law_76 20 rfl rfl)
theorem dL_law_1995 : decode cL_law 1995 = .ok (.iload 4, 2) := dk_21 4 (dk_at dksL_law_76 21 rfl rfl)
theorem dL_law_1997 : decode cL_law 1997 = .ok (.iconst 2, 1) := dk_5 (dk_at dksL_law_76 23 rfl rfl)
theorem dL_law_1998 : decode cL_law 1998 = .ok (.iadd, 1) := dk_96 (dk_at dksL_law_77 0 rfl rfl)
theorem dL_law_1999 : decode cL_law 1999 = .ok (.iaload, 1) := dk_46 (dk_at dksL_law_77 1 rfl rfl)
theorem dL_law_2000 : decode cL_law 2000 = .ok (.aload_n 0, 1) := dk_42 (dk_at dksL_law_77 2 rfl rfl)
theorem dL_law_2001 : decode cL_law 2001 = .ok (.iload 4, 2) := dk_21 4 (dk_at dksL_law_77 3 rfl rfl)
theorem dL_law_2003 : decode cL_law 2003 = .ok (.iconst 3, 1) := dk_6 (dk_at dksL_law_77 5 rfl rfl)
theorem dL_law_2004 : decode cL_law 2004 = .ok (.iadd, 1) := dk_96 (dk_at dksL_law_77 6 rfl rfl)
theorem dL_law_2005 : decode cL_law 2005 = .ok (.iaload, 1) := dk_46 (dk_at dksL_law_77 7 rfl rfl)
theorem dL_law_2006 : decode cL_law 2006 = .ok (.invokevirtual 264, 3) := dk_182 1 8 (dk_at dksL_law_77 8 rfl rfl)
theorem dL_law_2009 : decode cL_law 2009 = .ok (.istore 6, 2) := dk_54 6 (dk_at dksL_law_77 11 rfl rfl)
theorem dL_law_2011 : decode cL_law 2011 = .ok (.aload_n 2, 1) := dk_44 (dk_at dksL_law_77 13 rfl rfl)
theorem dL_law_2012 : decode cL_law 2012 = .ok (.invokevirtual 168, 3) := dk_182 0 168 (dk_at dksL_law_77 14 rfl rfl)
theorem dL_law_2015 : decode cL_law 2015 = .ok (.iload 5, 2) := dk_21 5 (dk_at dksL_law_77 17 rfl rfl)
theorem dL_law_2017 : decode cL_law 2017 = .ok (.if_icmp .eq 5, 3) := dk_159 0 5 (dk_at dksL_law_77 19 rfl rfl)
theorem dL_law_2020 : decode cL_law 2020 = .ok (.iconst 0, 1) := dk_3 (dk_at dksL_law_77 22 rfl rfl)
theorem dL_law_2021 : decode cL_law 2021 = .ok (.ireturn, 1) := dk_172 (dk_at dksL_law_77 23 rfl rfl)
theorem dL_law_2022 : decode cL_law 2022 = .ok (.iload 5, 2) := dk_21 5 (dk_at dksL_law_78 0 rfl rfl)
theorem dL_law_2024 : decode cL_law 2024 = .ok (.ifCond .ne 22, 3) := dk_154 0 22 (dk_at dksL_law_78 2 rfl rfl)
theorem dL_law_2027 : decode cL_law 2027 = .ok (.aload_n 3, 1) := dk_45 (dk_at dksL_law_78 5 rfl rfl)
theorem dL_law_2028 : decode cL_law 2028 = .ok (.iconst 0, 1) := dk_3 (dk_at dksL_law_78 6 rfl rfl)
theorem dL_law_2029 : decode cL_law 2029 = .ok (.laload, 1) := dk_47 (dk_at dksL_law_78 7 rfl rfl)
theorem dL_law_2030 : decode cL_law 2030 = .ok (.iload 6, 2) := dk_21 6 (dk_at dksL_law_78 8 rfl rfl)
theorem dL_law_2032 : decode cL_law 2032 = .ok (.ifCond .eq 7, 3) := dk_153 0 7 (dk_at dksL_law_78 10 rfl rfl)
theorem dL_law_2035 : decode cL_law 2035 = .ok (.lconst 1, 1) := dk_10 (dk_at dksL_law_78 13 rfl rfl)
theorem dL_law_2036 : decode cL_law 2036 = .ok (.goto 4, 3) := dk_167 0 4 (dk_at dksL_law_78 14 rfl rfl)
theorem dL_law_2039 : decode cL_law 2039 = .ok (.lconst 0, 1) := dk_9 (dk_at dksL_law_78 17 rfl rfl)
theorem dL_law_2040 : decode cL_law 2040 = .ok (.lcmp, 1) := dk_148 (dk_at dksL_law_78 18 rfl rfl)
theorem dL_law_2041 : decode cL_law 2041 = .ok (.ifCond .eq 5, 3) := dk_153 0 5 (dk_at dksL_law_78 19 rfl rfl)
theorem dL_law_2044 : decode cL_law 2044 = .ok (.iconst 0, 1) := dk_3 (dk_at dksL_law_78 22 rfl rfl)
theorem dL_law_2045 : decode cL_law 2045 = .ok (.ireturn, 1) := dk_172 (dk_at dksL_law_78 23 rfl rfl)
theorem dL_law_2046 : decode cL_law 2046 = .ok (.goto 971, 3) := dk_167 3 203 (dk_at dksL_law_79 0 rfl rfl)
theorem dL_law_2049 : decode cL_law 2049 = .ok (.aload_n 1, 1) := dk_43 (dk_at dksL_law_79 3 rfl rfl)
theorem dL_law_2050 : decode cL_law 2050 = .ok (.aload_n 0, 1) := dk_42 (dk_at dksL_law_79 4 rfl rfl)
theorem dL_law_2051 : decode cL_law 2051 = .ok (.iload 4, 2) := dk_21 4 (dk_at dksL_law_79 5 rfl rfl)
theorem dL_law_2053 : decode cL_law 2053 = .ok (.iconst 1, 1) := dk_4 (dk_at dksL_law_79 7 rfl rfl)
theorem dL_law_2054 : decode cL_law 2054 = .ok (.iadd, 1) := dk_96 (dk_at dksL_law_79 8 rfl rfl)
theorem dL_law_2055 : decode cL_law 2055 = .ok (.iaload, 1) := dk_46 (dk_at dksL_law_79 9 rfl rfl)
theorem dL_law_2056 : decode cL_law 2056 = .ok (.aload_n 0, 1) := dk_42 (dk_at dksL_law_79 10 rfl rfl)
theorem dL_law_2057 : decode cL_law 2057 = .ok (.iload 4, 2) := dk_21 4 (dk_at dksL_law_79 11 rfl rfl)
theorem dL_law_2059 : decode cL_law 2059 = .ok (.iconst 2, 1) := dk_5 (dk_at dksL_law_79 13 rfl rfl)
theorem dL_law_2060 : decode cL_law 2060 = .ok (.iadd, 1) := dk_96 (dk_at dksL_law_79 14 rfl rfl)
theorem dL_law_2061 : decode cL_law 2061 = .ok (.iaload, 1) := dk_46 (dk_at dksL_law_79 15 rfl rfl)
theorem dL_law_2062 : decode cL_law 2062 = .ok (.aload_n 0, 1) := dk_42 (dk_at dksL_law_79 16 rfl rfl)
theorem dL_law_2063 : decode cL_law 2063 = .ok (.iload 4, 2) := dk_21 4 (dk_at dksL_law_79 17 rfl rfl)
theorem dL_law_2065 : decode cL_law 2065 = .ok (.iconst 3, 1) := dk_6 (dk_at dksL_law_79 19 rfl rfl)
theorem dL_law_2066 : decode cL_law 2066 = .ok (.iadd, 1) := dk_96 (dk_at dksL_law_79 20 rfl rfl)
theorem dL_law_2067 : decode cL_law 2067 = .ok (.iaload, 1) := dk_46 (dk_at dksL_law_79 21 rfl rfl)
theorem dL_law_2068 : decode cL_law 2068 = .ok (.aload_n 3, 1) := dk_45 (dk_at dksL_law_79 22 rfl rfl)
theorem dL_law_2069 : decode cL_law 2069 = .ok (.invokestatic 265, 3) := dk_184 1 9 (dk_at dksL_law_80 0 rfl rfl)
theorem dL_law_2072 : decode cL_law 2072 = .ok (.istore 5, 2) := dk_54 5 (dk_at dksL_law_80 3 rfl rfl)
theorem dL_law_2074 : decode cL_law 2074 = .ok (.aload_n 2, 1) := dk_44 (dk_at dksL_law_80 5 rfl rfl)
theorem dL_law_2075 : decode cL_law 2075 = .ok (.aload_n 0, 1) := dk_42 (dk_at dksL_law_80 6 rfl rfl)
theorem dL_law_2076 : decode cL_law 2076 = .ok (.iload 4, 2) := dk_21 4 (dk_at dksL_law_80 7 rfl rfl)
theorem dL_law_2078 : decode cL_law 2078 = .ok (.iconst 1, 1) := dk_4 (dk_at dksL_law_80 9 rfl rfl)
theorem dL_law_2079 : decode cL_law 2079 = .ok (.iadd, 1) := dk_96 (dk_at dksL_law_80 10 rfl rfl)
theorem dL_law_2080 : decode cL_law 2080 = .ok (.iaload, 1) := dk_46 (dk_at dksL_law_80 11 rfl rfl)
theorem dL_law_2081 : decode cL_law 2081 = .ok (.aload_n 0, 1) := dk_42 (dk_at dksL_law_80 12 rfl rfl)
theorem dL_law_2082 : decode cL_law 2082 = .ok (.iload 4, 2) := dk_21 4 (dk_at dksL_law_80 13 rfl rfl)
theorem dL_law_2084 : decode cL_law 2084 = .ok (.iconst 2, 1) := dk_5 (dk_at dksL_law_80 15 rfl rfl)
theorem dL_law_2085 : decode cL_law 2085 = .ok (.iadd, 1) := dk_96 (dk_at dksL_law_80 16 rfl rfl)
theorem dL_law_2086 : decode cL_law 2086 = .ok (.iaload, 1) := dk_46 (dk_at dksL_law_80 17 rfl rfl)
theorem dL_law_2087 : decode cL_law 2087 = .ok (.aload_n 0, 1) := dk_42 (dk_at dksL_law_80 18 rfl rfl)
theorem dL_law_2088 : decode cL_law 2088 = .ok (.iload 4, 2) := dk_21 4 (dk_at dksL_law_80 19 rfl rfl)
theorem dL_law_2090 : decode cL_law 2090 = .ok (.iconst 3, 1) := dk_6 (dk_at dksL_law_80 21 rfl rfl)
theorem dL_law_2091 : decode cL_law 2091 = .ok (.iadd, 1) := dk_96 (dk_at dksL_law_80 22 rfl rfl)
theorem dL_law_2092 : decode cL_law 2092 = .ok (.iaload, 1) := dk_46 (dk_at dksL_law_80 23 rfl rfl)
theorem dL_law_2093 : decode cL_law 2093 = .ok (.invokevirtual 267, 3) := dk_182 1 11 (dk_at dksL_law_81 0 rfl rfl)
theorem dL_law_2096 : decode cL_law 2096 = .ok (.istore 6, 2) := dk_54 6 (dk_at dksL_law_81 3 rfl rfl)
theorem dL_law_2098 : decode cL_law 2098 = .ok (.aload_n 2, 1) := dk_44 (dk_at dksL_law_81 5 rfl rfl)
theorem dL_law_2099 : decode cL_law 2099 = .ok (.invokevirtual 168, 3) := dk_182 0 168 (dk_at dksL_law_81 6 rfl rfl)
theorem dL_law_2102 : decode cL_law 2102 = .ok (.iload 5, 2) := dk_21 5 (dk_at dksL_law_81 9 rfl rfl)
theorem dL_law_2104 : decode cL_law 2104 = .ok (.if_icmp .eq 5, 3) := dk_159 0 5 (dk_at dksL_law_81 11 rfl rfl)
theorem dL_law_2107 : decode cL_law 2107 = .ok (.iconst 0, 1) := dk_3 (dk_at dksL_law_81 14 rfl rfl)
theorem dL_law_2108 : decode cL_law 2108 = .ok (.ireturn, 1) := dk_172 (dk_at dksL_law_81 15 rfl rfl)
theorem dL_law_2109 : decode cL_law 2109 = .ok (.iload 5, 2) := dk_21 5 (dk_at dksL_law_81 16 rfl rfl)
theorem dL_law_2111 : decode cL_law 2111 = .ok (.ifCond .ne 15, 3) := dk_154 0 15 (dk_at dksL_law_81 18 rfl rfl)
theorem dL_law_2114 : decode cL_law 2114 = .ok (.aload_n 3, 1) := dk_45 (dk_at dksL_law_81 21 rfl rfl)
theorem dL_law_2115 : decode cL_law 2115 = .ok (.iconst 0, 1) := dk_3 (dk_at dksL_law_81 22 rfl rfl)
theorem dL_law_2116 : decode cL_law 2116 = .ok (.laload, 1) := dk_47 (dk_at dksL_law_81 23 rfl rfl)
theorem dL_law_2117 : decode cL_law 2117 = .ok (.iload 6, 2) := dk_21 6 (dk_at dksL_law_82 0 rfl rfl)
theorem dL_law_2119 : decode cL_law 2119 = .ok (.i2l, 1) := dk_133 (dk_at dksL_law_82 2 rfl rfl)
theorem dL_law_2120 : decode cL_law 2120 = .ok (.lcmp, 1) := dk_148 (dk_at dksL_law_82 3 rfl rfl)
theorem dL_law_2121 : decode cL_law 2121 = .ok (.ifCond .eq 5, 3) := dk_153 0 5 (dk_at dksL_law_82 4 rfl rfl)
theorem dL_law_2124 : decode cL_law 2124 = .ok (.iconst 0, 1) := dk_3 (dk_at dksL_law_82 7 rfl rfl)
theorem dL_law_2125 : decode cL_law 2125 = .ok (.ireturn, 1) := dk_172 (dk_at dksL_law_82 8 rfl rfl)
theorem dL_law_2126 : decode cL_law 2126 = .ok (.goto 891, 3) := dk_167 3 123 (dk_at dksL_law_82 9 rfl rfl)
theorem dL_law_2129 : decode cL_law 2129 = .ok (.aload_n 1, 1) := dk_43 (dk_at dksL_law_82 12 rfl rfl)
theorem dL_law_2130 : decode cL_law 2130 = .ok (.aload_n 0, 1) := dk_42 (dk_at dksL_law_82 13 rfl rfl)
theorem dL_law_2131 : decode cL_law 2131 = .ok (.iload 4, 2) := dk_21 4 (dk_at dksL_law_82 14 rfl rfl)
theorem dL_law_2133 : decode cL_law 2133 = .ok (.iconst 1, 1) := dk_4 (dk_at dksL_law_82 16 rfl rfl)
theorem dL_law_2134 : decode cL_law 2134 = .ok (.iadd, 1) := dk_96 (dk_at dksL_law_82 17 rfl rfl)
theorem dL_law_2135 : decode cL_law 2135 = .ok (.iaload, 1) := dk_46 (dk_at dksL_law_82 18 rfl rfl)
theorem dL_law_2136 : decode cL_law 2136 = .ok (.aload_n 0, 1) := dk_42 (dk_at dksL_law_82 19 rfl rfl)
theorem dL_law_2137 : decode cL_law 2137 = .ok (.iload 4, 2) := dk_21 4 (dk_at dksL_law_82 20 rfl rfl)
theorem dL_law_2139 : decode cL_law 2139 = .ok (.iconst 2, 1) := dk_5 (dk_at dksL_law_82 22 rfl rfl)
theorem dL_law_2140 : decode cL_law 2140 = .ok (.iadd, 1) := dk_96 (dk_at dksL_law_82 23 rfl rfl)
theorem dL_law_2141 : decode cL_law 2141 = .ok (.iaload, 1) := dk_46 (dk_at dksL_law_83 0 rfl rfl)
theorem dL_law_2142 : decode cL_law 2142 = .ok (.aload_n 0, 1) := dk_42 (dk_at dksL_law_83 1 rfl rfl)
theorem dL_law_2143 : decode cL_law 2143 = .ok (.iload 4, 2) := dk_21 4 (dk_at dksL_law_83 2 rfl rfl)
theorem dL_law_2145 : decode cL_law 2145 = .ok (.iconst 3, 1) := dk_6 (dk_at dksL_law_83 4 rfl rfl)
theorem dL_law_2146 : decode cL_law 2146 = .ok (.iadd, 1) := dk_96 (dk_at dksL_law_83 5 rfl rfl)
theorem dL_law_2147 : decode cL_law 2147 = .ok (.iaload, 1) := dk_46 (dk_at dksL_law_83 6 rfl rfl)
theorem dL_law_2148 : decode cL_law 2148 = .ok (.aload_n 3, 1) := dk_45 (dk_at dksL_law_83 7 rfl rfl)
theorem dL_law_2149 : decode cL_law 2149 = .ok (.invokestatic 268, 3) := dk_184 1 12 (dk_at dksL_law_83 8 rfl rfl)
theorem dL_law_2152 : decode cL_law 2152 = .ok (.istore 5, 2) := dk_54 5 (dk_at dksL_law_83 11 rfl rfl)
theorem dL_law_2154 : decode cL_law 2154 = .ok (.aload_n 2, 1) := dk_44 (dk_at dksL_law_83 13 rfl rfl)
theorem dL_law_2155 : decode cL_law 2155 = .ok (.aload_n 0, 1) := dk_42 (dk_at dksL_law_83 14 rfl rfl)
theorem dL_law_2156 : decode cL_law 2156 = .ok (.iload 4, 2) := dk_21 4 (dk_at dksL_law_83 15 rfl rfl)
theorem dL_law_2158 : decode cL_law 2158 = .ok (.iconst 1, 1) := dk_4 (dk_at dksL_law_83 17 rfl rfl)
theorem dL_law_2159 : decode cL_law 2159 = .ok (.iadd, 1) := dk_96 (dk_at dksL_law_83 18 rfl rfl)
theorem dL_law_2160 : decode cL_law 2160 = .ok (.iaload, 1) := dk_46 (dk_at dksL_law_83 19 rfl rfl)
theorem dL_law_2161 : decode cL_law 2161 = .ok (.aload_n 0, 1) := dk_42 (dk_at dksL_law_83 20 rfl rfl)
theorem dL_law_2162 : decode cL_law 2162 = .ok (.iload 4, 2) := dk_21 4 (dk_at dksL_law_83 21 rfl rfl)
theorem dL_law_2164 : decode cL_law 2164 = .ok (.iconst 2, 1) := dk_5 (dk_at dksL_law_83 23 rfl rfl)
theorem dL_law_2165 : decode cL_law 2165 = .ok (.iadd, 1) := dk_96 (dk_at dksL_law_84 0 rfl rfl)
theorem dL_law_2166 : decode cL_law 2166 = .ok (.iaload, 1) := dk_46 (dk_at dksL_law_84 1 rfl rfl)
theorem dL_law_2167 : decode cL_law 2167 = .ok (.aload_n 0, 1) := dk_42 (dk_at dksL_law_84 2 rfl rfl)
theorem dL_law_2168 : decode cL_law 2168 = .ok (.iload 4, 2) := dk_21 4 (dk_at dksL_law_84 3 rfl rfl)
theorem dL_law_2170 : decode cL_law 2170 = .ok (.iconst 3, 1) := dk_6 (dk_at dksL_law_84 5 rfl rfl)
theorem dL_law_2171 : decode cL_law 2171 = .ok (.iadd, 1) := dk_96 (dk_at dksL_law_84 6 rfl rfl)
theorem dL_law_2172 : decode cL_law 2172 = .ok (.iaload, 1) := dk_46 (dk_at dksL_law_84 7 rfl rfl)
theorem dL_law_2173 : decode cL_law 2173 = .ok (.invokevirtual 270, 3) := dk_182 1 14 (dk_at dksL_law_84 8 rfl rfl)
theorem dL_law_2176 : decode cL_law 2176 = .ok (.istore 6, 2) := dk_54 6 (dk_at dksL_law_84 11 rfl rfl)
theorem dL_law_2178 : decode cL_law 2178 = .ok (.aload_n 2, 1) := dk_44 (dk_at dksL_law_84 13 rfl rfl)
theorem dL_law_2179 : decode cL_law 2179 = .ok (.invokevirtual 168, 3) := dk_182 0 168 (dk_at dksL_law_84 14 rfl rfl)
theorem dL_law_2182 : decode cL_law 2182 = .ok (.iload 5, 2) := dk_21 5 (dk_at dksL_law_84 17 rfl rfl)
theorem dL_law_2184 : decode cL_law 2184 = .ok (.if_icmp .eq 5, 3) := dk_159 0 5 (dk_at dksL_law_84 19 rfl rfl)
theorem dL_law_2187 : decode cL_law 2187 = .ok (.iconst 0, 1) := dk_3 (dk_at dksL_law_84 22 rfl rfl)
theorem dL_law_2188 : decode cL_law 2188 = .ok (.ireturn, 1) := dk_172 (dk_at dksL_law_84 23 rfl rfl)
theorem dL_law_2189 : decode cL_law 2189 = .ok (.iload 5, 2) := dk_21 5 (dk_at dksL_law_85 0 rfl rfl)
theorem dL_law_2191 : decode cL_law 2191 = .ok (.ifCond .ne 15, 3) := dk_154 0 15 (dk_at dksL_law_85 2 rfl rfl)
theorem dL_law_2194 : decode cL_law 2194 = .ok (.aload_n 3, 1) := dk_45 (dk_at dksL_law_85 5 rfl rfl)
theorem dL_law_2195 : decode cL_law 2195 = .ok (.iconst 0, 1) := dk_3 (dk_at dksL_law_85 6 rfl rfl)
theorem dL_law_2196 : decode cL_law 2196 = .ok (.laload, 1) := dk_47 (dk_at dksL_law_85 7 rfl rfl)
theorem dL_law_2197 : decode cL_law 2197 = .ok (.iload 6, 2) := dk_21 6 (dk_at dksL_law_85 8 rfl rfl)
theorem dL_law_2199 : decode cL_law 2199 = .ok (.i2l, 1) := dk_133 (dk_at dksL_law_85 10 rfl rfl)
theorem dL_law_2200 : decode cL_law 2200 = .ok (.lcmp, 1) := dk_148 (dk_at dksL_law_85 11 rfl rfl)
theorem dL_law_2201 : decode cL_law 2201 = .ok (.ifCond .eq 5, 3) := dk_153 0 5 (dk_at dksL_law_85 12 rfl rfl)
theorem dL_law_2204 : decode cL_law 2204 = .ok (.iconst 0, 1) := dk_3 (dk_at dksL_law_85 15 rfl rfl)
theorem dL_law_2205 : decode cL_law 2205 = .ok (.ireturn, 1) := dk_172 (dk_at dksL_law_85 16 rfl rfl)
theorem dL_law_2206 : decode cL_law 2206 = .ok (.goto 811, 3) := dk_167 3 43 (dk_at dksL_law_85 17 rfl rfl)
theorem dL_law_2209 : decode cL_law 2209 = .ok (.aload_n 1, 1) := dk_43 (dk_at dksL_law_85 20 rfl rfl)
theorem dL_law_2210 : decode cL_law 2210 = .ok (.aload_n 0, 1) := dk_42 (dk_at dksL_law_85 21 rfl rfl)
theorem dL_law_2211 : decode cL_law 2211 = .ok (.iload 4, 2) := dk_21 4 (dk_at dksL_law_85 22 rfl rfl)
theorem dL_law_2213 : decode cL_law 2213 = .ok (.iconst 1, 1) := dk_4 (dk_at dksL_law_86 0 rfl rfl)
theorem dL_law_2214 : decode cL_law 2214 = .ok (.iadd, 1) := dk_96 (dk_at dksL_law_86 1 rfl rfl)
theorem dL_law_2215 : decode cL_law 2215 = .ok (.iaload, 1) := dk_46 (dk_at dksL_law_86 2 rfl rfl)
theorem dL_law_2216 : decode cL_law 2216 = .ok (.aload_n 3, 1) := dk_45 (dk_at dksL_law_86 3 rfl rfl)
theorem dL_law_2217 : decode cL_law 2217 = .ok (.invokestatic 271, 3) := dk_184 1 15 (dk_at dksL_law_86 4 rfl rfl)
theorem dL_law_2220 : decode cL_law 2220 = .ok (.istore 5, 2) := dk_54 5 (dk_at dksL_law_86 7 rfl rfl)
theorem dL_law_2222 : decode cL_law 2222 = .ok (.aload_n 2, 1) := dk_44 (dk_at dksL_law_86 9 rfl rfl)
theorem dL_law_2223 : decode cL_law 2223 = .ok (.aload_n 0, 1) := dk_42 (dk_at dksL_law_86 10 rfl rfl)
theorem dL_law_2224 : decode cL_law 2224 = .ok (.iload 4, 2) := dk_21 4 (dk_at dksL_law_86 11 rfl rfl)
theorem dL_law_2226 : decode cL_law 2226 = .ok (.iconst 1, 1) := dk_4 (dk_at dksL_law_86 13 rfl rfl)
theorem dL_law_2227 : decode cL_law 2227 = .ok (.iadd, 1) := dk_96 (dk_at dksL_law_86 14 rfl rfl)
theorem dL_law_2228 : decode cL_law 2228 = .ok (.iaload, 1) := dk_46 (dk_at dksL_law_86 15 rfl rfl)
theorem dL_law_2229 : decode cL_law 2229 = .ok (.invokevirtual 273, 3) := dk_182 1 17 (dk_at dksL_law_86 16 rfl rfl)
theorem dL_law_2232 : decode cL_law 2232 = .ok (.lstore 6, 2) := dk_55 6 (dk_at dksL_law_86 19 rfl rfl)
theorem dL_law_2234 : decode cL_law 2234 = .ok (.aload_n 2, 1) := dk_44 (dk_at dksL_law_86 21 rfl rfl)
theorem dL_law_2235 : decode cL_law 2235 = .ok (.invokevirtual 168, 3) := dk_182 0 168 (dk_at dksL_law_87 0 rfl rfl)
theorem dL_law_2238 : decode cL_law 2238 = .ok (.iload 5, 2) := dk_21 5 (dk_at dksL_law_87 3 rfl rfl)
theorem dL_law_2240 : decode cL_law 2240 = .ok (.if_icmp .eq 5, 3) := dk_159 0 5 (dk_at dksL_law_87 5 rfl rfl)
theorem dL_law_2243 : decode cL_law 2243 = .ok (.iconst 0, 1) := dk_3 (dk_at dksL_law_87 8 rfl rfl)
theorem dL_law_2244 : decode cL_law 2244 = .ok (.ireturn, 1) := dk_172 (dk_at dksL_law_87 9 rfl rfl)
theorem dL_law_2245 : decode cL_law 2245 = .ok (.iload 5, 2) := dk_21 5 (dk_at dksL_law_87 10 rfl rfl)
theorem dL_law_2247 : decode cL_law 2247 = .ok (.ifCond .ne 14, 3) := dk_154 0 14 (dk_at dksL_law_87 12 rfl rfl)
theorem dL_law_2250 : decode cL_law 2250 = .ok (.aload_n 3, 1) := dk_45 (dk_at dksL_law_87 15 rfl rfl)
theorem dL_law_2251 : decode cL_law 2251 = .ok (.iconst 0, 1) := dk_3 (dk_at dksL_law_87 16 rfl rfl)
theorem dL_law_2252 : decode cL_law 2252 = .ok (.laload, 1) := dk_47 (dk_at dksL_law_87 17 rfl rfl)
theorem dL_law_2253 : decode cL_law 2253 = .ok (.lload 6, 2) := dk_22 6 (dk_at dksL_law_87 18 rfl rfl)
theorem dL_law_2255 : decode cL_law 2255 = .ok (.lcmp, 1) := dk_148 (dk_at dksL_law_87 20 rfl rfl)
theorem dL_law_2256 : decode cL_law 2256 = .ok (.ifCond .eq 5, 3) := dk_153 0 5 (dk_at dksL_law_87 21 rfl rfl)
theorem dL_law_2259 : decode cL_law 2259 = .ok (.iconst 0, 1) := dk_3 (dk_at dksL_law_88 0 rfl rfl)
theorem dL_law_2260 : decode cL_law 2260 = .ok (.ireturn, 1) := dk_172 (dk_at dksL_law_88 1 rfl rfl)
theorem dL_law_2261 : decode cL_law 2261 = .ok (.goto 756, 3) := dk_167 2 244 (dk_at dksL_law_88 2 rfl rfl)
theorem dL_law_2264 : decode cL_law 2264 = .ok (.aload_n 1, 1) := dk_43 (dk_at dksL_law_88 5 rfl rfl)
theorem dL_law_2265 : decode cL_law 2265 = .ok (.aload_n 0, 1) := dk_42 (dk_at dksL_law_88 6 rfl rfl)
theorem dL_law_2266 : decode cL_law 2266 = .ok (.iload 4, 2) := dk_21 4 (dk_at dksL_law_88 7 rfl rfl)
theorem dL_law_2268 : decode cL_law 2268 = .ok (.iconst 1, 1) := dk_4 (dk_at dksL_law_88 9 rfl rfl)
theorem dL_law_2269 : decode cL_law 2269 = .ok (.iadd, 1) := dk_96 (dk_at dksL_law_88 10 rfl rfl)
theorem dL_law_2270 : decode cL_law 2270 = .ok (.iaload, 1) := dk_46 (dk_at dksL_law_88 11 rfl rfl)
theorem dL_law_2271 : decode cL_law 2271 = .ok (.aload_n 3, 1) := dk_45 (dk_at dksL_law_88 12 rfl rfl)
theorem dL_law_2272 : decode cL_law 2272 = .ok (.invokestatic 274, 3) := dk_184 1 18 (dk_at dksL_law_88 13 rfl rfl)
theorem dL_law_2275 : decode cL_law 2275 = .ok (.istore 5, 2) := dk_54 5 (dk_at dksL_law_88 16 rfl rfl)
theorem dL_law_2277 : decode cL_law 2277 = .ok (.aload_n 2, 1) := dk_44 (dk_at dksL_law_88 18 rfl rfl)
theorem dL_law_2278 : decode cL_law 2278 = .ok (.aload_n 0, 1) := dk_42 (dk_at dksL_law_88 19 rfl rfl)
theorem dL_law_2279 : decode cL_law 2279 = .ok (.iload 4, 2) := dk_21 4 (dk_at dksL_law_88 20 rfl rfl)
theorem dL_law_2281 : decode cL_law 2281 = .ok (.iconst 1, 1) := dk_4 (dk_at dksL_law_88 22 rfl rfl)
theorem dL_law_2282 : decode cL_law 2282 = .ok (.iadd, 1) := dk_96 (dk_at dksL_law_88 23 rfl rfl)
theorem dL_law_2283 : decode cL_law 2283 = .ok (.iaload, 1) := dk_46 (dk_at dksL_law_89 0 rfl rfl)
theorem dL_law_2284 : decode cL_law 2284 = .ok (.invokevirtual 276, 3) := dk_182 1 20 (dk_at dksL_law_89 1 rfl rfl)
theorem dL_law_2287 : decode cL_law 2287 = .ok (.lstore 6, 2) := dk_55 6 (dk_at dksL_law_89 4 rfl rfl)
theorem dL_law_2289 : decode cL_law 2289 = .ok (.aload_n 2, 1) := dk_44 (dk_at dksL_law_89 6 rfl rfl)
theorem dL_law_2290 : decode cL_law 2290 = .ok (.invokevirtual 168, 3) := dk_182 0 168 (dk_at dksL_law_89 7 rfl rfl)
theorem dL_law_2293 : decode cL_law 2293 = .ok (.iload 5, 2) := dk_21 5 (dk_at dksL_law_89 10 rfl rfl)
theorem dL_law_2295 : decode cL_law 2295 = .ok (.if_icmp .eq 5, 3) := dk_159 0 5 (dk_at dksL_law_89 12 rfl rfl)
theorem dL_law_2298 : decode cL_law 2298 = .ok (.iconst 0, 1) := dk_3 (dk_at dksL_law_89 15 rfl rfl)
theorem dL_law_2299 : decode cL_law 2299 = .ok (.ireturn, 1) := dk_172 (dk_at dksL_law_89 16 rfl rfl)
theorem dL_law_2300 : decode cL_law 2300 = .ok (.iload 5, 2) := dk_21 5 (dk_at dksL_law_89 17 rfl rfl)
theorem dL_law_2302 : decode cL_law 2302 = .ok (.ifCond .ne 14, 3) := dk_154 0 14 (dk_at dksL_law_89 19 rfl rfl)
theorem dL_law_2305 : decode cL_law 2305 = .ok (.aload_n 3, 1) := dk_45 (dk_at dksL_law_89 22 rfl rfl)
theorem dL_law_2306 : decode cL_law 2306 = .ok (.iconst 0, 1) := dk_3 (dk_at dksL_law_89 23 rfl rfl)
theorem dL_law_2307 : decode cL_law 2307 = .ok (.laload, 1) := dk_47 (dk_at dksL_law_90 0 rfl rfl)
theorem dL_law_2308 : decode cL_law 2308 = .ok (.lload 6, 2) := dk_22 6 (dk_at dksL_law_90 1 rfl rfl)
theorem dL_law_2310 : decode cL_law 2310 = .ok (.lcmp, 1) := dk_148 (dk_at dksL_law_90 3 rfl rfl)
theorem dL_law_2311 : decode cL_law 2311 = .ok (.ifCond .eq 5, 3) := dk_153 0 5 (dk_at dksL_law_90 4 rfl rfl)
theorem dL_law_2314 : decode cL_law 2314 = .ok (.iconst 0, 1) := dk_3 (dk_at dksL_law_90 7 rfl rfl)
theorem dL_law_2315 : decode cL_law 2315 = .ok (.ireturn, 1) := dk_172 (dk_at dksL_law_90 8 rfl rfl)
theorem dL_law_2316 : decode cL_law 2316 = .ok (.goto 701, 3) := dk_167 2 189 (dk_at dksL_law_90 9 rfl rfl)
theorem dL_law_2319 : decode cL_law 2319 = .ok (.aload_n 1, 1) := dk_43 (dk_at dksL_law_90 12 rfl rfl)
theorem dL_law_2320 : decode cL_law 2320 = .ok (.aload_n 0, 1) := dk_42 (dk_at dksL_law_90 13 rfl rfl)
theorem dL_law_2321 : decode cL_law 2321 = .ok (.iload 4, 2) := dk_21 4 (dk_at dksL_law_90 14 rfl rfl)
theorem dL_law_2323 : decode cL_law 2323 = .ok (.iconst 1, 1) := dk_4 (dk_at dksL_law_90 16 rfl rfl)
theorem dL_law_2324 : decode cL_law 2324 = .ok (.iadd, 1) := dk_96 (dk_at dksL_law_90 17 rfl rfl)
theorem dL_law_2325 : decode cL_law 2325 = .ok (.iaload, 1) := dk_46 (dk_at dksL_law_90 18 rfl rfl)
theorem dL_law_2326 : decode cL_law 2326 = .ok (.aload_n 3, 1) := dk_45 (dk_at dksL_law_90 19 rfl rfl)
theorem dL_law_2327 : decode cL_law 2327 = .ok (.invokestatic 277, 3) := dk_184 1 21 (dk_at dksL_law_90 20 rfl rfl)
theorem dL_law_2330 : decode cL_law 2330 = .ok (.istore 5, 2) := dk_54 5 (dk_at dksL_law_91 0 rfl rfl)
theorem dL_law_2332 : decode cL_law 2332 = .ok (.aload_n 2, 1) := dk_44 (dk_at dksL_law_91 2 rfl rfl)
theorem dL_law_2333 : decode cL_law 2333 = .ok (.aload_n 0, 1) := dk_42 (dk_at dksL_law_91 3 rfl rfl)
theorem dL_law_2334 : decode cL_law 2334 = .ok (.iload 4, 2) := dk_21 4 (dk_at dksL_law_91 4 rfl rfl)
theorem dL_law_2336 : decode cL_law 2336 = .ok (.iconst 1, 1) := dk_4 (dk_at dksL_law_91 6 rfl rfl)
theorem dL_law_2337 : decode cL_law 2337 = .ok (.iadd, 1) := dk_96 (dk_at dksL_law_91 7 rfl rfl)
theorem dL_law_2338 : decode cL_law 2338 = .ok (.iaload, 1) := dk_46 (dk_at dksL_law_91 8 rfl rfl)
theorem dL_law_2339 : decode cL_law 2339 = .ok (.invokevirtual 279, 3) := dk_182 1 23 (dk_at dksL_law_91 9 rfl rfl)
theorem dL_law_2342 : decode cL_law 2342 = .ok (.istore 6, 2) := dk_54 6 (dk_at dksL_law_91 12 rfl rfl)
theorem dL_law_2344 : decode cL_law 2344 = .ok (.aload_n 2, 1) := dk_44 (dk_at dksL_law_91 14 rfl rfl)
theorem dL_law_2345 : decode cL_law 2345 = .ok (.invokevirtual 168, 3) := dk_182 0 168 (dk_at dksL_law_91 15 rfl rfl)
theorem dL_law_2348 : decode cL_law 2348 = .ok (.iload 5, 2) := dk_21 5 (dk_at dksL_law_91 18 rfl rfl)
theorem dL_law_2350 : decode cL_law 2350 = .ok (.if_icmp .eq 5, 3) := dk_159 0 5 (dk_at dksL_law_91 20 rfl rfl)
theorem dL_law_2353 : decode cL_law 2353 = .ok (.iconst 0, 1) := dk_3 (dk_at dksL_law_91 23 rfl rfl)
theorem dL_law_2354 : decode cL_law 2354 = .ok (.ireturn, 1) := dk_172 (dk_at dksL_law_92 0 rfl rfl)
theorem dL_law_2355 : decode cL_law 2355 = .ok (.iload 5, 2) := dk_21 5 (dk_at dksL_law_92 1 rfl rfl)
theorem dL_law_2357 : decode cL_law 2357 = .ok (.ifCond .ne 15, 3) := dk_154 0 15 (dk_at dksL_law_92 3 rfl rfl)
theorem dL_law_2360 : decode cL_law 2360 = .ok (.aload_n 3, 1) := dk_45 (dk_at dksL_law_92 6 rfl rfl)
theorem dL_law_2361 : decode cL_law 2361 = .ok (.iconst 0, 1) := dk_3 (dk_at dksL_law_92 7 rfl rfl)
theorem dL_law_2362 : decode cL_law 2362 = .ok (.laload, 1) := dk_47 (dk_at dksL_law_92 8 rfl rfl)
theorem dL_law_2363 : decode cL_law 2363 = .ok (.iload 6, 2) := dk_21 6 (dk_at dksL_law_92 9 rfl rfl)
theorem dL_law_2365 : decode cL_law 2365 = .ok (.i2l, 1) := dk_133 (dk_at dksL_law_92 11 rfl rfl)
theorem dL_law_2366 : decode cL_law 2366 = .ok (.lcmp, 1) := dk_148 (dk_at dksL_law_92 12 rfl rfl)
theorem dL_law_2367 : decode cL_law 2367 = .ok (.ifCond .eq 5, 3) := dk_153 0 5 (dk_at dksL_law_92 13 rfl rfl)
theorem dL_law_2370 : decode cL_law 2370 = .ok (.iconst 0, 1) := dk_3 (dk_at dksL_law_92 16 rfl rfl)
theorem dL_law_2371 : decode cL_law 2371 = .ok (.ireturn, 1) := dk_172 (dk_at dksL_law_92 17 rfl rfl)
theorem dL_law_2372 : decode cL_law 2372 = .ok (.goto 645, 3) := dk_167 2 133 (dk_at dksL_law_92 18 rfl rfl)
theorem dL_law_2375 : decode cL_law 2375 = .ok (.aload_n 1, 1) := dk_43 (dk_at dksL_law_92 21 rfl rfl)
theorem dL_law_2376 : decode cL_law 2376 = .ok (.aload_n 0, 1) := dk_42 (dk_at dksL_law_92 22 rfl rfl)
theorem dL_law_2377 : decode cL_law 2377 = .ok (.iload 4, 2) := dk_21 4 (dk_at dksL_law_93 0 rfl rfl)
theorem dL_law_2379 : decode cL_law 2379 = .ok (.iconst 1, 1) := dk_4 (dk_at dksL_law_93 2 rfl rfl)
theorem dL_law_2380 : decode cL_law 2380 = .ok (.iadd, 1) := dk_96 (dk_at dksL_law_93 3 rfl rfl)
theorem dL_law_2381 : decode cL_law 2381 = .ok (.iaload, 1) := dk_46 (dk_at dksL_law_93 4 rfl rfl)
theorem dL_law_2382 : decode cL_law 2382 = .ok (.aload_n 3, 1) := dk_45 (dk_at dksL_law_93 5 rfl rfl)
theorem dL_law_2383 : decode cL_law 2383 = .ok (.invokestatic 280, 3) := dk_184 1 24 (dk_at dksL_law_93 6 rfl rfl)
theorem dL_law_2386 : decode cL_law 2386 = .ok (.istore 5, 2) := dk_54 5 (dk_at dksL_law_93 9 rfl rfl)
theorem dL_law_2388 : decode cL_law 2388 = .ok (.aload_n 2, 1) := dk_44 (dk_at dksL_law_93 11 rfl rfl)
theorem dL_law_2389 : decode cL_law 2389 = .ok (.aload_n 0, 1) := dk_42 (dk_at dksL_law_93 12 rfl rfl)
theorem dL_law_2390 : decode cL_law 2390 = .ok (.iload 4, 2) := dk_21 4 (dk_at dksL_law_93 13 rfl rfl)
theorem dL_law_2392 : decode cL_law 2392 = .ok (.iconst 1, 1) := dk_4 (dk_at dksL_law_93 15 rfl rfl)
theorem dL_law_2393 : decode cL_law 2393 = .ok (.iadd, 1) := dk_96 (dk_at dksL_law_93 16 rfl rfl)
theorem dL_law_2394 : decode cL_law 2394 = .ok (.iaload, 1) := dk_46 (dk_at dksL_law_93 17 rfl rfl)
theorem dL_law_2395 : decode cL_law 2395 = .ok (.invokevirtual 282, 3) := dk_182 1 26 (dk_at dksL_law_93 18 rfl rfl)
theorem dL_law_2398 : decode cL_law 2398 = .ok (.lstore 6, 2) := dk_55 6 (dk_at dksL_law_93 21 rfl rfl)
theorem dL_law_2400 : decode cL_law 2400 = .ok (.aload_n 2, 1) := dk_44 (dk_at dksL_law_93 23 rfl rfl)
theorem dL_law_2401 : decode cL_law 2401 = .ok (.invokevirtual 168, 3) := dk_182 0 168 (dk_at dksL_law_94 0 rfl rfl)
theorem dL_law_2404 : decode cL_law 2404 = .ok (.iload 5, 2) := dk_21 5 (dk_at dksL_law_94 3 rfl rfl)
theorem dL_law_2406 : decode cL_law 2406 = .ok (.if_icmp .eq 5, 3) := dk_159 0 5 (dk_at dksL_law_94 5 rfl rfl)
theorem dL_law_2409 : decode cL_law 2409 = .ok (.iconst 0, 1) := dk_3 (dk_at dksL_law_94 8 rfl rfl)
theorem dL_law_2410 : decode cL_law 2410 = .ok (.ireturn, 1) := dk_172 (dk_at dksL_law_94 9 rfl rfl)
theorem dL_law_2411 : decode cL_law 2411 = .ok (.iload 5, 2) := dk_21 5 (dk_at dksL_law_94 10 rfl rfl)
theorem dL_law_2413 : decode cL_law 2413 = .ok (.ifCond .ne 14, 3) := dk_154 0 14 (dk_at dksL_law_94 12 rfl rfl)
theorem dL_law_2416 : decode cL_law 2416 = .ok (.aload_n 3, 1) := dk_45 (dk_at dksL_law_94 15 rfl rfl)
theorem dL_law_2417 : decode cL_law 2417 = .ok (.iconst 0, 1) := dk_3 (dk_at dksL_law_94 16 rfl rfl)
theorem dL_law_2418 : decode cL_law 2418 = .ok (.laload, 1) := dk_47 (dk_at dksL_law_94 17 rfl rfl)
theorem dL_law_2419 : decode cL_law 2419 = .ok (.lload 6, 2) := dk_22 6 (dk_at dksL_law_94 18 rfl rfl)
theorem dL_law_2421 : decode cL_law 2421 = .ok (.lcmp, 1) := dk_148 (dk_at dksL_law_94 20 rfl rfl)
theorem dL_law_2422 : decode cL_law 2422 = .ok (.ifCond .eq 5, 3) := dk_153 0 5 (dk_at dksL_law_94 21 rfl rfl)
theorem dL_law_2425 : decode cL_law 2425 = .ok (.iconst 0, 1) := dk_3 (dk_at dksL_law_95 0 rfl rfl)
theorem dL_law_2426 : decode cL_law 2426 = .ok (.ireturn, 1) := dk_172 (dk_at dksL_law_95 1 rfl rfl)
theorem dL_law_2427 : decode cL_law 2427 = .ok (.goto 590, 3) := dk_167 2 78 (dk_at dksL_law_95 2 rfl rfl)
theorem dL_law_2430 : decode cL_law 2430 = .ok (.aload_n 1, 1) := dk_43 (dk_at dksL_law_95 5 rfl rfl)
theorem dL_law_2431 : decode cL_law 2431 = .ok (.aload_n 0, 1) := dk_42 (dk_at dksL_law_95 6 rfl rfl)
theorem dL_law_2432 : decode cL_law 2432 = .ok (.iload 4, 2) := dk_21 4 (dk_at dksL_law_95 7 rfl rfl)
theorem dL_law_2434 : decode cL_law 2434 = .ok (.iconst 1, 1) := dk_4 (dk_at dksL_law_95 9 rfl rfl)
theorem dL_law_2435 : decode cL_law 2435 = .ok (.iadd, 1) := dk_96 (dk_at dksL_law_95 10 rfl rfl)
theorem dL_law_2436 : decode cL_law 2436 = .ok (.iaload, 1) := dk_46 (dk_at dksL_law_95 11 rfl rfl)
theorem dL_law_2437 : decode cL_law 2437 = .ok (.aload_n 0, 1) := dk_42 (dk_at dksL_law_95 12 rfl rfl)
theorem dL_law_2438 : decode cL_law 2438 = .ok (.iload 4, 2) := dk_21 4 (dk_at dksL_law_95 13 rfl rfl)
theorem dL_law_2440 : decode cL_law 2440 = .ok (.iconst 2, 1) := dk_5 (dk_at dksL_law_95 15 rfl rfl)
theorem dL_law_2441 : decode cL_law 2441 = .ok (.iadd, 1) := dk_96 (dk_at dksL_law_95 16 rfl rfl)
theorem dL_law_2442 : decode cL_law 2442 = .ok (.iaload, 1) := dk_46 (dk_at dksL_law_95 17 rfl rfl)
theorem dL_law_2443 : decode cL_law 2443 = .ok (.aload_n 0, 1) := dk_42 (dk_at dksL_law_95 18 rfl rfl)
theorem dL_law_2444 : decode cL_law 2444 = .ok (.iload 4, 2) := dk_21 4 (dk_at dksL_law_95 19 rfl rfl)
theorem dL_law_2446 : decode cL_law 2446 = .ok (.iconst 3, 1) := dk_6 (dk_at dksL_law_95 21 rfl rfl)
theorem dL_law_2447 : decode cL_law 2447 = .ok (.iadd, 1) := dk_96 (dk_at dksL_law_95 22 rfl rfl)
theorem dL_law_2448 : decode cL_law 2448 = .ok (.iaload, 1) := dk_46 (dk_at dksL_law_95 23 rfl rfl)
theorem dL_law_2449 : decode cL_law 2449 = .ok (.aload_n 3, 1) := dk_45 (dk_at dksL_law_96 0 rfl rfl)
theorem dL_law_2450 : decode cL_law 2450 = .ok (.invokestatic 283, 3) := dk_184 1 27 (dk_at dksL_law_96 1 rfl rfl)
theorem dL_law_2453 : decode cL_law 2453 = .ok (.istore 5, 2) := dk_54 5 (dk_at dksL_law_96 4 rfl rfl)
theorem dL_law_2455 : decode cL_law 2455 = .ok (.aload_n 2, 1) := dk_44 (dk_at dksL_law_96 6 rfl rfl)
theorem dL_law_2456 : decode cL_law 2456 = .ok (.aload_n 0, 1) := dk_42 (dk_at dksL_law_96 7 rfl rfl)
theorem dL_law_2457 : decode cL_law 2457 = .ok (.iload 4, 2) := dk_21 4 (dk_at dksL_law_96 8 rfl rfl)
theorem dL_law_2459 : decode cL_law 2459 = .ok (.iconst 1, 1) := dk_4 (dk_at dksL_law_96 10 rfl rfl)
theorem dL_law_2460 : decode cL_law 2460 = .ok (.iadd, 1) := dk_96 (dk_at dksL_law_96 11 rfl rfl)
theorem dL_law_2461 : decode cL_law 2461 = .ok (.iaload, 1) := dk_46 (dk_at dksL_law_96 12 rfl rfl)
theorem dL_law_2462 : decode cL_law 2462 = .ok (.aload_n 0, 1) := dk_42 (dk_at dksL_law_96 13 rfl rfl)
theorem dL_law_2463 : decode cL_law 2463 = .ok (.iload 4, 2) := dk_21 4 (dk_at dksL_law_96 14 rfl rfl)
theorem dL_law_2465 : decode cL_law 2465 = .ok (.iconst 2, 1) := dk_5 (dk_at dksL_law_96 16 rfl rfl)
theorem dL_law_2466 : decode cL_law 2466 = .ok (.iadd, 1) := dk_96 (dk_at dksL_law_96 17 rfl rfl)
theorem dL_law_2467 : decode cL_law 2467 = .ok (.iaload, 1) := dk_46 (dk_at dksL_law_96 18 rfl rfl)
theorem dL_law_2468 : decode cL_law 2468 = .ok (.aload_n 0, 1) := dk_42 (dk_at dksL_law_96 19 rfl rfl)
theorem dL_law_2469 : decode cL_law 2469 = .ok (.iload 4, 2) := dk_21 4 (dk_at dksL_law_96 20 rfl rfl)
theorem dL_law_2471 : decode cL_law 2471 = .ok (.iconst 3, 1) := dk_6 (dk_at dksL_law_96 22 rfl rfl)
theorem dL_law_2472 : decode cL_law 2472 = .ok (.iadd, 1) := dk_96 (dk_at dksL_law_96 23 rfl rfl)
theorem dL_law_2473 : decode cL_law 2473 = .ok (.iaload, 1) := dk_46 (dk_at dksL_law_97 0 rfl rfl)
theorem dL_law_2474 : decode cL_law 2474 = .ok (.invokevirtual 285, 3) := dk_182 1 29 (dk_at dksL_law_97 1 rfl rfl)
theorem dL_law_2477 : decode cL_law 2477 = .ok (.lstore 6, 2) := dk_55 6 (dk_at dksL_law_97 4 rfl rfl)
theorem dL_law_2479 : decode cL_law 2479 = .ok (.aload_n 2, 1) := dk_44 (dk_at dksL_law_97 6 rfl rfl)
theorem dL_law_2480 : decode cL_law 2480 = .ok (.invokevirtual 168, 3) := dk_182 0 168 (dk_at dksL_law_97 7 rfl rfl)
theorem dL_law_2483 : decode cL_law 2483 = .ok (.iload 5, 2) := dk_21 5 (dk_at dksL_law_97 10 rfl rfl)
theorem dL_law_2485 : decode cL_law 2485 = .ok (.if_icmp .eq 5, 3) := dk_159 0 5 (dk_at dksL_law_97 12 rfl rfl)
theorem dL_law_2488 : decode cL_law 2488 = .ok (.iconst 0, 1) := dk_3 (dk_at dksL_law_97 15 rfl rfl)
theorem dL_law_2489 : decode cL_law 2489 = .ok (.ireturn, 1) := dk_172 (dk_at dksL_law_97 16 rfl rfl)
theorem dL_law_2490 : decode cL_law 2490 = .ok (.iload 5, 2) := dk_21 5 (dk_at dksL_law_97 17 rfl rfl)
theorem dL_law_2492 : decode cL_law 2492 = .ok (.ifCond .ne 14, 3) := dk_154 0 14 (dk_at dksL_law_97 19 rfl rfl)
theorem dL_law_2495 : decode cL_law 2495 = .ok (.aload_n 3, 1) := dk_45 (dk_at dksL_law_97 22 rfl rfl)
theorem dL_law_2496 : decode cL_law 2496 = .ok (.iconst 0, 1) := dk_3 (dk_at dksL_law_97 23 rfl rfl)
theorem dL_law_2497 : decode cL_law 2497 = .ok (.laload, 1) := dk_47 (dk_at dksL_law_98 0 rfl rfl)
theorem dL_law_2498 : decode cL_law 2498 = .ok (.lload 6, 2) := dk_22 6 (dk_at dksL_law_98 1 rfl rfl)
theorem dL_law_2500 : decode cL_law 2500 = .ok (.lcmp, 1) := dk_148 (dk_at dksL_law_98 3 rfl rfl)
theorem dL_law_2501 : decode cL_law 2501 = .ok (.ifCond .eq 5, 3) := dk_153 0 5 (dk_at dksL_law_98 4 rfl rfl)
theorem dL_law_2504 : decode cL_law 2504 = .ok (.iconst 0, 1) := dk_3 (dk_at dksL_law_98 7 rfl rfl)
theorem dL_law_2505 : decode cL_law 2505 = .ok (.ireturn, 1) := dk_172 (dk_at dksL_law_98 8 rfl rfl)
theorem dL_law_2506 : decode cL_law 2506 = .ok (.goto 511, 3) := dk_167 1 255 (dk_at dksL_law_98 9 rfl rfl)
theorem dL_law_2509 : decode cL_law 2509 = .ok (.aload_n 1, 1) := dk_43 (dk_at dksL_law_98 12 rfl rfl)
theorem dL_law_2510 : decode cL_law 2510 = .ok (.aload_n 3, 1) := dk_45 (dk_at dksL_law_98 13 rfl rfl)
theorem dL_law_2511 : decode cL_law 2511 = .ok (.invokestatic 286, 3) := dk_184 1 30 (dk_at dksL_law_98 14 rfl rfl)
theorem dL_law_2514 : decode cL_law 2514 = .ok (.istore 5, 2) := dk_54 5 (dk_at dksL_law_98 17 rfl rfl)
theorem dL_law_2516 : decode cL_law 2516 = .ok (.aload_n 2, 1) := dk_44 (dk_at dksL_law_98 19 rfl rfl)
theorem dL_law_2517 : decode cL_law 2517 = .ok (.invokevirtual 288, 3) := dk_182 1 32 (dk_at dksL_law_98 20 rfl rfl)
theorem dL_law_2520 : decode cL_law 2520 = .ok (.istore 6, 2) := dk_54 6 (dk_at dksL_law_99 0 rfl rfl)
theorem dL_law_2522 : decode cL_law 2522 = .ok (.aload_n 2, 1) := dk_44 (dk_at dksL_law_99 2 rfl rfl)
theorem dL_law_2523 : decode cL_law 2523 = .ok (.invokevirtual 168, 3) := dk_182 0 168 (dk_at dksL_law_99 3 rfl rfl)
theorem dL_law_2526 : decode cL_law 2526 = .ok (.iload 5, 2) := dk_21 5 (dk_at dksL_law_99 6 rfl rfl)
theorem dL_law_2528 : decode cL_law 2528 = .ok (.if_icmp .eq 5, 3) := dk_159 0 5 (dk_at dksL_law_99 8 rfl rfl)
theorem dL_law_2531 : decode cL_law 2531 = .ok (.iconst 0, 1) := dk_3 (dk_at dksL_law_99 11 rfl rfl)
theorem dL_law_2532 : decode cL_law 2532 = .ok (.ireturn, 1) := dk_172 (dk_at dksL_law_99 12 rfl rfl)
theorem dL_law_2533 : decode cL_law 2533 = .ok (.iload 5, 2) := dk_21 5 (dk_at dksL_law_99 13 rfl rfl)
theorem dL_law_2535 : decode cL_law 2535 = .ok (.ifCond .ne 15, 3) := dk_154 0 15 (dk_at dksL_law_99 15 rfl rfl)
theorem dL_law_2538 : decode cL_law 2538 = .ok (.aload_n 3, 1) := dk_45 (dk_at dksL_law_99 18 rfl rfl)
theorem dL_law_2539 : decode cL_law 2539 = .ok (.iconst 0, 1) := dk_3 (dk_at dksL_law_99 19 rfl rfl)
theorem dL_law_2540 : decode cL_law 2540 = .ok (.laload, 1) := dk_47 (dk_at dksL_law_99 20 rfl rfl)
theorem dL_law_2541 : decode cL_law 2541 = .ok (.iload 6, 2) := dk_21 6 (dk_at dksL_law_99 21 rfl rfl)
theorem dL_law_2543 : decode cL_law 2543 = .ok (.i2l, 1) := dk_133 (dk_at dksL_law_99 23 rfl rfl)
theorem dL_law_2544 : decode cL_law 2544 = .ok (.lcmp, 1) := dk_148 (dk_at dksL_law_100 0 rfl rfl)
theorem dL_law_2545 : decode cL_law 2545 = .ok (.ifCond .eq 5, 3) := dk_153 0 5 (dk_at dksL_law_100 1 rfl rfl)
theorem dL_law_2548 : decode cL_law 2548 = .ok (.iconst 0, 1) := dk_3 (dk_at dksL_law_100 4 rfl rfl)
theorem dL_law_2549 : decode cL_law 2549 = .ok (.ireturn, 1) := dk_172 (dk_at dksL_law_100 5 rfl rfl)
theorem dL_law_2550 : decode cL_law 2550 = .ok (.goto 467, 3) := dk_167 1 211 (dk_at dksL_law_100 6 rfl rfl)
theorem dL_law_2553 : decode cL_law 2553 = .ok (.aload_n 1, 1) := dk_43 (dk_at dksL_law_100 9 rfl rfl)
theorem dL_law_2554 : decode cL_law 2554 = .ok (.aload_n 3, 1) := dk_45 (dk_at dksL_law_100 10 rfl rfl)
theorem dL_law_2555 : decode cL_law 2555 = .ok (.invokestatic 289, 3) := dk_184 1 33 (dk_at dksL_law_100 11 rfl rfl)
theorem dL_law_2558 : decode cL_law 2558 = .ok (.istore 5, 2) := dk_54 5 (dk_at dksL_law_100 14 rfl rfl)
theorem dL_law_2560 : decode cL_law 2560 = .ok (.aload_n 2, 1) := dk_44 (dk_at dksL_law_100 16 rfl rfl)
theorem dL_law_2561 : decode cL_law 2561 = .ok (.invokevirtual 291, 3) := dk_182 1 35 (dk_at dksL_law_100 17 rfl rfl)
theorem dL_law_2564 : decode cL_law 2564 = .ok (.istore 6, 2) := dk_54 6 (dk_at dksL_law_100 20 rfl rfl)
theorem dL_law_2566 : decode cL_law 2566 = .ok (.aload_n 2, 1) := dk_44 (dk_at dksL_law_100 22 rfl rfl)
theorem dL_law_2567 : decode cL_law 2567 = .ok (.invokevirtual 168, 3) := dk_182 0 168 (dk_at dksL_law_101 0 rfl rfl)
theorem dL_law_2570 : decode cL_law 2570 = .ok (.iload 5, 2) := dk_21 5 (dk_at dksL_law_101 3 rfl rfl)
theorem dL_law_2572 : decode cL_law 2572 = .ok (.if_icmp .eq 5, 3) := dk_159 0 5 (dk_at dksL_law_101 5 rfl rfl)
theorem dL_law_2575 : decode cL_law 2575 = .ok (.iconst 0, 1) := dk_3 (dk_at dksL_law_101 8 rfl rfl)
theorem dL_law_2576 : decode cL_law 2576 = .ok (.ireturn, 1) := dk_172 (dk_at dksL_law_101 9 rfl rfl)
theorem dL_law_2577 : decode cL_law 2577 = .ok (.iload 5, 2) := dk_21 5 (dk_at dksL_law_101 10 rfl rfl)
theorem dL_law_2579 : decode cL_law 2579 = .ok (.ifCond .ne 15, 3) := dk_154 0 15 (dk_at dksL_law_101 12 rfl rfl)
theorem dL_law_2582 : decode cL_law 2582 = .ok (.aload_n 3, 1) := dk_45 (dk_at dksL_law_101 15 rfl rfl)
theorem dL_law_2583 : decode cL_law 2583 = .ok (.iconst 0, 1) := dk_3 (dk_at dksL_law_101 16 rfl rfl)
theorem dL_law_2584 : decode cL_law 2584 = .ok (.laload, 1) := dk_47 (dk_at dksL_law_101 17 rfl rfl)
theorem dL_law_2585 : decode cL_law 2585 = .ok (.iload 6, 2) := dk_21 6 (dk_at dksL_law_101 18 rfl rfl)
theorem dL_law_2587 : decode cL_law 2587 = .ok (.i2l, 1) := dk_133 (dk_at dksL_law_101 20 rfl rfl)
theorem dL_law_2588 : decode cL_law 2588 = .ok (.lcmp, 1) := dk_148 (dk_at dksL_law_101 21 rfl rfl)
theorem dL_law_2589 : decode cL_law 2589 = .ok (.ifCond .eq 5, 3) := dk_153 0 5 (dk_at dksL_law_102 0 rfl rfl)
theorem dL_law_2592 : decode cL_law 2592 = .ok (.iconst 0, 1) := dk_3 (dk_at dksL_law_102 3 rfl rfl)
theorem dL_law_2593 : decode cL_law 2593 = .ok (.ireturn, 1) := dk_172 (dk_at dksL_law_102 4 rfl rfl)
theorem dL_law_2594 : decode cL_law 2594 = .ok (.goto 423, 3) := dk_167 1 167 (dk_at dksL_law_102 5 rfl rfl)
theorem dL_law_2597 : decode cL_law 2597 = .ok (.aload_n 1, 1) := dk_43 (dk_at dksL_law_102 8 rfl rfl)
theorem dL_law_2598 : decode cL_law 2598 = .ok (.aload_n 0, 1) := dk_42 (dk_at dksL_law_102 9 rfl rfl)
theorem dL_law_2599 : decode cL_law 2599 = .ok (.iload 4, 2) := dk_21 4 (dk_at dksL_law_102 10 rfl rfl)
theorem dL_law_2601 : decode cL_law 2601 = .ok (.iconst 1, 1) := dk_4 (dk_at dksL_law_102 12 rfl rfl)
theorem dL_law_2602 : decode cL_law 2602 = .ok (.iadd, 1) := dk_96 (dk_at dksL_law_102 13 rfl rfl)
theorem dL_law_2603 : decode cL_law 2603 = .ok (.iaload, 1) := dk_46 (dk_at dksL_law_102 14 rfl rfl)
theorem dL_law_2604 : decode cL_law 2604 = .ok (.aload_n 0, 1) := dk_42 (dk_at dksL_law_102 15 rfl rfl)
theorem dL_law_2605 : decode cL_law 2605 = .ok (.iload 4, 2) := dk_21 4 (dk_at dksL_law_102 16 rfl rfl)
theorem dL_law_2607 : decode cL_law 2607 = .ok (.iconst 2, 1) := dk_5 (dk_at dksL_law_102 18 rfl rfl)
theorem dL_law_2608 : decode cL_law 2608 = .ok (.iadd, 1) := dk_96 (dk_at dksL_law_102 19 rfl rfl)
theorem dL_law_2609 : decode cL_law 2609 = .ok (.iaload, 1) := dk_46 (dk_at dksL_law_102 20 rfl rfl)
theorem dL_law_2610 : decode cL_law 2610 = .ok (.aload_n 3, 1) := dk_45 (dk_at dksL_law_102 21 rfl rfl)
theorem dL_law_2611 : decode cL_law 2611 = .ok (.invokestatic 292, 3) := dk_184 1 36 (dk_at dksL_law_103 0 rfl rfl)
theorem dL_law_2614 : decode cL_law 2614 = .ok (.istore 5, 2) := dk_54 5 (dk_at dksL_law_103 3 rfl rfl)
theorem dL_law_2616 : decode cL_law 2616 = .ok (.aload_n 2, 1) := dk_44 (dk_at dksL_law_103 5 rfl rfl)
theorem dL_law_2617 : decode cL_law 2617 = .ok (.aload_n 0, 1) := dk_42 (dk_at dksL_law_103 6 rfl rfl)
theorem dL_law_2618 : decode cL_law 2618 = .ok (.iload 4, 2) := dk_21 4 (dk_at dksL_law_103 7 rfl rfl)
theorem dL_law_2620 : decode cL_law 2620 = .ok (.iconst 1, 1) := dk_4 (dk_at dksL_law_103 9 rfl rfl)
theorem dL_law_2621 : decode cL_law 2621 = .ok (.iadd, 1) := dk_96 (dk_at dksL_law_103 10 rfl rfl)
theorem dL_law_2622 : decode cL_law 2622 = .ok (.iaload, 1) := dk_46 (dk_at dksL_law_103 11 rfl rfl)
theorem dL_law_2623 : decode cL_law 2623 = .ok (.aload_n 0, 1) := dk_42 (dk_at dksL_law_103 12 rfl rfl)
theorem dL_law_2624 : decode cL_law 2624 = .ok (.iload 4, 2) := dk_21 4 (dk_at dksL_law_103 13 rfl rfl)
theorem dL_law_2626 : decode cL_law 2626 = .ok (.iconst 2, 1) := dk_5 (dk_at dksL_law_103 15 rfl rfl)
theorem dL_law_2627 : decode cL_law 2627 = .ok (.iadd, 1) := dk_96 (dk_at dksL_law_103 16 rfl rfl)
theorem dL_law_2628 : decode cL_law 2628 = .ok (.iaload, 1) := dk_46 (dk_at dksL_law_103 17 rfl rfl)
theorem dL_law_2629 : decode cL_law 2629 = .ok (.invokevirtual 294, 3) := dk_182 1 38 (dk_at dksL_law_103 18 rfl rfl)
theorem dL_law_2632 : decode cL_law 2632 = .ok (.lstore 6, 2) := dk_55 6 (dk_at dksL_law_103 21 rfl rfl)
theorem dL_law_2634 : decode cL_law 2634 = .ok (.aload_n 2, 1) := dk_44 (dk_at dksL_law_103 23 rfl rfl)
theorem dL_law_2635 : decode cL_law 2635 = .ok (.invokevirtual 168, 3) := dk_182 0 168 (dk_at dksL_law_104 0 rfl rfl)
theorem dL_law_2638 : decode cL_law 2638 = .ok (.iload 5, 2) := dk_21 5 (dk_at dksL_law_104 3 rfl rfl)
theorem dL_law_2640 : decode cL_law 2640 = .ok (.if_icmp .eq 5, 3) := dk_159 0 5 (dk_at dksL_law_104 5 rfl rfl)
theorem dL_law_2643 : decode cL_law 2643 = .ok (.iconst 0, 1) := dk_3 (dk_at dksL_law_104 8 rfl rfl)
theorem dL_law_2644 : decode cL_law 2644 = .ok (.ireturn, 1) := dk_172 (dk_at dksL_law_104 9 rfl rfl)
theorem dL_law_2645 : decode cL_law 2645 = .ok (.iload 5, 2) := dk_21 5 (dk_at dksL_law_104 10 rfl rfl)
theorem dL_law_2647 : decode cL_law 2647 = .ok (.ifCond .ne 14, 3) := dk_154 0 14 (dk_at dksL_law_104 12 rfl rfl)
theorem dL_law_2650 : decode cL_law 2650 = .ok (.aload_n 3, 1) := dk_45 (dk_at dksL_law_104 15 rfl rfl)
theorem dL_law_2651 : decode cL_law 2651 = .ok (.iconst 0, 1) := dk_3 (dk_at dksL_law_104 16 rfl rfl)
theorem dL_law_2652 : decode cL_law 2652 = .ok (.laload, 1) := dk_47 (dk_at dksL_law_104 17 rfl rfl)
theorem dL_law_2653 : decode cL_law 2653 = .ok (.lload 6, 2) := dk_22 6 (dk_at dksL_law_104 18 rfl rfl)
theorem dL_law_2655 : decode cL_law 2655 = .ok (.lcmp, 1) := dk_148 (dk_at dksL_law_104 20 rfl rfl)
theorem dL_law_2656 : decode cL_law 2656 = .ok (.ifCond .eq 5, 3) := dk_153 0 5 (dk_at dksL_law_104 21 rfl rfl)
theorem dL_law_2659 : decode cL_law 2659 = .ok (.iconst 0, 1) := dk_3 (dk_at dksL_law_105 0 rfl rfl)
theorem dL_law_2660 : decode cL_law 2660 = .ok (.ireturn, 1) := dk_172 (dk_at dksL_law_105 1 rfl rfl)
theorem dL_law_2661 : decode cL_law 2661 = .ok (.goto 356, 3) := dk_167 1 100 (dk_at dksL_law_105 2 rfl rfl)
theorem dL_law_2664 : decode cL_law 2664 = .ok (.aload_n 1, 1) := dk_43 (dk_at dksL_law_105 5 rfl rfl)
theorem dL_law_2665 : decode cL_law 2665 = .ok (.aload_n 0, 1) := dk_42 (dk_at dksL_law_105 6 rfl rfl)
theorem dL_law_2666 : decode cL_law 2666 = .ok (.iload 4, 2) := dk_21 4 (dk_at dksL_law_105 7 rfl rfl)
theorem dL_law_2668 : decode cL_law 2668 = .ok (.iconst 1, 1) := dk_4 (dk_at dksL_law_105 9 rfl rfl)
theorem dL_law_2669 : decode cL_law 2669 = .ok (.iadd, 1) := dk_96 (dk_at dksL_law_105 10 rfl rfl)
theorem dL_law_2670 : decode cL_law 2670 = .ok (.iaload, 1) := dk_46 (dk_at dksL_law_105 11 rfl rfl)
theorem dL_law_2671 : decode cL_law 2671 = .ok (.aload_n 3, 1) := dk_45 (dk_at dksL_law_105 12 rfl rfl)
theorem dL_law_2672 : decode cL_law 2672 = .ok (.invokestatic 295, 3) := dk_184 1 39 (dk_at dksL_law_105 13 rfl rfl)
theorem dL_law_2675 : decode cL_law 2675 = .ok (.istore 5, 2) := dk_54 5 (dk_at dksL_law_105 16 rfl rfl)
theorem dL_law_2677 : decode cL_law 2677 = .ok (.aload_n 2, 1) := dk_44 (dk_at dksL_law_105 18 rfl rfl)
theorem dL_law_2678 : decode cL_law 2678 = .ok (.aload_n 0, 1) := dk_42 (dk_at dksL_law_105 19 rfl rfl)
theorem dL_law_2679 : decode cL_law 2679 = .ok (.iload 4, 2) := dk_21 4 (dk_at dksL_law_105 20 rfl rfl)
theorem dL_law_2681 : decode cL_law 2681 = .ok (.iconst 1, 1) := dk_4 (dk_at dksL_law_105 22 rfl rfl)
theorem dL_law_2682 : decode cL_law 2682 = .ok (.iadd, 1) := dk_96 (dk_at dksL_law_105 23 rfl rfl)
theorem dL_law_2683 : decode cL_law 2683 = .ok (.iaload, 1) := dk_46 (dk_at dksL_law_106 0 rfl rfl)
theorem dL_law_2684 : decode cL_law 2684 = .ok (.invokevirtual 297, 3) := dk_182 1 41 (dk_at dksL_law_106 1 rfl rfl)
theorem dL_law_2687 : decode cL_law 2687 = .ok (.lstore 6, 2) := dk_55 6 (dk_at dksL_law_106 4 rfl rfl)
theorem dL_law_2689 : decode cL_law 2689 = .ok (.aload_n 2, 1) := dk_44 (dk_at dksL_law_106 6 rfl rfl)
theorem dL_law_2690 : decode cL_law 2690 = .ok (.invokevirtual 168, 3) := dk_182 0 168 (dk_at dksL_law_106 7 rfl rfl)
theorem dL_law_2693 : decode cL_law 2693 = .ok (.iload 5, 2) := dk_21 5 (dk_at dksL_law_106 10 rfl rfl)
theorem dL_law_2695 : decode cL_law 2695 = .ok (.if_icmp .eq 5, 3) := dk_159 0 5 (dk_at dksL_law_106 12 rfl rfl)
theorem dL_law_2698 : decode cL_law 2698 = .ok (.iconst 0, 1) := dk_3 (dk_at dksL_law_106 15 rfl rfl)
theorem dL_law_2699 : decode cL_law 2699 = .ok (.ireturn, 1) := dk_172 (dk_at dksL_law_106 16 rfl rfl)
theorem dL_law_2700 : decode cL_law 2700 = .ok (.iload 5, 2) := dk_21 5 (dk_at dksL_law_106 17 rfl rfl)
theorem dL_law_2702 : decode cL_law 2702 = .ok (.ifCond .ne 14, 3) := dk_154 0 14 (dk_at dksL_law_106 19 rfl rfl)
theorem dL_law_2705 : decode cL_law 2705 = .ok (.aload_n 3, 1) := dk_45 (dk_at dksL_law_106 22 rfl rfl)
theorem dL_law_2706 : decode cL_law 2706 = .ok (.iconst 0, 1) := dk_3 (dk_at dksL_law_106 23 rfl rfl)
theorem dL_law_2707 : decode cL_law 2707 = .ok (.laload, 1) := dk_47 (dk_at dksL_law_107 0 rfl rfl)
theorem dL_law_2708 : decode cL_law 2708 = .ok (.lload 6, 2) := dk_22 6 (dk_at dksL_law_107 1 rfl rfl)
theorem dL_law_2710 : decode cL_law 2710 = .ok (.lcmp, 1) := dk_148 (dk_at dksL_law_107 3 rfl rfl)
theorem dL_law_2711 : decode cL_law 2711 = .ok (.ifCond .eq 5, 3) := dk_153 0 5 (dk_at dksL_law_107 4 rfl rfl)
theorem dL_law_2714 : decode cL_law 2714 = .ok (.iconst 0, 1) := dk_3 (dk_at dksL_law_107 7 rfl rfl)
theorem dL_law_2715 : decode cL_law 2715 = .ok (.ireturn, 1) := dk_172 (dk_at dksL_law_107 8 rfl rfl)
theorem dL_law_2716 : decode cL_law 2716 = .ok (.goto 301, 3) := dk_167 1 45 (dk_at dksL_law_107 9 rfl rfl)
theorem dL_law_2719 : decode cL_law 2719 = .ok (.aload_n 1, 1) := dk_43 (dk_at dksL_law_107 12 rfl rfl)
theorem dL_law_2720 : decode cL_law 2720 = .ok (.aload_n 0, 1) := dk_42 (dk_at dksL_law_107 13 rfl rfl)
theorem dL_law_2721 : decode cL_law 2721 = .ok (.iload 4, 2) := dk_21 4 (dk_at dksL_law_107 14 rfl rfl)
theorem dL_law_2723 : decode cL_law 2723 = .ok (.iconst 1, 1) := dk_4 (dk_at dksL_law_107 16 rfl rfl)
theorem dL_law_2724 : decode cL_law 2724 = .ok (.iadd, 1) := dk_96 (dk_at dksL_law_107 17 rfl rfl)
theorem dL_law_2725 : decode cL_law 2725 = .ok (.iaload, 1) := dk_46 (dk_at dksL_law_107 18 rfl rfl)
theorem dL_law_2726 : decode cL_law 2726 = .ok (.aload_n 0, 1) := dk_42 (dk_at dksL_law_107 19 rfl rfl)
theorem dL_law_2727 : decode cL_law 2727 = .ok (.iload 4, 2) := dk_21 4 (dk_at dksL_law_107 20 rfl rfl)
theorem dL_law_2729 : decode cL_law 2729 = .ok (.iconst 2, 1) := dk_5 (dk_at dksL_law_107 22 rfl rfl)
theorem dL_law_2730 : decode cL_law 2730 = .ok (.iadd, 1) := dk_96 (dk_at dksL_law_107 23 rfl rfl)
theorem dL_law_2731 : decode cL_law 2731 = .ok (.iaload, 1) := dk_46 (dk_at dksL_law_108 0 rfl rfl)
theorem dL_law_2732 : decode cL_law 2732 = .ok (.aload_n 3, 1) := dk_45 (dk_at dksL_law_108 1 rfl rfl)
theorem dL_law_2733 : decode cL_law 2733 = .ok (.invokestatic 298, 3) := dk_184 1 42 (dk_at dksL_law_108 2 rfl rfl)
theorem dL_law_2736 : decode cL_law 2736 = .ok (.istore 5, 2) := dk_54 5 (dk_at dksL_law_108 5 rfl rfl)
theorem dL_law_2738 : decode cL_law 2738 = .ok (.aload_n 2, 1) := dk_44 (dk_at dksL_law_108 7 rfl rfl)
theorem dL_law_2739 : decode cL_law 2739 = .ok (.aload_n 0, 1) := dk_42 (dk_at dksL_law_108 8 rfl rfl)
theorem dL_law_2740 : decode cL_law 2740 = .ok (.iload 4, 2) := dk_21 4 (dk_at dksL_law_108 9 rfl rfl)
theorem dL_law_2742 : decode cL_law 2742 = .ok (.iconst 1, 1) := dk_4 (dk_at dksL_law_108 11 rfl rfl)
theorem dL_law_2743 : decode cL_law 2743 = .ok (.iadd, 1) := dk_96 (dk_at dksL_law_108 12 rfl rfl)
theorem dL_law_2744 : decode cL_law 2744 = .ok (.iaload, 1) := dk_46 (dk_at dksL_law_108 13 rfl rfl)
theorem dL_law_2745 : decode cL_law 2745 = .ok (.aload_n 0, 1) := dk_42 (dk_at dksL_law_108 14 rfl rfl)
theorem dL_law_2746 : decode cL_law 2746 = .ok (.iload 4, 2) := dk_21 4 (dk_at dksL_law_108 15 rfl rfl)
theorem dL_law_2748 : decode cL_law 2748 = .ok (.iconst 2, 1) := dk_5 (dk_at dksL_law_108 17 rfl rfl)
theorem dL_law_2749 : decode cL_law 2749 = .ok (.iadd, 1) := dk_96 (dk_at dksL_law_108 18 rfl rfl)
theorem dL_law_2750 : decode cL_law 2750 = .ok (.iaload, 1) := dk_46 (dk_at dksL_law_108 19 rfl rfl)
theorem dL_law_2751 : decode cL_law 2751 = .ok (.invokevirtual 300, 3) := dk_182 1 44 (dk_at dksL_law_108 20 rfl rfl)
theorem dL_law_2754 : decode cL_law 2754 = .ok (.lstore 6, 2) := dk_55 6 (dk_at dksL_law_109 0 rfl rfl)
theorem dL_law_2756 : decode cL_law 2756 = .ok (.aload_n 2, 1) := dk_44 (dk_at dksL_law_109 2 rfl rfl)
theorem dL_law_2757 : decode cL_law 2757 = .ok (.invokevirtual 168, 3) := dk_182 0 168 (dk_at dksL_law_109 3 rfl rfl)
theorem dL_law_2760 : decode cL_law 2760 = .ok (.iload 5, 2) := dk_21 5 (dk_at dksL_law_109 6 rfl rfl)
theorem dL_law_2762 : decode cL_law 2762 = .ok (.if_icmp .eq 5, 3) := dk_159 0 5 (dk_at dksL_law_109 8 rfl rfl)
theorem dL_law_2765 : decode cL_law 2765 = .ok (.iconst 0, 1) := dk_3 (dk_at dksL_law_109 11 rfl rfl)
theorem dL_law_2766 : decode cL_law 2766 = .ok (.ireturn, 1) := dk_172 (dk_at dksL_law_109 12 rfl rfl)
theorem dL_law_2767 : decode cL_law 2767 = .ok (.iload 5, 2) := dk_21 5 (dk_at dksL_law_109 13 rfl rfl)
theorem dL_law_2769 : decode cL_law 2769 = .ok (.ifCond .ne 14, 3) := dk_154 0 14 (dk_at dksL_law_109 15 rfl rfl)
theorem dL_law_2772 : decode cL_law 2772 = .ok (.aload_n 3, 1) := dk_45 (dk_at dksL_law_109 18 rfl rfl)
theorem dL_law_2773 : decode cL_law 2773 = .ok (.iconst 0, 1) := dk_3 (dk_at dksL_law_109 19 rfl rfl)
theorem dL_law_2774 : decode cL_law 2774 = .ok (.laload, 1) := dk_47 (dk_at dksL_law_109 20 rfl rfl)
theorem dL_law_2775 : decode cL_law 2775 = .ok (.lload 6, 2) := dk_22 6 (dk_at dksL_law_109 21 rfl rfl)
theorem dL_law_2777 : decode cL_law 2777 = .ok (.lcmp, 1) := dk_148 (dk_at dksL_law_109 23 rfl rfl)
theorem dL_law_2778 : decode cL_law 2778 = .ok (.ifCond .eq 5, 3) := dk_153 0 5 (dk_at dksL_law_110 0 rfl rfl)
theorem dL_law_2781 : decode cL_law 2781 = .ok (.iconst 0, 1) := dk_3 (dk_at dksL_law_110 3 rfl rfl)
theorem dL_law_2782 : decode cL_law 2782 = .ok (.ireturn, 1) := dk_172 (dk_at dksL_law_110 4 rfl rfl)
theorem dL_law_2783 : decode cL_law 2783 = .ok (.goto 234, 3) := dk_167 0 234 (dk_at dksL_law_110 5 rfl rfl)
theorem dL_law_2786 : decode cL_law 2786 = .ok (.aload_n 1, 1) := dk_43 (dk_at dksL_law_110 8 rfl rfl)
theorem dL_law_2787 : decode cL_law 2787 = .ok (.aload_n 0, 1) := dk_42 (dk_at dksL_law_110 9 rfl rfl)
theorem dL_law_2788 : decode cL_law 2788 = .ok (.iload 4, 2) := dk_21 4 (dk_at dksL_law_110 10 rfl rfl)
theorem dL_law_2790 : decode cL_law 2790 = .ok (.iconst 1, 1) := dk_4 (dk_at dksL_law_110 12 rfl rfl)
theorem dL_law_2791 : decode cL_law 2791 = .ok (.iadd, 1) := dk_96 (dk_at dksL_law_110 13 rfl rfl)
theorem dL_law_2792 : decode cL_law 2792 = .ok (.iaload, 1) := dk_46 (dk_at dksL_law_110 14 rfl rfl)
theorem dL_law_2793 : decode cL_law 2793 = .ok (.aload_n 0, 1) := dk_42 (dk_at dksL_law_110 15 rfl rfl)
theorem dL_law_2794 : decode cL_law 2794 = .ok (.iload 4, 2) := dk_21 4 (dk_at dksL_law_110 16 rfl rfl)
theorem dL_law_2796 : decode cL_law 2796 = .ok (.iconst 2, 1) := dk_5 (dk_at dksL_law_110 18 rfl rfl)
theorem dL_law_2797 : decode cL_law 2797 = .ok (.iadd, 1) := dk_96 (dk_at dksL_law_110 19 rfl rfl)
theorem dL_law_2798 : decode cL_law 2798 = .ok (.iaload, 1) := dk_46 (dk_at dksL_law_110 20 rfl rfl)
theorem dL_law_2799 : decode cL_law 2799 = .ok (.aload_n 3, 1) := dk_45 (dk_at dksL_law_110 21 rfl rfl)
theorem dL_law_2800 : decode cL_law 2800 = .ok (.invokestatic 301, 3) := dk_184 1 45 (dk_at dksL_law_111 0 rfl rfl)
theorem dL_law_2803 : decode cL_law 2803 = .ok (.istore 5, 2) := dk_54 5 (dk_at dksL_law_111 3 rfl rfl)
theorem dL_law_2805 : decode cL_law 2805 = .ok (.aload_n 2, 1) := dk_44 (dk_at dksL_law_111 5 rfl rfl)
theorem dL_law_2806 : decode cL_law 2806 = .ok (.aload_n 0, 1) := dk_42 (dk_at dksL_law_111 6 rfl rfl)
theorem dL_law_2807 : decode cL_law 2807 = .ok (.iload 4, 2) := dk_21 4 (dk_at dksL_law_111 7 rfl rfl)
theorem dL_law_2809 : decode cL_law 2809 = .ok (.iconst 1, 1) := dk_4 (dk_at dksL_law_111 9 rfl rfl)
theorem dL_law_2810 : decode cL_law 2810 = .ok (.iadd, 1) := dk_96 (dk_at dksL_law_111 10 rfl rfl)
theorem dL_law_2811 : decode cL_law 2811 = .ok (.iaload, 1) := dk_46 (dk_at dksL_law_111 11 rfl rfl)
theorem dL_law_2812 : decode cL_law 2812 = .ok (.aload_n 0, 1) := dk_42 (dk_at dksL_law_111 12 rfl rfl)
theorem dL_law_2813 : decode cL_law 2813 = .ok (.iload 4, 2) := dk_21 4 (dk_at dksL_law_111 13 rfl rfl)
theorem dL_law_2815 : decode cL_law 2815 = .ok (.iconst 2, 1) := dk_5 (dk_at dksL_law_111 15 rfl rfl)
theorem dL_law_2816 : decode cL_law 2816 = .ok (.iadd, 1) := dk_96 (dk_at dksL_law_111 16 rfl rfl)
theorem dL_law_2817 : decode cL_law 2817 = .ok (.iaload, 1) := dk_46 (dk_at dksL_law_111 17 rfl rfl)
theorem dL_law_2818 : decode cL_law 2818 = .ok (.invokevirtual 303, 3) := dk_182 1 47 (dk_at dksL_law_111 18 rfl rfl)
theorem dL_law_2821 : decode cL_law 2821 = .ok (.istore 6, 2) := dk_54 6 (dk_at dksL_law_111 21 rfl rfl)
theorem dL_law_2823 : decode cL_law 2823 = .ok (.aload_n 2, 1) := dk_44 (dk_at dksL_law_111 23 rfl rfl)
theorem dL_law_2824 : decode cL_law 2824 = .ok (.invokevirtual 168, 3) := dk_182 0 168 (dk_at dksL_law_112 0 rfl rfl)
theorem dL_law_2827 : decode cL_law 2827 = .ok (.iload 5, 2) := dk_21 5 (dk_at dksL_law_112 3 rfl rfl)
theorem dL_law_2829 : decode cL_law 2829 = .ok (.if_icmp .eq 5, 3) := dk_159 0 5 (dk_at dksL_law_112 5 rfl rfl)
theorem dL_law_2832 : decode cL_law 2832 = .ok (.iconst 0, 1) := dk_3 (dk_at dksL_law_112 8 rfl rfl)
theorem dL_law_2833 : decode cL_law 2833 = .ok (.ireturn, 1) := dk_172 (dk_at dksL_law_112 9 rfl rfl)
theorem dL_law_2834 : decode cL_law 2834 = .ok (.iload 5, 2) := dk_21 5 (dk_at dksL_law_112 10 rfl rfl)
theorem dL_law_2836 : decode cL_law 2836 = .ok (.ifCond .ne 15, 3) := dk_154 0 15 (dk_at dksL_law_112 12 rfl rfl)
theorem dL_law_2839 : decode cL_law 2839 = .ok (.aload_n 3, 1) := dk_45 (dk_at dksL_law_112 15 rfl rfl)
theorem dL_law_2840 : decode cL_law 2840 = .ok (.iconst 0, 1) := dk_3 (dk_at dksL_law_112 16 rfl rfl)
theorem dL_law_2841 : decode cL_law 2841 = .ok (.laload, 1) := dk_47 (dk_at dksL_law_112 17 rfl rfl)
theorem dL_law_2842 : decode cL_law 2842 = .ok (.iload 6, 2) := dk_21 6 (dk_at dksL_law_112 18 rfl rfl)
theorem dL_law_2844 : decode cL_law 2844 = .ok (.i2l, 1) := dk_133 (dk_at dksL_law_112 20 rfl rfl)
theorem dL_law_2845 : decode cL_law 2845 = .ok (.lcmp, 1) := dk_148 (dk_at dksL_law_112 21 rfl rfl)
theorem dL_law_2846 : decode cL_law 2846 = .ok (.ifCond .eq 5, 3) := dk_153 0 5 (dk_at dksL_law_113 0 rfl rfl)
theorem dL_law_2849 : decode cL_law 2849 = .ok (.iconst 0, 1) := dk_3 (dk_at dksL_law_113 3 rfl rfl)
theorem dL_law_2850 : decode cL_law 2850 = .ok (.ireturn, 1) := dk_172 (dk_at dksL_law_113 4 rfl rfl)
theorem dL_law_2851 : decode cL_law 2851 = .ok (.goto 166, 3) := dk_167 0 166 (dk_at dksL_law_113 5 rfl rfl)
theorem dL_law_2854 : decode cL_law 2854 = .ok (.aload_n 1, 1) := dk_43 (dk_at dksL_law_113 8 rfl rfl)
theorem dL_law_2855 : decode cL_law 2855 = .ok (.aload_n 3, 1) := dk_45 (dk_at dksL_law_113 9 rfl rfl)
theorem dL_law_2856 : decode cL_law 2856 = .ok (.invokestatic 304, 3) := dk_184 1 48 (dk_at dksL_law_113 10 rfl rfl)
theorem dL_law_2859 : decode cL_law 2859 = .ok (.istore 5, 2) := dk_54 5 (dk_at dksL_law_113 13 rfl rfl)
theorem dL_law_2861 : decode cL_law 2861 = .ok (.aload_n 2, 1) := dk_44 (dk_at dksL_law_113 15 rfl rfl)
theorem dL_law_2862 : decode cL_law 2862 = .ok (.invokevirtual 306, 3) := dk_182 1 50 (dk_at dksL_law_113 16 rfl rfl)
theorem dL_law_2865 : decode cL_law 2865 = .ok (.lstore 6, 2) := dk_55 6 (dk_at dksL_law_113 19 rfl rfl)
theorem dL_law_2867 : decode cL_law 2867 = .ok (.aload_n 2, 1) := dk_44 (dk_at dksL_law_113 21 rfl rfl)
theorem dL_law_2868 : decode cL_law 2868 = .ok (.invokevirtual 168, 3) := dk_182 0 168 (dk_at dksL_law_114 0 rfl rfl)
theorem dL_law_2871 : decode cL_law 2871 = .ok (.iload 5, 2) := dk_21 5 (dk_at dksL_law_114 3 rfl rfl)
theorem dL_law_2873 : decode cL_law 2873 = .ok (.if_icmp .eq 5, 3) := dk_159 0 5 (dk_at dksL_law_114 5 rfl rfl)
theorem dL_law_2876 : decode cL_law 2876 = .ok (.iconst 0, 1) := dk_3 (dk_at dksL_law_114 8 rfl rfl)
theorem dL_law_2877 : decode cL_law 2877 = .ok (.ireturn, 1) := dk_172 (dk_at dksL_law_114 9 rfl rfl)
theorem dL_law_2878 : decode cL_law 2878 = .ok (.iload 5, 2) := dk_21 5 (dk_at dksL_law_114 10 rfl rfl)
theorem dL_law_2880 : decode cL_law 2880 = .ok (.ifCond .ne 14, 3) := dk_154 0 14 (dk_at dksL_law_114 12 rfl rfl)
theorem dL_law_2883 : decode cL_law 2883 = .ok (.aload_n 3, 1) := dk_45 (dk_at dksL_law_114 15 rfl rfl)
theorem dL_law_2884 : decode cL_law 2884 = .ok (.iconst 0, 1) := dk_3 (dk_at dksL_law_114 16 rfl rfl)
theorem dL_law_2885 : decode cL_law 2885 = .ok (.laload, 1) := dk_47 (dk_at dksL_law_114 17 rfl rfl)
theorem dL_law_2886 : decode cL_law 2886 = .ok (.lload 6, 2) := dk_22 6 (dk_at dksL_law_114 18 rfl rfl)
theorem dL_law_2888 : decode cL_law 2888 = .ok (.lcmp, 1) := dk_148 (dk_at dksL_law_114 20 rfl rfl)
theorem dL_law_2889 : decode cL_law 2889 = .ok (.ifCond .eq 5, 3) := dk_153 0 5 (dk_at dksL_law_114 21 rfl rfl)
theorem dL_law_2892 : decode cL_law 2892 = .ok (.iconst 0, 1) := dk_3 (dk_at dksL_law_115 0 rfl rfl)
theorem dL_law_2893 : decode cL_law 2893 = .ok (.ireturn, 1) := dk_172 (dk_at dksL_law_115 1 rfl rfl)
theorem dL_law_2894 : decode cL_law 2894 = .ok (.goto 123, 3) := dk_167 0 123 (dk_at dksL_law_115 2 rfl rfl)
theorem dL_law_2897 : decode cL_law 2897 = .ok (.aload_n 1, 1) := dk_43 (dk_at dksL_law_115 5 rfl rfl)
theorem dL_law_2898 : decode cL_law 2898 = .ok (.aload_n 3, 1) := dk_45 (dk_at dksL_law_115 6 rfl rfl)
theorem dL_law_2899 : decode cL_law 2899 = .ok (.invokestatic 307, 3) := dk_184 1 51 (dk_at dksL_law_115 7 rfl rfl)
theorem dL_law_2902 : decode cL_law 2902 = .ok (.istore 5, 2) := dk_54 5 (dk_at dksL_law_115 10 rfl rfl)
theorem dL_law_2904 : decode cL_law 2904 = .ok (.aload_n 2, 1) := dk_44 (dk_at dksL_law_115 12 rfl rfl)
theorem dL_law_2905 : decode cL_law 2905 = .ok (.invokevirtual 309, 3) := dk_182 1 53 (dk_at dksL_law_115 13 rfl rfl)
theorem dL_law_2908 : decode cL_law 2908 = .ok (.istore 6, 2) := dk_54 6 (dk_at dksL_law_115 16 rfl rfl)
theorem dL_law_2910 : decode cL_law 2910 = .ok (.aload_n 2, 1) := dk_44 (dk_at dksL_law_115 18 rfl rfl)
theorem dL_law_2911 : decode cL_law 2911 = .ok (.invokevirtual 168, 3) := dk_182 0 168 (dk_at dksL_law_115 19 rfl rfl)
theorem dL_law_2914 : decode cL_law 2914 = .ok (.iload 5, 2) := dk_21 5 (dk_at dksL_law_115 22 rfl rfl)
theorem dL_law_2916 : decode cL_law 2916 = .ok (.if_icmp .eq 5, 3) := dk_159 0 5 (dk_at dksL_law_116 0 rfl rfl)
theorem dL_law_2919 : decode cL_law 2919 = .ok (.iconst 0, 1) := dk_3 (dk_at dksL_law_116 3 rfl rfl)
theorem dL_law_2920 : decode cL_law 2920 = .ok (.ireturn, 1) := dk_172 (dk_at dksL_law_116 4 rfl rfl)
theorem dL_law_2921 : decode cL_law 2921 = .ok (.iload 5, 2) := dk_21 5 (dk_at dksL_law_116 5 rfl rfl)
theorem dL_law_2923 : decode cL_law 2923 = .ok (.ifCond .ne 15, 3) := dk_154 0 15 (dk_at dksL_law_116 7 rfl rfl)
theorem dL_law_2926 : decode cL_law 2926 = .ok (.aload_n 3, 1) := dk_45 (dk_at dksL_law_116 10 rfl rfl)
theorem dL_law_2927 : decode cL_law 2927 = .ok (.iconst 0, 1) := dk_3 (dk_at dksL_law_116 11 rfl rfl)
theorem dL_law_2928 : decode cL_law 2928 = .ok (.laload, 1) := dk_47 (dk_at dksL_law_116 12 rfl rfl)
theorem dL_law_2929 : decode cL_law 2929 = .ok (.iload 6, 2) := dk_21 6 (dk_at dksL_law_116 13 rfl rfl)
theorem dL_law_2931 : decode cL_law 2931 = .ok (.i2l, 1) := dk_133 (dk_at dksL_law_116 15 rfl rfl)
theorem dL_law_2932 : decode cL_law 2932 = .ok (.lcmp, 1) := dk_148 (dk_at dksL_law_116 16 rfl rfl)
theorem dL_law_2933 : decode cL_law 2933 = .ok (.ifCond .eq 5, 3) := dk_153 0 5 (dk_at dksL_law_116 17 rfl rfl)
theorem dL_law_2936 : decode cL_law 2936 = .ok (.iconst 0, 1) := dk_3 (dk_at dksL_law_116 20 rfl rfl)
theorem dL_law_2937 : decode cL_law 2937 = .ok (.ireturn, 1) := dk_172 (dk_at dksL_law_116 21 rfl rfl)
theorem dL_law_2938 : decode cL_law 2938 = .ok (.goto 79, 3) := dk_167 0 79 (dk_at dksL_law_117 0 rfl rfl)
theorem dL_law_2941 : decode cL_law 2941 = .ok (.aload_n 1, 1) := dk_43 (dk_at dksL_law_117 3 rfl rfl)
theorem dL_law_2942 : decode cL_law 2942 = .ok (.invokevirtual 310, 3) := dk_182 1 54 (dk_at dksL_law_117 4 rfl rfl)
theorem dL_law_2945 : decode cL_law 2945 = .ok (.aload_n 2, 1) := dk_44 (dk_at dksL_law_117 7 rfl rfl)
theorem dL_law_2946 : decode cL_law 2946 = .ok (.invokevirtual 313, 3) := dk_182 1 57 (dk_at dksL_law_117 8 rfl rfl)
theorem dL_law_2949 : decode cL_law 2949 = .ok (.if_icmp .eq 68, 3) := dk_159 0 68 (dk_at dksL_law_117 11 rfl rfl)
theorem dL_law_2952 : decode cL_law 2952 = .ok (.iconst 0, 1) := dk_3 (dk_at dksL_law_117 14 rfl rfl)
theorem dL_law_2953 : decode cL_law 2953 = .ok (.ireturn, 1) := dk_172 (dk_at dksL_law_117 15 rfl rfl)
theorem dL_law_2954 : decode cL_law 2954 = .ok (.aload_n 1, 1) := dk_43 (dk_at dksL_law_117 16 rfl rfl)
theorem dL_law_2955 : decode cL_law 2955 = .ok (.invokevirtual 314, 3) := dk_182 1 58 (dk_at dksL_law_117 17 rfl rfl)
theorem dL_law_2958 : decode cL_law 2958 = .ok (.aload_n 2, 1) := dk_44 (dk_at dksL_law_117 20 rfl rfl)
theorem dL_law_2959 : decode cL_law 2959 = .ok (.invokevirtual 317, 3) := dk_182 1 61 (dk_at dksL_law_117 21 rfl rfl)
theorem dL_law_2962 : decode cL_law 2962 = .ok (.if_icmp .eq 55, 3) := dk_159 0 55 (dk_at dksL_law_118 0 rfl rfl)
theorem dL_law_2965 : decode cL_law 2965 = .ok (.iconst 0, 1) := dk_3 (dk_at dksL_law_118 3 rfl rfl)
theorem dL_law_2966 : decode cL_law 2966 = .ok (.ireturn, 1) := dk_172 (dk_at dksL_law_118 4 rfl rfl)
theorem dL_law_2967 : decode cL_law 2967 = .ok (.aload_n 1, 1) := dk_43 (dk_at dksL_law_118 5 rfl rfl)
theorem dL_law_2968 : decode cL_law 2968 = .ok (.aload_n 0, 1) := dk_42 (dk_at dksL_law_118 6 rfl rfl)
theorem dL_law_2969 : decode cL_law 2969 = .ok (.iload 4, 2) := dk_21 4 (dk_at dksL_law_118 7 rfl rfl)
theorem dL_law_2971 : decode cL_law 2971 = .ok (.iconst 1, 1) := dk_4 (dk_at dksL_law_118 9 rfl rfl)
theorem dL_law_2972 : decode cL_law 2972 = .ok (.iadd, 1) := dk_96 (dk_at dksL_law_118 10 rfl rfl)
theorem dL_law_2973 : decode cL_law 2973 = .ok (.iaload, 1) := dk_46 (dk_at dksL_law_118 11 rfl rfl)
theorem dL_law_2974 : decode cL_law 2974 = .ok (.invokevirtual 318, 3) := dk_182 1 62 (dk_at dksL_law_118 12 rfl rfl)
theorem dL_law_2977 : decode cL_law 2977 = .ok (.aload_n 2, 1) := dk_44 (dk_at dksL_law_118 15 rfl rfl)
theorem dL_law_2978 : decode cL_law 2978 = .ok (.aload_n 0, 1) := dk_42 (dk_at dksL_law_118 16 rfl rfl)
theorem dL_law_2979 : decode cL_law 2979 = .ok (.iload 4, 2) := dk_21 4 (dk_at dksL_law_118 17 rfl rfl)
theorem dL_law_2981 : decode cL_law 2981 = .ok (.iconst 1, 1) := dk_4 (dk_at dksL_law_118 19 rfl rfl)
theorem dL_law_2982 : decode cL_law 2982 = .ok (.iadd, 1) := dk_96 (dk_at dksL_law_118 20 rfl rfl)
theorem dL_law_2983 : decode cL_law 2983 = .ok (.iaload, 1) := dk_46 (dk_at dksL_law_118 21 rfl rfl)
theorem dL_law_2984 : decode cL_law 2984 = .ok (.invokevirtual 321, 3) := dk_182 1 65 (dk_at dksL_law_119 0 rfl rfl)
theorem dL_law_2987 : decode cL_law 2987 = .ok (.if_icmp .eq 30, 3) := dk_159 0 30 (dk_at dksL_law_119 3 rfl rfl)
theorem dL_law_2990 : decode cL_law 2990 = .ok (.iconst 0, 1) := dk_3 (dk_at dksL_law_119 6 rfl rfl)
theorem dL_law_2991 : decode cL_law 2991 = .ok (.ireturn, 1) := dk_172 (dk_at dksL_law_119 7 rfl rfl)
theorem dL_law_2992 : decode cL_law 2992 = .ok (.aload_n 1, 1) := dk_43 (dk_at dksL_law_119 8 rfl rfl)
theorem dL_law_2993 : decode cL_law 2993 = .ok (.aload_n 0, 1) := dk_42 (dk_at dksL_law_119 9 rfl rfl)
theorem dL_law_2994 : decode cL_law 2994 = .ok (.iload 4, 2) := dk_21 4 (dk_at dksL_law_119 10 rfl rfl)
theorem dL_law_2996 : decode cL_law 2996 = .ok (.iconst 1, 1) := dk_4 (dk_at dksL_law_119 12 rfl rfl)
theorem dL_law_2997 : decode cL_law 2997 = .ok (.iadd, 1) := dk_96 (dk_at dksL_law_119 13 rfl rfl)
theorem dL_law_2998 : decode cL_law 2998 = .ok (.iaload, 1) := dk_46 (dk_at dksL_law_119 14 rfl rfl)
theorem dL_law_2999 : decode cL_law 2999 = .ok (.invokevirtual 322, 3) := dk_182 1 66 (dk_at dksL_law_119 15 rfl rfl)
theorem dL_law_3002 : decode cL_law 3002 = .ok (.aload_n 2, 1) := dk_44 (dk_at dksL_law_119 18 rfl rfl)
theorem dL_law_3003 : decode cL_law 3003 = .ok (.aload_n 0, 1) := dk_42 (dk_at dksL_law_119 19 rfl rfl)
theorem dL_law_3004 : decode cL_law 3004 = .ok (.iload 4, 2) := dk_21 4 (dk_at dksL_law_119 20 rfl rfl)
theorem dL_law_3006 : decode cL_law 3006 = .ok (.iconst 1, 1) := dk_4 (dk_at dksL_law_119 22 rfl rfl)
theorem dL_law_3007 : decode cL_law 3007 = .ok (.iadd, 1) := dk_96 (dk_at dksL_law_119 23 rfl rfl)
theorem dL_law_3008 : decode cL_law 3008 = .ok (.iaload, 1) := dk_46 (dk_at dksL_law_120 0 rfl rfl)
theorem dL_law_3009 : decode cL_law 3009 = .ok (.invokevirtual 325, 3) := dk_182 1 69 (dk_at dksL_law_120 1 rfl rfl)
theorem dL_law_3012 : decode cL_law 3012 = .ok (.if_icmp .eq 5, 3) := dk_159 0 5 (dk_at dksL_law_120 4 rfl rfl)
theorem dL_law_3015 : decode cL_law 3015 = .ok (.iconst 0, 1) := dk_3 (dk_at dksL_law_120 7 rfl rfl)
theorem dL_law_3016 : decode cL_law 3016 = .ok (.ireturn, 1) := dk_172 (dk_at dksL_law_120 8 rfl rfl)
theorem dL_law_3017 : decode cL_law 3017 = .ok (.iinc 4 6, 3) := dk_132 4 6 (dk_at dksL_law_120 9 rfl rfl)
theorem dL_law_3020 : decode cL_law 3020 = .ok (.goto (-2997), 3) := dk_167 244 75 (dk_at dksL_law_120 12 rfl rfl)
theorem dL_law_3023 : decode cL_law 3023 = .ok (.iconst 1, 1) := dk_4 (dk_at dksL_law_120 15 rfl rfl)
theorem dL_law_3024 : decode cL_law 3024 = .ok (.ireturn, 1) := dk_172 (dk_at dksL_law_120 16 rfl rfl)
