/-! GlassLeadersModel -/
set_option maxRecDepth 100000
def RX12 : String := "GlassLeadersModel"
def TX12 : u_T := fun k => match k with
  | 0 => ("GlassLeadersModel", "thrown", "I", false)
  | 1 => ("GlassLeadersModel", "refused", "[I", true)
  | 2 => ("GlassLeadersModel", "taped", "I", false)
  | 3 => ("GlassLeadersModel", "size", "I", false)
  | 4 => ("GlassLeadersModel", "at", "I", false)
  | 5 => ("GlassLeadersModel", "bad", "I", false)
  | 6 => ("GlassLeadersModel", "badKind", "I", false)
  | 7 => ("GlassLeadersModel", "opens", "I", false)
  | 8 => ("GlassLeadersModel", "faultAt", "I", false)
  | 9 => ("GlassLeadersModel", "tape", "[I", true)
  | 10 => ("GlassLeadersModel", "l", "[I", true)
  | 11 => ("GlassLeadersModel", "read", "[I", true)
  | 12 => ("GlassLeadersModel", "isLand", "Z", false)
  | 13 => ("GlassLeadersModel", "rules", "I", false)
  | 14 => ("GlassLeadersModel", "steps", "I", false)
  | 15 => ("GlassLeadersModel", "step", "[I", true)
  | 16 => ("GlassLeadersModel", "stepValue", "[I", true)
  | 17 => ("GlassLeadersModel", "newStep", "[I", true)
  | 18 => ("GlassLeadersModel", "newValue", "[I", true)
  | 19 => ("GlassLeadersModel", "ruleGo", "[I", true)
  | 20 => ("GlassLeadersModel", "ruleTo", "[I", true)
  | 21 => ("GlassLeadersModel", "newGo", "[I", true)
  | 22 => ("GlassLeadersModel", "newTo", "[I", true)
  | 23 => ("GlassLeadersModel", "stack", "[I", true)
  | 24 => ("GlassLeadersModel", "names", "[I", true)
  | 25 => ("GlassLeadersModel", "s", "[I", true)
  | 26 => ("GlassLeadersModel", "image", "[I", true)
  | 27 => ("GlassLeadersModel", "images", "I", false)
  | 28 => ("GlassLeadersModel", "isKnown", "Z", false)
  | 29 => ("GlassLeadersModel", "leads", "[I", true)
  | 30 => ("GlassLeadersModel", "kinds", "[I", true)
  | 31 => ("GlassLeadersModel", "store", "I", false)
  | 32 => ("GlassLeadersModel", "omitted", "I", false)
  | 33 => ("GlassLeadersModel", "pactOne", "I", false)
  | 34 => ("GlassLeadersModel", "pactOther", "I", false)
  | 35 => ("GlassLeadersModel", "isVoted", "Z", false)
  | 36 => ("GlassLeadersModel", "lawful", "[I", true)
  | 37 => ("GlassLeadersModel", "takes", "[I", true)
  | 38 => ("GlassLeadersModel", "scale", "[J", true)
  | 39 => ("GlassLeadersModel", "worth", "[J", true)
  | 40 => ("GlassLeadersModel", "aloneWorth", "[J", true)
  | 41 => ("GlassLeadersModel", "blindWorth", "[J", true)
  | 42 => ("GlassLeadersModel", "snowy", "[Z", true)
  | 43 => ("GlassLeadersModel", "votes", "[I", true)
  | 44 => ("GlassLeadersModel", "atPlace", "I", false)
  | 45 => ("GlassLeadersModel", "atHour", "I", false)
  | 46 => ("GlassLeadersModel", "atStores", "I", false)
  | 47 => ("GlassLeadersModel", "before", "[J", true)
  | 48 => ("GlassLeadersModel", "round", "[I", true)
  | 49 => ("GlassLeadersModel", "bestRound", "I", false)
  | 50 => ("GlassLeadersModel", "bestWorth", "J", false)
  | 51 => ("GlassLeadersModel", "can", "[Z", true)
  | _ => ("GlassLeadersModel", "mass", "[J", true)
def tyX12 : Nat → FieldType := fun k => match k with
  | 0 => .int
  | 1 => .array .int
  | 2 => .int
  | 3 => .int
  | 4 => .int
  | 5 => .int
  | 6 => .int
  | 7 => .int
  | 8 => .int
  | 9 => .array .int
  | 10 => .array .int
  | 11 => .array .int
  | 12 => .boolean
  | 13 => .int
  | 14 => .int
  | 15 => .array .int
  | 16 => .array .int
  | 17 => .array .int
  | 18 => .array .int
  | 19 => .array .int
  | 20 => .array .int
  | 21 => .array .int
  | 22 => .array .int
  | 23 => .array .int
  | 24 => .array .int
  | 25 => .array .int
  | 26 => .array .int
  | 27 => .int
  | 28 => .boolean
  | 29 => .array .int
  | 30 => .array .int
  | 31 => .int
  | 32 => .int
  | 33 => .int
  | 34 => .int
  | 35 => .boolean
  | 36 => .array .int
  | 37 => .array .int
  | 38 => .array .long
  | 39 => .array .long
  | 40 => .array .long
  | 41 => .array .long
  | 42 => .array .boolean
  | 43 => .array .int
  | 44 => .int
  | 45 => .int
  | 46 => .int
  | 47 => .array .long
  | 48 => .array .int
  | 49 => .int
  | 50 => .long
  | 51 => .array .boolean
  | _ => .array .long
abbrev wsX120 : List Cond := u_ws RX12 TX12 53
set_option maxRecDepth 100000 in
theorem nmX12 : ∀ a, a < 53 → ∀ b, b < 53 → a ≠ b → (TX12 a).2.1 ≠ (TX12 b).2.1 := by decide +kernel
set_option maxRecDepth 100000 in
theorem tyX12_ok : ∀ k, k < 53 → parseFieldDescriptor (TX12 k).2.2.1 = some (tyX12 k) := by decide +kernel
abbrev cX12_thrown : ByteArray := prog_27_method_1_code
def yX12_thrown : MethodName := ⟨RX12, "thrown", "()I"⟩
theorem dX12_thrown_0 : decode cX12_thrown 0 = .ok (.aload_n 0, 1) := by decide +kernel
theorem dX12_thrown_1 : decode cX12_thrown 1 = .ok (.getfield 1, 3) := by decide +kernel
theorem dX12_thrown_4 : decode cX12_thrown 4 = .ok (.ireturn, 1) := by decide +kernel
abbrev cX12_init : ByteArray := prog_27_method_4_code
def yX12_init : MethodName := ⟨RX12, "<init>", "()V"⟩
def dkwX12_init_12 : List UInt8 := [182, 0, 118, 177]
abbrev dktX12_init_12 : List UInt8 := dkwX12_init_12 ++ []
def dkwX12_init_11 : List UInt8 := [188, 10, 181, 0, 109, 42, 17, 15, 60, 188, 4, 181, 0, 112, 42, 17, 15, 60, 188, 11, 181, 0, 115, 42]
abbrev dktX12_init_11 : List UInt8 := dkwX12_init_11 ++ dktX12_init_12
def dkwX12_init_10 : List UInt8 := [16, 25, 188, 4, 181, 0, 99, 42, 16, 25, 188, 10, 181, 0, 103, 42, 8, 188, 11, 181, 0, 106, 42, 8]
abbrev dktX12_init_10 : List UInt8 := dkwX12_init_10 ++ dktX12_init_11
def dkwX12_init_9 : List UInt8 := [188, 11, 181, 0, 90, 42, 17, 76, 44, 188, 11, 181, 0, 93, 42, 17, 76, 44, 188, 11, 181, 0, 96, 42]
abbrev dktX12_init_9 : List UInt8 := dkwX12_init_9 ++ dktX12_init_10
def dkwX12_init_8 : List UInt8 := [181, 0, 80, 42, 17, 15, 60, 188, 10, 181, 0, 83, 42, 16, 25, 188, 11, 181, 0, 86, 42, 17, 76, 44]
abbrev dktX12_init_8 : List UInt8 := dkwX12_init_8 ++ dktX12_init_9
def dkwX12_init_7 : List UInt8 := [181, 0, 68, 42, 2, 181, 0, 71, 42, 2, 181, 0, 74, 42, 2, 181, 0, 77, 42, 17, 76, 44, 188, 10]
abbrev dktX12_init_7 : List UInt8 := dkwX12_init_7 ++ dktX12_init_8
def dkwX12_init_6 : List UInt8 := [181, 0, 59, 42, 17, 1, 212, 188, 10, 181, 0, 62, 42, 16, 24, 188, 10, 181, 0, 65, 42, 8, 188, 10]
abbrev dktX12_init_6 : List UInt8 := dkwX12_init_6 ++ dktX12_init_7
def dkwX12_init_5 : List UInt8 := [17, 2, 108, 188, 10, 181, 0, 53, 42, 16, 8, 188, 10, 181, 0, 56, 42, 17, 0, 156, 188, 10]
abbrev dktX12_init_5 : List UInt8 := dkwX12_init_5 ++ dktX12_init_6
def dkwX12_init_4 : List UInt8 := [188, 10, 181, 0, 44, 42, 16, 10, 188, 10, 181, 0, 47, 42, 16, 11, 188, 10, 181, 0, 50, 42]
abbrev dktX12_init_4 : List UInt8 := dkwX12_init_4 ++ dktX12_init_5
def dkwX12_init_3 : List UInt8 := [181, 0, 35, 42, 17, 2, 108, 188, 10, 181, 0, 38, 42, 16, 10, 188, 10, 181, 0, 41, 42, 16, 11]
abbrev dktX12_init_3 : List UInt8 := dkwX12_init_3 ++ dktX12_init_4
def dkwX12_init_2 : List UInt8 := [17, 2, 108, 188, 10, 181, 0, 29, 42, 17, 2, 108, 188, 10, 181, 0, 32, 42, 17, 2, 108, 188, 10]
abbrev dktX12_init_2 : List UInt8 := dkwX12_init_2 ++ dktX12_init_3
def dkwX12_init_1 : List UInt8 := [181, 0, 20, 42, 17, 2, 196, 188, 10, 181, 0, 23, 42, 17, 2, 196, 188, 10, 181, 0, 26, 42]
abbrev dktX12_init_1 : List UInt8 := dkwX12_init_1 ++ dktX12_init_2
def dkwX12_init_0 : List UInt8 := [42, 183, 0, 11, 42, 7, 188, 10, 181, 0, 7, 42, 2, 181, 0, 17, 42, 17, 2, 88, 188, 10]
abbrev dktX12_init_0 : List UInt8 := dkwX12_init_0 ++ dktX12_init_1
theorem dksX12_init_0 : cX12_init.data.toList.drop 0 = dktX12_init_0 := by decide +kernel
theorem dksX12_init_1 : cX12_init.data.toList.drop 22 = dktX12_init_1 := dk_seg dksX12_init_0 22 rfl rfl
theorem dksX12_init_2 : cX12_init.data.toList.drop 44 = dktX12_init_2 := dk_seg dksX12_init_1 22 rfl rfl
theorem dksX12_init_3 : cX12_init.data.toList.drop 67 = dktX12_init_3 := dk_seg dksX12_init_2 23 rfl rfl
theorem dksX12_init_4 : cX12_init.data.toList.drop 90 = dktX12_init_4 := dk_seg dksX12_init_3 23 rfl rfl
theorem dksX12_init_5 : cX12_init.data.toList.drop 112 = dktX12_init_5 := dk_seg dksX12_init_4 22 rfl rfl
theorem dksX12_init_6 : cX12_init.data.toList.drop 134 = dktX12_init_6 := dk_seg dksX12_init_5 22 rfl rfl
theorem dksX12_init_7 : cX12_init.data.toList.drop 158 = dktX12_init_7 := dk_seg dksX12_init_6 24 rfl rfl
theorem dksX12_init_8 : cX12_init.data.toList.drop 182 = dktX12_init_8 := dk_seg dksX12_init_7 24 rfl rfl
theorem dksX12_init_9 : cX12_init.data.toList.drop 206 = dktX12_init_9 := dk_seg dksX12_init_8 24 rfl rfl
theorem dksX12_init_10 : cX12_init.data.toList.drop 230 = dktX12_init_10 := dk_seg dksX12_init_9 24 rfl rfl
theorem dksX12_init_11 : cX12_init.data.toList.drop 254 = dktX12_init_11 := dk_seg dksX12_init_10 24 rfl rfl
theorem dksX12_init_12 : cX12_init.data.toList.drop 278 = dktX12_init_12 := dk_seg dksX12_init_11 24 rfl rfl
theorem dX12_init_0 : decode cX12_init 0 = .ok (.aload_n 0, 1) := dk_42 (dk_at dksX12_init_0 0 rfl rfl)
theorem dX12_init_1 : decode cX12_init 1 = .ok (.invokespecial 11, 3) := dk_183 0 11 (dk_at dksX12_init_0 1 rfl rfl)
theorem dX12_init_4 : decode cX12_init 4 = .ok (.aload_n 0, 1) := dk_42 (dk_at dksX12_init_0 4 rfl rfl)
theorem dX12_init_5 : decode cX12_init 5 = .ok (.iconst 4, 1) := dk_7 (dk_at dksX12_init_0 5 rfl rfl)
theorem dX12_init_6 : decode cX12_init 6 = .ok (.newarray .int, 2) := dk_188_10 (dk_at dksX12_init_0 6 rfl rfl)
theorem dX12_init_8 : decode cX12_init 8 = .ok (.putfield 7, 3) := dk_181 0 7 (dk_at dksX12_init_0 8 rfl rfl)
theorem dX12_init_11 : decode cX12_init 11 = .ok (.aload_n 0, 1) := dk_42 (dk_at dksX12_init_0 11 rfl rfl)
theorem dX12_init_12 : decode cX12_init 12 = .ok (.iconst (-1), 1) := dk_2 (dk_at dksX12_init_0 12 rfl rfl)
theorem dX12_init_13 : decode cX12_init 13 = .ok (.putfield 17, 3) := dk_181 0 17 (dk_at dksX12_init_0 13 rfl rfl)
theorem dX12_init_16 : decode cX12_init 16 = .ok (.aload_n 0, 1) := dk_42 (dk_at dksX12_init_0 16 rfl rfl)
theorem dX12_init_17 : decode cX12_init 17 = .ok (.sipush 600, 3) := dk_17 2 88 (dk_at dksX12_init_0 17 rfl rfl)
theorem dX12_init_20 : decode cX12_init 20 = .ok (.newarray .int, 2) := dk_188_10 (dk_at dksX12_init_0 20 rfl rfl)
theorem dX12_init_22 : decode cX12_init 22 = .ok (.putfield 20, 3) := dk_181 0 20 (dk_at dksX12_init_1 0 rfl rfl)
theorem dX12_init_25 : decode cX12_init 25 = .ok (.aload_n 0, 1) := dk_42 (dk_at dksX12_init_1 3 rfl rfl)
theorem dX12_init_26 : decode cX12_init 26 = .ok (.sipush 708, 3) := dk_17 2 196 (dk_at dksX12_init_1 4 rfl rfl)
theorem dX12_init_29 : decode cX12_init 29 = .ok (.newarray .int, 2) := dk_188_10 (dk_at dksX12_init_1 7 rfl rfl)
theorem dX12_init_31 : decode cX12_init 31 = .ok (.putfield 23, 3) := dk_181 0 23 (dk_at dksX12_init_1 9 rfl rfl)
theorem dX12_init_34 : decode cX12_init 34 = .ok (.aload_n 0, 1) := dk_42 (dk_at dksX12_init_1 12 rfl rfl)
theorem dX12_init_35 : decode cX12_init 35 = .ok (.sipush 708, 3) := dk_17 2 196 (dk_at dksX12_init_1 13 rfl rfl)
theorem dX12_init_38 : decode cX12_init 38 = .ok (.newarray .int, 2) := dk_188_10 (dk_at dksX12_init_1 16 rfl rfl)
theorem dX12_init_40 : decode cX12_init 40 = .ok (.putfield 26, 3) := dk_181 0 26 (dk_at dksX12_init_1 18 rfl rfl)
theorem dX12_init_43 : decode cX12_init 43 = .ok (.aload_n 0, 1) := dk_42 (dk_at dksX12_init_1 21 rfl rfl)
theorem dX12_init_44 : decode cX12_init 44 = .ok (.sipush 620, 3) := dk_17 2 108 (dk_at dksX12_init_2 0 rfl rfl)
theorem dX12_init_47 : decode cX12_init 47 = .ok (.newarray .int, 2) := dk_188_10 (dk_at dksX12_init_2 3 rfl rfl)
theorem dX12_init_49 : decode cX12_init 49 = .ok (.putfield 29, 3) := dk_181 0 29 (dk_at dksX12_init_2 5 rfl rfl)
theorem dX12_init_52 : decode cX12_init 52 = .ok (.aload_n 0, 1) := dk_42 (dk_at dksX12_init_2 8 rfl rfl)
theorem dX12_init_53 : decode cX12_init 53 = .ok (.sipush 620, 3) := dk_17 2 108 (dk_at dksX12_init_2 9 rfl rfl)
theorem dX12_init_56 : decode cX12_init 56 = .ok (.newarray .int, 2) := dk_188_10 (dk_at dksX12_init_2 12 rfl rfl)
theorem dX12_init_58 : decode cX12_init 58 = .ok (.putfield 32, 3) := dk_181 0 32 (dk_at dksX12_init_2 14 rfl rfl)
theorem dX12_init_61 : decode cX12_init 61 = .ok (.aload_n 0, 1) := dk_42 (dk_at dksX12_init_2 17 rfl rfl)
theorem dX12_init_62 : decode cX12_init 62 = .ok (.sipush 620, 3) := dk_17 2 108 (dk_at dksX12_init_2 18 rfl rfl)
theorem dX12_init_65 : decode cX12_init 65 = .ok (.newarray .int, 2) := dk_188_10 (dk_at dksX12_init_2 21 rfl rfl)
theorem dX12_init_67 : decode cX12_init 67 = .ok (.putfield 35, 3) := dk_181 0 35 (dk_at dksX12_init_3 0 rfl rfl)
theorem dX12_init_70 : decode cX12_init 70 = .ok (.aload_n 0, 1) := dk_42 (dk_at dksX12_init_3 3 rfl rfl)
theorem dX12_init_71 : decode cX12_init 71 = .ok (.sipush 620, 3) := dk_17 2 108 (dk_at dksX12_init_3 4 rfl rfl)
theorem dX12_init_74 : decode cX12_init 74 = .ok (.newarray .int, 2) := dk_188_10 (dk_at dksX12_init_3 7 rfl rfl)
theorem dX12_init_76 : decode cX12_init 76 = .ok (.putfield 38, 3) := dk_181 0 38 (dk_at dksX12_init_3 9 rfl rfl)
theorem dX12_init_79 : decode cX12_init 79 = .ok (.aload_n 0, 1) := dk_42 (dk_at dksX12_init_3 12 rfl rfl)
theorem dX12_init_80 : decode cX12_init 80 = .ok (.bipush 10, 2) := dk_16 10 (dk_at dksX12_init_3 13 rfl rfl)
theorem dX12_init_82 : decode cX12_init 82 = .ok (.newarray .int, 2) := dk_188_10 (dk_at dksX12_init_3 15 rfl rfl)
theorem dX12_init_84 : decode cX12_init 84 = .ok (.putfield 41, 3) := dk_181 0 41 (dk_at dksX12_init_3 17 rfl rfl)
theorem dX12_init_87 : decode cX12_init 87 = .ok (.aload_n 0, 1) := dk_42 (dk_at dksX12_init_3 20 rfl rfl)
theorem dX12_init_88 : decode cX12_init 88 = .ok (.bipush 11, 2) := dk_16 11 (dk_at dksX12_init_3 21 rfl rfl)
theorem dX12_init_90 : decode cX12_init 90 = .ok (.newarray .int, 2) := dk_188_10 (dk_at dksX12_init_4 0 rfl rfl)
theorem dX12_init_92 : decode cX12_init 92 = .ok (.putfield 44, 3) := dk_181 0 44 (dk_at dksX12_init_4 2 rfl rfl)
theorem dX12_init_95 : decode cX12_init 95 = .ok (.aload_n 0, 1) := dk_42 (dk_at dksX12_init_4 5 rfl rfl)
theorem dX12_init_96 : decode cX12_init 96 = .ok (.bipush 10, 2) := dk_16 10 (dk_at dksX12_init_4 6 rfl rfl)
theorem dX12_init_98 : decode cX12_init 98 = .ok (.newarray .int, 2) := dk_188_10 (dk_at dksX12_init_4 8 rfl rfl)
theorem dX12_init_100 : decode cX12_init 100 = .ok (.putfield 47, 3) := dk_181 0 47 (dk_at dksX12_init_4 10 rfl rfl)
theorem dX12_init_103 : decode cX12_init 103 = .ok (.aload_n 0, 1) := dk_42 (dk_at dksX12_init_4 13 rfl rfl)
theorem dX12_init_104 : decode cX12_init 104 = .ok (.bipush 11, 2) := dk_16 11 (dk_at dksX12_init_4 14 rfl rfl)
theorem dX12_init_106 : decode cX12_init 106 = .ok (.newarray .int, 2) := dk_188_10 (dk_at dksX12_init_4 16 rfl rfl)
theorem dX12_init_108 : decode cX12_init 108 = .ok (.putfield 50, 3) := dk_181 0 50 (dk_at dksX12_init_4 18 rfl rfl)
theorem dX12_init_111 : decode cX12_init 111 = .ok (.aload_n 0, 1) := dk_42 (dk_at dksX12_init_4 21 rfl rfl)
theorem dX12_init_112 : decode cX12_init 112 = .ok (.sipush 620, 3) := dk_17 2 108 (dk_at dksX12_init_5 0 rfl rfl)
theorem dX12_init_115 : decode cX12_init 115 = .ok (.newarray .int, 2) := dk_188_10 (dk_at dksX12_init_5 3 rfl rfl)
theorem dX12_init_117 : decode cX12_init 117 = .ok (.putfield 53, 3) := dk_181 0 53 (dk_at dksX12_init_5 5 rfl rfl)
theorem dX12_init_120 : decode cX12_init 120 = .ok (.aload_n 0, 1) := dk_42 (dk_at dksX12_init_5 8 rfl rfl)
theorem dX12_init_121 : decode cX12_init 121 = .ok (.bipush 8, 2) := dk_16 8 (dk_at dksX12_init_5 9 rfl rfl)
theorem dX12_init_123 : decode cX12_init 123 = .ok (.newarray .int, 2) := dk_188_10 (dk_at dksX12_init_5 11 rfl rfl)
theorem dX12_init_125 : decode cX12_init 125 = .ok (.putfield 56, 3) := dk_181 0 56 (dk_at dksX12_init_5 13 rfl rfl)
theorem dX12_init_128 : decode cX12_init 128 = .ok (.aload_n 0, 1) := dk_42 (dk_at dksX12_init_5 16 rfl rfl)
theorem dX12_init_129 : decode cX12_init 129 = .ok (.sipush 156, 3) := dk_17 0 156 (dk_at dksX12_init_5 17 rfl rfl)
theorem dX12_init_132 : decode cX12_init 132 = .ok (.newarray .int, 2) := dk_188_10 (dk_at dksX12_init_5 20 rfl rfl)
theorem dX12_init_134 : decode cX12_init 134 = .ok (.putfield 59, 3) := dk_181 0 59 (dk_at dksX12_init_6 0 rfl rfl)
theorem dX12_init_137 : decode cX12_init 137 = .ok (.aload_n 0, 1) := dk_42 (dk_at dksX12_init_6 3 rfl rfl)
theorem dX12_init_138 : decode cX12_init 138 = .ok (.sipush 468, 3) := dk_17 1 212 (dk_at dksX12_init_6 4 rfl rfl)
theorem dX12_init_141 : decode cX12_init 141 = .ok (.newarray .int, 2) := dk_188_10 (dk_at dksX12_init_6 7 rfl rfl)
theorem dX12_init_143 : decode cX12_init 143 = .ok (.putfield 62, 3) := dk_181 0 62 (dk_at dksX12_init_6 9 rfl rfl)
theorem dX12_init_146 : decode cX12_init 146 = .ok (.aload_n 0, 1) := dk_42 (dk_at dksX12_init_6 12 rfl rfl)
theorem dX12_init_147 : decode cX12_init 147 = .ok (.bipush 24, 2) := dk_16 24 (dk_at dksX12_init_6 13 rfl rfl)
theorem dX12_init_149 : decode cX12_init 149 = .ok (.newarray .int, 2) := dk_188_10 (dk_at dksX12_init_6 15 rfl rfl)
theorem dX12_init_151 : decode cX12_init 151 = .ok (.putfield 65, 3) := dk_181 0 65 (dk_at dksX12_init_6 17 rfl rfl)
theorem dX12_init_154 : decode cX12_init 154 = .ok (.aload_n 0, 1) := dk_42 (dk_at dksX12_init_6 20 rfl rfl)
theorem dX12_init_155 : decode cX12_init 155 = .ok (.iconst 5, 1) := dk_8 (dk_at dksX12_init_6 21 rfl rfl)
theorem dX12_init_156 : decode cX12_init 156 = .ok (.newarray .int, 2) := dk_188_10 (dk_at dksX12_init_6 22 rfl rfl)
theorem dX12_init_158 : decode cX12_init 158 = .ok (.putfield 68, 3) := dk_181 0 68 (dk_at dksX12_init_7 0 rfl rfl)
theorem dX12_init_161 : decode cX12_init 161 = .ok (.aload_n 0, 1) := dk_42 (dk_at dksX12_init_7 3 rfl rfl)
theorem dX12_init_162 : decode cX12_init 162 = .ok (.iconst (-1), 1) := dk_2 (dk_at dksX12_init_7 4 rfl rfl)
theorem dX12_init_163 : decode cX12_init 163 = .ok (.putfield 71, 3) := dk_181 0 71 (dk_at dksX12_init_7 5 rfl rfl)
theorem dX12_init_166 : decode cX12_init 166 = .ok (.aload_n 0, 1) := dk_42 (dk_at dksX12_init_7 8 rfl rfl)
theorem dX12_init_167 : decode cX12_init 167 = .ok (.iconst (-1), 1) := dk_2 (dk_at dksX12_init_7 9 rfl rfl)
theorem dX12_init_168 : decode cX12_init 168 = .ok (.putfield 74, 3) := dk_181 0 74 (dk_at dksX12_init_7 10 rfl rfl)
theorem dX12_init_171 : decode cX12_init 171 = .ok (.aload_n 0, 1) := dk_42 (dk_at dksX12_init_7 13 rfl rfl)
theorem dX12_init_172 : decode cX12_init 172 = .ok (.iconst (-1), 1) := dk_2 (dk_at dksX12_init_7 14 rfl rfl)
theorem dX12_init_173 : decode cX12_init 173 = .ok (.putfield 77, 3) := dk_181 0 77 (dk_at dksX12_init_7 15 rfl rfl)
theorem dX12_init_176 : decode cX12_init 176 = .ok (.aload_n 0, 1) := dk_42 (dk_at dksX12_init_7 18 rfl rfl)
theorem dX12_init_177 : decode cX12_init 177 = .ok (.sipush 19500, 3) := dk_17 76 44 (dk_at dksX12_init_7 19 rfl rfl)
theorem dX12_init_180 : decode cX12_init 180 = .ok (.newarray .int, 2) := dk_188_10 (dk_at dksX12_init_7 22 rfl rfl)
theorem dX12_init_182 : decode cX12_init 182 = .ok (.putfield 80, 3) := dk_181 0 80 (dk_at dksX12_init_8 0 rfl rfl)
theorem dX12_init_185 : decode cX12_init 185 = .ok (.aload_n 0, 1) := dk_42 (dk_at dksX12_init_8 3 rfl rfl)
theorem dX12_init_186 : decode cX12_init 186 = .ok (.sipush 3900, 3) := dk_17 15 60 (dk_at dksX12_init_8 4 rfl rfl)
theorem dX12_init_189 : decode cX12_init 189 = .ok (.newarray .int, 2) := dk_188_10 (dk_at dksX12_init_8 7 rfl rfl)
theorem dX12_init_191 : decode cX12_init 191 = .ok (.putfield 83, 3) := dk_181 0 83 (dk_at dksX12_init_8 9 rfl rfl)
theorem dX12_init_194 : decode cX12_init 194 = .ok (.aload_n 0, 1) := dk_42 (dk_at dksX12_init_8 12 rfl rfl)
theorem dX12_init_195 : decode cX12_init 195 = .ok (.bipush 25, 2) := dk_16 25 (dk_at dksX12_init_8 13 rfl rfl)
theorem dX12_init_197 : decode cX12_init 197 = .ok (.newarray .long, 2) := dk_188_11 (dk_at dksX12_init_8 15 rfl rfl)
theorem dX12_init_199 : decode cX12_init 199 = .ok (.putfield 86, 3) := dk_181 0 86 (dk_at dksX12_init_8 17 rfl rfl)
theorem dX12_init_202 : decode cX12_init 202 = .ok (.aload_n 0, 1) := dk_42 (dk_at dksX12_init_8 20 rfl rfl)
theorem dX12_init_203 : decode cX12_init 203 = .ok (.sipush 19500, 3) := dk_17 76 44 (dk_at dksX12_init_8 21 rfl rfl)
theorem dX12_init_206 : decode cX12_init 206 = .ok (.newarray .long, 2) := dk_188_11 (dk_at dksX12_init_9 0 rfl rfl)
theorem dX12_init_208 : decode cX12_init 208 = .ok (.putfield 90, 3) := dk_181 0 90 (dk_at dksX12_init_9 2 rfl rfl)
theorem dX12_init_211 : decode cX12_init 211 = .ok (.aload_n 0, 1) := dk_42 (dk_at dksX12_init_9 5 rfl rfl)
theorem dX12_init_212 : decode cX12_init 212 = .ok (.sipush 19500, 3) := dk_17 76 44 (dk_at dksX12_init_9 6 rfl rfl)
theorem dX12_init_215 : decode cX12_init 215 = .ok (.newarray .long, 2) := dk_188_11 (dk_at dksX12_init_9 9 rfl rfl)
theorem dX12_init_217 : decode cX12_init 217 = .ok (.putfield 93, 3) := dk_181 0 93 (dk_at dksX12_init_9 11 rfl rfl)
theorem dX12_init_220 : decode cX12_init 220 = .ok (.aload_n 0, 1) := dk_42 (dk_at dksX12_init_9 14 rfl rfl)
theorem dX12_init_221 : decode cX12_init 221 = .ok (.sipush 19500, 3) := dk_17 76 44 (dk_at dksX12_init_9 15 rfl rfl)
theorem dX12_init_224 : decode cX12_init 224 = .ok (.newarray .long, 2) := dk_188_11 (dk_at dksX12_init_9 18 rfl rfl)
theorem dX12_init_226 : decode cX12_init 226 = .ok (.putfield 96, 3) := dk_181 0 96 (dk_at dksX12_init_9 20 rfl rfl)
theorem dX12_init_229 : decode cX12_init 229 = .ok (.aload_n 0, 1) := dk_42 (dk_at dksX12_init_9 23 rfl rfl)
theorem dX12_init_230 : decode cX12_init 230 = .ok (.bipush 25, 2) := dk_16 25 (dk_at dksX12_init_10 0 rfl rfl)
theorem dX12_init_232 : decode cX12_init 232 = .ok (.newarray .boolean, 2) := dk_188_4 (dk_at dksX12_init_10 2 rfl rfl)
theorem dX12_init_234 : decode cX12_init 234 = .ok (.putfield 99, 3) := dk_181 0 99 (dk_at dksX12_init_10 4 rfl rfl)
theorem dX12_init_237 : decode cX12_init 237 = .ok (.aload_n 0, 1) := dk_42 (dk_at dksX12_init_10 7 rfl rfl)
theorem dX12_init_238 : decode cX12_init 238 = .ok (.bipush 25, 2) := dk_16 25 (dk_at dksX12_init_10 8 rfl rfl)
theorem dX12_init_240 : decode cX12_init 240 = .ok (.newarray .int, 2) := dk_188_10 (dk_at dksX12_init_10 10 rfl rfl)
theorem dX12_init_242 : decode cX12_init 242 = .ok (.putfield 103, 3) := dk_181 0 103 (dk_at dksX12_init_10 12 rfl rfl)
theorem dX12_init_245 : decode cX12_init 245 = .ok (.aload_n 0, 1) := dk_42 (dk_at dksX12_init_10 15 rfl rfl)
theorem dX12_init_246 : decode cX12_init 246 = .ok (.iconst 5, 1) := dk_8 (dk_at dksX12_init_10 16 rfl rfl)
theorem dX12_init_247 : decode cX12_init 247 = .ok (.newarray .long, 2) := dk_188_11 (dk_at dksX12_init_10 17 rfl rfl)
theorem dX12_init_249 : decode cX12_init 249 = .ok (.putfield 106, 3) := dk_181 0 106 (dk_at dksX12_init_10 19 rfl rfl)
theorem dX12_init_252 : decode cX12_init 252 = .ok (.aload_n 0, 1) := dk_42 (dk_at dksX12_init_10 22 rfl rfl)
theorem dX12_init_253 : decode cX12_init 253 = .ok (.iconst 5, 1) := dk_8 (dk_at dksX12_init_10 23 rfl rfl)
theorem dX12_init_254 : decode cX12_init 254 = .ok (.newarray .int, 2) := dk_188_10 (dk_at dksX12_init_11 0 rfl rfl)
theorem dX12_init_256 : decode cX12_init 256 = .ok (.putfield 109, 3) := dk_181 0 109 (dk_at dksX12_init_11 2 rfl rfl)
theorem dX12_init_259 : decode cX12_init 259 = .ok (.aload_n 0, 1) := dk_42 (dk_at dksX12_init_11 5 rfl rfl)
theorem dX12_init_260 : decode cX12_init 260 = .ok (.sipush 3900, 3) := dk_17 15 60 (dk_at dksX12_init_11 6 rfl rfl)
theorem dX12_init_263 : decode cX12_init 263 = .ok (.newarray .boolean, 2) := dk_188_4 (dk_at dksX12_init_11 9 rfl rfl)
theorem dX12_init_265 : decode cX12_init 265 = .ok (.putfield 112, 3) := dk_181 0 112 (dk_at dksX12_init_11 11 rfl rfl)
theorem dX12_init_268 : decode cX12_init 268 = .ok (.aload_n 0, 1) := dk_42 (dk_at dksX12_init_11 14 rfl rfl)
theorem dX12_init_269 : decode cX12_init 269 = .ok (.sipush 3900, 3) := dk_17 15 60 (dk_at dksX12_init_11 15 rfl rfl)
theorem dX12_init_272 : decode cX12_init 272 = .ok (.newarray .long, 2) := dk_188_11 (dk_at dksX12_init_11 18 rfl rfl)
theorem dX12_init_274 : decode cX12_init 274 = .ok (.putfield 115, 3) := dk_181 0 115 (dk_at dksX12_init_11 20 rfl rfl)
theorem dX12_init_277 : decode cX12_init 277 = .ok (.aload_n 0, 1) := dk_42 (dk_at dksX12_init_11 23 rfl rfl)
theorem dX12_init_278 : decode cX12_init 278 = .ok (.invokevirtual 118, 3) := dk_182 0 118 (dk_at dksX12_init_12 0 rfl rfl)
theorem dX12_init_281 : decode cX12_init 281 = .ok (.return_, 1) := dk_177 (dk_at dksX12_init_12 3 rfl rfl)
abbrev cX12_anew : ByteArray := prog_27_method_41_code
def yX12_anew : MethodName := ⟨RX12, "anew", "()V"⟩
def dkwX12_anew_2 : List UInt8 := [3, 181, 1, 55, 177]
abbrev dktX12_anew_2 : List UInt8 := dkwX12_anew_2 ++ []
def dkwX12_anew_1 : List UInt8 := [162, 0, 7, 2, 167, 0, 4, 3, 79, 132, 1, 1, 167, 255, 223, 42, 180, 0, 59, 16, 53, 4, 79, 42]
abbrev dktX12_anew_1 : List UInt8 := dkwX12_anew_1 ++ dktX12_anew_2
def dkwX12_anew_0 : List UInt8 := [3, 60, 27, 17, 0, 156, 162, 0, 32, 42, 180, 0, 59, 27, 27, 16, 29, 161, 0, 13, 27, 16, 53]
abbrev dktX12_anew_0 : List UInt8 := dkwX12_anew_0 ++ dktX12_anew_1
theorem dksX12_anew_0 : cX12_anew.data.toList.drop 0 = dktX12_anew_0 := by decide +kernel
theorem dksX12_anew_1 : cX12_anew.data.toList.drop 23 = dktX12_anew_1 := dk_seg dksX12_anew_0 23 rfl rfl
theorem dksX12_anew_2 : cX12_anew.data.toList.drop 47 = dktX12_anew_2 := dk_seg dksX12_anew_1 24 rfl rfl
theorem dX12_anew_0 : decode cX12_anew 0 = .ok (.iconst 0, 1) := dk_3 (dk_at dksX12_anew_0 0 rfl rfl)
theorem dX12_anew_1 : decode cX12_anew 1 = .ok (.istore_n 1, 1) := dk_60 (dk_at dksX12_anew_0 1 rfl rfl)
theorem dX12_anew_2 : decode cX12_anew 2 = .ok (.iload_n 1, 1) := dk_27 (dk_at dksX12_anew_0 2 rfl rfl)
theorem dX12_anew_3 : decode cX12_anew 3 = .ok (.sipush 156, 3) := dk_17 0 156 (dk_at dksX12_anew_0 3 rfl rfl)
theorem dX12_anew_6 : decode cX12_anew 6 = .ok (.if_icmp .ge 32, 3) := dk_162 0 32 (dk_at dksX12_anew_0 6 rfl rfl)
theorem dX12_anew_9 : decode cX12_anew 9 = .ok (.aload_n 0, 1) := dk_42 (dk_at dksX12_anew_0 9 rfl rfl)
theorem dX12_anew_10 : decode cX12_anew 10 = .ok (.getfield 59, 3) := dk_180 0 59 (dk_at dksX12_anew_0 10 rfl rfl)
theorem dX12_anew_13 : decode cX12_anew 13 = .ok (.iload_n 1, 1) := dk_27 (dk_at dksX12_anew_0 13 rfl rfl)
theorem dX12_anew_14 : decode cX12_anew 14 = .ok (.iload_n 1, 1) := dk_27 (dk_at dksX12_anew_0 14 rfl rfl)
theorem dX12_anew_15 : decode cX12_anew 15 = .ok (.bipush 29, 2) := dk_16 29 (dk_at dksX12_anew_0 15 rfl rfl)
theorem dX12_anew_17 : decode cX12_anew 17 = .ok (.if_icmp .lt 13, 3) := dk_161 0 13 (dk_at dksX12_anew_0 17 rfl rfl)
theorem dX12_anew_20 : decode cX12_anew 20 = .ok (.iload_n 1, 1) := dk_27 (dk_at dksX12_anew_0 20 rfl rfl)
theorem dX12_anew_21 : decode cX12_anew 21 = .ok (.bipush 53, 2) := dk_16 53 (dk_at dksX12_anew_0 21 rfl rfl)
theorem dX12_anew_23 : decode cX12_anew 23 = .ok (.if_icmp .ge 7, 3) := dk_162 0 7 (dk_at dksX12_anew_1 0 rfl rfl)
theorem dX12_anew_26 : decode cX12_anew 26 = .ok (.iconst (-1), 1) := dk_2 (dk_at dksX12_anew_1 3 rfl rfl)
theorem dX12_anew_27 : decode cX12_anew 27 = .ok (.goto 4, 3) := dk_167 0 4 (dk_at dksX12_anew_1 4 rfl rfl)
theorem dX12_anew_30 : decode cX12_anew 30 = .ok (.iconst 0, 1) := dk_3 (dk_at dksX12_anew_1 7 rfl rfl)
theorem dX12_anew_31 : decode cX12_anew 31 = .ok (.iastore, 1) := dk_79 (dk_at dksX12_anew_1 8 rfl rfl)
theorem dX12_anew_32 : decode cX12_anew 32 = .ok (.iinc 1 1, 3) := dk_132 1 1 (dk_at dksX12_anew_1 9 rfl rfl)
theorem dX12_anew_35 : decode cX12_anew 35 = .ok (.goto (-33), 3) := dk_167 255 223 (dk_at dksX12_anew_1 12 rfl rfl)
theorem dX12_anew_38 : decode cX12_anew 38 = .ok (.aload_n 0, 1) := dk_42 (dk_at dksX12_anew_1 15 rfl rfl)
theorem dX12_anew_39 : decode cX12_anew 39 = .ok (.getfield 59, 3) := dk_180 0 59 (dk_at dksX12_anew_1 16 rfl rfl)
theorem dX12_anew_42 : decode cX12_anew 42 = .ok (.bipush 53, 2) := dk_16 53 (dk_at dksX12_anew_1 19 rfl rfl)
theorem dX12_anew_44 : decode cX12_anew 44 = .ok (.iconst 1, 1) := dk_4 (dk_at dksX12_anew_1 21 rfl rfl)
theorem dX12_anew_45 : decode cX12_anew 45 = .ok (.iastore, 1) := dk_79 (dk_at dksX12_anew_1 22 rfl rfl)
theorem dX12_anew_46 : decode cX12_anew 46 = .ok (.aload_n 0, 1) := dk_42 (dk_at dksX12_anew_1 23 rfl rfl)
theorem dX12_anew_47 : decode cX12_anew 47 = .ok (.iconst 0, 1) := dk_3 (dk_at dksX12_anew_2 0 rfl rfl)
theorem dX12_anew_48 : decode cX12_anew 48 = .ok (.putfield 311, 3) := dk_181 1 55 (dk_at dksX12_anew_2 1 rfl rfl)
theorem dX12_anew_51 : decode cX12_anew 51 = .ok (.return_, 1) := dk_177 (dk_at dksX12_anew_2 4 rfl rfl)
abbrev cX12_feed : ByteArray := prog_27_method_5_code
def yX12_feed : MethodName := ⟨RX12, "feed", "(IIIII)I"⟩
def dkwX12_feed_5 : List UInt8 := [167, 255, 162, 42, 180, 0, 121, 172]
abbrev dktX12_feed_5 : List UInt8 := dkwX12_feed_5 ++ []
def dkwX12_feed_4 : List UInt8 := [112, 104, 100, 122, 17, 0, 255, 126, 79, 42, 89, 180, 0, 121, 4, 96, 181, 0, 121, 132, 6, 1]
abbrev dktX12_feed_4 : List UInt8 := dkwX12_feed_4 ++ dktX12_feed_5
def dkwX12_feed_3 : List UInt8 := [167, 0, 5, 21, 5, 54, 7, 42, 180, 0, 20, 42, 180, 0, 121, 21, 7, 16, 24, 16, 8, 21, 6, 7]
abbrev dktX12_feed_3 : List UInt8 := dkwX12_feed_3 ++ dktX12_feed_4
def dkwX12_feed_2 : List UInt8 := [28, 167, 0, 28, 21, 6, 16, 12, 162, 0, 7, 29, 167, 0, 17, 21, 6, 16, 16, 162, 0, 8, 21, 4]
abbrev dktX12_feed_2 : List UInt8 := dkwX12_feed_2 ++ dktX12_feed_3
def dkwX12_feed_1 : List UInt8 := [21, 6, 16, 20, 162, 0, 93, 21, 6, 7, 162, 0, 7, 27, 167, 0, 39, 21, 6, 16, 8, 162, 0, 7]
abbrev dktX12_feed_1 : List UInt8 := dkwX12_feed_1 ++ dktX12_feed_2
def dkwX12_feed_0 : List UInt8 := [42, 3, 181, 0, 1, 42, 180, 0, 121, 16, 20, 96, 17, 2, 88, 164, 0, 5, 2, 172, 3, 54, 6]
abbrev dktX12_feed_0 : List UInt8 := dkwX12_feed_0 ++ dktX12_feed_1
theorem dksX12_feed_0 : cX12_feed.data.toList.drop 0 = dktX12_feed_0 := by decide +kernel
theorem dksX12_feed_1 : cX12_feed.data.toList.drop 23 = dktX12_feed_1 := dk_seg dksX12_feed_0 23 rfl rfl
theorem dksX12_feed_2 : cX12_feed.data.toList.drop 47 = dktX12_feed_2 := dk_seg dksX12_feed_1 24 rfl rfl
theorem dksX12_feed_3 : cX12_feed.data.toList.drop 71 = dktX12_feed_3 := dk_seg dksX12_feed_2 24 rfl rfl
theorem dksX12_feed_4 : cX12_feed.data.toList.drop 95 = dktX12_feed_4 := dk_seg dksX12_feed_3 24 rfl rfl
theorem dksX12_feed_5 : cX12_feed.data.toList.drop 117 = dktX12_feed_5 := dk_seg dksX12_feed_4 22 rfl rfl
theorem dX12_feed_0 : decode cX12_feed 0 = .ok (.aload_n 0, 1) := dk_42 (dk_at dksX12_feed_0 0 rfl rfl)
theorem dX12_feed_1 : decode cX12_feed 1 = .ok (.iconst 0, 1) := dk_3 (dk_at dksX12_feed_0 1 rfl rfl)
theorem dX12_feed_2 : decode cX12_feed 2 = .ok (.putfield 1, 3) := dk_181 0 1 (dk_at dksX12_feed_0 2 rfl rfl)
theorem dX12_feed_5 : decode cX12_feed 5 = .ok (.aload_n 0, 1) := dk_42 (dk_at dksX12_feed_0 5 rfl rfl)
theorem dX12_feed_6 : decode cX12_feed 6 = .ok (.getfield 121, 3) := dk_180 0 121 (dk_at dksX12_feed_0 6 rfl rfl)
theorem dX12_feed_9 : decode cX12_feed 9 = .ok (.bipush 20, 2) := dk_16 20 (dk_at dksX12_feed_0 9 rfl rfl)
theorem dX12_feed_11 : decode cX12_feed 11 = .ok (.iadd, 1) := dk_96 (dk_at dksX12_feed_0 11 rfl rfl)
theorem dX12_feed_12 : decode cX12_feed 12 = .ok (.sipush 600, 3) := dk_17 2 88 (dk_at dksX12_feed_0 12 rfl rfl)
theorem dX12_feed_15 : decode cX12_feed 15 = .ok (.if_icmp .le 5, 3) := dk_164 0 5 (dk_at dksX12_feed_0 15 rfl rfl)
theorem dX12_feed_18 : decode cX12_feed 18 = .ok (.iconst (-1), 1) := dk_2 (dk_at dksX12_feed_0 18 rfl rfl)
theorem dX12_feed_19 : decode cX12_feed 19 = .ok (.ireturn, 1) := dk_172 (dk_at dksX12_feed_0 19 rfl rfl)
theorem dX12_feed_20 : decode cX12_feed 20 = .ok (.iconst 0, 1) := dk_3 (dk_at dksX12_feed_0 20 rfl rfl)
theorem dX12_feed_21 : decode cX12_feed 21 = .ok (.istore 6, 2) := dk_54 6 (dk_at dksX12_feed_0 21 rfl rfl)
theorem dX12_feed_23 : decode cX12_feed 23 = .ok (.iload 6, 2) := dk_21 6 (dk_at dksX12_feed_1 0 rfl rfl)
theorem dX12_feed_25 : decode cX12_feed 25 = .ok (.bipush 20, 2) := dk_16 20 (dk_at dksX12_feed_1 2 rfl rfl)
theorem dX12_feed_27 : decode cX12_feed 27 = .ok (.if_icmp .ge 93, 3) := dk_162 0 93 (dk_at dksX12_feed_1 4 rfl rfl)
theorem dX12_feed_30 : decode cX12_feed 30 = .ok (.iload 6, 2) := dk_21 6 (dk_at dksX12_feed_1 7 rfl rfl)
theorem dX12_feed_32 : decode cX12_feed 32 = .ok (.iconst 4, 1) := dk_7 (dk_at dksX12_feed_1 9 rfl rfl)
theorem dX12_feed_33 : decode cX12_feed 33 = .ok (.if_icmp .ge 7, 3) := dk_162 0 7 (dk_at dksX12_feed_1 10 rfl rfl)
theorem dX12_feed_36 : decode cX12_feed 36 = .ok (.iload_n 1, 1) := dk_27 (dk_at dksX12_feed_1 13 rfl rfl)
theorem dX12_feed_37 : decode cX12_feed 37 = .ok (.goto 39, 3) := dk_167 0 39 (dk_at dksX12_feed_1 14 rfl rfl)
theorem dX12_feed_40 : decode cX12_feed 40 = .ok (.iload 6, 2) := dk_21 6 (dk_at dksX12_feed_1 17 rfl rfl)
theorem dX12_feed_42 : decode cX12_feed 42 = .ok (.bipush 8, 2) := dk_16 8 (dk_at dksX12_feed_1 19 rfl rfl)
theorem dX12_feed_44 : decode cX12_feed 44 = .ok (.if_icmp .ge 7, 3) := dk_162 0 7 (dk_at dksX12_feed_1 21 rfl rfl)
theorem dX12_feed_47 : decode cX12_feed 47 = .ok (.iload_n 2, 1) := dk_28 (dk_at dksX12_feed_2 0 rfl rfl)
theorem dX12_feed_48 : decode cX12_feed 48 = .ok (.goto 28, 3) := dk_167 0 28 (dk_at dksX12_feed_2 1 rfl rfl)
theorem dX12_feed_51 : decode cX12_feed 51 = .ok (.iload 6, 2) := dk_21 6 (dk_at dksX12_feed_2 4 rfl rfl)
theorem dX12_feed_53 : decode cX12_feed 53 = .ok (.bipush 12, 2) := dk_16 12 (dk_at dksX12_feed_2 6 rfl rfl)
theorem dX12_feed_55 : decode cX12_feed 55 = .ok (.if_icmp .ge 7, 3) := dk_162 0 7 (dk_at dksX12_feed_2 8 rfl rfl)
theorem dX12_feed_58 : decode cX12_feed 58 = .ok (.iload_n 3, 1) := dk_29 (dk_at dksX12_feed_2 11 rfl rfl)
theorem dX12_feed_59 : decode cX12_feed 59 = .ok (.goto 17, 3) := dk_167 0 17 (dk_at dksX12_feed_2 12 rfl rfl)
theorem dX12_feed_62 : decode cX12_feed 62 = .ok (.iload 6, 2) := dk_21 6 (dk_at dksX12_feed_2 15 rfl rfl)
theorem dX12_feed_64 : decode cX12_feed 64 = .ok (.bipush 16, 2) := dk_16 16 (dk_at dksX12_feed_2 17 rfl rfl)
theorem dX12_feed_66 : decode cX12_feed 66 = .ok (.if_icmp .ge 8, 3) := dk_162 0 8 (dk_at dksX12_feed_2 19 rfl rfl)
theorem dX12_feed_69 : decode cX12_feed 69 = .ok (.iload 4, 2) := dk_21 4 (dk_at dksX12_feed_2 22 rfl rfl)
theorem dX12_feed_71 : decode cX12_feed 71 = .ok (.goto 5, 3) := dk_167 0 5 (dk_at dksX12_feed_3 0 rfl rfl)
theorem dX12_feed_74 : decode cX12_feed 74 = .ok (.iload 5, 2) := dk_21 5 (dk_at dksX12_feed_3 3 rfl rfl)
theorem dX12_feed_76 : decode cX12_feed 76 = .ok (.istore 7, 2) := dk_54 7 (dk_at dksX12_feed_3 5 rfl rfl)
theorem dX12_feed_78 : decode cX12_feed 78 = .ok (.aload_n 0, 1) := dk_42 (dk_at dksX12_feed_3 7 rfl rfl)
theorem dX12_feed_79 : decode cX12_feed 79 = .ok (.getfield 20, 3) := dk_180 0 20 (dk_at dksX12_feed_3 8 rfl rfl)
theorem dX12_feed_82 : decode cX12_feed 82 = .ok (.aload_n 0, 1) := dk_42 (dk_at dksX12_feed_3 11 rfl rfl)
theorem dX12_feed_83 : decode cX12_feed 83 = .ok (.getfield 121, 3) := dk_180 0 121 (dk_at dksX12_feed_3 12 rfl rfl)
theorem dX12_feed_86 : decode cX12_feed 86 = .ok (.iload 7, 2) := dk_21 7 (dk_at dksX12_feed_3 15 rfl rfl)
theorem dX12_feed_88 : decode cX12_feed 88 = .ok (.bipush 24, 2) := dk_16 24 (dk_at dksX12_feed_3 17 rfl rfl)
theorem dX12_feed_90 : decode cX12_feed 90 = .ok (.bipush 8, 2) := dk_16 8 (dk_at dksX12_feed_3 19 rfl rfl)
theorem dX12_feed_92 : decode cX12_feed 92 = .ok (.iload 6, 2) := dk_21 6 (dk_at dksX12_feed_3 21 rfl rfl)
theorem dX12_feed_94 : decode cX12_feed 94 = .ok (.iconst 4, 1) := dk_7 (dk_at dksX12_feed_3 23 rfl rfl)
theorem dX12_feed_95 : decode cX12_feed 95 = .ok (.irem, 1) := dk_112 (dk_at dksX12_feed_4 0 rfl rfl)
theorem dX12_feed_96 : decode cX12_feed 96 = .ok (.imul, 1) := dk_104 (dk_at dksX12_feed_4 1 rfl rfl)
theorem dX12_feed_97 : decode cX12_feed 97 = .ok (.isub, 1) := dk_100 (dk_at dksX12_feed_4 2 rfl rfl)
theorem dX12_feed_98 : decode cX12_feed 98 = .ok (.ishr, 1) := dk_122 (dk_at dksX12_feed_4 3 rfl rfl)
theorem dX12_feed_99 : decode cX12_feed 99 = .ok (.sipush 255, 3) := dk_17 0 255 (dk_at dksX12_feed_4 4 rfl rfl)
theorem dX12_feed_102 : decode cX12_feed 102 = .ok (.iand, 1) := dk_126 (dk_at dksX12_feed_4 7 rfl rfl)
theorem dX12_feed_103 : decode cX12_feed 103 = .ok (.iastore, 1) := dk_79 (dk_at dksX12_feed_4 8 rfl rfl)
theorem dX12_feed_104 : decode cX12_feed 104 = .ok (.aload_n 0, 1) := dk_42 (dk_at dksX12_feed_4 9 rfl rfl)
theorem dX12_feed_105 : decode cX12_feed 105 = .ok (.dup, 1) := dk_89 (dk_at dksX12_feed_4 10 rfl rfl)
theorem dX12_feed_106 : decode cX12_feed 106 = .ok (.getfield 121, 3) := dk_180 0 121 (dk_at dksX12_feed_4 11 rfl rfl)
theorem dX12_feed_109 : decode cX12_feed 109 = .ok (.iconst 1, 1) := dk_4 (dk_at dksX12_feed_4 14 rfl rfl)
theorem dX12_feed_110 : decode cX12_feed 110 = .ok (.iadd, 1) := dk_96 (dk_at dksX12_feed_4 15 rfl rfl)
theorem dX12_feed_111 : decode cX12_feed 111 = .ok (.putfield 121, 3) := dk_181 0 121 (dk_at dksX12_feed_4 16 rfl rfl)
theorem dX12_feed_114 : decode cX12_feed 114 = .ok (.iinc 6 1, 3) := dk_132 6 1 (dk_at dksX12_feed_4 19 rfl rfl)
theorem dX12_feed_117 : decode cX12_feed 117 = .ok (.goto (-94), 3) := dk_167 255 162 (dk_at dksX12_feed_5 0 rfl rfl)
theorem dX12_feed_120 : decode cX12_feed 120 = .ok (.aload_n 0, 1) := dk_42 (dk_at dksX12_feed_5 3 rfl rfl)
theorem dX12_feed_121 : decode cX12_feed 121 = .ok (.getfield 121, 3) := dk_180 0 121 (dk_at dksX12_feed_5 4 rfl rfl)
theorem dX12_feed_124 : decode cX12_feed 124 = .ok (.ireturn, 1) := dk_172 (dk_at dksX12_feed_5 7 rfl rfl)
abbrev cX12_fault : ByteArray := prog_27_method_18_code
def yX12_fault : MethodName := ⟨RX12, "fault", "()I"⟩
def dkwX12_fault_0 : List UInt8 := [42, 3, 181, 0, 1, 42, 180, 0, 17, 172]
abbrev dktX12_fault_0 : List UInt8 := dkwX12_fault_0 ++ []
theorem dksX12_fault_0 : cX12_fault.data.toList.drop 0 = dktX12_fault_0 := by decide +kernel
theorem dX12_fault_0 : decode cX12_fault 0 = .ok (.aload_n 0, 1) := dk_42 (dk_at dksX12_fault_0 0 rfl rfl)
theorem dX12_fault_1 : decode cX12_fault 1 = .ok (.iconst 0, 1) := dk_3 (dk_at dksX12_fault_0 1 rfl rfl)
theorem dX12_fault_2 : decode cX12_fault 2 = .ok (.putfield 1, 3) := dk_181 0 1 (dk_at dksX12_fault_0 2 rfl rfl)
theorem dX12_fault_5 : decode cX12_fault 5 = .ok (.aload_n 0, 1) := dk_42 (dk_at dksX12_fault_0 5 rfl rfl)
theorem dX12_fault_6 : decode cX12_fault 6 = .ok (.getfield 17, 3) := dk_180 0 17 (dk_at dksX12_fault_0 6 rfl rfl)
theorem dX12_fault_9 : decode cX12_fault 9 = .ok (.ireturn, 1) := dk_172 (dk_at dksX12_fault_0 9 rfl rfl)
abbrev cX12_land : ByteArray := prog_27_method_29_code
def yX12_land : MethodName := ⟨RX12, "land", "(I)I"⟩
def dkwX12_land_11 : List UInt8 := [181, 0, 253, 42, 3, 181, 1, 0, 42, 182, 0, 118, 42, 180, 0, 23, 3, 46, 172]
abbrev dktX12_land_11 : List UInt8 := dkwX12_land_11 ++ []
def dkwX12_land_10 : List UInt8 := [180, 0, 23, 29, 42, 180, 0, 26, 29, 46, 79, 132, 3, 1, 167, 255, 234, 42, 4, 181, 0, 249, 42, 3]
abbrev dktX12_land_10 : List UInt8 := dkwX12_land_10 ++ dktX12_land_11
def dkwX12_land_9 : List UInt8 := [182, 0, 153, 154, 0, 11, 42, 180, 0, 127, 16, 10, 100, 172, 3, 62, 29, 17, 2, 196, 162, 0, 21, 42]
abbrev dktX12_land_9 : List UInt8 := dkwX12_land_9 ++ dktX12_land_10
def dkwX12_land_8 : List UInt8 := [46, 154, 0, 12, 42, 7, 42, 180, 0, 133, 182, 0, 160, 42, 42, 180, 0, 124, 181, 0, 17, 42]
abbrev dktX12_land_8 : List UInt8 := dkwX12_land_8 ++ dktX12_land_9
def dkwX12_land_7 : List UInt8 := [167, 255, 167, 42, 182, 0, 153, 153, 0, 30, 42, 180, 0, 26, 3, 46, 153, 0, 12, 42, 180, 0, 26, 5]
abbrev dktX12_land_7 : List UInt8 := dkwX12_land_7 ++ dktX12_land_8
def dkwX12_land_6 : List UInt8 := [154, 0, 6, 167, 0, 24, 42, 182, 0, 178, 42, 29, 182, 0, 243, 42, 16, 59, 182, 0, 246, 132, 2, 1]
abbrev dktX12_land_6 : List UInt8 := dkwX12_land_6 ++ dktX12_land_7
def dkwX12_land_5 : List UInt8 := [159, 0, 11, 42, 29, 182, 0, 240, 153, 0, 12, 42, 6, 42, 180, 0, 130, 182, 0, 160, 42, 182, 0, 153]
abbrev dktX12_land_5 : List UInt8 := dkwX12_land_5 ++ dktX12_land_6
def dkwX12_land_4 : List UInt8 := [62, 29, 184, 0, 237, 154, 0, 15, 42, 4, 42, 180, 0, 130, 182, 0, 160, 167, 0, 26, 28, 16, 60]
abbrev dktX12_land_4 : List UInt8 := dkwX12_land_4 ++ dktX12_land_5
def dkwX12_land_3 : List UInt8 := [7, 16, 12, 79, 3, 61, 42, 182, 0, 153, 153, 0, 88, 42, 182, 0, 234, 153, 0, 81, 42, 182, 0, 167]
abbrev dktX12_land_3 : List UInt8 := dkwX12_land_3 ++ dktX12_land_4
def dkwX12_land_2 : List UInt8 := [180, 0, 26, 28, 3, 79, 132, 2, 1, 167, 255, 239, 42, 180, 0, 26, 6, 16, 12, 79, 42, 180, 0, 26]
abbrev dktX12_land_2 : List UInt8 := dkwX12_land_2 ++ dktX12_land_3
def dkwX12_land_1 : List UInt8 := [5, 182, 0, 226, 154, 0, 5, 3, 172, 42, 27, 182, 0, 230, 3, 61, 28, 17, 2, 196, 162, 0, 16, 42]
abbrev dktX12_land_1 : List UInt8 := dkwX12_land_1 ++ dktX12_land_2
def dkwX12_land_0 : List UInt8 := [42, 3, 181, 0, 1, 42, 27, 155, 0, 15, 27, 42, 180, 0, 121, 163, 0, 7, 4, 167, 0, 4, 3, 4]
abbrev dktX12_land_0 : List UInt8 := dkwX12_land_0 ++ dktX12_land_1
theorem dksX12_land_0 : cX12_land.data.toList.drop 0 = dktX12_land_0 := by decide +kernel
theorem dksX12_land_1 : cX12_land.data.toList.drop 24 = dktX12_land_1 := dk_seg dksX12_land_0 24 rfl rfl
theorem dksX12_land_2 : cX12_land.data.toList.drop 48 = dktX12_land_2 := dk_seg dksX12_land_1 24 rfl rfl
theorem dksX12_land_3 : cX12_land.data.toList.drop 72 = dktX12_land_3 := dk_seg dksX12_land_2 24 rfl rfl
theorem dksX12_land_4 : cX12_land.data.toList.drop 96 = dktX12_land_4 := dk_seg dksX12_land_3 24 rfl rfl
theorem dksX12_land_5 : cX12_land.data.toList.drop 119 = dktX12_land_5 := dk_seg dksX12_land_4 23 rfl rfl
theorem dksX12_land_6 : cX12_land.data.toList.drop 143 = dktX12_land_6 := dk_seg dksX12_land_5 24 rfl rfl
theorem dksX12_land_7 : cX12_land.data.toList.drop 167 = dktX12_land_7 := dk_seg dksX12_land_6 24 rfl rfl
theorem dksX12_land_8 : cX12_land.data.toList.drop 191 = dktX12_land_8 := dk_seg dksX12_land_7 24 rfl rfl
theorem dksX12_land_9 : cX12_land.data.toList.drop 213 = dktX12_land_9 := dk_seg dksX12_land_8 22 rfl rfl
theorem dksX12_land_10 : cX12_land.data.toList.drop 237 = dktX12_land_10 := dk_seg dksX12_land_9 24 rfl rfl
theorem dksX12_land_11 : cX12_land.data.toList.drop 261 = dktX12_land_11 := dk_seg dksX12_land_10 24 rfl rfl
theorem dX12_land_0 : decode cX12_land 0 = .ok (.aload_n 0, 1) := dk_42 (dk_at dksX12_land_0 0 rfl rfl)
theorem dX12_land_1 : decode cX12_land 1 = .ok (.iconst 0, 1) := dk_3 (dk_at dksX12_land_0 1 rfl rfl)
theorem dX12_land_2 : decode cX12_land 2 = .ok (.putfield 1, 3) := dk_181 0 1 (dk_at dksX12_land_0 2 rfl rfl)
theorem dX12_land_5 : decode cX12_land 5 = .ok (.aload_n 0, 1) := dk_42 (dk_at dksX12_land_0 5 rfl rfl)
theorem dX12_land_6 : decode cX12_land 6 = .ok (.iload_n 1, 1) := dk_27 (dk_at dksX12_land_0 6 rfl rfl)
theorem dX12_land_7 : decode cX12_land 7 = .ok (.ifCond .lt 15, 3) := dk_155 0 15 (dk_at dksX12_land_0 7 rfl rfl)
theorem dX12_land_10 : decode cX12_land 10 = .ok (.iload_n 1, 1) := dk_27 (dk_at dksX12_land_0 10 rfl rfl)
theorem dX12_land_11 : decode cX12_land 11 = .ok (.aload_n 0, 1) := dk_42 (dk_at dksX12_land_0 11 rfl rfl)
theorem dX12_land_12 : decode cX12_land 12 = .ok (.getfield 121, 3) := dk_180 0 121 (dk_at dksX12_land_0 12 rfl rfl)
theorem dX12_land_15 : decode cX12_land 15 = .ok (.if_icmp .gt 7, 3) := dk_163 0 7 (dk_at dksX12_land_0 15 rfl rfl)
theorem dX12_land_18 : decode cX12_land 18 = .ok (.iconst 1, 1) := dk_4 (dk_at dksX12_land_0 18 rfl rfl)
theorem dX12_land_19 : decode cX12_land 19 = .ok (.goto 4, 3) := dk_167 0 4 (dk_at dksX12_land_0 19 rfl rfl)
theorem dX12_land_22 : decode cX12_land 22 = .ok (.iconst 0, 1) := dk_3 (dk_at dksX12_land_0 22 rfl rfl)
theorem dX12_land_23 : decode cX12_land 23 = .ok (.iconst 1, 1) := dk_4 (dk_at dksX12_land_0 23 rfl rfl)
theorem dX12_land_24 : decode cX12_land 24 = .ok (.iconst 2, 1) := dk_5 (dk_at dksX12_land_1 0 rfl rfl)
theorem dX12_land_25 : decode cX12_land 25 = .ok (.invokevirtual 226, 3) := dk_182 0 226 (dk_at dksX12_land_1 1 rfl rfl)
theorem dX12_land_28 : decode cX12_land 28 = .ok (.ifCond .ne 5, 3) := dk_154 0 5 (dk_at dksX12_land_1 4 rfl rfl)
theorem dX12_land_31 : decode cX12_land 31 = .ok (.iconst 0, 1) := dk_3 (dk_at dksX12_land_1 7 rfl rfl)
theorem dX12_land_32 : decode cX12_land 32 = .ok (.ireturn, 1) := dk_172 (dk_at dksX12_land_1 8 rfl rfl)
theorem dX12_land_33 : decode cX12_land 33 = .ok (.aload_n 0, 1) := dk_42 (dk_at dksX12_land_1 9 rfl rfl)
theorem dX12_land_34 : decode cX12_land 34 = .ok (.iload_n 1, 1) := dk_27 (dk_at dksX12_land_1 10 rfl rfl)
theorem dX12_land_35 : decode cX12_land 35 = .ok (.invokevirtual 230, 3) := dk_182 0 230 (dk_at dksX12_land_1 11 rfl rfl)
theorem dX12_land_38 : decode cX12_land 38 = .ok (.iconst 0, 1) := dk_3 (dk_at dksX12_land_1 14 rfl rfl)
theorem dX12_land_39 : decode cX12_land 39 = .ok (.istore_n 2, 1) := dk_61 (dk_at dksX12_land_1 15 rfl rfl)
theorem dX12_land_40 : decode cX12_land 40 = .ok (.iload_n 2, 1) := dk_28 (dk_at dksX12_land_1 16 rfl rfl)
theorem dX12_land_41 : decode cX12_land 41 = .ok (.sipush 708, 3) := dk_17 2 196 (dk_at dksX12_land_1 17 rfl rfl)
theorem dX12_land_44 : decode cX12_land 44 = .ok (.if_icmp .ge 16, 3) := dk_162 0 16 (dk_at dksX12_land_1 20 rfl rfl)
theorem dX12_land_47 : decode cX12_land 47 = .ok (.aload_n 0, 1) := dk_42 (dk_at dksX12_land_1 23 rfl rfl)
theorem dX12_land_48 : decode cX12_land 48 = .ok (.getfield 26, 3) := dk_180 0 26 (dk_at dksX12_land_2 0 rfl rfl)
theorem dX12_land_51 : decode cX12_land 51 = .ok (.iload_n 2, 1) := dk_28 (dk_at dksX12_land_2 3 rfl rfl)
theorem dX12_land_52 : decode cX12_land 52 = .ok (.iconst 0, 1) := dk_3 (dk_at dksX12_land_2 4 rfl rfl)
theorem dX12_land_53 : decode cX12_land 53 = .ok (.iastore, 1) := dk_79 (dk_at dksX12_land_2 5 rfl rfl)
theorem dX12_land_54 : decode cX12_land 54 = .ok (.iinc 2 1, 3) := dk_132 2 1 (dk_at dksX12_land_2 6 rfl rfl)
theorem dX12_land_57 : decode cX12_land 57 = .ok (.goto (-17), 3) := dk_167 255 239 (dk_at dksX12_land_2 9 rfl rfl)
theorem dX12_land_60 : decode cX12_land 60 = .ok (.aload_n 0, 1) := dk_42 (dk_at dksX12_land_2 12 rfl rfl)
theorem dX12_land_61 : decode cX12_land 61 = .ok (.getfield 26, 3) := dk_180 0 26 (dk_at dksX12_land_2 13 rfl rfl)
theorem dX12_land_64 : decode cX12_land 64 = .ok (.iconst 3, 1) := dk_6 (dk_at dksX12_land_2 16 rfl rfl)
theorem dX12_land_65 : decode cX12_land 65 = .ok (.bipush 12, 2) := dk_16 12 (dk_at dksX12_land_2 17 rfl rfl)
theorem dX12_land_67 : decode cX12_land 67 = .ok (.iastore, 1) := dk_79 (dk_at dksX12_land_2 19 rfl rfl)
theorem dX12_land_68 : decode cX12_land 68 = .ok (.aload_n 0, 1) := dk_42 (dk_at dksX12_land_2 20 rfl rfl)
theorem dX12_land_69 : decode cX12_land 69 = .ok (.getfield 26, 3) := dk_180 0 26 (dk_at dksX12_land_2 21 rfl rfl)
theorem dX12_land_72 : decode cX12_land 72 = .ok (.iconst 4, 1) := dk_7 (dk_at dksX12_land_3 0 rfl rfl)
theorem dX12_land_73 : decode cX12_land 73 = .ok (.bipush 12, 2) := dk_16 12 (dk_at dksX12_land_3 1 rfl rfl)
theorem dX12_land_75 : decode cX12_land 75 = .ok (.iastore, 1) := dk_79 (dk_at dksX12_land_3 3 rfl rfl)
theorem dX12_land_76 : decode cX12_land 76 = .ok (.iconst 0, 1) := dk_3 (dk_at dksX12_land_3 4 rfl rfl)
theorem dX12_land_77 : decode cX12_land 77 = .ok (.istore_n 2, 1) := dk_61 (dk_at dksX12_land_3 5 rfl rfl)
theorem dX12_land_78 : decode cX12_land 78 = .ok (.aload_n 0, 1) := dk_42 (dk_at dksX12_land_3 6 rfl rfl)
theorem dX12_land_79 : decode cX12_land 79 = .ok (.invokevirtual 153, 3) := dk_182 0 153 (dk_at dksX12_land_3 7 rfl rfl)
theorem dX12_land_82 : decode cX12_land 82 = .ok (.ifCond .eq 88, 3) := dk_153 0 88 (dk_at dksX12_land_3 10 rfl rfl)
theorem dX12_land_85 : decode cX12_land 85 = .ok (.aload_n 0, 1) := dk_42 (dk_at dksX12_land_3 13 rfl rfl)
theorem dX12_land_86 : decode cX12_land 86 = .ok (.invokevirtual 234, 3) := dk_182 0 234 (dk_at dksX12_land_3 14 rfl rfl)
theorem dX12_land_89 : decode cX12_land 89 = .ok (.ifCond .eq 81, 3) := dk_153 0 81 (dk_at dksX12_land_3 17 rfl rfl)
theorem dX12_land_92 : decode cX12_land 92 = .ok (.aload_n 0, 1) := dk_42 (dk_at dksX12_land_3 20 rfl rfl)
theorem dX12_land_93 : decode cX12_land 93 = .ok (.invokevirtual 167, 3) := dk_182 0 167 (dk_at dksX12_land_3 21 rfl rfl)
theorem dX12_land_96 : decode cX12_land 96 = .ok (.istore_n 3, 1) := dk_62 (dk_at dksX12_land_4 0 rfl rfl)
theorem dX12_land_97 : decode cX12_land 97 = .ok (.iload_n 3, 1) := dk_29 (dk_at dksX12_land_4 1 rfl rfl)
theorem dX12_land_98 : decode cX12_land 98 = .ok (.invokestatic 237, 3) := dk_184 0 237 (dk_at dksX12_land_4 2 rfl rfl)
theorem dX12_land_101 : decode cX12_land 101 = .ok (.ifCond .ne 15, 3) := dk_154 0 15 (dk_at dksX12_land_4 5 rfl rfl)
theorem dX12_land_104 : decode cX12_land 104 = .ok (.aload_n 0, 1) := dk_42 (dk_at dksX12_land_4 8 rfl rfl)
theorem dX12_land_105 : decode cX12_land 105 = .ok (.iconst 1, 1) := dk_4 (dk_at dksX12_land_4 9 rfl rfl)
theorem dX12_land_106 : decode cX12_land 106 = .ok (.aload_n 0, 1) := dk_42 (dk_at dksX12_land_4 10 rfl rfl)
theorem dX12_land_107 : decode cX12_land 107 = .ok (.getfield 130, 3) := dk_180 0 130 (dk_at dksX12_land_4 11 rfl rfl)
theorem dX12_land_110 : decode cX12_land 110 = .ok (.invokevirtual 160, 3) := dk_182 0 160 (dk_at dksX12_land_4 14 rfl rfl)
theorem dX12_land_113 : decode cX12_land 113 = .ok (.goto 26, 3) := dk_167 0 26 (dk_at dksX12_land_4 17 rfl rfl)
theorem dX12_land_116 : decode cX12_land 116 = .ok (.iload_n 2, 1) := dk_28 (dk_at dksX12_land_4 20 rfl rfl)
theorem dX12_land_117 : decode cX12_land 117 = .ok (.bipush 60, 2) := dk_16 60 (dk_at dksX12_land_4 21 rfl rfl)
theorem dX12_land_119 : decode cX12_land 119 = .ok (.if_icmp .eq 11, 3) := dk_159 0 11 (dk_at dksX12_land_5 0 rfl rfl)
theorem dX12_land_122 : decode cX12_land 122 = .ok (.aload_n 0, 1) := dk_42 (dk_at dksX12_land_5 3 rfl rfl)
theorem dX12_land_123 : decode cX12_land 123 = .ok (.iload_n 3, 1) := dk_29 (dk_at dksX12_land_5 4 rfl rfl)
theorem dX12_land_124 : decode cX12_land 124 = .ok (.invokevirtual 240, 3) := dk_182 0 240 (dk_at dksX12_land_5 5 rfl rfl)
theorem dX12_land_127 : decode cX12_land 127 = .ok (.ifCond .eq 12, 3) := dk_153 0 12 (dk_at dksX12_land_5 8 rfl rfl)
theorem dX12_land_130 : decode cX12_land 130 = .ok (.aload_n 0, 1) := dk_42 (dk_at dksX12_land_5 11 rfl rfl)
theorem dX12_land_131 : decode cX12_land 131 = .ok (.iconst 3, 1) := dk_6 (dk_at dksX12_land_5 12 rfl rfl)
theorem dX12_land_132 : decode cX12_land 132 = .ok (.aload_n 0, 1) := dk_42 (dk_at dksX12_land_5 13 rfl rfl)
theorem dX12_land_133 : decode cX12_land 133 = .ok (.getfield 130, 3) := dk_180 0 130 (dk_at dksX12_land_5 14 rfl rfl)
theorem dX12_land_136 : decode cX12_land 136 = .ok (.invokevirtual 160, 3) := dk_182 0 160 (dk_at dksX12_land_5 17 rfl rfl)
theorem dX12_land_139 : decode cX12_land 139 = .ok (.aload_n 0, 1) := dk_42 (dk_at dksX12_land_5 20 rfl rfl)
theorem dX12_land_140 : decode cX12_land 140 = .ok (.invokevirtual 153, 3) := dk_182 0 153 (dk_at dksX12_land_5 21 rfl rfl)
theorem dX12_land_143 : decode cX12_land 143 = .ok (.ifCond .ne 6, 3) := dk_154 0 6 (dk_at dksX12_land_6 0 rfl rfl)
theorem dX12_land_146 : decode cX12_land 146 = .ok (.goto 24, 3) := dk_167 0 24 (dk_at dksX12_land_6 3 rfl rfl)
theorem dX12_land_149 : decode cX12_land 149 = .ok (.aload_n 0, 1) := dk_42 (dk_at dksX12_land_6 6 rfl rfl)
theorem dX12_land_150 : decode cX12_land 150 = .ok (.invokevirtual 178, 3) := dk_182 0 178 (dk_at dksX12_land_6 7 rfl rfl)
theorem dX12_land_153 : decode cX12_land 153 = .ok (.aload_n 0, 1) := dk_42 (dk_at dksX12_land_6 10 rfl rfl)
theorem dX12_land_154 : decode cX12_land 154 = .ok (.iload_n 3, 1) := dk_29 (dk_at dksX12_land_6 11 rfl rfl)
theorem dX12_land_155 : decode cX12_land 155 = .ok (.invokevirtual 243, 3) := dk_182 0 243 (dk_at dksX12_land_6 12 rfl rfl)
theorem dX12_land_158 : decode cX12_land 158 = .ok (.aload_n 0, 1) := dk_42 (dk_at dksX12_land_6 15 rfl rfl)
theorem dX12_land_159 : decode cX12_land 159 = .ok (.bipush 59, 2) := dk_16 59 (dk_at dksX12_land_6 16 rfl rfl)
theorem dX12_land_161 : decode cX12_land 161 = .ok (.invokevirtual 246, 3) := dk_182 0 246 (dk_at dksX12_land_6 18 rfl rfl)
theorem dX12_land_164 : decode cX12_land 164 = .ok (.iinc 2 1, 3) := dk_132 2 1 (dk_at dksX12_land_6 21 rfl rfl)
theorem dX12_land_167 : decode cX12_land 167 = .ok (.goto (-89), 3) := dk_167 255 167 (dk_at dksX12_land_7 0 rfl rfl)
theorem dX12_land_170 : decode cX12_land 170 = .ok (.aload_n 0, 1) := dk_42 (dk_at dksX12_land_7 3 rfl rfl)
theorem dX12_land_171 : decode cX12_land 171 = .ok (.invokevirtual 153, 3) := dk_182 0 153 (dk_at dksX12_land_7 4 rfl rfl)
theorem dX12_land_174 : decode cX12_land 174 = .ok (.ifCond .eq 30, 3) := dk_153 0 30 (dk_at dksX12_land_7 7 rfl rfl)
theorem dX12_land_177 : decode cX12_land 177 = .ok (.aload_n 0, 1) := dk_42 (dk_at dksX12_land_7 10 rfl rfl)
theorem dX12_land_178 : decode cX12_land 178 = .ok (.getfield 26, 3) := dk_180 0 26 (dk_at dksX12_land_7 11 rfl rfl)
theorem dX12_land_181 : decode cX12_land 181 = .ok (.iconst 0, 1) := dk_3 (dk_at dksX12_land_7 14 rfl rfl)
theorem dX12_land_182 : decode cX12_land 182 = .ok (.iaload, 1) := dk_46 (dk_at dksX12_land_7 15 rfl rfl)
theorem dX12_land_183 : decode cX12_land 183 = .ok (.ifCond .eq 12, 3) := dk_153 0 12 (dk_at dksX12_land_7 16 rfl rfl)
theorem dX12_land_186 : decode cX12_land 186 = .ok (.aload_n 0, 1) := dk_42 (dk_at dksX12_land_7 19 rfl rfl)
theorem dX12_land_187 : decode cX12_land 187 = .ok (.getfield 26, 3) := dk_180 0 26 (dk_at dksX12_land_7 20 rfl rfl)
theorem dX12_land_190 : decode cX12_land 190 = .ok (.iconst 2, 1) := dk_5 (dk_at dksX12_land_7 23 rfl rfl)
theorem dX12_land_191 : decode cX12_land 191 = .ok (.iaload, 1) := dk_46 (dk_at dksX12_land_8 0 rfl rfl)
theorem dX12_land_192 : decode cX12_land 192 = .ok (.ifCond .ne 12, 3) := dk_154 0 12 (dk_at dksX12_land_8 1 rfl rfl)
theorem dX12_land_195 : decode cX12_land 195 = .ok (.aload_n 0, 1) := dk_42 (dk_at dksX12_land_8 4 rfl rfl)
theorem dX12_land_196 : decode cX12_land 196 = .ok (.iconst 4, 1) := dk_7 (dk_at dksX12_land_8 5 rfl rfl)
theorem dX12_land_197 : decode cX12_land 197 = .ok (.aload_n 0, 1) := dk_42 (dk_at dksX12_land_8 6 rfl rfl)
theorem dX12_land_198 : decode cX12_land 198 = .ok (.getfield 133, 3) := dk_180 0 133 (dk_at dksX12_land_8 7 rfl rfl)
theorem dX12_land_201 : decode cX12_land 201 = .ok (.invokevirtual 160, 3) := dk_182 0 160 (dk_at dksX12_land_8 10 rfl rfl)
theorem dX12_land_204 : decode cX12_land 204 = .ok (.aload_n 0, 1) := dk_42 (dk_at dksX12_land_8 13 rfl rfl)
theorem dX12_land_205 : decode cX12_land 205 = .ok (.aload_n 0, 1) := dk_42 (dk_at dksX12_land_8 14 rfl rfl)
theorem dX12_land_206 : decode cX12_land 206 = .ok (.getfield 124, 3) := dk_180 0 124 (dk_at dksX12_land_8 15 rfl rfl)
theorem dX12_land_209 : decode cX12_land 209 = .ok (.putfield 17, 3) := dk_181 0 17 (dk_at dksX12_land_8 18 rfl rfl)
theorem dX12_land_212 : decode cX12_land 212 = .ok (.aload_n 0, 1) := dk_42 (dk_at dksX12_land_8 21 rfl rfl)
theorem dX12_land_213 : decode cX12_land 213 = .ok (.invokevirtual 153, 3) := dk_182 0 153 (dk_at dksX12_land_9 0 rfl rfl)
theorem dX12_land_216 : decode cX12_land 216 = .ok (.ifCond .ne 11, 3) := dk_154 0 11 (dk_at dksX12_land_9 3 rfl rfl)
theorem dX12_land_219 : decode cX12_land 219 = .ok (.aload_n 0, 1) := dk_42 (dk_at dksX12_land_9 6 rfl rfl)
theorem dX12_land_220 : decode cX12_land 220 = .ok (.getfield 127, 3) := dk_180 0 127 (dk_at dksX12_land_9 7 rfl rfl)
theorem dX12_land_223 : decode cX12_land 223 = .ok (.bipush 10, 2) := dk_16 10 (dk_at dksX12_land_9 10 rfl rfl)
theorem dX12_land_225 : decode cX12_land 225 = .ok (.isub, 1) := dk_100 (dk_at dksX12_land_9 12 rfl rfl)
theorem dX12_land_226 : decode cX12_land 226 = .ok (.ireturn, 1) := dk_172 (dk_at dksX12_land_9 13 rfl rfl)
theorem dX12_land_227 : decode cX12_land 227 = .ok (.iconst 0, 1) := dk_3 (dk_at dksX12_land_9 14 rfl rfl)
theorem dX12_land_228 : decode cX12_land 228 = .ok (.istore_n 3, 1) := dk_62 (dk_at dksX12_land_9 15 rfl rfl)
theorem dX12_land_229 : decode cX12_land 229 = .ok (.iload_n 3, 1) := dk_29 (dk_at dksX12_land_9 16 rfl rfl)
theorem dX12_land_230 : decode cX12_land 230 = .ok (.sipush 708, 3) := dk_17 2 196 (dk_at dksX12_land_9 17 rfl rfl)
theorem dX12_land_233 : decode cX12_land 233 = .ok (.if_icmp .ge 21, 3) := dk_162 0 21 (dk_at dksX12_land_9 20 rfl rfl)
theorem dX12_land_236 : decode cX12_land 236 = .ok (.aload_n 0, 1) := dk_42 (dk_at dksX12_land_9 23 rfl rfl)
theorem dX12_land_237 : decode cX12_land 237 = .ok (.getfield 23, 3) := dk_180 0 23 (dk_at dksX12_land_10 0 rfl rfl)
theorem dX12_land_240 : decode cX12_land 240 = .ok (.iload_n 3, 1) := dk_29 (dk_at dksX12_land_10 3 rfl rfl)
theorem dX12_land_241 : decode cX12_land 241 = .ok (.aload_n 0, 1) := dk_42 (dk_at dksX12_land_10 4 rfl rfl)
theorem dX12_land_242 : decode cX12_land 242 = .ok (.getfield 26, 3) := dk_180 0 26 (dk_at dksX12_land_10 5 rfl rfl)
theorem dX12_land_245 : decode cX12_land 245 = .ok (.iload_n 3, 1) := dk_29 (dk_at dksX12_land_10 8 rfl rfl)
theorem dX12_land_246 : decode cX12_land 246 = .ok (.iaload, 1) := dk_46 (dk_at dksX12_land_10 9 rfl rfl)
theorem dX12_land_247 : decode cX12_land 247 = .ok (.iastore, 1) := dk_79 (dk_at dksX12_land_10 10 rfl rfl)
theorem dX12_land_248 : decode cX12_land 248 = .ok (.iinc 3 1, 3) := dk_132 3 1 (dk_at dksX12_land_10 11 rfl rfl)
theorem dX12_land_251 : decode cX12_land 251 = .ok (.goto (-22), 3) := dk_167 255 234 (dk_at dksX12_land_10 14 rfl rfl)
theorem dX12_land_254 : decode cX12_land 254 = .ok (.aload_n 0, 1) := dk_42 (dk_at dksX12_land_10 17 rfl rfl)
theorem dX12_land_255 : decode cX12_land 255 = .ok (.iconst 1, 1) := dk_4 (dk_at dksX12_land_10 18 rfl rfl)
theorem dX12_land_256 : decode cX12_land 256 = .ok (.putfield 249, 3) := dk_181 0 249 (dk_at dksX12_land_10 19 rfl rfl)
theorem dX12_land_259 : decode cX12_land 259 = .ok (.aload_n 0, 1) := dk_42 (dk_at dksX12_land_10 22 rfl rfl)
theorem dX12_land_260 : decode cX12_land 260 = .ok (.iconst 0, 1) := dk_3 (dk_at dksX12_land_10 23 rfl rfl)
theorem dX12_land_261 : decode cX12_land 261 = .ok (.putfield 253, 3) := dk_181 0 253 (dk_at dksX12_land_11 0 rfl rfl)
theorem dX12_land_264 : decode cX12_land 264 = .ok (.aload_n 0, 1) := dk_42 (dk_at dksX12_land_11 3 rfl rfl)
theorem dX12_land_265 : decode cX12_land 265 = .ok (.iconst 0, 1) := dk_3 (dk_at dksX12_land_11 4 rfl rfl)
theorem dX12_land_266 : decode cX12_land 266 = .ok (.putfield 256, 3) := dk_181 1 0 (dk_at dksX12_land_11 5 rfl rfl)
theorem dX12_land_269 : decode cX12_land 269 = .ok (.aload_n 0, 1) := dk_42 (dk_at dksX12_land_11 8 rfl rfl)
theorem dX12_land_270 : decode cX12_land 270 = .ok (.invokevirtual 118, 3) := dk_182 0 118 (dk_at dksX12_land_11 9 rfl rfl)
theorem dX12_land_273 : decode cX12_land 273 = .ok (.aload_n 0, 1) := dk_42 (dk_at dksX12_land_11 12 rfl rfl)
theorem dX12_land_274 : decode cX12_land 274 = .ok (.getfield 23, 3) := dk_180 0 23 (dk_at dksX12_land_11 13 rfl rfl)
theorem dX12_land_277 : decode cX12_land 277 = .ok (.iconst 0, 1) := dk_3 (dk_at dksX12_land_11 16 rfl rfl)
theorem dX12_land_278 : decode cX12_land 278 = .ok (.iaload, 1) := dk_46 (dk_at dksX12_land_11 17 rfl rfl)
theorem dX12_land_279 : decode cX12_land 279 = .ok (.ireturn, 1) := dk_172 (dk_at dksX12_land_11 18 rfl rfl)
abbrev cX12_may : ByteArray := prog_27_method_2_code
def yX12_may : MethodName := ⟨RX12, "may", "(ZII)Z"⟩
def dkwX12_may_1 : List UInt8 := [96, 79, 42, 180, 0, 1, 154, 0, 7, 4, 167, 0, 4, 3, 172]
abbrev dktX12_may_1 : List UInt8 := dkwX12_may_1 ++ []
def dkwX12_may_0 : List UInt8 := [27, 154, 0, 25, 42, 180, 0, 1, 154, 0, 18, 42, 28, 181, 0, 1, 42, 180, 0, 7, 29, 92, 46, 4]
abbrev dktX12_may_0 : List UInt8 := dkwX12_may_0 ++ dktX12_may_1
theorem dksX12_may_0 : cX12_may.data.toList.drop 0 = dktX12_may_0 := by decide +kernel
theorem dksX12_may_1 : cX12_may.data.toList.drop 24 = dktX12_may_1 := dk_seg dksX12_may_0 24 rfl rfl
theorem dX12_may_0 : decode cX12_may 0 = .ok (.iload_n 1, 1) := dk_27 (dk_at dksX12_may_0 0 rfl rfl)
theorem dX12_may_1 : decode cX12_may 1 = .ok (.ifCond .ne 25, 3) := dk_154 0 25 (dk_at dksX12_may_0 1 rfl rfl)
theorem dX12_may_4 : decode cX12_may 4 = .ok (.aload_n 0, 1) := dk_42 (dk_at dksX12_may_0 4 rfl rfl)
theorem dX12_may_5 : decode cX12_may 5 = .ok (.getfield 1, 3) := dk_180 0 1 (dk_at dksX12_may_0 5 rfl rfl)
theorem dX12_may_8 : decode cX12_may 8 = .ok (.ifCond .ne 18, 3) := dk_154 0 18 (dk_at dksX12_may_0 8 rfl rfl)
theorem dX12_may_11 : decode cX12_may 11 = .ok (.aload_n 0, 1) := dk_42 (dk_at dksX12_may_0 11 rfl rfl)
theorem dX12_may_12 : decode cX12_may 12 = .ok (.iload_n 2, 1) := dk_28 (dk_at dksX12_may_0 12 rfl rfl)
theorem dX12_may_13 : decode cX12_may 13 = .ok (.putfield 1, 3) := dk_181 0 1 (dk_at dksX12_may_0 13 rfl rfl)
theorem dX12_may_16 : decode cX12_may 16 = .ok (.aload_n 0, 1) := dk_42 (dk_at dksX12_may_0 16 rfl rfl)
theorem dX12_may_17 : decode cX12_may 17 = .ok (.getfield 7, 3) := dk_180 0 7 (dk_at dksX12_may_0 17 rfl rfl)
theorem dX12_may_20 : decode cX12_may 20 = .ok (.iload_n 3, 1) := dk_29 (dk_at dksX12_may_0 20 rfl rfl)
theorem dX12_may_21 : decode cX12_may 21 = .ok (.dup2, 1) := dk_92 (dk_at dksX12_may_0 21 rfl rfl)
theorem dX12_may_22 : decode cX12_may 22 = .ok (.iaload, 1) := dk_46 (dk_at dksX12_may_0 22 rfl rfl)
theorem dX12_may_23 : decode cX12_may 23 = .ok (.iconst 1, 1) := dk_4 (dk_at dksX12_may_0 23 rfl rfl)
theorem dX12_may_24 : decode cX12_may 24 = .ok (.iadd, 1) := dk_96 (dk_at dksX12_may_1 0 rfl rfl)
theorem dX12_may_25 : decode cX12_may 25 = .ok (.iastore, 1) := dk_79 (dk_at dksX12_may_1 1 rfl rfl)
theorem dX12_may_26 : decode cX12_may 26 = .ok (.aload_n 0, 1) := dk_42 (dk_at dksX12_may_1 2 rfl rfl)
theorem dX12_may_27 : decode cX12_may 27 = .ok (.getfield 1, 3) := dk_180 0 1 (dk_at dksX12_may_1 3 rfl rfl)
theorem dX12_may_30 : decode cX12_may 30 = .ok (.ifCond .ne 7, 3) := dk_154 0 7 (dk_at dksX12_may_1 6 rfl rfl)
theorem dX12_may_33 : decode cX12_may 33 = .ok (.iconst 1, 1) := dk_4 (dk_at dksX12_may_1 9 rfl rfl)
theorem dX12_may_34 : decode cX12_may 34 = .ok (.goto 4, 3) := dk_167 0 4 (dk_at dksX12_may_1 10 rfl rfl)
theorem dX12_may_37 : decode cX12_may 37 = .ok (.iconst 0, 1) := dk_3 (dk_at dksX12_may_1 13 rfl rfl)
theorem dX12_may_38 : decode cX12_may 38 = .ok (.ireturn, 1) := dk_172 (dk_at dksX12_may_1 14 rfl rfl)
abbrev cX12_begins : ByteArray := prog_27_method_17_code
def yX12_begins : MethodName := ⟨RX12, "begins", "(I)V"⟩
def dkwX12_begins_1 : List UInt8 := [181, 0, 124, 42, 3, 181, 0, 164, 177]
abbrev dktX12_begins_1 : List UInt8 := dkwX12_begins_1 ++ []
def dkwX12_begins_0 : List UInt8 := [42, 3, 181, 0, 121, 42, 2, 181, 0, 17, 42, 27, 181, 0, 133, 42, 3, 181, 0, 130, 42, 2]
abbrev dktX12_begins_0 : List UInt8 := dkwX12_begins_0 ++ dktX12_begins_1
theorem dksX12_begins_0 : cX12_begins.data.toList.drop 0 = dktX12_begins_0 := by decide +kernel
theorem dksX12_begins_1 : cX12_begins.data.toList.drop 22 = dktX12_begins_1 := dk_seg dksX12_begins_0 22 rfl rfl
theorem dX12_begins_0 : decode cX12_begins 0 = .ok (.aload_n 0, 1) := dk_42 (dk_at dksX12_begins_0 0 rfl rfl)
theorem dX12_begins_1 : decode cX12_begins 1 = .ok (.iconst 0, 1) := dk_3 (dk_at dksX12_begins_0 1 rfl rfl)
theorem dX12_begins_2 : decode cX12_begins 2 = .ok (.putfield 121, 3) := dk_181 0 121 (dk_at dksX12_begins_0 2 rfl rfl)
theorem dX12_begins_5 : decode cX12_begins 5 = .ok (.aload_n 0, 1) := dk_42 (dk_at dksX12_begins_0 5 rfl rfl)
theorem dX12_begins_6 : decode cX12_begins 6 = .ok (.iconst (-1), 1) := dk_2 (dk_at dksX12_begins_0 6 rfl rfl)
theorem dX12_begins_7 : decode cX12_begins 7 = .ok (.putfield 17, 3) := dk_181 0 17 (dk_at dksX12_begins_0 7 rfl rfl)
theorem dX12_begins_10 : decode cX12_begins 10 = .ok (.aload_n 0, 1) := dk_42 (dk_at dksX12_begins_0 10 rfl rfl)
theorem dX12_begins_11 : decode cX12_begins 11 = .ok (.iload_n 1, 1) := dk_27 (dk_at dksX12_begins_0 11 rfl rfl)
theorem dX12_begins_12 : decode cX12_begins 12 = .ok (.putfield 133, 3) := dk_181 0 133 (dk_at dksX12_begins_0 12 rfl rfl)
theorem dX12_begins_15 : decode cX12_begins 15 = .ok (.aload_n 0, 1) := dk_42 (dk_at dksX12_begins_0 15 rfl rfl)
theorem dX12_begins_16 : decode cX12_begins 16 = .ok (.iconst 0, 1) := dk_3 (dk_at dksX12_begins_0 16 rfl rfl)
theorem dX12_begins_17 : decode cX12_begins 17 = .ok (.putfield 130, 3) := dk_181 0 130 (dk_at dksX12_begins_0 17 rfl rfl)
theorem dX12_begins_20 : decode cX12_begins 20 = .ok (.aload_n 0, 1) := dk_42 (dk_at dksX12_begins_0 20 rfl rfl)
theorem dX12_begins_21 : decode cX12_begins 21 = .ok (.iconst (-1), 1) := dk_2 (dk_at dksX12_begins_0 21 rfl rfl)
theorem dX12_begins_22 : decode cX12_begins 22 = .ok (.putfield 124, 3) := dk_181 0 124 (dk_at dksX12_begins_1 0 rfl rfl)
theorem dX12_begins_25 : decode cX12_begins 25 = .ok (.aload_n 0, 1) := dk_42 (dk_at dksX12_begins_1 3 rfl rfl)
theorem dX12_begins_26 : decode cX12_begins 26 = .ok (.iconst 0, 1) := dk_3 (dk_at dksX12_begins_1 4 rfl rfl)
theorem dX12_begins_27 : decode cX12_begins 27 = .ok (.putfield 164, 3) := dk_181 0 164 (dk_at dksX12_begins_1 5 rfl rfl)
theorem dX12_begins_30 : decode cX12_begins 30 = .ok (.return_, 1) := dk_177 (dk_at dksX12_begins_1 8 rfl rfl)
abbrev cX12_fine : ByteArray := prog_27_method_6_code
def yX12_fine : MethodName := ⟨RX12, "fine", "()Z"⟩
def dkwX12_fine_0 : List UInt8 := [42, 180, 0, 124, 2, 160, 0, 7, 4, 167, 0, 4, 3, 172]
abbrev dktX12_fine_0 : List UInt8 := dkwX12_fine_0 ++ []
theorem dksX12_fine_0 : cX12_fine.data.toList.drop 0 = dktX12_fine_0 := by decide +kernel
theorem dX12_fine_0 : decode cX12_fine 0 = .ok (.aload_n 0, 1) := dk_42 (dk_at dksX12_fine_0 0 rfl rfl)
theorem dX12_fine_1 : decode cX12_fine 1 = .ok (.getfield 124, 3) := dk_180 0 124 (dk_at dksX12_fine_0 1 rfl rfl)
theorem dX12_fine_4 : decode cX12_fine 4 = .ok (.iconst (-1), 1) := dk_2 (dk_at dksX12_fine_0 4 rfl rfl)
theorem dX12_fine_5 : decode cX12_fine 5 = .ok (.if_icmp .ne 7, 3) := dk_160 0 7 (dk_at dksX12_fine_0 5 rfl rfl)
theorem dX12_fine_8 : decode cX12_fine 8 = .ok (.iconst 1, 1) := dk_4 (dk_at dksX12_fine_0 8 rfl rfl)
theorem dX12_fine_9 : decode cX12_fine 9 = .ok (.goto 4, 3) := dk_167 0 4 (dk_at dksX12_fine_0 9 rfl rfl)
theorem dX12_fine_12 : decode cX12_fine 12 = .ok (.iconst 0, 1) := dk_3 (dk_at dksX12_fine_0 12 rfl rfl)
theorem dX12_fine_13 : decode cX12_fine 13 = .ok (.ireturn, 1) := dk_172 (dk_at dksX12_fine_0 13 rfl rfl)
abbrev cX12_isMore : ByteArray := prog_27_method_16_code
def yX12_isMore : MethodName := ⟨RX12, "isMore", "()Z"⟩
def dkwX12_isMore_0 : List UInt8 := [42, 182, 0, 136, 87, 42, 180, 0, 130, 42, 180, 0, 133, 162, 0, 7, 4, 167, 0, 4, 3, 172]
abbrev dktX12_isMore_0 : List UInt8 := dkwX12_isMore_0 ++ []
theorem dksX12_isMore_0 : cX12_isMore.data.toList.drop 0 = dktX12_isMore_0 := by decide +kernel
theorem dX12_isMore_0 : decode cX12_isMore 0 = .ok (.aload_n 0, 1) := dk_42 (dk_at dksX12_isMore_0 0 rfl rfl)
theorem dX12_isMore_1 : decode cX12_isMore 1 = .ok (.invokevirtual 136, 3) := dk_182 0 136 (dk_at dksX12_isMore_0 1 rfl rfl)
theorem dX12_isMore_4 : decode cX12_isMore 4 = .ok (.pop, 1) := dk_87 (dk_at dksX12_isMore_0 4 rfl rfl)
theorem dX12_isMore_5 : decode cX12_isMore 5 = .ok (.aload_n 0, 1) := dk_42 (dk_at dksX12_isMore_0 5 rfl rfl)
theorem dX12_isMore_6 : decode cX12_isMore 6 = .ok (.getfield 130, 3) := dk_180 0 130 (dk_at dksX12_isMore_0 6 rfl rfl)
theorem dX12_isMore_9 : decode cX12_isMore 9 = .ok (.aload_n 0, 1) := dk_42 (dk_at dksX12_isMore_0 9 rfl rfl)
theorem dX12_isMore_10 : decode cX12_isMore 10 = .ok (.getfield 133, 3) := dk_180 0 133 (dk_at dksX12_isMore_0 10 rfl rfl)
theorem dX12_isMore_13 : decode cX12_isMore 13 = .ok (.if_icmp .ge 7, 3) := dk_162 0 7 (dk_at dksX12_isMore_0 13 rfl rfl)
theorem dX12_isMore_16 : decode cX12_isMore 16 = .ok (.iconst 1, 1) := dk_4 (dk_at dksX12_isMore_0 16 rfl rfl)
theorem dX12_isMore_17 : decode cX12_isMore 17 = .ok (.goto 4, 3) := dk_167 0 4 (dk_at dksX12_isMore_0 17 rfl rfl)
theorem dX12_isMore_20 : decode cX12_isMore 20 = .ok (.iconst 0, 1) := dk_3 (dk_at dksX12_isMore_0 20 rfl rfl)
theorem dX12_isMore_21 : decode cX12_isMore 21 = .ok (.ireturn, 1) := dk_172 (dk_at dksX12_isMore_0 21 rfl rfl)
abbrev cX12_here : ByteArray := prog_27_method_8_code
def yX12_here : MethodName := ⟨RX12, "here", "()I"⟩
def dkwX12_here_2 : List UInt8 := [162, 0, 15, 42, 180, 0, 20, 42, 180, 0, 130, 46, 167, 0, 4, 3, 172]
abbrev dktX12_here_2 : List UInt8 := dkwX12_here_2 ++ []
def dkwX12_here_1 : List UInt8 := [160, 0, 16, 42, 89, 180, 0, 130, 4, 96, 181, 0, 130, 167, 255, 221, 42, 180, 0, 130, 42, 180, 0, 133]
abbrev dktX12_here_1 : List UInt8 := dkwX12_here_1 ++ dktX12_here_2
def dkwX12_here_0 : List UInt8 := [42, 180, 0, 130, 42, 180, 0, 133, 162, 0, 30, 42, 180, 0, 20, 42, 180, 0, 130, 46, 16, 32]
abbrev dktX12_here_0 : List UInt8 := dkwX12_here_0 ++ dktX12_here_1
theorem dksX12_here_0 : cX12_here.data.toList.drop 0 = dktX12_here_0 := by decide +kernel
theorem dksX12_here_1 : cX12_here.data.toList.drop 22 = dktX12_here_1 := dk_seg dksX12_here_0 22 rfl rfl
theorem dksX12_here_2 : cX12_here.data.toList.drop 46 = dktX12_here_2 := dk_seg dksX12_here_1 24 rfl rfl
theorem dX12_here_0 : decode cX12_here 0 = .ok (.aload_n 0, 1) := dk_42 (dk_at dksX12_here_0 0 rfl rfl)
theorem dX12_here_1 : decode cX12_here 1 = .ok (.getfield 130, 3) := dk_180 0 130 (dk_at dksX12_here_0 1 rfl rfl)
theorem dX12_here_4 : decode cX12_here 4 = .ok (.aload_n 0, 1) := dk_42 (dk_at dksX12_here_0 4 rfl rfl)
theorem dX12_here_5 : decode cX12_here 5 = .ok (.getfield 133, 3) := dk_180 0 133 (dk_at dksX12_here_0 5 rfl rfl)
theorem dX12_here_8 : decode cX12_here 8 = .ok (.if_icmp .ge 30, 3) := dk_162 0 30 (dk_at dksX12_here_0 8 rfl rfl)
theorem dX12_here_11 : decode cX12_here 11 = .ok (.aload_n 0, 1) := dk_42 (dk_at dksX12_here_0 11 rfl rfl)
theorem dX12_here_12 : decode cX12_here 12 = .ok (.getfield 20, 3) := dk_180 0 20 (dk_at dksX12_here_0 12 rfl rfl)
theorem dX12_here_15 : decode cX12_here 15 = .ok (.aload_n 0, 1) := dk_42 (dk_at dksX12_here_0 15 rfl rfl)
theorem dX12_here_16 : decode cX12_here 16 = .ok (.getfield 130, 3) := dk_180 0 130 (dk_at dksX12_here_0 16 rfl rfl)
theorem dX12_here_19 : decode cX12_here 19 = .ok (.iaload, 1) := dk_46 (dk_at dksX12_here_0 19 rfl rfl)
theorem dX12_here_20 : decode cX12_here 20 = .ok (.bipush 32, 2) := dk_16 32 (dk_at dksX12_here_0 20 rfl rfl)
theorem dX12_here_22 : decode cX12_here 22 = .ok (.if_icmp .ne 16, 3) := dk_160 0 16 (dk_at dksX12_here_1 0 rfl rfl)
theorem dX12_here_25 : decode cX12_here 25 = .ok (.aload_n 0, 1) := dk_42 (dk_at dksX12_here_1 3 rfl rfl)
theorem dX12_here_26 : decode cX12_here 26 = .ok (.dup, 1) := dk_89 (dk_at dksX12_here_1 4 rfl rfl)
theorem dX12_here_27 : decode cX12_here 27 = .ok (.getfield 130, 3) := dk_180 0 130 (dk_at dksX12_here_1 5 rfl rfl)
theorem dX12_here_30 : decode cX12_here 30 = .ok (.iconst 1, 1) := dk_4 (dk_at dksX12_here_1 8 rfl rfl)
theorem dX12_here_31 : decode cX12_here 31 = .ok (.iadd, 1) := dk_96 (dk_at dksX12_here_1 9 rfl rfl)
theorem dX12_here_32 : decode cX12_here 32 = .ok (.putfield 130, 3) := dk_181 0 130 (dk_at dksX12_here_1 10 rfl rfl)
theorem dX12_here_35 : decode cX12_here 35 = .ok (.goto (-35), 3) := dk_167 255 221 (dk_at dksX12_here_1 13 rfl rfl)
theorem dX12_here_38 : decode cX12_here 38 = .ok (.aload_n 0, 1) := dk_42 (dk_at dksX12_here_1 16 rfl rfl)
theorem dX12_here_39 : decode cX12_here 39 = .ok (.getfield 130, 3) := dk_180 0 130 (dk_at dksX12_here_1 17 rfl rfl)
theorem dX12_here_42 : decode cX12_here 42 = .ok (.aload_n 0, 1) := dk_42 (dk_at dksX12_here_1 20 rfl rfl)
theorem dX12_here_43 : decode cX12_here 43 = .ok (.getfield 133, 3) := dk_180 0 133 (dk_at dksX12_here_1 21 rfl rfl)
theorem dX12_here_46 : decode cX12_here 46 = .ok (.if_icmp .ge 15, 3) := dk_162 0 15 (dk_at dksX12_here_2 0 rfl rfl)
theorem dX12_here_49 : decode cX12_here 49 = .ok (.aload_n 0, 1) := dk_42 (dk_at dksX12_here_2 3 rfl rfl)
theorem dX12_here_50 : decode cX12_here 50 = .ok (.getfield 20, 3) := dk_180 0 20 (dk_at dksX12_here_2 4 rfl rfl)
theorem dX12_here_53 : decode cX12_here 53 = .ok (.aload_n 0, 1) := dk_42 (dk_at dksX12_here_2 7 rfl rfl)
theorem dX12_here_54 : decode cX12_here 54 = .ok (.getfield 130, 3) := dk_180 0 130 (dk_at dksX12_here_2 8 rfl rfl)
theorem dX12_here_57 : decode cX12_here 57 = .ok (.iaload, 1) := dk_46 (dk_at dksX12_here_2 11 rfl rfl)
theorem dX12_here_58 : decode cX12_here 58 = .ok (.goto 4, 3) := dk_167 0 4 (dk_at dksX12_here_2 12 rfl rfl)
theorem dX12_here_61 : decode cX12_here 61 = .ok (.iconst 0, 1) := dk_3 (dk_at dksX12_here_2 15 rfl rfl)
theorem dX12_here_62 : decode cX12_here 62 = .ok (.ireturn, 1) := dk_172 (dk_at dksX12_here_2 16 rfl rfl)
abbrev cX12_word : ByteArray := prog_27_method_11_code
def yX12_word : MethodName := ⟨RX12, "word", "()I"⟩
def dkwX12_word_3 : List UInt8 := [164, 0, 7, 3, 167, 0, 4, 27, 172]
abbrev dktX12_word_3 : List UInt8 := dkwX12_word_3 ++ []
def dkwX12_word_2 : List UInt8 := [29, 46, 16, 96, 100, 128, 167, 0, 4, 3, 60, 132, 2, 1, 132, 3, 1, 167, 255, 206, 28, 16, 6]
abbrev dktX12_word_2 : List UInt8 := dkwX12_word_2 ++ dktX12_word_3
def dkwX12_word_1 : List UInt8 := [180, 0, 20, 29, 46, 184, 0, 140, 153, 0, 36, 28, 16, 6, 162, 0, 19, 27, 8, 120, 42, 180, 0, 20]
abbrev dktX12_word_1 : List UInt8 := dkwX12_word_1 ++ dktX12_word_2
def dkwX12_word_0 : List UInt8 := [42, 182, 0, 136, 87, 3, 60, 3, 61, 42, 180, 0, 130, 62, 29, 42, 180, 0, 133, 162, 0, 48, 42]
abbrev dktX12_word_0 : List UInt8 := dkwX12_word_0 ++ dktX12_word_1
theorem dksX12_word_0 : cX12_word.data.toList.drop 0 = dktX12_word_0 := by decide +kernel
theorem dksX12_word_1 : cX12_word.data.toList.drop 23 = dktX12_word_1 := dk_seg dksX12_word_0 23 rfl rfl
theorem dksX12_word_2 : cX12_word.data.toList.drop 47 = dktX12_word_2 := dk_seg dksX12_word_1 24 rfl rfl
theorem dksX12_word_3 : cX12_word.data.toList.drop 70 = dktX12_word_3 := dk_seg dksX12_word_2 23 rfl rfl
theorem dX12_word_0 : decode cX12_word 0 = .ok (.aload_n 0, 1) := dk_42 (dk_at dksX12_word_0 0 rfl rfl)
theorem dX12_word_1 : decode cX12_word 1 = .ok (.invokevirtual 136, 3) := dk_182 0 136 (dk_at dksX12_word_0 1 rfl rfl)
theorem dX12_word_4 : decode cX12_word 4 = .ok (.pop, 1) := dk_87 (dk_at dksX12_word_0 4 rfl rfl)
theorem dX12_word_5 : decode cX12_word 5 = .ok (.iconst 0, 1) := dk_3 (dk_at dksX12_word_0 5 rfl rfl)
theorem dX12_word_6 : decode cX12_word 6 = .ok (.istore_n 1, 1) := dk_60 (dk_at dksX12_word_0 6 rfl rfl)
theorem dX12_word_7 : decode cX12_word 7 = .ok (.iconst 0, 1) := dk_3 (dk_at dksX12_word_0 7 rfl rfl)
theorem dX12_word_8 : decode cX12_word 8 = .ok (.istore_n 2, 1) := dk_61 (dk_at dksX12_word_0 8 rfl rfl)
theorem dX12_word_9 : decode cX12_word 9 = .ok (.aload_n 0, 1) := dk_42 (dk_at dksX12_word_0 9 rfl rfl)
theorem dX12_word_10 : decode cX12_word 10 = .ok (.getfield 130, 3) := dk_180 0 130 (dk_at dksX12_word_0 10 rfl rfl)
theorem dX12_word_13 : decode cX12_word 13 = .ok (.istore_n 3, 1) := dk_62 (dk_at dksX12_word_0 13 rfl rfl)
theorem dX12_word_14 : decode cX12_word 14 = .ok (.iload_n 3, 1) := dk_29 (dk_at dksX12_word_0 14 rfl rfl)
theorem dX12_word_15 : decode cX12_word 15 = .ok (.aload_n 0, 1) := dk_42 (dk_at dksX12_word_0 15 rfl rfl)
theorem dX12_word_16 : decode cX12_word 16 = .ok (.getfield 133, 3) := dk_180 0 133 (dk_at dksX12_word_0 16 rfl rfl)
theorem dX12_word_19 : decode cX12_word 19 = .ok (.if_icmp .ge 48, 3) := dk_162 0 48 (dk_at dksX12_word_0 19 rfl rfl)
theorem dX12_word_22 : decode cX12_word 22 = .ok (.aload_n 0, 1) := dk_42 (dk_at dksX12_word_0 22 rfl rfl)
theorem dX12_word_23 : decode cX12_word 23 = .ok (.getfield 20, 3) := dk_180 0 20 (dk_at dksX12_word_1 0 rfl rfl)
theorem dX12_word_26 : decode cX12_word 26 = .ok (.iload_n 3, 1) := dk_29 (dk_at dksX12_word_1 3 rfl rfl)
theorem dX12_word_27 : decode cX12_word 27 = .ok (.iaload, 1) := dk_46 (dk_at dksX12_word_1 4 rfl rfl)
theorem dX12_word_28 : decode cX12_word 28 = .ok (.invokestatic 140, 3) := dk_184 0 140 (dk_at dksX12_word_1 5 rfl rfl)
theorem dX12_word_31 : decode cX12_word 31 = .ok (.ifCond .eq 36, 3) := dk_153 0 36 (dk_at dksX12_word_1 8 rfl rfl)
theorem dX12_word_34 : decode cX12_word 34 = .ok (.iload_n 2, 1) := dk_28 (dk_at dksX12_word_1 11 rfl rfl)
theorem dX12_word_35 : decode cX12_word 35 = .ok (.bipush 6, 2) := dk_16 6 (dk_at dksX12_word_1 12 rfl rfl)
theorem dX12_word_37 : decode cX12_word 37 = .ok (.if_icmp .ge 19, 3) := dk_162 0 19 (dk_at dksX12_word_1 14 rfl rfl)
theorem dX12_word_40 : decode cX12_word 40 = .ok (.iload_n 1, 1) := dk_27 (dk_at dksX12_word_1 17 rfl rfl)
theorem dX12_word_41 : decode cX12_word 41 = .ok (.iconst 5, 1) := dk_8 (dk_at dksX12_word_1 18 rfl rfl)
theorem dX12_word_42 : decode cX12_word 42 = .ok (.ishl, 1) := dk_120 (dk_at dksX12_word_1 19 rfl rfl)
theorem dX12_word_43 : decode cX12_word 43 = .ok (.aload_n 0, 1) := dk_42 (dk_at dksX12_word_1 20 rfl rfl)
theorem dX12_word_44 : decode cX12_word 44 = .ok (.getfield 20, 3) := dk_180 0 20 (dk_at dksX12_word_1 21 rfl rfl)
theorem dX12_word_47 : decode cX12_word 47 = .ok (.iload_n 3, 1) := dk_29 (dk_at dksX12_word_2 0 rfl rfl)
theorem dX12_word_48 : decode cX12_word 48 = .ok (.iaload, 1) := dk_46 (dk_at dksX12_word_2 1 rfl rfl)
theorem dX12_word_49 : decode cX12_word 49 = .ok (.bipush 96, 2) := dk_16 96 (dk_at dksX12_word_2 2 rfl rfl)
theorem dX12_word_51 : decode cX12_word 51 = .ok (.isub, 1) := dk_100 (dk_at dksX12_word_2 4 rfl rfl)
theorem dX12_word_52 : decode cX12_word 52 = .ok (.ior, 1) := dk_128 (dk_at dksX12_word_2 5 rfl rfl)
theorem dX12_word_53 : decode cX12_word 53 = .ok (.goto 4, 3) := dk_167 0 4 (dk_at dksX12_word_2 6 rfl rfl)
theorem dX12_word_56 : decode cX12_word 56 = .ok (.iconst 0, 1) := dk_3 (dk_at dksX12_word_2 9 rfl rfl)
theorem dX12_word_57 : decode cX12_word 57 = .ok (.istore_n 1, 1) := dk_60 (dk_at dksX12_word_2 10 rfl rfl)
theorem dX12_word_58 : decode cX12_word 58 = .ok (.iinc 2 1, 3) := dk_132 2 1 (dk_at dksX12_word_2 11 rfl rfl)
theorem dX12_word_61 : decode cX12_word 61 = .ok (.iinc 3 1, 3) := dk_132 3 1 (dk_at dksX12_word_2 14 rfl rfl)
theorem dX12_word_64 : decode cX12_word 64 = .ok (.goto (-50), 3) := dk_167 255 206 (dk_at dksX12_word_2 17 rfl rfl)
theorem dX12_word_67 : decode cX12_word 67 = .ok (.iload_n 2, 1) := dk_28 (dk_at dksX12_word_2 20 rfl rfl)
theorem dX12_word_68 : decode cX12_word 68 = .ok (.bipush 6, 2) := dk_16 6 (dk_at dksX12_word_2 21 rfl rfl)
theorem dX12_word_70 : decode cX12_word 70 = .ok (.if_icmp .le 7, 3) := dk_164 0 7 (dk_at dksX12_word_3 0 rfl rfl)
theorem dX12_word_73 : decode cX12_word 73 = .ok (.iconst 0, 1) := dk_3 (dk_at dksX12_word_3 3 rfl rfl)
theorem dX12_word_74 : decode cX12_word 74 = .ok (.goto 4, 3) := dk_167 0 4 (dk_at dksX12_word_3 4 rfl rfl)
theorem dX12_word_77 : decode cX12_word 77 = .ok (.iload_n 1, 1) := dk_27 (dk_at dksX12_word_3 7 rfl rfl)
theorem dX12_word_78 : decode cX12_word 78 = .ok (.ireturn, 1) := dk_172 (dk_at dksX12_word_3 8 rfl rfl)
abbrev cX12_isSmall : ByteArray := prog_27_method_9_code
def yX12_isSmall : MethodName := ⟨RX12, "isSmall", "(I)Z"⟩
def dkwX12_isSmall_0 : List UInt8 := [26, 16, 97, 161, 0, 13, 26, 16, 122, 163, 0, 7, 4, 167, 0, 4, 3, 172]
abbrev dktX12_isSmall_0 : List UInt8 := dkwX12_isSmall_0 ++ []
theorem dksX12_isSmall_0 : cX12_isSmall.data.toList.drop 0 = dktX12_isSmall_0 := by decide +kernel
theorem dX12_isSmall_0 : decode cX12_isSmall 0 = .ok (.iload_n 0, 1) := dk_26 (dk_at dksX12_isSmall_0 0 rfl rfl)
theorem dX12_isSmall_1 : decode cX12_isSmall 1 = .ok (.bipush 97, 2) := dk_16 97 (dk_at dksX12_isSmall_0 1 rfl rfl)
theorem dX12_isSmall_3 : decode cX12_isSmall 3 = .ok (.if_icmp .lt 13, 3) := dk_161 0 13 (dk_at dksX12_isSmall_0 3 rfl rfl)
theorem dX12_isSmall_6 : decode cX12_isSmall 6 = .ok (.iload_n 0, 1) := dk_26 (dk_at dksX12_isSmall_0 6 rfl rfl)
theorem dX12_isSmall_7 : decode cX12_isSmall 7 = .ok (.bipush 122, 2) := dk_16 122 (dk_at dksX12_isSmall_0 7 rfl rfl)
theorem dX12_isSmall_9 : decode cX12_isSmall 9 = .ok (.if_icmp .gt 7, 3) := dk_163 0 7 (dk_at dksX12_isSmall_0 9 rfl rfl)
theorem dX12_isSmall_12 : decode cX12_isSmall 12 = .ok (.iconst 1, 1) := dk_4 (dk_at dksX12_isSmall_0 12 rfl rfl)
theorem dX12_isSmall_13 : decode cX12_isSmall 13 = .ok (.goto 4, 3) := dk_167 0 4 (dk_at dksX12_isSmall_0 13 rfl rfl)
theorem dX12_isSmall_16 : decode cX12_isSmall 16 = .ok (.iconst 0, 1) := dk_3 (dk_at dksX12_isSmall_0 16 rfl rfl)
theorem dX12_isSmall_17 : decode cX12_isSmall 17 = .ok (.ireturn, 1) := dk_172 (dk_at dksX12_isSmall_0 17 rfl rfl)
abbrev cX12_isClause : ByteArray := prog_27_method_26_code
def yX12_isClause : MethodName := ⟨RX12, "isClause", "(I)Z"⟩
def dkwX12_isClause_3 : List UInt8 := [26, 18, 208, 184, 0, 172, 160, 0, 7, 4, 167, 0, 4, 3, 172]
abbrev dktX12_isClause_3 : List UInt8 := dkwX12_isClause_3 ++ []
def dkwX12_isClause_2 : List UInt8 := [184, 0, 172, 159, 0, 30, 26, 18, 204, 184, 0, 172, 159, 0, 21, 26, 18, 206, 184, 0, 172, 159, 0, 12]
abbrev dktX12_isClause_2 : List UInt8 := dkwX12_isClause_2 ++ dktX12_isClause_3
def dkwX12_isClause_1 : List UInt8 := [159, 0, 57, 26, 18, 198, 184, 0, 172, 159, 0, 48, 26, 18, 200, 184, 0, 172, 159, 0, 39, 26, 18, 202]
abbrev dktX12_isClause_1 : List UInt8 := dkwX12_isClause_1 ++ dktX12_isClause_2
def dkwX12_isClause_0 : List UInt8 := [26, 18, 192, 184, 0, 172, 159, 0, 75, 26, 18, 194, 184, 0, 172, 159, 0, 66, 26, 18, 196, 184, 0, 172]
abbrev dktX12_isClause_0 : List UInt8 := dkwX12_isClause_0 ++ dktX12_isClause_1
theorem dksX12_isClause_0 : cX12_isClause.data.toList.drop 0 = dktX12_isClause_0 := by decide +kernel
theorem dksX12_isClause_1 : cX12_isClause.data.toList.drop 24 = dktX12_isClause_1 := dk_seg dksX12_isClause_0 24 rfl rfl
theorem dksX12_isClause_2 : cX12_isClause.data.toList.drop 48 = dktX12_isClause_2 := dk_seg dksX12_isClause_1 24 rfl rfl
theorem dksX12_isClause_3 : cX12_isClause.data.toList.drop 72 = dktX12_isClause_3 := dk_seg dksX12_isClause_2 24 rfl rfl
theorem dX12_isClause_0 : decode cX12_isClause 0 = .ok (.iload_n 0, 1) := dk_26 (dk_at dksX12_isClause_0 0 rfl rfl)
theorem dX12_isClause_1 : decode cX12_isClause 1 = .ok (.ldc 192, 2) := dk_18 192 (dk_at dksX12_isClause_0 1 rfl rfl)
theorem dX12_isClause_3 : decode cX12_isClause 3 = .ok (.invokestatic 172, 3) := dk_184 0 172 (dk_at dksX12_isClause_0 3 rfl rfl)
theorem dX12_isClause_6 : decode cX12_isClause 6 = .ok (.if_icmp .eq 75, 3) := dk_159 0 75 (dk_at dksX12_isClause_0 6 rfl rfl)
theorem dX12_isClause_9 : decode cX12_isClause 9 = .ok (.iload_n 0, 1) := dk_26 (dk_at dksX12_isClause_0 9 rfl rfl)
theorem dX12_isClause_10 : decode cX12_isClause 10 = .ok (.ldc 194, 2) := dk_18 194 (dk_at dksX12_isClause_0 10 rfl rfl)
theorem dX12_isClause_12 : decode cX12_isClause 12 = .ok (.invokestatic 172, 3) := dk_184 0 172 (dk_at dksX12_isClause_0 12 rfl rfl)
theorem dX12_isClause_15 : decode cX12_isClause 15 = .ok (.if_icmp .eq 66, 3) := dk_159 0 66 (dk_at dksX12_isClause_0 15 rfl rfl)
theorem dX12_isClause_18 : decode cX12_isClause 18 = .ok (.iload_n 0, 1) := dk_26 (dk_at dksX12_isClause_0 18 rfl rfl)
theorem dX12_isClause_19 : decode cX12_isClause 19 = .ok (.ldc 196, 2) := dk_18 196 (dk_at dksX12_isClause_0 19 rfl rfl)
theorem dX12_isClause_21 : decode cX12_isClause 21 = .ok (.invokestatic 172, 3) := dk_184 0 172 (dk_at dksX12_isClause_0 21 rfl rfl)
theorem dX12_isClause_24 : decode cX12_isClause 24 = .ok (.if_icmp .eq 57, 3) := dk_159 0 57 (dk_at dksX12_isClause_1 0 rfl rfl)
theorem dX12_isClause_27 : decode cX12_isClause 27 = .ok (.iload_n 0, 1) := dk_26 (dk_at dksX12_isClause_1 3 rfl rfl)
theorem dX12_isClause_28 : decode cX12_isClause 28 = .ok (.ldc 198, 2) := dk_18 198 (dk_at dksX12_isClause_1 4 rfl rfl)
theorem dX12_isClause_30 : decode cX12_isClause 30 = .ok (.invokestatic 172, 3) := dk_184 0 172 (dk_at dksX12_isClause_1 6 rfl rfl)
theorem dX12_isClause_33 : decode cX12_isClause 33 = .ok (.if_icmp .eq 48, 3) := dk_159 0 48 (dk_at dksX12_isClause_1 9 rfl rfl)
theorem dX12_isClause_36 : decode cX12_isClause 36 = .ok (.iload_n 0, 1) := dk_26 (dk_at dksX12_isClause_1 12 rfl rfl)
theorem dX12_isClause_37 : decode cX12_isClause 37 = .ok (.ldc 200, 2) := dk_18 200 (dk_at dksX12_isClause_1 13 rfl rfl)
theorem dX12_isClause_39 : decode cX12_isClause 39 = .ok (.invokestatic 172, 3) := dk_184 0 172 (dk_at dksX12_isClause_1 15 rfl rfl)
theorem dX12_isClause_42 : decode cX12_isClause 42 = .ok (.if_icmp .eq 39, 3) := dk_159 0 39 (dk_at dksX12_isClause_1 18 rfl rfl)
theorem dX12_isClause_45 : decode cX12_isClause 45 = .ok (.iload_n 0, 1) := dk_26 (dk_at dksX12_isClause_1 21 rfl rfl)
theorem dX12_isClause_46 : decode cX12_isClause 46 = .ok (.ldc 202, 2) := dk_18 202 (dk_at dksX12_isClause_1 22 rfl rfl)
theorem dX12_isClause_48 : decode cX12_isClause 48 = .ok (.invokestatic 172, 3) := dk_184 0 172 (dk_at dksX12_isClause_2 0 rfl rfl)
theorem dX12_isClause_51 : decode cX12_isClause 51 = .ok (.if_icmp .eq 30, 3) := dk_159 0 30 (dk_at dksX12_isClause_2 3 rfl rfl)
theorem dX12_isClause_54 : decode cX12_isClause 54 = .ok (.iload_n 0, 1) := dk_26 (dk_at dksX12_isClause_2 6 rfl rfl)
theorem dX12_isClause_55 : decode cX12_isClause 55 = .ok (.ldc 204, 2) := dk_18 204 (dk_at dksX12_isClause_2 7 rfl rfl)
theorem dX12_isClause_57 : decode cX12_isClause 57 = .ok (.invokestatic 172, 3) := dk_184 0 172 (dk_at dksX12_isClause_2 9 rfl rfl)
theorem dX12_isClause_60 : decode cX12_isClause 60 = .ok (.if_icmp .eq 21, 3) := dk_159 0 21 (dk_at dksX12_isClause_2 12 rfl rfl)
theorem dX12_isClause_63 : decode cX12_isClause 63 = .ok (.iload_n 0, 1) := dk_26 (dk_at dksX12_isClause_2 15 rfl rfl)
theorem dX12_isClause_64 : decode cX12_isClause 64 = .ok (.ldc 206, 2) := dk_18 206 (dk_at dksX12_isClause_2 16 rfl rfl)
theorem dX12_isClause_66 : decode cX12_isClause 66 = .ok (.invokestatic 172, 3) := dk_184 0 172 (dk_at dksX12_isClause_2 18 rfl rfl)
theorem dX12_isClause_69 : decode cX12_isClause 69 = .ok (.if_icmp .eq 12, 3) := dk_159 0 12 (dk_at dksX12_isClause_2 21 rfl rfl)
theorem dX12_isClause_72 : decode cX12_isClause 72 = .ok (.iload_n 0, 1) := dk_26 (dk_at dksX12_isClause_3 0 rfl rfl)
theorem dX12_isClause_73 : decode cX12_isClause 73 = .ok (.ldc 208, 2) := dk_18 208 (dk_at dksX12_isClause_3 1 rfl rfl)
theorem dX12_isClause_75 : decode cX12_isClause 75 = .ok (.invokestatic 172, 3) := dk_184 0 172 (dk_at dksX12_isClause_3 3 rfl rfl)
theorem dX12_isClause_78 : decode cX12_isClause 78 = .ok (.if_icmp .ne 7, 3) := dk_160 0 7 (dk_at dksX12_isClause_3 6 rfl rfl)
theorem dX12_isClause_81 : decode cX12_isClause 81 = .ok (.iconst 1, 1) := dk_4 (dk_at dksX12_isClause_3 9 rfl rfl)
theorem dX12_isClause_82 : decode cX12_isClause 82 = .ok (.goto 4, 3) := dk_167 0 4 (dk_at dksX12_isClause_3 10 rfl rfl)
theorem dX12_isClause_85 : decode cX12_isClause 85 = .ok (.iconst 0, 1) := dk_3 (dk_at dksX12_isClause_3 13 rfl rfl)
theorem dX12_isClause_86 : decode cX12_isClause 86 = .ok (.ireturn, 1) := dk_172 (dk_at dksX12_isClause_3 14 rfl rfl)
abbrev cX12_of : ByteArray := prog_27_method_12_code
def yX12_of : MethodName := ⟨RX12, "of", "(Ljava/lang/String;)I"⟩
def dkwX12_of_1 : List UInt8 := [60, 132, 2, 1, 167, 255, 232, 27, 172]
abbrev dktX12_of_1 : List UInt8 := dkwX12_of_1 ++ []
def dkwX12_of_0 : List UInt8 := [3, 60, 3, 61, 28, 42, 182, 0, 144, 162, 0, 22, 27, 8, 120, 42, 28, 182, 0, 149, 16, 96, 100, 128]
abbrev dktX12_of_0 : List UInt8 := dkwX12_of_0 ++ dktX12_of_1
theorem dksX12_of_0 : cX12_of.data.toList.drop 0 = dktX12_of_0 := by decide +kernel
theorem dksX12_of_1 : cX12_of.data.toList.drop 24 = dktX12_of_1 := dk_seg dksX12_of_0 24 rfl rfl
theorem dX12_of_0 : decode cX12_of 0 = .ok (.iconst 0, 1) := dk_3 (dk_at dksX12_of_0 0 rfl rfl)
theorem dX12_of_1 : decode cX12_of 1 = .ok (.istore_n 1, 1) := dk_60 (dk_at dksX12_of_0 1 rfl rfl)
theorem dX12_of_2 : decode cX12_of 2 = .ok (.iconst 0, 1) := dk_3 (dk_at dksX12_of_0 2 rfl rfl)
theorem dX12_of_3 : decode cX12_of 3 = .ok (.istore_n 2, 1) := dk_61 (dk_at dksX12_of_0 3 rfl rfl)
theorem dX12_of_4 : decode cX12_of 4 = .ok (.iload_n 2, 1) := dk_28 (dk_at dksX12_of_0 4 rfl rfl)
theorem dX12_of_5 : decode cX12_of 5 = .ok (.aload_n 0, 1) := dk_42 (dk_at dksX12_of_0 5 rfl rfl)
theorem dX12_of_6 : decode cX12_of 6 = .ok (.invokevirtual 144, 3) := dk_182 0 144 (dk_at dksX12_of_0 6 rfl rfl)
theorem dX12_of_9 : decode cX12_of 9 = .ok (.if_icmp .ge 22, 3) := dk_162 0 22 (dk_at dksX12_of_0 9 rfl rfl)
theorem dX12_of_12 : decode cX12_of 12 = .ok (.iload_n 1, 1) := dk_27 (dk_at dksX12_of_0 12 rfl rfl)
theorem dX12_of_13 : decode cX12_of 13 = .ok (.iconst 5, 1) := dk_8 (dk_at dksX12_of_0 13 rfl rfl)
theorem dX12_of_14 : decode cX12_of 14 = .ok (.ishl, 1) := dk_120 (dk_at dksX12_of_0 14 rfl rfl)
theorem dX12_of_15 : decode cX12_of 15 = .ok (.aload_n 0, 1) := dk_42 (dk_at dksX12_of_0 15 rfl rfl)
theorem dX12_of_16 : decode cX12_of 16 = .ok (.iload_n 2, 1) := dk_28 (dk_at dksX12_of_0 16 rfl rfl)
theorem dX12_of_17 : decode cX12_of 17 = .ok (.invokevirtual 149, 3) := dk_182 0 149 (dk_at dksX12_of_0 17 rfl rfl)
theorem dX12_of_20 : decode cX12_of 20 = .ok (.bipush 96, 2) := dk_16 96 (dk_at dksX12_of_0 20 rfl rfl)
theorem dX12_of_22 : decode cX12_of 22 = .ok (.isub, 1) := dk_100 (dk_at dksX12_of_0 22 rfl rfl)
theorem dX12_of_23 : decode cX12_of 23 = .ok (.ior, 1) := dk_128 (dk_at dksX12_of_0 23 rfl rfl)
theorem dX12_of_24 : decode cX12_of 24 = .ok (.istore_n 1, 1) := dk_60 (dk_at dksX12_of_1 0 rfl rfl)
theorem dX12_of_25 : decode cX12_of 25 = .ok (.iinc 2 1, 3) := dk_132 2 1 (dk_at dksX12_of_1 1 rfl rfl)
theorem dX12_of_28 : decode cX12_of 28 = .ok (.goto (-24), 3) := dk_167 255 232 (dk_at dksX12_of_1 4 rfl rfl)
theorem dX12_of_31 : decode cX12_of 31 = .ok (.iload_n 1, 1) := dk_27 (dk_at dksX12_of_1 7 rfl rfl)
theorem dX12_of_32 : decode cX12_of 32 = .ok (.ireturn, 1) := dk_172 (dk_at dksX12_of_1 8 rfl rfl)
abbrev cX12_wrong : ByteArray := prog_27_method_7_code
def yX12_wrong : MethodName := ⟨RX12, "wrong", "(II)V"⟩
def dkwX12_wrong_0 : List UInt8 := [42, 180, 0, 124, 2, 159, 0, 4, 177, 42, 28, 181, 0, 124, 42, 27, 181, 0, 127, 177]
abbrev dktX12_wrong_0 : List UInt8 := dkwX12_wrong_0 ++ []
theorem dksX12_wrong_0 : cX12_wrong.data.toList.drop 0 = dktX12_wrong_0 := by decide +kernel
theorem dX12_wrong_0 : decode cX12_wrong 0 = .ok (.aload_n 0, 1) := dk_42 (dk_at dksX12_wrong_0 0 rfl rfl)
theorem dX12_wrong_1 : decode cX12_wrong 1 = .ok (.getfield 124, 3) := dk_180 0 124 (dk_at dksX12_wrong_0 1 rfl rfl)
theorem dX12_wrong_4 : decode cX12_wrong 4 = .ok (.iconst (-1), 1) := dk_2 (dk_at dksX12_wrong_0 4 rfl rfl)
theorem dX12_wrong_5 : decode cX12_wrong 5 = .ok (.if_icmp .eq 4, 3) := dk_159 0 4 (dk_at dksX12_wrong_0 5 rfl rfl)
theorem dX12_wrong_8 : decode cX12_wrong 8 = .ok (.return_, 1) := dk_177 (dk_at dksX12_wrong_0 8 rfl rfl)
theorem dX12_wrong_9 : decode cX12_wrong 9 = .ok (.aload_n 0, 1) := dk_42 (dk_at dksX12_wrong_0 9 rfl rfl)
theorem dX12_wrong_10 : decode cX12_wrong 10 = .ok (.iload_n 2, 1) := dk_28 (dk_at dksX12_wrong_0 10 rfl rfl)
theorem dX12_wrong_11 : decode cX12_wrong 11 = .ok (.putfield 124, 3) := dk_181 0 124 (dk_at dksX12_wrong_0 11 rfl rfl)
theorem dX12_wrong_14 : decode cX12_wrong 14 = .ok (.aload_n 0, 1) := dk_42 (dk_at dksX12_wrong_0 14 rfl rfl)
theorem dX12_wrong_15 : decode cX12_wrong 15 = .ok (.iload_n 1, 1) := dk_27 (dk_at dksX12_wrong_0 15 rfl rfl)
theorem dX12_wrong_16 : decode cX12_wrong 16 = .ok (.putfield 127, 3) := dk_181 0 127 (dk_at dksX12_wrong_0 16 rfl rfl)
theorem dX12_wrong_19 : decode cX12_wrong 19 = .ok (.return_, 1) := dk_177 (dk_at dksX12_wrong_0 19 rfl rfl)
abbrev cX12_isFull : ByteArray := prog_27_method_27_code
def yX12_isFull : MethodName := ⟨RX12, "isFull", "(I)Z"⟩
def dkwX12_isFull_2 : List UInt8 := [160, 0, 17, 42, 180, 0, 26, 5, 46, 8, 160, 0, 7, 4, 167, 0, 4, 3, 172]
abbrev dktX12_isFull_2 : List UInt8 := dkwX12_isFull_2 ++ []
def dkwX12_isFull_1 : List UInt8 := [184, 0, 172, 160, 0, 14, 42, 180, 0, 26, 4, 46, 16, 24, 159, 0, 22, 27, 18, 198, 184, 0, 172]
abbrev dktX12_isFull_1 : List UInt8 := dkwX12_isFull_1 ++ dktX12_isFull_2
def dkwX12_isFull_0 : List UInt8 := [27, 18, 192, 184, 0, 172, 160, 0, 14, 42, 180, 0, 26, 3, 46, 16, 12, 159, 0, 42, 27, 18, 194]
abbrev dktX12_isFull_0 : List UInt8 := dkwX12_isFull_0 ++ dktX12_isFull_1
theorem dksX12_isFull_0 : cX12_isFull.data.toList.drop 0 = dktX12_isFull_0 := by decide +kernel
theorem dksX12_isFull_1 : cX12_isFull.data.toList.drop 23 = dktX12_isFull_1 := dk_seg dksX12_isFull_0 23 rfl rfl
theorem dksX12_isFull_2 : cX12_isFull.data.toList.drop 46 = dktX12_isFull_2 := dk_seg dksX12_isFull_1 23 rfl rfl
theorem dX12_isFull_0 : decode cX12_isFull 0 = .ok (.iload_n 1, 1) := dk_27 (dk_at dksX12_isFull_0 0 rfl rfl)
theorem dX12_isFull_1 : decode cX12_isFull 1 = .ok (.ldc 192, 2) := dk_18 192 (dk_at dksX12_isFull_0 1 rfl rfl)
theorem dX12_isFull_3 : decode cX12_isFull 3 = .ok (.invokestatic 172, 3) := dk_184 0 172 (dk_at dksX12_isFull_0 3 rfl rfl)
theorem dX12_isFull_6 : decode cX12_isFull 6 = .ok (.if_icmp .ne 14, 3) := dk_160 0 14 (dk_at dksX12_isFull_0 6 rfl rfl)
theorem dX12_isFull_9 : decode cX12_isFull 9 = .ok (.aload_n 0, 1) := dk_42 (dk_at dksX12_isFull_0 9 rfl rfl)
theorem dX12_isFull_10 : decode cX12_isFull 10 = .ok (.getfield 26, 3) := dk_180 0 26 (dk_at dksX12_isFull_0 10 rfl rfl)
theorem dX12_isFull_13 : decode cX12_isFull 13 = .ok (.iconst 0, 1) := dk_3 (dk_at dksX12_isFull_0 13 rfl rfl)
theorem dX12_isFull_14 : decode cX12_isFull 14 = .ok (.iaload, 1) := dk_46 (dk_at dksX12_isFull_0 14 rfl rfl)
theorem dX12_isFull_15 : decode cX12_isFull 15 = .ok (.bipush 12, 2) := dk_16 12 (dk_at dksX12_isFull_0 15 rfl rfl)
theorem dX12_isFull_17 : decode cX12_isFull 17 = .ok (.if_icmp .eq 42, 3) := dk_159 0 42 (dk_at dksX12_isFull_0 17 rfl rfl)
theorem dX12_isFull_20 : decode cX12_isFull 20 = .ok (.iload_n 1, 1) := dk_27 (dk_at dksX12_isFull_0 20 rfl rfl)
theorem dX12_isFull_21 : decode cX12_isFull 21 = .ok (.ldc 194, 2) := dk_18 194 (dk_at dksX12_isFull_0 21 rfl rfl)
theorem dX12_isFull_23 : decode cX12_isFull 23 = .ok (.invokestatic 172, 3) := dk_184 0 172 (dk_at dksX12_isFull_1 0 rfl rfl)
theorem dX12_isFull_26 : decode cX12_isFull 26 = .ok (.if_icmp .ne 14, 3) := dk_160 0 14 (dk_at dksX12_isFull_1 3 rfl rfl)
theorem dX12_isFull_29 : decode cX12_isFull 29 = .ok (.aload_n 0, 1) := dk_42 (dk_at dksX12_isFull_1 6 rfl rfl)
theorem dX12_isFull_30 : decode cX12_isFull 30 = .ok (.getfield 26, 3) := dk_180 0 26 (dk_at dksX12_isFull_1 7 rfl rfl)
theorem dX12_isFull_33 : decode cX12_isFull 33 = .ok (.iconst 1, 1) := dk_4 (dk_at dksX12_isFull_1 10 rfl rfl)
theorem dX12_isFull_34 : decode cX12_isFull 34 = .ok (.iaload, 1) := dk_46 (dk_at dksX12_isFull_1 11 rfl rfl)
theorem dX12_isFull_35 : decode cX12_isFull 35 = .ok (.bipush 24, 2) := dk_16 24 (dk_at dksX12_isFull_1 12 rfl rfl)
theorem dX12_isFull_37 : decode cX12_isFull 37 = .ok (.if_icmp .eq 22, 3) := dk_159 0 22 (dk_at dksX12_isFull_1 14 rfl rfl)
theorem dX12_isFull_40 : decode cX12_isFull 40 = .ok (.iload_n 1, 1) := dk_27 (dk_at dksX12_isFull_1 17 rfl rfl)
theorem dX12_isFull_41 : decode cX12_isFull 41 = .ok (.ldc 198, 2) := dk_18 198 (dk_at dksX12_isFull_1 18 rfl rfl)
theorem dX12_isFull_43 : decode cX12_isFull 43 = .ok (.invokestatic 172, 3) := dk_184 0 172 (dk_at dksX12_isFull_1 20 rfl rfl)
theorem dX12_isFull_46 : decode cX12_isFull 46 = .ok (.if_icmp .ne 17, 3) := dk_160 0 17 (dk_at dksX12_isFull_2 0 rfl rfl)
theorem dX12_isFull_49 : decode cX12_isFull 49 = .ok (.aload_n 0, 1) := dk_42 (dk_at dksX12_isFull_2 3 rfl rfl)
theorem dX12_isFull_50 : decode cX12_isFull 50 = .ok (.getfield 26, 3) := dk_180 0 26 (dk_at dksX12_isFull_2 4 rfl rfl)
theorem dX12_isFull_53 : decode cX12_isFull 53 = .ok (.iconst 2, 1) := dk_5 (dk_at dksX12_isFull_2 7 rfl rfl)
theorem dX12_isFull_54 : decode cX12_isFull 54 = .ok (.iaload, 1) := dk_46 (dk_at dksX12_isFull_2 8 rfl rfl)
theorem dX12_isFull_55 : decode cX12_isFull 55 = .ok (.iconst 5, 1) := dk_8 (dk_at dksX12_isFull_2 9 rfl rfl)
theorem dX12_isFull_56 : decode cX12_isFull 56 = .ok (.if_icmp .ne 7, 3) := dk_160 0 7 (dk_at dksX12_isFull_2 10 rfl rfl)
theorem dX12_isFull_59 : decode cX12_isFull 59 = .ok (.iconst 1, 1) := dk_4 (dk_at dksX12_isFull_2 13 rfl rfl)
theorem dX12_isFull_60 : decode cX12_isFull 60 = .ok (.goto 4, 3) := dk_167 0 4 (dk_at dksX12_isFull_2 14 rfl rfl)
theorem dX12_isFull_63 : decode cX12_isFull 63 = .ok (.iconst 0, 1) := dk_3 (dk_at dksX12_isFull_2 17 rfl rfl)
theorem dX12_isFull_64 : decode cX12_isFull 64 = .ok (.ireturn, 1) := dk_172 (dk_at dksX12_isFull_2 18 rfl rfl)
abbrev cX12_pass : ByteArray := prog_27_method_13_code
def yX12_pass : MethodName := ⟨RX12, "pass", "()V"⟩
def dkwX12_pass_1 : List UInt8 := [153, 0, 16, 42, 89, 180, 0, 130, 4, 96, 181, 0, 130, 167, 255, 220, 177]
abbrev dktX12_pass_1 : List UInt8 := dkwX12_pass_1 ++ []
def dkwX12_pass_0 : List UInt8 := [42, 180, 0, 130, 42, 180, 0, 133, 162, 0, 31, 42, 180, 0, 20, 42, 180, 0, 130, 46, 184, 0, 140]
abbrev dktX12_pass_0 : List UInt8 := dkwX12_pass_0 ++ dktX12_pass_1
theorem dksX12_pass_0 : cX12_pass.data.toList.drop 0 = dktX12_pass_0 := by decide +kernel
theorem dksX12_pass_1 : cX12_pass.data.toList.drop 23 = dktX12_pass_1 := dk_seg dksX12_pass_0 23 rfl rfl
theorem dX12_pass_0 : decode cX12_pass 0 = .ok (.aload_n 0, 1) := dk_42 (dk_at dksX12_pass_0 0 rfl rfl)
theorem dX12_pass_1 : decode cX12_pass 1 = .ok (.getfield 130, 3) := dk_180 0 130 (dk_at dksX12_pass_0 1 rfl rfl)
theorem dX12_pass_4 : decode cX12_pass 4 = .ok (.aload_n 0, 1) := dk_42 (dk_at dksX12_pass_0 4 rfl rfl)
theorem dX12_pass_5 : decode cX12_pass 5 = .ok (.getfield 133, 3) := dk_180 0 133 (dk_at dksX12_pass_0 5 rfl rfl)
theorem dX12_pass_8 : decode cX12_pass 8 = .ok (.if_icmp .ge 31, 3) := dk_162 0 31 (dk_at dksX12_pass_0 8 rfl rfl)
theorem dX12_pass_11 : decode cX12_pass 11 = .ok (.aload_n 0, 1) := dk_42 (dk_at dksX12_pass_0 11 rfl rfl)
theorem dX12_pass_12 : decode cX12_pass 12 = .ok (.getfield 20, 3) := dk_180 0 20 (dk_at dksX12_pass_0 12 rfl rfl)
theorem dX12_pass_15 : decode cX12_pass 15 = .ok (.aload_n 0, 1) := dk_42 (dk_at dksX12_pass_0 15 rfl rfl)
theorem dX12_pass_16 : decode cX12_pass 16 = .ok (.getfield 130, 3) := dk_180 0 130 (dk_at dksX12_pass_0 16 rfl rfl)
theorem dX12_pass_19 : decode cX12_pass 19 = .ok (.iaload, 1) := dk_46 (dk_at dksX12_pass_0 19 rfl rfl)
theorem dX12_pass_20 : decode cX12_pass 20 = .ok (.invokestatic 140, 3) := dk_184 0 140 (dk_at dksX12_pass_0 20 rfl rfl)
theorem dX12_pass_23 : decode cX12_pass 23 = .ok (.ifCond .eq 16, 3) := dk_153 0 16 (dk_at dksX12_pass_1 0 rfl rfl)
theorem dX12_pass_26 : decode cX12_pass 26 = .ok (.aload_n 0, 1) := dk_42 (dk_at dksX12_pass_1 3 rfl rfl)
theorem dX12_pass_27 : decode cX12_pass 27 = .ok (.dup, 1) := dk_89 (dk_at dksX12_pass_1 4 rfl rfl)
theorem dX12_pass_28 : decode cX12_pass 28 = .ok (.getfield 130, 3) := dk_180 0 130 (dk_at dksX12_pass_1 5 rfl rfl)
theorem dX12_pass_31 : decode cX12_pass 31 = .ok (.iconst 1, 1) := dk_4 (dk_at dksX12_pass_1 8 rfl rfl)
theorem dX12_pass_32 : decode cX12_pass 32 = .ok (.iadd, 1) := dk_96 (dk_at dksX12_pass_1 9 rfl rfl)
theorem dX12_pass_33 : decode cX12_pass 33 = .ok (.putfield 130, 3) := dk_181 0 130 (dk_at dksX12_pass_1 10 rfl rfl)
theorem dX12_pass_36 : decode cX12_pass 36 = .ok (.goto (-36), 3) := dk_167 255 220 (dk_at dksX12_pass_1 13 rfl rfl)
theorem dX12_pass_39 : decode cX12_pass 39 = .ok (.return_, 1) := dk_177 (dk_at dksX12_pass_1 16 rfl rfl)
abbrev cX12_readClause : ByteArray := prog_27_method_28_code
def yX12_readClause : MethodName := ⟨RX12, "readClause", "(I)V"⟩
def dkwX12_readClause_8 : List UInt8 := [153, 0, 11, 42, 180, 0, 26, 16, 6, 28, 79, 177]
abbrev dktX12_readClause_8 : List UInt8 := dkwX12_readClause_8 ++ []
def dkwX12_readClause_7 : List UInt8 := [160, 0, 14, 42, 8, 3, 16, 99, 182, 0, 222, 167, 0, 24, 42, 3, 182, 0, 185, 61, 42, 182, 0, 153]
abbrev dktX12_readClause_7 : List UInt8 := dkwX12_readClause_7 ++ dktX12_readClause_8
def dkwX12_readClause_6 : List UInt8 := [184, 0, 172, 160, 0, 14, 42, 7, 4, 16, 12, 182, 0, 222, 167, 0, 44, 27, 18, 206, 184, 0, 172]
abbrev dktX12_readClause_6 : List UInt8 := dkwX12_readClause_6 ++ dktX12_readClause_7
def dkwX12_readClause_5 : List UInt8 := [27, 18, 202, 184, 0, 172, 160, 0, 14, 42, 6, 4, 16, 24, 182, 0, 222, 167, 0, 64, 27, 18, 204]
abbrev dktX12_readClause_5 : List UInt8 := dkwX12_readClause_5 ++ dktX12_readClause_6
def dkwX12_readClause_4 : List UInt8 := [92, 46, 4, 96, 79, 167, 0, 100, 27, 18, 200, 184, 0, 172, 160, 0, 10, 42, 182, 0, 219, 167, 0, 84]
abbrev dktX12_readClause_4 : List UInt8 := dkwX12_readClause_4 ++ dktX12_readClause_5
def dkwX12_readClause_3 : List UInt8 := [154, 0, 4, 177, 42, 180, 0, 26, 16, 67, 42, 180, 0, 26, 5, 46, 96, 28, 79, 42, 180, 0, 26, 5]
abbrev dktX12_readClause_3 : List UInt8 := dkwX12_readClause_3 ++ dktX12_readClause_4
def dkwX12_readClause_2 : List UInt8 := [167, 0, 153, 27, 18, 198, 184, 0, 172, 160, 0, 47, 42, 3, 16, 9, 182, 0, 181, 61, 42, 182, 0, 153]
abbrev dktX12_readClause_2 : List UInt8 := dkwX12_readClause_2 ++ dktX12_readClause_3
def dkwX12_readClause_1 : List UInt8 := [160, 0, 10, 42, 182, 0, 213, 167, 0, 169, 27, 18, 196, 184, 0, 172, 160, 0, 10, 42, 182, 0, 216]
abbrev dktX12_readClause_1 : List UInt8 := dkwX12_readClause_1 ++ dktX12_readClause_2
def dkwX12_readClause_0 : List UInt8 := [27, 18, 192, 184, 0, 172, 160, 0, 10, 42, 182, 0, 210, 167, 0, 185, 27, 18, 194, 184, 0, 172]
abbrev dktX12_readClause_0 : List UInt8 := dkwX12_readClause_0 ++ dktX12_readClause_1
theorem dksX12_readClause_0 : cX12_readClause.data.toList.drop 0 = dktX12_readClause_0 := by decide +kernel
theorem dksX12_readClause_1 : cX12_readClause.data.toList.drop 22 = dktX12_readClause_1 := dk_seg dksX12_readClause_0 22 rfl rfl
theorem dksX12_readClause_2 : cX12_readClause.data.toList.drop 45 = dktX12_readClause_2 := dk_seg dksX12_readClause_1 23 rfl rfl
theorem dksX12_readClause_3 : cX12_readClause.data.toList.drop 69 = dktX12_readClause_3 := dk_seg dksX12_readClause_2 24 rfl rfl
theorem dksX12_readClause_4 : cX12_readClause.data.toList.drop 93 = dktX12_readClause_4 := dk_seg dksX12_readClause_3 24 rfl rfl
theorem dksX12_readClause_5 : cX12_readClause.data.toList.drop 117 = dktX12_readClause_5 := dk_seg dksX12_readClause_4 24 rfl rfl
theorem dksX12_readClause_6 : cX12_readClause.data.toList.drop 140 = dktX12_readClause_6 := dk_seg dksX12_readClause_5 23 rfl rfl
theorem dksX12_readClause_7 : cX12_readClause.data.toList.drop 163 = dktX12_readClause_7 := dk_seg dksX12_readClause_6 23 rfl rfl
theorem dksX12_readClause_8 : cX12_readClause.data.toList.drop 187 = dktX12_readClause_8 := dk_seg dksX12_readClause_7 24 rfl rfl
theorem dX12_readClause_0 : decode cX12_readClause 0 = .ok (.iload_n 1, 1) := dk_27 (dk_at dksX12_readClause_0 0 rfl rfl)
theorem dX12_readClause_1 : decode cX12_readClause 1 = .ok (.ldc 192, 2) := dk_18 192 (dk_at dksX12_readClause_0 1 rfl rfl)
theorem dX12_readClause_3 : decode cX12_readClause 3 = .ok (.invokestatic 172, 3) := dk_184 0 172 (dk_at dksX12_readClause_0 3 rfl rfl)
theorem dX12_readClause_6 : decode cX12_readClause 6 = .ok (.if_icmp .ne 10, 3) := dk_160 0 10 (dk_at dksX12_readClause_0 6 rfl rfl)
theorem dX12_readClause_9 : decode cX12_readClause 9 = .ok (.aload_n 0, 1) := dk_42 (dk_at dksX12_readClause_0 9 rfl rfl)
theorem dX12_readClause_10 : decode cX12_readClause 10 = .ok (.invokevirtual 210, 3) := dk_182 0 210 (dk_at dksX12_readClause_0 10 rfl rfl)
theorem dX12_readClause_13 : decode cX12_readClause 13 = .ok (.goto 185, 3) := dk_167 0 185 (dk_at dksX12_readClause_0 13 rfl rfl)
theorem dX12_readClause_16 : decode cX12_readClause 16 = .ok (.iload_n 1, 1) := dk_27 (dk_at dksX12_readClause_0 16 rfl rfl)
theorem dX12_readClause_17 : decode cX12_readClause 17 = .ok (.ldc 194, 2) := dk_18 194 (dk_at dksX12_readClause_0 17 rfl rfl)
theorem dX12_readClause_19 : decode cX12_readClause 19 = .ok (.invokestatic 172, 3) := dk_184 0 172 (dk_at dksX12_readClause_0 19 rfl rfl)
theorem dX12_readClause_22 : decode cX12_readClause 22 = .ok (.if_icmp .ne 10, 3) := dk_160 0 10 (dk_at dksX12_readClause_1 0 rfl rfl)
theorem dX12_readClause_25 : decode cX12_readClause 25 = .ok (.aload_n 0, 1) := dk_42 (dk_at dksX12_readClause_1 3 rfl rfl)
theorem dX12_readClause_26 : decode cX12_readClause 26 = .ok (.invokevirtual 213, 3) := dk_182 0 213 (dk_at dksX12_readClause_1 4 rfl rfl)
theorem dX12_readClause_29 : decode cX12_readClause 29 = .ok (.goto 169, 3) := dk_167 0 169 (dk_at dksX12_readClause_1 7 rfl rfl)
theorem dX12_readClause_32 : decode cX12_readClause 32 = .ok (.iload_n 1, 1) := dk_27 (dk_at dksX12_readClause_1 10 rfl rfl)
theorem dX12_readClause_33 : decode cX12_readClause 33 = .ok (.ldc 196, 2) := dk_18 196 (dk_at dksX12_readClause_1 11 rfl rfl)
theorem dX12_readClause_35 : decode cX12_readClause 35 = .ok (.invokestatic 172, 3) := dk_184 0 172 (dk_at dksX12_readClause_1 13 rfl rfl)
theorem dX12_readClause_38 : decode cX12_readClause 38 = .ok (.if_icmp .ne 10, 3) := dk_160 0 10 (dk_at dksX12_readClause_1 16 rfl rfl)
theorem dX12_readClause_41 : decode cX12_readClause 41 = .ok (.aload_n 0, 1) := dk_42 (dk_at dksX12_readClause_1 19 rfl rfl)
theorem dX12_readClause_42 : decode cX12_readClause 42 = .ok (.invokevirtual 216, 3) := dk_182 0 216 (dk_at dksX12_readClause_1 20 rfl rfl)
theorem dX12_readClause_45 : decode cX12_readClause 45 = .ok (.goto 153, 3) := dk_167 0 153 (dk_at dksX12_readClause_2 0 rfl rfl)
theorem dX12_readClause_48 : decode cX12_readClause 48 = .ok (.iload_n 1, 1) := dk_27 (dk_at dksX12_readClause_2 3 rfl rfl)
theorem dX12_readClause_49 : decode cX12_readClause 49 = .ok (.ldc 198, 2) := dk_18 198 (dk_at dksX12_readClause_2 4 rfl rfl)
theorem dX12_readClause_51 : decode cX12_readClause 51 = .ok (.invokestatic 172, 3) := dk_184 0 172 (dk_at dksX12_readClause_2 6 rfl rfl)
theorem dX12_readClause_54 : decode cX12_readClause 54 = .ok (.if_icmp .ne 47, 3) := dk_160 0 47 (dk_at dksX12_readClause_2 9 rfl rfl)
theorem dX12_readClause_57 : decode cX12_readClause 57 = .ok (.aload_n 0, 1) := dk_42 (dk_at dksX12_readClause_2 12 rfl rfl)
theorem dX12_readClause_58 : decode cX12_readClause 58 = .ok (.iconst 0, 1) := dk_3 (dk_at dksX12_readClause_2 13 rfl rfl)
theorem dX12_readClause_59 : decode cX12_readClause 59 = .ok (.bipush 9, 2) := dk_16 9 (dk_at dksX12_readClause_2 14 rfl rfl)
theorem dX12_readClause_61 : decode cX12_readClause 61 = .ok (.invokevirtual 181, 3) := dk_182 0 181 (dk_at dksX12_readClause_2 16 rfl rfl)
theorem dX12_readClause_64 : decode cX12_readClause 64 = .ok (.istore_n 2, 1) := dk_61 (dk_at dksX12_readClause_2 19 rfl rfl)
theorem dX12_readClause_65 : decode cX12_readClause 65 = .ok (.aload_n 0, 1) := dk_42 (dk_at dksX12_readClause_2 20 rfl rfl)
theorem dX12_readClause_66 : decode cX12_readClause 66 = .ok (.invokevirtual 153, 3) := dk_182 0 153 (dk_at dksX12_readClause_2 21 rfl rfl)
theorem dX12_readClause_69 : decode cX12_readClause 69 = .ok (.ifCond .ne 4, 3) := dk_154 0 4 (dk_at dksX12_readClause_3 0 rfl rfl)
theorem dX12_readClause_72 : decode cX12_readClause 72 = .ok (.return_, 1) := dk_177 (dk_at dksX12_readClause_3 3 rfl rfl)
theorem dX12_readClause_73 : decode cX12_readClause 73 = .ok (.aload_n 0, 1) := dk_42 (dk_at dksX12_readClause_3 4 rfl rfl)
theorem dX12_readClause_74 : decode cX12_readClause 74 = .ok (.getfield 26, 3) := dk_180 0 26 (dk_at dksX12_readClause_3 5 rfl rfl)
theorem dX12_readClause_77 : decode cX12_readClause 77 = .ok (.bipush 67, 2) := dk_16 67 (dk_at dksX12_readClause_3 8 rfl rfl)
theorem dX12_readClause_79 : decode cX12_readClause 79 = .ok (.aload_n 0, 1) := dk_42 (dk_at dksX12_readClause_3 10 rfl rfl)
theorem dX12_readClause_80 : decode cX12_readClause 80 = .ok (.getfield 26, 3) := dk_180 0 26 (dk_at dksX12_readClause_3 11 rfl rfl)
theorem dX12_readClause_83 : decode cX12_readClause 83 = .ok (.iconst 2, 1) := dk_5 (dk_at dksX12_readClause_3 14 rfl rfl)
theorem dX12_readClause_84 : decode cX12_readClause 84 = .ok (.iaload, 1) := dk_46 (dk_at dksX12_readClause_3 15 rfl rfl)
theorem dX12_readClause_85 : decode cX12_readClause 85 = .ok (.iadd, 1) := dk_96 (dk_at dksX12_readClause_3 16 rfl rfl)
theorem dX12_readClause_86 : decode cX12_readClause 86 = .ok (.iload_n 2, 1) := dk_28 (dk_at dksX12_readClause_3 17 rfl rfl)
theorem dX12_readClause_87 : decode cX12_readClause 87 = .ok (.iastore, 1) := dk_79 (dk_at dksX12_readClause_3 18 rfl rfl)
theorem dX12_readClause_88 : decode cX12_readClause 88 = .ok (.aload_n 0, 1) := dk_42 (dk_at dksX12_readClause_3 19 rfl rfl)
theorem dX12_readClause_89 : decode cX12_readClause 89 = .ok (.getfield 26, 3) := dk_180 0 26 (dk_at dksX12_readClause_3 20 rfl rfl)
theorem dX12_readClause_92 : decode cX12_readClause 92 = .ok (.iconst 2, 1) := dk_5 (dk_at dksX12_readClause_3 23 rfl rfl)
theorem dX12_readClause_93 : decode cX12_readClause 93 = .ok (.dup2, 1) := dk_92 (dk_at dksX12_readClause_4 0 rfl rfl)
theorem dX12_readClause_94 : decode cX12_readClause 94 = .ok (.iaload, 1) := dk_46 (dk_at dksX12_readClause_4 1 rfl rfl)
theorem dX12_readClause_95 : decode cX12_readClause 95 = .ok (.iconst 1, 1) := dk_4 (dk_at dksX12_readClause_4 2 rfl rfl)
theorem dX12_readClause_96 : decode cX12_readClause 96 = .ok (.iadd, 1) := dk_96 (dk_at dksX12_readClause_4 3 rfl rfl)
theorem dX12_readClause_97 : decode cX12_readClause 97 = .ok (.iastore, 1) := dk_79 (dk_at dksX12_readClause_4 4 rfl rfl)
theorem dX12_readClause_98 : decode cX12_readClause 98 = .ok (.goto 100, 3) := dk_167 0 100 (dk_at dksX12_readClause_4 5 rfl rfl)
theorem dX12_readClause_101 : decode cX12_readClause 101 = .ok (.iload_n 1, 1) := dk_27 (dk_at dksX12_readClause_4 8 rfl rfl)
theorem dX12_readClause_102 : decode cX12_readClause 102 = .ok (.ldc 200, 2) := dk_18 200 (dk_at dksX12_readClause_4 9 rfl rfl)
theorem dX12_readClause_104 : decode cX12_readClause 104 = .ok (.invokestatic 172, 3) := dk_184 0 172 (dk_at dksX12_readClause_4 11 rfl rfl)
theorem dX12_readClause_107 : decode cX12_readClause 107 = .ok (.if_icmp .ne 10, 3) := dk_160 0 10 (dk_at dksX12_readClause_4 14 rfl rfl)
theorem dX12_readClause_110 : decode cX12_readClause 110 = .ok (.aload_n 0, 1) := dk_42 (dk_at dksX12_readClause_4 17 rfl rfl)
theorem dX12_readClause_111 : decode cX12_readClause 111 = .ok (.invokevirtual 219, 3) := dk_182 0 219 (dk_at dksX12_readClause_4 18 rfl rfl)
theorem dX12_readClause_114 : decode cX12_readClause 114 = .ok (.goto 84, 3) := dk_167 0 84 (dk_at dksX12_readClause_4 21 rfl rfl)
theorem dX12_readClause_117 : decode cX12_readClause 117 = .ok (.iload_n 1, 1) := dk_27 (dk_at dksX12_readClause_5 0 rfl rfl)
theorem dX12_readClause_118 : decode cX12_readClause 118 = .ok (.ldc 202, 2) := dk_18 202 (dk_at dksX12_readClause_5 1 rfl rfl)
theorem dX12_readClause_120 : decode cX12_readClause 120 = .ok (.invokestatic 172, 3) := dk_184 0 172 (dk_at dksX12_readClause_5 3 rfl rfl)
theorem dX12_readClause_123 : decode cX12_readClause 123 = .ok (.if_icmp .ne 14, 3) := dk_160 0 14 (dk_at dksX12_readClause_5 6 rfl rfl)
theorem dX12_readClause_126 : decode cX12_readClause 126 = .ok (.aload_n 0, 1) := dk_42 (dk_at dksX12_readClause_5 9 rfl rfl)
theorem dX12_readClause_127 : decode cX12_readClause 127 = .ok (.iconst 3, 1) := dk_6 (dk_at dksX12_readClause_5 10 rfl rfl)
theorem dX12_readClause_128 : decode cX12_readClause 128 = .ok (.iconst 1, 1) := dk_4 (dk_at dksX12_readClause_5 11 rfl rfl)
theorem dX12_readClause_129 : decode cX12_readClause 129 = .ok (.bipush 24, 2) := dk_16 24 (dk_at dksX12_readClause_5 12 rfl rfl)
theorem dX12_readClause_131 : decode cX12_readClause 131 = .ok (.invokevirtual 222, 3) := dk_182 0 222 (dk_at dksX12_readClause_5 14 rfl rfl)
theorem dX12_readClause_134 : decode cX12_readClause 134 = .ok (.goto 64, 3) := dk_167 0 64 (dk_at dksX12_readClause_5 17 rfl rfl)
theorem dX12_readClause_137 : decode cX12_readClause 137 = .ok (.iload_n 1, 1) := dk_27 (dk_at dksX12_readClause_5 20 rfl rfl)
theorem dX12_readClause_138 : decode cX12_readClause 138 = .ok (.ldc 204, 2) := dk_18 204 (dk_at dksX12_readClause_5 21 rfl rfl)
theorem dX12_readClause_140 : decode cX12_readClause 140 = .ok (.invokestatic 172, 3) := dk_184 0 172 (dk_at dksX12_readClause_6 0 rfl rfl)
theorem dX12_readClause_143 : decode cX12_readClause 143 = .ok (.if_icmp .ne 14, 3) := dk_160 0 14 (dk_at dksX12_readClause_6 3 rfl rfl)
theorem dX12_readClause_146 : decode cX12_readClause 146 = .ok (.aload_n 0, 1) := dk_42 (dk_at dksX12_readClause_6 6 rfl rfl)
theorem dX12_readClause_147 : decode cX12_readClause 147 = .ok (.iconst 4, 1) := dk_7 (dk_at dksX12_readClause_6 7 rfl rfl)
theorem dX12_readClause_148 : decode cX12_readClause 148 = .ok (.iconst 1, 1) := dk_4 (dk_at dksX12_readClause_6 8 rfl rfl)
theorem dX12_readClause_149 : decode cX12_readClause 149 = .ok (.bipush 12, 2) := dk_16 12 (dk_at dksX12_readClause_6 9 rfl rfl)
theorem dX12_readClause_151 : decode cX12_readClause 151 = .ok (.invokevirtual 222, 3) := dk_182 0 222 (dk_at dksX12_readClause_6 11 rfl rfl)
theorem dX12_readClause_154 : decode cX12_readClause 154 = .ok (.goto 44, 3) := dk_167 0 44 (dk_at dksX12_readClause_6 14 rfl rfl)
theorem dX12_readClause_157 : decode cX12_readClause 157 = .ok (.iload_n 1, 1) := dk_27 (dk_at dksX12_readClause_6 17 rfl rfl)
theorem dX12_readClause_158 : decode cX12_readClause 158 = .ok (.ldc 206, 2) := dk_18 206 (dk_at dksX12_readClause_6 18 rfl rfl)
theorem dX12_readClause_160 : decode cX12_readClause 160 = .ok (.invokestatic 172, 3) := dk_184 0 172 (dk_at dksX12_readClause_6 20 rfl rfl)
theorem dX12_readClause_163 : decode cX12_readClause 163 = .ok (.if_icmp .ne 14, 3) := dk_160 0 14 (dk_at dksX12_readClause_7 0 rfl rfl)
theorem dX12_readClause_166 : decode cX12_readClause 166 = .ok (.aload_n 0, 1) := dk_42 (dk_at dksX12_readClause_7 3 rfl rfl)
theorem dX12_readClause_167 : decode cX12_readClause 167 = .ok (.iconst 5, 1) := dk_8 (dk_at dksX12_readClause_7 4 rfl rfl)
theorem dX12_readClause_168 : decode cX12_readClause 168 = .ok (.iconst 0, 1) := dk_3 (dk_at dksX12_readClause_7 5 rfl rfl)
theorem dX12_readClause_169 : decode cX12_readClause 169 = .ok (.bipush 99, 2) := dk_16 99 (dk_at dksX12_readClause_7 6 rfl rfl)
theorem dX12_readClause_171 : decode cX12_readClause 171 = .ok (.invokevirtual 222, 3) := dk_182 0 222 (dk_at dksX12_readClause_7 8 rfl rfl)
theorem dX12_readClause_174 : decode cX12_readClause 174 = .ok (.goto 24, 3) := dk_167 0 24 (dk_at dksX12_readClause_7 11 rfl rfl)
theorem dX12_readClause_177 : decode cX12_readClause 177 = .ok (.aload_n 0, 1) := dk_42 (dk_at dksX12_readClause_7 14 rfl rfl)
theorem dX12_readClause_178 : decode cX12_readClause 178 = .ok (.iconst 0, 1) := dk_3 (dk_at dksX12_readClause_7 15 rfl rfl)
theorem dX12_readClause_179 : decode cX12_readClause 179 = .ok (.invokevirtual 185, 3) := dk_182 0 185 (dk_at dksX12_readClause_7 16 rfl rfl)
theorem dX12_readClause_182 : decode cX12_readClause 182 = .ok (.istore_n 2, 1) := dk_61 (dk_at dksX12_readClause_7 19 rfl rfl)
theorem dX12_readClause_183 : decode cX12_readClause 183 = .ok (.aload_n 0, 1) := dk_42 (dk_at dksX12_readClause_7 20 rfl rfl)
theorem dX12_readClause_184 : decode cX12_readClause 184 = .ok (.invokevirtual 153, 3) := dk_182 0 153 (dk_at dksX12_readClause_7 21 rfl rfl)
theorem dX12_readClause_187 : decode cX12_readClause 187 = .ok (.ifCond .eq 11, 3) := dk_153 0 11 (dk_at dksX12_readClause_8 0 rfl rfl)
theorem dX12_readClause_190 : decode cX12_readClause 190 = .ok (.aload_n 0, 1) := dk_42 (dk_at dksX12_readClause_8 3 rfl rfl)
theorem dX12_readClause_191 : decode cX12_readClause 191 = .ok (.getfield 26, 3) := dk_180 0 26 (dk_at dksX12_readClause_8 4 rfl rfl)
theorem dX12_readClause_194 : decode cX12_readClause 194 = .ok (.bipush 6, 2) := dk_16 6 (dk_at dksX12_readClause_8 7 rfl rfl)
theorem dX12_readClause_196 : decode cX12_readClause 196 = .ok (.iload_n 2, 1) := dk_28 (dk_at dksX12_readClause_8 9 rfl rfl)
theorem dX12_readClause_197 : decode cX12_readClause 197 = .ok (.iastore, 1) := dk_79 (dk_at dksX12_readClause_8 10 rfl rfl)
theorem dX12_readClause_198 : decode cX12_readClause 198 = .ok (.return_, 1) := dk_177 (dk_at dksX12_readClause_8 11 rfl rfl)
abbrev cX12_readPlace : ByteArray := prog_27_method_19_code
def yX12_readPlace : MethodName := ⟨RX12, "readPlace", "()V"⟩
def dkwX12_readPlace_3 : List UInt8 := [4, 96, 79, 177]
abbrev dktX12_readPlace_3 : List UInt8 := dkwX12_readPlace_3 ++ []
def dkwX12_readPlace_2 : List UInt8 := [79, 42, 180, 0, 26, 16, 7, 28, 96, 46, 153, 0, 7, 42, 182, 0, 178, 42, 180, 0, 26, 3, 92, 46]
abbrev dktX12_readPlace_2 : List UInt8 := dkwX12_readPlace_2 ++ dktX12_readPlace_3
def dkwX12_readPlace_1 : List UInt8 := [184, 0, 172, 160, 0, 7, 4, 167, 0, 17, 27, 18, 176, 184, 0, 172, 160, 0, 7, 5, 167, 0, 4, 3]
abbrev dktX12_readPlace_1 : List UInt8 := dkwX12_readPlace_1 ++ dktX12_readPlace_2
def dkwX12_readPlace_0 : List UInt8 := [42, 182, 0, 167, 60, 42, 180, 0, 26, 3, 46, 61, 42, 180, 0, 26, 16, 7, 28, 96, 27, 18, 170]
abbrev dktX12_readPlace_0 : List UInt8 := dkwX12_readPlace_0 ++ dktX12_readPlace_1
theorem dksX12_readPlace_0 : cX12_readPlace.data.toList.drop 0 = dktX12_readPlace_0 := by decide +kernel
theorem dksX12_readPlace_1 : cX12_readPlace.data.toList.drop 23 = dktX12_readPlace_1 := dk_seg dksX12_readPlace_0 23 rfl rfl
theorem dksX12_readPlace_2 : cX12_readPlace.data.toList.drop 47 = dktX12_readPlace_2 := dk_seg dksX12_readPlace_1 24 rfl rfl
theorem dksX12_readPlace_3 : cX12_readPlace.data.toList.drop 71 = dktX12_readPlace_3 := dk_seg dksX12_readPlace_2 24 rfl rfl
theorem dX12_readPlace_0 : decode cX12_readPlace 0 = .ok (.aload_n 0, 1) := dk_42 (dk_at dksX12_readPlace_0 0 rfl rfl)
theorem dX12_readPlace_1 : decode cX12_readPlace 1 = .ok (.invokevirtual 167, 3) := dk_182 0 167 (dk_at dksX12_readPlace_0 1 rfl rfl)
theorem dX12_readPlace_4 : decode cX12_readPlace 4 = .ok (.istore_n 1, 1) := dk_60 (dk_at dksX12_readPlace_0 4 rfl rfl)
theorem dX12_readPlace_5 : decode cX12_readPlace 5 = .ok (.aload_n 0, 1) := dk_42 (dk_at dksX12_readPlace_0 5 rfl rfl)
theorem dX12_readPlace_6 : decode cX12_readPlace 6 = .ok (.getfield 26, 3) := dk_180 0 26 (dk_at dksX12_readPlace_0 6 rfl rfl)
theorem dX12_readPlace_9 : decode cX12_readPlace 9 = .ok (.iconst 0, 1) := dk_3 (dk_at dksX12_readPlace_0 9 rfl rfl)
theorem dX12_readPlace_10 : decode cX12_readPlace 10 = .ok (.iaload, 1) := dk_46 (dk_at dksX12_readPlace_0 10 rfl rfl)
theorem dX12_readPlace_11 : decode cX12_readPlace 11 = .ok (.istore_n 2, 1) := dk_61 (dk_at dksX12_readPlace_0 11 rfl rfl)
theorem dX12_readPlace_12 : decode cX12_readPlace 12 = .ok (.aload_n 0, 1) := dk_42 (dk_at dksX12_readPlace_0 12 rfl rfl)
theorem dX12_readPlace_13 : decode cX12_readPlace 13 = .ok (.getfield 26, 3) := dk_180 0 26 (dk_at dksX12_readPlace_0 13 rfl rfl)
theorem dX12_readPlace_16 : decode cX12_readPlace 16 = .ok (.bipush 7, 2) := dk_16 7 (dk_at dksX12_readPlace_0 16 rfl rfl)
theorem dX12_readPlace_18 : decode cX12_readPlace 18 = .ok (.iload_n 2, 1) := dk_28 (dk_at dksX12_readPlace_0 18 rfl rfl)
theorem dX12_readPlace_19 : decode cX12_readPlace 19 = .ok (.iadd, 1) := dk_96 (dk_at dksX12_readPlace_0 19 rfl rfl)
theorem dX12_readPlace_20 : decode cX12_readPlace 20 = .ok (.iload_n 1, 1) := dk_27 (dk_at dksX12_readPlace_0 20 rfl rfl)
theorem dX12_readPlace_21 : decode cX12_readPlace 21 = .ok (.ldc 170, 2) := dk_18 170 (dk_at dksX12_readPlace_0 21 rfl rfl)
theorem dX12_readPlace_23 : decode cX12_readPlace 23 = .ok (.invokestatic 172, 3) := dk_184 0 172 (dk_at dksX12_readPlace_1 0 rfl rfl)
theorem dX12_readPlace_26 : decode cX12_readPlace 26 = .ok (.if_icmp .ne 7, 3) := dk_160 0 7 (dk_at dksX12_readPlace_1 3 rfl rfl)
theorem dX12_readPlace_29 : decode cX12_readPlace 29 = .ok (.iconst 1, 1) := dk_4 (dk_at dksX12_readPlace_1 6 rfl rfl)
theorem dX12_readPlace_30 : decode cX12_readPlace 30 = .ok (.goto 17, 3) := dk_167 0 17 (dk_at dksX12_readPlace_1 7 rfl rfl)
theorem dX12_readPlace_33 : decode cX12_readPlace 33 = .ok (.iload_n 1, 1) := dk_27 (dk_at dksX12_readPlace_1 10 rfl rfl)
theorem dX12_readPlace_34 : decode cX12_readPlace 34 = .ok (.ldc 176, 2) := dk_18 176 (dk_at dksX12_readPlace_1 11 rfl rfl)
theorem dX12_readPlace_36 : decode cX12_readPlace 36 = .ok (.invokestatic 172, 3) := dk_184 0 172 (dk_at dksX12_readPlace_1 13 rfl rfl)
theorem dX12_readPlace_39 : decode cX12_readPlace 39 = .ok (.if_icmp .ne 7, 3) := dk_160 0 7 (dk_at dksX12_readPlace_1 16 rfl rfl)
theorem dX12_readPlace_42 : decode cX12_readPlace 42 = .ok (.iconst 2, 1) := dk_5 (dk_at dksX12_readPlace_1 19 rfl rfl)
theorem dX12_readPlace_43 : decode cX12_readPlace 43 = .ok (.goto 4, 3) := dk_167 0 4 (dk_at dksX12_readPlace_1 20 rfl rfl)
theorem dX12_readPlace_46 : decode cX12_readPlace 46 = .ok (.iconst 0, 1) := dk_3 (dk_at dksX12_readPlace_1 23 rfl rfl)
theorem dX12_readPlace_47 : decode cX12_readPlace 47 = .ok (.iastore, 1) := dk_79 (dk_at dksX12_readPlace_2 0 rfl rfl)
theorem dX12_readPlace_48 : decode cX12_readPlace 48 = .ok (.aload_n 0, 1) := dk_42 (dk_at dksX12_readPlace_2 1 rfl rfl)
theorem dX12_readPlace_49 : decode cX12_readPlace 49 = .ok (.getfield 26, 3) := dk_180 0 26 (dk_at dksX12_readPlace_2 2 rfl rfl)
theorem dX12_readPlace_52 : decode cX12_readPlace 52 = .ok (.bipush 7, 2) := dk_16 7 (dk_at dksX12_readPlace_2 5 rfl rfl)
theorem dX12_readPlace_54 : decode cX12_readPlace 54 = .ok (.iload_n 2, 1) := dk_28 (dk_at dksX12_readPlace_2 7 rfl rfl)
theorem dX12_readPlace_55 : decode cX12_readPlace 55 = .ok (.iadd, 1) := dk_96 (dk_at dksX12_readPlace_2 8 rfl rfl)
theorem dX12_readPlace_56 : decode cX12_readPlace 56 = .ok (.iaload, 1) := dk_46 (dk_at dksX12_readPlace_2 9 rfl rfl)
theorem dX12_readPlace_57 : decode cX12_readPlace 57 = .ok (.ifCond .eq 7, 3) := dk_153 0 7 (dk_at dksX12_readPlace_2 10 rfl rfl)
theorem dX12_readPlace_60 : decode cX12_readPlace 60 = .ok (.aload_n 0, 1) := dk_42 (dk_at dksX12_readPlace_2 13 rfl rfl)
theorem dX12_readPlace_61 : decode cX12_readPlace 61 = .ok (.invokevirtual 178, 3) := dk_182 0 178 (dk_at dksX12_readPlace_2 14 rfl rfl)
theorem dX12_readPlace_64 : decode cX12_readPlace 64 = .ok (.aload_n 0, 1) := dk_42 (dk_at dksX12_readPlace_2 17 rfl rfl)
theorem dX12_readPlace_65 : decode cX12_readPlace 65 = .ok (.getfield 26, 3) := dk_180 0 26 (dk_at dksX12_readPlace_2 18 rfl rfl)
theorem dX12_readPlace_68 : decode cX12_readPlace 68 = .ok (.iconst 0, 1) := dk_3 (dk_at dksX12_readPlace_2 21 rfl rfl)
theorem dX12_readPlace_69 : decode cX12_readPlace 69 = .ok (.dup2, 1) := dk_92 (dk_at dksX12_readPlace_2 22 rfl rfl)
theorem dX12_readPlace_70 : decode cX12_readPlace 70 = .ok (.iaload, 1) := dk_46 (dk_at dksX12_readPlace_2 23 rfl rfl)
theorem dX12_readPlace_71 : decode cX12_readPlace 71 = .ok (.iconst 1, 1) := dk_4 (dk_at dksX12_readPlace_3 0 rfl rfl)
theorem dX12_readPlace_72 : decode cX12_readPlace 72 = .ok (.iadd, 1) := dk_96 (dk_at dksX12_readPlace_3 1 rfl rfl)
theorem dX12_readPlace_73 : decode cX12_readPlace 73 = .ok (.iastore, 1) := dk_79 (dk_at dksX12_readPlace_3 2 rfl rfl)
theorem dX12_readPlace_74 : decode cX12_readPlace 74 = .ok (.return_, 1) := dk_177 (dk_at dksX12_readPlace_3 3 rfl rfl)
abbrev cX12_readWay : ByteArray := prog_27_method_21_code
def yX12_readWay : MethodName := ⟨RX12, "readWay", "()V"⟩
def dkwX12_readWay_3 : List UInt8 := [180, 0, 26, 4, 46, 96, 29, 79, 42, 180, 0, 26, 4, 92, 46, 4, 96, 79, 177]
abbrev dktX12_readWay_3 : List UInt8 := dkwX12_readWay_3 ++ []
def dkwX12_readWay_2 : List UInt8 := [177, 42, 180, 0, 26, 16, 19, 42, 180, 0, 26, 4, 46, 96, 27, 79, 42, 180, 0, 26, 16, 43, 42]
abbrev dktX12_readWay_2 : List UInt8 := dkwX12_readWay_2 ++ dktX12_readWay_3
def dkwX12_readWay_1 : List UInt8 := [182, 0, 153, 153, 0, 14, 27, 29, 160, 0, 9, 42, 5, 28, 182, 0, 160, 42, 182, 0, 153, 154, 0, 4]
abbrev dktX12_readWay_1 : List UInt8 := dkwX12_readWay_1 ++ dktX12_readWay_2
def dkwX12_readWay_0 : List UInt8 := [42, 3, 182, 0, 185, 60, 42, 182, 0, 136, 87, 42, 180, 0, 130, 61, 42, 3, 182, 0, 185, 62, 42]
abbrev dktX12_readWay_0 : List UInt8 := dkwX12_readWay_0 ++ dktX12_readWay_1
theorem dksX12_readWay_0 : cX12_readWay.data.toList.drop 0 = dktX12_readWay_0 := by decide +kernel
theorem dksX12_readWay_1 : cX12_readWay.data.toList.drop 23 = dktX12_readWay_1 := dk_seg dksX12_readWay_0 23 rfl rfl
theorem dksX12_readWay_2 : cX12_readWay.data.toList.drop 47 = dktX12_readWay_2 := dk_seg dksX12_readWay_1 24 rfl rfl
theorem dksX12_readWay_3 : cX12_readWay.data.toList.drop 70 = dktX12_readWay_3 := dk_seg dksX12_readWay_2 23 rfl rfl
theorem dX12_readWay_0 : decode cX12_readWay 0 = .ok (.aload_n 0, 1) := dk_42 (dk_at dksX12_readWay_0 0 rfl rfl)
theorem dX12_readWay_1 : decode cX12_readWay 1 = .ok (.iconst 0, 1) := dk_3 (dk_at dksX12_readWay_0 1 rfl rfl)
theorem dX12_readWay_2 : decode cX12_readWay 2 = .ok (.invokevirtual 185, 3) := dk_182 0 185 (dk_at dksX12_readWay_0 2 rfl rfl)
theorem dX12_readWay_5 : decode cX12_readWay 5 = .ok (.istore_n 1, 1) := dk_60 (dk_at dksX12_readWay_0 5 rfl rfl)
theorem dX12_readWay_6 : decode cX12_readWay 6 = .ok (.aload_n 0, 1) := dk_42 (dk_at dksX12_readWay_0 6 rfl rfl)
theorem dX12_readWay_7 : decode cX12_readWay 7 = .ok (.invokevirtual 136, 3) := dk_182 0 136 (dk_at dksX12_readWay_0 7 rfl rfl)
theorem dX12_readWay_10 : decode cX12_readWay 10 = .ok (.pop, 1) := dk_87 (dk_at dksX12_readWay_0 10 rfl rfl)
theorem dX12_readWay_11 : decode cX12_readWay 11 = .ok (.aload_n 0, 1) := dk_42 (dk_at dksX12_readWay_0 11 rfl rfl)
theorem dX12_readWay_12 : decode cX12_readWay 12 = .ok (.getfield 130, 3) := dk_180 0 130 (dk_at dksX12_readWay_0 12 rfl rfl)
theorem dX12_readWay_15 : decode cX12_readWay 15 = .ok (.istore_n 2, 1) := dk_61 (dk_at dksX12_readWay_0 15 rfl rfl)
theorem dX12_readWay_16 : decode cX12_readWay 16 = .ok (.aload_n 0, 1) := dk_42 (dk_at dksX12_readWay_0 16 rfl rfl)
theorem dX12_readWay_17 : decode cX12_readWay 17 = .ok (.iconst 0, 1) := dk_3 (dk_at dksX12_readWay_0 17 rfl rfl)
theorem dX12_readWay_18 : decode cX12_readWay 18 = .ok (.invokevirtual 185, 3) := dk_182 0 185 (dk_at dksX12_readWay_0 18 rfl rfl)
theorem dX12_readWay_21 : decode cX12_readWay 21 = .ok (.istore_n 3, 1) := dk_62 (dk_at dksX12_readWay_0 21 rfl rfl)
theorem dX12_readWay_22 : decode cX12_readWay 22 = .ok (.aload_n 0, 1) := dk_42 (dk_at dksX12_readWay_0 22 rfl rfl)
theorem dX12_readWay_23 : decode cX12_readWay 23 = .ok (.invokevirtual 153, 3) := dk_182 0 153 (dk_at dksX12_readWay_1 0 rfl rfl)
theorem dX12_readWay_26 : decode cX12_readWay 26 = .ok (.ifCond .eq 14, 3) := dk_153 0 14 (dk_at dksX12_readWay_1 3 rfl rfl)
theorem dX12_readWay_29 : decode cX12_readWay 29 = .ok (.iload_n 1, 1) := dk_27 (dk_at dksX12_readWay_1 6 rfl rfl)
theorem dX12_readWay_30 : decode cX12_readWay 30 = .ok (.iload_n 3, 1) := dk_29 (dk_at dksX12_readWay_1 7 rfl rfl)
theorem dX12_readWay_31 : decode cX12_readWay 31 = .ok (.if_icmp .ne 9, 3) := dk_160 0 9 (dk_at dksX12_readWay_1 8 rfl rfl)
theorem dX12_readWay_34 : decode cX12_readWay 34 = .ok (.aload_n 0, 1) := dk_42 (dk_at dksX12_readWay_1 11 rfl rfl)
theorem dX12_readWay_35 : decode cX12_readWay 35 = .ok (.iconst 2, 1) := dk_5 (dk_at dksX12_readWay_1 12 rfl rfl)
theorem dX12_readWay_36 : decode cX12_readWay 36 = .ok (.iload_n 2, 1) := dk_28 (dk_at dksX12_readWay_1 13 rfl rfl)
theorem dX12_readWay_37 : decode cX12_readWay 37 = .ok (.invokevirtual 160, 3) := dk_182 0 160 (dk_at dksX12_readWay_1 14 rfl rfl)
theorem dX12_readWay_40 : decode cX12_readWay 40 = .ok (.aload_n 0, 1) := dk_42 (dk_at dksX12_readWay_1 17 rfl rfl)
theorem dX12_readWay_41 : decode cX12_readWay 41 = .ok (.invokevirtual 153, 3) := dk_182 0 153 (dk_at dksX12_readWay_1 18 rfl rfl)
theorem dX12_readWay_44 : decode cX12_readWay 44 = .ok (.ifCond .ne 4, 3) := dk_154 0 4 (dk_at dksX12_readWay_1 21 rfl rfl)
theorem dX12_readWay_47 : decode cX12_readWay 47 = .ok (.return_, 1) := dk_177 (dk_at dksX12_readWay_2 0 rfl rfl)
theorem dX12_readWay_48 : decode cX12_readWay 48 = .ok (.aload_n 0, 1) := dk_42 (dk_at dksX12_readWay_2 1 rfl rfl)
theorem dX12_readWay_49 : decode cX12_readWay 49 = .ok (.getfield 26, 3) := dk_180 0 26 (dk_at dksX12_readWay_2 2 rfl rfl)
theorem dX12_readWay_52 : decode cX12_readWay 52 = .ok (.bipush 19, 2) := dk_16 19 (dk_at dksX12_readWay_2 5 rfl rfl)
theorem dX12_readWay_54 : decode cX12_readWay 54 = .ok (.aload_n 0, 1) := dk_42 (dk_at dksX12_readWay_2 7 rfl rfl)
theorem dX12_readWay_55 : decode cX12_readWay 55 = .ok (.getfield 26, 3) := dk_180 0 26 (dk_at dksX12_readWay_2 8 rfl rfl)
theorem dX12_readWay_58 : decode cX12_readWay 58 = .ok (.iconst 1, 1) := dk_4 (dk_at dksX12_readWay_2 11 rfl rfl)
theorem dX12_readWay_59 : decode cX12_readWay 59 = .ok (.iaload, 1) := dk_46 (dk_at dksX12_readWay_2 12 rfl rfl)
theorem dX12_readWay_60 : decode cX12_readWay 60 = .ok (.iadd, 1) := dk_96 (dk_at dksX12_readWay_2 13 rfl rfl)
theorem dX12_readWay_61 : decode cX12_readWay 61 = .ok (.iload_n 1, 1) := dk_27 (dk_at dksX12_readWay_2 14 rfl rfl)
theorem dX12_readWay_62 : decode cX12_readWay 62 = .ok (.iastore, 1) := dk_79 (dk_at dksX12_readWay_2 15 rfl rfl)
theorem dX12_readWay_63 : decode cX12_readWay 63 = .ok (.aload_n 0, 1) := dk_42 (dk_at dksX12_readWay_2 16 rfl rfl)
theorem dX12_readWay_64 : decode cX12_readWay 64 = .ok (.getfield 26, 3) := dk_180 0 26 (dk_at dksX12_readWay_2 17 rfl rfl)
theorem dX12_readWay_67 : decode cX12_readWay 67 = .ok (.bipush 43, 2) := dk_16 43 (dk_at dksX12_readWay_2 20 rfl rfl)
theorem dX12_readWay_69 : decode cX12_readWay 69 = .ok (.aload_n 0, 1) := dk_42 (dk_at dksX12_readWay_2 22 rfl rfl)
theorem dX12_readWay_70 : decode cX12_readWay 70 = .ok (.getfield 26, 3) := dk_180 0 26 (dk_at dksX12_readWay_3 0 rfl rfl)
theorem dX12_readWay_73 : decode cX12_readWay 73 = .ok (.iconst 1, 1) := dk_4 (dk_at dksX12_readWay_3 3 rfl rfl)
theorem dX12_readWay_74 : decode cX12_readWay 74 = .ok (.iaload, 1) := dk_46 (dk_at dksX12_readWay_3 4 rfl rfl)
theorem dX12_readWay_75 : decode cX12_readWay 75 = .ok (.iadd, 1) := dk_96 (dk_at dksX12_readWay_3 5 rfl rfl)
theorem dX12_readWay_76 : decode cX12_readWay 76 = .ok (.iload_n 3, 1) := dk_29 (dk_at dksX12_readWay_3 6 rfl rfl)
theorem dX12_readWay_77 : decode cX12_readWay 77 = .ok (.iastore, 1) := dk_79 (dk_at dksX12_readWay_3 7 rfl rfl)
theorem dX12_readWay_78 : decode cX12_readWay 78 = .ok (.aload_n 0, 1) := dk_42 (dk_at dksX12_readWay_3 8 rfl rfl)
theorem dX12_readWay_79 : decode cX12_readWay 79 = .ok (.getfield 26, 3) := dk_180 0 26 (dk_at dksX12_readWay_3 9 rfl rfl)
theorem dX12_readWay_82 : decode cX12_readWay 82 = .ok (.iconst 1, 1) := dk_4 (dk_at dksX12_readWay_3 12 rfl rfl)
theorem dX12_readWay_83 : decode cX12_readWay 83 = .ok (.dup2, 1) := dk_92 (dk_at dksX12_readWay_3 13 rfl rfl)
theorem dX12_readWay_84 : decode cX12_readWay 84 = .ok (.iaload, 1) := dk_46 (dk_at dksX12_readWay_3 14 rfl rfl)
theorem dX12_readWay_85 : decode cX12_readWay 85 = .ok (.iconst 1, 1) := dk_4 (dk_at dksX12_readWay_3 15 rfl rfl)
theorem dX12_readWay_86 : decode cX12_readWay 86 = .ok (.iadd, 1) := dk_96 (dk_at dksX12_readWay_3 16 rfl rfl)
theorem dX12_readWay_87 : decode cX12_readWay 87 = .ok (.iastore, 1) := dk_79 (dk_at dksX12_readWay_3 17 rfl rfl)
theorem dX12_readWay_88 : decode cX12_readWay 88 = .ok (.return_, 1) := dk_177 (dk_at dksX12_readWay_3 18 rfl rfl)
abbrev cX12_readIn : ByteArray := prog_27_method_20_code
def yX12_readIn : MethodName := ⟨RX12, "readIn", "(I)I"⟩
def dkwX12_readIn_0 : List UInt8 := [42, 3, 42, 180, 0, 26, 27, 46, 4, 100, 182, 0, 181, 172]
abbrev dktX12_readIn_0 : List UInt8 := dkwX12_readIn_0 ++ []
theorem dksX12_readIn_0 : cX12_readIn.data.toList.drop 0 = dktX12_readIn_0 := by decide +kernel
theorem dX12_readIn_0 : decode cX12_readIn 0 = .ok (.aload_n 0, 1) := dk_42 (dk_at dksX12_readIn_0 0 rfl rfl)
theorem dX12_readIn_1 : decode cX12_readIn 1 = .ok (.iconst 0, 1) := dk_3 (dk_at dksX12_readIn_0 1 rfl rfl)
theorem dX12_readIn_2 : decode cX12_readIn 2 = .ok (.aload_n 0, 1) := dk_42 (dk_at dksX12_readIn_0 2 rfl rfl)
theorem dX12_readIn_3 : decode cX12_readIn 3 = .ok (.getfield 26, 3) := dk_180 0 26 (dk_at dksX12_readIn_0 3 rfl rfl)
theorem dX12_readIn_6 : decode cX12_readIn 6 = .ok (.iload_n 1, 1) := dk_27 (dk_at dksX12_readIn_0 6 rfl rfl)
theorem dX12_readIn_7 : decode cX12_readIn 7 = .ok (.iaload, 1) := dk_46 (dk_at dksX12_readIn_0 7 rfl rfl)
theorem dX12_readIn_8 : decode cX12_readIn 8 = .ok (.iconst 1, 1) := dk_4 (dk_at dksX12_readIn_0 8 rfl rfl)
theorem dX12_readIn_9 : decode cX12_readIn 9 = .ok (.isub, 1) := dk_100 (dk_at dksX12_readIn_0 9 rfl rfl)
theorem dX12_readIn_10 : decode cX12_readIn 10 = .ok (.invokevirtual 181, 3) := dk_182 0 181 (dk_at dksX12_readIn_0 10 rfl rfl)
theorem dX12_readIn_13 : decode cX12_readIn 13 = .ok (.ireturn, 1) := dk_172 (dk_at dksX12_readIn_0 13 rfl rfl)
abbrev cX12_readNumber : ByteArray := prog_27_method_14_code
def yX12_readNumber : MethodName := ⟨RX12, "readNumber", "(II)I"⟩
def dkwX12_readNumber_5 : List UInt8 := [21, 5, 27, 161, 0, 9, 21, 5, 28, 164, 0, 12, 42, 5, 21, 4, 182, 0, 160, 3, 172, 21, 5, 172]
abbrev dktX12_readNumber_5 : List UInt8 := dkwX12_readNumber_5 ++ []
def dkwX12_readNumber_4 : List UInt8 := [180, 0, 130, 46, 96, 16, 48, 100, 54, 5, 42, 89, 180, 0, 130, 4, 96, 181, 0, 130, 167, 255, 186]
abbrev dktX12_readNumber_4 : List UInt8 := dkwX12_readNumber_4 ++ dktX12_readNumber_5
def dkwX12_readNumber_3 : List UInt8 := [17, 39, 15, 164, 0, 9, 17, 39, 16, 167, 0, 21, 16, 10, 21, 5, 104, 42, 180, 0, 20, 42]
abbrev dktX12_readNumber_3 : List UInt8 := dkwX12_readNumber_3 ++ dktX12_readNumber_4
def dkwX12_readNumber_2 : List UInt8 := [180, 0, 133, 162, 0, 65, 42, 180, 0, 20, 42, 180, 0, 130, 46, 184, 0, 157, 153, 0, 50, 21, 5]
abbrev dktX12_readNumber_2 : List UInt8 := dkwX12_readNumber_2 ++ dktX12_readNumber_3
def dkwX12_readNumber_1 : List UInt8 := [184, 0, 157, 154, 0, 14, 42, 4, 42, 180, 0, 130, 182, 0, 160, 3, 172, 42, 180, 0, 130, 42]
abbrev dktX12_readNumber_1 : List UInt8 := dkwX12_readNumber_1 ++ dktX12_readNumber_2
def dkwX12_readNumber_0 : List UInt8 := [42, 182, 0, 153, 154, 0, 5, 3, 172, 42, 182, 0, 136, 62, 42, 180, 0, 130, 54, 4, 3, 54, 5, 29]
abbrev dktX12_readNumber_0 : List UInt8 := dkwX12_readNumber_0 ++ dktX12_readNumber_1
theorem dksX12_readNumber_0 : cX12_readNumber.data.toList.drop 0 = dktX12_readNumber_0 := by decide +kernel
theorem dksX12_readNumber_1 : cX12_readNumber.data.toList.drop 24 = dktX12_readNumber_1 := dk_seg dksX12_readNumber_0 24 rfl rfl
theorem dksX12_readNumber_2 : cX12_readNumber.data.toList.drop 46 = dktX12_readNumber_2 := dk_seg dksX12_readNumber_1 22 rfl rfl
theorem dksX12_readNumber_3 : cX12_readNumber.data.toList.drop 69 = dktX12_readNumber_3 := dk_seg dksX12_readNumber_2 23 rfl rfl
theorem dksX12_readNumber_4 : cX12_readNumber.data.toList.drop 91 = dktX12_readNumber_4 := dk_seg dksX12_readNumber_3 22 rfl rfl
theorem dksX12_readNumber_5 : cX12_readNumber.data.toList.drop 114 = dktX12_readNumber_5 := dk_seg dksX12_readNumber_4 23 rfl rfl
theorem dX12_readNumber_0 : decode cX12_readNumber 0 = .ok (.aload_n 0, 1) := dk_42 (dk_at dksX12_readNumber_0 0 rfl rfl)
theorem dX12_readNumber_1 : decode cX12_readNumber 1 = .ok (.invokevirtual 153, 3) := dk_182 0 153 (dk_at dksX12_readNumber_0 1 rfl rfl)
theorem dX12_readNumber_4 : decode cX12_readNumber 4 = .ok (.ifCond .ne 5, 3) := dk_154 0 5 (dk_at dksX12_readNumber_0 4 rfl rfl)
theorem dX12_readNumber_7 : decode cX12_readNumber 7 = .ok (.iconst 0, 1) := dk_3 (dk_at dksX12_readNumber_0 7 rfl rfl)
theorem dX12_readNumber_8 : decode cX12_readNumber 8 = .ok (.ireturn, 1) := dk_172 (dk_at dksX12_readNumber_0 8 rfl rfl)
theorem dX12_readNumber_9 : decode cX12_readNumber 9 = .ok (.aload_n 0, 1) := dk_42 (dk_at dksX12_readNumber_0 9 rfl rfl)
theorem dX12_readNumber_10 : decode cX12_readNumber 10 = .ok (.invokevirtual 136, 3) := dk_182 0 136 (dk_at dksX12_readNumber_0 10 rfl rfl)
theorem dX12_readNumber_13 : decode cX12_readNumber 13 = .ok (.istore_n 3, 1) := dk_62 (dk_at dksX12_readNumber_0 13 rfl rfl)
theorem dX12_readNumber_14 : decode cX12_readNumber 14 = .ok (.aload_n 0, 1) := dk_42 (dk_at dksX12_readNumber_0 14 rfl rfl)
theorem dX12_readNumber_15 : decode cX12_readNumber 15 = .ok (.getfield 130, 3) := dk_180 0 130 (dk_at dksX12_readNumber_0 15 rfl rfl)
theorem dX12_readNumber_18 : decode cX12_readNumber 18 = .ok (.istore 4, 2) := dk_54 4 (dk_at dksX12_readNumber_0 18 rfl rfl)
theorem dX12_readNumber_20 : decode cX12_readNumber 20 = .ok (.iconst 0, 1) := dk_3 (dk_at dksX12_readNumber_0 20 rfl rfl)
theorem dX12_readNumber_21 : decode cX12_readNumber 21 = .ok (.istore 5, 2) := dk_54 5 (dk_at dksX12_readNumber_0 21 rfl rfl)
theorem dX12_readNumber_23 : decode cX12_readNumber 23 = .ok (.iload_n 3, 1) := dk_29 (dk_at dksX12_readNumber_0 23 rfl rfl)
theorem dX12_readNumber_24 : decode cX12_readNumber 24 = .ok (.invokestatic 157, 3) := dk_184 0 157 (dk_at dksX12_readNumber_1 0 rfl rfl)
theorem dX12_readNumber_27 : decode cX12_readNumber 27 = .ok (.ifCond .ne 14, 3) := dk_154 0 14 (dk_at dksX12_readNumber_1 3 rfl rfl)
theorem dX12_readNumber_30 : decode cX12_readNumber 30 = .ok (.aload_n 0, 1) := dk_42 (dk_at dksX12_readNumber_1 6 rfl rfl)
theorem dX12_readNumber_31 : decode cX12_readNumber 31 = .ok (.iconst 1, 1) := dk_4 (dk_at dksX12_readNumber_1 7 rfl rfl)
theorem dX12_readNumber_32 : decode cX12_readNumber 32 = .ok (.aload_n 0, 1) := dk_42 (dk_at dksX12_readNumber_1 8 rfl rfl)
theorem dX12_readNumber_33 : decode cX12_readNumber 33 = .ok (.getfield 130, 3) := dk_180 0 130 (dk_at dksX12_readNumber_1 9 rfl rfl)
theorem dX12_readNumber_36 : decode cX12_readNumber 36 = .ok (.invokevirtual 160, 3) := dk_182 0 160 (dk_at dksX12_readNumber_1 12 rfl rfl)
theorem dX12_readNumber_39 : decode cX12_readNumber 39 = .ok (.iconst 0, 1) := dk_3 (dk_at dksX12_readNumber_1 15 rfl rfl)
theorem dX12_readNumber_40 : decode cX12_readNumber 40 = .ok (.ireturn, 1) := dk_172 (dk_at dksX12_readNumber_1 16 rfl rfl)
theorem dX12_readNumber_41 : decode cX12_readNumber 41 = .ok (.aload_n 0, 1) := dk_42 (dk_at dksX12_readNumber_1 17 rfl rfl)
theorem dX12_readNumber_42 : decode cX12_readNumber 42 = .ok (.getfield 130, 3) := dk_180 0 130 (dk_at dksX12_readNumber_1 18 rfl rfl)
theorem dX12_readNumber_45 : decode cX12_readNumber 45 = .ok (.aload_n 0, 1) := dk_42 (dk_at dksX12_readNumber_1 21 rfl rfl)
theorem dX12_readNumber_46 : decode cX12_readNumber 46 = .ok (.getfield 133, 3) := dk_180 0 133 (dk_at dksX12_readNumber_2 0 rfl rfl)
theorem dX12_readNumber_49 : decode cX12_readNumber 49 = .ok (.if_icmp .ge 65, 3) := dk_162 0 65 (dk_at dksX12_readNumber_2 3 rfl rfl)
theorem dX12_readNumber_52 : decode cX12_readNumber 52 = .ok (.aload_n 0, 1) := dk_42 (dk_at dksX12_readNumber_2 6 rfl rfl)
theorem dX12_readNumber_53 : decode cX12_readNumber 53 = .ok (.getfield 20, 3) := dk_180 0 20 (dk_at dksX12_readNumber_2 7 rfl rfl)
theorem dX12_readNumber_56 : decode cX12_readNumber 56 = .ok (.aload_n 0, 1) := dk_42 (dk_at dksX12_readNumber_2 10 rfl rfl)
theorem dX12_readNumber_57 : decode cX12_readNumber 57 = .ok (.getfield 130, 3) := dk_180 0 130 (dk_at dksX12_readNumber_2 11 rfl rfl)
theorem dX12_readNumber_60 : decode cX12_readNumber 60 = .ok (.iaload, 1) := dk_46 (dk_at dksX12_readNumber_2 14 rfl rfl)
theorem dX12_readNumber_61 : decode cX12_readNumber 61 = .ok (.invokestatic 157, 3) := dk_184 0 157 (dk_at dksX12_readNumber_2 15 rfl rfl)
theorem dX12_readNumber_64 : decode cX12_readNumber 64 = .ok (.ifCond .eq 50, 3) := dk_153 0 50 (dk_at dksX12_readNumber_2 18 rfl rfl)
theorem dX12_readNumber_67 : decode cX12_readNumber 67 = .ok (.iload 5, 2) := dk_21 5 (dk_at dksX12_readNumber_2 21 rfl rfl)
theorem dX12_readNumber_69 : decode cX12_readNumber 69 = .ok (.sipush 9999, 3) := dk_17 39 15 (dk_at dksX12_readNumber_3 0 rfl rfl)
theorem dX12_readNumber_72 : decode cX12_readNumber 72 = .ok (.if_icmp .le 9, 3) := dk_164 0 9 (dk_at dksX12_readNumber_3 3 rfl rfl)
theorem dX12_readNumber_75 : decode cX12_readNumber 75 = .ok (.sipush 10000, 3) := dk_17 39 16 (dk_at dksX12_readNumber_3 6 rfl rfl)
theorem dX12_readNumber_78 : decode cX12_readNumber 78 = .ok (.goto 21, 3) := dk_167 0 21 (dk_at dksX12_readNumber_3 9 rfl rfl)
theorem dX12_readNumber_81 : decode cX12_readNumber 81 = .ok (.bipush 10, 2) := dk_16 10 (dk_at dksX12_readNumber_3 12 rfl rfl)
theorem dX12_readNumber_83 : decode cX12_readNumber 83 = .ok (.iload 5, 2) := dk_21 5 (dk_at dksX12_readNumber_3 14 rfl rfl)
theorem dX12_readNumber_85 : decode cX12_readNumber 85 = .ok (.imul, 1) := dk_104 (dk_at dksX12_readNumber_3 16 rfl rfl)
theorem dX12_readNumber_86 : decode cX12_readNumber 86 = .ok (.aload_n 0, 1) := dk_42 (dk_at dksX12_readNumber_3 17 rfl rfl)
theorem dX12_readNumber_87 : decode cX12_readNumber 87 = .ok (.getfield 20, 3) := dk_180 0 20 (dk_at dksX12_readNumber_3 18 rfl rfl)
theorem dX12_readNumber_90 : decode cX12_readNumber 90 = .ok (.aload_n 0, 1) := dk_42 (dk_at dksX12_readNumber_3 21 rfl rfl)
theorem dX12_readNumber_91 : decode cX12_readNumber 91 = .ok (.getfield 130, 3) := dk_180 0 130 (dk_at dksX12_readNumber_4 0 rfl rfl)
theorem dX12_readNumber_94 : decode cX12_readNumber 94 = .ok (.iaload, 1) := dk_46 (dk_at dksX12_readNumber_4 3 rfl rfl)
theorem dX12_readNumber_95 : decode cX12_readNumber 95 = .ok (.iadd, 1) := dk_96 (dk_at dksX12_readNumber_4 4 rfl rfl)
theorem dX12_readNumber_96 : decode cX12_readNumber 96 = .ok (.bipush 48, 2) := dk_16 48 (dk_at dksX12_readNumber_4 5 rfl rfl)
theorem dX12_readNumber_98 : decode cX12_readNumber 98 = .ok (.isub, 1) := dk_100 (dk_at dksX12_readNumber_4 7 rfl rfl)
theorem dX12_readNumber_99 : decode cX12_readNumber 99 = .ok (.istore 5, 2) := dk_54 5 (dk_at dksX12_readNumber_4 8 rfl rfl)
theorem dX12_readNumber_101 : decode cX12_readNumber 101 = .ok (.aload_n 0, 1) := dk_42 (dk_at dksX12_readNumber_4 10 rfl rfl)
theorem dX12_readNumber_102 : decode cX12_readNumber 102 = .ok (.dup, 1) := dk_89 (dk_at dksX12_readNumber_4 11 rfl rfl)
theorem dX12_readNumber_103 : decode cX12_readNumber 103 = .ok (.getfield 130, 3) := dk_180 0 130 (dk_at dksX12_readNumber_4 12 rfl rfl)
theorem dX12_readNumber_106 : decode cX12_readNumber 106 = .ok (.iconst 1, 1) := dk_4 (dk_at dksX12_readNumber_4 15 rfl rfl)
theorem dX12_readNumber_107 : decode cX12_readNumber 107 = .ok (.iadd, 1) := dk_96 (dk_at dksX12_readNumber_4 16 rfl rfl)
theorem dX12_readNumber_108 : decode cX12_readNumber 108 = .ok (.putfield 130, 3) := dk_181 0 130 (dk_at dksX12_readNumber_4 17 rfl rfl)
theorem dX12_readNumber_111 : decode cX12_readNumber 111 = .ok (.goto (-70), 3) := dk_167 255 186 (dk_at dksX12_readNumber_4 20 rfl rfl)
theorem dX12_readNumber_114 : decode cX12_readNumber 114 = .ok (.iload 5, 2) := dk_21 5 (dk_at dksX12_readNumber_5 0 rfl rfl)
theorem dX12_readNumber_116 : decode cX12_readNumber 116 = .ok (.iload_n 1, 1) := dk_27 (dk_at dksX12_readNumber_5 2 rfl rfl)
theorem dX12_readNumber_117 : decode cX12_readNumber 117 = .ok (.if_icmp .lt 9, 3) := dk_161 0 9 (dk_at dksX12_readNumber_5 3 rfl rfl)
theorem dX12_readNumber_120 : decode cX12_readNumber 120 = .ok (.iload 5, 2) := dk_21 5 (dk_at dksX12_readNumber_5 6 rfl rfl)
theorem dX12_readNumber_122 : decode cX12_readNumber 122 = .ok (.iload_n 2, 1) := dk_28 (dk_at dksX12_readNumber_5 8 rfl rfl)
theorem dX12_readNumber_123 : decode cX12_readNumber 123 = .ok (.if_icmp .le 12, 3) := dk_164 0 12 (dk_at dksX12_readNumber_5 9 rfl rfl)
theorem dX12_readNumber_126 : decode cX12_readNumber 126 = .ok (.aload_n 0, 1) := dk_42 (dk_at dksX12_readNumber_5 12 rfl rfl)
theorem dX12_readNumber_127 : decode cX12_readNumber 127 = .ok (.iconst 2, 1) := dk_5 (dk_at dksX12_readNumber_5 13 rfl rfl)
theorem dX12_readNumber_128 : decode cX12_readNumber 128 = .ok (.iload 4, 2) := dk_21 4 (dk_at dksX12_readNumber_5 14 rfl rfl)
theorem dX12_readNumber_130 : decode cX12_readNumber 130 = .ok (.invokevirtual 160, 3) := dk_182 0 160 (dk_at dksX12_readNumber_5 16 rfl rfl)
theorem dX12_readNumber_133 : decode cX12_readNumber 133 = .ok (.iconst 0, 1) := dk_3 (dk_at dksX12_readNumber_5 19 rfl rfl)
theorem dX12_readNumber_134 : decode cX12_readNumber 134 = .ok (.ireturn, 1) := dk_172 (dk_at dksX12_readNumber_5 20 rfl rfl)
theorem dX12_readNumber_135 : decode cX12_readNumber 135 = .ok (.iload 5, 2) := dk_21 5 (dk_at dksX12_readNumber_5 21 rfl rfl)
theorem dX12_readNumber_137 : decode cX12_readNumber 137 = .ok (.ireturn, 1) := dk_172 (dk_at dksX12_readNumber_5 23 rfl rfl)
abbrev cX12_isDigit : ByteArray := prog_27_method_10_code
def yX12_isDigit : MethodName := ⟨RX12, "isDigit", "(I)Z"⟩
def dkwX12_isDigit_0 : List UInt8 := [26, 16, 48, 161, 0, 13, 26, 16, 57, 163, 0, 7, 4, 167, 0, 4, 3, 172]
abbrev dktX12_isDigit_0 : List UInt8 := dkwX12_isDigit_0 ++ []
theorem dksX12_isDigit_0 : cX12_isDigit.data.toList.drop 0 = dktX12_isDigit_0 := by decide +kernel
theorem dX12_isDigit_0 : decode cX12_isDigit 0 = .ok (.iload_n 0, 1) := dk_26 (dk_at dksX12_isDigit_0 0 rfl rfl)
theorem dX12_isDigit_1 : decode cX12_isDigit 1 = .ok (.bipush 48, 2) := dk_16 48 (dk_at dksX12_isDigit_0 1 rfl rfl)
theorem dX12_isDigit_3 : decode cX12_isDigit 3 = .ok (.if_icmp .lt 13, 3) := dk_161 0 13 (dk_at dksX12_isDigit_0 3 rfl rfl)
theorem dX12_isDigit_6 : decode cX12_isDigit 6 = .ok (.iload_n 0, 1) := dk_26 (dk_at dksX12_isDigit_0 6 rfl rfl)
theorem dX12_isDigit_7 : decode cX12_isDigit 7 = .ok (.bipush 57, 2) := dk_16 57 (dk_at dksX12_isDigit_0 7 rfl rfl)
theorem dX12_isDigit_9 : decode cX12_isDigit 9 = .ok (.if_icmp .gt 7, 3) := dk_163 0 7 (dk_at dksX12_isDigit_0 9 rfl rfl)
theorem dX12_isDigit_12 : decode cX12_isDigit 12 = .ok (.iconst 1, 1) := dk_4 (dk_at dksX12_isDigit_0 12 rfl rfl)
theorem dX12_isDigit_13 : decode cX12_isDigit 13 = .ok (.goto 4, 3) := dk_167 0 4 (dk_at dksX12_isDigit_0 13 rfl rfl)
theorem dX12_isDigit_16 : decode cX12_isDigit 16 = .ok (.iconst 0, 1) := dk_3 (dk_at dksX12_isDigit_0 16 rfl rfl)
theorem dX12_isDigit_17 : decode cX12_isDigit 17 = .ok (.ireturn, 1) := dk_172 (dk_at dksX12_isDigit_0 17 rfl rfl)
abbrev cX12_readSnow : ByteArray := prog_27_method_23_code
def yX12_readSnow : MethodName := ⟨RX12, "readSnow", "()V"⟩
def dkwX12_readSnow_6 : List UInt8 := [104, 96, 21, 7, 96, 21, 6, 79, 132, 7, 1, 167, 255, 228, 177]
abbrev dktX12_readSnow_6 : List UInt8 := dkwX12_readSnow_6 ++ []
def dkwX12_readSnow_5 : List UInt8 := [154, 0, 4, 177, 28, 54, 7, 21, 7, 21, 4, 163, 0, 27, 42, 180, 0, 26, 17, 0, 132, 16, 24, 27]
abbrev dktX12_readSnow_5 : List UInt8 := dkwX12_readSnow_5 ++ dktX12_readSnow_6
def dkwX12_readSnow_4 : List UInt8 := [164, 0, 9, 42, 5, 29, 182, 0, 160, 42, 4, 16, 16, 182, 0, 181, 54, 6, 42, 182, 0, 153]
abbrev dktX12_readSnow_4 : List UInt8 := dkwX12_readSnow_4 ++ dktX12_readSnow_5
def dkwX12_readSnow_3 : List UInt8 := [167, 0, 4, 3, 96, 54, 5, 132, 6, 1, 167, 255, 214, 42, 182, 0, 153, 153, 0, 16, 21, 5, 16, 10]
abbrev dktX12_readSnow_3 : List UInt8 := dkwX12_readSnow_3 ++ dktX12_readSnow_4
def dkwX12_readSnow_2 : List UInt8 := [42, 21, 6, 182, 0, 189, 154, 0, 16, 21, 6, 28, 161, 0, 14, 21, 6, 21, 4, 163, 0, 7, 4]
abbrev dktX12_readSnow_2 : List UInt8 := dkwX12_readSnow_2 ++ dktX12_readSnow_3
def dkwX12_readSnow_1 : List UInt8 := [42, 28, 16, 23, 182, 0, 181, 54, 4, 3, 54, 5, 3, 54, 6, 21, 6, 16, 24, 162, 0, 41, 21, 5]
abbrev dktX12_readSnow_1 : List UInt8 := dkwX12_readSnow_1 ++ dktX12_readSnow_2
def dkwX12_readSnow_0 : List UInt8 := [42, 4, 182, 0, 185, 60, 42, 3, 16, 23, 182, 0, 181, 61, 42, 182, 0, 136, 87, 42, 180, 0, 130, 62]
abbrev dktX12_readSnow_0 : List UInt8 := dkwX12_readSnow_0 ++ dktX12_readSnow_1
theorem dksX12_readSnow_0 : cX12_readSnow.data.toList.drop 0 = dktX12_readSnow_0 := by decide +kernel
theorem dksX12_readSnow_1 : cX12_readSnow.data.toList.drop 24 = dktX12_readSnow_1 := dk_seg dksX12_readSnow_0 24 rfl rfl
theorem dksX12_readSnow_2 : cX12_readSnow.data.toList.drop 48 = dktX12_readSnow_2 := dk_seg dksX12_readSnow_1 24 rfl rfl
theorem dksX12_readSnow_3 : cX12_readSnow.data.toList.drop 71 = dktX12_readSnow_3 := dk_seg dksX12_readSnow_2 23 rfl rfl
theorem dksX12_readSnow_4 : cX12_readSnow.data.toList.drop 95 = dktX12_readSnow_4 := dk_seg dksX12_readSnow_3 24 rfl rfl
theorem dksX12_readSnow_5 : cX12_readSnow.data.toList.drop 117 = dktX12_readSnow_5 := dk_seg dksX12_readSnow_4 22 rfl rfl
theorem dksX12_readSnow_6 : cX12_readSnow.data.toList.drop 141 = dktX12_readSnow_6 := dk_seg dksX12_readSnow_5 24 rfl rfl
theorem dX12_readSnow_0 : decode cX12_readSnow 0 = .ok (.aload_n 0, 1) := dk_42 (dk_at dksX12_readSnow_0 0 rfl rfl)
theorem dX12_readSnow_1 : decode cX12_readSnow 1 = .ok (.iconst 1, 1) := dk_4 (dk_at dksX12_readSnow_0 1 rfl rfl)
theorem dX12_readSnow_2 : decode cX12_readSnow 2 = .ok (.invokevirtual 185, 3) := dk_182 0 185 (dk_at dksX12_readSnow_0 2 rfl rfl)
theorem dX12_readSnow_5 : decode cX12_readSnow 5 = .ok (.istore_n 1, 1) := dk_60 (dk_at dksX12_readSnow_0 5 rfl rfl)
theorem dX12_readSnow_6 : decode cX12_readSnow 6 = .ok (.aload_n 0, 1) := dk_42 (dk_at dksX12_readSnow_0 6 rfl rfl)
theorem dX12_readSnow_7 : decode cX12_readSnow 7 = .ok (.iconst 0, 1) := dk_3 (dk_at dksX12_readSnow_0 7 rfl rfl)
theorem dX12_readSnow_8 : decode cX12_readSnow 8 = .ok (.bipush 23, 2) := dk_16 23 (dk_at dksX12_readSnow_0 8 rfl rfl)
theorem dX12_readSnow_10 : decode cX12_readSnow 10 = .ok (.invokevirtual 181, 3) := dk_182 0 181 (dk_at dksX12_readSnow_0 10 rfl rfl)
theorem dX12_readSnow_13 : decode cX12_readSnow 13 = .ok (.istore_n 2, 1) := dk_61 (dk_at dksX12_readSnow_0 13 rfl rfl)
theorem dX12_readSnow_14 : decode cX12_readSnow 14 = .ok (.aload_n 0, 1) := dk_42 (dk_at dksX12_readSnow_0 14 rfl rfl)
theorem dX12_readSnow_15 : decode cX12_readSnow 15 = .ok (.invokevirtual 136, 3) := dk_182 0 136 (dk_at dksX12_readSnow_0 15 rfl rfl)
theorem dX12_readSnow_18 : decode cX12_readSnow 18 = .ok (.pop, 1) := dk_87 (dk_at dksX12_readSnow_0 18 rfl rfl)
theorem dX12_readSnow_19 : decode cX12_readSnow 19 = .ok (.aload_n 0, 1) := dk_42 (dk_at dksX12_readSnow_0 19 rfl rfl)
theorem dX12_readSnow_20 : decode cX12_readSnow 20 = .ok (.getfield 130, 3) := dk_180 0 130 (dk_at dksX12_readSnow_0 20 rfl rfl)
theorem dX12_readSnow_23 : decode cX12_readSnow 23 = .ok (.istore_n 3, 1) := dk_62 (dk_at dksX12_readSnow_0 23 rfl rfl)
theorem dX12_readSnow_24 : decode cX12_readSnow 24 = .ok (.aload_n 0, 1) := dk_42 (dk_at dksX12_readSnow_1 0 rfl rfl)
theorem dX12_readSnow_25 : decode cX12_readSnow 25 = .ok (.iload_n 2, 1) := dk_28 (dk_at dksX12_readSnow_1 1 rfl rfl)
theorem dX12_readSnow_26 : decode cX12_readSnow 26 = .ok (.bipush 23, 2) := dk_16 23 (dk_at dksX12_readSnow_1 2 rfl rfl)
theorem dX12_readSnow_28 : decode cX12_readSnow 28 = .ok (.invokevirtual 181, 3) := dk_182 0 181 (dk_at dksX12_readSnow_1 4 rfl rfl)
theorem dX12_readSnow_31 : decode cX12_readSnow 31 = .ok (.istore 4, 2) := dk_54 4 (dk_at dksX12_readSnow_1 7 rfl rfl)
theorem dX12_readSnow_33 : decode cX12_readSnow 33 = .ok (.iconst 0, 1) := dk_3 (dk_at dksX12_readSnow_1 9 rfl rfl)
theorem dX12_readSnow_34 : decode cX12_readSnow 34 = .ok (.istore 5, 2) := dk_54 5 (dk_at dksX12_readSnow_1 10 rfl rfl)
theorem dX12_readSnow_36 : decode cX12_readSnow 36 = .ok (.iconst 0, 1) := dk_3 (dk_at dksX12_readSnow_1 12 rfl rfl)
theorem dX12_readSnow_37 : decode cX12_readSnow 37 = .ok (.istore 6, 2) := dk_54 6 (dk_at dksX12_readSnow_1 13 rfl rfl)
theorem dX12_readSnow_39 : decode cX12_readSnow 39 = .ok (.iload 6, 2) := dk_21 6 (dk_at dksX12_readSnow_1 15 rfl rfl)
theorem dX12_readSnow_41 : decode cX12_readSnow 41 = .ok (.bipush 24, 2) := dk_16 24 (dk_at dksX12_readSnow_1 17 rfl rfl)
theorem dX12_readSnow_43 : decode cX12_readSnow 43 = .ok (.if_icmp .ge 41, 3) := dk_162 0 41 (dk_at dksX12_readSnow_1 19 rfl rfl)
theorem dX12_readSnow_46 : decode cX12_readSnow 46 = .ok (.iload 5, 2) := dk_21 5 (dk_at dksX12_readSnow_1 22 rfl rfl)
theorem dX12_readSnow_48 : decode cX12_readSnow 48 = .ok (.aload_n 0, 1) := dk_42 (dk_at dksX12_readSnow_2 0 rfl rfl)
theorem dX12_readSnow_49 : decode cX12_readSnow 49 = .ok (.iload 6, 2) := dk_21 6 (dk_at dksX12_readSnow_2 1 rfl rfl)
theorem dX12_readSnow_51 : decode cX12_readSnow 51 = .ok (.invokevirtual 189, 3) := dk_182 0 189 (dk_at dksX12_readSnow_2 3 rfl rfl)
theorem dX12_readSnow_54 : decode cX12_readSnow 54 = .ok (.ifCond .ne 16, 3) := dk_154 0 16 (dk_at dksX12_readSnow_2 6 rfl rfl)
theorem dX12_readSnow_57 : decode cX12_readSnow 57 = .ok (.iload 6, 2) := dk_21 6 (dk_at dksX12_readSnow_2 9 rfl rfl)
theorem dX12_readSnow_59 : decode cX12_readSnow 59 = .ok (.iload_n 2, 1) := dk_28 (dk_at dksX12_readSnow_2 11 rfl rfl)
theorem dX12_readSnow_60 : decode cX12_readSnow 60 = .ok (.if_icmp .lt 14, 3) := dk_161 0 14 (dk_at dksX12_readSnow_2 12 rfl rfl)
theorem dX12_readSnow_63 : decode cX12_readSnow 63 = .ok (.iload 6, 2) := dk_21 6 (dk_at dksX12_readSnow_2 15 rfl rfl)
theorem dX12_readSnow_65 : decode cX12_readSnow 65 = .ok (.iload 4, 2) := dk_21 4 (dk_at dksX12_readSnow_2 17 rfl rfl)
theorem dX12_readSnow_67 : decode cX12_readSnow 67 = .ok (.if_icmp .gt 7, 3) := dk_163 0 7 (dk_at dksX12_readSnow_2 19 rfl rfl)
theorem dX12_readSnow_70 : decode cX12_readSnow 70 = .ok (.iconst 1, 1) := dk_4 (dk_at dksX12_readSnow_2 22 rfl rfl)
theorem dX12_readSnow_71 : decode cX12_readSnow 71 = .ok (.goto 4, 3) := dk_167 0 4 (dk_at dksX12_readSnow_3 0 rfl rfl)
theorem dX12_readSnow_74 : decode cX12_readSnow 74 = .ok (.iconst 0, 1) := dk_3 (dk_at dksX12_readSnow_3 3 rfl rfl)
theorem dX12_readSnow_75 : decode cX12_readSnow 75 = .ok (.iadd, 1) := dk_96 (dk_at dksX12_readSnow_3 4 rfl rfl)
theorem dX12_readSnow_76 : decode cX12_readSnow 76 = .ok (.istore 5, 2) := dk_54 5 (dk_at dksX12_readSnow_3 5 rfl rfl)
theorem dX12_readSnow_78 : decode cX12_readSnow 78 = .ok (.iinc 6 1, 3) := dk_132 6 1 (dk_at dksX12_readSnow_3 7 rfl rfl)
theorem dX12_readSnow_81 : decode cX12_readSnow 81 = .ok (.goto (-42), 3) := dk_167 255 214 (dk_at dksX12_readSnow_3 10 rfl rfl)
theorem dX12_readSnow_84 : decode cX12_readSnow 84 = .ok (.aload_n 0, 1) := dk_42 (dk_at dksX12_readSnow_3 13 rfl rfl)
theorem dX12_readSnow_85 : decode cX12_readSnow 85 = .ok (.invokevirtual 153, 3) := dk_182 0 153 (dk_at dksX12_readSnow_3 14 rfl rfl)
theorem dX12_readSnow_88 : decode cX12_readSnow 88 = .ok (.ifCond .eq 16, 3) := dk_153 0 16 (dk_at dksX12_readSnow_3 17 rfl rfl)
theorem dX12_readSnow_91 : decode cX12_readSnow 91 = .ok (.iload 5, 2) := dk_21 5 (dk_at dksX12_readSnow_3 20 rfl rfl)
theorem dX12_readSnow_93 : decode cX12_readSnow 93 = .ok (.bipush 10, 2) := dk_16 10 (dk_at dksX12_readSnow_3 22 rfl rfl)
theorem dX12_readSnow_95 : decode cX12_readSnow 95 = .ok (.if_icmp .le 9, 3) := dk_164 0 9 (dk_at dksX12_readSnow_4 0 rfl rfl)
theorem dX12_readSnow_98 : decode cX12_readSnow 98 = .ok (.aload_n 0, 1) := dk_42 (dk_at dksX12_readSnow_4 3 rfl rfl)
theorem dX12_readSnow_99 : decode cX12_readSnow 99 = .ok (.iconst 2, 1) := dk_5 (dk_at dksX12_readSnow_4 4 rfl rfl)
theorem dX12_readSnow_100 : decode cX12_readSnow 100 = .ok (.iload_n 3, 1) := dk_29 (dk_at dksX12_readSnow_4 5 rfl rfl)
theorem dX12_readSnow_101 : decode cX12_readSnow 101 = .ok (.invokevirtual 160, 3) := dk_182 0 160 (dk_at dksX12_readSnow_4 6 rfl rfl)
theorem dX12_readSnow_104 : decode cX12_readSnow 104 = .ok (.aload_n 0, 1) := dk_42 (dk_at dksX12_readSnow_4 9 rfl rfl)
theorem dX12_readSnow_105 : decode cX12_readSnow 105 = .ok (.iconst 1, 1) := dk_4 (dk_at dksX12_readSnow_4 10 rfl rfl)
theorem dX12_readSnow_106 : decode cX12_readSnow 106 = .ok (.bipush 16, 2) := dk_16 16 (dk_at dksX12_readSnow_4 11 rfl rfl)
theorem dX12_readSnow_108 : decode cX12_readSnow 108 = .ok (.invokevirtual 181, 3) := dk_182 0 181 (dk_at dksX12_readSnow_4 13 rfl rfl)
theorem dX12_readSnow_111 : decode cX12_readSnow 111 = .ok (.istore 6, 2) := dk_54 6 (dk_at dksX12_readSnow_4 16 rfl rfl)
theorem dX12_readSnow_113 : decode cX12_readSnow 113 = .ok (.aload_n 0, 1) := dk_42 (dk_at dksX12_readSnow_4 18 rfl rfl)
theorem dX12_readSnow_114 : decode cX12_readSnow 114 = .ok (.invokevirtual 153, 3) := dk_182 0 153 (dk_at dksX12_readSnow_4 19 rfl rfl)
theorem dX12_readSnow_117 : decode cX12_readSnow 117 = .ok (.ifCond .ne 4, 3) := dk_154 0 4 (dk_at dksX12_readSnow_5 0 rfl rfl)
theorem dX12_readSnow_120 : decode cX12_readSnow 120 = .ok (.return_, 1) := dk_177 (dk_at dksX12_readSnow_5 3 rfl rfl)
theorem dX12_readSnow_121 : decode cX12_readSnow 121 = .ok (.iload_n 2, 1) := dk_28 (dk_at dksX12_readSnow_5 4 rfl rfl)
theorem dX12_readSnow_122 : decode cX12_readSnow 122 = .ok (.istore 7, 2) := dk_54 7 (dk_at dksX12_readSnow_5 5 rfl rfl)
theorem dX12_readSnow_124 : decode cX12_readSnow 124 = .ok (.iload 7, 2) := dk_21 7 (dk_at dksX12_readSnow_5 7 rfl rfl)
theorem dX12_readSnow_126 : decode cX12_readSnow 126 = .ok (.iload 4, 2) := dk_21 4 (dk_at dksX12_readSnow_5 9 rfl rfl)
theorem dX12_readSnow_128 : decode cX12_readSnow 128 = .ok (.if_icmp .gt 27, 3) := dk_163 0 27 (dk_at dksX12_readSnow_5 11 rfl rfl)
theorem dX12_readSnow_131 : decode cX12_readSnow 131 = .ok (.aload_n 0, 1) := dk_42 (dk_at dksX12_readSnow_5 14 rfl rfl)
theorem dX12_readSnow_132 : decode cX12_readSnow 132 = .ok (.getfield 26, 3) := dk_180 0 26 (dk_at dksX12_readSnow_5 15 rfl rfl)
theorem dX12_readSnow_135 : decode cX12_readSnow 135 = .ok (.sipush 132, 3) := dk_17 0 132 (dk_at dksX12_readSnow_5 18 rfl rfl)
theorem dX12_readSnow_138 : decode cX12_readSnow 138 = .ok (.bipush 24, 2) := dk_16 24 (dk_at dksX12_readSnow_5 21 rfl rfl)
theorem dX12_readSnow_140 : decode cX12_readSnow 140 = .ok (.iload_n 1, 1) := dk_27 (dk_at dksX12_readSnow_5 23 rfl rfl)
theorem dX12_readSnow_141 : decode cX12_readSnow 141 = .ok (.imul, 1) := dk_104 (dk_at dksX12_readSnow_6 0 rfl rfl)
theorem dX12_readSnow_142 : decode cX12_readSnow 142 = .ok (.iadd, 1) := dk_96 (dk_at dksX12_readSnow_6 1 rfl rfl)
theorem dX12_readSnow_143 : decode cX12_readSnow 143 = .ok (.iload 7, 2) := dk_21 7 (dk_at dksX12_readSnow_6 2 rfl rfl)
theorem dX12_readSnow_145 : decode cX12_readSnow 145 = .ok (.iadd, 1) := dk_96 (dk_at dksX12_readSnow_6 4 rfl rfl)
theorem dX12_readSnow_146 : decode cX12_readSnow 146 = .ok (.iload 6, 2) := dk_21 6 (dk_at dksX12_readSnow_6 5 rfl rfl)
theorem dX12_readSnow_148 : decode cX12_readSnow 148 = .ok (.iastore, 1) := dk_79 (dk_at dksX12_readSnow_6 7 rfl rfl)
theorem dX12_readSnow_149 : decode cX12_readSnow 149 = .ok (.iinc 7 1, 3) := dk_132 7 1 (dk_at dksX12_readSnow_6 8 rfl rfl)
theorem dX12_readSnow_152 : decode cX12_readSnow 152 = .ok (.goto (-28), 3) := dk_167 255 228 (dk_at dksX12_readSnow_6 11 rfl rfl)
theorem dX12_readSnow_155 : decode cX12_readSnow 155 = .ok (.return_, 1) := dk_177 (dk_at dksX12_readSnow_6 14 rfl rfl)
abbrev cX12_isSnowy : ByteArray := prog_27_method_22_code
def yX12_isSnowy : MethodName := ⟨RX12, "isSnowy", "(I)Z"⟩
def dkwX12_isSnowy_1 : List UInt8 := [158, 0, 5, 4, 172, 132, 2, 1, 167, 255, 227, 3, 172]
abbrev dktX12_isSnowy_1 : List UInt8 := dkwX12_isSnowy_1 ++ []
def dkwX12_isSnowy_0 : List UInt8 := [3, 61, 28, 16, 24, 162, 0, 29, 42, 180, 0, 26, 17, 0, 132, 16, 24, 28, 104, 96, 27, 96, 46]
abbrev dktX12_isSnowy_0 : List UInt8 := dkwX12_isSnowy_0 ++ dktX12_isSnowy_1
theorem dksX12_isSnowy_0 : cX12_isSnowy.data.toList.drop 0 = dktX12_isSnowy_0 := by decide +kernel
theorem dksX12_isSnowy_1 : cX12_isSnowy.data.toList.drop 23 = dktX12_isSnowy_1 := dk_seg dksX12_isSnowy_0 23 rfl rfl
theorem dX12_isSnowy_0 : decode cX12_isSnowy 0 = .ok (.iconst 0, 1) := dk_3 (dk_at dksX12_isSnowy_0 0 rfl rfl)
theorem dX12_isSnowy_1 : decode cX12_isSnowy 1 = .ok (.istore_n 2, 1) := dk_61 (dk_at dksX12_isSnowy_0 1 rfl rfl)
theorem dX12_isSnowy_2 : decode cX12_isSnowy 2 = .ok (.iload_n 2, 1) := dk_28 (dk_at dksX12_isSnowy_0 2 rfl rfl)
theorem dX12_isSnowy_3 : decode cX12_isSnowy 3 = .ok (.bipush 24, 2) := dk_16 24 (dk_at dksX12_isSnowy_0 3 rfl rfl)
theorem dX12_isSnowy_5 : decode cX12_isSnowy 5 = .ok (.if_icmp .ge 29, 3) := dk_162 0 29 (dk_at dksX12_isSnowy_0 5 rfl rfl)
theorem dX12_isSnowy_8 : decode cX12_isSnowy 8 = .ok (.aload_n 0, 1) := dk_42 (dk_at dksX12_isSnowy_0 8 rfl rfl)
theorem dX12_isSnowy_9 : decode cX12_isSnowy 9 = .ok (.getfield 26, 3) := dk_180 0 26 (dk_at dksX12_isSnowy_0 9 rfl rfl)
theorem dX12_isSnowy_12 : decode cX12_isSnowy 12 = .ok (.sipush 132, 3) := dk_17 0 132 (dk_at dksX12_isSnowy_0 12 rfl rfl)
theorem dX12_isSnowy_15 : decode cX12_isSnowy 15 = .ok (.bipush 24, 2) := dk_16 24 (dk_at dksX12_isSnowy_0 15 rfl rfl)
theorem dX12_isSnowy_17 : decode cX12_isSnowy 17 = .ok (.iload_n 2, 1) := dk_28 (dk_at dksX12_isSnowy_0 17 rfl rfl)
theorem dX12_isSnowy_18 : decode cX12_isSnowy 18 = .ok (.imul, 1) := dk_104 (dk_at dksX12_isSnowy_0 18 rfl rfl)
theorem dX12_isSnowy_19 : decode cX12_isSnowy 19 = .ok (.iadd, 1) := dk_96 (dk_at dksX12_isSnowy_0 19 rfl rfl)
theorem dX12_isSnowy_20 : decode cX12_isSnowy 20 = .ok (.iload_n 1, 1) := dk_27 (dk_at dksX12_isSnowy_0 20 rfl rfl)
theorem dX12_isSnowy_21 : decode cX12_isSnowy 21 = .ok (.iadd, 1) := dk_96 (dk_at dksX12_isSnowy_0 21 rfl rfl)
theorem dX12_isSnowy_22 : decode cX12_isSnowy 22 = .ok (.iaload, 1) := dk_46 (dk_at dksX12_isSnowy_0 22 rfl rfl)
theorem dX12_isSnowy_23 : decode cX12_isSnowy 23 = .ok (.ifCond .le 5, 3) := dk_158 0 5 (dk_at dksX12_isSnowy_1 0 rfl rfl)
theorem dX12_isSnowy_26 : decode cX12_isSnowy 26 = .ok (.iconst 1, 1) := dk_4 (dk_at dksX12_isSnowy_1 3 rfl rfl)
theorem dX12_isSnowy_27 : decode cX12_isSnowy 27 = .ok (.ireturn, 1) := dk_172 (dk_at dksX12_isSnowy_1 4 rfl rfl)
theorem dX12_isSnowy_28 : decode cX12_isSnowy 28 = .ok (.iinc 2 1, 3) := dk_132 2 1 (dk_at dksX12_isSnowy_1 5 rfl rfl)
theorem dX12_isSnowy_31 : decode cX12_isSnowy 31 = .ok (.goto (-29), 3) := dk_167 255 227 (dk_at dksX12_isSnowy_1 8 rfl rfl)
theorem dX12_isSnowy_34 : decode cX12_isSnowy 34 = .ok (.iconst 0, 1) := dk_3 (dk_at dksX12_isSnowy_1 11 rfl rfl)
theorem dX12_isSnowy_35 : decode cX12_isSnowy 35 = .ok (.ireturn, 1) := dk_172 (dk_at dksX12_isSnowy_1 12 rfl rfl)
abbrev cX12_readWants : ByteArray := prog_27_method_24_code
def yX12_readWants : MethodName := ⟨RX12, "readWants", "()V"⟩
def dkwX12_readWants_1 : List UInt8 := [153, 0, 18, 42, 180, 0, 26, 16, 72, 16, 12, 27, 104, 96, 28, 96, 29, 79, 177]
abbrev dktX12_readWants_1 : List UInt8 := dkwX12_readWants_1 ++ []
def dkwX12_readWants_0 : List UInt8 := [42, 5, 182, 0, 185, 60, 42, 3, 182, 0, 185, 61, 42, 3, 16, 99, 182, 0, 181, 62, 42, 182, 0, 153]
abbrev dktX12_readWants_0 : List UInt8 := dkwX12_readWants_0 ++ dktX12_readWants_1
theorem dksX12_readWants_0 : cX12_readWants.data.toList.drop 0 = dktX12_readWants_0 := by decide +kernel
theorem dksX12_readWants_1 : cX12_readWants.data.toList.drop 24 = dktX12_readWants_1 := dk_seg dksX12_readWants_0 24 rfl rfl
theorem dX12_readWants_0 : decode cX12_readWants 0 = .ok (.aload_n 0, 1) := dk_42 (dk_at dksX12_readWants_0 0 rfl rfl)
theorem dX12_readWants_1 : decode cX12_readWants 1 = .ok (.iconst 2, 1) := dk_5 (dk_at dksX12_readWants_0 1 rfl rfl)
theorem dX12_readWants_2 : decode cX12_readWants 2 = .ok (.invokevirtual 185, 3) := dk_182 0 185 (dk_at dksX12_readWants_0 2 rfl rfl)
theorem dX12_readWants_5 : decode cX12_readWants 5 = .ok (.istore_n 1, 1) := dk_60 (dk_at dksX12_readWants_0 5 rfl rfl)
theorem dX12_readWants_6 : decode cX12_readWants 6 = .ok (.aload_n 0, 1) := dk_42 (dk_at dksX12_readWants_0 6 rfl rfl)
theorem dX12_readWants_7 : decode cX12_readWants 7 = .ok (.iconst 0, 1) := dk_3 (dk_at dksX12_readWants_0 7 rfl rfl)
theorem dX12_readWants_8 : decode cX12_readWants 8 = .ok (.invokevirtual 185, 3) := dk_182 0 185 (dk_at dksX12_readWants_0 8 rfl rfl)
theorem dX12_readWants_11 : decode cX12_readWants 11 = .ok (.istore_n 2, 1) := dk_61 (dk_at dksX12_readWants_0 11 rfl rfl)
theorem dX12_readWants_12 : decode cX12_readWants 12 = .ok (.aload_n 0, 1) := dk_42 (dk_at dksX12_readWants_0 12 rfl rfl)
theorem dX12_readWants_13 : decode cX12_readWants 13 = .ok (.iconst 0, 1) := dk_3 (dk_at dksX12_readWants_0 13 rfl rfl)
theorem dX12_readWants_14 : decode cX12_readWants 14 = .ok (.bipush 99, 2) := dk_16 99 (dk_at dksX12_readWants_0 14 rfl rfl)
theorem dX12_readWants_16 : decode cX12_readWants 16 = .ok (.invokevirtual 181, 3) := dk_182 0 181 (dk_at dksX12_readWants_0 16 rfl rfl)
theorem dX12_readWants_19 : decode cX12_readWants 19 = .ok (.istore_n 3, 1) := dk_62 (dk_at dksX12_readWants_0 19 rfl rfl)
theorem dX12_readWants_20 : decode cX12_readWants 20 = .ok (.aload_n 0, 1) := dk_42 (dk_at dksX12_readWants_0 20 rfl rfl)
theorem dX12_readWants_21 : decode cX12_readWants 21 = .ok (.invokevirtual 153, 3) := dk_182 0 153 (dk_at dksX12_readWants_0 21 rfl rfl)
theorem dX12_readWants_24 : decode cX12_readWants 24 = .ok (.ifCond .eq 18, 3) := dk_153 0 18 (dk_at dksX12_readWants_1 0 rfl rfl)
theorem dX12_readWants_27 : decode cX12_readWants 27 = .ok (.aload_n 0, 1) := dk_42 (dk_at dksX12_readWants_1 3 rfl rfl)
theorem dX12_readWants_28 : decode cX12_readWants 28 = .ok (.getfield 26, 3) := dk_180 0 26 (dk_at dksX12_readWants_1 4 rfl rfl)
theorem dX12_readWants_31 : decode cX12_readWants 31 = .ok (.bipush 72, 2) := dk_16 72 (dk_at dksX12_readWants_1 7 rfl rfl)
theorem dX12_readWants_33 : decode cX12_readWants 33 = .ok (.bipush 12, 2) := dk_16 12 (dk_at dksX12_readWants_1 9 rfl rfl)
theorem dX12_readWants_35 : decode cX12_readWants 35 = .ok (.iload_n 1, 1) := dk_27 (dk_at dksX12_readWants_1 11 rfl rfl)
theorem dX12_readWants_36 : decode cX12_readWants 36 = .ok (.imul, 1) := dk_104 (dk_at dksX12_readWants_1 12 rfl rfl)
theorem dX12_readWants_37 : decode cX12_readWants 37 = .ok (.iadd, 1) := dk_96 (dk_at dksX12_readWants_1 13 rfl rfl)
theorem dX12_readWants_38 : decode cX12_readWants 38 = .ok (.iload_n 2, 1) := dk_28 (dk_at dksX12_readWants_1 14 rfl rfl)
theorem dX12_readWants_39 : decode cX12_readWants 39 = .ok (.iadd, 1) := dk_96 (dk_at dksX12_readWants_1 15 rfl rfl)
theorem dX12_readWants_40 : decode cX12_readWants 40 = .ok (.iload_n 3, 1) := dk_29 (dk_at dksX12_readWants_1 16 rfl rfl)
theorem dX12_readWants_41 : decode cX12_readWants 41 = .ok (.iastore, 1) := dk_79 (dk_at dksX12_readWants_1 17 rfl rfl)
theorem dX12_readWants_42 : decode cX12_readWants 42 = .ok (.return_, 1) := dk_177 (dk_at dksX12_readWants_1 18 rfl rfl)
abbrev cX12_readOne : ByteArray := prog_27_method_25_code
def yX12_readOne : MethodName := ⟨RX12, "readOne", "(III)V"⟩
def dkwX12_readOne_0 : List UInt8 := [42, 28, 29, 182, 0, 181, 54, 4, 42, 182, 0, 153, 153, 0, 11, 42, 180, 0, 26, 27, 21, 4, 79, 177]
abbrev dktX12_readOne_0 : List UInt8 := dkwX12_readOne_0 ++ []
theorem dksX12_readOne_0 : cX12_readOne.data.toList.drop 0 = dktX12_readOne_0 := by decide +kernel
theorem dX12_readOne_0 : decode cX12_readOne 0 = .ok (.aload_n 0, 1) := dk_42 (dk_at dksX12_readOne_0 0 rfl rfl)
theorem dX12_readOne_1 : decode cX12_readOne 1 = .ok (.iload_n 2, 1) := dk_28 (dk_at dksX12_readOne_0 1 rfl rfl)
theorem dX12_readOne_2 : decode cX12_readOne 2 = .ok (.iload_n 3, 1) := dk_29 (dk_at dksX12_readOne_0 2 rfl rfl)
theorem dX12_readOne_3 : decode cX12_readOne 3 = .ok (.invokevirtual 181, 3) := dk_182 0 181 (dk_at dksX12_readOne_0 3 rfl rfl)
theorem dX12_readOne_6 : decode cX12_readOne 6 = .ok (.istore 4, 2) := dk_54 4 (dk_at dksX12_readOne_0 6 rfl rfl)
theorem dX12_readOne_8 : decode cX12_readOne 8 = .ok (.aload_n 0, 1) := dk_42 (dk_at dksX12_readOne_0 8 rfl rfl)
theorem dX12_readOne_9 : decode cX12_readOne 9 = .ok (.invokevirtual 153, 3) := dk_182 0 153 (dk_at dksX12_readOne_0 9 rfl rfl)
theorem dX12_readOne_12 : decode cX12_readOne 12 = .ok (.ifCond .eq 11, 3) := dk_153 0 11 (dk_at dksX12_readOne_0 12 rfl rfl)
theorem dX12_readOne_15 : decode cX12_readOne 15 = .ok (.aload_n 0, 1) := dk_42 (dk_at dksX12_readOne_0 15 rfl rfl)
theorem dX12_readOne_16 : decode cX12_readOne 16 = .ok (.getfield 26, 3) := dk_180 0 26 (dk_at dksX12_readOne_0 16 rfl rfl)
theorem dX12_readOne_19 : decode cX12_readOne 19 = .ok (.iload_n 1, 1) := dk_27 (dk_at dksX12_readOne_0 19 rfl rfl)
theorem dX12_readOne_20 : decode cX12_readOne 20 = .ok (.iload 4, 2) := dk_21 4 (dk_at dksX12_readOne_0 20 rfl rfl)
theorem dX12_readOne_22 : decode cX12_readOne 22 = .ok (.iastore, 1) := dk_79 (dk_at dksX12_readOne_0 22 rfl rfl)
theorem dX12_readOne_23 : decode cX12_readOne 23 = .ok (.return_, 1) := dk_177 (dk_at dksX12_readOne_0 23 rfl rfl)
abbrev cX12_sign : ByteArray := prog_27_method_15_code
def yX12_sign : MethodName := ⟨RX12, "sign", "(I)V"⟩
def dkwX12_sign_1 : List UInt8 := [42, 182, 0, 153, 153, 0, 13, 42, 89, 180, 0, 130, 4, 96, 181, 0, 130, 177]
abbrev dktX12_sign_1 : List UInt8 := dkwX12_sign_1 ++ []
def dkwX12_sign_0 : List UInt8 := [42, 182, 0, 153, 153, 0, 20, 42, 182, 0, 136, 27, 159, 0, 12, 42, 4, 42, 180, 0, 130, 182, 0, 160]
abbrev dktX12_sign_0 : List UInt8 := dkwX12_sign_0 ++ dktX12_sign_1
theorem dksX12_sign_0 : cX12_sign.data.toList.drop 0 = dktX12_sign_0 := by decide +kernel
theorem dksX12_sign_1 : cX12_sign.data.toList.drop 24 = dktX12_sign_1 := dk_seg dksX12_sign_0 24 rfl rfl
theorem dX12_sign_0 : decode cX12_sign 0 = .ok (.aload_n 0, 1) := dk_42 (dk_at dksX12_sign_0 0 rfl rfl)
theorem dX12_sign_1 : decode cX12_sign 1 = .ok (.invokevirtual 153, 3) := dk_182 0 153 (dk_at dksX12_sign_0 1 rfl rfl)
theorem dX12_sign_4 : decode cX12_sign 4 = .ok (.ifCond .eq 20, 3) := dk_153 0 20 (dk_at dksX12_sign_0 4 rfl rfl)
theorem dX12_sign_7 : decode cX12_sign 7 = .ok (.aload_n 0, 1) := dk_42 (dk_at dksX12_sign_0 7 rfl rfl)
theorem dX12_sign_8 : decode cX12_sign 8 = .ok (.invokevirtual 136, 3) := dk_182 0 136 (dk_at dksX12_sign_0 8 rfl rfl)
theorem dX12_sign_11 : decode cX12_sign 11 = .ok (.iload_n 1, 1) := dk_27 (dk_at dksX12_sign_0 11 rfl rfl)
theorem dX12_sign_12 : decode cX12_sign 12 = .ok (.if_icmp .eq 12, 3) := dk_159 0 12 (dk_at dksX12_sign_0 12 rfl rfl)
theorem dX12_sign_15 : decode cX12_sign 15 = .ok (.aload_n 0, 1) := dk_42 (dk_at dksX12_sign_0 15 rfl rfl)
theorem dX12_sign_16 : decode cX12_sign 16 = .ok (.iconst 1, 1) := dk_4 (dk_at dksX12_sign_0 16 rfl rfl)
theorem dX12_sign_17 : decode cX12_sign 17 = .ok (.aload_n 0, 1) := dk_42 (dk_at dksX12_sign_0 17 rfl rfl)
theorem dX12_sign_18 : decode cX12_sign 18 = .ok (.getfield 130, 3) := dk_180 0 130 (dk_at dksX12_sign_0 18 rfl rfl)
theorem dX12_sign_21 : decode cX12_sign 21 = .ok (.invokevirtual 160, 3) := dk_182 0 160 (dk_at dksX12_sign_0 21 rfl rfl)
theorem dX12_sign_24 : decode cX12_sign 24 = .ok (.aload_n 0, 1) := dk_42 (dk_at dksX12_sign_1 0 rfl rfl)
theorem dX12_sign_25 : decode cX12_sign 25 = .ok (.invokevirtual 153, 3) := dk_182 0 153 (dk_at dksX12_sign_1 1 rfl rfl)
theorem dX12_sign_28 : decode cX12_sign 28 = .ok (.ifCond .eq 13, 3) := dk_153 0 13 (dk_at dksX12_sign_1 4 rfl rfl)
theorem dX12_sign_31 : decode cX12_sign 31 = .ok (.aload_n 0, 1) := dk_42 (dk_at dksX12_sign_1 7 rfl rfl)
theorem dX12_sign_32 : decode cX12_sign 32 = .ok (.dup, 1) := dk_89 (dk_at dksX12_sign_1 8 rfl rfl)
theorem dX12_sign_33 : decode cX12_sign 33 = .ok (.getfield 130, 3) := dk_180 0 130 (dk_at dksX12_sign_1 9 rfl rfl)
theorem dX12_sign_36 : decode cX12_sign 36 = .ok (.iconst 1, 1) := dk_4 (dk_at dksX12_sign_1 12 rfl rfl)
theorem dX12_sign_37 : decode cX12_sign 37 = .ok (.iadd, 1) := dk_96 (dk_at dksX12_sign_1 13 rfl rfl)
theorem dX12_sign_38 : decode cX12_sign 38 = .ok (.putfield 130, 3) := dk_181 0 130 (dk_at dksX12_sign_1 14 rfl rfl)
theorem dX12_sign_41 : decode cX12_sign 41 = .ok (.return_, 1) := dk_177 (dk_at dksX12_sign_1 17 rfl rfl)
abbrev cX12_law : ByteArray := prog_27_method_39_code
def yX12_law : MethodName := ⟨RX12, "law", "(I)I"⟩
def dkwX12_law_14 : List UInt8 := [180, 1, 0, 172]
abbrev dktX12_law_14 : List UInt8 := dkwX12_law_14 ++ []
def dkwX12_law_13 : List UInt8 := [180, 0, 32, 29, 42, 180, 0, 38, 29, 46, 79, 132, 3, 1, 167, 255, 221, 42, 3, 181, 1, 55, 42]
abbrev dktX12_law_13 : List UInt8 := dkwX12_law_13 ++ dktX12_law_14
def dkwX12_law_12 : List UInt8 := [3, 62, 29, 42, 180, 1, 3, 162, 0, 33, 42, 180, 0, 29, 29, 42, 180, 0, 35, 29, 46, 79, 42]
abbrev dktX12_law_12 : List UInt8 := dkwX12_law_12 ++ dktX12_law_13
def dkwX12_law_11 : List UInt8 := [46, 79, 42, 180, 0, 44, 29, 4, 96, 42, 180, 0, 50, 29, 4, 96, 46, 79, 132, 3, 1, 167, 255, 220]
abbrev dktX12_law_11 : List UInt8 := dkwX12_law_11 ++ dktX12_law_12
def dkwX12_law_10 : List UInt8 := [100, 172, 42, 28, 181, 1, 0, 3, 62, 29, 28, 162, 0, 37, 42, 180, 0, 41, 29, 42, 180, 0, 47, 29]
abbrev dktX12_law_10 : List UInt8 := dkwX12_law_10 ++ dktX12_law_11
def dkwX12_law_9 : List UInt8 := [167, 255, 99, 42, 42, 180, 0, 124, 181, 0, 17, 42, 182, 0, 153, 154, 0, 11, 42, 180, 0, 127, 16, 10]
abbrev dktX12_law_9 : List UInt8 := dkwX12_law_9 ++ dktX12_law_10
def dkwX12_law_8 : List UInt8 := [182, 1, 34, 42, 16, 59, 182, 0, 246, 132, 2, 1, 42, 180, 0, 50, 28, 42, 180, 1, 3, 79]
abbrev dktX12_law_8 : List UInt8 := dkwX12_law_8 ++ dktX12_law_9
def dkwX12_law_7 : List UInt8 := [159, 0, 12, 42, 4, 42, 180, 0, 130, 182, 0, 160, 42, 182, 0, 153, 153, 0, 7, 42, 182, 0, 178, 42]
abbrev dktX12_law_7 : List UInt8 := dkwX12_law_7 ++ dktX12_law_8
def dkwX12_law_6 : List UInt8 := [184, 0, 172, 160, 0, 7, 4, 167, 0, 4, 3, 79, 42, 182, 0, 167, 19, 1, 53, 184, 0, 172]
abbrev dktX12_law_6 : List UInt8 := dkwX12_law_6 ++ dktX12_law_7
def dkwX12_law_5 : List UInt8 := [182, 0, 153, 154, 0, 6, 167, 0, 87, 42, 182, 0, 178, 42, 180, 0, 47, 28, 29, 19, 1, 51]
abbrev dktX12_law_5 : List UInt8 := dkwX12_law_5 ++ dktX12_law_6
def dkwX12_law_4 : List UInt8 := [182, 0, 160, 167, 0, 18, 28, 16, 10, 160, 0, 12, 42, 6, 42, 180, 0, 130, 182, 0, 160, 42]
abbrev dktX12_law_4 : List UInt8 := dkwX12_law_4 ++ dktX12_law_5
def dkwX12_law_3 : List UInt8 := [184, 0, 172, 159, 0, 25, 29, 19, 1, 51, 184, 0, 172, 159, 0, 15, 42, 4, 42, 180, 0, 130]
abbrev dktX12_law_3 : List UInt8 := dkwX12_law_3 ++ dktX12_law_4
def dkwX12_law_2 : List UInt8 := [182, 0, 153, 153, 0, 156, 42, 182, 0, 234, 153, 0, 149, 42, 182, 0, 167, 62, 29, 19, 1, 49]
abbrev dktX12_law_2 : List UInt8 := dkwX12_law_2 ++ dktX12_law_3
def dkwX12_law_1 : List UInt8 := [5, 182, 0, 226, 154, 0, 5, 3, 172, 42, 27, 182, 0, 230, 42, 3, 181, 1, 3, 3, 61, 42]
abbrev dktX12_law_1 : List UInt8 := dkwX12_law_1 ++ dktX12_law_2
def dkwX12_law_0 : List UInt8 := [42, 3, 181, 0, 1, 42, 27, 155, 0, 15, 27, 42, 180, 0, 121, 163, 0, 7, 4, 167, 0, 4, 3, 4]
abbrev dktX12_law_0 : List UInt8 := dkwX12_law_0 ++ dktX12_law_1
theorem dksX12_law_0 : cX12_law.data.toList.drop 0 = dktX12_law_0 := by decide +kernel
theorem dksX12_law_1 : cX12_law.data.toList.drop 24 = dktX12_law_1 := dk_seg dksX12_law_0 24 rfl rfl
theorem dksX12_law_2 : cX12_law.data.toList.drop 46 = dktX12_law_2 := dk_seg dksX12_law_1 22 rfl rfl
theorem dksX12_law_3 : cX12_law.data.toList.drop 68 = dktX12_law_3 := dk_seg dksX12_law_2 22 rfl rfl
theorem dksX12_law_4 : cX12_law.data.toList.drop 90 = dktX12_law_4 := dk_seg dksX12_law_3 22 rfl rfl
theorem dksX12_law_5 : cX12_law.data.toList.drop 112 = dktX12_law_5 := dk_seg dksX12_law_4 22 rfl rfl
theorem dksX12_law_6 : cX12_law.data.toList.drop 134 = dktX12_law_6 := dk_seg dksX12_law_5 22 rfl rfl
theorem dksX12_law_7 : cX12_law.data.toList.drop 156 = dktX12_law_7 := dk_seg dksX12_law_6 22 rfl rfl
theorem dksX12_law_8 : cX12_law.data.toList.drop 180 = dktX12_law_8 := dk_seg dksX12_law_7 24 rfl rfl
theorem dksX12_law_9 : cX12_law.data.toList.drop 202 = dktX12_law_9 := dk_seg dksX12_law_8 22 rfl rfl
theorem dksX12_law_10 : cX12_law.data.toList.drop 226 = dktX12_law_10 := dk_seg dksX12_law_9 24 rfl rfl
theorem dksX12_law_11 : cX12_law.data.toList.drop 250 = dktX12_law_11 := dk_seg dksX12_law_10 24 rfl rfl
theorem dksX12_law_12 : cX12_law.data.toList.drop 274 = dktX12_law_12 := dk_seg dksX12_law_11 24 rfl rfl
theorem dksX12_law_13 : cX12_law.data.toList.drop 297 = dktX12_law_13 := dk_seg dksX12_law_12 23 rfl rfl
theorem dksX12_law_14 : cX12_law.data.toList.drop 320 = dktX12_law_14 := dk_seg dksX12_law_13 23 rfl rfl
theorem dX12_law_0 : decode cX12_law 0 = .ok (.aload_n 0, 1) := dk_42 (dk_at dksX12_law_0 0 rfl rfl)
theorem dX12_law_1 : decode cX12_law 1 = .ok (.iconst 0, 1) := dk_3 (dk_at dksX12_law_0 1 rfl rfl)
theorem dX12_law_2 : decode cX12_law 2 = .ok (.putfield 1, 3) := dk_181 0 1 (dk_at dksX12_law_0 2 rfl rfl)
theorem dX12_law_5 : decode cX12_law 5 = .ok (.aload_n 0, 1) := dk_42 (dk_at dksX12_law_0 5 rfl rfl)
theorem dX12_law_6 : decode cX12_law 6 = .ok (.iload_n 1, 1) := dk_27 (dk_at dksX12_law_0 6 rfl rfl)
theorem dX12_law_7 : decode cX12_law 7 = .ok (.ifCond .lt 15, 3) := dk_155 0 15 (dk_at dksX12_law_0 7 rfl rfl)
theorem dX12_law_10 : decode cX12_law 10 = .ok (.iload_n 1, 1) := dk_27 (dk_at dksX12_law_0 10 rfl rfl)
theorem dX12_law_11 : decode cX12_law 11 = .ok (.aload_n 0, 1) := dk_42 (dk_at dksX12_law_0 11 rfl rfl)
theorem dX12_law_12 : decode cX12_law 12 = .ok (.getfield 121, 3) := dk_180 0 121 (dk_at dksX12_law_0 12 rfl rfl)
theorem dX12_law_15 : decode cX12_law 15 = .ok (.if_icmp .gt 7, 3) := dk_163 0 7 (dk_at dksX12_law_0 15 rfl rfl)
theorem dX12_law_18 : decode cX12_law 18 = .ok (.iconst 1, 1) := dk_4 (dk_at dksX12_law_0 18 rfl rfl)
theorem dX12_law_19 : decode cX12_law 19 = .ok (.goto 4, 3) := dk_167 0 4 (dk_at dksX12_law_0 19 rfl rfl)
theorem dX12_law_22 : decode cX12_law 22 = .ok (.iconst 0, 1) := dk_3 (dk_at dksX12_law_0 22 rfl rfl)
theorem dX12_law_23 : decode cX12_law 23 = .ok (.iconst 1, 1) := dk_4 (dk_at dksX12_law_0 23 rfl rfl)
theorem dX12_law_24 : decode cX12_law 24 = .ok (.iconst 2, 1) := dk_5 (dk_at dksX12_law_1 0 rfl rfl)
theorem dX12_law_25 : decode cX12_law 25 = .ok (.invokevirtual 226, 3) := dk_182 0 226 (dk_at dksX12_law_1 1 rfl rfl)
theorem dX12_law_28 : decode cX12_law 28 = .ok (.ifCond .ne 5, 3) := dk_154 0 5 (dk_at dksX12_law_1 4 rfl rfl)
theorem dX12_law_31 : decode cX12_law 31 = .ok (.iconst 0, 1) := dk_3 (dk_at dksX12_law_1 7 rfl rfl)
theorem dX12_law_32 : decode cX12_law 32 = .ok (.ireturn, 1) := dk_172 (dk_at dksX12_law_1 8 rfl rfl)
theorem dX12_law_33 : decode cX12_law 33 = .ok (.aload_n 0, 1) := dk_42 (dk_at dksX12_law_1 9 rfl rfl)
theorem dX12_law_34 : decode cX12_law 34 = .ok (.iload_n 1, 1) := dk_27 (dk_at dksX12_law_1 10 rfl rfl)
theorem dX12_law_35 : decode cX12_law 35 = .ok (.invokevirtual 230, 3) := dk_182 0 230 (dk_at dksX12_law_1 11 rfl rfl)
theorem dX12_law_38 : decode cX12_law 38 = .ok (.aload_n 0, 1) := dk_42 (dk_at dksX12_law_1 14 rfl rfl)
theorem dX12_law_39 : decode cX12_law 39 = .ok (.iconst 0, 1) := dk_3 (dk_at dksX12_law_1 15 rfl rfl)
theorem dX12_law_40 : decode cX12_law 40 = .ok (.putfield 259, 3) := dk_181 1 3 (dk_at dksX12_law_1 16 rfl rfl)
theorem dX12_law_43 : decode cX12_law 43 = .ok (.iconst 0, 1) := dk_3 (dk_at dksX12_law_1 19 rfl rfl)
theorem dX12_law_44 : decode cX12_law 44 = .ok (.istore_n 2, 1) := dk_61 (dk_at dksX12_law_1 20 rfl rfl)
theorem dX12_law_45 : decode cX12_law 45 = .ok (.aload_n 0, 1) := dk_42 (dk_at dksX12_law_1 21 rfl rfl)
theorem dX12_law_46 : decode cX12_law 46 = .ok (.invokevirtual 153, 3) := dk_182 0 153 (dk_at dksX12_law_2 0 rfl rfl)
theorem dX12_law_49 : decode cX12_law 49 = .ok (.ifCond .eq 156, 3) := dk_153 0 156 (dk_at dksX12_law_2 3 rfl rfl)
theorem dX12_law_52 : decode cX12_law 52 = .ok (.aload_n 0, 1) := dk_42 (dk_at dksX12_law_2 6 rfl rfl)
theorem dX12_law_53 : decode cX12_law 53 = .ok (.invokevirtual 234, 3) := dk_182 0 234 (dk_at dksX12_law_2 7 rfl rfl)
theorem dX12_law_56 : decode cX12_law 56 = .ok (.ifCond .eq 149, 3) := dk_153 0 149 (dk_at dksX12_law_2 10 rfl rfl)
theorem dX12_law_59 : decode cX12_law 59 = .ok (.aload_n 0, 1) := dk_42 (dk_at dksX12_law_2 13 rfl rfl)
theorem dX12_law_60 : decode cX12_law 60 = .ok (.invokevirtual 167, 3) := dk_182 0 167 (dk_at dksX12_law_2 14 rfl rfl)
theorem dX12_law_63 : decode cX12_law 63 = .ok (.istore_n 3, 1) := dk_62 (dk_at dksX12_law_2 17 rfl rfl)
theorem dX12_law_64 : decode cX12_law 64 = .ok (.iload_n 3, 1) := dk_29 (dk_at dksX12_law_2 18 rfl rfl)
theorem dX12_law_65 : decode cX12_law 65 = .ok (.ldc_w 305, 3) := dk_19 1 49 (dk_at dksX12_law_2 19 rfl rfl)
theorem dX12_law_68 : decode cX12_law 68 = .ok (.invokestatic 172, 3) := dk_184 0 172 (dk_at dksX12_law_3 0 rfl rfl)
theorem dX12_law_71 : decode cX12_law 71 = .ok (.if_icmp .eq 25, 3) := dk_159 0 25 (dk_at dksX12_law_3 3 rfl rfl)
theorem dX12_law_74 : decode cX12_law 74 = .ok (.iload_n 3, 1) := dk_29 (dk_at dksX12_law_3 6 rfl rfl)
theorem dX12_law_75 : decode cX12_law 75 = .ok (.ldc_w 307, 3) := dk_19 1 51 (dk_at dksX12_law_3 7 rfl rfl)
theorem dX12_law_78 : decode cX12_law 78 = .ok (.invokestatic 172, 3) := dk_184 0 172 (dk_at dksX12_law_3 10 rfl rfl)
theorem dX12_law_81 : decode cX12_law 81 = .ok (.if_icmp .eq 15, 3) := dk_159 0 15 (dk_at dksX12_law_3 13 rfl rfl)
theorem dX12_law_84 : decode cX12_law 84 = .ok (.aload_n 0, 1) := dk_42 (dk_at dksX12_law_3 16 rfl rfl)
theorem dX12_law_85 : decode cX12_law 85 = .ok (.iconst 1, 1) := dk_4 (dk_at dksX12_law_3 17 rfl rfl)
theorem dX12_law_86 : decode cX12_law 86 = .ok (.aload_n 0, 1) := dk_42 (dk_at dksX12_law_3 18 rfl rfl)
theorem dX12_law_87 : decode cX12_law 87 = .ok (.getfield 130, 3) := dk_180 0 130 (dk_at dksX12_law_3 19 rfl rfl)
theorem dX12_law_90 : decode cX12_law 90 = .ok (.invokevirtual 160, 3) := dk_182 0 160 (dk_at dksX12_law_4 0 rfl rfl)
theorem dX12_law_93 : decode cX12_law 93 = .ok (.goto 18, 3) := dk_167 0 18 (dk_at dksX12_law_4 3 rfl rfl)
theorem dX12_law_96 : decode cX12_law 96 = .ok (.iload_n 2, 1) := dk_28 (dk_at dksX12_law_4 6 rfl rfl)
theorem dX12_law_97 : decode cX12_law 97 = .ok (.bipush 10, 2) := dk_16 10 (dk_at dksX12_law_4 7 rfl rfl)
theorem dX12_law_99 : decode cX12_law 99 = .ok (.if_icmp .ne 12, 3) := dk_160 0 12 (dk_at dksX12_law_4 9 rfl rfl)
theorem dX12_law_102 : decode cX12_law 102 = .ok (.aload_n 0, 1) := dk_42 (dk_at dksX12_law_4 12 rfl rfl)
theorem dX12_law_103 : decode cX12_law 103 = .ok (.iconst 3, 1) := dk_6 (dk_at dksX12_law_4 13 rfl rfl)
theorem dX12_law_104 : decode cX12_law 104 = .ok (.aload_n 0, 1) := dk_42 (dk_at dksX12_law_4 14 rfl rfl)
theorem dX12_law_105 : decode cX12_law 105 = .ok (.getfield 130, 3) := dk_180 0 130 (dk_at dksX12_law_4 15 rfl rfl)
theorem dX12_law_108 : decode cX12_law 108 = .ok (.invokevirtual 160, 3) := dk_182 0 160 (dk_at dksX12_law_4 18 rfl rfl)
theorem dX12_law_111 : decode cX12_law 111 = .ok (.aload_n 0, 1) := dk_42 (dk_at dksX12_law_4 21 rfl rfl)
theorem dX12_law_112 : decode cX12_law 112 = .ok (.invokevirtual 153, 3) := dk_182 0 153 (dk_at dksX12_law_5 0 rfl rfl)
theorem dX12_law_115 : decode cX12_law 115 = .ok (.ifCond .ne 6, 3) := dk_154 0 6 (dk_at dksX12_law_5 3 rfl rfl)
theorem dX12_law_118 : decode cX12_law 118 = .ok (.goto 87, 3) := dk_167 0 87 (dk_at dksX12_law_5 6 rfl rfl)
theorem dX12_law_121 : decode cX12_law 121 = .ok (.aload_n 0, 1) := dk_42 (dk_at dksX12_law_5 9 rfl rfl)
theorem dX12_law_122 : decode cX12_law 122 = .ok (.invokevirtual 178, 3) := dk_182 0 178 (dk_at dksX12_law_5 10 rfl rfl)
theorem dX12_law_125 : decode cX12_law 125 = .ok (.aload_n 0, 1) := dk_42 (dk_at dksX12_law_5 13 rfl rfl)
theorem dX12_law_126 : decode cX12_law 126 = .ok (.getfield 47, 3) := dk_180 0 47 (dk_at dksX12_law_5 14 rfl rfl)
theorem dX12_law_129 : decode cX12_law 129 = .ok (.iload_n 2, 1) := dk_28 (dk_at dksX12_law_5 17 rfl rfl)
theorem dX12_law_130 : decode cX12_law 130 = .ok (.iload_n 3, 1) := dk_29 (dk_at dksX12_law_5 18 rfl rfl)
theorem dX12_law_131 : decode cX12_law 131 = .ok (.ldc_w 307, 3) := dk_19 1 51 (dk_at dksX12_law_5 19 rfl rfl)
theorem dX12_law_134 : decode cX12_law 134 = .ok (.invokestatic 172, 3) := dk_184 0 172 (dk_at dksX12_law_6 0 rfl rfl)
theorem dX12_law_137 : decode cX12_law 137 = .ok (.if_icmp .ne 7, 3) := dk_160 0 7 (dk_at dksX12_law_6 3 rfl rfl)
theorem dX12_law_140 : decode cX12_law 140 = .ok (.iconst 1, 1) := dk_4 (dk_at dksX12_law_6 6 rfl rfl)
theorem dX12_law_141 : decode cX12_law 141 = .ok (.goto 4, 3) := dk_167 0 4 (dk_at dksX12_law_6 7 rfl rfl)
theorem dX12_law_144 : decode cX12_law 144 = .ok (.iconst 0, 1) := dk_3 (dk_at dksX12_law_6 10 rfl rfl)
theorem dX12_law_145 : decode cX12_law 145 = .ok (.iastore, 1) := dk_79 (dk_at dksX12_law_6 11 rfl rfl)
theorem dX12_law_146 : decode cX12_law 146 = .ok (.aload_n 0, 1) := dk_42 (dk_at dksX12_law_6 12 rfl rfl)
theorem dX12_law_147 : decode cX12_law 147 = .ok (.invokevirtual 167, 3) := dk_182 0 167 (dk_at dksX12_law_6 13 rfl rfl)
theorem dX12_law_150 : decode cX12_law 150 = .ok (.ldc_w 309, 3) := dk_19 1 53 (dk_at dksX12_law_6 16 rfl rfl)
theorem dX12_law_153 : decode cX12_law 153 = .ok (.invokestatic 172, 3) := dk_184 0 172 (dk_at dksX12_law_6 19 rfl rfl)
theorem dX12_law_156 : decode cX12_law 156 = .ok (.if_icmp .eq 12, 3) := dk_159 0 12 (dk_at dksX12_law_7 0 rfl rfl)
theorem dX12_law_159 : decode cX12_law 159 = .ok (.aload_n 0, 1) := dk_42 (dk_at dksX12_law_7 3 rfl rfl)
theorem dX12_law_160 : decode cX12_law 160 = .ok (.iconst 1, 1) := dk_4 (dk_at dksX12_law_7 4 rfl rfl)
theorem dX12_law_161 : decode cX12_law 161 = .ok (.aload_n 0, 1) := dk_42 (dk_at dksX12_law_7 5 rfl rfl)
theorem dX12_law_162 : decode cX12_law 162 = .ok (.getfield 130, 3) := dk_180 0 130 (dk_at dksX12_law_7 6 rfl rfl)
theorem dX12_law_165 : decode cX12_law 165 = .ok (.invokevirtual 160, 3) := dk_182 0 160 (dk_at dksX12_law_7 9 rfl rfl)
theorem dX12_law_168 : decode cX12_law 168 = .ok (.aload_n 0, 1) := dk_42 (dk_at dksX12_law_7 12 rfl rfl)
theorem dX12_law_169 : decode cX12_law 169 = .ok (.invokevirtual 153, 3) := dk_182 0 153 (dk_at dksX12_law_7 13 rfl rfl)
theorem dX12_law_172 : decode cX12_law 172 = .ok (.ifCond .eq 7, 3) := dk_153 0 7 (dk_at dksX12_law_7 16 rfl rfl)
theorem dX12_law_175 : decode cX12_law 175 = .ok (.aload_n 0, 1) := dk_42 (dk_at dksX12_law_7 19 rfl rfl)
theorem dX12_law_176 : decode cX12_law 176 = .ok (.invokevirtual 178, 3) := dk_182 0 178 (dk_at dksX12_law_7 20 rfl rfl)
theorem dX12_law_179 : decode cX12_law 179 = .ok (.aload_n 0, 1) := dk_42 (dk_at dksX12_law_7 23 rfl rfl)
theorem dX12_law_180 : decode cX12_law 180 = .ok (.invokevirtual 290, 3) := dk_182 1 34 (dk_at dksX12_law_8 0 rfl rfl)
theorem dX12_law_183 : decode cX12_law 183 = .ok (.aload_n 0, 1) := dk_42 (dk_at dksX12_law_8 3 rfl rfl)
theorem dX12_law_184 : decode cX12_law 184 = .ok (.bipush 59, 2) := dk_16 59 (dk_at dksX12_law_8 4 rfl rfl)
theorem dX12_law_186 : decode cX12_law 186 = .ok (.invokevirtual 246, 3) := dk_182 0 246 (dk_at dksX12_law_8 6 rfl rfl)
theorem dX12_law_189 : decode cX12_law 189 = .ok (.iinc 2 1, 3) := dk_132 2 1 (dk_at dksX12_law_8 9 rfl rfl)
theorem dX12_law_192 : decode cX12_law 192 = .ok (.aload_n 0, 1) := dk_42 (dk_at dksX12_law_8 12 rfl rfl)
theorem dX12_law_193 : decode cX12_law 193 = .ok (.getfield 50, 3) := dk_180 0 50 (dk_at dksX12_law_8 13 rfl rfl)
theorem dX12_law_196 : decode cX12_law 196 = .ok (.iload_n 2, 1) := dk_28 (dk_at dksX12_law_8 16 rfl rfl)
theorem dX12_law_197 : decode cX12_law 197 = .ok (.aload_n 0, 1) := dk_42 (dk_at dksX12_law_8 17 rfl rfl)
theorem dX12_law_198 : decode cX12_law 198 = .ok (.getfield 259, 3) := dk_180 1 3 (dk_at dksX12_law_8 18 rfl rfl)
theorem dX12_law_201 : decode cX12_law 201 = .ok (.iastore, 1) := dk_79 (dk_at dksX12_law_8 21 rfl rfl)
theorem dX12_law_202 : decode cX12_law 202 = .ok (.goto (-157), 3) := dk_167 255 99 (dk_at dksX12_law_9 0 rfl rfl)
theorem dX12_law_205 : decode cX12_law 205 = .ok (.aload_n 0, 1) := dk_42 (dk_at dksX12_law_9 3 rfl rfl)
theorem dX12_law_206 : decode cX12_law 206 = .ok (.aload_n 0, 1) := dk_42 (dk_at dksX12_law_9 4 rfl rfl)
theorem dX12_law_207 : decode cX12_law 207 = .ok (.getfield 124, 3) := dk_180 0 124 (dk_at dksX12_law_9 5 rfl rfl)
theorem dX12_law_210 : decode cX12_law 210 = .ok (.putfield 17, 3) := dk_181 0 17 (dk_at dksX12_law_9 8 rfl rfl)
theorem dX12_law_213 : decode cX12_law 213 = .ok (.aload_n 0, 1) := dk_42 (dk_at dksX12_law_9 11 rfl rfl)
theorem dX12_law_214 : decode cX12_law 214 = .ok (.invokevirtual 153, 3) := dk_182 0 153 (dk_at dksX12_law_9 12 rfl rfl)
theorem dX12_law_217 : decode cX12_law 217 = .ok (.ifCond .ne 11, 3) := dk_154 0 11 (dk_at dksX12_law_9 15 rfl rfl)
theorem dX12_law_220 : decode cX12_law 220 = .ok (.aload_n 0, 1) := dk_42 (dk_at dksX12_law_9 18 rfl rfl)
theorem dX12_law_221 : decode cX12_law 221 = .ok (.getfield 127, 3) := dk_180 0 127 (dk_at dksX12_law_9 19 rfl rfl)
theorem dX12_law_224 : decode cX12_law 224 = .ok (.bipush 10, 2) := dk_16 10 (dk_at dksX12_law_9 22 rfl rfl)
theorem dX12_law_226 : decode cX12_law 226 = .ok (.isub, 1) := dk_100 (dk_at dksX12_law_10 0 rfl rfl)
theorem dX12_law_227 : decode cX12_law 227 = .ok (.ireturn, 1) := dk_172 (dk_at dksX12_law_10 1 rfl rfl)
theorem dX12_law_228 : decode cX12_law 228 = .ok (.aload_n 0, 1) := dk_42 (dk_at dksX12_law_10 2 rfl rfl)
theorem dX12_law_229 : decode cX12_law 229 = .ok (.iload_n 2, 1) := dk_28 (dk_at dksX12_law_10 3 rfl rfl)
theorem dX12_law_230 : decode cX12_law 230 = .ok (.putfield 256, 3) := dk_181 1 0 (dk_at dksX12_law_10 4 rfl rfl)
theorem dX12_law_233 : decode cX12_law 233 = .ok (.iconst 0, 1) := dk_3 (dk_at dksX12_law_10 7 rfl rfl)
theorem dX12_law_234 : decode cX12_law 234 = .ok (.istore_n 3, 1) := dk_62 (dk_at dksX12_law_10 8 rfl rfl)
theorem dX12_law_235 : decode cX12_law 235 = .ok (.iload_n 3, 1) := dk_29 (dk_at dksX12_law_10 9 rfl rfl)
theorem dX12_law_236 : decode cX12_law 236 = .ok (.iload_n 2, 1) := dk_28 (dk_at dksX12_law_10 10 rfl rfl)
theorem dX12_law_237 : decode cX12_law 237 = .ok (.if_icmp .ge 37, 3) := dk_162 0 37 (dk_at dksX12_law_10 11 rfl rfl)
theorem dX12_law_240 : decode cX12_law 240 = .ok (.aload_n 0, 1) := dk_42 (dk_at dksX12_law_10 14 rfl rfl)
theorem dX12_law_241 : decode cX12_law 241 = .ok (.getfield 41, 3) := dk_180 0 41 (dk_at dksX12_law_10 15 rfl rfl)
theorem dX12_law_244 : decode cX12_law 244 = .ok (.iload_n 3, 1) := dk_29 (dk_at dksX12_law_10 18 rfl rfl)
theorem dX12_law_245 : decode cX12_law 245 = .ok (.aload_n 0, 1) := dk_42 (dk_at dksX12_law_10 19 rfl rfl)
theorem dX12_law_246 : decode cX12_law 246 = .ok (.getfield 47, 3) := dk_180 0 47 (dk_at dksX12_law_10 20 rfl rfl)
theorem dX12_law_249 : decode cX12_law 249 = .ok (.iload_n 3, 1) := dk_29 (dk_at dksX12_law_10 23 rfl rfl)
theorem dX12_law_250 : decode cX12_law 250 = .ok (.iaload, 1) := dk_46 (dk_at dksX12_law_11 0 rfl rfl)
theorem dX12_law_251 : decode cX12_law 251 = .ok (.iastore, 1) := dk_79 (dk_at dksX12_law_11 1 rfl rfl)
theorem dX12_law_252 : decode cX12_law 252 = .ok (.aload_n 0, 1) := dk_42 (dk_at dksX12_law_11 2 rfl rfl)
theorem dX12_law_253 : decode cX12_law 253 = .ok (.getfield 44, 3) := dk_180 0 44 (dk_at dksX12_law_11 3 rfl rfl)
theorem dX12_law_256 : decode cX12_law 256 = .ok (.iload_n 3, 1) := dk_29 (dk_at dksX12_law_11 6 rfl rfl)
theorem dX12_law_257 : decode cX12_law 257 = .ok (.iconst 1, 1) := dk_4 (dk_at dksX12_law_11 7 rfl rfl)
theorem dX12_law_258 : decode cX12_law 258 = .ok (.iadd, 1) := dk_96 (dk_at dksX12_law_11 8 rfl rfl)
theorem dX12_law_259 : decode cX12_law 259 = .ok (.aload_n 0, 1) := dk_42 (dk_at dksX12_law_11 9 rfl rfl)
theorem dX12_law_260 : decode cX12_law 260 = .ok (.getfield 50, 3) := dk_180 0 50 (dk_at dksX12_law_11 10 rfl rfl)
theorem dX12_law_263 : decode cX12_law 263 = .ok (.iload_n 3, 1) := dk_29 (dk_at dksX12_law_11 13 rfl rfl)
theorem dX12_law_264 : decode cX12_law 264 = .ok (.iconst 1, 1) := dk_4 (dk_at dksX12_law_11 14 rfl rfl)
theorem dX12_law_265 : decode cX12_law 265 = .ok (.iadd, 1) := dk_96 (dk_at dksX12_law_11 15 rfl rfl)
theorem dX12_law_266 : decode cX12_law 266 = .ok (.iaload, 1) := dk_46 (dk_at dksX12_law_11 16 rfl rfl)
theorem dX12_law_267 : decode cX12_law 267 = .ok (.iastore, 1) := dk_79 (dk_at dksX12_law_11 17 rfl rfl)
theorem dX12_law_268 : decode cX12_law 268 = .ok (.iinc 3 1, 3) := dk_132 3 1 (dk_at dksX12_law_11 18 rfl rfl)
theorem dX12_law_271 : decode cX12_law 271 = .ok (.goto (-36), 3) := dk_167 255 220 (dk_at dksX12_law_11 21 rfl rfl)
theorem dX12_law_274 : decode cX12_law 274 = .ok (.iconst 0, 1) := dk_3 (dk_at dksX12_law_12 0 rfl rfl)
theorem dX12_law_275 : decode cX12_law 275 = .ok (.istore_n 3, 1) := dk_62 (dk_at dksX12_law_12 1 rfl rfl)
theorem dX12_law_276 : decode cX12_law 276 = .ok (.iload_n 3, 1) := dk_29 (dk_at dksX12_law_12 2 rfl rfl)
theorem dX12_law_277 : decode cX12_law 277 = .ok (.aload_n 0, 1) := dk_42 (dk_at dksX12_law_12 3 rfl rfl)
theorem dX12_law_278 : decode cX12_law 278 = .ok (.getfield 259, 3) := dk_180 1 3 (dk_at dksX12_law_12 4 rfl rfl)
theorem dX12_law_281 : decode cX12_law 281 = .ok (.if_icmp .ge 33, 3) := dk_162 0 33 (dk_at dksX12_law_12 7 rfl rfl)
theorem dX12_law_284 : decode cX12_law 284 = .ok (.aload_n 0, 1) := dk_42 (dk_at dksX12_law_12 10 rfl rfl)
theorem dX12_law_285 : decode cX12_law 285 = .ok (.getfield 29, 3) := dk_180 0 29 (dk_at dksX12_law_12 11 rfl rfl)
theorem dX12_law_288 : decode cX12_law 288 = .ok (.iload_n 3, 1) := dk_29 (dk_at dksX12_law_12 14 rfl rfl)
theorem dX12_law_289 : decode cX12_law 289 = .ok (.aload_n 0, 1) := dk_42 (dk_at dksX12_law_12 15 rfl rfl)
theorem dX12_law_290 : decode cX12_law 290 = .ok (.getfield 35, 3) := dk_180 0 35 (dk_at dksX12_law_12 16 rfl rfl)
theorem dX12_law_293 : decode cX12_law 293 = .ok (.iload_n 3, 1) := dk_29 (dk_at dksX12_law_12 19 rfl rfl)
theorem dX12_law_294 : decode cX12_law 294 = .ok (.iaload, 1) := dk_46 (dk_at dksX12_law_12 20 rfl rfl)
theorem dX12_law_295 : decode cX12_law 295 = .ok (.iastore, 1) := dk_79 (dk_at dksX12_law_12 21 rfl rfl)
theorem dX12_law_296 : decode cX12_law 296 = .ok (.aload_n 0, 1) := dk_42 (dk_at dksX12_law_12 22 rfl rfl)
theorem dX12_law_297 : decode cX12_law 297 = .ok (.getfield 32, 3) := dk_180 0 32 (dk_at dksX12_law_13 0 rfl rfl)
theorem dX12_law_300 : decode cX12_law 300 = .ok (.iload_n 3, 1) := dk_29 (dk_at dksX12_law_13 3 rfl rfl)
theorem dX12_law_301 : decode cX12_law 301 = .ok (.aload_n 0, 1) := dk_42 (dk_at dksX12_law_13 4 rfl rfl)
theorem dX12_law_302 : decode cX12_law 302 = .ok (.getfield 38, 3) := dk_180 0 38 (dk_at dksX12_law_13 5 rfl rfl)
theorem dX12_law_305 : decode cX12_law 305 = .ok (.iload_n 3, 1) := dk_29 (dk_at dksX12_law_13 8 rfl rfl)
theorem dX12_law_306 : decode cX12_law 306 = .ok (.iaload, 1) := dk_46 (dk_at dksX12_law_13 9 rfl rfl)
theorem dX12_law_307 : decode cX12_law 307 = .ok (.iastore, 1) := dk_79 (dk_at dksX12_law_13 10 rfl rfl)
theorem dX12_law_308 : decode cX12_law 308 = .ok (.iinc 3 1, 3) := dk_132 3 1 (dk_at dksX12_law_13 11 rfl rfl)
theorem dX12_law_311 : decode cX12_law 311 = .ok (.goto (-35), 3) := dk_167 255 221 (dk_at dksX12_law_13 14 rfl rfl)
theorem dX12_law_314 : decode cX12_law 314 = .ok (.aload_n 0, 1) := dk_42 (dk_at dksX12_law_13 17 rfl rfl)
theorem dX12_law_315 : decode cX12_law 315 = .ok (.iconst 0, 1) := dk_3 (dk_at dksX12_law_13 18 rfl rfl)
theorem dX12_law_316 : decode cX12_law 316 = .ok (.putfield 311, 3) := dk_181 1 55 (dk_at dksX12_law_13 19 rfl rfl)
theorem dX12_law_319 : decode cX12_law 319 = .ok (.aload_n 0, 1) := dk_42 (dk_at dksX12_law_13 22 rfl rfl)
theorem dX12_law_320 : decode cX12_law 320 = .ok (.getfield 256, 3) := dk_180 1 0 (dk_at dksX12_law_14 0 rfl rfl)
theorem dX12_law_323 : decode cX12_law 323 = .ok (.ireturn, 1) := dk_172 (dk_at dksX12_law_14 3 rfl rfl)
abbrev cX12_anyOf : ByteArray := prog_27_method_38_code
def yX12_anyOf : MethodName := ⟨RX12, "anyOf", "()V"⟩
def dkwX12_anyOf_1 : List UInt8 := [42, 182, 0, 178, 42, 182, 1, 44, 42, 16, 11, 3, 182, 1, 16, 167, 255, 221, 177]
abbrev dktX12_anyOf_1 : List UInt8 := dkwX12_anyOf_1 ++ []
def dkwX12_anyOf_0 : List UInt8 := [42, 182, 1, 44, 42, 182, 0, 153, 153, 0, 34, 42, 182, 0, 167, 19, 1, 47, 184, 0, 172, 160, 0, 21]
abbrev dktX12_anyOf_0 : List UInt8 := dkwX12_anyOf_0 ++ dktX12_anyOf_1
theorem dksX12_anyOf_0 : cX12_anyOf.data.toList.drop 0 = dktX12_anyOf_0 := by decide +kernel
theorem dksX12_anyOf_1 : cX12_anyOf.data.toList.drop 24 = dktX12_anyOf_1 := dk_seg dksX12_anyOf_0 24 rfl rfl
theorem dX12_anyOf_0 : decode cX12_anyOf 0 = .ok (.aload_n 0, 1) := dk_42 (dk_at dksX12_anyOf_0 0 rfl rfl)
theorem dX12_anyOf_1 : decode cX12_anyOf 1 = .ok (.invokevirtual 300, 3) := dk_182 1 44 (dk_at dksX12_anyOf_0 1 rfl rfl)
theorem dX12_anyOf_4 : decode cX12_anyOf 4 = .ok (.aload_n 0, 1) := dk_42 (dk_at dksX12_anyOf_0 4 rfl rfl)
theorem dX12_anyOf_5 : decode cX12_anyOf 5 = .ok (.invokevirtual 153, 3) := dk_182 0 153 (dk_at dksX12_anyOf_0 5 rfl rfl)
theorem dX12_anyOf_8 : decode cX12_anyOf 8 = .ok (.ifCond .eq 34, 3) := dk_153 0 34 (dk_at dksX12_anyOf_0 8 rfl rfl)
theorem dX12_anyOf_11 : decode cX12_anyOf 11 = .ok (.aload_n 0, 1) := dk_42 (dk_at dksX12_anyOf_0 11 rfl rfl)
theorem dX12_anyOf_12 : decode cX12_anyOf 12 = .ok (.invokevirtual 167, 3) := dk_182 0 167 (dk_at dksX12_anyOf_0 12 rfl rfl)
theorem dX12_anyOf_15 : decode cX12_anyOf 15 = .ok (.ldc_w 303, 3) := dk_19 1 47 (dk_at dksX12_anyOf_0 15 rfl rfl)
theorem dX12_anyOf_18 : decode cX12_anyOf 18 = .ok (.invokestatic 172, 3) := dk_184 0 172 (dk_at dksX12_anyOf_0 18 rfl rfl)
theorem dX12_anyOf_21 : decode cX12_anyOf 21 = .ok (.if_icmp .ne 21, 3) := dk_160 0 21 (dk_at dksX12_anyOf_0 21 rfl rfl)
theorem dX12_anyOf_24 : decode cX12_anyOf 24 = .ok (.aload_n 0, 1) := dk_42 (dk_at dksX12_anyOf_1 0 rfl rfl)
theorem dX12_anyOf_25 : decode cX12_anyOf 25 = .ok (.invokevirtual 178, 3) := dk_182 0 178 (dk_at dksX12_anyOf_1 1 rfl rfl)
theorem dX12_anyOf_28 : decode cX12_anyOf 28 = .ok (.aload_n 0, 1) := dk_42 (dk_at dksX12_anyOf_1 4 rfl rfl)
theorem dX12_anyOf_29 : decode cX12_anyOf 29 = .ok (.invokevirtual 300, 3) := dk_182 1 44 (dk_at dksX12_anyOf_1 5 rfl rfl)
theorem dX12_anyOf_32 : decode cX12_anyOf 32 = .ok (.aload_n 0, 1) := dk_42 (dk_at dksX12_anyOf_1 8 rfl rfl)
theorem dX12_anyOf_33 : decode cX12_anyOf 33 = .ok (.bipush 11, 2) := dk_16 11 (dk_at dksX12_anyOf_1 9 rfl rfl)
theorem dX12_anyOf_35 : decode cX12_anyOf 35 = .ok (.iconst 0, 1) := dk_3 (dk_at dksX12_anyOf_1 11 rfl rfl)
theorem dX12_anyOf_36 : decode cX12_anyOf 36 = .ok (.invokevirtual 272, 3) := dk_182 1 16 (dk_at dksX12_anyOf_1 12 rfl rfl)
theorem dX12_anyOf_39 : decode cX12_anyOf 39 = .ok (.goto (-35), 3) := dk_167 255 221 (dk_at dksX12_anyOf_1 15 rfl rfl)
theorem dX12_anyOf_42 : decode cX12_anyOf 42 = .ok (.return_, 1) := dk_177 (dk_at dksX12_anyOf_1 18 rfl rfl)
abbrev cX12_allOf : ByteArray := prog_27_method_37_code
def yX12_allOf : MethodName := ⟨RX12, "allOf", "()V"⟩
def dkwX12_allOf_1 : List UInt8 := [42, 182, 0, 178, 42, 182, 1, 39, 42, 16, 10, 3, 182, 1, 16, 167, 255, 221, 177]
abbrev dktX12_allOf_1 : List UInt8 := dkwX12_allOf_1 ++ []
def dkwX12_allOf_0 : List UInt8 := [42, 182, 1, 39, 42, 182, 0, 153, 153, 0, 34, 42, 182, 0, 167, 19, 1, 42, 184, 0, 172, 160, 0, 21]
abbrev dktX12_allOf_0 : List UInt8 := dkwX12_allOf_0 ++ dktX12_allOf_1
theorem dksX12_allOf_0 : cX12_allOf.data.toList.drop 0 = dktX12_allOf_0 := by decide +kernel
theorem dksX12_allOf_1 : cX12_allOf.data.toList.drop 24 = dktX12_allOf_1 := dk_seg dksX12_allOf_0 24 rfl rfl
theorem dX12_allOf_0 : decode cX12_allOf 0 = .ok (.aload_n 0, 1) := dk_42 (dk_at dksX12_allOf_0 0 rfl rfl)
theorem dX12_allOf_1 : decode cX12_allOf 1 = .ok (.invokevirtual 295, 3) := dk_182 1 39 (dk_at dksX12_allOf_0 1 rfl rfl)
theorem dX12_allOf_4 : decode cX12_allOf 4 = .ok (.aload_n 0, 1) := dk_42 (dk_at dksX12_allOf_0 4 rfl rfl)
theorem dX12_allOf_5 : decode cX12_allOf 5 = .ok (.invokevirtual 153, 3) := dk_182 0 153 (dk_at dksX12_allOf_0 5 rfl rfl)
theorem dX12_allOf_8 : decode cX12_allOf 8 = .ok (.ifCond .eq 34, 3) := dk_153 0 34 (dk_at dksX12_allOf_0 8 rfl rfl)
theorem dX12_allOf_11 : decode cX12_allOf 11 = .ok (.aload_n 0, 1) := dk_42 (dk_at dksX12_allOf_0 11 rfl rfl)
theorem dX12_allOf_12 : decode cX12_allOf 12 = .ok (.invokevirtual 167, 3) := dk_182 0 167 (dk_at dksX12_allOf_0 12 rfl rfl)
theorem dX12_allOf_15 : decode cX12_allOf 15 = .ok (.ldc_w 298, 3) := dk_19 1 42 (dk_at dksX12_allOf_0 15 rfl rfl)
theorem dX12_allOf_18 : decode cX12_allOf 18 = .ok (.invokestatic 172, 3) := dk_184 0 172 (dk_at dksX12_allOf_0 18 rfl rfl)
theorem dX12_allOf_21 : decode cX12_allOf 21 = .ok (.if_icmp .ne 21, 3) := dk_160 0 21 (dk_at dksX12_allOf_0 21 rfl rfl)
theorem dX12_allOf_24 : decode cX12_allOf 24 = .ok (.aload_n 0, 1) := dk_42 (dk_at dksX12_allOf_1 0 rfl rfl)
theorem dX12_allOf_25 : decode cX12_allOf 25 = .ok (.invokevirtual 178, 3) := dk_182 0 178 (dk_at dksX12_allOf_1 1 rfl rfl)
theorem dX12_allOf_28 : decode cX12_allOf 28 = .ok (.aload_n 0, 1) := dk_42 (dk_at dksX12_allOf_1 4 rfl rfl)
theorem dX12_allOf_29 : decode cX12_allOf 29 = .ok (.invokevirtual 295, 3) := dk_182 1 39 (dk_at dksX12_allOf_1 5 rfl rfl)
theorem dX12_allOf_32 : decode cX12_allOf 32 = .ok (.aload_n 0, 1) := dk_42 (dk_at dksX12_allOf_1 8 rfl rfl)
theorem dX12_allOf_33 : decode cX12_allOf 33 = .ok (.bipush 10, 2) := dk_16 10 (dk_at dksX12_allOf_1 9 rfl rfl)
theorem dX12_allOf_35 : decode cX12_allOf 35 = .ok (.iconst 0, 1) := dk_3 (dk_at dksX12_allOf_1 11 rfl rfl)
theorem dX12_allOf_36 : decode cX12_allOf 36 = .ok (.invokevirtual 272, 3) := dk_182 1 16 (dk_at dksX12_allOf_1 12 rfl rfl)
theorem dX12_allOf_39 : decode cX12_allOf 39 = .ok (.goto (-35), 3) := dk_167 255 221 (dk_at dksX12_allOf_1 15 rfl rfl)
theorem dX12_allOf_42 : decode cX12_allOf 42 = .ok (.return_, 1) := dk_177 (dk_at dksX12_allOf_1 18 rfl rfl)
abbrev cX12_oneOf : ByteArray := prog_27_method_36_code
def yX12_oneOf : MethodName := ⟨RX12, "oneOf", "()V"⟩
def dkwX12_oneOf_7 : List UInt8 := [3, 182, 1, 16, 177]
abbrev dktX12_oneOf_7 : List UInt8 := dkwX12_oneOf_7 ++ []
def dkwX12_oneOf_6 : List UInt8 := [27, 16, 60, 160, 0, 8, 16, 6, 167, 0, 16, 27, 16, 62, 160, 0, 8, 16, 7, 167, 0, 5, 16, 8]
abbrev dktX12_oneOf_6 : List UInt8 := dkwX12_oneOf_6 ++ dktX12_oneOf_7
def dkwX12_oneOf_5 : List UInt8 := [4, 42, 180, 0, 130, 182, 0, 160, 177, 42, 89, 180, 0, 130, 4, 96, 181, 0, 130, 42, 182, 1, 22, 42]
abbrev dktX12_oneOf_5 : List UInt8 := dkwX12_oneOf_5 ++ dktX12_oneOf_6
def dkwX12_oneOf_4 : List UInt8 := [42, 182, 0, 136, 60, 27, 16, 60, 159, 0, 25, 27, 16, 62, 159, 0, 19, 27, 16, 61, 159, 0, 13, 42]
abbrev dktX12_oneOf_4 : List UInt8 := dkwX12_oneOf_4 ++ dktX12_oneOf_5
def dkwX12_oneOf_3 : List UInt8 := [100, 181, 0, 164, 42, 16, 9, 3, 182, 1, 16, 177, 42, 182, 1, 22, 42, 182, 0, 153, 154, 0, 4, 177]
abbrev dktX12_oneOf_3 : List UInt8 := dkwX12_oneOf_3 ++ dktX12_oneOf_4
def dkwX12_oneOf_2 : List UInt8 := [19, 1, 37, 184, 0, 172, 160, 0, 30, 42, 6, 182, 1, 19, 42, 182, 1, 39, 42, 89, 180, 0, 164, 4]
abbrev dktX12_oneOf_2 : List UInt8 := dkwX12_oneOf_2 ++ dktX12_oneOf_3
def dkwX12_oneOf_1 : List UInt8 := [182, 1, 34, 42, 16, 93, 182, 0, 246, 42, 89, 180, 0, 164, 4, 100, 181, 0, 164, 177, 42, 182, 0, 167]
abbrev dktX12_oneOf_1 : List UInt8 := dkwX12_oneOf_1 ++ dktX12_oneOf_2
def dkwX12_oneOf_0 : List UInt8 := [42, 182, 0, 153, 154, 0, 4, 177, 42, 182, 0, 136, 16, 91, 160, 0, 29, 42, 4, 182, 1, 19, 42]
abbrev dktX12_oneOf_0 : List UInt8 := dkwX12_oneOf_0 ++ dktX12_oneOf_1
theorem dksX12_oneOf_0 : cX12_oneOf.data.toList.drop 0 = dktX12_oneOf_0 := by decide +kernel
theorem dksX12_oneOf_1 : cX12_oneOf.data.toList.drop 23 = dktX12_oneOf_1 := dk_seg dksX12_oneOf_0 23 rfl rfl
theorem dksX12_oneOf_2 : cX12_oneOf.data.toList.drop 47 = dktX12_oneOf_2 := dk_seg dksX12_oneOf_1 24 rfl rfl
theorem dksX12_oneOf_3 : cX12_oneOf.data.toList.drop 71 = dktX12_oneOf_3 := dk_seg dksX12_oneOf_2 24 rfl rfl
theorem dksX12_oneOf_4 : cX12_oneOf.data.toList.drop 95 = dktX12_oneOf_4 := dk_seg dksX12_oneOf_3 24 rfl rfl
theorem dksX12_oneOf_5 : cX12_oneOf.data.toList.drop 119 = dktX12_oneOf_5 := dk_seg dksX12_oneOf_4 24 rfl rfl
theorem dksX12_oneOf_6 : cX12_oneOf.data.toList.drop 143 = dktX12_oneOf_6 := dk_seg dksX12_oneOf_5 24 rfl rfl
theorem dksX12_oneOf_7 : cX12_oneOf.data.toList.drop 167 = dktX12_oneOf_7 := dk_seg dksX12_oneOf_6 24 rfl rfl
theorem dX12_oneOf_0 : decode cX12_oneOf 0 = .ok (.aload_n 0, 1) := dk_42 (dk_at dksX12_oneOf_0 0 rfl rfl)
theorem dX12_oneOf_1 : decode cX12_oneOf 1 = .ok (.invokevirtual 153, 3) := dk_182 0 153 (dk_at dksX12_oneOf_0 1 rfl rfl)
theorem dX12_oneOf_4 : decode cX12_oneOf 4 = .ok (.ifCond .ne 4, 3) := dk_154 0 4 (dk_at dksX12_oneOf_0 4 rfl rfl)
theorem dX12_oneOf_7 : decode cX12_oneOf 7 = .ok (.return_, 1) := dk_177 (dk_at dksX12_oneOf_0 7 rfl rfl)
theorem dX12_oneOf_8 : decode cX12_oneOf 8 = .ok (.aload_n 0, 1) := dk_42 (dk_at dksX12_oneOf_0 8 rfl rfl)
theorem dX12_oneOf_9 : decode cX12_oneOf 9 = .ok (.invokevirtual 136, 3) := dk_182 0 136 (dk_at dksX12_oneOf_0 9 rfl rfl)
theorem dX12_oneOf_12 : decode cX12_oneOf 12 = .ok (.bipush 91, 2) := dk_16 91 (dk_at dksX12_oneOf_0 12 rfl rfl)
theorem dX12_oneOf_14 : decode cX12_oneOf 14 = .ok (.if_icmp .ne 29, 3) := dk_160 0 29 (dk_at dksX12_oneOf_0 14 rfl rfl)
theorem dX12_oneOf_17 : decode cX12_oneOf 17 = .ok (.aload_n 0, 1) := dk_42 (dk_at dksX12_oneOf_0 17 rfl rfl)
theorem dX12_oneOf_18 : decode cX12_oneOf 18 = .ok (.iconst 1, 1) := dk_4 (dk_at dksX12_oneOf_0 18 rfl rfl)
theorem dX12_oneOf_19 : decode cX12_oneOf 19 = .ok (.invokevirtual 275, 3) := dk_182 1 19 (dk_at dksX12_oneOf_0 19 rfl rfl)
theorem dX12_oneOf_22 : decode cX12_oneOf 22 = .ok (.aload_n 0, 1) := dk_42 (dk_at dksX12_oneOf_0 22 rfl rfl)
theorem dX12_oneOf_23 : decode cX12_oneOf 23 = .ok (.invokevirtual 290, 3) := dk_182 1 34 (dk_at dksX12_oneOf_1 0 rfl rfl)
theorem dX12_oneOf_26 : decode cX12_oneOf 26 = .ok (.aload_n 0, 1) := dk_42 (dk_at dksX12_oneOf_1 3 rfl rfl)
theorem dX12_oneOf_27 : decode cX12_oneOf 27 = .ok (.bipush 93, 2) := dk_16 93 (dk_at dksX12_oneOf_1 4 rfl rfl)
theorem dX12_oneOf_29 : decode cX12_oneOf 29 = .ok (.invokevirtual 246, 3) := dk_182 0 246 (dk_at dksX12_oneOf_1 6 rfl rfl)
theorem dX12_oneOf_32 : decode cX12_oneOf 32 = .ok (.aload_n 0, 1) := dk_42 (dk_at dksX12_oneOf_1 9 rfl rfl)
theorem dX12_oneOf_33 : decode cX12_oneOf 33 = .ok (.dup, 1) := dk_89 (dk_at dksX12_oneOf_1 10 rfl rfl)
theorem dX12_oneOf_34 : decode cX12_oneOf 34 = .ok (.getfield 164, 3) := dk_180 0 164 (dk_at dksX12_oneOf_1 11 rfl rfl)
theorem dX12_oneOf_37 : decode cX12_oneOf 37 = .ok (.iconst 1, 1) := dk_4 (dk_at dksX12_oneOf_1 14 rfl rfl)
theorem dX12_oneOf_38 : decode cX12_oneOf 38 = .ok (.isub, 1) := dk_100 (dk_at dksX12_oneOf_1 15 rfl rfl)
theorem dX12_oneOf_39 : decode cX12_oneOf 39 = .ok (.putfield 164, 3) := dk_181 0 164 (dk_at dksX12_oneOf_1 16 rfl rfl)
theorem dX12_oneOf_42 : decode cX12_oneOf 42 = .ok (.return_, 1) := dk_177 (dk_at dksX12_oneOf_1 19 rfl rfl)
theorem dX12_oneOf_43 : decode cX12_oneOf 43 = .ok (.aload_n 0, 1) := dk_42 (dk_at dksX12_oneOf_1 20 rfl rfl)
theorem dX12_oneOf_44 : decode cX12_oneOf 44 = .ok (.invokevirtual 167, 3) := dk_182 0 167 (dk_at dksX12_oneOf_1 21 rfl rfl)
theorem dX12_oneOf_47 : decode cX12_oneOf 47 = .ok (.ldc_w 293, 3) := dk_19 1 37 (dk_at dksX12_oneOf_2 0 rfl rfl)
theorem dX12_oneOf_50 : decode cX12_oneOf 50 = .ok (.invokestatic 172, 3) := dk_184 0 172 (dk_at dksX12_oneOf_2 3 rfl rfl)
theorem dX12_oneOf_53 : decode cX12_oneOf 53 = .ok (.if_icmp .ne 30, 3) := dk_160 0 30 (dk_at dksX12_oneOf_2 6 rfl rfl)
theorem dX12_oneOf_56 : decode cX12_oneOf 56 = .ok (.aload_n 0, 1) := dk_42 (dk_at dksX12_oneOf_2 9 rfl rfl)
theorem dX12_oneOf_57 : decode cX12_oneOf 57 = .ok (.iconst 3, 1) := dk_6 (dk_at dksX12_oneOf_2 10 rfl rfl)
theorem dX12_oneOf_58 : decode cX12_oneOf 58 = .ok (.invokevirtual 275, 3) := dk_182 1 19 (dk_at dksX12_oneOf_2 11 rfl rfl)
theorem dX12_oneOf_61 : decode cX12_oneOf 61 = .ok (.aload_n 0, 1) := dk_42 (dk_at dksX12_oneOf_2 14 rfl rfl)
theorem dX12_oneOf_62 : decode cX12_oneOf 62 = .ok (.invokevirtual 295, 3) := dk_182 1 39 (dk_at dksX12_oneOf_2 15 rfl rfl)
theorem dX12_oneOf_65 : decode cX12_oneOf 65 = .ok (.aload_n 0, 1) := dk_42 (dk_at dksX12_oneOf_2 18 rfl rfl)
theorem dX12_oneOf_66 : decode cX12_oneOf 66 = .ok (.dup, 1) := dk_89 (dk_at dksX12_oneOf_2 19 rfl rfl)
theorem dX12_oneOf_67 : decode cX12_oneOf 67 = .ok (.getfield 164, 3) := dk_180 0 164 (dk_at dksX12_oneOf_2 20 rfl rfl)
theorem dX12_oneOf_70 : decode cX12_oneOf 70 = .ok (.iconst 1, 1) := dk_4 (dk_at dksX12_oneOf_2 23 rfl rfl)
theorem dX12_oneOf_71 : decode cX12_oneOf 71 = .ok (.isub, 1) := dk_100 (dk_at dksX12_oneOf_3 0 rfl rfl)
theorem dX12_oneOf_72 : decode cX12_oneOf 72 = .ok (.putfield 164, 3) := dk_181 0 164 (dk_at dksX12_oneOf_3 1 rfl rfl)
theorem dX12_oneOf_75 : decode cX12_oneOf 75 = .ok (.aload_n 0, 1) := dk_42 (dk_at dksX12_oneOf_3 4 rfl rfl)
theorem dX12_oneOf_76 : decode cX12_oneOf 76 = .ok (.bipush 9, 2) := dk_16 9 (dk_at dksX12_oneOf_3 5 rfl rfl)
theorem dX12_oneOf_78 : decode cX12_oneOf 78 = .ok (.iconst 0, 1) := dk_3 (dk_at dksX12_oneOf_3 7 rfl rfl)
theorem dX12_oneOf_79 : decode cX12_oneOf 79 = .ok (.invokevirtual 272, 3) := dk_182 1 16 (dk_at dksX12_oneOf_3 8 rfl rfl)
theorem dX12_oneOf_82 : decode cX12_oneOf 82 = .ok (.return_, 1) := dk_177 (dk_at dksX12_oneOf_3 11 rfl rfl)
theorem dX12_oneOf_83 : decode cX12_oneOf 83 = .ok (.aload_n 0, 1) := dk_42 (dk_at dksX12_oneOf_3 12 rfl rfl)
theorem dX12_oneOf_84 : decode cX12_oneOf 84 = .ok (.invokevirtual 278, 3) := dk_182 1 22 (dk_at dksX12_oneOf_3 13 rfl rfl)
theorem dX12_oneOf_87 : decode cX12_oneOf 87 = .ok (.aload_n 0, 1) := dk_42 (dk_at dksX12_oneOf_3 16 rfl rfl)
theorem dX12_oneOf_88 : decode cX12_oneOf 88 = .ok (.invokevirtual 153, 3) := dk_182 0 153 (dk_at dksX12_oneOf_3 17 rfl rfl)
theorem dX12_oneOf_91 : decode cX12_oneOf 91 = .ok (.ifCond .ne 4, 3) := dk_154 0 4 (dk_at dksX12_oneOf_3 20 rfl rfl)
theorem dX12_oneOf_94 : decode cX12_oneOf 94 = .ok (.return_, 1) := dk_177 (dk_at dksX12_oneOf_3 23 rfl rfl)
theorem dX12_oneOf_95 : decode cX12_oneOf 95 = .ok (.aload_n 0, 1) := dk_42 (dk_at dksX12_oneOf_4 0 rfl rfl)
theorem dX12_oneOf_96 : decode cX12_oneOf 96 = .ok (.invokevirtual 136, 3) := dk_182 0 136 (dk_at dksX12_oneOf_4 1 rfl rfl)
theorem dX12_oneOf_99 : decode cX12_oneOf 99 = .ok (.istore_n 1, 1) := dk_60 (dk_at dksX12_oneOf_4 4 rfl rfl)
theorem dX12_oneOf_100 : decode cX12_oneOf 100 = .ok (.iload_n 1, 1) := dk_27 (dk_at dksX12_oneOf_4 5 rfl rfl)
theorem dX12_oneOf_101 : decode cX12_oneOf 101 = .ok (.bipush 60, 2) := dk_16 60 (dk_at dksX12_oneOf_4 6 rfl rfl)
theorem dX12_oneOf_103 : decode cX12_oneOf 103 = .ok (.if_icmp .eq 25, 3) := dk_159 0 25 (dk_at dksX12_oneOf_4 8 rfl rfl)
theorem dX12_oneOf_106 : decode cX12_oneOf 106 = .ok (.iload_n 1, 1) := dk_27 (dk_at dksX12_oneOf_4 11 rfl rfl)
theorem dX12_oneOf_107 : decode cX12_oneOf 107 = .ok (.bipush 62, 2) := dk_16 62 (dk_at dksX12_oneOf_4 12 rfl rfl)
theorem dX12_oneOf_109 : decode cX12_oneOf 109 = .ok (.if_icmp .eq 19, 3) := dk_159 0 19 (dk_at dksX12_oneOf_4 14 rfl rfl)
theorem dX12_oneOf_112 : decode cX12_oneOf 112 = .ok (.iload_n 1, 1) := dk_27 (dk_at dksX12_oneOf_4 17 rfl rfl)
theorem dX12_oneOf_113 : decode cX12_oneOf 113 = .ok (.bipush 61, 2) := dk_16 61 (dk_at dksX12_oneOf_4 18 rfl rfl)
theorem dX12_oneOf_115 : decode cX12_oneOf 115 = .ok (.if_icmp .eq 13, 3) := dk_159 0 13 (dk_at dksX12_oneOf_4 20 rfl rfl)
theorem dX12_oneOf_118 : decode cX12_oneOf 118 = .ok (.aload_n 0, 1) := dk_42 (dk_at dksX12_oneOf_4 23 rfl rfl)
theorem dX12_oneOf_119 : decode cX12_oneOf 119 = .ok (.iconst 1, 1) := dk_4 (dk_at dksX12_oneOf_5 0 rfl rfl)
theorem dX12_oneOf_120 : decode cX12_oneOf 120 = .ok (.aload_n 0, 1) := dk_42 (dk_at dksX12_oneOf_5 1 rfl rfl)
theorem dX12_oneOf_121 : decode cX12_oneOf 121 = .ok (.getfield 130, 3) := dk_180 0 130 (dk_at dksX12_oneOf_5 2 rfl rfl)
theorem dX12_oneOf_124 : decode cX12_oneOf 124 = .ok (.invokevirtual 160, 3) := dk_182 0 160 (dk_at dksX12_oneOf_5 5 rfl rfl)
theorem dX12_oneOf_127 : decode cX12_oneOf 127 = .ok (.return_, 1) := dk_177 (dk_at dksX12_oneOf_5 8 rfl rfl)
theorem dX12_oneOf_128 : decode cX12_oneOf 128 = .ok (.aload_n 0, 1) := dk_42 (dk_at dksX12_oneOf_5 9 rfl rfl)
theorem dX12_oneOf_129 : decode cX12_oneOf 129 = .ok (.dup, 1) := dk_89 (dk_at dksX12_oneOf_5 10 rfl rfl)
theorem dX12_oneOf_130 : decode cX12_oneOf 130 = .ok (.getfield 130, 3) := dk_180 0 130 (dk_at dksX12_oneOf_5 11 rfl rfl)
theorem dX12_oneOf_133 : decode cX12_oneOf 133 = .ok (.iconst 1, 1) := dk_4 (dk_at dksX12_oneOf_5 14 rfl rfl)
theorem dX12_oneOf_134 : decode cX12_oneOf 134 = .ok (.iadd, 1) := dk_96 (dk_at dksX12_oneOf_5 15 rfl rfl)
theorem dX12_oneOf_135 : decode cX12_oneOf 135 = .ok (.putfield 130, 3) := dk_181 0 130 (dk_at dksX12_oneOf_5 16 rfl rfl)
theorem dX12_oneOf_138 : decode cX12_oneOf 138 = .ok (.aload_n 0, 1) := dk_42 (dk_at dksX12_oneOf_5 19 rfl rfl)
theorem dX12_oneOf_139 : decode cX12_oneOf 139 = .ok (.invokevirtual 278, 3) := dk_182 1 22 (dk_at dksX12_oneOf_5 20 rfl rfl)
theorem dX12_oneOf_142 : decode cX12_oneOf 142 = .ok (.aload_n 0, 1) := dk_42 (dk_at dksX12_oneOf_5 23 rfl rfl)
theorem dX12_oneOf_143 : decode cX12_oneOf 143 = .ok (.iload_n 1, 1) := dk_27 (dk_at dksX12_oneOf_6 0 rfl rfl)
theorem dX12_oneOf_144 : decode cX12_oneOf 144 = .ok (.bipush 60, 2) := dk_16 60 (dk_at dksX12_oneOf_6 1 rfl rfl)
theorem dX12_oneOf_146 : decode cX12_oneOf 146 = .ok (.if_icmp .ne 8, 3) := dk_160 0 8 (dk_at dksX12_oneOf_6 3 rfl rfl)
theorem dX12_oneOf_149 : decode cX12_oneOf 149 = .ok (.bipush 6, 2) := dk_16 6 (dk_at dksX12_oneOf_6 6 rfl rfl)
theorem dX12_oneOf_151 : decode cX12_oneOf 151 = .ok (.goto 16, 3) := dk_167 0 16 (dk_at dksX12_oneOf_6 8 rfl rfl)
theorem dX12_oneOf_154 : decode cX12_oneOf 154 = .ok (.iload_n 1, 1) := dk_27 (dk_at dksX12_oneOf_6 11 rfl rfl)
theorem dX12_oneOf_155 : decode cX12_oneOf 155 = .ok (.bipush 62, 2) := dk_16 62 (dk_at dksX12_oneOf_6 12 rfl rfl)
theorem dX12_oneOf_157 : decode cX12_oneOf 157 = .ok (.if_icmp .ne 8, 3) := dk_160 0 8 (dk_at dksX12_oneOf_6 14 rfl rfl)
theorem dX12_oneOf_160 : decode cX12_oneOf 160 = .ok (.bipush 7, 2) := dk_16 7 (dk_at dksX12_oneOf_6 17 rfl rfl)
theorem dX12_oneOf_162 : decode cX12_oneOf 162 = .ok (.goto 5, 3) := dk_167 0 5 (dk_at dksX12_oneOf_6 19 rfl rfl)
theorem dX12_oneOf_165 : decode cX12_oneOf 165 = .ok (.bipush 8, 2) := dk_16 8 (dk_at dksX12_oneOf_6 22 rfl rfl)
theorem dX12_oneOf_167 : decode cX12_oneOf 167 = .ok (.iconst 0, 1) := dk_3 (dk_at dksX12_oneOf_7 0 rfl rfl)
theorem dX12_oneOf_168 : decode cX12_oneOf 168 = .ok (.invokevirtual 272, 3) := dk_182 1 16 (dk_at dksX12_oneOf_7 1 rfl rfl)
theorem dX12_oneOf_171 : decode cX12_oneOf 171 = .ok (.return_, 1) := dk_177 (dk_at dksX12_oneOf_7 4 rfl rfl)
abbrev cX12_opensOne : ByteArray := prog_27_method_31_code
def yX12_opensOne : MethodName := ⟨RX12, "opensOne", "(I)V"⟩
def dkwX12_opensOne_2 : List UInt8 := [180, 0, 164, 4, 96, 181, 0, 164, 177]
abbrev dktX12_opensOne_2 : List UInt8 := dkwX12_opensOne_2 ++ []
def dkwX12_opensOne_1 : List UInt8 := [182, 0, 160, 42, 182, 0, 153, 153, 0, 13, 42, 89, 180, 0, 130, 27, 96, 181, 0, 130, 42, 89]
abbrev dktX12_opensOne_1 : List UInt8 := dkwX12_opensOne_1 ++ dktX12_opensOne_2
def dkwX12_opensOne_0 : List UInt8 := [42, 182, 0, 153, 153, 0, 21, 42, 180, 0, 164, 16, 6, 160, 0, 12, 42, 6, 42, 180, 0, 130]
abbrev dktX12_opensOne_0 : List UInt8 := dkwX12_opensOne_0 ++ dktX12_opensOne_1
theorem dksX12_opensOne_0 : cX12_opensOne.data.toList.drop 0 = dktX12_opensOne_0 := by decide +kernel
theorem dksX12_opensOne_1 : cX12_opensOne.data.toList.drop 22 = dktX12_opensOne_1 := dk_seg dksX12_opensOne_0 22 rfl rfl
theorem dksX12_opensOne_2 : cX12_opensOne.data.toList.drop 44 = dktX12_opensOne_2 := dk_seg dksX12_opensOne_1 22 rfl rfl
theorem dX12_opensOne_0 : decode cX12_opensOne 0 = .ok (.aload_n 0, 1) := dk_42 (dk_at dksX12_opensOne_0 0 rfl rfl)
theorem dX12_opensOne_1 : decode cX12_opensOne 1 = .ok (.invokevirtual 153, 3) := dk_182 0 153 (dk_at dksX12_opensOne_0 1 rfl rfl)
theorem dX12_opensOne_4 : decode cX12_opensOne 4 = .ok (.ifCond .eq 21, 3) := dk_153 0 21 (dk_at dksX12_opensOne_0 4 rfl rfl)
theorem dX12_opensOne_7 : decode cX12_opensOne 7 = .ok (.aload_n 0, 1) := dk_42 (dk_at dksX12_opensOne_0 7 rfl rfl)
theorem dX12_opensOne_8 : decode cX12_opensOne 8 = .ok (.getfield 164, 3) := dk_180 0 164 (dk_at dksX12_opensOne_0 8 rfl rfl)
theorem dX12_opensOne_11 : decode cX12_opensOne 11 = .ok (.bipush 6, 2) := dk_16 6 (dk_at dksX12_opensOne_0 11 rfl rfl)
theorem dX12_opensOne_13 : decode cX12_opensOne 13 = .ok (.if_icmp .ne 12, 3) := dk_160 0 12 (dk_at dksX12_opensOne_0 13 rfl rfl)
theorem dX12_opensOne_16 : decode cX12_opensOne 16 = .ok (.aload_n 0, 1) := dk_42 (dk_at dksX12_opensOne_0 16 rfl rfl)
theorem dX12_opensOne_17 : decode cX12_opensOne 17 = .ok (.iconst 3, 1) := dk_6 (dk_at dksX12_opensOne_0 17 rfl rfl)
theorem dX12_opensOne_18 : decode cX12_opensOne 18 = .ok (.aload_n 0, 1) := dk_42 (dk_at dksX12_opensOne_0 18 rfl rfl)
theorem dX12_opensOne_19 : decode cX12_opensOne 19 = .ok (.getfield 130, 3) := dk_180 0 130 (dk_at dksX12_opensOne_0 19 rfl rfl)
theorem dX12_opensOne_22 : decode cX12_opensOne 22 = .ok (.invokevirtual 160, 3) := dk_182 0 160 (dk_at dksX12_opensOne_1 0 rfl rfl)
theorem dX12_opensOne_25 : decode cX12_opensOne 25 = .ok (.aload_n 0, 1) := dk_42 (dk_at dksX12_opensOne_1 3 rfl rfl)
theorem dX12_opensOne_26 : decode cX12_opensOne 26 = .ok (.invokevirtual 153, 3) := dk_182 0 153 (dk_at dksX12_opensOne_1 4 rfl rfl)
theorem dX12_opensOne_29 : decode cX12_opensOne 29 = .ok (.ifCond .eq 13, 3) := dk_153 0 13 (dk_at dksX12_opensOne_1 7 rfl rfl)
theorem dX12_opensOne_32 : decode cX12_opensOne 32 = .ok (.aload_n 0, 1) := dk_42 (dk_at dksX12_opensOne_1 10 rfl rfl)
theorem dX12_opensOne_33 : decode cX12_opensOne 33 = .ok (.dup, 1) := dk_89 (dk_at dksX12_opensOne_1 11 rfl rfl)
theorem dX12_opensOne_34 : decode cX12_opensOne 34 = .ok (.getfield 130, 3) := dk_180 0 130 (dk_at dksX12_opensOne_1 12 rfl rfl)
theorem dX12_opensOne_37 : decode cX12_opensOne 37 = .ok (.iload_n 1, 1) := dk_27 (dk_at dksX12_opensOne_1 15 rfl rfl)
theorem dX12_opensOne_38 : decode cX12_opensOne 38 = .ok (.iadd, 1) := dk_96 (dk_at dksX12_opensOne_1 16 rfl rfl)
theorem dX12_opensOne_39 : decode cX12_opensOne 39 = .ok (.putfield 130, 3) := dk_181 0 130 (dk_at dksX12_opensOne_1 17 rfl rfl)
theorem dX12_opensOne_42 : decode cX12_opensOne 42 = .ok (.aload_n 0, 1) := dk_42 (dk_at dksX12_opensOne_1 20 rfl rfl)
theorem dX12_opensOne_43 : decode cX12_opensOne 43 = .ok (.dup, 1) := dk_89 (dk_at dksX12_opensOne_1 21 rfl rfl)
theorem dX12_opensOne_44 : decode cX12_opensOne 44 = .ok (.getfield 164, 3) := dk_180 0 164 (dk_at dksX12_opensOne_2 0 rfl rfl)
theorem dX12_opensOne_47 : decode cX12_opensOne 47 = .ok (.iconst 1, 1) := dk_4 (dk_at dksX12_opensOne_2 3 rfl rfl)
theorem dX12_opensOne_48 : decode cX12_opensOne 48 = .ok (.iadd, 1) := dk_96 (dk_at dksX12_opensOne_2 4 rfl rfl)
theorem dX12_opensOne_49 : decode cX12_opensOne 49 = .ok (.putfield 164, 3) := dk_181 0 164 (dk_at dksX12_opensOne_2 5 rfl rfl)
theorem dX12_opensOne_52 : decode cX12_opensOne 52 = .ok (.return_, 1) := dk_177 (dk_at dksX12_opensOne_2 8 rfl rfl)
abbrev cX12_emit : ByteArray := prog_27_method_30_code
def yX12_emit : MethodName := ⟨RX12, "emit", "(II)V"⟩
def dkwX12_emit_1 : List UInt8 := [180, 1, 3, 28, 79, 42, 89, 180, 1, 3, 4, 96, 181, 1, 3, 177]
abbrev dktX12_emit_1 : List UInt8 := dkwX12_emit_1 ++ []
def dkwX12_emit_0 : List UInt8 := [42, 182, 0, 153, 154, 0, 4, 177, 42, 180, 0, 35, 42, 180, 1, 3, 27, 79, 42, 180, 0, 38, 42]
abbrev dktX12_emit_0 : List UInt8 := dkwX12_emit_0 ++ dktX12_emit_1
theorem dksX12_emit_0 : cX12_emit.data.toList.drop 0 = dktX12_emit_0 := by decide +kernel
theorem dksX12_emit_1 : cX12_emit.data.toList.drop 23 = dktX12_emit_1 := dk_seg dksX12_emit_0 23 rfl rfl
theorem dX12_emit_0 : decode cX12_emit 0 = .ok (.aload_n 0, 1) := dk_42 (dk_at dksX12_emit_0 0 rfl rfl)
theorem dX12_emit_1 : decode cX12_emit 1 = .ok (.invokevirtual 153, 3) := dk_182 0 153 (dk_at dksX12_emit_0 1 rfl rfl)
theorem dX12_emit_4 : decode cX12_emit 4 = .ok (.ifCond .ne 4, 3) := dk_154 0 4 (dk_at dksX12_emit_0 4 rfl rfl)
theorem dX12_emit_7 : decode cX12_emit 7 = .ok (.return_, 1) := dk_177 (dk_at dksX12_emit_0 7 rfl rfl)
theorem dX12_emit_8 : decode cX12_emit 8 = .ok (.aload_n 0, 1) := dk_42 (dk_at dksX12_emit_0 8 rfl rfl)
theorem dX12_emit_9 : decode cX12_emit 9 = .ok (.getfield 35, 3) := dk_180 0 35 (dk_at dksX12_emit_0 9 rfl rfl)
theorem dX12_emit_12 : decode cX12_emit 12 = .ok (.aload_n 0, 1) := dk_42 (dk_at dksX12_emit_0 12 rfl rfl)
theorem dX12_emit_13 : decode cX12_emit 13 = .ok (.getfield 259, 3) := dk_180 1 3 (dk_at dksX12_emit_0 13 rfl rfl)
theorem dX12_emit_16 : decode cX12_emit 16 = .ok (.iload_n 1, 1) := dk_27 (dk_at dksX12_emit_0 16 rfl rfl)
theorem dX12_emit_17 : decode cX12_emit 17 = .ok (.iastore, 1) := dk_79 (dk_at dksX12_emit_0 17 rfl rfl)
theorem dX12_emit_18 : decode cX12_emit 18 = .ok (.aload_n 0, 1) := dk_42 (dk_at dksX12_emit_0 18 rfl rfl)
theorem dX12_emit_19 : decode cX12_emit 19 = .ok (.getfield 38, 3) := dk_180 0 38 (dk_at dksX12_emit_0 19 rfl rfl)
theorem dX12_emit_22 : decode cX12_emit 22 = .ok (.aload_n 0, 1) := dk_42 (dk_at dksX12_emit_0 22 rfl rfl)
theorem dX12_emit_23 : decode cX12_emit 23 = .ok (.getfield 259, 3) := dk_180 1 3 (dk_at dksX12_emit_1 0 rfl rfl)
theorem dX12_emit_26 : decode cX12_emit 26 = .ok (.iload_n 2, 1) := dk_28 (dk_at dksX12_emit_1 3 rfl rfl)
theorem dX12_emit_27 : decode cX12_emit 27 = .ok (.iastore, 1) := dk_79 (dk_at dksX12_emit_1 4 rfl rfl)
theorem dX12_emit_28 : decode cX12_emit 28 = .ok (.aload_n 0, 1) := dk_42 (dk_at dksX12_emit_1 5 rfl rfl)
theorem dX12_emit_29 : decode cX12_emit 29 = .ok (.dup, 1) := dk_89 (dk_at dksX12_emit_1 6 rfl rfl)
theorem dX12_emit_30 : decode cX12_emit 30 = .ok (.getfield 259, 3) := dk_180 1 3 (dk_at dksX12_emit_1 7 rfl rfl)
theorem dX12_emit_33 : decode cX12_emit 33 = .ok (.iconst 1, 1) := dk_4 (dk_at dksX12_emit_1 10 rfl rfl)
theorem dX12_emit_34 : decode cX12_emit 34 = .ok (.iadd, 1) := dk_96 (dk_at dksX12_emit_1 11 rfl rfl)
theorem dX12_emit_35 : decode cX12_emit 35 = .ok (.putfield 259, 3) := dk_181 1 3 (dk_at dksX12_emit_1 12 rfl rfl)
theorem dX12_emit_38 : decode cX12_emit 38 = .ok (.return_, 1) := dk_177 (dk_at dksX12_emit_1 15 rfl rfl)
abbrev cX12_sum : ByteArray := prog_27_method_35_code
def yX12_sum : MethodName := ⟨RX12, "sum", "()V"⟩
def dkwX12_sum_2 : List UInt8 := [42, 27, 16, 43, 160, 0, 7, 5, 167, 0, 4, 6, 3, 182, 1, 16, 167, 255, 196, 177]
abbrev dktX12_sum_2 : List UInt8 := dkwX12_sum_2 ++ []
def dkwX12_sum_1 : List UInt8 := [16, 45, 160, 0, 41, 42, 182, 0, 136, 60, 42, 89, 180, 0, 130, 4, 96, 181, 0, 130, 42, 182, 1, 31]
abbrev dktX12_sum_1 : List UInt8 := dkwX12_sum_1 ++ dktX12_sum_2
def dkwX12_sum_0 : List UInt8 := [42, 182, 1, 31, 42, 182, 0, 153, 153, 0, 59, 42, 182, 0, 136, 16, 43, 159, 0, 12, 42, 182, 0, 136]
abbrev dktX12_sum_0 : List UInt8 := dkwX12_sum_0 ++ dktX12_sum_1
theorem dksX12_sum_0 : cX12_sum.data.toList.drop 0 = dktX12_sum_0 := by decide +kernel
theorem dksX12_sum_1 : cX12_sum.data.toList.drop 24 = dktX12_sum_1 := dk_seg dksX12_sum_0 24 rfl rfl
theorem dksX12_sum_2 : cX12_sum.data.toList.drop 48 = dktX12_sum_2 := dk_seg dksX12_sum_1 24 rfl rfl
theorem dX12_sum_0 : decode cX12_sum 0 = .ok (.aload_n 0, 1) := dk_42 (dk_at dksX12_sum_0 0 rfl rfl)
theorem dX12_sum_1 : decode cX12_sum 1 = .ok (.invokevirtual 287, 3) := dk_182 1 31 (dk_at dksX12_sum_0 1 rfl rfl)
theorem dX12_sum_4 : decode cX12_sum 4 = .ok (.aload_n 0, 1) := dk_42 (dk_at dksX12_sum_0 4 rfl rfl)
theorem dX12_sum_5 : decode cX12_sum 5 = .ok (.invokevirtual 153, 3) := dk_182 0 153 (dk_at dksX12_sum_0 5 rfl rfl)
theorem dX12_sum_8 : decode cX12_sum 8 = .ok (.ifCond .eq 59, 3) := dk_153 0 59 (dk_at dksX12_sum_0 8 rfl rfl)
theorem dX12_sum_11 : decode cX12_sum 11 = .ok (.aload_n 0, 1) := dk_42 (dk_at dksX12_sum_0 11 rfl rfl)
theorem dX12_sum_12 : decode cX12_sum 12 = .ok (.invokevirtual 136, 3) := dk_182 0 136 (dk_at dksX12_sum_0 12 rfl rfl)
theorem dX12_sum_15 : decode cX12_sum 15 = .ok (.bipush 43, 2) := dk_16 43 (dk_at dksX12_sum_0 15 rfl rfl)
theorem dX12_sum_17 : decode cX12_sum 17 = .ok (.if_icmp .eq 12, 3) := dk_159 0 12 (dk_at dksX12_sum_0 17 rfl rfl)
theorem dX12_sum_20 : decode cX12_sum 20 = .ok (.aload_n 0, 1) := dk_42 (dk_at dksX12_sum_0 20 rfl rfl)
theorem dX12_sum_21 : decode cX12_sum 21 = .ok (.invokevirtual 136, 3) := dk_182 0 136 (dk_at dksX12_sum_0 21 rfl rfl)
theorem dX12_sum_24 : decode cX12_sum 24 = .ok (.bipush 45, 2) := dk_16 45 (dk_at dksX12_sum_1 0 rfl rfl)
theorem dX12_sum_26 : decode cX12_sum 26 = .ok (.if_icmp .ne 41, 3) := dk_160 0 41 (dk_at dksX12_sum_1 2 rfl rfl)
theorem dX12_sum_29 : decode cX12_sum 29 = .ok (.aload_n 0, 1) := dk_42 (dk_at dksX12_sum_1 5 rfl rfl)
theorem dX12_sum_30 : decode cX12_sum 30 = .ok (.invokevirtual 136, 3) := dk_182 0 136 (dk_at dksX12_sum_1 6 rfl rfl)
theorem dX12_sum_33 : decode cX12_sum 33 = .ok (.istore_n 1, 1) := dk_60 (dk_at dksX12_sum_1 9 rfl rfl)
theorem dX12_sum_34 : decode cX12_sum 34 = .ok (.aload_n 0, 1) := dk_42 (dk_at dksX12_sum_1 10 rfl rfl)
theorem dX12_sum_35 : decode cX12_sum 35 = .ok (.dup, 1) := dk_89 (dk_at dksX12_sum_1 11 rfl rfl)
theorem dX12_sum_36 : decode cX12_sum 36 = .ok (.getfield 130, 3) := dk_180 0 130 (dk_at dksX12_sum_1 12 rfl rfl)
theorem dX12_sum_39 : decode cX12_sum 39 = .ok (.iconst 1, 1) := dk_4 (dk_at dksX12_sum_1 15 rfl rfl)
theorem dX12_sum_40 : decode cX12_sum 40 = .ok (.iadd, 1) := dk_96 (dk_at dksX12_sum_1 16 rfl rfl)
theorem dX12_sum_41 : decode cX12_sum 41 = .ok (.putfield 130, 3) := dk_181 0 130 (dk_at dksX12_sum_1 17 rfl rfl)
theorem dX12_sum_44 : decode cX12_sum 44 = .ok (.aload_n 0, 1) := dk_42 (dk_at dksX12_sum_1 20 rfl rfl)
theorem dX12_sum_45 : decode cX12_sum 45 = .ok (.invokevirtual 287, 3) := dk_182 1 31 (dk_at dksX12_sum_1 21 rfl rfl)
theorem dX12_sum_48 : decode cX12_sum 48 = .ok (.aload_n 0, 1) := dk_42 (dk_at dksX12_sum_2 0 rfl rfl)
theorem dX12_sum_49 : decode cX12_sum 49 = .ok (.iload_n 1, 1) := dk_27 (dk_at dksX12_sum_2 1 rfl rfl)
theorem dX12_sum_50 : decode cX12_sum 50 = .ok (.bipush 43, 2) := dk_16 43 (dk_at dksX12_sum_2 2 rfl rfl)
theorem dX12_sum_52 : decode cX12_sum 52 = .ok (.if_icmp .ne 7, 3) := dk_160 0 7 (dk_at dksX12_sum_2 4 rfl rfl)
theorem dX12_sum_55 : decode cX12_sum 55 = .ok (.iconst 2, 1) := dk_5 (dk_at dksX12_sum_2 7 rfl rfl)
theorem dX12_sum_56 : decode cX12_sum 56 = .ok (.goto 4, 3) := dk_167 0 4 (dk_at dksX12_sum_2 8 rfl rfl)
theorem dX12_sum_59 : decode cX12_sum 59 = .ok (.iconst 3, 1) := dk_6 (dk_at dksX12_sum_2 11 rfl rfl)
theorem dX12_sum_60 : decode cX12_sum 60 = .ok (.iconst 0, 1) := dk_3 (dk_at dksX12_sum_2 12 rfl rfl)
theorem dX12_sum_61 : decode cX12_sum 61 = .ok (.invokevirtual 272, 3) := dk_182 1 16 (dk_at dksX12_sum_2 13 rfl rfl)
theorem dX12_sum_64 : decode cX12_sum 64 = .ok (.goto (-60), 3) := dk_167 255 196 (dk_at dksX12_sum_2 16 rfl rfl)
theorem dX12_sum_67 : decode cX12_sum 67 = .ok (.return_, 1) := dk_177 (dk_at dksX12_sum_2 19 rfl rfl)
abbrev cX12_product : ByteArray := prog_27_method_34_code
def yX12_product : MethodName := ⟨RX12, "product", "()V"⟩
def dkwX12_product_2 : List UInt8 := [42, 27, 16, 42, 160, 0, 7, 7, 167, 0, 4, 8, 3, 182, 1, 16, 167, 255, 196, 177]
abbrev dktX12_product_2 : List UInt8 := dkwX12_product_2 ++ []
def dkwX12_product_1 : List UInt8 := [16, 47, 160, 0, 41, 42, 182, 0, 136, 60, 42, 89, 180, 0, 130, 4, 96, 181, 0, 130, 42, 182, 1, 28]
abbrev dktX12_product_1 : List UInt8 := dkwX12_product_1 ++ dktX12_product_2
def dkwX12_product_0 : List UInt8 := [42, 182, 1, 28, 42, 182, 0, 153, 153, 0, 59, 42, 182, 0, 136, 16, 42, 159, 0, 12, 42, 182, 0, 136]
abbrev dktX12_product_0 : List UInt8 := dkwX12_product_0 ++ dktX12_product_1
theorem dksX12_product_0 : cX12_product.data.toList.drop 0 = dktX12_product_0 := by decide +kernel
theorem dksX12_product_1 : cX12_product.data.toList.drop 24 = dktX12_product_1 := dk_seg dksX12_product_0 24 rfl rfl
theorem dksX12_product_2 : cX12_product.data.toList.drop 48 = dktX12_product_2 := dk_seg dksX12_product_1 24 rfl rfl
theorem dX12_product_0 : decode cX12_product 0 = .ok (.aload_n 0, 1) := dk_42 (dk_at dksX12_product_0 0 rfl rfl)
theorem dX12_product_1 : decode cX12_product 1 = .ok (.invokevirtual 284, 3) := dk_182 1 28 (dk_at dksX12_product_0 1 rfl rfl)
theorem dX12_product_4 : decode cX12_product 4 = .ok (.aload_n 0, 1) := dk_42 (dk_at dksX12_product_0 4 rfl rfl)
theorem dX12_product_5 : decode cX12_product 5 = .ok (.invokevirtual 153, 3) := dk_182 0 153 (dk_at dksX12_product_0 5 rfl rfl)
theorem dX12_product_8 : decode cX12_product 8 = .ok (.ifCond .eq 59, 3) := dk_153 0 59 (dk_at dksX12_product_0 8 rfl rfl)
theorem dX12_product_11 : decode cX12_product 11 = .ok (.aload_n 0, 1) := dk_42 (dk_at dksX12_product_0 11 rfl rfl)
theorem dX12_product_12 : decode cX12_product 12 = .ok (.invokevirtual 136, 3) := dk_182 0 136 (dk_at dksX12_product_0 12 rfl rfl)
theorem dX12_product_15 : decode cX12_product 15 = .ok (.bipush 42, 2) := dk_16 42 (dk_at dksX12_product_0 15 rfl rfl)
theorem dX12_product_17 : decode cX12_product 17 = .ok (.if_icmp .eq 12, 3) := dk_159 0 12 (dk_at dksX12_product_0 17 rfl rfl)
theorem dX12_product_20 : decode cX12_product 20 = .ok (.aload_n 0, 1) := dk_42 (dk_at dksX12_product_0 20 rfl rfl)
theorem dX12_product_21 : decode cX12_product 21 = .ok (.invokevirtual 136, 3) := dk_182 0 136 (dk_at dksX12_product_0 21 rfl rfl)
theorem dX12_product_24 : decode cX12_product 24 = .ok (.bipush 47, 2) := dk_16 47 (dk_at dksX12_product_1 0 rfl rfl)
theorem dX12_product_26 : decode cX12_product 26 = .ok (.if_icmp .ne 41, 3) := dk_160 0 41 (dk_at dksX12_product_1 2 rfl rfl)
theorem dX12_product_29 : decode cX12_product 29 = .ok (.aload_n 0, 1) := dk_42 (dk_at dksX12_product_1 5 rfl rfl)
theorem dX12_product_30 : decode cX12_product 30 = .ok (.invokevirtual 136, 3) := dk_182 0 136 (dk_at dksX12_product_1 6 rfl rfl)
theorem dX12_product_33 : decode cX12_product 33 = .ok (.istore_n 1, 1) := dk_60 (dk_at dksX12_product_1 9 rfl rfl)
theorem dX12_product_34 : decode cX12_product 34 = .ok (.aload_n 0, 1) := dk_42 (dk_at dksX12_product_1 10 rfl rfl)
theorem dX12_product_35 : decode cX12_product 35 = .ok (.dup, 1) := dk_89 (dk_at dksX12_product_1 11 rfl rfl)
theorem dX12_product_36 : decode cX12_product 36 = .ok (.getfield 130, 3) := dk_180 0 130 (dk_at dksX12_product_1 12 rfl rfl)
theorem dX12_product_39 : decode cX12_product 39 = .ok (.iconst 1, 1) := dk_4 (dk_at dksX12_product_1 15 rfl rfl)
theorem dX12_product_40 : decode cX12_product 40 = .ok (.iadd, 1) := dk_96 (dk_at dksX12_product_1 16 rfl rfl)
theorem dX12_product_41 : decode cX12_product 41 = .ok (.putfield 130, 3) := dk_181 0 130 (dk_at dksX12_product_1 17 rfl rfl)
theorem dX12_product_44 : decode cX12_product 44 = .ok (.aload_n 0, 1) := dk_42 (dk_at dksX12_product_1 20 rfl rfl)
theorem dX12_product_45 : decode cX12_product 45 = .ok (.invokevirtual 284, 3) := dk_182 1 28 (dk_at dksX12_product_1 21 rfl rfl)
theorem dX12_product_48 : decode cX12_product 48 = .ok (.aload_n 0, 1) := dk_42 (dk_at dksX12_product_2 0 rfl rfl)
theorem dX12_product_49 : decode cX12_product 49 = .ok (.iload_n 1, 1) := dk_27 (dk_at dksX12_product_2 1 rfl rfl)
theorem dX12_product_50 : decode cX12_product 50 = .ok (.bipush 42, 2) := dk_16 42 (dk_at dksX12_product_2 2 rfl rfl)
theorem dX12_product_52 : decode cX12_product 52 = .ok (.if_icmp .ne 7, 3) := dk_160 0 7 (dk_at dksX12_product_2 4 rfl rfl)
theorem dX12_product_55 : decode cX12_product 55 = .ok (.iconst 4, 1) := dk_7 (dk_at dksX12_product_2 7 rfl rfl)
theorem dX12_product_56 : decode cX12_product 56 = .ok (.goto 4, 3) := dk_167 0 4 (dk_at dksX12_product_2 8 rfl rfl)
theorem dX12_product_59 : decode cX12_product 59 = .ok (.iconst 5, 1) := dk_8 (dk_at dksX12_product_2 11 rfl rfl)
theorem dX12_product_60 : decode cX12_product 60 = .ok (.iconst 0, 1) := dk_3 (dk_at dksX12_product_2 12 rfl rfl)
theorem dX12_product_61 : decode cX12_product 61 = .ok (.invokevirtual 272, 3) := dk_182 1 16 (dk_at dksX12_product_2 13 rfl rfl)
theorem dX12_product_64 : decode cX12_product 64 = .ok (.goto (-60), 3) := dk_167 255 196 (dk_at dksX12_product_2 16 rfl rfl)
theorem dX12_product_67 : decode cX12_product 67 = .ok (.return_, 1) := dk_177 (dk_at dksX12_product_2 19 rfl rfl)
abbrev cX12_unit : ByteArray := prog_27_method_33_code
def yX12_unit : MethodName := ⟨RX12, "unit", "()V"⟩
def dkwX12_unit_4 : List UInt8 := [4, 28, 182, 1, 16, 177]
abbrev dktX12_unit_4 : List UInt8 := dkwX12_unit_4 ++ []
def dkwX12_unit_3 : List UInt8 := [184, 1, 25, 61, 28, 2, 160, 0, 13, 42, 4, 42, 180, 0, 130, 182, 0, 160, 177, 42, 182, 0, 178, 42]
abbrev dktX12_unit_3 : List UInt8 := dkwX12_unit_3 ++ dktX12_unit_4
def dkwX12_unit_2 : List UInt8 := [182, 1, 22, 42, 16, 41, 182, 0, 246, 42, 89, 180, 0, 164, 4, 100, 181, 0, 164, 177, 42, 182, 0, 167]
abbrev dktX12_unit_2 : List UInt8 := dkwX12_unit_2 ++ dktX12_unit_3
def dkwX12_unit_1 : List UInt8 := [17, 39, 15, 182, 0, 181, 182, 1, 16, 177, 27, 16, 40, 160, 0, 29, 42, 4, 182, 1, 19, 42]
abbrev dktX12_unit_1 : List UInt8 := dkwX12_unit_1 ++ dktX12_unit_2
def dkwX12_unit_0 : List UInt8 := [42, 182, 0, 153, 154, 0, 4, 177, 42, 182, 0, 136, 60, 27, 184, 0, 157, 153, 0, 17, 42, 3, 42, 3]
abbrev dktX12_unit_0 : List UInt8 := dkwX12_unit_0 ++ dktX12_unit_1
theorem dksX12_unit_0 : cX12_unit.data.toList.drop 0 = dktX12_unit_0 := by decide +kernel
theorem dksX12_unit_1 : cX12_unit.data.toList.drop 24 = dktX12_unit_1 := dk_seg dksX12_unit_0 24 rfl rfl
theorem dksX12_unit_2 : cX12_unit.data.toList.drop 46 = dktX12_unit_2 := dk_seg dksX12_unit_1 22 rfl rfl
theorem dksX12_unit_3 : cX12_unit.data.toList.drop 70 = dktX12_unit_3 := dk_seg dksX12_unit_2 24 rfl rfl
theorem dksX12_unit_4 : cX12_unit.data.toList.drop 94 = dktX12_unit_4 := dk_seg dksX12_unit_3 24 rfl rfl
theorem dX12_unit_0 : decode cX12_unit 0 = .ok (.aload_n 0, 1) := dk_42 (dk_at dksX12_unit_0 0 rfl rfl)
theorem dX12_unit_1 : decode cX12_unit 1 = .ok (.invokevirtual 153, 3) := dk_182 0 153 (dk_at dksX12_unit_0 1 rfl rfl)
theorem dX12_unit_4 : decode cX12_unit 4 = .ok (.ifCond .ne 4, 3) := dk_154 0 4 (dk_at dksX12_unit_0 4 rfl rfl)
theorem dX12_unit_7 : decode cX12_unit 7 = .ok (.return_, 1) := dk_177 (dk_at dksX12_unit_0 7 rfl rfl)
theorem dX12_unit_8 : decode cX12_unit 8 = .ok (.aload_n 0, 1) := dk_42 (dk_at dksX12_unit_0 8 rfl rfl)
theorem dX12_unit_9 : decode cX12_unit 9 = .ok (.invokevirtual 136, 3) := dk_182 0 136 (dk_at dksX12_unit_0 9 rfl rfl)
theorem dX12_unit_12 : decode cX12_unit 12 = .ok (.istore_n 1, 1) := dk_60 (dk_at dksX12_unit_0 12 rfl rfl)
theorem dX12_unit_13 : decode cX12_unit 13 = .ok (.iload_n 1, 1) := dk_27 (dk_at dksX12_unit_0 13 rfl rfl)
theorem dX12_unit_14 : decode cX12_unit 14 = .ok (.invokestatic 157, 3) := dk_184 0 157 (dk_at dksX12_unit_0 14 rfl rfl)
theorem dX12_unit_17 : decode cX12_unit 17 = .ok (.ifCond .eq 17, 3) := dk_153 0 17 (dk_at dksX12_unit_0 17 rfl rfl)
theorem dX12_unit_20 : decode cX12_unit 20 = .ok (.aload_n 0, 1) := dk_42 (dk_at dksX12_unit_0 20 rfl rfl)
theorem dX12_unit_21 : decode cX12_unit 21 = .ok (.iconst 0, 1) := dk_3 (dk_at dksX12_unit_0 21 rfl rfl)
theorem dX12_unit_22 : decode cX12_unit 22 = .ok (.aload_n 0, 1) := dk_42 (dk_at dksX12_unit_0 22 rfl rfl)
theorem dX12_unit_23 : decode cX12_unit 23 = .ok (.iconst 0, 1) := dk_3 (dk_at dksX12_unit_0 23 rfl rfl)
theorem dX12_unit_24 : decode cX12_unit 24 = .ok (.sipush 9999, 3) := dk_17 39 15 (dk_at dksX12_unit_1 0 rfl rfl)
theorem dX12_unit_27 : decode cX12_unit 27 = .ok (.invokevirtual 181, 3) := dk_182 0 181 (dk_at dksX12_unit_1 3 rfl rfl)
theorem dX12_unit_30 : decode cX12_unit 30 = .ok (.invokevirtual 272, 3) := dk_182 1 16 (dk_at dksX12_unit_1 6 rfl rfl)
theorem dX12_unit_33 : decode cX12_unit 33 = .ok (.return_, 1) := dk_177 (dk_at dksX12_unit_1 9 rfl rfl)
theorem dX12_unit_34 : decode cX12_unit 34 = .ok (.iload_n 1, 1) := dk_27 (dk_at dksX12_unit_1 10 rfl rfl)
theorem dX12_unit_35 : decode cX12_unit 35 = .ok (.bipush 40, 2) := dk_16 40 (dk_at dksX12_unit_1 11 rfl rfl)
theorem dX12_unit_37 : decode cX12_unit 37 = .ok (.if_icmp .ne 29, 3) := dk_160 0 29 (dk_at dksX12_unit_1 13 rfl rfl)
theorem dX12_unit_40 : decode cX12_unit 40 = .ok (.aload_n 0, 1) := dk_42 (dk_at dksX12_unit_1 16 rfl rfl)
theorem dX12_unit_41 : decode cX12_unit 41 = .ok (.iconst 1, 1) := dk_4 (dk_at dksX12_unit_1 17 rfl rfl)
theorem dX12_unit_42 : decode cX12_unit 42 = .ok (.invokevirtual 275, 3) := dk_182 1 19 (dk_at dksX12_unit_1 18 rfl rfl)
theorem dX12_unit_45 : decode cX12_unit 45 = .ok (.aload_n 0, 1) := dk_42 (dk_at dksX12_unit_1 21 rfl rfl)
theorem dX12_unit_46 : decode cX12_unit 46 = .ok (.invokevirtual 278, 3) := dk_182 1 22 (dk_at dksX12_unit_2 0 rfl rfl)
theorem dX12_unit_49 : decode cX12_unit 49 = .ok (.aload_n 0, 1) := dk_42 (dk_at dksX12_unit_2 3 rfl rfl)
theorem dX12_unit_50 : decode cX12_unit 50 = .ok (.bipush 41, 2) := dk_16 41 (dk_at dksX12_unit_2 4 rfl rfl)
theorem dX12_unit_52 : decode cX12_unit 52 = .ok (.invokevirtual 246, 3) := dk_182 0 246 (dk_at dksX12_unit_2 6 rfl rfl)
theorem dX12_unit_55 : decode cX12_unit 55 = .ok (.aload_n 0, 1) := dk_42 (dk_at dksX12_unit_2 9 rfl rfl)
theorem dX12_unit_56 : decode cX12_unit 56 = .ok (.dup, 1) := dk_89 (dk_at dksX12_unit_2 10 rfl rfl)
theorem dX12_unit_57 : decode cX12_unit 57 = .ok (.getfield 164, 3) := dk_180 0 164 (dk_at dksX12_unit_2 11 rfl rfl)
theorem dX12_unit_60 : decode cX12_unit 60 = .ok (.iconst 1, 1) := dk_4 (dk_at dksX12_unit_2 14 rfl rfl)
theorem dX12_unit_61 : decode cX12_unit 61 = .ok (.isub, 1) := dk_100 (dk_at dksX12_unit_2 15 rfl rfl)
theorem dX12_unit_62 : decode cX12_unit 62 = .ok (.putfield 164, 3) := dk_181 0 164 (dk_at dksX12_unit_2 16 rfl rfl)
theorem dX12_unit_65 : decode cX12_unit 65 = .ok (.return_, 1) := dk_177 (dk_at dksX12_unit_2 19 rfl rfl)
theorem dX12_unit_66 : decode cX12_unit 66 = .ok (.aload_n 0, 1) := dk_42 (dk_at dksX12_unit_2 20 rfl rfl)
theorem dX12_unit_67 : decode cX12_unit 67 = .ok (.invokevirtual 167, 3) := dk_182 0 167 (dk_at dksX12_unit_2 21 rfl rfl)
theorem dX12_unit_70 : decode cX12_unit 70 = .ok (.invokestatic 281, 3) := dk_184 1 25 (dk_at dksX12_unit_3 0 rfl rfl)
theorem dX12_unit_73 : decode cX12_unit 73 = .ok (.istore_n 2, 1) := dk_61 (dk_at dksX12_unit_3 3 rfl rfl)
theorem dX12_unit_74 : decode cX12_unit 74 = .ok (.iload_n 2, 1) := dk_28 (dk_at dksX12_unit_3 4 rfl rfl)
theorem dX12_unit_75 : decode cX12_unit 75 = .ok (.iconst (-1), 1) := dk_2 (dk_at dksX12_unit_3 5 rfl rfl)
theorem dX12_unit_76 : decode cX12_unit 76 = .ok (.if_icmp .ne 13, 3) := dk_160 0 13 (dk_at dksX12_unit_3 6 rfl rfl)
theorem dX12_unit_79 : decode cX12_unit 79 = .ok (.aload_n 0, 1) := dk_42 (dk_at dksX12_unit_3 9 rfl rfl)
theorem dX12_unit_80 : decode cX12_unit 80 = .ok (.iconst 1, 1) := dk_4 (dk_at dksX12_unit_3 10 rfl rfl)
theorem dX12_unit_81 : decode cX12_unit 81 = .ok (.aload_n 0, 1) := dk_42 (dk_at dksX12_unit_3 11 rfl rfl)
theorem dX12_unit_82 : decode cX12_unit 82 = .ok (.getfield 130, 3) := dk_180 0 130 (dk_at dksX12_unit_3 12 rfl rfl)
theorem dX12_unit_85 : decode cX12_unit 85 = .ok (.invokevirtual 160, 3) := dk_182 0 160 (dk_at dksX12_unit_3 15 rfl rfl)
theorem dX12_unit_88 : decode cX12_unit 88 = .ok (.return_, 1) := dk_177 (dk_at dksX12_unit_3 18 rfl rfl)
theorem dX12_unit_89 : decode cX12_unit 89 = .ok (.aload_n 0, 1) := dk_42 (dk_at dksX12_unit_3 19 rfl rfl)
theorem dX12_unit_90 : decode cX12_unit 90 = .ok (.invokevirtual 178, 3) := dk_182 0 178 (dk_at dksX12_unit_3 20 rfl rfl)
theorem dX12_unit_93 : decode cX12_unit 93 = .ok (.aload_n 0, 1) := dk_42 (dk_at dksX12_unit_3 23 rfl rfl)
theorem dX12_unit_94 : decode cX12_unit 94 = .ok (.iconst 1, 1) := dk_4 (dk_at dksX12_unit_4 0 rfl rfl)
theorem dX12_unit_95 : decode cX12_unit 95 = .ok (.iload_n 2, 1) := dk_28 (dk_at dksX12_unit_4 1 rfl rfl)
theorem dX12_unit_96 : decode cX12_unit 96 = .ok (.invokevirtual 272, 3) := dk_182 1 16 (dk_at dksX12_unit_4 2 rfl rfl)
theorem dX12_unit_99 : decode cX12_unit 99 = .ok (.return_, 1) := dk_177 (dk_at dksX12_unit_4 5 rfl rfl)
abbrev cX12_nameOf : ByteArray := prog_27_method_32_code
def yX12_nameOf : MethodName := ⟨RX12, "nameOf", "(I)I"⟩
def dkwX12_nameOf_4 : List UInt8 := [167, 0, 4, 2, 172]
abbrev dktX12_nameOf_4 : List UInt8 := dkwX12_nameOf_4 ++ []
def dkwX12_nameOf_3 : List UInt8 := [19, 1, 14, 184, 0, 172, 160, 0, 6, 16, 6, 172, 26, 18, 196, 184, 0, 172, 160, 0, 8, 16, 7]
abbrev dktX12_nameOf_3 : List UInt8 := dkwX12_nameOf_3 ++ dktX12_nameOf_4
def dkwX12_nameOf_2 : List UInt8 := [19, 1, 12, 184, 0, 172, 160, 0, 5, 7, 172, 26, 18, 192, 184, 0, 172, 160, 0, 5, 8, 172, 26]
abbrev dktX12_nameOf_2 : List UInt8 := dkwX12_nameOf_2 ++ dktX12_nameOf_3
def dkwX12_nameOf_1 : List UInt8 := [26, 19, 1, 10, 184, 0, 172, 160, 0, 5, 5, 172, 26, 18, 170, 184, 0, 172, 160, 0, 5, 6, 172, 26]
abbrev dktX12_nameOf_1 : List UInt8 := dkwX12_nameOf_1 ++ dktX12_nameOf_2
def dkwX12_nameOf_0 : List UInt8 := [26, 19, 1, 6, 184, 0, 172, 160, 0, 5, 3, 172, 26, 19, 1, 8, 184, 0, 172, 160, 0, 5, 4, 172]
abbrev dktX12_nameOf_0 : List UInt8 := dkwX12_nameOf_0 ++ dktX12_nameOf_1
theorem dksX12_nameOf_0 : cX12_nameOf.data.toList.drop 0 = dktX12_nameOf_0 := by decide +kernel
theorem dksX12_nameOf_1 : cX12_nameOf.data.toList.drop 24 = dktX12_nameOf_1 := dk_seg dksX12_nameOf_0 24 rfl rfl
theorem dksX12_nameOf_2 : cX12_nameOf.data.toList.drop 48 = dktX12_nameOf_2 := dk_seg dksX12_nameOf_1 24 rfl rfl
theorem dksX12_nameOf_3 : cX12_nameOf.data.toList.drop 71 = dktX12_nameOf_3 := dk_seg dksX12_nameOf_2 23 rfl rfl
theorem dksX12_nameOf_4 : cX12_nameOf.data.toList.drop 94 = dktX12_nameOf_4 := dk_seg dksX12_nameOf_3 23 rfl rfl
theorem dX12_nameOf_0 : decode cX12_nameOf 0 = .ok (.iload_n 0, 1) := dk_26 (dk_at dksX12_nameOf_0 0 rfl rfl)
theorem dX12_nameOf_1 : decode cX12_nameOf 1 = .ok (.ldc_w 262, 3) := dk_19 1 6 (dk_at dksX12_nameOf_0 1 rfl rfl)
theorem dX12_nameOf_4 : decode cX12_nameOf 4 = .ok (.invokestatic 172, 3) := dk_184 0 172 (dk_at dksX12_nameOf_0 4 rfl rfl)
theorem dX12_nameOf_7 : decode cX12_nameOf 7 = .ok (.if_icmp .ne 5, 3) := dk_160 0 5 (dk_at dksX12_nameOf_0 7 rfl rfl)
theorem dX12_nameOf_10 : decode cX12_nameOf 10 = .ok (.iconst 0, 1) := dk_3 (dk_at dksX12_nameOf_0 10 rfl rfl)
theorem dX12_nameOf_11 : decode cX12_nameOf 11 = .ok (.ireturn, 1) := dk_172 (dk_at dksX12_nameOf_0 11 rfl rfl)
theorem dX12_nameOf_12 : decode cX12_nameOf 12 = .ok (.iload_n 0, 1) := dk_26 (dk_at dksX12_nameOf_0 12 rfl rfl)
theorem dX12_nameOf_13 : decode cX12_nameOf 13 = .ok (.ldc_w 264, 3) := dk_19 1 8 (dk_at dksX12_nameOf_0 13 rfl rfl)
theorem dX12_nameOf_16 : decode cX12_nameOf 16 = .ok (.invokestatic 172, 3) := dk_184 0 172 (dk_at dksX12_nameOf_0 16 rfl rfl)
theorem dX12_nameOf_19 : decode cX12_nameOf 19 = .ok (.if_icmp .ne 5, 3) := dk_160 0 5 (dk_at dksX12_nameOf_0 19 rfl rfl)
theorem dX12_nameOf_22 : decode cX12_nameOf 22 = .ok (.iconst 1, 1) := dk_4 (dk_at dksX12_nameOf_0 22 rfl rfl)
theorem dX12_nameOf_23 : decode cX12_nameOf 23 = .ok (.ireturn, 1) := dk_172 (dk_at dksX12_nameOf_0 23 rfl rfl)
theorem dX12_nameOf_24 : decode cX12_nameOf 24 = .ok (.iload_n 0, 1) := dk_26 (dk_at dksX12_nameOf_1 0 rfl rfl)
theorem dX12_nameOf_25 : decode cX12_nameOf 25 = .ok (.ldc_w 266, 3) := dk_19 1 10 (dk_at dksX12_nameOf_1 1 rfl rfl)
theorem dX12_nameOf_28 : decode cX12_nameOf 28 = .ok (.invokestatic 172, 3) := dk_184 0 172 (dk_at dksX12_nameOf_1 4 rfl rfl)
theorem dX12_nameOf_31 : decode cX12_nameOf 31 = .ok (.if_icmp .ne 5, 3) := dk_160 0 5 (dk_at dksX12_nameOf_1 7 rfl rfl)
theorem dX12_nameOf_34 : decode cX12_nameOf 34 = .ok (.iconst 2, 1) := dk_5 (dk_at dksX12_nameOf_1 10 rfl rfl)
theorem dX12_nameOf_35 : decode cX12_nameOf 35 = .ok (.ireturn, 1) := dk_172 (dk_at dksX12_nameOf_1 11 rfl rfl)
theorem dX12_nameOf_36 : decode cX12_nameOf 36 = .ok (.iload_n 0, 1) := dk_26 (dk_at dksX12_nameOf_1 12 rfl rfl)
theorem dX12_nameOf_37 : decode cX12_nameOf 37 = .ok (.ldc 170, 2) := dk_18 170 (dk_at dksX12_nameOf_1 13 rfl rfl)
theorem dX12_nameOf_39 : decode cX12_nameOf 39 = .ok (.invokestatic 172, 3) := dk_184 0 172 (dk_at dksX12_nameOf_1 15 rfl rfl)
theorem dX12_nameOf_42 : decode cX12_nameOf 42 = .ok (.if_icmp .ne 5, 3) := dk_160 0 5 (dk_at dksX12_nameOf_1 18 rfl rfl)
theorem dX12_nameOf_45 : decode cX12_nameOf 45 = .ok (.iconst 3, 1) := dk_6 (dk_at dksX12_nameOf_1 21 rfl rfl)
theorem dX12_nameOf_46 : decode cX12_nameOf 46 = .ok (.ireturn, 1) := dk_172 (dk_at dksX12_nameOf_1 22 rfl rfl)
theorem dX12_nameOf_47 : decode cX12_nameOf 47 = .ok (.iload_n 0, 1) := dk_26 (dk_at dksX12_nameOf_1 23 rfl rfl)
theorem dX12_nameOf_48 : decode cX12_nameOf 48 = .ok (.ldc_w 268, 3) := dk_19 1 12 (dk_at dksX12_nameOf_2 0 rfl rfl)
theorem dX12_nameOf_51 : decode cX12_nameOf 51 = .ok (.invokestatic 172, 3) := dk_184 0 172 (dk_at dksX12_nameOf_2 3 rfl rfl)
theorem dX12_nameOf_54 : decode cX12_nameOf 54 = .ok (.if_icmp .ne 5, 3) := dk_160 0 5 (dk_at dksX12_nameOf_2 6 rfl rfl)
theorem dX12_nameOf_57 : decode cX12_nameOf 57 = .ok (.iconst 4, 1) := dk_7 (dk_at dksX12_nameOf_2 9 rfl rfl)
theorem dX12_nameOf_58 : decode cX12_nameOf 58 = .ok (.ireturn, 1) := dk_172 (dk_at dksX12_nameOf_2 10 rfl rfl)
theorem dX12_nameOf_59 : decode cX12_nameOf 59 = .ok (.iload_n 0, 1) := dk_26 (dk_at dksX12_nameOf_2 11 rfl rfl)
theorem dX12_nameOf_60 : decode cX12_nameOf 60 = .ok (.ldc 192, 2) := dk_18 192 (dk_at dksX12_nameOf_2 12 rfl rfl)
theorem dX12_nameOf_62 : decode cX12_nameOf 62 = .ok (.invokestatic 172, 3) := dk_184 0 172 (dk_at dksX12_nameOf_2 14 rfl rfl)
theorem dX12_nameOf_65 : decode cX12_nameOf 65 = .ok (.if_icmp .ne 5, 3) := dk_160 0 5 (dk_at dksX12_nameOf_2 17 rfl rfl)
theorem dX12_nameOf_68 : decode cX12_nameOf 68 = .ok (.iconst 5, 1) := dk_8 (dk_at dksX12_nameOf_2 20 rfl rfl)
theorem dX12_nameOf_69 : decode cX12_nameOf 69 = .ok (.ireturn, 1) := dk_172 (dk_at dksX12_nameOf_2 21 rfl rfl)
theorem dX12_nameOf_70 : decode cX12_nameOf 70 = .ok (.iload_n 0, 1) := dk_26 (dk_at dksX12_nameOf_2 22 rfl rfl)
theorem dX12_nameOf_71 : decode cX12_nameOf 71 = .ok (.ldc_w 270, 3) := dk_19 1 14 (dk_at dksX12_nameOf_3 0 rfl rfl)
theorem dX12_nameOf_74 : decode cX12_nameOf 74 = .ok (.invokestatic 172, 3) := dk_184 0 172 (dk_at dksX12_nameOf_3 3 rfl rfl)
theorem dX12_nameOf_77 : decode cX12_nameOf 77 = .ok (.if_icmp .ne 6, 3) := dk_160 0 6 (dk_at dksX12_nameOf_3 6 rfl rfl)
theorem dX12_nameOf_80 : decode cX12_nameOf 80 = .ok (.bipush 6, 2) := dk_16 6 (dk_at dksX12_nameOf_3 9 rfl rfl)
theorem dX12_nameOf_82 : decode cX12_nameOf 82 = .ok (.ireturn, 1) := dk_172 (dk_at dksX12_nameOf_3 11 rfl rfl)
theorem dX12_nameOf_83 : decode cX12_nameOf 83 = .ok (.iload_n 0, 1) := dk_26 (dk_at dksX12_nameOf_3 12 rfl rfl)
theorem dX12_nameOf_84 : decode cX12_nameOf 84 = .ok (.ldc 196, 2) := dk_18 196 (dk_at dksX12_nameOf_3 13 rfl rfl)
theorem dX12_nameOf_86 : decode cX12_nameOf 86 = .ok (.invokestatic 172, 3) := dk_184 0 172 (dk_at dksX12_nameOf_3 15 rfl rfl)
theorem dX12_nameOf_89 : decode cX12_nameOf 89 = .ok (.if_icmp .ne 8, 3) := dk_160 0 8 (dk_at dksX12_nameOf_3 18 rfl rfl)
theorem dX12_nameOf_92 : decode cX12_nameOf 92 = .ok (.bipush 7, 2) := dk_16 7 (dk_at dksX12_nameOf_3 21 rfl rfl)
theorem dX12_nameOf_94 : decode cX12_nameOf 94 = .ok (.goto 4, 3) := dk_167 0 4 (dk_at dksX12_nameOf_4 0 rfl rfl)
theorem dX12_nameOf_97 : decode cX12_nameOf 97 = .ok (.iconst (-1), 1) := dk_2 (dk_at dksX12_nameOf_4 3 rfl rfl)
theorem dX12_nameOf_98 : decode cX12_nameOf 98 = .ok (.ireturn, 1) := dk_172 (dk_at dksX12_nameOf_4 4 rfl rfl)
abbrev cX12_told : ByteArray := prog_27_method_46_code
def yX12_told : MethodName := ⟨RX12, "told", "(I)I"⟩
def dkwX12_told_3 : List UInt8 := [28, 42, 29, 182, 1, 66, 153, 0, 7, 4, 167, 0, 4, 3, 96, 61, 132, 3, 1, 167, 255, 227, 28, 172]
abbrev dktX12_told_3 : List UInt8 := dkwX12_told_3 ++ []
def dkwX12_told_2 : List UInt8 := [162, 0, 10, 42, 180, 0, 23, 27, 46, 172, 3, 61, 3, 62, 29, 42, 180, 0, 23, 6, 46, 162, 0, 25]
abbrev dktX12_told_2 : List UInt8 := dkwX12_told_2 ++ dktX12_told_3
def dkwX12_told_1 : List UInt8 := [16, 8, 160, 0, 8, 42, 180, 1, 0, 172, 42, 180, 0, 249, 154, 0, 5, 3, 172, 27, 16, 7]
abbrev dktX12_told_1 : List UInt8 := dkwX12_told_1 ++ dktX12_told_2
def dkwX12_told_0 : List UInt8 := [42, 3, 181, 0, 1, 42, 27, 3, 16, 8, 184, 1, 58, 4, 5, 182, 0, 226, 154, 0, 5, 3, 172, 27]
abbrev dktX12_told_0 : List UInt8 := dkwX12_told_0 ++ dktX12_told_1
theorem dksX12_told_0 : cX12_told.data.toList.drop 0 = dktX12_told_0 := by decide +kernel
theorem dksX12_told_1 : cX12_told.data.toList.drop 24 = dktX12_told_1 := dk_seg dksX12_told_0 24 rfl rfl
theorem dksX12_told_2 : cX12_told.data.toList.drop 46 = dktX12_told_2 := dk_seg dksX12_told_1 22 rfl rfl
theorem dksX12_told_3 : cX12_told.data.toList.drop 70 = dktX12_told_3 := dk_seg dksX12_told_2 24 rfl rfl
theorem dX12_told_0 : decode cX12_told 0 = .ok (.aload_n 0, 1) := dk_42 (dk_at dksX12_told_0 0 rfl rfl)
theorem dX12_told_1 : decode cX12_told 1 = .ok (.iconst 0, 1) := dk_3 (dk_at dksX12_told_0 1 rfl rfl)
theorem dX12_told_2 : decode cX12_told 2 = .ok (.putfield 1, 3) := dk_181 0 1 (dk_at dksX12_told_0 2 rfl rfl)
theorem dX12_told_5 : decode cX12_told 5 = .ok (.aload_n 0, 1) := dk_42 (dk_at dksX12_told_0 5 rfl rfl)
theorem dX12_told_6 : decode cX12_told 6 = .ok (.iload_n 1, 1) := dk_27 (dk_at dksX12_told_0 6 rfl rfl)
theorem dX12_told_7 : decode cX12_told 7 = .ok (.iconst 0, 1) := dk_3 (dk_at dksX12_told_0 7 rfl rfl)
theorem dX12_told_8 : decode cX12_told 8 = .ok (.bipush 8, 2) := dk_16 8 (dk_at dksX12_told_0 8 rfl rfl)
theorem dX12_told_10 : decode cX12_told 10 = .ok (.invokestatic 314, 3) := dk_184 1 58 (dk_at dksX12_told_0 10 rfl rfl)
theorem dX12_told_13 : decode cX12_told 13 = .ok (.iconst 1, 1) := dk_4 (dk_at dksX12_told_0 13 rfl rfl)
theorem dX12_told_14 : decode cX12_told 14 = .ok (.iconst 2, 1) := dk_5 (dk_at dksX12_told_0 14 rfl rfl)
theorem dX12_told_15 : decode cX12_told 15 = .ok (.invokevirtual 226, 3) := dk_182 0 226 (dk_at dksX12_told_0 15 rfl rfl)
theorem dX12_told_18 : decode cX12_told 18 = .ok (.ifCond .ne 5, 3) := dk_154 0 5 (dk_at dksX12_told_0 18 rfl rfl)
theorem dX12_told_21 : decode cX12_told 21 = .ok (.iconst 0, 1) := dk_3 (dk_at dksX12_told_0 21 rfl rfl)
theorem dX12_told_22 : decode cX12_told 22 = .ok (.ireturn, 1) := dk_172 (dk_at dksX12_told_0 22 rfl rfl)
theorem dX12_told_23 : decode cX12_told 23 = .ok (.iload_n 1, 1) := dk_27 (dk_at dksX12_told_0 23 rfl rfl)
theorem dX12_told_24 : decode cX12_told 24 = .ok (.bipush 8, 2) := dk_16 8 (dk_at dksX12_told_1 0 rfl rfl)
theorem dX12_told_26 : decode cX12_told 26 = .ok (.if_icmp .ne 8, 3) := dk_160 0 8 (dk_at dksX12_told_1 2 rfl rfl)
theorem dX12_told_29 : decode cX12_told 29 = .ok (.aload_n 0, 1) := dk_42 (dk_at dksX12_told_1 5 rfl rfl)
theorem dX12_told_30 : decode cX12_told 30 = .ok (.getfield 256, 3) := dk_180 1 0 (dk_at dksX12_told_1 6 rfl rfl)
theorem dX12_told_33 : decode cX12_told 33 = .ok (.ireturn, 1) := dk_172 (dk_at dksX12_told_1 9 rfl rfl)
theorem dX12_told_34 : decode cX12_told 34 = .ok (.aload_n 0, 1) := dk_42 (dk_at dksX12_told_1 10 rfl rfl)
theorem dX12_told_35 : decode cX12_told 35 = .ok (.getfield 249, 3) := dk_180 0 249 (dk_at dksX12_told_1 11 rfl rfl)
theorem dX12_told_38 : decode cX12_told 38 = .ok (.ifCond .ne 5, 3) := dk_154 0 5 (dk_at dksX12_told_1 14 rfl rfl)
theorem dX12_told_41 : decode cX12_told 41 = .ok (.iconst 0, 1) := dk_3 (dk_at dksX12_told_1 17 rfl rfl)
theorem dX12_told_42 : decode cX12_told 42 = .ok (.ireturn, 1) := dk_172 (dk_at dksX12_told_1 18 rfl rfl)
theorem dX12_told_43 : decode cX12_told 43 = .ok (.iload_n 1, 1) := dk_27 (dk_at dksX12_told_1 19 rfl rfl)
theorem dX12_told_44 : decode cX12_told 44 = .ok (.bipush 7, 2) := dk_16 7 (dk_at dksX12_told_1 20 rfl rfl)
theorem dX12_told_46 : decode cX12_told 46 = .ok (.if_icmp .ge 10, 3) := dk_162 0 10 (dk_at dksX12_told_2 0 rfl rfl)
theorem dX12_told_49 : decode cX12_told 49 = .ok (.aload_n 0, 1) := dk_42 (dk_at dksX12_told_2 3 rfl rfl)
theorem dX12_told_50 : decode cX12_told 50 = .ok (.getfield 23, 3) := dk_180 0 23 (dk_at dksX12_told_2 4 rfl rfl)
theorem dX12_told_53 : decode cX12_told 53 = .ok (.iload_n 1, 1) := dk_27 (dk_at dksX12_told_2 7 rfl rfl)
theorem dX12_told_54 : decode cX12_told 54 = .ok (.iaload, 1) := dk_46 (dk_at dksX12_told_2 8 rfl rfl)
theorem dX12_told_55 : decode cX12_told 55 = .ok (.ireturn, 1) := dk_172 (dk_at dksX12_told_2 9 rfl rfl)
theorem dX12_told_56 : decode cX12_told 56 = .ok (.iconst 0, 1) := dk_3 (dk_at dksX12_told_2 10 rfl rfl)
theorem dX12_told_57 : decode cX12_told 57 = .ok (.istore_n 2, 1) := dk_61 (dk_at dksX12_told_2 11 rfl rfl)
theorem dX12_told_58 : decode cX12_told 58 = .ok (.iconst 0, 1) := dk_3 (dk_at dksX12_told_2 12 rfl rfl)
theorem dX12_told_59 : decode cX12_told 59 = .ok (.istore_n 3, 1) := dk_62 (dk_at dksX12_told_2 13 rfl rfl)
theorem dX12_told_60 : decode cX12_told 60 = .ok (.iload_n 3, 1) := dk_29 (dk_at dksX12_told_2 14 rfl rfl)
theorem dX12_told_61 : decode cX12_told 61 = .ok (.aload_n 0, 1) := dk_42 (dk_at dksX12_told_2 15 rfl rfl)
theorem dX12_told_62 : decode cX12_told 62 = .ok (.getfield 23, 3) := dk_180 0 23 (dk_at dksX12_told_2 16 rfl rfl)
theorem dX12_told_65 : decode cX12_told 65 = .ok (.iconst 3, 1) := dk_6 (dk_at dksX12_told_2 19 rfl rfl)
theorem dX12_told_66 : decode cX12_told 66 = .ok (.iaload, 1) := dk_46 (dk_at dksX12_told_2 20 rfl rfl)
theorem dX12_told_67 : decode cX12_told 67 = .ok (.if_icmp .ge 25, 3) := dk_162 0 25 (dk_at dksX12_told_2 21 rfl rfl)
theorem dX12_told_70 : decode cX12_told 70 = .ok (.iload_n 2, 1) := dk_28 (dk_at dksX12_told_3 0 rfl rfl)
theorem dX12_told_71 : decode cX12_told 71 = .ok (.aload_n 0, 1) := dk_42 (dk_at dksX12_told_3 1 rfl rfl)
theorem dX12_told_72 : decode cX12_told 72 = .ok (.iload_n 3, 1) := dk_29 (dk_at dksX12_told_3 2 rfl rfl)
theorem dX12_told_73 : decode cX12_told 73 = .ok (.invokevirtual 322, 3) := dk_182 1 66 (dk_at dksX12_told_3 3 rfl rfl)
theorem dX12_told_76 : decode cX12_told 76 = .ok (.ifCond .eq 7, 3) := dk_153 0 7 (dk_at dksX12_told_3 6 rfl rfl)
theorem dX12_told_79 : decode cX12_told 79 = .ok (.iconst 1, 1) := dk_4 (dk_at dksX12_told_3 9 rfl rfl)
theorem dX12_told_80 : decode cX12_told 80 = .ok (.goto 4, 3) := dk_167 0 4 (dk_at dksX12_told_3 10 rfl rfl)
theorem dX12_told_83 : decode cX12_told 83 = .ok (.iconst 0, 1) := dk_3 (dk_at dksX12_told_3 13 rfl rfl)
theorem dX12_told_84 : decode cX12_told 84 = .ok (.iadd, 1) := dk_96 (dk_at dksX12_told_3 14 rfl rfl)
theorem dX12_told_85 : decode cX12_told 85 = .ok (.istore_n 2, 1) := dk_61 (dk_at dksX12_told_3 15 rfl rfl)
theorem dX12_told_86 : decode cX12_told 86 = .ok (.iinc 3 1, 3) := dk_132 3 1 (dk_at dksX12_told_3 16 rfl rfl)
theorem dX12_told_89 : decode cX12_told 89 = .ok (.goto (-29), 3) := dk_167 255 227 (dk_at dksX12_told_3 19 rfl rfl)
theorem dX12_told_92 : decode cX12_told 92 = .ok (.iload_n 2, 1) := dk_28 (dk_at dksX12_told_3 22 rfl rfl)
theorem dX12_told_93 : decode cX12_told 93 = .ok (.ireturn, 1) := dk_172 (dk_at dksX12_told_3 23 rfl rfl)
abbrev cX12_within : ByteArray := prog_27_method_3_code
def yX12_within : MethodName := ⟨RX12, "within", "(III)Z"⟩
def dkwX12_within_0 : List UInt8 := [26, 27, 161, 0, 12, 26, 28, 163, 0, 7, 4, 167, 0, 4, 3, 172]
abbrev dktX12_within_0 : List UInt8 := dkwX12_within_0 ++ []
theorem dksX12_within_0 : cX12_within.data.toList.drop 0 = dktX12_within_0 := by decide +kernel
theorem dX12_within_0 : decode cX12_within 0 = .ok (.iload_n 0, 1) := dk_26 (dk_at dksX12_within_0 0 rfl rfl)
theorem dX12_within_1 : decode cX12_within 1 = .ok (.iload_n 1, 1) := dk_27 (dk_at dksX12_within_0 1 rfl rfl)
theorem dX12_within_2 : decode cX12_within 2 = .ok (.if_icmp .lt 12, 3) := dk_161 0 12 (dk_at dksX12_within_0 2 rfl rfl)
theorem dX12_within_5 : decode cX12_within 5 = .ok (.iload_n 0, 1) := dk_26 (dk_at dksX12_within_0 5 rfl rfl)
theorem dX12_within_6 : decode cX12_within 6 = .ok (.iload_n 2, 1) := dk_28 (dk_at dksX12_within_0 6 rfl rfl)
theorem dX12_within_7 : decode cX12_within 7 = .ok (.if_icmp .gt 7, 3) := dk_163 0 7 (dk_at dksX12_within_0 7 rfl rfl)
theorem dX12_within_10 : decode cX12_within 10 = .ok (.iconst 1, 1) := dk_4 (dk_at dksX12_within_0 10 rfl rfl)
theorem dX12_within_11 : decode cX12_within 11 = .ok (.goto 4, 3) := dk_167 0 4 (dk_at dksX12_within_0 11 rfl rfl)
theorem dX12_within_14 : decode cX12_within 14 = .ok (.iconst 0, 1) := dk_3 (dk_at dksX12_within_0 14 rfl rfl)
theorem dX12_within_15 : decode cX12_within 15 = .ok (.ireturn, 1) := dk_172 (dk_at dksX12_within_0 15 rfl rfl)
abbrev cX12_snows : ByteArray := prog_27_method_47_code
def yX12_snows : MethodName := ⟨RX12, "snows", "(I)Z"⟩
def dkwX12_snows_1 : List UInt8 := [27, 96, 46, 158, 0, 5, 4, 172, 132, 2, 1, 167, 255, 223, 3, 172]
abbrev dktX12_snows_1 : List UInt8 := dkwX12_snows_1 ++ []
def dkwX12_snows_0 : List UInt8 := [3, 61, 28, 42, 180, 0, 23, 4, 46, 162, 0, 29, 42, 180, 0, 23, 17, 0, 132, 16, 24, 28, 104, 96]
abbrev dktX12_snows_0 : List UInt8 := dkwX12_snows_0 ++ dktX12_snows_1
theorem dksX12_snows_0 : cX12_snows.data.toList.drop 0 = dktX12_snows_0 := by decide +kernel
theorem dksX12_snows_1 : cX12_snows.data.toList.drop 24 = dktX12_snows_1 := dk_seg dksX12_snows_0 24 rfl rfl
theorem dX12_snows_0 : decode cX12_snows 0 = .ok (.iconst 0, 1) := dk_3 (dk_at dksX12_snows_0 0 rfl rfl)
theorem dX12_snows_1 : decode cX12_snows 1 = .ok (.istore_n 2, 1) := dk_61 (dk_at dksX12_snows_0 1 rfl rfl)
theorem dX12_snows_2 : decode cX12_snows 2 = .ok (.iload_n 2, 1) := dk_28 (dk_at dksX12_snows_0 2 rfl rfl)
theorem dX12_snows_3 : decode cX12_snows 3 = .ok (.aload_n 0, 1) := dk_42 (dk_at dksX12_snows_0 3 rfl rfl)
theorem dX12_snows_4 : decode cX12_snows 4 = .ok (.getfield 23, 3) := dk_180 0 23 (dk_at dksX12_snows_0 4 rfl rfl)
theorem dX12_snows_7 : decode cX12_snows 7 = .ok (.iconst 1, 1) := dk_4 (dk_at dksX12_snows_0 7 rfl rfl)
theorem dX12_snows_8 : decode cX12_snows 8 = .ok (.iaload, 1) := dk_46 (dk_at dksX12_snows_0 8 rfl rfl)
theorem dX12_snows_9 : decode cX12_snows 9 = .ok (.if_icmp .ge 29, 3) := dk_162 0 29 (dk_at dksX12_snows_0 9 rfl rfl)
theorem dX12_snows_12 : decode cX12_snows 12 = .ok (.aload_n 0, 1) := dk_42 (dk_at dksX12_snows_0 12 rfl rfl)
theorem dX12_snows_13 : decode cX12_snows 13 = .ok (.getfield 23, 3) := dk_180 0 23 (dk_at dksX12_snows_0 13 rfl rfl)
theorem dX12_snows_16 : decode cX12_snows 16 = .ok (.sipush 132, 3) := dk_17 0 132 (dk_at dksX12_snows_0 16 rfl rfl)
theorem dX12_snows_19 : decode cX12_snows 19 = .ok (.bipush 24, 2) := dk_16 24 (dk_at dksX12_snows_0 19 rfl rfl)
theorem dX12_snows_21 : decode cX12_snows 21 = .ok (.iload_n 2, 1) := dk_28 (dk_at dksX12_snows_0 21 rfl rfl)
theorem dX12_snows_22 : decode cX12_snows 22 = .ok (.imul, 1) := dk_104 (dk_at dksX12_snows_0 22 rfl rfl)
theorem dX12_snows_23 : decode cX12_snows 23 = .ok (.iadd, 1) := dk_96 (dk_at dksX12_snows_0 23 rfl rfl)
theorem dX12_snows_24 : decode cX12_snows 24 = .ok (.iload_n 1, 1) := dk_27 (dk_at dksX12_snows_1 0 rfl rfl)
theorem dX12_snows_25 : decode cX12_snows 25 = .ok (.iadd, 1) := dk_96 (dk_at dksX12_snows_1 1 rfl rfl)
theorem dX12_snows_26 : decode cX12_snows 26 = .ok (.iaload, 1) := dk_46 (dk_at dksX12_snows_1 2 rfl rfl)
theorem dX12_snows_27 : decode cX12_snows 27 = .ok (.ifCond .le 5, 3) := dk_158 0 5 (dk_at dksX12_snows_1 3 rfl rfl)
theorem dX12_snows_30 : decode cX12_snows 30 = .ok (.iconst 1, 1) := dk_4 (dk_at dksX12_snows_1 6 rfl rfl)
theorem dX12_snows_31 : decode cX12_snows 31 = .ok (.ireturn, 1) := dk_172 (dk_at dksX12_snows_1 7 rfl rfl)
theorem dX12_snows_32 : decode cX12_snows 32 = .ok (.iinc 2 1, 3) := dk_132 2 1 (dk_at dksX12_snows_1 8 rfl rfl)
theorem dX12_snows_35 : decode cX12_snows 35 = .ok (.goto (-33), 3) := dk_167 255 223 (dk_at dksX12_snows_1 11 rfl rfl)
theorem dX12_snows_38 : decode cX12_snows 38 = .ok (.iconst 0, 1) := dk_3 (dk_at dksX12_snows_1 14 rfl rfl)
theorem dX12_snows_39 : decode cX12_snows 39 = .ok (.ireturn, 1) := dk_172 (dk_at dksX12_snows_1 15 rfl rfl)
abbrev cX12_snow : ByteArray := prog_27_method_48_code
def yX12_snow : MethodName := ⟨RX12, "snow", "(II)I"⟩
def dkwX12_snow_2 : List UInt8 := [17, 0, 132, 16, 24, 27, 104, 96, 28, 96, 46, 172]
abbrev dktX12_snow_2 : List UInt8 := dkwX12_snow_2 ++ []
def dkwX12_snow_1 : List UInt8 := [153, 0, 16, 42, 28, 184, 1, 69, 5, 5, 182, 0, 226, 154, 0, 5, 3, 172, 42, 180, 0, 23]
abbrev dktX12_snow_1 : List UInt8 := dkwX12_snow_1 ++ dktX12_snow_2
def dkwX12_snow_0 : List UInt8 := [42, 3, 181, 0, 1, 42, 27, 3, 42, 180, 0, 23, 4, 46, 4, 100, 184, 1, 58, 4, 4, 182, 0, 226]
abbrev dktX12_snow_0 : List UInt8 := dkwX12_snow_0 ++ dktX12_snow_1
theorem dksX12_snow_0 : cX12_snow.data.toList.drop 0 = dktX12_snow_0 := by decide +kernel
theorem dksX12_snow_1 : cX12_snow.data.toList.drop 24 = dktX12_snow_1 := dk_seg dksX12_snow_0 24 rfl rfl
theorem dksX12_snow_2 : cX12_snow.data.toList.drop 46 = dktX12_snow_2 := dk_seg dksX12_snow_1 22 rfl rfl
theorem dX12_snow_0 : decode cX12_snow 0 = .ok (.aload_n 0, 1) := dk_42 (dk_at dksX12_snow_0 0 rfl rfl)
theorem dX12_snow_1 : decode cX12_snow 1 = .ok (.iconst 0, 1) := dk_3 (dk_at dksX12_snow_0 1 rfl rfl)
theorem dX12_snow_2 : decode cX12_snow 2 = .ok (.putfield 1, 3) := dk_181 0 1 (dk_at dksX12_snow_0 2 rfl rfl)
theorem dX12_snow_5 : decode cX12_snow 5 = .ok (.aload_n 0, 1) := dk_42 (dk_at dksX12_snow_0 5 rfl rfl)
theorem dX12_snow_6 : decode cX12_snow 6 = .ok (.iload_n 1, 1) := dk_27 (dk_at dksX12_snow_0 6 rfl rfl)
theorem dX12_snow_7 : decode cX12_snow 7 = .ok (.iconst 0, 1) := dk_3 (dk_at dksX12_snow_0 7 rfl rfl)
theorem dX12_snow_8 : decode cX12_snow 8 = .ok (.aload_n 0, 1) := dk_42 (dk_at dksX12_snow_0 8 rfl rfl)
theorem dX12_snow_9 : decode cX12_snow 9 = .ok (.getfield 23, 3) := dk_180 0 23 (dk_at dksX12_snow_0 9 rfl rfl)
theorem dX12_snow_12 : decode cX12_snow 12 = .ok (.iconst 1, 1) := dk_4 (dk_at dksX12_snow_0 12 rfl rfl)
theorem dX12_snow_13 : decode cX12_snow 13 = .ok (.iaload, 1) := dk_46 (dk_at dksX12_snow_0 13 rfl rfl)
theorem dX12_snow_14 : decode cX12_snow 14 = .ok (.iconst 1, 1) := dk_4 (dk_at dksX12_snow_0 14 rfl rfl)
theorem dX12_snow_15 : decode cX12_snow 15 = .ok (.isub, 1) := dk_100 (dk_at dksX12_snow_0 15 rfl rfl)
theorem dX12_snow_16 : decode cX12_snow 16 = .ok (.invokestatic 314, 3) := dk_184 1 58 (dk_at dksX12_snow_0 16 rfl rfl)
theorem dX12_snow_19 : decode cX12_snow 19 = .ok (.iconst 1, 1) := dk_4 (dk_at dksX12_snow_0 19 rfl rfl)
theorem dX12_snow_20 : decode cX12_snow 20 = .ok (.iconst 1, 1) := dk_4 (dk_at dksX12_snow_0 20 rfl rfl)
theorem dX12_snow_21 : decode cX12_snow 21 = .ok (.invokevirtual 226, 3) := dk_182 0 226 (dk_at dksX12_snow_0 21 rfl rfl)
theorem dX12_snow_24 : decode cX12_snow 24 = .ok (.ifCond .eq 16, 3) := dk_153 0 16 (dk_at dksX12_snow_1 0 rfl rfl)
theorem dX12_snow_27 : decode cX12_snow 27 = .ok (.aload_n 0, 1) := dk_42 (dk_at dksX12_snow_1 3 rfl rfl)
theorem dX12_snow_28 : decode cX12_snow 28 = .ok (.iload_n 2, 1) := dk_28 (dk_at dksX12_snow_1 4 rfl rfl)
theorem dX12_snow_29 : decode cX12_snow 29 = .ok (.invokestatic 325, 3) := dk_184 1 69 (dk_at dksX12_snow_1 5 rfl rfl)
theorem dX12_snow_32 : decode cX12_snow 32 = .ok (.iconst 2, 1) := dk_5 (dk_at dksX12_snow_1 8 rfl rfl)
theorem dX12_snow_33 : decode cX12_snow 33 = .ok (.iconst 2, 1) := dk_5 (dk_at dksX12_snow_1 9 rfl rfl)
theorem dX12_snow_34 : decode cX12_snow 34 = .ok (.invokevirtual 226, 3) := dk_182 0 226 (dk_at dksX12_snow_1 10 rfl rfl)
theorem dX12_snow_37 : decode cX12_snow 37 = .ok (.ifCond .ne 5, 3) := dk_154 0 5 (dk_at dksX12_snow_1 13 rfl rfl)
theorem dX12_snow_40 : decode cX12_snow 40 = .ok (.iconst 0, 1) := dk_3 (dk_at dksX12_snow_1 16 rfl rfl)
theorem dX12_snow_41 : decode cX12_snow 41 = .ok (.ireturn, 1) := dk_172 (dk_at dksX12_snow_1 17 rfl rfl)
theorem dX12_snow_42 : decode cX12_snow 42 = .ok (.aload_n 0, 1) := dk_42 (dk_at dksX12_snow_1 18 rfl rfl)
theorem dX12_snow_43 : decode cX12_snow 43 = .ok (.getfield 23, 3) := dk_180 0 23 (dk_at dksX12_snow_1 19 rfl rfl)
theorem dX12_snow_46 : decode cX12_snow 46 = .ok (.sipush 132, 3) := dk_17 0 132 (dk_at dksX12_snow_2 0 rfl rfl)
theorem dX12_snow_49 : decode cX12_snow 49 = .ok (.bipush 24, 2) := dk_16 24 (dk_at dksX12_snow_2 3 rfl rfl)
theorem dX12_snow_51 : decode cX12_snow 51 = .ok (.iload_n 1, 1) := dk_27 (dk_at dksX12_snow_2 5 rfl rfl)
theorem dX12_snow_52 : decode cX12_snow 52 = .ok (.imul, 1) := dk_104 (dk_at dksX12_snow_2 6 rfl rfl)
theorem dX12_snow_53 : decode cX12_snow 53 = .ok (.iadd, 1) := dk_96 (dk_at dksX12_snow_2 7 rfl rfl)
theorem dX12_snow_54 : decode cX12_snow 54 = .ok (.iload_n 2, 1) := dk_28 (dk_at dksX12_snow_2 8 rfl rfl)
theorem dX12_snow_55 : decode cX12_snow 55 = .ok (.iadd, 1) := dk_96 (dk_at dksX12_snow_2 9 rfl rfl)
theorem dX12_snow_56 : decode cX12_snow 56 = .ok (.iaload, 1) := dk_46 (dk_at dksX12_snow_2 10 rfl rfl)
theorem dX12_snow_57 : decode cX12_snow 57 = .ok (.ireturn, 1) := dk_172 (dk_at dksX12_snow_2 11 rfl rfl)
abbrev cX12_isHour : ByteArray := prog_27_method_45_code
def yX12_isHour : MethodName := ⟨RX12, "isHour", "(I)Z"⟩
def dkwX12_isHour_0 : List UInt8 := [26, 3, 16, 23, 184, 1, 58, 172]
abbrev dktX12_isHour_0 : List UInt8 := dkwX12_isHour_0 ++ []
theorem dksX12_isHour_0 : cX12_isHour.data.toList.drop 0 = dktX12_isHour_0 := by decide +kernel
theorem dX12_isHour_0 : decode cX12_isHour 0 = .ok (.iload_n 0, 1) := dk_26 (dk_at dksX12_isHour_0 0 rfl rfl)
theorem dX12_isHour_1 : decode cX12_isHour 1 = .ok (.iconst 0, 1) := dk_3 (dk_at dksX12_isHour_0 1 rfl rfl)
theorem dX12_isHour_2 : decode cX12_isHour 2 = .ok (.bipush 23, 2) := dk_16 23 (dk_at dksX12_isHour_0 2 rfl rfl)
theorem dX12_isHour_4 : decode cX12_isHour 4 = .ok (.invokestatic 314, 3) := dk_184 1 58 (dk_at dksX12_isHour_0 4 rfl rfl)
theorem dX12_isHour_7 : decode cX12_isHour 7 = .ok (.ireturn, 1) := dk_172 (dk_at dksX12_isHour_0 7 rfl rfl)
abbrev cX12_wants : ByteArray := prog_27_method_49_code
def yX12_wants : MethodName := ⟨RX12, "wants", "(II)I"⟩
def dkwX12_wants_2 : List UInt8 := [16, 67, 27, 96, 46, 167, 0, 17, 42, 180, 0, 23, 16, 72, 16, 12, 27, 104, 96, 28, 96, 46, 172]
abbrev dktX12_wants_2 : List UInt8 := dkwX12_wants_2 ++ []
def dkwX12_wants_1 : List UInt8 := [100, 184, 1, 58, 5, 5, 182, 0, 226, 154, 0, 5, 3, 172, 28, 2, 160, 0, 15, 42, 180, 0, 23]
abbrev dktX12_wants_1 : List UInt8 := dkwX12_wants_1 ++ dktX12_wants_2
def dkwX12_wants_0 : List UInt8 := [42, 3, 181, 0, 1, 42, 27, 4, 182, 1, 62, 153, 0, 25, 42, 28, 2, 42, 180, 0, 23, 3, 46, 4]
abbrev dktX12_wants_0 : List UInt8 := dkwX12_wants_0 ++ dktX12_wants_1
theorem dksX12_wants_0 : cX12_wants.data.toList.drop 0 = dktX12_wants_0 := by decide +kernel
theorem dksX12_wants_1 : cX12_wants.data.toList.drop 24 = dktX12_wants_1 := dk_seg dksX12_wants_0 24 rfl rfl
theorem dksX12_wants_2 : cX12_wants.data.toList.drop 47 = dktX12_wants_2 := dk_seg dksX12_wants_1 23 rfl rfl
theorem dX12_wants_0 : decode cX12_wants 0 = .ok (.aload_n 0, 1) := dk_42 (dk_at dksX12_wants_0 0 rfl rfl)
theorem dX12_wants_1 : decode cX12_wants 1 = .ok (.iconst 0, 1) := dk_3 (dk_at dksX12_wants_0 1 rfl rfl)
theorem dX12_wants_2 : decode cX12_wants 2 = .ok (.putfield 1, 3) := dk_181 0 1 (dk_at dksX12_wants_0 2 rfl rfl)
theorem dX12_wants_5 : decode cX12_wants 5 = .ok (.aload_n 0, 1) := dk_42 (dk_at dksX12_wants_0 5 rfl rfl)
theorem dX12_wants_6 : decode cX12_wants 6 = .ok (.iload_n 1, 1) := dk_27 (dk_at dksX12_wants_0 6 rfl rfl)
theorem dX12_wants_7 : decode cX12_wants 7 = .ok (.iconst 1, 1) := dk_4 (dk_at dksX12_wants_0 7 rfl rfl)
theorem dX12_wants_8 : decode cX12_wants 8 = .ok (.invokevirtual 318, 3) := dk_182 1 62 (dk_at dksX12_wants_0 8 rfl rfl)
theorem dX12_wants_11 : decode cX12_wants 11 = .ok (.ifCond .eq 25, 3) := dk_153 0 25 (dk_at dksX12_wants_0 11 rfl rfl)
theorem dX12_wants_14 : decode cX12_wants 14 = .ok (.aload_n 0, 1) := dk_42 (dk_at dksX12_wants_0 14 rfl rfl)
theorem dX12_wants_15 : decode cX12_wants 15 = .ok (.iload_n 2, 1) := dk_28 (dk_at dksX12_wants_0 15 rfl rfl)
theorem dX12_wants_16 : decode cX12_wants 16 = .ok (.iconst (-1), 1) := dk_2 (dk_at dksX12_wants_0 16 rfl rfl)
theorem dX12_wants_17 : decode cX12_wants 17 = .ok (.aload_n 0, 1) := dk_42 (dk_at dksX12_wants_0 17 rfl rfl)
theorem dX12_wants_18 : decode cX12_wants 18 = .ok (.getfield 23, 3) := dk_180 0 23 (dk_at dksX12_wants_0 18 rfl rfl)
theorem dX12_wants_21 : decode cX12_wants 21 = .ok (.iconst 0, 1) := dk_3 (dk_at dksX12_wants_0 21 rfl rfl)
theorem dX12_wants_22 : decode cX12_wants 22 = .ok (.iaload, 1) := dk_46 (dk_at dksX12_wants_0 22 rfl rfl)
theorem dX12_wants_23 : decode cX12_wants 23 = .ok (.iconst 1, 1) := dk_4 (dk_at dksX12_wants_0 23 rfl rfl)
theorem dX12_wants_24 : decode cX12_wants 24 = .ok (.isub, 1) := dk_100 (dk_at dksX12_wants_1 0 rfl rfl)
theorem dX12_wants_25 : decode cX12_wants 25 = .ok (.invokestatic 314, 3) := dk_184 1 58 (dk_at dksX12_wants_1 1 rfl rfl)
theorem dX12_wants_28 : decode cX12_wants 28 = .ok (.iconst 2, 1) := dk_5 (dk_at dksX12_wants_1 4 rfl rfl)
theorem dX12_wants_29 : decode cX12_wants 29 = .ok (.iconst 2, 1) := dk_5 (dk_at dksX12_wants_1 5 rfl rfl)
theorem dX12_wants_30 : decode cX12_wants 30 = .ok (.invokevirtual 226, 3) := dk_182 0 226 (dk_at dksX12_wants_1 6 rfl rfl)
theorem dX12_wants_33 : decode cX12_wants 33 = .ok (.ifCond .ne 5, 3) := dk_154 0 5 (dk_at dksX12_wants_1 9 rfl rfl)
theorem dX12_wants_36 : decode cX12_wants 36 = .ok (.iconst 0, 1) := dk_3 (dk_at dksX12_wants_1 12 rfl rfl)
theorem dX12_wants_37 : decode cX12_wants 37 = .ok (.ireturn, 1) := dk_172 (dk_at dksX12_wants_1 13 rfl rfl)
theorem dX12_wants_38 : decode cX12_wants 38 = .ok (.iload_n 2, 1) := dk_28 (dk_at dksX12_wants_1 14 rfl rfl)
theorem dX12_wants_39 : decode cX12_wants 39 = .ok (.iconst (-1), 1) := dk_2 (dk_at dksX12_wants_1 15 rfl rfl)
theorem dX12_wants_40 : decode cX12_wants 40 = .ok (.if_icmp .ne 15, 3) := dk_160 0 15 (dk_at dksX12_wants_1 16 rfl rfl)
theorem dX12_wants_43 : decode cX12_wants 43 = .ok (.aload_n 0, 1) := dk_42 (dk_at dksX12_wants_1 19 rfl rfl)
theorem dX12_wants_44 : decode cX12_wants 44 = .ok (.getfield 23, 3) := dk_180 0 23 (dk_at dksX12_wants_1 20 rfl rfl)
theorem dX12_wants_47 : decode cX12_wants 47 = .ok (.bipush 67, 2) := dk_16 67 (dk_at dksX12_wants_2 0 rfl rfl)
theorem dX12_wants_49 : decode cX12_wants 49 = .ok (.iload_n 1, 1) := dk_27 (dk_at dksX12_wants_2 2 rfl rfl)
theorem dX12_wants_50 : decode cX12_wants 50 = .ok (.iadd, 1) := dk_96 (dk_at dksX12_wants_2 3 rfl rfl)
theorem dX12_wants_51 : decode cX12_wants 51 = .ok (.iaload, 1) := dk_46 (dk_at dksX12_wants_2 4 rfl rfl)
theorem dX12_wants_52 : decode cX12_wants 52 = .ok (.goto 17, 3) := dk_167 0 17 (dk_at dksX12_wants_2 5 rfl rfl)
theorem dX12_wants_55 : decode cX12_wants 55 = .ok (.aload_n 0, 1) := dk_42 (dk_at dksX12_wants_2 8 rfl rfl)
theorem dX12_wants_56 : decode cX12_wants 56 = .ok (.getfield 23, 3) := dk_180 0 23 (dk_at dksX12_wants_2 9 rfl rfl)
theorem dX12_wants_59 : decode cX12_wants 59 = .ok (.bipush 72, 2) := dk_16 72 (dk_at dksX12_wants_2 12 rfl rfl)
theorem dX12_wants_61 : decode cX12_wants 61 = .ok (.bipush 12, 2) := dk_16 12 (dk_at dksX12_wants_2 14 rfl rfl)
theorem dX12_wants_63 : decode cX12_wants 63 = .ok (.iload_n 1, 1) := dk_27 (dk_at dksX12_wants_2 16 rfl rfl)
theorem dX12_wants_64 : decode cX12_wants 64 = .ok (.imul, 1) := dk_104 (dk_at dksX12_wants_2 17 rfl rfl)
theorem dX12_wants_65 : decode cX12_wants 65 = .ok (.iadd, 1) := dk_96 (dk_at dksX12_wants_2 18 rfl rfl)
theorem dX12_wants_66 : decode cX12_wants 66 = .ok (.iload_n 2, 1) := dk_28 (dk_at dksX12_wants_2 19 rfl rfl)
theorem dX12_wants_67 : decode cX12_wants 67 = .ok (.iadd, 1) := dk_96 (dk_at dksX12_wants_2 20 rfl rfl)
theorem dX12_wants_68 : decode cX12_wants 68 = .ok (.iaload, 1) := dk_46 (dk_at dksX12_wants_2 21 rfl rfl)
theorem dX12_wants_69 : decode cX12_wants 69 = .ok (.ireturn, 1) := dk_172 (dk_at dksX12_wants_2 22 rfl rfl)
abbrev cX12_isPerson : ByteArray := prog_27_method_43_code
def yX12_isPerson : MethodName := ⟨RX12, "isPerson", "(II)Z"⟩
def dkwX12_isPerson_0 : List UInt8 := [42, 27, 3, 42, 180, 0, 23, 5, 46, 4, 100, 184, 1, 58, 28, 3, 182, 0, 226, 172]
abbrev dktX12_isPerson_0 : List UInt8 := dkwX12_isPerson_0 ++ []
theorem dksX12_isPerson_0 : cX12_isPerson.data.toList.drop 0 = dktX12_isPerson_0 := by decide +kernel
theorem dX12_isPerson_0 : decode cX12_isPerson 0 = .ok (.aload_n 0, 1) := dk_42 (dk_at dksX12_isPerson_0 0 rfl rfl)
theorem dX12_isPerson_1 : decode cX12_isPerson 1 = .ok (.iload_n 1, 1) := dk_27 (dk_at dksX12_isPerson_0 1 rfl rfl)
theorem dX12_isPerson_2 : decode cX12_isPerson 2 = .ok (.iconst 0, 1) := dk_3 (dk_at dksX12_isPerson_0 2 rfl rfl)
theorem dX12_isPerson_3 : decode cX12_isPerson 3 = .ok (.aload_n 0, 1) := dk_42 (dk_at dksX12_isPerson_0 3 rfl rfl)
theorem dX12_isPerson_4 : decode cX12_isPerson 4 = .ok (.getfield 23, 3) := dk_180 0 23 (dk_at dksX12_isPerson_0 4 rfl rfl)
theorem dX12_isPerson_7 : decode cX12_isPerson 7 = .ok (.iconst 2, 1) := dk_5 (dk_at dksX12_isPerson_0 7 rfl rfl)
theorem dX12_isPerson_8 : decode cX12_isPerson 8 = .ok (.iaload, 1) := dk_46 (dk_at dksX12_isPerson_0 8 rfl rfl)
theorem dX12_isPerson_9 : decode cX12_isPerson 9 = .ok (.iconst 1, 1) := dk_4 (dk_at dksX12_isPerson_0 9 rfl rfl)
theorem dX12_isPerson_10 : decode cX12_isPerson 10 = .ok (.isub, 1) := dk_100 (dk_at dksX12_isPerson_0 10 rfl rfl)
theorem dX12_isPerson_11 : decode cX12_isPerson 11 = .ok (.invokestatic 314, 3) := dk_184 1 58 (dk_at dksX12_isPerson_0 11 rfl rfl)
theorem dX12_isPerson_14 : decode cX12_isPerson 14 = .ok (.iload_n 2, 1) := dk_28 (dk_at dksX12_isPerson_0 14 rfl rfl)
theorem dX12_isPerson_15 : decode cX12_isPerson 15 = .ok (.iconst 0, 1) := dk_3 (dk_at dksX12_isPerson_0 15 rfl rfl)
theorem dX12_isPerson_16 : decode cX12_isPerson 16 = .ok (.invokevirtual 226, 3) := dk_182 0 226 (dk_at dksX12_isPerson_0 16 rfl rfl)
theorem dX12_isPerson_19 : decode cX12_isPerson 19 = .ok (.ireturn, 1) := dk_172 (dk_at dksX12_isPerson_0 19 rfl rfl)
abbrev cX12_kind : ByteArray := prog_27_method_50_code
def yX12_kind : MethodName := ⟨RX12, "kind", "(II)I"⟩
def dkwX12_kind_2 : List UInt8 := [28, 79, 29, 172]
abbrev dktX12_kind_2 : List UInt8 := dkwX12_kind_2 ++ []
def dkwX12_kind_1 : List UInt8 := [182, 0, 226, 154, 0, 5, 3, 172, 42, 180, 0, 59, 3, 27, 96, 46, 62, 42, 180, 0, 59, 3, 27, 96]
abbrev dktX12_kind_1 : List UInt8 := dkwX12_kind_1 ++ dktX12_kind_2
def dkwX12_kind_0 : List UInt8 := [42, 3, 181, 0, 1, 42, 27, 4, 182, 1, 62, 153, 0, 18, 42, 28, 3, 8, 184, 1, 58, 5, 5]
abbrev dktX12_kind_0 : List UInt8 := dkwX12_kind_0 ++ dktX12_kind_1
theorem dksX12_kind_0 : cX12_kind.data.toList.drop 0 = dktX12_kind_0 := by decide +kernel
theorem dksX12_kind_1 : cX12_kind.data.toList.drop 23 = dktX12_kind_1 := dk_seg dksX12_kind_0 23 rfl rfl
theorem dksX12_kind_2 : cX12_kind.data.toList.drop 47 = dktX12_kind_2 := dk_seg dksX12_kind_1 24 rfl rfl
theorem dX12_kind_0 : decode cX12_kind 0 = .ok (.aload_n 0, 1) := dk_42 (dk_at dksX12_kind_0 0 rfl rfl)
theorem dX12_kind_1 : decode cX12_kind 1 = .ok (.iconst 0, 1) := dk_3 (dk_at dksX12_kind_0 1 rfl rfl)
theorem dX12_kind_2 : decode cX12_kind 2 = .ok (.putfield 1, 3) := dk_181 0 1 (dk_at dksX12_kind_0 2 rfl rfl)
theorem dX12_kind_5 : decode cX12_kind 5 = .ok (.aload_n 0, 1) := dk_42 (dk_at dksX12_kind_0 5 rfl rfl)
theorem dX12_kind_6 : decode cX12_kind 6 = .ok (.iload_n 1, 1) := dk_27 (dk_at dksX12_kind_0 6 rfl rfl)
theorem dX12_kind_7 : decode cX12_kind 7 = .ok (.iconst 1, 1) := dk_4 (dk_at dksX12_kind_0 7 rfl rfl)
theorem dX12_kind_8 : decode cX12_kind 8 = .ok (.invokevirtual 318, 3) := dk_182 1 62 (dk_at dksX12_kind_0 8 rfl rfl)
theorem dX12_kind_11 : decode cX12_kind 11 = .ok (.ifCond .eq 18, 3) := dk_153 0 18 (dk_at dksX12_kind_0 11 rfl rfl)
theorem dX12_kind_14 : decode cX12_kind 14 = .ok (.aload_n 0, 1) := dk_42 (dk_at dksX12_kind_0 14 rfl rfl)
theorem dX12_kind_15 : decode cX12_kind 15 = .ok (.iload_n 2, 1) := dk_28 (dk_at dksX12_kind_0 15 rfl rfl)
theorem dX12_kind_16 : decode cX12_kind 16 = .ok (.iconst 0, 1) := dk_3 (dk_at dksX12_kind_0 16 rfl rfl)
theorem dX12_kind_17 : decode cX12_kind 17 = .ok (.iconst 5, 1) := dk_8 (dk_at dksX12_kind_0 17 rfl rfl)
theorem dX12_kind_18 : decode cX12_kind 18 = .ok (.invokestatic 314, 3) := dk_184 1 58 (dk_at dksX12_kind_0 18 rfl rfl)
theorem dX12_kind_21 : decode cX12_kind 21 = .ok (.iconst 2, 1) := dk_5 (dk_at dksX12_kind_0 21 rfl rfl)
theorem dX12_kind_22 : decode cX12_kind 22 = .ok (.iconst 2, 1) := dk_5 (dk_at dksX12_kind_0 22 rfl rfl)
theorem dX12_kind_23 : decode cX12_kind 23 = .ok (.invokevirtual 226, 3) := dk_182 0 226 (dk_at dksX12_kind_1 0 rfl rfl)
theorem dX12_kind_26 : decode cX12_kind 26 = .ok (.ifCond .ne 5, 3) := dk_154 0 5 (dk_at dksX12_kind_1 3 rfl rfl)
theorem dX12_kind_29 : decode cX12_kind 29 = .ok (.iconst 0, 1) := dk_3 (dk_at dksX12_kind_1 6 rfl rfl)
theorem dX12_kind_30 : decode cX12_kind 30 = .ok (.ireturn, 1) := dk_172 (dk_at dksX12_kind_1 7 rfl rfl)
theorem dX12_kind_31 : decode cX12_kind 31 = .ok (.aload_n 0, 1) := dk_42 (dk_at dksX12_kind_1 8 rfl rfl)
theorem dX12_kind_32 : decode cX12_kind 32 = .ok (.getfield 59, 3) := dk_180 0 59 (dk_at dksX12_kind_1 9 rfl rfl)
theorem dX12_kind_35 : decode cX12_kind 35 = .ok (.iconst 0, 1) := dk_3 (dk_at dksX12_kind_1 12 rfl rfl)
theorem dX12_kind_36 : decode cX12_kind 36 = .ok (.iload_n 1, 1) := dk_27 (dk_at dksX12_kind_1 13 rfl rfl)
theorem dX12_kind_37 : decode cX12_kind 37 = .ok (.iadd, 1) := dk_96 (dk_at dksX12_kind_1 14 rfl rfl)
theorem dX12_kind_38 : decode cX12_kind 38 = .ok (.iaload, 1) := dk_46 (dk_at dksX12_kind_1 15 rfl rfl)
theorem dX12_kind_39 : decode cX12_kind 39 = .ok (.istore_n 3, 1) := dk_62 (dk_at dksX12_kind_1 16 rfl rfl)
theorem dX12_kind_40 : decode cX12_kind 40 = .ok (.aload_n 0, 1) := dk_42 (dk_at dksX12_kind_1 17 rfl rfl)
theorem dX12_kind_41 : decode cX12_kind 41 = .ok (.getfield 59, 3) := dk_180 0 59 (dk_at dksX12_kind_1 18 rfl rfl)
theorem dX12_kind_44 : decode cX12_kind 44 = .ok (.iconst 0, 1) := dk_3 (dk_at dksX12_kind_1 21 rfl rfl)
theorem dX12_kind_45 : decode cX12_kind 45 = .ok (.iload_n 1, 1) := dk_27 (dk_at dksX12_kind_1 22 rfl rfl)
theorem dX12_kind_46 : decode cX12_kind 46 = .ok (.iadd, 1) := dk_96 (dk_at dksX12_kind_1 23 rfl rfl)
theorem dX12_kind_47 : decode cX12_kind 47 = .ok (.iload_n 2, 1) := dk_28 (dk_at dksX12_kind_2 0 rfl rfl)
theorem dX12_kind_48 : decode cX12_kind 48 = .ok (.iastore, 1) := dk_79 (dk_at dksX12_kind_2 1 rfl rfl)
theorem dX12_kind_49 : decode cX12_kind 49 = .ok (.iload_n 3, 1) := dk_29 (dk_at dksX12_kind_2 2 rfl rfl)
theorem dX12_kind_50 : decode cX12_kind 50 = .ok (.ireturn, 1) := dk_172 (dk_at dksX12_kind_2 3 rfl rfl)
abbrev cX12_plan : ByteArray := prog_27_method_51_code
def yX12_plan : MethodName := ⟨RX12, "plan", "(II)I"⟩
def dkwX12_plan_2 : List UInt8 := [96, 46, 62, 42, 180, 0, 59, 8, 27, 96, 28, 79, 29, 172]
abbrev dktX12_plan_2 : List UInt8 := dkwX12_plan_2 ++ []
def dkwX12_plan_1 : List UInt8 := [153, 0, 7, 4, 167, 0, 4, 3, 4, 5, 182, 0, 226, 154, 0, 5, 3, 172, 42, 180, 0, 59, 8, 27]
abbrev dktX12_plan_1 : List UInt8 := dkwX12_plan_1 ++ dktX12_plan_2
def dkwX12_plan_0 : List UInt8 := [42, 3, 181, 0, 1, 42, 27, 184, 1, 69, 153, 0, 21, 28, 3, 42, 180, 0, 23, 4, 46, 184, 1, 58]
abbrev dktX12_plan_0 : List UInt8 := dkwX12_plan_0 ++ dktX12_plan_1
theorem dksX12_plan_0 : cX12_plan.data.toList.drop 0 = dktX12_plan_0 := by decide +kernel
theorem dksX12_plan_1 : cX12_plan.data.toList.drop 24 = dktX12_plan_1 := dk_seg dksX12_plan_0 24 rfl rfl
theorem dksX12_plan_2 : cX12_plan.data.toList.drop 48 = dktX12_plan_2 := dk_seg dksX12_plan_1 24 rfl rfl
theorem dX12_plan_0 : decode cX12_plan 0 = .ok (.aload_n 0, 1) := dk_42 (dk_at dksX12_plan_0 0 rfl rfl)
theorem dX12_plan_1 : decode cX12_plan 1 = .ok (.iconst 0, 1) := dk_3 (dk_at dksX12_plan_0 1 rfl rfl)
theorem dX12_plan_2 : decode cX12_plan 2 = .ok (.putfield 1, 3) := dk_181 0 1 (dk_at dksX12_plan_0 2 rfl rfl)
theorem dX12_plan_5 : decode cX12_plan 5 = .ok (.aload_n 0, 1) := dk_42 (dk_at dksX12_plan_0 5 rfl rfl)
theorem dX12_plan_6 : decode cX12_plan 6 = .ok (.iload_n 1, 1) := dk_27 (dk_at dksX12_plan_0 6 rfl rfl)
theorem dX12_plan_7 : decode cX12_plan 7 = .ok (.invokestatic 325, 3) := dk_184 1 69 (dk_at dksX12_plan_0 7 rfl rfl)
theorem dX12_plan_10 : decode cX12_plan 10 = .ok (.ifCond .eq 21, 3) := dk_153 0 21 (dk_at dksX12_plan_0 10 rfl rfl)
theorem dX12_plan_13 : decode cX12_plan 13 = .ok (.iload_n 2, 1) := dk_28 (dk_at dksX12_plan_0 13 rfl rfl)
theorem dX12_plan_14 : decode cX12_plan 14 = .ok (.iconst 0, 1) := dk_3 (dk_at dksX12_plan_0 14 rfl rfl)
theorem dX12_plan_15 : decode cX12_plan 15 = .ok (.aload_n 0, 1) := dk_42 (dk_at dksX12_plan_0 15 rfl rfl)
theorem dX12_plan_16 : decode cX12_plan 16 = .ok (.getfield 23, 3) := dk_180 0 23 (dk_at dksX12_plan_0 16 rfl rfl)
theorem dX12_plan_19 : decode cX12_plan 19 = .ok (.iconst 1, 1) := dk_4 (dk_at dksX12_plan_0 19 rfl rfl)
theorem dX12_plan_20 : decode cX12_plan 20 = .ok (.iaload, 1) := dk_46 (dk_at dksX12_plan_0 20 rfl rfl)
theorem dX12_plan_21 : decode cX12_plan 21 = .ok (.invokestatic 314, 3) := dk_184 1 58 (dk_at dksX12_plan_0 21 rfl rfl)
theorem dX12_plan_24 : decode cX12_plan 24 = .ok (.ifCond .eq 7, 3) := dk_153 0 7 (dk_at dksX12_plan_1 0 rfl rfl)
theorem dX12_plan_27 : decode cX12_plan 27 = .ok (.iconst 1, 1) := dk_4 (dk_at dksX12_plan_1 3 rfl rfl)
theorem dX12_plan_28 : decode cX12_plan 28 = .ok (.goto 4, 3) := dk_167 0 4 (dk_at dksX12_plan_1 4 rfl rfl)
theorem dX12_plan_31 : decode cX12_plan 31 = .ok (.iconst 0, 1) := dk_3 (dk_at dksX12_plan_1 7 rfl rfl)
theorem dX12_plan_32 : decode cX12_plan 32 = .ok (.iconst 1, 1) := dk_4 (dk_at dksX12_plan_1 8 rfl rfl)
theorem dX12_plan_33 : decode cX12_plan 33 = .ok (.iconst 2, 1) := dk_5 (dk_at dksX12_plan_1 9 rfl rfl)
theorem dX12_plan_34 : decode cX12_plan 34 = .ok (.invokevirtual 226, 3) := dk_182 0 226 (dk_at dksX12_plan_1 10 rfl rfl)
theorem dX12_plan_37 : decode cX12_plan 37 = .ok (.ifCond .ne 5, 3) := dk_154 0 5 (dk_at dksX12_plan_1 13 rfl rfl)
theorem dX12_plan_40 : decode cX12_plan 40 = .ok (.iconst 0, 1) := dk_3 (dk_at dksX12_plan_1 16 rfl rfl)
theorem dX12_plan_41 : decode cX12_plan 41 = .ok (.ireturn, 1) := dk_172 (dk_at dksX12_plan_1 17 rfl rfl)
theorem dX12_plan_42 : decode cX12_plan 42 = .ok (.aload_n 0, 1) := dk_42 (dk_at dksX12_plan_1 18 rfl rfl)
theorem dX12_plan_43 : decode cX12_plan 43 = .ok (.getfield 59, 3) := dk_180 0 59 (dk_at dksX12_plan_1 19 rfl rfl)
theorem dX12_plan_46 : decode cX12_plan 46 = .ok (.iconst 5, 1) := dk_8 (dk_at dksX12_plan_1 22 rfl rfl)
theorem dX12_plan_47 : decode cX12_plan 47 = .ok (.iload_n 1, 1) := dk_27 (dk_at dksX12_plan_1 23 rfl rfl)
theorem dX12_plan_48 : decode cX12_plan 48 = .ok (.iadd, 1) := dk_96 (dk_at dksX12_plan_2 0 rfl rfl)
theorem dX12_plan_49 : decode cX12_plan 49 = .ok (.iaload, 1) := dk_46 (dk_at dksX12_plan_2 1 rfl rfl)
theorem dX12_plan_50 : decode cX12_plan 50 = .ok (.istore_n 3, 1) := dk_62 (dk_at dksX12_plan_2 2 rfl rfl)
theorem dX12_plan_51 : decode cX12_plan 51 = .ok (.aload_n 0, 1) := dk_42 (dk_at dksX12_plan_2 3 rfl rfl)
theorem dX12_plan_52 : decode cX12_plan 52 = .ok (.getfield 59, 3) := dk_180 0 59 (dk_at dksX12_plan_2 4 rfl rfl)
theorem dX12_plan_55 : decode cX12_plan 55 = .ok (.iconst 5, 1) := dk_8 (dk_at dksX12_plan_2 7 rfl rfl)
theorem dX12_plan_56 : decode cX12_plan 56 = .ok (.iload_n 1, 1) := dk_27 (dk_at dksX12_plan_2 8 rfl rfl)
theorem dX12_plan_57 : decode cX12_plan 57 = .ok (.iadd, 1) := dk_96 (dk_at dksX12_plan_2 9 rfl rfl)
theorem dX12_plan_58 : decode cX12_plan 58 = .ok (.iload_n 2, 1) := dk_28 (dk_at dksX12_plan_2 10 rfl rfl)
theorem dX12_plan_59 : decode cX12_plan 59 = .ok (.iastore, 1) := dk_79 (dk_at dksX12_plan_2 11 rfl rfl)
theorem dX12_plan_60 : decode cX12_plan 60 = .ok (.iload_n 3, 1) := dk_29 (dk_at dksX12_plan_2 12 rfl rfl)
theorem dX12_plan_61 : decode cX12_plan 61 = .ok (.ireturn, 1) := dk_172 (dk_at dksX12_plan_2 13 rfl rfl)
abbrev cX12_turn : ByteArray := prog_27_method_52_code
def yX12_turn : MethodName := ⟨RX12, "turn", "(II)I"⟩
def dkwX12_turn_2 : List UInt8 := [79, 29, 172]
abbrev dktX12_turn_2 : List UInt8 := dkwX12_turn_2 ++ []
def dkwX12_turn_1 : List UInt8 := [154, 0, 5, 3, 172, 42, 180, 0, 59, 16, 29, 27, 96, 46, 62, 42, 180, 0, 59, 16, 29, 27, 96, 28]
abbrev dktX12_turn_1 : List UInt8 := dkwX12_turn_1 ++ dktX12_turn_2
def dkwX12_turn_0 : List UInt8 := [42, 3, 181, 0, 1, 42, 28, 4, 182, 1, 72, 153, 0, 16, 42, 27, 184, 1, 69, 5, 5, 182, 0, 226]
abbrev dktX12_turn_0 : List UInt8 := dkwX12_turn_0 ++ dktX12_turn_1
theorem dksX12_turn_0 : cX12_turn.data.toList.drop 0 = dktX12_turn_0 := by decide +kernel
theorem dksX12_turn_1 : cX12_turn.data.toList.drop 24 = dktX12_turn_1 := dk_seg dksX12_turn_0 24 rfl rfl
theorem dksX12_turn_2 : cX12_turn.data.toList.drop 48 = dktX12_turn_2 := dk_seg dksX12_turn_1 24 rfl rfl
theorem dX12_turn_0 : decode cX12_turn 0 = .ok (.aload_n 0, 1) := dk_42 (dk_at dksX12_turn_0 0 rfl rfl)
theorem dX12_turn_1 : decode cX12_turn 1 = .ok (.iconst 0, 1) := dk_3 (dk_at dksX12_turn_0 1 rfl rfl)
theorem dX12_turn_2 : decode cX12_turn 2 = .ok (.putfield 1, 3) := dk_181 0 1 (dk_at dksX12_turn_0 2 rfl rfl)
theorem dX12_turn_5 : decode cX12_turn 5 = .ok (.aload_n 0, 1) := dk_42 (dk_at dksX12_turn_0 5 rfl rfl)
theorem dX12_turn_6 : decode cX12_turn 6 = .ok (.iload_n 2, 1) := dk_28 (dk_at dksX12_turn_0 6 rfl rfl)
theorem dX12_turn_7 : decode cX12_turn 7 = .ok (.iconst 1, 1) := dk_4 (dk_at dksX12_turn_0 7 rfl rfl)
theorem dX12_turn_8 : decode cX12_turn 8 = .ok (.invokevirtual 328, 3) := dk_182 1 72 (dk_at dksX12_turn_0 8 rfl rfl)
theorem dX12_turn_11 : decode cX12_turn 11 = .ok (.ifCond .eq 16, 3) := dk_153 0 16 (dk_at dksX12_turn_0 11 rfl rfl)
theorem dX12_turn_14 : decode cX12_turn 14 = .ok (.aload_n 0, 1) := dk_42 (dk_at dksX12_turn_0 14 rfl rfl)
theorem dX12_turn_15 : decode cX12_turn 15 = .ok (.iload_n 1, 1) := dk_27 (dk_at dksX12_turn_0 15 rfl rfl)
theorem dX12_turn_16 : decode cX12_turn 16 = .ok (.invokestatic 325, 3) := dk_184 1 69 (dk_at dksX12_turn_0 16 rfl rfl)
theorem dX12_turn_19 : decode cX12_turn 19 = .ok (.iconst 2, 1) := dk_5 (dk_at dksX12_turn_0 19 rfl rfl)
theorem dX12_turn_20 : decode cX12_turn 20 = .ok (.iconst 2, 1) := dk_5 (dk_at dksX12_turn_0 20 rfl rfl)
theorem dX12_turn_21 : decode cX12_turn 21 = .ok (.invokevirtual 226, 3) := dk_182 0 226 (dk_at dksX12_turn_0 21 rfl rfl)
theorem dX12_turn_24 : decode cX12_turn 24 = .ok (.ifCond .ne 5, 3) := dk_154 0 5 (dk_at dksX12_turn_1 0 rfl rfl)
theorem dX12_turn_27 : decode cX12_turn 27 = .ok (.iconst 0, 1) := dk_3 (dk_at dksX12_turn_1 3 rfl rfl)
theorem dX12_turn_28 : decode cX12_turn 28 = .ok (.ireturn, 1) := dk_172 (dk_at dksX12_turn_1 4 rfl rfl)
theorem dX12_turn_29 : decode cX12_turn 29 = .ok (.aload_n 0, 1) := dk_42 (dk_at dksX12_turn_1 5 rfl rfl)
theorem dX12_turn_30 : decode cX12_turn 30 = .ok (.getfield 59, 3) := dk_180 0 59 (dk_at dksX12_turn_1 6 rfl rfl)
theorem dX12_turn_33 : decode cX12_turn 33 = .ok (.bipush 29, 2) := dk_16 29 (dk_at dksX12_turn_1 9 rfl rfl)
theorem dX12_turn_35 : decode cX12_turn 35 = .ok (.iload_n 1, 1) := dk_27 (dk_at dksX12_turn_1 11 rfl rfl)
theorem dX12_turn_36 : decode cX12_turn 36 = .ok (.iadd, 1) := dk_96 (dk_at dksX12_turn_1 12 rfl rfl)
theorem dX12_turn_37 : decode cX12_turn 37 = .ok (.iaload, 1) := dk_46 (dk_at dksX12_turn_1 13 rfl rfl)
theorem dX12_turn_38 : decode cX12_turn 38 = .ok (.istore_n 3, 1) := dk_62 (dk_at dksX12_turn_1 14 rfl rfl)
theorem dX12_turn_39 : decode cX12_turn 39 = .ok (.aload_n 0, 1) := dk_42 (dk_at dksX12_turn_1 15 rfl rfl)
theorem dX12_turn_40 : decode cX12_turn 40 = .ok (.getfield 59, 3) := dk_180 0 59 (dk_at dksX12_turn_1 16 rfl rfl)
theorem dX12_turn_43 : decode cX12_turn 43 = .ok (.bipush 29, 2) := dk_16 29 (dk_at dksX12_turn_1 19 rfl rfl)
theorem dX12_turn_45 : decode cX12_turn 45 = .ok (.iload_n 1, 1) := dk_27 (dk_at dksX12_turn_1 21 rfl rfl)
theorem dX12_turn_46 : decode cX12_turn 46 = .ok (.iadd, 1) := dk_96 (dk_at dksX12_turn_1 22 rfl rfl)
theorem dX12_turn_47 : decode cX12_turn 47 = .ok (.iload_n 2, 1) := dk_28 (dk_at dksX12_turn_1 23 rfl rfl)
theorem dX12_turn_48 : decode cX12_turn 48 = .ok (.iastore, 1) := dk_79 (dk_at dksX12_turn_2 0 rfl rfl)
theorem dX12_turn_49 : decode cX12_turn 49 = .ok (.iload_n 3, 1) := dk_29 (dk_at dksX12_turn_2 1 rfl rfl)
theorem dX12_turn_50 : decode cX12_turn 50 = .ok (.ireturn, 1) := dk_172 (dk_at dksX12_turn_2 2 rfl rfl)
abbrev cX12_isPersonOrNone : ByteArray := prog_27_method_44_code
def yX12_isPersonOrNone : MethodName := ⟨RX12, "isPersonOrNone", "(II)Z"⟩
def dkwX12_isPersonOrNone_0 : List UInt8 := [27, 2, 159, 0, 12, 42, 27, 28, 182, 1, 62, 153, 0, 7, 4, 167, 0, 4, 3, 172]
abbrev dktX12_isPersonOrNone_0 : List UInt8 := dkwX12_isPersonOrNone_0 ++ []
theorem dksX12_isPersonOrNone_0 : cX12_isPersonOrNone.data.toList.drop 0 = dktX12_isPersonOrNone_0 := by decide +kernel
theorem dX12_isPersonOrNone_0 : decode cX12_isPersonOrNone 0 = .ok (.iload_n 1, 1) := dk_27 (dk_at dksX12_isPersonOrNone_0 0 rfl rfl)
theorem dX12_isPersonOrNone_1 : decode cX12_isPersonOrNone 1 = .ok (.iconst (-1), 1) := dk_2 (dk_at dksX12_isPersonOrNone_0 1 rfl rfl)
theorem dX12_isPersonOrNone_2 : decode cX12_isPersonOrNone 2 = .ok (.if_icmp .eq 12, 3) := dk_159 0 12 (dk_at dksX12_isPersonOrNone_0 2 rfl rfl)
theorem dX12_isPersonOrNone_5 : decode cX12_isPersonOrNone 5 = .ok (.aload_n 0, 1) := dk_42 (dk_at dksX12_isPersonOrNone_0 5 rfl rfl)
theorem dX12_isPersonOrNone_6 : decode cX12_isPersonOrNone 6 = .ok (.iload_n 1, 1) := dk_27 (dk_at dksX12_isPersonOrNone_0 6 rfl rfl)
theorem dX12_isPersonOrNone_7 : decode cX12_isPersonOrNone 7 = .ok (.iload_n 2, 1) := dk_28 (dk_at dksX12_isPersonOrNone_0 7 rfl rfl)
theorem dX12_isPersonOrNone_8 : decode cX12_isPersonOrNone 8 = .ok (.invokevirtual 318, 3) := dk_182 1 62 (dk_at dksX12_isPersonOrNone_0 8 rfl rfl)
theorem dX12_isPersonOrNone_11 : decode cX12_isPersonOrNone 11 = .ok (.ifCond .eq 7, 3) := dk_153 0 7 (dk_at dksX12_isPersonOrNone_0 11 rfl rfl)
theorem dX12_isPersonOrNone_14 : decode cX12_isPersonOrNone 14 = .ok (.iconst 1, 1) := dk_4 (dk_at dksX12_isPersonOrNone_0 14 rfl rfl)
theorem dX12_isPersonOrNone_15 : decode cX12_isPersonOrNone 15 = .ok (.goto 4, 3) := dk_167 0 4 (dk_at dksX12_isPersonOrNone_0 15 rfl rfl)
theorem dX12_isPersonOrNone_18 : decode cX12_isPersonOrNone 18 = .ok (.iconst 0, 1) := dk_3 (dk_at dksX12_isPersonOrNone_0 18 rfl rfl)
theorem dX12_isPersonOrNone_19 : decode cX12_isPersonOrNone 19 = .ok (.ireturn, 1) := dk_172 (dk_at dksX12_isPersonOrNone_0 19 rfl rfl)
abbrev cX12_days : ByteArray := prog_27_method_53_code
def yX12_days : MethodName := ⟨RX12, "days", "(I)I"⟩
def dkwX12_days_1 : List UInt8 := [180, 0, 59, 16, 53, 46, 61, 42, 180, 0, 59, 16, 53, 27, 79, 28, 172]
abbrev dktX12_days_1 : List UInt8 := dkwX12_days_1 ++ []
def dkwX12_days_0 : List UInt8 := [42, 3, 181, 0, 1, 42, 27, 4, 16, 12, 184, 1, 58, 4, 5, 182, 0, 226, 154, 0, 5, 3, 172, 42]
abbrev dktX12_days_0 : List UInt8 := dkwX12_days_0 ++ dktX12_days_1
theorem dksX12_days_0 : cX12_days.data.toList.drop 0 = dktX12_days_0 := by decide +kernel
theorem dksX12_days_1 : cX12_days.data.toList.drop 24 = dktX12_days_1 := dk_seg dksX12_days_0 24 rfl rfl
theorem dX12_days_0 : decode cX12_days 0 = .ok (.aload_n 0, 1) := dk_42 (dk_at dksX12_days_0 0 rfl rfl)
theorem dX12_days_1 : decode cX12_days 1 = .ok (.iconst 0, 1) := dk_3 (dk_at dksX12_days_0 1 rfl rfl)
theorem dX12_days_2 : decode cX12_days 2 = .ok (.putfield 1, 3) := dk_181 0 1 (dk_at dksX12_days_0 2 rfl rfl)
theorem dX12_days_5 : decode cX12_days 5 = .ok (.aload_n 0, 1) := dk_42 (dk_at dksX12_days_0 5 rfl rfl)
theorem dX12_days_6 : decode cX12_days 6 = .ok (.iload_n 1, 1) := dk_27 (dk_at dksX12_days_0 6 rfl rfl)
theorem dX12_days_7 : decode cX12_days 7 = .ok (.iconst 1, 1) := dk_4 (dk_at dksX12_days_0 7 rfl rfl)
theorem dX12_days_8 : decode cX12_days 8 = .ok (.bipush 12, 2) := dk_16 12 (dk_at dksX12_days_0 8 rfl rfl)
theorem dX12_days_10 : decode cX12_days 10 = .ok (.invokestatic 314, 3) := dk_184 1 58 (dk_at dksX12_days_0 10 rfl rfl)
theorem dX12_days_13 : decode cX12_days 13 = .ok (.iconst 1, 1) := dk_4 (dk_at dksX12_days_0 13 rfl rfl)
theorem dX12_days_14 : decode cX12_days 14 = .ok (.iconst 2, 1) := dk_5 (dk_at dksX12_days_0 14 rfl rfl)
theorem dX12_days_15 : decode cX12_days 15 = .ok (.invokevirtual 226, 3) := dk_182 0 226 (dk_at dksX12_days_0 15 rfl rfl)
theorem dX12_days_18 : decode cX12_days 18 = .ok (.ifCond .ne 5, 3) := dk_154 0 5 (dk_at dksX12_days_0 18 rfl rfl)
theorem dX12_days_21 : decode cX12_days 21 = .ok (.iconst 0, 1) := dk_3 (dk_at dksX12_days_0 21 rfl rfl)
theorem dX12_days_22 : decode cX12_days 22 = .ok (.ireturn, 1) := dk_172 (dk_at dksX12_days_0 22 rfl rfl)
theorem dX12_days_23 : decode cX12_days 23 = .ok (.aload_n 0, 1) := dk_42 (dk_at dksX12_days_0 23 rfl rfl)
theorem dX12_days_24 : decode cX12_days 24 = .ok (.getfield 59, 3) := dk_180 0 59 (dk_at dksX12_days_1 0 rfl rfl)
theorem dX12_days_27 : decode cX12_days 27 = .ok (.bipush 53, 2) := dk_16 53 (dk_at dksX12_days_1 3 rfl rfl)
theorem dX12_days_29 : decode cX12_days 29 = .ok (.iaload, 1) := dk_46 (dk_at dksX12_days_1 5 rfl rfl)
theorem dX12_days_30 : decode cX12_days 30 = .ok (.istore_n 2, 1) := dk_61 (dk_at dksX12_days_1 6 rfl rfl)
theorem dX12_days_31 : decode cX12_days 31 = .ok (.aload_n 0, 1) := dk_42 (dk_at dksX12_days_1 7 rfl rfl)
theorem dX12_days_32 : decode cX12_days 32 = .ok (.getfield 59, 3) := dk_180 0 59 (dk_at dksX12_days_1 8 rfl rfl)
theorem dX12_days_35 : decode cX12_days 35 = .ok (.bipush 53, 2) := dk_16 53 (dk_at dksX12_days_1 11 rfl rfl)
theorem dX12_days_37 : decode cX12_days 37 = .ok (.iload_n 1, 1) := dk_27 (dk_at dksX12_days_1 13 rfl rfl)
theorem dX12_days_38 : decode cX12_days 38 = .ok (.iastore, 1) := dk_79 (dk_at dksX12_days_1 14 rfl rfl)
theorem dX12_days_39 : decode cX12_days 39 = .ok (.iload_n 2, 1) := dk_28 (dk_at dksX12_days_1 15 rfl rfl)
theorem dX12_days_40 : decode cX12_days 40 = .ok (.ireturn, 1) := dk_172 (dk_at dksX12_days_1 16 rfl rfl)
abbrev cX12_whose : ByteArray := prog_27_method_55_code
def yX12_whose : MethodName := ⟨RX12, "whose", "(I)I"⟩
def dkwX12_whose_1 : List UInt8 := [154, 0, 5, 3, 172, 42, 27, 182, 1, 78, 172]
abbrev dktX12_whose_1 : List UInt8 := dkwX12_whose_1 ++ []
def dkwX12_whose_0 : List UInt8 := [42, 3, 181, 0, 1, 42, 5, 182, 1, 75, 153, 0, 16, 42, 27, 184, 1, 69, 4, 5, 182, 0, 226]
abbrev dktX12_whose_0 : List UInt8 := dkwX12_whose_0 ++ dktX12_whose_1
theorem dksX12_whose_0 : cX12_whose.data.toList.drop 0 = dktX12_whose_0 := by decide +kernel
theorem dksX12_whose_1 : cX12_whose.data.toList.drop 23 = dktX12_whose_1 := dk_seg dksX12_whose_0 23 rfl rfl
theorem dX12_whose_0 : decode cX12_whose 0 = .ok (.aload_n 0, 1) := dk_42 (dk_at dksX12_whose_0 0 rfl rfl)
theorem dX12_whose_1 : decode cX12_whose 1 = .ok (.iconst 0, 1) := dk_3 (dk_at dksX12_whose_0 1 rfl rfl)
theorem dX12_whose_2 : decode cX12_whose 2 = .ok (.putfield 1, 3) := dk_181 0 1 (dk_at dksX12_whose_0 2 rfl rfl)
theorem dX12_whose_5 : decode cX12_whose 5 = .ok (.aload_n 0, 1) := dk_42 (dk_at dksX12_whose_0 5 rfl rfl)
theorem dX12_whose_6 : decode cX12_whose 6 = .ok (.iconst 2, 1) := dk_5 (dk_at dksX12_whose_0 6 rfl rfl)
theorem dX12_whose_7 : decode cX12_whose 7 = .ok (.invokevirtual 331, 3) := dk_182 1 75 (dk_at dksX12_whose_0 7 rfl rfl)
theorem dX12_whose_10 : decode cX12_whose 10 = .ok (.ifCond .eq 16, 3) := dk_153 0 16 (dk_at dksX12_whose_0 10 rfl rfl)
theorem dX12_whose_13 : decode cX12_whose 13 = .ok (.aload_n 0, 1) := dk_42 (dk_at dksX12_whose_0 13 rfl rfl)
theorem dX12_whose_14 : decode cX12_whose 14 = .ok (.iload_n 1, 1) := dk_27 (dk_at dksX12_whose_0 14 rfl rfl)
theorem dX12_whose_15 : decode cX12_whose 15 = .ok (.invokestatic 325, 3) := dk_184 1 69 (dk_at dksX12_whose_0 15 rfl rfl)
theorem dX12_whose_18 : decode cX12_whose 18 = .ok (.iconst 1, 1) := dk_4 (dk_at dksX12_whose_0 18 rfl rfl)
theorem dX12_whose_19 : decode cX12_whose 19 = .ok (.iconst 2, 1) := dk_5 (dk_at dksX12_whose_0 19 rfl rfl)
theorem dX12_whose_20 : decode cX12_whose 20 = .ok (.invokevirtual 226, 3) := dk_182 0 226 (dk_at dksX12_whose_0 20 rfl rfl)
theorem dX12_whose_23 : decode cX12_whose 23 = .ok (.ifCond .ne 5, 3) := dk_154 0 5 (dk_at dksX12_whose_1 0 rfl rfl)
theorem dX12_whose_26 : decode cX12_whose 26 = .ok (.iconst 0, 1) := dk_3 (dk_at dksX12_whose_1 3 rfl rfl)
theorem dX12_whose_27 : decode cX12_whose 27 = .ok (.ireturn, 1) := dk_172 (dk_at dksX12_whose_1 4 rfl rfl)
theorem dX12_whose_28 : decode cX12_whose 28 = .ok (.aload_n 0, 1) := dk_42 (dk_at dksX12_whose_1 5 rfl rfl)
theorem dX12_whose_29 : decode cX12_whose 29 = .ok (.iload_n 1, 1) := dk_27 (dk_at dksX12_whose_1 6 rfl rfl)
theorem dX12_whose_30 : decode cX12_whose 30 = .ok (.invokevirtual 334, 3) := dk_182 1 78 (dk_at dksX12_whose_1 7 rfl rfl)
theorem dX12_whose_33 : decode cX12_whose 33 = .ok (.ireturn, 1) := dk_172 (dk_at dksX12_whose_1 10 rfl rfl)
abbrev cX12_isHere : ByteArray := prog_27_method_42_code
def yX12_isHere : MethodName := ⟨RX12, "isHere", "(I)Z"⟩
def dkwX12_isHere_0 : List UInt8 := [42, 42, 180, 0, 249, 27, 6, 182, 0, 226, 172]
abbrev dktX12_isHere_0 : List UInt8 := dkwX12_isHere_0 ++ []
theorem dksX12_isHere_0 : cX12_isHere.data.toList.drop 0 = dktX12_isHere_0 := by decide +kernel
theorem dX12_isHere_0 : decode cX12_isHere 0 = .ok (.aload_n 0, 1) := dk_42 (dk_at dksX12_isHere_0 0 rfl rfl)
theorem dX12_isHere_1 : decode cX12_isHere 1 = .ok (.aload_n 0, 1) := dk_42 (dk_at dksX12_isHere_0 1 rfl rfl)
theorem dX12_isHere_2 : decode cX12_isHere 2 = .ok (.getfield 249, 3) := dk_180 0 249 (dk_at dksX12_isHere_0 2 rfl rfl)
theorem dX12_isHere_5 : decode cX12_isHere 5 = .ok (.iload_n 1, 1) := dk_27 (dk_at dksX12_isHere_0 5 rfl rfl)
theorem dX12_isHere_6 : decode cX12_isHere 6 = .ok (.iconst 3, 1) := dk_6 (dk_at dksX12_isHere_0 6 rfl rfl)
theorem dX12_isHere_7 : decode cX12_isHere 7 = .ok (.invokevirtual 226, 3) := dk_182 0 226 (dk_at dksX12_isHere_0 7 rfl rfl)
theorem dX12_isHere_10 : decode cX12_isHere 10 = .ok (.ireturn, 1) := dk_172 (dk_at dksX12_isHere_0 10 rfl rfl)
abbrev cX12_leader : ByteArray := prog_27_method_54_code
def yX12_leader : MethodName := ⟨RX12, "leader", "(I)I"⟩
def dkwX12_leader_1 : List UInt8 := [167, 0, 19, 27, 42, 180, 0, 59, 16, 53, 46, 108, 42, 180, 0, 23, 5, 46, 112, 172]
abbrev dktX12_leader_1 : List UInt8 := dkwX12_leader_1 ++ []
def dkwX12_leader_0 : List UInt8 := [42, 180, 0, 59, 16, 29, 27, 96, 46, 2, 159, 0, 15, 42, 180, 0, 59, 16, 29, 27, 96, 46]
abbrev dktX12_leader_0 : List UInt8 := dkwX12_leader_0 ++ dktX12_leader_1
theorem dksX12_leader_0 : cX12_leader.data.toList.drop 0 = dktX12_leader_0 := by decide +kernel
theorem dksX12_leader_1 : cX12_leader.data.toList.drop 22 = dktX12_leader_1 := dk_seg dksX12_leader_0 22 rfl rfl
theorem dX12_leader_0 : decode cX12_leader 0 = .ok (.aload_n 0, 1) := dk_42 (dk_at dksX12_leader_0 0 rfl rfl)
theorem dX12_leader_1 : decode cX12_leader 1 = .ok (.getfield 59, 3) := dk_180 0 59 (dk_at dksX12_leader_0 1 rfl rfl)
theorem dX12_leader_4 : decode cX12_leader 4 = .ok (.bipush 29, 2) := dk_16 29 (dk_at dksX12_leader_0 4 rfl rfl)
theorem dX12_leader_6 : decode cX12_leader 6 = .ok (.iload_n 1, 1) := dk_27 (dk_at dksX12_leader_0 6 rfl rfl)
theorem dX12_leader_7 : decode cX12_leader 7 = .ok (.iadd, 1) := dk_96 (dk_at dksX12_leader_0 7 rfl rfl)
theorem dX12_leader_8 : decode cX12_leader 8 = .ok (.iaload, 1) := dk_46 (dk_at dksX12_leader_0 8 rfl rfl)
theorem dX12_leader_9 : decode cX12_leader 9 = .ok (.iconst (-1), 1) := dk_2 (dk_at dksX12_leader_0 9 rfl rfl)
theorem dX12_leader_10 : decode cX12_leader 10 = .ok (.if_icmp .eq 15, 3) := dk_159 0 15 (dk_at dksX12_leader_0 10 rfl rfl)
theorem dX12_leader_13 : decode cX12_leader 13 = .ok (.aload_n 0, 1) := dk_42 (dk_at dksX12_leader_0 13 rfl rfl)
theorem dX12_leader_14 : decode cX12_leader 14 = .ok (.getfield 59, 3) := dk_180 0 59 (dk_at dksX12_leader_0 14 rfl rfl)
theorem dX12_leader_17 : decode cX12_leader 17 = .ok (.bipush 29, 2) := dk_16 29 (dk_at dksX12_leader_0 17 rfl rfl)
theorem dX12_leader_19 : decode cX12_leader 19 = .ok (.iload_n 1, 1) := dk_27 (dk_at dksX12_leader_0 19 rfl rfl)
theorem dX12_leader_20 : decode cX12_leader 20 = .ok (.iadd, 1) := dk_96 (dk_at dksX12_leader_0 20 rfl rfl)
theorem dX12_leader_21 : decode cX12_leader 21 = .ok (.iaload, 1) := dk_46 (dk_at dksX12_leader_0 21 rfl rfl)
theorem dX12_leader_22 : decode cX12_leader 22 = .ok (.goto 19, 3) := dk_167 0 19 (dk_at dksX12_leader_1 0 rfl rfl)
theorem dX12_leader_25 : decode cX12_leader 25 = .ok (.iload_n 1, 1) := dk_27 (dk_at dksX12_leader_1 3 rfl rfl)
theorem dX12_leader_26 : decode cX12_leader 26 = .ok (.aload_n 0, 1) := dk_42 (dk_at dksX12_leader_1 4 rfl rfl)
theorem dX12_leader_27 : decode cX12_leader 27 = .ok (.getfield 59, 3) := dk_180 0 59 (dk_at dksX12_leader_1 5 rfl rfl)
theorem dX12_leader_30 : decode cX12_leader 30 = .ok (.bipush 53, 2) := dk_16 53 (dk_at dksX12_leader_1 8 rfl rfl)
theorem dX12_leader_32 : decode cX12_leader 32 = .ok (.iaload, 1) := dk_46 (dk_at dksX12_leader_1 10 rfl rfl)
theorem dX12_leader_33 : decode cX12_leader 33 = .ok (.idiv, 1) := dk_108 (dk_at dksX12_leader_1 11 rfl rfl)
theorem dX12_leader_34 : decode cX12_leader 34 = .ok (.aload_n 0, 1) := dk_42 (dk_at dksX12_leader_1 12 rfl rfl)
theorem dX12_leader_35 : decode cX12_leader 35 = .ok (.getfield 23, 3) := dk_180 0 23 (dk_at dksX12_leader_1 13 rfl rfl)
theorem dX12_leader_38 : decode cX12_leader 38 = .ok (.iconst 2, 1) := dk_5 (dk_at dksX12_leader_1 16 rfl rfl)
theorem dX12_leader_39 : decode cX12_leader 39 = .ok (.iaload, 1) := dk_46 (dk_at dksX12_leader_1 17 rfl rfl)
theorem dX12_leader_40 : decode cX12_leader 40 = .ok (.irem, 1) := dk_112 (dk_at dksX12_leader_1 18 rfl rfl)
theorem dX12_leader_41 : decode cX12_leader 41 = .ok (.ireturn, 1) := dk_172 (dk_at dksX12_leader_1 19 rfl rfl)
abbrev cX12_next : ByteArray := prog_27_method_83_code
def yX12_next : MethodName := ⟨RX12, "next", "(III)I"⟩
def dkwX12_next_2 : List UInt8 := [167, 0, 19, 42, 42, 180, 0, 65, 28, 46, 28, 27, 29, 184, 1, 98, 182, 1, 121, 172]
abbrev dktX12_next_2 : List UInt8 := dkwX12_next_2 ++ []
def dkwX12_next_1 : List UInt8 := [182, 0, 226, 154, 0, 5, 3, 172, 42, 182, 1, 155, 42, 28, 27, 29, 182, 1, 94, 153, 0, 7, 3]
abbrev dktX12_next_1 : List UInt8 := dkwX12_next_1 ++ dktX12_next_2
def dkwX12_next_0 : List UInt8 := [42, 3, 181, 0, 1, 42, 5, 182, 1, 75, 153, 0, 19, 42, 42, 27, 28, 29, 182, 1, 171, 4, 5]
abbrev dktX12_next_0 : List UInt8 := dkwX12_next_0 ++ dktX12_next_1
theorem dksX12_next_0 : cX12_next.data.toList.drop 0 = dktX12_next_0 := by decide +kernel
theorem dksX12_next_1 : cX12_next.data.toList.drop 23 = dktX12_next_1 := dk_seg dksX12_next_0 23 rfl rfl
theorem dksX12_next_2 : cX12_next.data.toList.drop 46 = dktX12_next_2 := dk_seg dksX12_next_1 23 rfl rfl
theorem dX12_next_0 : decode cX12_next 0 = .ok (.aload_n 0, 1) := dk_42 (dk_at dksX12_next_0 0 rfl rfl)
theorem dX12_next_1 : decode cX12_next 1 = .ok (.iconst 0, 1) := dk_3 (dk_at dksX12_next_0 1 rfl rfl)
theorem dX12_next_2 : decode cX12_next 2 = .ok (.putfield 1, 3) := dk_181 0 1 (dk_at dksX12_next_0 2 rfl rfl)
theorem dX12_next_5 : decode cX12_next 5 = .ok (.aload_n 0, 1) := dk_42 (dk_at dksX12_next_0 5 rfl rfl)
theorem dX12_next_6 : decode cX12_next 6 = .ok (.iconst 2, 1) := dk_5 (dk_at dksX12_next_0 6 rfl rfl)
theorem dX12_next_7 : decode cX12_next 7 = .ok (.invokevirtual 331, 3) := dk_182 1 75 (dk_at dksX12_next_0 7 rfl rfl)
theorem dX12_next_10 : decode cX12_next 10 = .ok (.ifCond .eq 19, 3) := dk_153 0 19 (dk_at dksX12_next_0 10 rfl rfl)
theorem dX12_next_13 : decode cX12_next 13 = .ok (.aload_n 0, 1) := dk_42 (dk_at dksX12_next_0 13 rfl rfl)
theorem dX12_next_14 : decode cX12_next 14 = .ok (.aload_n 0, 1) := dk_42 (dk_at dksX12_next_0 14 rfl rfl)
theorem dX12_next_15 : decode cX12_next 15 = .ok (.iload_n 1, 1) := dk_27 (dk_at dksX12_next_0 15 rfl rfl)
theorem dX12_next_16 : decode cX12_next 16 = .ok (.iload_n 2, 1) := dk_28 (dk_at dksX12_next_0 16 rfl rfl)
theorem dX12_next_17 : decode cX12_next 17 = .ok (.iload_n 3, 1) := dk_29 (dk_at dksX12_next_0 17 rfl rfl)
theorem dX12_next_18 : decode cX12_next 18 = .ok (.invokevirtual 427, 3) := dk_182 1 171 (dk_at dksX12_next_0 18 rfl rfl)
theorem dX12_next_21 : decode cX12_next 21 = .ok (.iconst 1, 1) := dk_4 (dk_at dksX12_next_0 21 rfl rfl)
theorem dX12_next_22 : decode cX12_next 22 = .ok (.iconst 2, 1) := dk_5 (dk_at dksX12_next_0 22 rfl rfl)
theorem dX12_next_23 : decode cX12_next 23 = .ok (.invokevirtual 226, 3) := dk_182 0 226 (dk_at dksX12_next_1 0 rfl rfl)
theorem dX12_next_26 : decode cX12_next 26 = .ok (.ifCond .ne 5, 3) := dk_154 0 5 (dk_at dksX12_next_1 3 rfl rfl)
theorem dX12_next_29 : decode cX12_next 29 = .ok (.iconst 0, 1) := dk_3 (dk_at dksX12_next_1 6 rfl rfl)
theorem dX12_next_30 : decode cX12_next 30 = .ok (.ireturn, 1) := dk_172 (dk_at dksX12_next_1 7 rfl rfl)
theorem dX12_next_31 : decode cX12_next 31 = .ok (.aload_n 0, 1) := dk_42 (dk_at dksX12_next_1 8 rfl rfl)
theorem dX12_next_32 : decode cX12_next 32 = .ok (.invokevirtual 411, 3) := dk_182 1 155 (dk_at dksX12_next_1 9 rfl rfl)
theorem dX12_next_35 : decode cX12_next 35 = .ok (.aload_n 0, 1) := dk_42 (dk_at dksX12_next_1 12 rfl rfl)
theorem dX12_next_36 : decode cX12_next 36 = .ok (.iload_n 2, 1) := dk_28 (dk_at dksX12_next_1 13 rfl rfl)
theorem dX12_next_37 : decode cX12_next 37 = .ok (.iload_n 1, 1) := dk_27 (dk_at dksX12_next_1 14 rfl rfl)
theorem dX12_next_38 : decode cX12_next 38 = .ok (.iload_n 3, 1) := dk_29 (dk_at dksX12_next_1 15 rfl rfl)
theorem dX12_next_39 : decode cX12_next 39 = .ok (.invokevirtual 350, 3) := dk_182 1 94 (dk_at dksX12_next_1 16 rfl rfl)
theorem dX12_next_42 : decode cX12_next 42 = .ok (.ifCond .eq 7, 3) := dk_153 0 7 (dk_at dksX12_next_1 19 rfl rfl)
theorem dX12_next_45 : decode cX12_next 45 = .ok (.iconst 0, 1) := dk_3 (dk_at dksX12_next_1 22 rfl rfl)
theorem dX12_next_46 : decode cX12_next 46 = .ok (.goto 19, 3) := dk_167 0 19 (dk_at dksX12_next_2 0 rfl rfl)
theorem dX12_next_49 : decode cX12_next 49 = .ok (.aload_n 0, 1) := dk_42 (dk_at dksX12_next_2 3 rfl rfl)
theorem dX12_next_50 : decode cX12_next 50 = .ok (.aload_n 0, 1) := dk_42 (dk_at dksX12_next_2 4 rfl rfl)
theorem dX12_next_51 : decode cX12_next 51 = .ok (.getfield 65, 3) := dk_180 0 65 (dk_at dksX12_next_2 5 rfl rfl)
theorem dX12_next_54 : decode cX12_next 54 = .ok (.iload_n 2, 1) := dk_28 (dk_at dksX12_next_2 8 rfl rfl)
theorem dX12_next_55 : decode cX12_next 55 = .ok (.iaload, 1) := dk_46 (dk_at dksX12_next_2 9 rfl rfl)
theorem dX12_next_56 : decode cX12_next 56 = .ok (.iload_n 2, 1) := dk_28 (dk_at dksX12_next_2 10 rfl rfl)
theorem dX12_next_57 : decode cX12_next 57 = .ok (.iload_n 1, 1) := dk_27 (dk_at dksX12_next_2 11 rfl rfl)
theorem dX12_next_58 : decode cX12_next 58 = .ok (.iload_n 3, 1) := dk_29 (dk_at dksX12_next_2 12 rfl rfl)
theorem dX12_next_59 : decode cX12_next 59 = .ok (.invokestatic 354, 3) := dk_184 1 98 (dk_at dksX12_next_2 13 rfl rfl)
theorem dX12_next_62 : decode cX12_next 62 = .ok (.invokevirtual 377, 3) := dk_182 1 121 (dk_at dksX12_next_2 16 rfl rfl)
theorem dX12_next_65 : decode cX12_next 65 = .ok (.ireturn, 1) := dk_172 (dk_at dksX12_next_2 19 rfl rfl)
abbrev cX12_isState : ByteArray := prog_27_method_82_code
def yX12_isState : MethodName := ⟨RX12, "isState", "(III)Z"⟩
def dkwX12_isState_2 : List UInt8 := [3, 172]
abbrev dktX12_isState_2 : List UInt8 := dkwX12_isState_2 ++ []
def dkwX12_isState_1 : List UInt8 := [184, 1, 58, 153, 0, 21, 29, 3, 42, 180, 0, 23, 7, 46, 184, 1, 58, 153, 0, 7, 4, 167, 0, 4]
abbrev dktX12_isState_1 : List UInt8 := dkwX12_isState_1 ++ dktX12_isState_2
def dkwX12_isState_0 : List UInt8 := [27, 3, 42, 180, 0, 23, 3, 46, 4, 100, 184, 1, 58, 153, 0, 35, 28, 3, 42, 180, 0, 23, 6, 46]
abbrev dktX12_isState_0 : List UInt8 := dkwX12_isState_0 ++ dktX12_isState_1
theorem dksX12_isState_0 : cX12_isState.data.toList.drop 0 = dktX12_isState_0 := by decide +kernel
theorem dksX12_isState_1 : cX12_isState.data.toList.drop 24 = dktX12_isState_1 := dk_seg dksX12_isState_0 24 rfl rfl
theorem dksX12_isState_2 : cX12_isState.data.toList.drop 48 = dktX12_isState_2 := dk_seg dksX12_isState_1 24 rfl rfl
theorem dX12_isState_0 : decode cX12_isState 0 = .ok (.iload_n 1, 1) := dk_27 (dk_at dksX12_isState_0 0 rfl rfl)
theorem dX12_isState_1 : decode cX12_isState 1 = .ok (.iconst 0, 1) := dk_3 (dk_at dksX12_isState_0 1 rfl rfl)
theorem dX12_isState_2 : decode cX12_isState 2 = .ok (.aload_n 0, 1) := dk_42 (dk_at dksX12_isState_0 2 rfl rfl)
theorem dX12_isState_3 : decode cX12_isState 3 = .ok (.getfield 23, 3) := dk_180 0 23 (dk_at dksX12_isState_0 3 rfl rfl)
theorem dX12_isState_6 : decode cX12_isState 6 = .ok (.iconst 0, 1) := dk_3 (dk_at dksX12_isState_0 6 rfl rfl)
theorem dX12_isState_7 : decode cX12_isState 7 = .ok (.iaload, 1) := dk_46 (dk_at dksX12_isState_0 7 rfl rfl)
theorem dX12_isState_8 : decode cX12_isState 8 = .ok (.iconst 1, 1) := dk_4 (dk_at dksX12_isState_0 8 rfl rfl)
theorem dX12_isState_9 : decode cX12_isState 9 = .ok (.isub, 1) := dk_100 (dk_at dksX12_isState_0 9 rfl rfl)
theorem dX12_isState_10 : decode cX12_isState 10 = .ok (.invokestatic 314, 3) := dk_184 1 58 (dk_at dksX12_isState_0 10 rfl rfl)
theorem dX12_isState_13 : decode cX12_isState 13 = .ok (.ifCond .eq 35, 3) := dk_153 0 35 (dk_at dksX12_isState_0 13 rfl rfl)
theorem dX12_isState_16 : decode cX12_isState 16 = .ok (.iload_n 2, 1) := dk_28 (dk_at dksX12_isState_0 16 rfl rfl)
theorem dX12_isState_17 : decode cX12_isState 17 = .ok (.iconst 0, 1) := dk_3 (dk_at dksX12_isState_0 17 rfl rfl)
theorem dX12_isState_18 : decode cX12_isState 18 = .ok (.aload_n 0, 1) := dk_42 (dk_at dksX12_isState_0 18 rfl rfl)
theorem dX12_isState_19 : decode cX12_isState 19 = .ok (.getfield 23, 3) := dk_180 0 23 (dk_at dksX12_isState_0 19 rfl rfl)
theorem dX12_isState_22 : decode cX12_isState 22 = .ok (.iconst 3, 1) := dk_6 (dk_at dksX12_isState_0 22 rfl rfl)
theorem dX12_isState_23 : decode cX12_isState 23 = .ok (.iaload, 1) := dk_46 (dk_at dksX12_isState_0 23 rfl rfl)
theorem dX12_isState_24 : decode cX12_isState 24 = .ok (.invokestatic 314, 3) := dk_184 1 58 (dk_at dksX12_isState_1 0 rfl rfl)
theorem dX12_isState_27 : decode cX12_isState 27 = .ok (.ifCond .eq 21, 3) := dk_153 0 21 (dk_at dksX12_isState_1 3 rfl rfl)
theorem dX12_isState_30 : decode cX12_isState 30 = .ok (.iload_n 3, 1) := dk_29 (dk_at dksX12_isState_1 6 rfl rfl)
theorem dX12_isState_31 : decode cX12_isState 31 = .ok (.iconst 0, 1) := dk_3 (dk_at dksX12_isState_1 7 rfl rfl)
theorem dX12_isState_32 : decode cX12_isState 32 = .ok (.aload_n 0, 1) := dk_42 (dk_at dksX12_isState_1 8 rfl rfl)
theorem dX12_isState_33 : decode cX12_isState 33 = .ok (.getfield 23, 3) := dk_180 0 23 (dk_at dksX12_isState_1 9 rfl rfl)
theorem dX12_isState_36 : decode cX12_isState 36 = .ok (.iconst 4, 1) := dk_7 (dk_at dksX12_isState_1 12 rfl rfl)
theorem dX12_isState_37 : decode cX12_isState 37 = .ok (.iaload, 1) := dk_46 (dk_at dksX12_isState_1 13 rfl rfl)
theorem dX12_isState_38 : decode cX12_isState 38 = .ok (.invokestatic 314, 3) := dk_184 1 58 (dk_at dksX12_isState_1 14 rfl rfl)
theorem dX12_isState_41 : decode cX12_isState 41 = .ok (.ifCond .eq 7, 3) := dk_153 0 7 (dk_at dksX12_isState_1 17 rfl rfl)
theorem dX12_isState_44 : decode cX12_isState 44 = .ok (.iconst 1, 1) := dk_4 (dk_at dksX12_isState_1 20 rfl rfl)
theorem dX12_isState_45 : decode cX12_isState 45 = .ok (.goto 4, 3) := dk_167 0 4 (dk_at dksX12_isState_1 21 rfl rfl)
theorem dX12_isState_48 : decode cX12_isState 48 = .ok (.iconst 0, 1) := dk_3 (dk_at dksX12_isState_2 0 rfl rfl)
theorem dX12_isState_49 : decode cX12_isState 49 = .ok (.ireturn, 1) := dk_172 (dk_at dksX12_isState_2 1 rfl rfl)
abbrev cX12_setUp : ByteArray := prog_27_method_76_code
def yX12_setUp : MethodName := ⟨RX12, "setUp", "()V"⟩
def dkwX12_setUp_3 : List UInt8 := [180, 0, 68, 27, 42, 180, 0, 59, 3, 27, 96, 46, 79, 132, 1, 1, 167, 255, 229, 177]
abbrev dktX12_setUp_3 : List UInt8 := dkwX12_setUp_3 ++ []
def dkwX12_setUp_2 : List UInt8 := [182, 1, 78, 79, 132, 1, 1, 167, 255, 232, 3, 60, 27, 42, 180, 0, 23, 5, 46, 162, 0, 23, 42]
abbrev dktX12_setUp_2 : List UInt8 := dkwX12_setUp_2 ++ dktX12_setUp_3
def dkwX12_setUp_1 : List UInt8 := [181, 1, 55, 3, 60, 27, 42, 180, 0, 23, 6, 46, 162, 0, 20, 42, 180, 0, 65, 27, 42, 27]
abbrev dktX12_setUp_1 : List UInt8 := dkwX12_setUp_1 ++ dktX12_setUp_2
def dkwX12_setUp_0 : List UInt8 := [42, 42, 180, 0, 23, 7, 46, 181, 1, 92, 42, 180, 1, 55, 154, 0, 7, 42, 182, 1, 152, 42, 4]
abbrev dktX12_setUp_0 : List UInt8 := dkwX12_setUp_0 ++ dktX12_setUp_1
theorem dksX12_setUp_0 : cX12_setUp.data.toList.drop 0 = dktX12_setUp_0 := by decide +kernel
theorem dksX12_setUp_1 : cX12_setUp.data.toList.drop 23 = dktX12_setUp_1 := dk_seg dksX12_setUp_0 23 rfl rfl
theorem dksX12_setUp_2 : cX12_setUp.data.toList.drop 45 = dktX12_setUp_2 := dk_seg dksX12_setUp_1 22 rfl rfl
theorem dksX12_setUp_3 : cX12_setUp.data.toList.drop 68 = dktX12_setUp_3 := dk_seg dksX12_setUp_2 23 rfl rfl
theorem dX12_setUp_0 : decode cX12_setUp 0 = .ok (.aload_n 0, 1) := dk_42 (dk_at dksX12_setUp_0 0 rfl rfl)
theorem dX12_setUp_1 : decode cX12_setUp 1 = .ok (.aload_n 0, 1) := dk_42 (dk_at dksX12_setUp_0 1 rfl rfl)
theorem dX12_setUp_2 : decode cX12_setUp 2 = .ok (.getfield 23, 3) := dk_180 0 23 (dk_at dksX12_setUp_0 2 rfl rfl)
theorem dX12_setUp_5 : decode cX12_setUp 5 = .ok (.iconst 4, 1) := dk_7 (dk_at dksX12_setUp_0 5 rfl rfl)
theorem dX12_setUp_6 : decode cX12_setUp 6 = .ok (.iaload, 1) := dk_46 (dk_at dksX12_setUp_0 6 rfl rfl)
theorem dX12_setUp_7 : decode cX12_setUp 7 = .ok (.putfield 348, 3) := dk_181 1 92 (dk_at dksX12_setUp_0 7 rfl rfl)
theorem dX12_setUp_10 : decode cX12_setUp 10 = .ok (.aload_n 0, 1) := dk_42 (dk_at dksX12_setUp_0 10 rfl rfl)
theorem dX12_setUp_11 : decode cX12_setUp 11 = .ok (.getfield 311, 3) := dk_180 1 55 (dk_at dksX12_setUp_0 11 rfl rfl)
theorem dX12_setUp_14 : decode cX12_setUp 14 = .ok (.ifCond .ne 7, 3) := dk_154 0 7 (dk_at dksX12_setUp_0 14 rfl rfl)
theorem dX12_setUp_17 : decode cX12_setUp 17 = .ok (.aload_n 0, 1) := dk_42 (dk_at dksX12_setUp_0 17 rfl rfl)
theorem dX12_setUp_18 : decode cX12_setUp 18 = .ok (.invokevirtual 408, 3) := dk_182 1 152 (dk_at dksX12_setUp_0 18 rfl rfl)
theorem dX12_setUp_21 : decode cX12_setUp 21 = .ok (.aload_n 0, 1) := dk_42 (dk_at dksX12_setUp_0 21 rfl rfl)
theorem dX12_setUp_22 : decode cX12_setUp 22 = .ok (.iconst 1, 1) := dk_4 (dk_at dksX12_setUp_0 22 rfl rfl)
theorem dX12_setUp_23 : decode cX12_setUp 23 = .ok (.putfield 311, 3) := dk_181 1 55 (dk_at dksX12_setUp_1 0 rfl rfl)
theorem dX12_setUp_26 : decode cX12_setUp 26 = .ok (.iconst 0, 1) := dk_3 (dk_at dksX12_setUp_1 3 rfl rfl)
theorem dX12_setUp_27 : decode cX12_setUp 27 = .ok (.istore_n 1, 1) := dk_60 (dk_at dksX12_setUp_1 4 rfl rfl)
theorem dX12_setUp_28 : decode cX12_setUp 28 = .ok (.iload_n 1, 1) := dk_27 (dk_at dksX12_setUp_1 5 rfl rfl)
theorem dX12_setUp_29 : decode cX12_setUp 29 = .ok (.aload_n 0, 1) := dk_42 (dk_at dksX12_setUp_1 6 rfl rfl)
theorem dX12_setUp_30 : decode cX12_setUp 30 = .ok (.getfield 23, 3) := dk_180 0 23 (dk_at dksX12_setUp_1 7 rfl rfl)
theorem dX12_setUp_33 : decode cX12_setUp 33 = .ok (.iconst 3, 1) := dk_6 (dk_at dksX12_setUp_1 10 rfl rfl)
theorem dX12_setUp_34 : decode cX12_setUp 34 = .ok (.iaload, 1) := dk_46 (dk_at dksX12_setUp_1 11 rfl rfl)
theorem dX12_setUp_35 : decode cX12_setUp 35 = .ok (.if_icmp .ge 20, 3) := dk_162 0 20 (dk_at dksX12_setUp_1 12 rfl rfl)
theorem dX12_setUp_38 : decode cX12_setUp 38 = .ok (.aload_n 0, 1) := dk_42 (dk_at dksX12_setUp_1 15 rfl rfl)
theorem dX12_setUp_39 : decode cX12_setUp 39 = .ok (.getfield 65, 3) := dk_180 0 65 (dk_at dksX12_setUp_1 16 rfl rfl)
theorem dX12_setUp_42 : decode cX12_setUp 42 = .ok (.iload_n 1, 1) := dk_27 (dk_at dksX12_setUp_1 19 rfl rfl)
theorem dX12_setUp_43 : decode cX12_setUp 43 = .ok (.aload_n 0, 1) := dk_42 (dk_at dksX12_setUp_1 20 rfl rfl)
theorem dX12_setUp_44 : decode cX12_setUp 44 = .ok (.iload_n 1, 1) := dk_27 (dk_at dksX12_setUp_1 21 rfl rfl)
theorem dX12_setUp_45 : decode cX12_setUp 45 = .ok (.invokevirtual 334, 3) := dk_182 1 78 (dk_at dksX12_setUp_2 0 rfl rfl)
theorem dX12_setUp_48 : decode cX12_setUp 48 = .ok (.iastore, 1) := dk_79 (dk_at dksX12_setUp_2 3 rfl rfl)
theorem dX12_setUp_49 : decode cX12_setUp 49 = .ok (.iinc 1 1, 3) := dk_132 1 1 (dk_at dksX12_setUp_2 4 rfl rfl)
theorem dX12_setUp_52 : decode cX12_setUp 52 = .ok (.goto (-24), 3) := dk_167 255 232 (dk_at dksX12_setUp_2 7 rfl rfl)
theorem dX12_setUp_55 : decode cX12_setUp 55 = .ok (.iconst 0, 1) := dk_3 (dk_at dksX12_setUp_2 10 rfl rfl)
theorem dX12_setUp_56 : decode cX12_setUp 56 = .ok (.istore_n 1, 1) := dk_60 (dk_at dksX12_setUp_2 11 rfl rfl)
theorem dX12_setUp_57 : decode cX12_setUp 57 = .ok (.iload_n 1, 1) := dk_27 (dk_at dksX12_setUp_2 12 rfl rfl)
theorem dX12_setUp_58 : decode cX12_setUp 58 = .ok (.aload_n 0, 1) := dk_42 (dk_at dksX12_setUp_2 13 rfl rfl)
theorem dX12_setUp_59 : decode cX12_setUp 59 = .ok (.getfield 23, 3) := dk_180 0 23 (dk_at dksX12_setUp_2 14 rfl rfl)
theorem dX12_setUp_62 : decode cX12_setUp 62 = .ok (.iconst 2, 1) := dk_5 (dk_at dksX12_setUp_2 17 rfl rfl)
theorem dX12_setUp_63 : decode cX12_setUp 63 = .ok (.iaload, 1) := dk_46 (dk_at dksX12_setUp_2 18 rfl rfl)
theorem dX12_setUp_64 : decode cX12_setUp 64 = .ok (.if_icmp .ge 23, 3) := dk_162 0 23 (dk_at dksX12_setUp_2 19 rfl rfl)
theorem dX12_setUp_67 : decode cX12_setUp 67 = .ok (.aload_n 0, 1) := dk_42 (dk_at dksX12_setUp_2 22 rfl rfl)
theorem dX12_setUp_68 : decode cX12_setUp 68 = .ok (.getfield 68, 3) := dk_180 0 68 (dk_at dksX12_setUp_3 0 rfl rfl)
theorem dX12_setUp_71 : decode cX12_setUp 71 = .ok (.iload_n 1, 1) := dk_27 (dk_at dksX12_setUp_3 3 rfl rfl)
theorem dX12_setUp_72 : decode cX12_setUp 72 = .ok (.aload_n 0, 1) := dk_42 (dk_at dksX12_setUp_3 4 rfl rfl)
theorem dX12_setUp_73 : decode cX12_setUp 73 = .ok (.getfield 59, 3) := dk_180 0 59 (dk_at dksX12_setUp_3 5 rfl rfl)
theorem dX12_setUp_76 : decode cX12_setUp 76 = .ok (.iconst 0, 1) := dk_3 (dk_at dksX12_setUp_3 8 rfl rfl)
theorem dX12_setUp_77 : decode cX12_setUp 77 = .ok (.iload_n 1, 1) := dk_27 (dk_at dksX12_setUp_3 9 rfl rfl)
theorem dX12_setUp_78 : decode cX12_setUp 78 = .ok (.iadd, 1) := dk_96 (dk_at dksX12_setUp_3 10 rfl rfl)
theorem dX12_setUp_79 : decode cX12_setUp 79 = .ok (.iaload, 1) := dk_46 (dk_at dksX12_setUp_3 11 rfl rfl)
theorem dX12_setUp_80 : decode cX12_setUp 80 = .ok (.iastore, 1) := dk_79 (dk_at dksX12_setUp_3 12 rfl rfl)
theorem dX12_setUp_81 : decode cX12_setUp 81 = .ok (.iinc 1 1, 3) := dk_132 1 1 (dk_at dksX12_setUp_3 13 rfl rfl)
theorem dX12_setUp_84 : decode cX12_setUp 84 = .ok (.goto (-27), 3) := dk_167 255 229 (dk_at dksX12_setUp_3 16 rfl rfl)
theorem dX12_setUp_87 : decode cX12_setUp 87 = .ok (.return_, 1) := dk_177 (dk_at dksX12_setUp_3 19 rfl rfl)
abbrev cX12_learns : ByteArray := prog_27_method_62_code
def yX12_learns : MethodName := ⟨RX12, "learns", "()V"⟩
def dkwX12_learns_8 : List UInt8 := [162, 0, 14, 42, 29, 182, 1, 107, 132, 3, 1, 167, 255, 238, 177]
abbrev dktX12_learns_8 : List UInt8 := dkwX12_learns_8 ++ []
def dkwX12_learns_7 : List UInt8 := [42, 180, 0, 86, 29, 31, 80, 132, 3, 255, 167, 255, 198, 3, 62, 29, 42, 180, 0, 23, 5, 46]
abbrev dktX12_learns_7 : List UInt8 := dkwX12_learns_7 ++ dktX12_learns_8
def dkwX12_learns_6 : List UInt8 := [153, 0, 7, 4, 167, 0, 4, 3, 84, 42, 180, 0, 99, 29, 51, 153, 0, 9, 31, 20, 1, 105, 105, 64]
abbrev dktX12_learns_6 : List UInt8 := dkwX12_learns_6 ++ dktX12_learns_7
def dkwX12_learns_5 : List UInt8 := [29, 155, 0, 60, 42, 180, 0, 99, 29, 29, 42, 180, 0, 23, 6, 46, 162, 0, 15, 42, 29, 182, 1, 66]
abbrev dktX12_learns_5 : List UInt8 := dkwX12_learns_5 ++ dktX12_learns_6
def dkwX12_learns_4 : List UInt8 := [167, 255, 187, 132, 2, 1, 167, 255, 169, 132, 1, 1, 167, 255, 151, 10, 64, 42, 180, 0, 23, 6, 46, 62]
abbrev dktX12_learns_4 : List UInt8 := dkwX12_learns_4 ++ dktX12_learns_5
def dkwX12_learns_3 : List UInt8 := [184, 1, 98, 96, 42, 27, 28, 29, 21, 4, 182, 1, 101, 79, 132, 4, 1, 167, 255, 206, 132, 3, 1]
abbrev dktX12_learns_3 : List UInt8 := dkwX12_learns_3 ++ dktX12_learns_4
def dkwX12_learns_2 : List UInt8 := [42, 28, 29, 21, 4, 182, 1, 94, 154, 0, 30, 42, 180, 0, 80, 27, 17, 15, 60, 104, 28, 29, 21, 4]
abbrev dktX12_learns_2 : List UInt8 := dkwX12_learns_2 ++ dktX12_learns_3
def dkwX12_learns_1 : List UInt8 := [3, 62, 29, 42, 180, 0, 23, 3, 46, 162, 0, 65, 3, 54, 4, 21, 4, 42, 180, 1, 92, 163, 0, 47]
abbrev dktX12_learns_1 : List UInt8 := dkwX12_learns_1 ++ dktX12_learns_2
def dkwX12_learns_0 : List UInt8 := [3, 60, 27, 42, 180, 0, 23, 5, 46, 162, 0, 101, 3, 61, 28, 42, 180, 0, 23, 6, 46, 162, 0, 83]
abbrev dktX12_learns_0 : List UInt8 := dkwX12_learns_0 ++ dktX12_learns_1
theorem dksX12_learns_0 : cX12_learns.data.toList.drop 0 = dktX12_learns_0 := by decide +kernel
theorem dksX12_learns_1 : cX12_learns.data.toList.drop 24 = dktX12_learns_1 := dk_seg dksX12_learns_0 24 rfl rfl
theorem dksX12_learns_2 : cX12_learns.data.toList.drop 48 = dktX12_learns_2 := dk_seg dksX12_learns_1 24 rfl rfl
theorem dksX12_learns_3 : cX12_learns.data.toList.drop 72 = dktX12_learns_3 := dk_seg dksX12_learns_2 24 rfl rfl
theorem dksX12_learns_4 : cX12_learns.data.toList.drop 95 = dktX12_learns_4 := dk_seg dksX12_learns_3 23 rfl rfl
theorem dksX12_learns_5 : cX12_learns.data.toList.drop 119 = dktX12_learns_5 := dk_seg dksX12_learns_4 24 rfl rfl
theorem dksX12_learns_6 : cX12_learns.data.toList.drop 143 = dktX12_learns_6 := dk_seg dksX12_learns_5 24 rfl rfl
theorem dksX12_learns_7 : cX12_learns.data.toList.drop 167 = dktX12_learns_7 := dk_seg dksX12_learns_6 24 rfl rfl
theorem dksX12_learns_8 : cX12_learns.data.toList.drop 189 = dktX12_learns_8 := dk_seg dksX12_learns_7 22 rfl rfl
theorem dX12_learns_0 : decode cX12_learns 0 = .ok (.iconst 0, 1) := dk_3 (dk_at dksX12_learns_0 0 rfl rfl)
theorem dX12_learns_1 : decode cX12_learns 1 = .ok (.istore_n 1, 1) := dk_60 (dk_at dksX12_learns_0 1 rfl rfl)
theorem dX12_learns_2 : decode cX12_learns 2 = .ok (.iload_n 1, 1) := dk_27 (dk_at dksX12_learns_0 2 rfl rfl)
theorem dX12_learns_3 : decode cX12_learns 3 = .ok (.aload_n 0, 1) := dk_42 (dk_at dksX12_learns_0 3 rfl rfl)
theorem dX12_learns_4 : decode cX12_learns 4 = .ok (.getfield 23, 3) := dk_180 0 23 (dk_at dksX12_learns_0 4 rfl rfl)
theorem dX12_learns_7 : decode cX12_learns 7 = .ok (.iconst 2, 1) := dk_5 (dk_at dksX12_learns_0 7 rfl rfl)
theorem dX12_learns_8 : decode cX12_learns 8 = .ok (.iaload, 1) := dk_46 (dk_at dksX12_learns_0 8 rfl rfl)
theorem dX12_learns_9 : decode cX12_learns 9 = .ok (.if_icmp .ge 101, 3) := dk_162 0 101 (dk_at dksX12_learns_0 9 rfl rfl)
theorem dX12_learns_12 : decode cX12_learns 12 = .ok (.iconst 0, 1) := dk_3 (dk_at dksX12_learns_0 12 rfl rfl)
theorem dX12_learns_13 : decode cX12_learns 13 = .ok (.istore_n 2, 1) := dk_61 (dk_at dksX12_learns_0 13 rfl rfl)
theorem dX12_learns_14 : decode cX12_learns 14 = .ok (.iload_n 2, 1) := dk_28 (dk_at dksX12_learns_0 14 rfl rfl)
theorem dX12_learns_15 : decode cX12_learns 15 = .ok (.aload_n 0, 1) := dk_42 (dk_at dksX12_learns_0 15 rfl rfl)
theorem dX12_learns_16 : decode cX12_learns 16 = .ok (.getfield 23, 3) := dk_180 0 23 (dk_at dksX12_learns_0 16 rfl rfl)
theorem dX12_learns_19 : decode cX12_learns 19 = .ok (.iconst 3, 1) := dk_6 (dk_at dksX12_learns_0 19 rfl rfl)
theorem dX12_learns_20 : decode cX12_learns 20 = .ok (.iaload, 1) := dk_46 (dk_at dksX12_learns_0 20 rfl rfl)
theorem dX12_learns_21 : decode cX12_learns 21 = .ok (.if_icmp .ge 83, 3) := dk_162 0 83 (dk_at dksX12_learns_0 21 rfl rfl)
theorem dX12_learns_24 : decode cX12_learns 24 = .ok (.iconst 0, 1) := dk_3 (dk_at dksX12_learns_1 0 rfl rfl)
theorem dX12_learns_25 : decode cX12_learns 25 = .ok (.istore_n 3, 1) := dk_62 (dk_at dksX12_learns_1 1 rfl rfl)
theorem dX12_learns_26 : decode cX12_learns 26 = .ok (.iload_n 3, 1) := dk_29 (dk_at dksX12_learns_1 2 rfl rfl)
theorem dX12_learns_27 : decode cX12_learns 27 = .ok (.aload_n 0, 1) := dk_42 (dk_at dksX12_learns_1 3 rfl rfl)
theorem dX12_learns_28 : decode cX12_learns 28 = .ok (.getfield 23, 3) := dk_180 0 23 (dk_at dksX12_learns_1 4 rfl rfl)
theorem dX12_learns_31 : decode cX12_learns 31 = .ok (.iconst 0, 1) := dk_3 (dk_at dksX12_learns_1 7 rfl rfl)
theorem dX12_learns_32 : decode cX12_learns 32 = .ok (.iaload, 1) := dk_46 (dk_at dksX12_learns_1 8 rfl rfl)
theorem dX12_learns_33 : decode cX12_learns 33 = .ok (.if_icmp .ge 65, 3) := dk_162 0 65 (dk_at dksX12_learns_1 9 rfl rfl)
theorem dX12_learns_36 : decode cX12_learns 36 = .ok (.iconst 0, 1) := dk_3 (dk_at dksX12_learns_1 12 rfl rfl)
theorem dX12_learns_37 : decode cX12_learns 37 = .ok (.istore 4, 2) := dk_54 4 (dk_at dksX12_learns_1 13 rfl rfl)
theorem dX12_learns_39 : decode cX12_learns 39 = .ok (.iload 4, 2) := dk_21 4 (dk_at dksX12_learns_1 15 rfl rfl)
theorem dX12_learns_41 : decode cX12_learns 41 = .ok (.aload_n 0, 1) := dk_42 (dk_at dksX12_learns_1 17 rfl rfl)
theorem dX12_learns_42 : decode cX12_learns 42 = .ok (.getfield 348, 3) := dk_180 1 92 (dk_at dksX12_learns_1 18 rfl rfl)
theorem dX12_learns_45 : decode cX12_learns 45 = .ok (.if_icmp .gt 47, 3) := dk_163 0 47 (dk_at dksX12_learns_1 21 rfl rfl)
theorem dX12_learns_48 : decode cX12_learns 48 = .ok (.aload_n 0, 1) := dk_42 (dk_at dksX12_learns_2 0 rfl rfl)
theorem dX12_learns_49 : decode cX12_learns 49 = .ok (.iload_n 2, 1) := dk_28 (dk_at dksX12_learns_2 1 rfl rfl)
theorem dX12_learns_50 : decode cX12_learns 50 = .ok (.iload_n 3, 1) := dk_29 (dk_at dksX12_learns_2 2 rfl rfl)
theorem dX12_learns_51 : decode cX12_learns 51 = .ok (.iload 4, 2) := dk_21 4 (dk_at dksX12_learns_2 3 rfl rfl)
theorem dX12_learns_53 : decode cX12_learns 53 = .ok (.invokevirtual 350, 3) := dk_182 1 94 (dk_at dksX12_learns_2 5 rfl rfl)
theorem dX12_learns_56 : decode cX12_learns 56 = .ok (.ifCond .ne 30, 3) := dk_154 0 30 (dk_at dksX12_learns_2 8 rfl rfl)
theorem dX12_learns_59 : decode cX12_learns 59 = .ok (.aload_n 0, 1) := dk_42 (dk_at dksX12_learns_2 11 rfl rfl)
theorem dX12_learns_60 : decode cX12_learns 60 = .ok (.getfield 80, 3) := dk_180 0 80 (dk_at dksX12_learns_2 12 rfl rfl)
theorem dX12_learns_63 : decode cX12_learns 63 = .ok (.iload_n 1, 1) := dk_27 (dk_at dksX12_learns_2 15 rfl rfl)
theorem dX12_learns_64 : decode cX12_learns 64 = .ok (.sipush 3900, 3) := dk_17 15 60 (dk_at dksX12_learns_2 16 rfl rfl)
theorem dX12_learns_67 : decode cX12_learns 67 = .ok (.imul, 1) := dk_104 (dk_at dksX12_learns_2 19 rfl rfl)
theorem dX12_learns_68 : decode cX12_learns 68 = .ok (.iload_n 2, 1) := dk_28 (dk_at dksX12_learns_2 20 rfl rfl)
theorem dX12_learns_69 : decode cX12_learns 69 = .ok (.iload_n 3, 1) := dk_29 (dk_at dksX12_learns_2 21 rfl rfl)
theorem dX12_learns_70 : decode cX12_learns 70 = .ok (.iload 4, 2) := dk_21 4 (dk_at dksX12_learns_2 22 rfl rfl)
theorem dX12_learns_72 : decode cX12_learns 72 = .ok (.invokestatic 354, 3) := dk_184 1 98 (dk_at dksX12_learns_3 0 rfl rfl)
theorem dX12_learns_75 : decode cX12_learns 75 = .ok (.iadd, 1) := dk_96 (dk_at dksX12_learns_3 3 rfl rfl)
theorem dX12_learns_76 : decode cX12_learns 76 = .ok (.aload_n 0, 1) := dk_42 (dk_at dksX12_learns_3 4 rfl rfl)
theorem dX12_learns_77 : decode cX12_learns 77 = .ok (.iload_n 1, 1) := dk_27 (dk_at dksX12_learns_3 5 rfl rfl)
theorem dX12_learns_78 : decode cX12_learns 78 = .ok (.iload_n 2, 1) := dk_28 (dk_at dksX12_learns_3 6 rfl rfl)
theorem dX12_learns_79 : decode cX12_learns 79 = .ok (.iload_n 3, 1) := dk_29 (dk_at dksX12_learns_3 7 rfl rfl)
theorem dX12_learns_80 : decode cX12_learns 80 = .ok (.iload 4, 2) := dk_21 4 (dk_at dksX12_learns_3 8 rfl rfl)
theorem dX12_learns_82 : decode cX12_learns 82 = .ok (.invokevirtual 357, 3) := dk_182 1 101 (dk_at dksX12_learns_3 10 rfl rfl)
theorem dX12_learns_85 : decode cX12_learns 85 = .ok (.iastore, 1) := dk_79 (dk_at dksX12_learns_3 13 rfl rfl)
theorem dX12_learns_86 : decode cX12_learns 86 = .ok (.iinc 4 1, 3) := dk_132 4 1 (dk_at dksX12_learns_3 14 rfl rfl)
theorem dX12_learns_89 : decode cX12_learns 89 = .ok (.goto (-50), 3) := dk_167 255 206 (dk_at dksX12_learns_3 17 rfl rfl)
theorem dX12_learns_92 : decode cX12_learns 92 = .ok (.iinc 3 1, 3) := dk_132 3 1 (dk_at dksX12_learns_3 20 rfl rfl)
theorem dX12_learns_95 : decode cX12_learns 95 = .ok (.goto (-69), 3) := dk_167 255 187 (dk_at dksX12_learns_4 0 rfl rfl)
theorem dX12_learns_98 : decode cX12_learns 98 = .ok (.iinc 2 1, 3) := dk_132 2 1 (dk_at dksX12_learns_4 3 rfl rfl)
theorem dX12_learns_101 : decode cX12_learns 101 = .ok (.goto (-87), 3) := dk_167 255 169 (dk_at dksX12_learns_4 6 rfl rfl)
theorem dX12_learns_104 : decode cX12_learns 104 = .ok (.iinc 1 1, 3) := dk_132 1 1 (dk_at dksX12_learns_4 9 rfl rfl)
theorem dX12_learns_107 : decode cX12_learns 107 = .ok (.goto (-105), 3) := dk_167 255 151 (dk_at dksX12_learns_4 12 rfl rfl)
theorem dX12_learns_110 : decode cX12_learns 110 = .ok (.lconst 1, 1) := dk_10 (dk_at dksX12_learns_4 15 rfl rfl)
theorem dX12_learns_111 : decode cX12_learns 111 = .ok (.lstore_n 1, 1) := dk_64 (dk_at dksX12_learns_4 16 rfl rfl)
theorem dX12_learns_112 : decode cX12_learns 112 = .ok (.aload_n 0, 1) := dk_42 (dk_at dksX12_learns_4 17 rfl rfl)
theorem dX12_learns_113 : decode cX12_learns 113 = .ok (.getfield 23, 3) := dk_180 0 23 (dk_at dksX12_learns_4 18 rfl rfl)
theorem dX12_learns_116 : decode cX12_learns 116 = .ok (.iconst 3, 1) := dk_6 (dk_at dksX12_learns_4 21 rfl rfl)
theorem dX12_learns_117 : decode cX12_learns 117 = .ok (.iaload, 1) := dk_46 (dk_at dksX12_learns_4 22 rfl rfl)
theorem dX12_learns_118 : decode cX12_learns 118 = .ok (.istore_n 3, 1) := dk_62 (dk_at dksX12_learns_4 23 rfl rfl)
theorem dX12_learns_119 : decode cX12_learns 119 = .ok (.iload_n 3, 1) := dk_29 (dk_at dksX12_learns_5 0 rfl rfl)
theorem dX12_learns_120 : decode cX12_learns 120 = .ok (.ifCond .lt 60, 3) := dk_155 0 60 (dk_at dksX12_learns_5 1 rfl rfl)
theorem dX12_learns_123 : decode cX12_learns 123 = .ok (.aload_n 0, 1) := dk_42 (dk_at dksX12_learns_5 4 rfl rfl)
theorem dX12_learns_124 : decode cX12_learns 124 = .ok (.getfield 99, 3) := dk_180 0 99 (dk_at dksX12_learns_5 5 rfl rfl)
theorem dX12_learns_127 : decode cX12_learns 127 = .ok (.iload_n 3, 1) := dk_29 (dk_at dksX12_learns_5 8 rfl rfl)
theorem dX12_learns_128 : decode cX12_learns 128 = .ok (.iload_n 3, 1) := dk_29 (dk_at dksX12_learns_5 9 rfl rfl)
theorem dX12_learns_129 : decode cX12_learns 129 = .ok (.aload_n 0, 1) := dk_42 (dk_at dksX12_learns_5 10 rfl rfl)
theorem dX12_learns_130 : decode cX12_learns 130 = .ok (.getfield 23, 3) := dk_180 0 23 (dk_at dksX12_learns_5 11 rfl rfl)
theorem dX12_learns_133 : decode cX12_learns 133 = .ok (.iconst 3, 1) := dk_6 (dk_at dksX12_learns_5 14 rfl rfl)
theorem dX12_learns_134 : decode cX12_learns 134 = .ok (.iaload, 1) := dk_46 (dk_at dksX12_learns_5 15 rfl rfl)
theorem dX12_learns_135 : decode cX12_learns 135 = .ok (.if_icmp .ge 15, 3) := dk_162 0 15 (dk_at dksX12_learns_5 16 rfl rfl)
theorem dX12_learns_138 : decode cX12_learns 138 = .ok (.aload_n 0, 1) := dk_42 (dk_at dksX12_learns_5 19 rfl rfl)
theorem dX12_learns_139 : decode cX12_learns 139 = .ok (.iload_n 3, 1) := dk_29 (dk_at dksX12_learns_5 20 rfl rfl)
theorem dX12_learns_140 : decode cX12_learns 140 = .ok (.invokevirtual 322, 3) := dk_182 1 66 (dk_at dksX12_learns_5 21 rfl rfl)
theorem dX12_learns_143 : decode cX12_learns 143 = .ok (.ifCond .eq 7, 3) := dk_153 0 7 (dk_at dksX12_learns_6 0 rfl rfl)
theorem dX12_learns_146 : decode cX12_learns 146 = .ok (.iconst 1, 1) := dk_4 (dk_at dksX12_learns_6 3 rfl rfl)
theorem dX12_learns_147 : decode cX12_learns 147 = .ok (.goto 4, 3) := dk_167 0 4 (dk_at dksX12_learns_6 4 rfl rfl)
theorem dX12_learns_150 : decode cX12_learns 150 = .ok (.iconst 0, 1) := dk_3 (dk_at dksX12_learns_6 7 rfl rfl)
theorem dX12_learns_151 : decode cX12_learns 151 = .ok (.bastore, 1) := dk_84 (dk_at dksX12_learns_6 8 rfl rfl)
theorem dX12_learns_152 : decode cX12_learns 152 = .ok (.aload_n 0, 1) := dk_42 (dk_at dksX12_learns_6 9 rfl rfl)
theorem dX12_learns_153 : decode cX12_learns 153 = .ok (.getfield 99, 3) := dk_180 0 99 (dk_at dksX12_learns_6 10 rfl rfl)
theorem dX12_learns_156 : decode cX12_learns 156 = .ok (.iload_n 3, 1) := dk_29 (dk_at dksX12_learns_6 13 rfl rfl)
theorem dX12_learns_157 : decode cX12_learns 157 = .ok (.baload, 1) := dk_51 (dk_at dksX12_learns_6 14 rfl rfl)
theorem dX12_learns_158 : decode cX12_learns 158 = .ok (.ifCond .eq 9, 3) := dk_153 0 9 (dk_at dksX12_learns_6 15 rfl rfl)
theorem dX12_learns_161 : decode cX12_learns 161 = .ok (.lload_n 1, 1) := dk_31 (dk_at dksX12_learns_6 18 rfl rfl)
theorem dX12_learns_162 : decode cX12_learns 162 = .ok (.ldc2_w 361, 3) := dk_20 1 105 (dk_at dksX12_learns_6 19 rfl rfl)
theorem dX12_learns_165 : decode cX12_learns 165 = .ok (.lmul, 1) := dk_105 (dk_at dksX12_learns_6 22 rfl rfl)
theorem dX12_learns_166 : decode cX12_learns 166 = .ok (.lstore_n 1, 1) := dk_64 (dk_at dksX12_learns_6 23 rfl rfl)
theorem dX12_learns_167 : decode cX12_learns 167 = .ok (.aload_n 0, 1) := dk_42 (dk_at dksX12_learns_7 0 rfl rfl)
theorem dX12_learns_168 : decode cX12_learns 168 = .ok (.getfield 86, 3) := dk_180 0 86 (dk_at dksX12_learns_7 1 rfl rfl)
theorem dX12_learns_171 : decode cX12_learns 171 = .ok (.iload_n 3, 1) := dk_29 (dk_at dksX12_learns_7 4 rfl rfl)
theorem dX12_learns_172 : decode cX12_learns 172 = .ok (.lload_n 1, 1) := dk_31 (dk_at dksX12_learns_7 5 rfl rfl)
theorem dX12_learns_173 : decode cX12_learns 173 = .ok (.lastore, 1) := dk_80 (dk_at dksX12_learns_7 6 rfl rfl)
theorem dX12_learns_174 : decode cX12_learns 174 = .ok (.iinc 3 (-1), 3) := dk_132 3 255 (dk_at dksX12_learns_7 7 rfl rfl)
theorem dX12_learns_177 : decode cX12_learns 177 = .ok (.goto (-58), 3) := dk_167 255 198 (dk_at dksX12_learns_7 10 rfl rfl)
theorem dX12_learns_180 : decode cX12_learns 180 = .ok (.iconst 0, 1) := dk_3 (dk_at dksX12_learns_7 13 rfl rfl)
theorem dX12_learns_181 : decode cX12_learns 181 = .ok (.istore_n 3, 1) := dk_62 (dk_at dksX12_learns_7 14 rfl rfl)
theorem dX12_learns_182 : decode cX12_learns 182 = .ok (.iload_n 3, 1) := dk_29 (dk_at dksX12_learns_7 15 rfl rfl)
theorem dX12_learns_183 : decode cX12_learns 183 = .ok (.aload_n 0, 1) := dk_42 (dk_at dksX12_learns_7 16 rfl rfl)
theorem dX12_learns_184 : decode cX12_learns 184 = .ok (.getfield 23, 3) := dk_180 0 23 (dk_at dksX12_learns_7 17 rfl rfl)
theorem dX12_learns_187 : decode cX12_learns 187 = .ok (.iconst 2, 1) := dk_5 (dk_at dksX12_learns_7 20 rfl rfl)
theorem dX12_learns_188 : decode cX12_learns 188 = .ok (.iaload, 1) := dk_46 (dk_at dksX12_learns_7 21 rfl rfl)
theorem dX12_learns_189 : decode cX12_learns 189 = .ok (.if_icmp .ge 14, 3) := dk_162 0 14 (dk_at dksX12_learns_8 0 rfl rfl)
theorem dX12_learns_192 : decode cX12_learns 192 = .ok (.aload_n 0, 1) := dk_42 (dk_at dksX12_learns_8 3 rfl rfl)
theorem dX12_learns_193 : decode cX12_learns 193 = .ok (.iload_n 3, 1) := dk_29 (dk_at dksX12_learns_8 4 rfl rfl)
theorem dX12_learns_194 : decode cX12_learns 194 = .ok (.invokevirtual 363, 3) := dk_182 1 107 (dk_at dksX12_learns_8 5 rfl rfl)
theorem dX12_learns_197 : decode cX12_learns 197 = .ok (.iinc 3 1, 3) := dk_132 3 1 (dk_at dksX12_learns_8 8 rfl rfl)
theorem dX12_learns_200 : decode cX12_learns 200 = .ok (.goto (-18), 3) := dk_167 255 238 (dk_at dksX12_learns_8 11 rfl rfl)
theorem dX12_learns_203 : decode cX12_learns 203 = .ok (.return_, 1) := dk_177 (dk_at dksX12_learns_8 14 rfl rfl)
abbrev cX12_ended : ByteArray := prog_27_method_57_code
def yX12_ended : MethodName := ⟨RX12, "ended", "(III)I"⟩
def dkwX12_ended_1 : List UInt8 := [167, 0, 18, 27, 42, 180, 0, 23, 6, 46, 160, 0, 7, 6, 167, 0, 4, 3, 172]
abbrev dktX12_ended_1 : List UInt8 := dkwX12_ended_1 ++ []
def dkwX12_ended_0 : List UInt8 := [42, 180, 0, 23, 16, 7, 28, 96, 46, 5, 160, 0, 7, 4, 167, 0, 26, 29, 154, 0, 7, 5]
abbrev dktX12_ended_0 : List UInt8 := dkwX12_ended_0 ++ dktX12_ended_1
theorem dksX12_ended_0 : cX12_ended.data.toList.drop 0 = dktX12_ended_0 := by decide +kernel
theorem dksX12_ended_1 : cX12_ended.data.toList.drop 22 = dktX12_ended_1 := dk_seg dksX12_ended_0 22 rfl rfl
theorem dX12_ended_0 : decode cX12_ended 0 = .ok (.aload_n 0, 1) := dk_42 (dk_at dksX12_ended_0 0 rfl rfl)
theorem dX12_ended_1 : decode cX12_ended 1 = .ok (.getfield 23, 3) := dk_180 0 23 (dk_at dksX12_ended_0 1 rfl rfl)
theorem dX12_ended_4 : decode cX12_ended 4 = .ok (.bipush 7, 2) := dk_16 7 (dk_at dksX12_ended_0 4 rfl rfl)
theorem dX12_ended_6 : decode cX12_ended 6 = .ok (.iload_n 2, 1) := dk_28 (dk_at dksX12_ended_0 6 rfl rfl)
theorem dX12_ended_7 : decode cX12_ended 7 = .ok (.iadd, 1) := dk_96 (dk_at dksX12_ended_0 7 rfl rfl)
theorem dX12_ended_8 : decode cX12_ended 8 = .ok (.iaload, 1) := dk_46 (dk_at dksX12_ended_0 8 rfl rfl)
theorem dX12_ended_9 : decode cX12_ended 9 = .ok (.iconst 2, 1) := dk_5 (dk_at dksX12_ended_0 9 rfl rfl)
theorem dX12_ended_10 : decode cX12_ended 10 = .ok (.if_icmp .ne 7, 3) := dk_160 0 7 (dk_at dksX12_ended_0 10 rfl rfl)
theorem dX12_ended_13 : decode cX12_ended 13 = .ok (.iconst 1, 1) := dk_4 (dk_at dksX12_ended_0 13 rfl rfl)
theorem dX12_ended_14 : decode cX12_ended 14 = .ok (.goto 26, 3) := dk_167 0 26 (dk_at dksX12_ended_0 14 rfl rfl)
theorem dX12_ended_17 : decode cX12_ended 17 = .ok (.iload_n 3, 1) := dk_29 (dk_at dksX12_ended_0 17 rfl rfl)
theorem dX12_ended_18 : decode cX12_ended 18 = .ok (.ifCond .ne 7, 3) := dk_154 0 7 (dk_at dksX12_ended_0 18 rfl rfl)
theorem dX12_ended_21 : decode cX12_ended 21 = .ok (.iconst 2, 1) := dk_5 (dk_at dksX12_ended_0 21 rfl rfl)
theorem dX12_ended_22 : decode cX12_ended 22 = .ok (.goto 18, 3) := dk_167 0 18 (dk_at dksX12_ended_1 0 rfl rfl)
theorem dX12_ended_25 : decode cX12_ended 25 = .ok (.iload_n 1, 1) := dk_27 (dk_at dksX12_ended_1 3 rfl rfl)
theorem dX12_ended_26 : decode cX12_ended 26 = .ok (.aload_n 0, 1) := dk_42 (dk_at dksX12_ended_1 4 rfl rfl)
theorem dX12_ended_27 : decode cX12_ended 27 = .ok (.getfield 23, 3) := dk_180 0 23 (dk_at dksX12_ended_1 5 rfl rfl)
theorem dX12_ended_30 : decode cX12_ended 30 = .ok (.iconst 3, 1) := dk_6 (dk_at dksX12_ended_1 8 rfl rfl)
theorem dX12_ended_31 : decode cX12_ended 31 = .ok (.iaload, 1) := dk_46 (dk_at dksX12_ended_1 9 rfl rfl)
theorem dX12_ended_32 : decode cX12_ended 32 = .ok (.if_icmp .ne 7, 3) := dk_160 0 7 (dk_at dksX12_ended_1 10 rfl rfl)
theorem dX12_ended_35 : decode cX12_ended 35 = .ok (.iconst 3, 1) := dk_6 (dk_at dksX12_ended_1 13 rfl rfl)
theorem dX12_ended_36 : decode cX12_ended 36 = .ok (.goto 4, 3) := dk_167 0 4 (dk_at dksX12_ended_1 14 rfl rfl)
theorem dX12_ended_39 : decode cX12_ended 39 = .ok (.iconst 0, 1) := dk_3 (dk_at dksX12_ended_1 17 rfl rfl)
theorem dX12_ended_40 : decode cX12_ended 40 = .ok (.ireturn, 1) := dk_172 (dk_at dksX12_ended_1 18 rfl rfl)
abbrev cX12_state : ByteArray := prog_27_method_56_code
def yX12_state : MethodName := ⟨RX12, "state", "(III)I"⟩
def dkwX12_state_0 : List UInt8 := [26, 16, 12, 104, 27, 96, 16, 13, 104, 28, 96, 172]
abbrev dktX12_state_0 : List UInt8 := dkwX12_state_0 ++ []
theorem dksX12_state_0 : cX12_state.data.toList.drop 0 = dktX12_state_0 := by decide +kernel
theorem dX12_state_0 : decode cX12_state 0 = .ok (.iload_n 0, 1) := dk_26 (dk_at dksX12_state_0 0 rfl rfl)
theorem dX12_state_1 : decode cX12_state 1 = .ok (.bipush 12, 2) := dk_16 12 (dk_at dksX12_state_0 1 rfl rfl)
theorem dX12_state_3 : decode cX12_state 3 = .ok (.imul, 1) := dk_104 (dk_at dksX12_state_0 3 rfl rfl)
theorem dX12_state_4 : decode cX12_state 4 = .ok (.iload_n 1, 1) := dk_27 (dk_at dksX12_state_0 4 rfl rfl)
theorem dX12_state_5 : decode cX12_state 5 = .ok (.iadd, 1) := dk_96 (dk_at dksX12_state_0 5 rfl rfl)
theorem dX12_state_6 : decode cX12_state 6 = .ok (.bipush 13, 2) := dk_16 13 (dk_at dksX12_state_0 6 rfl rfl)
theorem dX12_state_8 : decode cX12_state 8 = .ok (.imul, 1) := dk_104 (dk_at dksX12_state_0 8 rfl rfl)
theorem dX12_state_9 : decode cX12_state 9 = .ok (.iload_n 2, 1) := dk_28 (dk_at dksX12_state_0 9 rfl rfl)
theorem dX12_state_10 : decode cX12_state 10 = .ok (.iadd, 1) := dk_96 (dk_at dksX12_state_0 10 rfl rfl)
theorem dX12_state_11 : decode cX12_state 11 = .ok (.ireturn, 1) := dk_172 (dk_at dksX12_state_0 11 rfl rfl)
abbrev cX12_lawfulIn : ByteArray := prog_27_method_61_code
def yX12_lawfulIn : MethodName := ⟨RX12, "lawfulIn", "(IIII)I"⟩
def dkwX12_lawfulIn_7 : List UInt8 := [182, 1, 83, 153, 0, 12, 21, 5, 5, 21, 6, 120, 128, 54, 5, 132, 6, 1, 167, 255, 175, 21, 5, 172]
abbrev dktX12_lawfulIn_7 : List UInt8 := dkwX12_lawfulIn_7 ++ []
def dkwX12_lawfulIn_6 : List UInt8 := [180, 0, 56, 16, 7, 42, 180, 0, 23, 17, 0, 132, 16, 24, 21, 6, 104, 96, 28, 96, 46, 79, 42, 4]
abbrev dktX12_lawfulIn_6 : List UInt8 := dkwX12_lawfulIn_6 ++ dktX12_lawfulIn_7
def dkwX12_lawfulIn_5 : List UInt8 := [182, 1, 86, 154, 0, 6, 167, 0, 57, 42, 180, 0, 56, 16, 6, 42, 21, 6, 29, 182, 1, 89, 79, 42]
abbrev dktX12_lawfulIn_5 : List UInt8 := dkwX12_lawfulIn_5 ++ dktX12_lawfulIn_6
def dkwX12_lawfulIn_4 : List UInt8 := [167, 0, 4, 3, 54, 5, 3, 54, 6, 21, 6, 42, 180, 0, 23, 4, 46, 162, 0, 76, 42, 21, 6, 29]
abbrev dktX12_lawfulIn_4 : List UInt8 := dkwX12_lawfulIn_4 ++ dktX12_lawfulIn_5
def dkwX12_lawfulIn_3 : List UInt8 := [180, 0, 56, 16, 6, 29, 79, 42, 180, 0, 56, 16, 7, 3, 79, 42, 3, 182, 1, 83, 153, 0, 7, 4]
abbrev dktX12_lawfulIn_3 : List UInt8 := dkwX12_lawfulIn_3 ++ dktX12_lawfulIn_4
def dkwX12_lawfulIn_2 : List UInt8 := [160, 0, 7, 4, 167, 0, 4, 3, 79, 42, 180, 0, 56, 7, 27, 79, 42, 180, 0, 56, 8, 29, 79, 42]
abbrev dktX12_lawfulIn_2 : List UInt8 := dkwX12_lawfulIn_2 ++ dktX12_lawfulIn_3
def dkwX12_lawfulIn_1 : List UInt8 := [180, 0, 56, 5, 21, 4, 79, 42, 180, 0, 56, 6, 42, 180, 0, 23, 16, 7, 29, 96, 46, 4]
abbrev dktX12_lawfulIn_1 : List UInt8 := dkwX12_lawfulIn_1 ++ dktX12_lawfulIn_2
def dkwX12_lawfulIn_0 : List UInt8 := [42, 180, 0, 56, 3, 28, 79, 42, 180, 0, 56, 4, 42, 180, 0, 23, 6, 46, 28, 100, 79, 42]
abbrev dktX12_lawfulIn_0 : List UInt8 := dkwX12_lawfulIn_0 ++ dktX12_lawfulIn_1
theorem dksX12_lawfulIn_0 : cX12_lawfulIn.data.toList.drop 0 = dktX12_lawfulIn_0 := by decide +kernel
theorem dksX12_lawfulIn_1 : cX12_lawfulIn.data.toList.drop 22 = dktX12_lawfulIn_1 := dk_seg dksX12_lawfulIn_0 22 rfl rfl
theorem dksX12_lawfulIn_2 : cX12_lawfulIn.data.toList.drop 44 = dktX12_lawfulIn_2 := dk_seg dksX12_lawfulIn_1 22 rfl rfl
theorem dksX12_lawfulIn_3 : cX12_lawfulIn.data.toList.drop 68 = dktX12_lawfulIn_3 := dk_seg dksX12_lawfulIn_2 24 rfl rfl
theorem dksX12_lawfulIn_4 : cX12_lawfulIn.data.toList.drop 92 = dktX12_lawfulIn_4 := dk_seg dksX12_lawfulIn_3 24 rfl rfl
theorem dksX12_lawfulIn_5 : cX12_lawfulIn.data.toList.drop 116 = dktX12_lawfulIn_5 := dk_seg dksX12_lawfulIn_4 24 rfl rfl
theorem dksX12_lawfulIn_6 : cX12_lawfulIn.data.toList.drop 140 = dktX12_lawfulIn_6 := dk_seg dksX12_lawfulIn_5 24 rfl rfl
theorem dksX12_lawfulIn_7 : cX12_lawfulIn.data.toList.drop 164 = dktX12_lawfulIn_7 := dk_seg dksX12_lawfulIn_6 24 rfl rfl
theorem dX12_lawfulIn_0 : decode cX12_lawfulIn 0 = .ok (.aload_n 0, 1) := dk_42 (dk_at dksX12_lawfulIn_0 0 rfl rfl)
theorem dX12_lawfulIn_1 : decode cX12_lawfulIn 1 = .ok (.getfield 56, 3) := dk_180 0 56 (dk_at dksX12_lawfulIn_0 1 rfl rfl)
theorem dX12_lawfulIn_4 : decode cX12_lawfulIn 4 = .ok (.iconst 0, 1) := dk_3 (dk_at dksX12_lawfulIn_0 4 rfl rfl)
theorem dX12_lawfulIn_5 : decode cX12_lawfulIn 5 = .ok (.iload_n 2, 1) := dk_28 (dk_at dksX12_lawfulIn_0 5 rfl rfl)
theorem dX12_lawfulIn_6 : decode cX12_lawfulIn 6 = .ok (.iastore, 1) := dk_79 (dk_at dksX12_lawfulIn_0 6 rfl rfl)
theorem dX12_lawfulIn_7 : decode cX12_lawfulIn 7 = .ok (.aload_n 0, 1) := dk_42 (dk_at dksX12_lawfulIn_0 7 rfl rfl)
theorem dX12_lawfulIn_8 : decode cX12_lawfulIn 8 = .ok (.getfield 56, 3) := dk_180 0 56 (dk_at dksX12_lawfulIn_0 8 rfl rfl)
theorem dX12_lawfulIn_11 : decode cX12_lawfulIn 11 = .ok (.iconst 1, 1) := dk_4 (dk_at dksX12_lawfulIn_0 11 rfl rfl)
theorem dX12_lawfulIn_12 : decode cX12_lawfulIn 12 = .ok (.aload_n 0, 1) := dk_42 (dk_at dksX12_lawfulIn_0 12 rfl rfl)
theorem dX12_lawfulIn_13 : decode cX12_lawfulIn 13 = .ok (.getfield 23, 3) := dk_180 0 23 (dk_at dksX12_lawfulIn_0 13 rfl rfl)
theorem dX12_lawfulIn_16 : decode cX12_lawfulIn 16 = .ok (.iconst 3, 1) := dk_6 (dk_at dksX12_lawfulIn_0 16 rfl rfl)
theorem dX12_lawfulIn_17 : decode cX12_lawfulIn 17 = .ok (.iaload, 1) := dk_46 (dk_at dksX12_lawfulIn_0 17 rfl rfl)
theorem dX12_lawfulIn_18 : decode cX12_lawfulIn 18 = .ok (.iload_n 2, 1) := dk_28 (dk_at dksX12_lawfulIn_0 18 rfl rfl)
theorem dX12_lawfulIn_19 : decode cX12_lawfulIn 19 = .ok (.isub, 1) := dk_100 (dk_at dksX12_lawfulIn_0 19 rfl rfl)
theorem dX12_lawfulIn_20 : decode cX12_lawfulIn 20 = .ok (.iastore, 1) := dk_79 (dk_at dksX12_lawfulIn_0 20 rfl rfl)
theorem dX12_lawfulIn_21 : decode cX12_lawfulIn 21 = .ok (.aload_n 0, 1) := dk_42 (dk_at dksX12_lawfulIn_0 21 rfl rfl)
theorem dX12_lawfulIn_22 : decode cX12_lawfulIn 22 = .ok (.getfield 56, 3) := dk_180 0 56 (dk_at dksX12_lawfulIn_1 0 rfl rfl)
theorem dX12_lawfulIn_25 : decode cX12_lawfulIn 25 = .ok (.iconst 2, 1) := dk_5 (dk_at dksX12_lawfulIn_1 3 rfl rfl)
theorem dX12_lawfulIn_26 : decode cX12_lawfulIn 26 = .ok (.iload 4, 2) := dk_21 4 (dk_at dksX12_lawfulIn_1 4 rfl rfl)
theorem dX12_lawfulIn_28 : decode cX12_lawfulIn 28 = .ok (.iastore, 1) := dk_79 (dk_at dksX12_lawfulIn_1 6 rfl rfl)
theorem dX12_lawfulIn_29 : decode cX12_lawfulIn 29 = .ok (.aload_n 0, 1) := dk_42 (dk_at dksX12_lawfulIn_1 7 rfl rfl)
theorem dX12_lawfulIn_30 : decode cX12_lawfulIn 30 = .ok (.getfield 56, 3) := dk_180 0 56 (dk_at dksX12_lawfulIn_1 8 rfl rfl)
theorem dX12_lawfulIn_33 : decode cX12_lawfulIn 33 = .ok (.iconst 3, 1) := dk_6 (dk_at dksX12_lawfulIn_1 11 rfl rfl)
theorem dX12_lawfulIn_34 : decode cX12_lawfulIn 34 = .ok (.aload_n 0, 1) := dk_42 (dk_at dksX12_lawfulIn_1 12 rfl rfl)
theorem dX12_lawfulIn_35 : decode cX12_lawfulIn 35 = .ok (.getfield 23, 3) := dk_180 0 23 (dk_at dksX12_lawfulIn_1 13 rfl rfl)
theorem dX12_lawfulIn_38 : decode cX12_lawfulIn 38 = .ok (.bipush 7, 2) := dk_16 7 (dk_at dksX12_lawfulIn_1 16 rfl rfl)
theorem dX12_lawfulIn_40 : decode cX12_lawfulIn 40 = .ok (.iload_n 3, 1) := dk_29 (dk_at dksX12_lawfulIn_1 18 rfl rfl)
theorem dX12_lawfulIn_41 : decode cX12_lawfulIn 41 = .ok (.iadd, 1) := dk_96 (dk_at dksX12_lawfulIn_1 19 rfl rfl)
theorem dX12_lawfulIn_42 : decode cX12_lawfulIn 42 = .ok (.iaload, 1) := dk_46 (dk_at dksX12_lawfulIn_1 20 rfl rfl)
theorem dX12_lawfulIn_43 : decode cX12_lawfulIn 43 = .ok (.iconst 1, 1) := dk_4 (dk_at dksX12_lawfulIn_1 21 rfl rfl)
theorem dX12_lawfulIn_44 : decode cX12_lawfulIn 44 = .ok (.if_icmp .ne 7, 3) := dk_160 0 7 (dk_at dksX12_lawfulIn_2 0 rfl rfl)
theorem dX12_lawfulIn_47 : decode cX12_lawfulIn 47 = .ok (.iconst 1, 1) := dk_4 (dk_at dksX12_lawfulIn_2 3 rfl rfl)
theorem dX12_lawfulIn_48 : decode cX12_lawfulIn 48 = .ok (.goto 4, 3) := dk_167 0 4 (dk_at dksX12_lawfulIn_2 4 rfl rfl)
theorem dX12_lawfulIn_51 : decode cX12_lawfulIn 51 = .ok (.iconst 0, 1) := dk_3 (dk_at dksX12_lawfulIn_2 7 rfl rfl)
theorem dX12_lawfulIn_52 : decode cX12_lawfulIn 52 = .ok (.iastore, 1) := dk_79 (dk_at dksX12_lawfulIn_2 8 rfl rfl)
theorem dX12_lawfulIn_53 : decode cX12_lawfulIn 53 = .ok (.aload_n 0, 1) := dk_42 (dk_at dksX12_lawfulIn_2 9 rfl rfl)
theorem dX12_lawfulIn_54 : decode cX12_lawfulIn 54 = .ok (.getfield 56, 3) := dk_180 0 56 (dk_at dksX12_lawfulIn_2 10 rfl rfl)
theorem dX12_lawfulIn_57 : decode cX12_lawfulIn 57 = .ok (.iconst 4, 1) := dk_7 (dk_at dksX12_lawfulIn_2 13 rfl rfl)
theorem dX12_lawfulIn_58 : decode cX12_lawfulIn 58 = .ok (.iload_n 1, 1) := dk_27 (dk_at dksX12_lawfulIn_2 14 rfl rfl)
theorem dX12_lawfulIn_59 : decode cX12_lawfulIn 59 = .ok (.iastore, 1) := dk_79 (dk_at dksX12_lawfulIn_2 15 rfl rfl)
theorem dX12_lawfulIn_60 : decode cX12_lawfulIn 60 = .ok (.aload_n 0, 1) := dk_42 (dk_at dksX12_lawfulIn_2 16 rfl rfl)
theorem dX12_lawfulIn_61 : decode cX12_lawfulIn 61 = .ok (.getfield 56, 3) := dk_180 0 56 (dk_at dksX12_lawfulIn_2 17 rfl rfl)
theorem dX12_lawfulIn_64 : decode cX12_lawfulIn 64 = .ok (.iconst 5, 1) := dk_8 (dk_at dksX12_lawfulIn_2 20 rfl rfl)
theorem dX12_lawfulIn_65 : decode cX12_lawfulIn 65 = .ok (.iload_n 3, 1) := dk_29 (dk_at dksX12_lawfulIn_2 21 rfl rfl)
theorem dX12_lawfulIn_66 : decode cX12_lawfulIn 66 = .ok (.iastore, 1) := dk_79 (dk_at dksX12_lawfulIn_2 22 rfl rfl)
theorem dX12_lawfulIn_67 : decode cX12_lawfulIn 67 = .ok (.aload_n 0, 1) := dk_42 (dk_at dksX12_lawfulIn_2 23 rfl rfl)
theorem dX12_lawfulIn_68 : decode cX12_lawfulIn 68 = .ok (.getfield 56, 3) := dk_180 0 56 (dk_at dksX12_lawfulIn_3 0 rfl rfl)
theorem dX12_lawfulIn_71 : decode cX12_lawfulIn 71 = .ok (.bipush 6, 2) := dk_16 6 (dk_at dksX12_lawfulIn_3 3 rfl rfl)
theorem dX12_lawfulIn_73 : decode cX12_lawfulIn 73 = .ok (.iload_n 3, 1) := dk_29 (dk_at dksX12_lawfulIn_3 5 rfl rfl)
theorem dX12_lawfulIn_74 : decode cX12_lawfulIn 74 = .ok (.iastore, 1) := dk_79 (dk_at dksX12_lawfulIn_3 6 rfl rfl)
theorem dX12_lawfulIn_75 : decode cX12_lawfulIn 75 = .ok (.aload_n 0, 1) := dk_42 (dk_at dksX12_lawfulIn_3 7 rfl rfl)
theorem dX12_lawfulIn_76 : decode cX12_lawfulIn 76 = .ok (.getfield 56, 3) := dk_180 0 56 (dk_at dksX12_lawfulIn_3 8 rfl rfl)
theorem dX12_lawfulIn_79 : decode cX12_lawfulIn 79 = .ok (.bipush 7, 2) := dk_16 7 (dk_at dksX12_lawfulIn_3 11 rfl rfl)
theorem dX12_lawfulIn_81 : decode cX12_lawfulIn 81 = .ok (.iconst 0, 1) := dk_3 (dk_at dksX12_lawfulIn_3 13 rfl rfl)
theorem dX12_lawfulIn_82 : decode cX12_lawfulIn 82 = .ok (.iastore, 1) := dk_79 (dk_at dksX12_lawfulIn_3 14 rfl rfl)
theorem dX12_lawfulIn_83 : decode cX12_lawfulIn 83 = .ok (.aload_n 0, 1) := dk_42 (dk_at dksX12_lawfulIn_3 15 rfl rfl)
theorem dX12_lawfulIn_84 : decode cX12_lawfulIn 84 = .ok (.iconst 0, 1) := dk_3 (dk_at dksX12_lawfulIn_3 16 rfl rfl)
theorem dX12_lawfulIn_85 : decode cX12_lawfulIn 85 = .ok (.invokevirtual 339, 3) := dk_182 1 83 (dk_at dksX12_lawfulIn_3 17 rfl rfl)
theorem dX12_lawfulIn_88 : decode cX12_lawfulIn 88 = .ok (.ifCond .eq 7, 3) := dk_153 0 7 (dk_at dksX12_lawfulIn_3 20 rfl rfl)
theorem dX12_lawfulIn_91 : decode cX12_lawfulIn 91 = .ok (.iconst 1, 1) := dk_4 (dk_at dksX12_lawfulIn_3 23 rfl rfl)
theorem dX12_lawfulIn_92 : decode cX12_lawfulIn 92 = .ok (.goto 4, 3) := dk_167 0 4 (dk_at dksX12_lawfulIn_4 0 rfl rfl)
theorem dX12_lawfulIn_95 : decode cX12_lawfulIn 95 = .ok (.iconst 0, 1) := dk_3 (dk_at dksX12_lawfulIn_4 3 rfl rfl)
theorem dX12_lawfulIn_96 : decode cX12_lawfulIn 96 = .ok (.istore 5, 2) := dk_54 5 (dk_at dksX12_lawfulIn_4 4 rfl rfl)
theorem dX12_lawfulIn_98 : decode cX12_lawfulIn 98 = .ok (.iconst 0, 1) := dk_3 (dk_at dksX12_lawfulIn_4 6 rfl rfl)
theorem dX12_lawfulIn_99 : decode cX12_lawfulIn 99 = .ok (.istore 6, 2) := dk_54 6 (dk_at dksX12_lawfulIn_4 7 rfl rfl)
theorem dX12_lawfulIn_101 : decode cX12_lawfulIn 101 = .ok (.iload 6, 2) := dk_21 6 (dk_at dksX12_lawfulIn_4 9 rfl rfl)
theorem dX12_lawfulIn_103 : decode cX12_lawfulIn 103 = .ok (.aload_n 0, 1) := dk_42 (dk_at dksX12_lawfulIn_4 11 rfl rfl)
theorem dX12_lawfulIn_104 : decode cX12_lawfulIn 104 = .ok (.getfield 23, 3) := dk_180 0 23 (dk_at dksX12_lawfulIn_4 12 rfl rfl)
theorem dX12_lawfulIn_107 : decode cX12_lawfulIn 107 = .ok (.iconst 1, 1) := dk_4 (dk_at dksX12_lawfulIn_4 15 rfl rfl)
theorem dX12_lawfulIn_108 : decode cX12_lawfulIn 108 = .ok (.iaload, 1) := dk_46 (dk_at dksX12_lawfulIn_4 16 rfl rfl)
theorem dX12_lawfulIn_109 : decode cX12_lawfulIn 109 = .ok (.if_icmp .ge 76, 3) := dk_162 0 76 (dk_at dksX12_lawfulIn_4 17 rfl rfl)
theorem dX12_lawfulIn_112 : decode cX12_lawfulIn 112 = .ok (.aload_n 0, 1) := dk_42 (dk_at dksX12_lawfulIn_4 20 rfl rfl)
theorem dX12_lawfulIn_113 : decode cX12_lawfulIn 113 = .ok (.iload 6, 2) := dk_21 6 (dk_at dksX12_lawfulIn_4 21 rfl rfl)
theorem dX12_lawfulIn_115 : decode cX12_lawfulIn 115 = .ok (.iload_n 3, 1) := dk_29 (dk_at dksX12_lawfulIn_4 23 rfl rfl)
theorem dX12_lawfulIn_116 : decode cX12_lawfulIn 116 = .ok (.invokevirtual 342, 3) := dk_182 1 86 (dk_at dksX12_lawfulIn_5 0 rfl rfl)
theorem dX12_lawfulIn_119 : decode cX12_lawfulIn 119 = .ok (.ifCond .ne 6, 3) := dk_154 0 6 (dk_at dksX12_lawfulIn_5 3 rfl rfl)
theorem dX12_lawfulIn_122 : decode cX12_lawfulIn 122 = .ok (.goto 57, 3) := dk_167 0 57 (dk_at dksX12_lawfulIn_5 6 rfl rfl)
theorem dX12_lawfulIn_125 : decode cX12_lawfulIn 125 = .ok (.aload_n 0, 1) := dk_42 (dk_at dksX12_lawfulIn_5 9 rfl rfl)
theorem dX12_lawfulIn_126 : decode cX12_lawfulIn 126 = .ok (.getfield 56, 3) := dk_180 0 56 (dk_at dksX12_lawfulIn_5 10 rfl rfl)
theorem dX12_lawfulIn_129 : decode cX12_lawfulIn 129 = .ok (.bipush 6, 2) := dk_16 6 (dk_at dksX12_lawfulIn_5 13 rfl rfl)
theorem dX12_lawfulIn_131 : decode cX12_lawfulIn 131 = .ok (.aload_n 0, 1) := dk_42 (dk_at dksX12_lawfulIn_5 15 rfl rfl)
theorem dX12_lawfulIn_132 : decode cX12_lawfulIn 132 = .ok (.iload 6, 2) := dk_21 6 (dk_at dksX12_lawfulIn_5 16 rfl rfl)
theorem dX12_lawfulIn_134 : decode cX12_lawfulIn 134 = .ok (.iload_n 3, 1) := dk_29 (dk_at dksX12_lawfulIn_5 18 rfl rfl)
theorem dX12_lawfulIn_135 : decode cX12_lawfulIn 135 = .ok (.invokevirtual 345, 3) := dk_182 1 89 (dk_at dksX12_lawfulIn_5 19 rfl rfl)
theorem dX12_lawfulIn_138 : decode cX12_lawfulIn 138 = .ok (.iastore, 1) := dk_79 (dk_at dksX12_lawfulIn_5 22 rfl rfl)
theorem dX12_lawfulIn_139 : decode cX12_lawfulIn 139 = .ok (.aload_n 0, 1) := dk_42 (dk_at dksX12_lawfulIn_5 23 rfl rfl)
theorem dX12_lawfulIn_140 : decode cX12_lawfulIn 140 = .ok (.getfield 56, 3) := dk_180 0 56 (dk_at dksX12_lawfulIn_6 0 rfl rfl)
theorem dX12_lawfulIn_143 : decode cX12_lawfulIn 143 = .ok (.bipush 7, 2) := dk_16 7 (dk_at dksX12_lawfulIn_6 3 rfl rfl)
theorem dX12_lawfulIn_145 : decode cX12_lawfulIn 145 = .ok (.aload_n 0, 1) := dk_42 (dk_at dksX12_lawfulIn_6 5 rfl rfl)
theorem dX12_lawfulIn_146 : decode cX12_lawfulIn 146 = .ok (.getfield 23, 3) := dk_180 0 23 (dk_at dksX12_lawfulIn_6 6 rfl rfl)
theorem dX12_lawfulIn_149 : decode cX12_lawfulIn 149 = .ok (.sipush 132, 3) := dk_17 0 132 (dk_at dksX12_lawfulIn_6 9 rfl rfl)
theorem dX12_lawfulIn_152 : decode cX12_lawfulIn 152 = .ok (.bipush 24, 2) := dk_16 24 (dk_at dksX12_lawfulIn_6 12 rfl rfl)
theorem dX12_lawfulIn_154 : decode cX12_lawfulIn 154 = .ok (.iload 6, 2) := dk_21 6 (dk_at dksX12_lawfulIn_6 14 rfl rfl)
theorem dX12_lawfulIn_156 : decode cX12_lawfulIn 156 = .ok (.imul, 1) := dk_104 (dk_at dksX12_lawfulIn_6 16 rfl rfl)
theorem dX12_lawfulIn_157 : decode cX12_lawfulIn 157 = .ok (.iadd, 1) := dk_96 (dk_at dksX12_lawfulIn_6 17 rfl rfl)
theorem dX12_lawfulIn_158 : decode cX12_lawfulIn 158 = .ok (.iload_n 2, 1) := dk_28 (dk_at dksX12_lawfulIn_6 18 rfl rfl)
theorem dX12_lawfulIn_159 : decode cX12_lawfulIn 159 = .ok (.iadd, 1) := dk_96 (dk_at dksX12_lawfulIn_6 19 rfl rfl)
theorem dX12_lawfulIn_160 : decode cX12_lawfulIn 160 = .ok (.iaload, 1) := dk_46 (dk_at dksX12_lawfulIn_6 20 rfl rfl)
theorem dX12_lawfulIn_161 : decode cX12_lawfulIn 161 = .ok (.iastore, 1) := dk_79 (dk_at dksX12_lawfulIn_6 21 rfl rfl)
theorem dX12_lawfulIn_162 : decode cX12_lawfulIn 162 = .ok (.aload_n 0, 1) := dk_42 (dk_at dksX12_lawfulIn_6 22 rfl rfl)
theorem dX12_lawfulIn_163 : decode cX12_lawfulIn 163 = .ok (.iconst 1, 1) := dk_4 (dk_at dksX12_lawfulIn_6 23 rfl rfl)
theorem dX12_lawfulIn_164 : decode cX12_lawfulIn 164 = .ok (.invokevirtual 339, 3) := dk_182 1 83 (dk_at dksX12_lawfulIn_7 0 rfl rfl)
theorem dX12_lawfulIn_167 : decode cX12_lawfulIn 167 = .ok (.ifCond .eq 12, 3) := dk_153 0 12 (dk_at dksX12_lawfulIn_7 3 rfl rfl)
theorem dX12_lawfulIn_170 : decode cX12_lawfulIn 170 = .ok (.iload 5, 2) := dk_21 5 (dk_at dksX12_lawfulIn_7 6 rfl rfl)
theorem dX12_lawfulIn_172 : decode cX12_lawfulIn 172 = .ok (.iconst 2, 1) := dk_5 (dk_at dksX12_lawfulIn_7 8 rfl rfl)
theorem dX12_lawfulIn_173 : decode cX12_lawfulIn 173 = .ok (.iload 6, 2) := dk_21 6 (dk_at dksX12_lawfulIn_7 9 rfl rfl)
theorem dX12_lawfulIn_175 : decode cX12_lawfulIn 175 = .ok (.ishl, 1) := dk_120 (dk_at dksX12_lawfulIn_7 11 rfl rfl)
theorem dX12_lawfulIn_176 : decode cX12_lawfulIn 176 = .ok (.ior, 1) := dk_128 (dk_at dksX12_lawfulIn_7 12 rfl rfl)
theorem dX12_lawfulIn_177 : decode cX12_lawfulIn 177 = .ok (.istore 5, 2) := dk_54 5 (dk_at dksX12_lawfulIn_7 13 rfl rfl)
theorem dX12_lawfulIn_179 : decode cX12_lawfulIn 179 = .ok (.iinc 6 1, 3) := dk_132 6 1 (dk_at dksX12_lawfulIn_7 15 rfl rfl)
theorem dX12_lawfulIn_182 : decode cX12_lawfulIn 182 = .ok (.goto (-81), 3) := dk_167 255 175 (dk_at dksX12_lawfulIn_7 18 rfl rfl)
theorem dX12_lawfulIn_185 : decode cX12_lawfulIn 185 = .ok (.iload 5, 2) := dk_21 5 (dk_at dksX12_lawfulIn_7 21 rfl rfl)
theorem dX12_lawfulIn_187 : decode cX12_lawfulIn 187 = .ok (.ireturn, 1) := dk_172 (dk_at dksX12_lawfulIn_7 23 rfl rfl)
abbrev cX12_holds : ByteArray := prog_27_method_60_code
def yX12_holds : MethodName := ⟨RX12, "holds", "(I)Z"⟩
def dkwX12_holds_2 : List UInt8 := [4, 96, 46, 182, 1, 80, 154, 0, 5, 3, 172, 132, 2, 1, 167, 255, 196, 4, 172]
abbrev dktX12_holds_2 : List UInt8 := dkwX12_holds_2 ++ []
def dkwX12_holds_1 : List UInt8 := [27, 160, 0, 34, 42, 28, 154, 0, 7, 3, 167, 0, 9, 42, 180, 0, 44, 28, 46, 42, 180, 0, 44, 28]
abbrev dktX12_holds_1 : List UInt8 := dkwX12_holds_1 ++ dktX12_holds_2
def dkwX12_holds_0 : List UInt8 := [3, 61, 28, 42, 180, 1, 0, 162, 0, 58, 28, 42, 180, 0, 71, 159, 0, 44, 42, 180, 0, 41, 28, 46]
abbrev dktX12_holds_0 : List UInt8 := dkwX12_holds_0 ++ dktX12_holds_1
theorem dksX12_holds_0 : cX12_holds.data.toList.drop 0 = dktX12_holds_0 := by decide +kernel
theorem dksX12_holds_1 : cX12_holds.data.toList.drop 24 = dktX12_holds_1 := dk_seg dksX12_holds_0 24 rfl rfl
theorem dksX12_holds_2 : cX12_holds.data.toList.drop 48 = dktX12_holds_2 := dk_seg dksX12_holds_1 24 rfl rfl
theorem dX12_holds_0 : decode cX12_holds 0 = .ok (.iconst 0, 1) := dk_3 (dk_at dksX12_holds_0 0 rfl rfl)
theorem dX12_holds_1 : decode cX12_holds 1 = .ok (.istore_n 2, 1) := dk_61 (dk_at dksX12_holds_0 1 rfl rfl)
theorem dX12_holds_2 : decode cX12_holds 2 = .ok (.iload_n 2, 1) := dk_28 (dk_at dksX12_holds_0 2 rfl rfl)
theorem dX12_holds_3 : decode cX12_holds 3 = .ok (.aload_n 0, 1) := dk_42 (dk_at dksX12_holds_0 3 rfl rfl)
theorem dX12_holds_4 : decode cX12_holds 4 = .ok (.getfield 256, 3) := dk_180 1 0 (dk_at dksX12_holds_0 4 rfl rfl)
theorem dX12_holds_7 : decode cX12_holds 7 = .ok (.if_icmp .ge 58, 3) := dk_162 0 58 (dk_at dksX12_holds_0 7 rfl rfl)
theorem dX12_holds_10 : decode cX12_holds 10 = .ok (.iload_n 2, 1) := dk_28 (dk_at dksX12_holds_0 10 rfl rfl)
theorem dX12_holds_11 : decode cX12_holds 11 = .ok (.aload_n 0, 1) := dk_42 (dk_at dksX12_holds_0 11 rfl rfl)
theorem dX12_holds_12 : decode cX12_holds 12 = .ok (.getfield 71, 3) := dk_180 0 71 (dk_at dksX12_holds_0 12 rfl rfl)
theorem dX12_holds_15 : decode cX12_holds 15 = .ok (.if_icmp .eq 44, 3) := dk_159 0 44 (dk_at dksX12_holds_0 15 rfl rfl)
theorem dX12_holds_18 : decode cX12_holds 18 = .ok (.aload_n 0, 1) := dk_42 (dk_at dksX12_holds_0 18 rfl rfl)
theorem dX12_holds_19 : decode cX12_holds 19 = .ok (.getfield 41, 3) := dk_180 0 41 (dk_at dksX12_holds_0 19 rfl rfl)
theorem dX12_holds_22 : decode cX12_holds 22 = .ok (.iload_n 2, 1) := dk_28 (dk_at dksX12_holds_0 22 rfl rfl)
theorem dX12_holds_23 : decode cX12_holds 23 = .ok (.iaload, 1) := dk_46 (dk_at dksX12_holds_0 23 rfl rfl)
theorem dX12_holds_24 : decode cX12_holds 24 = .ok (.iload_n 1, 1) := dk_27 (dk_at dksX12_holds_1 0 rfl rfl)
theorem dX12_holds_25 : decode cX12_holds 25 = .ok (.if_icmp .ne 34, 3) := dk_160 0 34 (dk_at dksX12_holds_1 1 rfl rfl)
theorem dX12_holds_28 : decode cX12_holds 28 = .ok (.aload_n 0, 1) := dk_42 (dk_at dksX12_holds_1 4 rfl rfl)
theorem dX12_holds_29 : decode cX12_holds 29 = .ok (.iload_n 2, 1) := dk_28 (dk_at dksX12_holds_1 5 rfl rfl)
theorem dX12_holds_30 : decode cX12_holds 30 = .ok (.ifCond .ne 7, 3) := dk_154 0 7 (dk_at dksX12_holds_1 6 rfl rfl)
theorem dX12_holds_33 : decode cX12_holds 33 = .ok (.iconst 0, 1) := dk_3 (dk_at dksX12_holds_1 9 rfl rfl)
theorem dX12_holds_34 : decode cX12_holds 34 = .ok (.goto 9, 3) := dk_167 0 9 (dk_at dksX12_holds_1 10 rfl rfl)
theorem dX12_holds_37 : decode cX12_holds 37 = .ok (.aload_n 0, 1) := dk_42 (dk_at dksX12_holds_1 13 rfl rfl)
theorem dX12_holds_38 : decode cX12_holds 38 = .ok (.getfield 44, 3) := dk_180 0 44 (dk_at dksX12_holds_1 14 rfl rfl)
theorem dX12_holds_41 : decode cX12_holds 41 = .ok (.iload_n 2, 1) := dk_28 (dk_at dksX12_holds_1 17 rfl rfl)
theorem dX12_holds_42 : decode cX12_holds 42 = .ok (.iaload, 1) := dk_46 (dk_at dksX12_holds_1 18 rfl rfl)
theorem dX12_holds_43 : decode cX12_holds 43 = .ok (.aload_n 0, 1) := dk_42 (dk_at dksX12_holds_1 19 rfl rfl)
theorem dX12_holds_44 : decode cX12_holds 44 = .ok (.getfield 44, 3) := dk_180 0 44 (dk_at dksX12_holds_1 20 rfl rfl)
theorem dX12_holds_47 : decode cX12_holds 47 = .ok (.iload_n 2, 1) := dk_28 (dk_at dksX12_holds_1 23 rfl rfl)
theorem dX12_holds_48 : decode cX12_holds 48 = .ok (.iconst 1, 1) := dk_4 (dk_at dksX12_holds_2 0 rfl rfl)
theorem dX12_holds_49 : decode cX12_holds 49 = .ok (.iadd, 1) := dk_96 (dk_at dksX12_holds_2 1 rfl rfl)
theorem dX12_holds_50 : decode cX12_holds 50 = .ok (.iaload, 1) := dk_46 (dk_at dksX12_holds_2 2 rfl rfl)
theorem dX12_holds_51 : decode cX12_holds 51 = .ok (.invokevirtual 336, 3) := dk_182 1 80 (dk_at dksX12_holds_2 3 rfl rfl)
theorem dX12_holds_54 : decode cX12_holds 54 = .ok (.ifCond .ne 5, 3) := dk_154 0 5 (dk_at dksX12_holds_2 6 rfl rfl)
theorem dX12_holds_57 : decode cX12_holds 57 = .ok (.iconst 0, 1) := dk_3 (dk_at dksX12_holds_2 9 rfl rfl)
theorem dX12_holds_58 : decode cX12_holds 58 = .ok (.ireturn, 1) := dk_172 (dk_at dksX12_holds_2 10 rfl rfl)
theorem dX12_holds_59 : decode cX12_holds 59 = .ok (.iinc 2 1, 3) := dk_132 2 1 (dk_at dksX12_holds_2 11 rfl rfl)
theorem dX12_holds_62 : decode cX12_holds 62 = .ok (.goto (-60), 3) := dk_167 255 196 (dk_at dksX12_holds_2 14 rfl rfl)
theorem dX12_holds_65 : decode cX12_holds 65 = .ok (.iconst 1, 1) := dk_4 (dk_at dksX12_holds_2 17 rfl rfl)
theorem dX12_holds_66 : decode cX12_holds 66 = .ok (.ireturn, 1) := dk_172 (dk_at dksX12_holds_2 18 rfl rfl)
abbrev cX12_worked : ByteArray := prog_27_method_40_code
def yX12_worked : MethodName := ⟨RX12, "worked", "(II)I"⟩
def dkwX12_worked_13 : List UInt8 := [167, 254, 207, 42, 180, 0, 53, 3, 46, 172]
abbrev dktX12_worked_13 : List UInt8 := dkwX12_worked_13 ++ []
def dkwX12_worked_12 : List UInt8 := [167, 0, 10, 21, 6, 21, 7, 128, 54, 8, 42, 180, 0, 53, 29, 4, 100, 21, 8, 79, 132, 4, 1]
abbrev dktX12_worked_12 : List UInt8 := dkwX12_worked_12 ++ dktX12_worked_13
def dkwX12_worked_11 : List UInt8 := [21, 6, 21, 7, 160, 0, 7, 4, 167, 0, 4, 3, 54, 8, 167, 0, 20, 21, 6, 21, 7, 126, 54, 8]
abbrev dktX12_worked_11 : List UInt8 := dkwX12_worked_11 ++ dktX12_worked_12
def dkwX12_worked_10 : List UInt8 := [3, 54, 8, 167, 0, 54, 21, 6, 21, 7, 164, 0, 7, 4, 167, 0, 4, 3, 54, 8, 167, 0, 37]
abbrev dktX12_worked_10 : List UInt8 := dkwX12_worked_10 ++ dktX12_worked_11
def dkwX12_worked_9 : List UInt8 := [167, 0, 8, 21, 6, 21, 7, 108, 54, 8, 167, 0, 71, 21, 6, 21, 7, 162, 0, 7, 4, 167, 0, 4]
abbrev dktX12_worked_9 : List UInt8 := dkwX12_worked_9 ++ dktX12_worked_10
def dkwX12_worked_8 : List UInt8 := [104, 54, 8, 167, 0, 102, 21, 7, 154, 0, 7, 3, 167, 0, 20, 21, 7, 2, 160, 0, 9, 21, 6, 116]
abbrev dktX12_worked_8 : List UInt8 := dkwX12_worked_8 ++ dktX12_worked_9
def dkwX12_worked_7 : List UInt8 := [21, 6, 21, 7, 96, 54, 8, 167, 0, 122, 21, 6, 21, 7, 100, 54, 8, 167, 0, 112, 21, 6, 21, 7]
abbrev dktX12_worked_7 : List UInt8 := dkwX12_worked_7 ++ dktX12_worked_8
def dkwX12_worked_6 : List UInt8 := [170, 0, 0, 0, 171, 0, 0, 0, 2, 0, 0, 0, 10, 0, 0, 0, 49, 0, 0, 0, 59, 0, 0, 0, 69, 0, 0, 0, 79, 0, 0, 0, 110, 0, 0, 0, 127, 0, 0, 0, 144, 0, 0, 0, 171, 0, 0, 0, 161]
abbrev dktX12_worked_6 : List UInt8 := dkwX12_worked_6 ++ dktX12_worked_7
def dkwX12_worked_5 : List UInt8 := [21, 5]
abbrev dktX12_worked_5 : List UInt8 := dkwX12_worked_5 ++ dktX12_worked_6
def dkwX12_worked_4 : List UInt8 := [132, 3, 255, 42, 180, 0, 53, 29, 4, 100, 46, 54, 6, 42, 180, 0, 53, 29, 46, 54, 7, 3, 54, 8]
abbrev dktX12_worked_4 : List UInt8 := dkwX12_worked_4 ++ dktX12_worked_5
def dkwX12_worked_3 : List UInt8 := [160, 0, 24, 42, 180, 0, 53, 29, 4, 100, 4, 42, 180, 0, 53, 29, 4, 100, 46, 100, 79, 167, 0, 217]
abbrev dktX12_worked_3 : List UInt8 := dkwX12_worked_3 ++ dktX12_worked_4
def dkwX12_worked_2 : List UInt8 := [180, 0, 56, 42, 180, 0, 32, 21, 4, 46, 46, 79, 132, 3, 1, 167, 0, 245, 21, 5, 16, 9]
abbrev dktX12_worked_2 : List UInt8 := dkwX12_worked_2 ++ dktX12_worked_3
def dkwX12_worked_1 : List UInt8 := [163, 0, 42, 42, 180, 0, 53, 29, 21, 5, 154, 0, 13, 42, 180, 0, 32, 21, 4, 46, 167, 0, 15, 42]
abbrev dktX12_worked_1 : List UInt8 := dkwX12_worked_1 ++ dktX12_worked_2
def dkwX12_worked_0 : List UInt8 := [3, 62, 27, 54, 4, 21, 4, 28, 162, 1, 49, 42, 180, 0, 29, 21, 4, 46, 54, 5, 21, 5, 4]
abbrev dktX12_worked_0 : List UInt8 := dkwX12_worked_0 ++ dktX12_worked_1
theorem dksX12_worked_0 : cX12_worked.data.toList.drop 0 = dktX12_worked_0 := by decide +kernel
theorem dksX12_worked_1 : cX12_worked.data.toList.drop 23 = dktX12_worked_1 := dk_seg dksX12_worked_0 23 rfl rfl
theorem dksX12_worked_2 : cX12_worked.data.toList.drop 47 = dktX12_worked_2 := dk_seg dksX12_worked_1 24 rfl rfl
theorem dksX12_worked_3 : cX12_worked.data.toList.drop 69 = dktX12_worked_3 := dk_seg dksX12_worked_2 22 rfl rfl
theorem dksX12_worked_4 : cX12_worked.data.toList.drop 93 = dktX12_worked_4 := dk_seg dksX12_worked_3 24 rfl rfl
theorem dksX12_worked_5 : cX12_worked.data.toList.drop 117 = dktX12_worked_5 := dk_seg dksX12_worked_4 24 rfl rfl
theorem dksX12_worked_6 : cX12_worked.data.toList.drop 119 = dktX12_worked_6 := dk_seg dksX12_worked_5 2 rfl rfl
theorem dksX12_worked_7 : cX12_worked.data.toList.drop 168 = dktX12_worked_7 := dk_seg dksX12_worked_6 49 rfl rfl
theorem dksX12_worked_8 : cX12_worked.data.toList.drop 192 = dktX12_worked_8 := dk_seg dksX12_worked_7 24 rfl rfl
theorem dksX12_worked_9 : cX12_worked.data.toList.drop 216 = dktX12_worked_9 := dk_seg dksX12_worked_8 24 rfl rfl
theorem dksX12_worked_10 : cX12_worked.data.toList.drop 240 = dktX12_worked_10 := dk_seg dksX12_worked_9 24 rfl rfl
theorem dksX12_worked_11 : cX12_worked.data.toList.drop 263 = dktX12_worked_11 := dk_seg dksX12_worked_10 23 rfl rfl
theorem dksX12_worked_12 : cX12_worked.data.toList.drop 287 = dktX12_worked_12 := dk_seg dksX12_worked_11 24 rfl rfl
theorem dksX12_worked_13 : cX12_worked.data.toList.drop 310 = dktX12_worked_13 := dk_seg dksX12_worked_12 23 rfl rfl
theorem dX12_worked_0 : decode cX12_worked 0 = .ok (.iconst 0, 1) := dk_3 (dk_at dksX12_worked_0 0 rfl rfl)
theorem dX12_worked_1 : decode cX12_worked 1 = .ok (.istore_n 3, 1) := dk_62 (dk_at dksX12_worked_0 1 rfl rfl)
theorem dX12_worked_2 : decode cX12_worked 2 = .ok (.iload_n 1, 1) := dk_27 (dk_at dksX12_worked_0 2 rfl rfl)
theorem dX12_worked_3 : decode cX12_worked 3 = .ok (.istore 4, 2) := dk_54 4 (dk_at dksX12_worked_0 3 rfl rfl)
theorem dX12_worked_5 : decode cX12_worked 5 = .ok (.iload 4, 2) := dk_21 4 (dk_at dksX12_worked_0 5 rfl rfl)
theorem dX12_worked_7 : decode cX12_worked 7 = .ok (.iload_n 2, 1) := dk_28 (dk_at dksX12_worked_0 7 rfl rfl)
theorem dX12_worked_8 : decode cX12_worked 8 = .ok (.if_icmp .ge 305, 3) := dk_162 1 49 (dk_at dksX12_worked_0 8 rfl rfl)
theorem dX12_worked_11 : decode cX12_worked 11 = .ok (.aload_n 0, 1) := dk_42 (dk_at dksX12_worked_0 11 rfl rfl)
theorem dX12_worked_12 : decode cX12_worked 12 = .ok (.getfield 29, 3) := dk_180 0 29 (dk_at dksX12_worked_0 12 rfl rfl)
theorem dX12_worked_15 : decode cX12_worked 15 = .ok (.iload 4, 2) := dk_21 4 (dk_at dksX12_worked_0 15 rfl rfl)
theorem dX12_worked_17 : decode cX12_worked 17 = .ok (.iaload, 1) := dk_46 (dk_at dksX12_worked_0 17 rfl rfl)
theorem dX12_worked_18 : decode cX12_worked 18 = .ok (.istore 5, 2) := dk_54 5 (dk_at dksX12_worked_0 18 rfl rfl)
theorem dX12_worked_20 : decode cX12_worked 20 = .ok (.iload 5, 2) := dk_21 5 (dk_at dksX12_worked_0 20 rfl rfl)
theorem dX12_worked_22 : decode cX12_worked 22 = .ok (.iconst 1, 1) := dk_4 (dk_at dksX12_worked_0 22 rfl rfl)
theorem dX12_worked_23 : decode cX12_worked 23 = .ok (.if_icmp .gt 42, 3) := dk_163 0 42 (dk_at dksX12_worked_1 0 rfl rfl)
theorem dX12_worked_26 : decode cX12_worked 26 = .ok (.aload_n 0, 1) := dk_42 (dk_at dksX12_worked_1 3 rfl rfl)
theorem dX12_worked_27 : decode cX12_worked 27 = .ok (.getfield 53, 3) := dk_180 0 53 (dk_at dksX12_worked_1 4 rfl rfl)
theorem dX12_worked_30 : decode cX12_worked 30 = .ok (.iload_n 3, 1) := dk_29 (dk_at dksX12_worked_1 7 rfl rfl)
theorem dX12_worked_31 : decode cX12_worked 31 = .ok (.iload 5, 2) := dk_21 5 (dk_at dksX12_worked_1 8 rfl rfl)
theorem dX12_worked_33 : decode cX12_worked 33 = .ok (.ifCond .ne 13, 3) := dk_154 0 13 (dk_at dksX12_worked_1 10 rfl rfl)
theorem dX12_worked_36 : decode cX12_worked 36 = .ok (.aload_n 0, 1) := dk_42 (dk_at dksX12_worked_1 13 rfl rfl)
theorem dX12_worked_37 : decode cX12_worked 37 = .ok (.getfield 32, 3) := dk_180 0 32 (dk_at dksX12_worked_1 14 rfl rfl)
theorem dX12_worked_40 : decode cX12_worked 40 = .ok (.iload 4, 2) := dk_21 4 (dk_at dksX12_worked_1 17 rfl rfl)
theorem dX12_worked_42 : decode cX12_worked 42 = .ok (.iaload, 1) := dk_46 (dk_at dksX12_worked_1 19 rfl rfl)
theorem dX12_worked_43 : decode cX12_worked 43 = .ok (.goto 15, 3) := dk_167 0 15 (dk_at dksX12_worked_1 20 rfl rfl)
theorem dX12_worked_46 : decode cX12_worked 46 = .ok (.aload_n 0, 1) := dk_42 (dk_at dksX12_worked_1 23 rfl rfl)
theorem dX12_worked_47 : decode cX12_worked 47 = .ok (.getfield 56, 3) := dk_180 0 56 (dk_at dksX12_worked_2 0 rfl rfl)
theorem dX12_worked_50 : decode cX12_worked 50 = .ok (.aload_n 0, 1) := dk_42 (dk_at dksX12_worked_2 3 rfl rfl)
theorem dX12_worked_51 : decode cX12_worked 51 = .ok (.getfield 32, 3) := dk_180 0 32 (dk_at dksX12_worked_2 4 rfl rfl)
theorem dX12_worked_54 : decode cX12_worked 54 = .ok (.iload 4, 2) := dk_21 4 (dk_at dksX12_worked_2 7 rfl rfl)
theorem dX12_worked_56 : decode cX12_worked 56 = .ok (.iaload, 1) := dk_46 (dk_at dksX12_worked_2 9 rfl rfl)
theorem dX12_worked_57 : decode cX12_worked 57 = .ok (.iaload, 1) := dk_46 (dk_at dksX12_worked_2 10 rfl rfl)
theorem dX12_worked_58 : decode cX12_worked 58 = .ok (.iastore, 1) := dk_79 (dk_at dksX12_worked_2 11 rfl rfl)
theorem dX12_worked_59 : decode cX12_worked 59 = .ok (.iinc 3 1, 3) := dk_132 3 1 (dk_at dksX12_worked_2 12 rfl rfl)
theorem dX12_worked_62 : decode cX12_worked 62 = .ok (.goto 245, 3) := dk_167 0 245 (dk_at dksX12_worked_2 15 rfl rfl)
theorem dX12_worked_65 : decode cX12_worked 65 = .ok (.iload 5, 2) := dk_21 5 (dk_at dksX12_worked_2 18 rfl rfl)
theorem dX12_worked_67 : decode cX12_worked 67 = .ok (.bipush 9, 2) := dk_16 9 (dk_at dksX12_worked_2 20 rfl rfl)
theorem dX12_worked_69 : decode cX12_worked 69 = .ok (.if_icmp .ne 24, 3) := dk_160 0 24 (dk_at dksX12_worked_3 0 rfl rfl)
theorem dX12_worked_72 : decode cX12_worked 72 = .ok (.aload_n 0, 1) := dk_42 (dk_at dksX12_worked_3 3 rfl rfl)
theorem dX12_worked_73 : decode cX12_worked 73 = .ok (.getfield 53, 3) := dk_180 0 53 (dk_at dksX12_worked_3 4 rfl rfl)
theorem dX12_worked_76 : decode cX12_worked 76 = .ok (.iload_n 3, 1) := dk_29 (dk_at dksX12_worked_3 7 rfl rfl)
theorem dX12_worked_77 : decode cX12_worked 77 = .ok (.iconst 1, 1) := dk_4 (dk_at dksX12_worked_3 8 rfl rfl)
theorem dX12_worked_78 : decode cX12_worked 78 = .ok (.isub, 1) := dk_100 (dk_at dksX12_worked_3 9 rfl rfl)
theorem dX12_worked_79 : decode cX12_worked 79 = .ok (.iconst 1, 1) := dk_4 (dk_at dksX12_worked_3 10 rfl rfl)
theorem dX12_worked_80 : decode cX12_worked 80 = .ok (.aload_n 0, 1) := dk_42 (dk_at dksX12_worked_3 11 rfl rfl)
theorem dX12_worked_81 : decode cX12_worked 81 = .ok (.getfield 53, 3) := dk_180 0 53 (dk_at dksX12_worked_3 12 rfl rfl)
theorem dX12_worked_84 : decode cX12_worked 84 = .ok (.iload_n 3, 1) := dk_29 (dk_at dksX12_worked_3 15 rfl rfl)
theorem dX12_worked_85 : decode cX12_worked 85 = .ok (.iconst 1, 1) := dk_4 (dk_at dksX12_worked_3 16 rfl rfl)
theorem dX12_worked_86 : decode cX12_worked 86 = .ok (.isub, 1) := dk_100 (dk_at dksX12_worked_3 17 rfl rfl)
theorem dX12_worked_87 : decode cX12_worked 87 = .ok (.iaload, 1) := dk_46 (dk_at dksX12_worked_3 18 rfl rfl)
theorem dX12_worked_88 : decode cX12_worked 88 = .ok (.isub, 1) := dk_100 (dk_at dksX12_worked_3 19 rfl rfl)
theorem dX12_worked_89 : decode cX12_worked 89 = .ok (.iastore, 1) := dk_79 (dk_at dksX12_worked_3 20 rfl rfl)
theorem dX12_worked_90 : decode cX12_worked 90 = .ok (.goto 217, 3) := dk_167 0 217 (dk_at dksX12_worked_3 21 rfl rfl)
theorem dX12_worked_93 : decode cX12_worked 93 = .ok (.iinc 3 (-1), 3) := dk_132 3 255 (dk_at dksX12_worked_4 0 rfl rfl)
theorem dX12_worked_96 : decode cX12_worked 96 = .ok (.aload_n 0, 1) := dk_42 (dk_at dksX12_worked_4 3 rfl rfl)
theorem dX12_worked_97 : decode cX12_worked 97 = .ok (.getfield 53, 3) := dk_180 0 53 (dk_at dksX12_worked_4 4 rfl rfl)
theorem dX12_worked_100 : decode cX12_worked 100 = .ok (.iload_n 3, 1) := dk_29 (dk_at dksX12_worked_4 7 rfl rfl)
theorem dX12_worked_101 : decode cX12_worked 101 = .ok (.iconst 1, 1) := dk_4 (dk_at dksX12_worked_4 8 rfl rfl)
theorem dX12_worked_102 : decode cX12_worked 102 = .ok (.isub, 1) := dk_100 (dk_at dksX12_worked_4 9 rfl rfl)
theorem dX12_worked_103 : decode cX12_worked 103 = .ok (.iaload, 1) := dk_46 (dk_at dksX12_worked_4 10 rfl rfl)
theorem dX12_worked_104 : decode cX12_worked 104 = .ok (.istore 6, 2) := dk_54 6 (dk_at dksX12_worked_4 11 rfl rfl)
theorem dX12_worked_106 : decode cX12_worked 106 = .ok (.aload_n 0, 1) := dk_42 (dk_at dksX12_worked_4 13 rfl rfl)
theorem dX12_worked_107 : decode cX12_worked 107 = .ok (.getfield 53, 3) := dk_180 0 53 (dk_at dksX12_worked_4 14 rfl rfl)
theorem dX12_worked_110 : decode cX12_worked 110 = .ok (.iload_n 3, 1) := dk_29 (dk_at dksX12_worked_4 17 rfl rfl)
theorem dX12_worked_111 : decode cX12_worked 111 = .ok (.iaload, 1) := dk_46 (dk_at dksX12_worked_4 18 rfl rfl)
theorem dX12_worked_112 : decode cX12_worked 112 = .ok (.istore 7, 2) := dk_54 7 (dk_at dksX12_worked_4 19 rfl rfl)
theorem dX12_worked_114 : decode cX12_worked 114 = .ok (.iconst 0, 1) := dk_3 (dk_at dksX12_worked_4 21 rfl rfl)
theorem dX12_worked_115 : decode cX12_worked 115 = .ok (.istore 8, 2) := dk_54 8 (dk_at dksX12_worked_4 22 rfl rfl)
theorem dX12_worked_117 : decode cX12_worked 117 = .ok (.iload 5, 2) := dk_21 5 (dk_at dksX12_worked_5 0 rfl rfl)
theorem dX12_worked_119 : decode cX12_worked 119 = .ok (.tableswitch 171 2 10 #[49, 59, 69, 79, 110, 127, 144, 171, 161], 49) := by decide +kernel
theorem dX12_worked_168 : decode cX12_worked 168 = .ok (.iload 6, 2) := dk_21 6 (dk_at dksX12_worked_7 0 rfl rfl)
theorem dX12_worked_170 : decode cX12_worked 170 = .ok (.iload 7, 2) := dk_21 7 (dk_at dksX12_worked_7 2 rfl rfl)
theorem dX12_worked_172 : decode cX12_worked 172 = .ok (.iadd, 1) := dk_96 (dk_at dksX12_worked_7 4 rfl rfl)
theorem dX12_worked_173 : decode cX12_worked 173 = .ok (.istore 8, 2) := dk_54 8 (dk_at dksX12_worked_7 5 rfl rfl)
theorem dX12_worked_175 : decode cX12_worked 175 = .ok (.goto 122, 3) := dk_167 0 122 (dk_at dksX12_worked_7 7 rfl rfl)
theorem dX12_worked_178 : decode cX12_worked 178 = .ok (.iload 6, 2) := dk_21 6 (dk_at dksX12_worked_7 10 rfl rfl)
theorem dX12_worked_180 : decode cX12_worked 180 = .ok (.iload 7, 2) := dk_21 7 (dk_at dksX12_worked_7 12 rfl rfl)
theorem dX12_worked_182 : decode cX12_worked 182 = .ok (.isub, 1) := dk_100 (dk_at dksX12_worked_7 14 rfl rfl)
theorem dX12_worked_183 : decode cX12_worked 183 = .ok (.istore 8, 2) := dk_54 8 (dk_at dksX12_worked_7 15 rfl rfl)
theorem dX12_worked_185 : decode cX12_worked 185 = .ok (.goto 112, 3) := dk_167 0 112 (dk_at dksX12_worked_7 17 rfl rfl)
theorem dX12_worked_188 : decode cX12_worked 188 = .ok (.iload 6, 2) := dk_21 6 (dk_at dksX12_worked_7 20 rfl rfl)
theorem dX12_worked_190 : decode cX12_worked 190 = .ok (.iload 7, 2) := dk_21 7 (dk_at dksX12_worked_7 22 rfl rfl)
theorem dX12_worked_192 : decode cX12_worked 192 = .ok (.imul, 1) := dk_104 (dk_at dksX12_worked_8 0 rfl rfl)
theorem dX12_worked_193 : decode cX12_worked 193 = .ok (.istore 8, 2) := dk_54 8 (dk_at dksX12_worked_8 1 rfl rfl)
theorem dX12_worked_195 : decode cX12_worked 195 = .ok (.goto 102, 3) := dk_167 0 102 (dk_at dksX12_worked_8 3 rfl rfl)
theorem dX12_worked_198 : decode cX12_worked 198 = .ok (.iload 7, 2) := dk_21 7 (dk_at dksX12_worked_8 6 rfl rfl)
theorem dX12_worked_200 : decode cX12_worked 200 = .ok (.ifCond .ne 7, 3) := dk_154 0 7 (dk_at dksX12_worked_8 8 rfl rfl)
theorem dX12_worked_203 : decode cX12_worked 203 = .ok (.iconst 0, 1) := dk_3 (dk_at dksX12_worked_8 11 rfl rfl)
theorem dX12_worked_204 : decode cX12_worked 204 = .ok (.goto 20, 3) := dk_167 0 20 (dk_at dksX12_worked_8 12 rfl rfl)
theorem dX12_worked_207 : decode cX12_worked 207 = .ok (.iload 7, 2) := dk_21 7 (dk_at dksX12_worked_8 15 rfl rfl)
theorem dX12_worked_209 : decode cX12_worked 209 = .ok (.iconst (-1), 1) := dk_2 (dk_at dksX12_worked_8 17 rfl rfl)
theorem dX12_worked_210 : decode cX12_worked 210 = .ok (.if_icmp .ne 9, 3) := dk_160 0 9 (dk_at dksX12_worked_8 18 rfl rfl)
theorem dX12_worked_213 : decode cX12_worked 213 = .ok (.iload 6, 2) := dk_21 6 (dk_at dksX12_worked_8 21 rfl rfl)
theorem dX12_worked_215 : decode cX12_worked 215 = .ok (.ineg, 1) := dk_116 (dk_at dksX12_worked_8 23 rfl rfl)
theorem dX12_worked_216 : decode cX12_worked 216 = .ok (.goto 8, 3) := dk_167 0 8 (dk_at dksX12_worked_9 0 rfl rfl)
theorem dX12_worked_219 : decode cX12_worked 219 = .ok (.iload 6, 2) := dk_21 6 (dk_at dksX12_worked_9 3 rfl rfl)
theorem dX12_worked_221 : decode cX12_worked 221 = .ok (.iload 7, 2) := dk_21 7 (dk_at dksX12_worked_9 5 rfl rfl)
theorem dX12_worked_223 : decode cX12_worked 223 = .ok (.idiv, 1) := dk_108 (dk_at dksX12_worked_9 7 rfl rfl)
theorem dX12_worked_224 : decode cX12_worked 224 = .ok (.istore 8, 2) := dk_54 8 (dk_at dksX12_worked_9 8 rfl rfl)
theorem dX12_worked_226 : decode cX12_worked 226 = .ok (.goto 71, 3) := dk_167 0 71 (dk_at dksX12_worked_9 10 rfl rfl)
theorem dX12_worked_229 : decode cX12_worked 229 = .ok (.iload 6, 2) := dk_21 6 (dk_at dksX12_worked_9 13 rfl rfl)
theorem dX12_worked_231 : decode cX12_worked 231 = .ok (.iload 7, 2) := dk_21 7 (dk_at dksX12_worked_9 15 rfl rfl)
theorem dX12_worked_233 : decode cX12_worked 233 = .ok (.if_icmp .ge 7, 3) := dk_162 0 7 (dk_at dksX12_worked_9 17 rfl rfl)
theorem dX12_worked_236 : decode cX12_worked 236 = .ok (.iconst 1, 1) := dk_4 (dk_at dksX12_worked_9 20 rfl rfl)
theorem dX12_worked_237 : decode cX12_worked 237 = .ok (.goto 4, 3) := dk_167 0 4 (dk_at dksX12_worked_9 21 rfl rfl)
theorem dX12_worked_240 : decode cX12_worked 240 = .ok (.iconst 0, 1) := dk_3 (dk_at dksX12_worked_10 0 rfl rfl)
theorem dX12_worked_241 : decode cX12_worked 241 = .ok (.istore 8, 2) := dk_54 8 (dk_at dksX12_worked_10 1 rfl rfl)
theorem dX12_worked_243 : decode cX12_worked 243 = .ok (.goto 54, 3) := dk_167 0 54 (dk_at dksX12_worked_10 3 rfl rfl)
theorem dX12_worked_246 : decode cX12_worked 246 = .ok (.iload 6, 2) := dk_21 6 (dk_at dksX12_worked_10 6 rfl rfl)
theorem dX12_worked_248 : decode cX12_worked 248 = .ok (.iload 7, 2) := dk_21 7 (dk_at dksX12_worked_10 8 rfl rfl)
theorem dX12_worked_250 : decode cX12_worked 250 = .ok (.if_icmp .le 7, 3) := dk_164 0 7 (dk_at dksX12_worked_10 10 rfl rfl)
theorem dX12_worked_253 : decode cX12_worked 253 = .ok (.iconst 1, 1) := dk_4 (dk_at dksX12_worked_10 13 rfl rfl)
theorem dX12_worked_254 : decode cX12_worked 254 = .ok (.goto 4, 3) := dk_167 0 4 (dk_at dksX12_worked_10 14 rfl rfl)
theorem dX12_worked_257 : decode cX12_worked 257 = .ok (.iconst 0, 1) := dk_3 (dk_at dksX12_worked_10 17 rfl rfl)
theorem dX12_worked_258 : decode cX12_worked 258 = .ok (.istore 8, 2) := dk_54 8 (dk_at dksX12_worked_10 18 rfl rfl)
theorem dX12_worked_260 : decode cX12_worked 260 = .ok (.goto 37, 3) := dk_167 0 37 (dk_at dksX12_worked_10 20 rfl rfl)
theorem dX12_worked_263 : decode cX12_worked 263 = .ok (.iload 6, 2) := dk_21 6 (dk_at dksX12_worked_11 0 rfl rfl)
theorem dX12_worked_265 : decode cX12_worked 265 = .ok (.iload 7, 2) := dk_21 7 (dk_at dksX12_worked_11 2 rfl rfl)
theorem dX12_worked_267 : decode cX12_worked 267 = .ok (.if_icmp .ne 7, 3) := dk_160 0 7 (dk_at dksX12_worked_11 4 rfl rfl)
theorem dX12_worked_270 : decode cX12_worked 270 = .ok (.iconst 1, 1) := dk_4 (dk_at dksX12_worked_11 7 rfl rfl)
theorem dX12_worked_271 : decode cX12_worked 271 = .ok (.goto 4, 3) := dk_167 0 4 (dk_at dksX12_worked_11 8 rfl rfl)
theorem dX12_worked_274 : decode cX12_worked 274 = .ok (.iconst 0, 1) := dk_3 (dk_at dksX12_worked_11 11 rfl rfl)
theorem dX12_worked_275 : decode cX12_worked 275 = .ok (.istore 8, 2) := dk_54 8 (dk_at dksX12_worked_11 12 rfl rfl)
theorem dX12_worked_277 : decode cX12_worked 277 = .ok (.goto 20, 3) := dk_167 0 20 (dk_at dksX12_worked_11 14 rfl rfl)
theorem dX12_worked_280 : decode cX12_worked 280 = .ok (.iload 6, 2) := dk_21 6 (dk_at dksX12_worked_11 17 rfl rfl)
theorem dX12_worked_282 : decode cX12_worked 282 = .ok (.iload 7, 2) := dk_21 7 (dk_at dksX12_worked_11 19 rfl rfl)
theorem dX12_worked_284 : decode cX12_worked 284 = .ok (.iand, 1) := dk_126 (dk_at dksX12_worked_11 21 rfl rfl)
theorem dX12_worked_285 : decode cX12_worked 285 = .ok (.istore 8, 2) := dk_54 8 (dk_at dksX12_worked_11 22 rfl rfl)
theorem dX12_worked_287 : decode cX12_worked 287 = .ok (.goto 10, 3) := dk_167 0 10 (dk_at dksX12_worked_12 0 rfl rfl)
theorem dX12_worked_290 : decode cX12_worked 290 = .ok (.iload 6, 2) := dk_21 6 (dk_at dksX12_worked_12 3 rfl rfl)
theorem dX12_worked_292 : decode cX12_worked 292 = .ok (.iload 7, 2) := dk_21 7 (dk_at dksX12_worked_12 5 rfl rfl)
theorem dX12_worked_294 : decode cX12_worked 294 = .ok (.ior, 1) := dk_128 (dk_at dksX12_worked_12 7 rfl rfl)
theorem dX12_worked_295 : decode cX12_worked 295 = .ok (.istore 8, 2) := dk_54 8 (dk_at dksX12_worked_12 8 rfl rfl)
theorem dX12_worked_297 : decode cX12_worked 297 = .ok (.aload_n 0, 1) := dk_42 (dk_at dksX12_worked_12 10 rfl rfl)
theorem dX12_worked_298 : decode cX12_worked 298 = .ok (.getfield 53, 3) := dk_180 0 53 (dk_at dksX12_worked_12 11 rfl rfl)
theorem dX12_worked_301 : decode cX12_worked 301 = .ok (.iload_n 3, 1) := dk_29 (dk_at dksX12_worked_12 14 rfl rfl)
theorem dX12_worked_302 : decode cX12_worked 302 = .ok (.iconst 1, 1) := dk_4 (dk_at dksX12_worked_12 15 rfl rfl)
theorem dX12_worked_303 : decode cX12_worked 303 = .ok (.isub, 1) := dk_100 (dk_at dksX12_worked_12 16 rfl rfl)
theorem dX12_worked_304 : decode cX12_worked 304 = .ok (.iload 8, 2) := dk_21 8 (dk_at dksX12_worked_12 17 rfl rfl)
theorem dX12_worked_306 : decode cX12_worked 306 = .ok (.iastore, 1) := dk_79 (dk_at dksX12_worked_12 19 rfl rfl)
theorem dX12_worked_307 : decode cX12_worked 307 = .ok (.iinc 4 1, 3) := dk_132 4 1 (dk_at dksX12_worked_12 20 rfl rfl)
theorem dX12_worked_310 : decode cX12_worked 310 = .ok (.goto (-305), 3) := dk_167 254 207 (dk_at dksX12_worked_13 0 rfl rfl)
theorem dX12_worked_313 : decode cX12_worked 313 = .ok (.aload_n 0, 1) := dk_42 (dk_at dksX12_worked_13 3 rfl rfl)
theorem dX12_worked_314 : decode cX12_worked 314 = .ok (.getfield 53, 3) := dk_180 0 53 (dk_at dksX12_worked_13 4 rfl rfl)
theorem dX12_worked_317 : decode cX12_worked 317 = .ok (.iconst 0, 1) := dk_3 (dk_at dksX12_worked_13 7 rfl rfl)
theorem dX12_worked_318 : decode cX12_worked 318 = .ok (.iaload, 1) := dk_46 (dk_at dksX12_worked_13 8 rfl rfl)
theorem dX12_worked_319 : decode cX12_worked 319 = .ok (.ireturn, 1) := dk_172 (dk_at dksX12_worked_13 9 rfl rfl)
abbrev cX12_isAt : ByteArray := prog_27_method_59_code
def yX12_isAt : MethodName := ⟨RX12, "isAt", "(II)Z"⟩
def dkwX12_isAt_1 : List UInt8 := [160, 0, 7, 4, 167, 0, 4, 3, 172]
abbrev dktX12_isAt_1 : List UInt8 := dkwX12_isAt_1 ++ []
def dkwX12_isAt_0 : List UInt8 := [42, 180, 0, 23, 16, 19, 27, 96, 46, 28, 159, 0, 16, 42, 180, 0, 23, 16, 43, 27, 96, 46, 28]
abbrev dktX12_isAt_0 : List UInt8 := dkwX12_isAt_0 ++ dktX12_isAt_1
theorem dksX12_isAt_0 : cX12_isAt.data.toList.drop 0 = dktX12_isAt_0 := by decide +kernel
theorem dksX12_isAt_1 : cX12_isAt.data.toList.drop 23 = dktX12_isAt_1 := dk_seg dksX12_isAt_0 23 rfl rfl
theorem dX12_isAt_0 : decode cX12_isAt 0 = .ok (.aload_n 0, 1) := dk_42 (dk_at dksX12_isAt_0 0 rfl rfl)
theorem dX12_isAt_1 : decode cX12_isAt 1 = .ok (.getfield 23, 3) := dk_180 0 23 (dk_at dksX12_isAt_0 1 rfl rfl)
theorem dX12_isAt_4 : decode cX12_isAt 4 = .ok (.bipush 19, 2) := dk_16 19 (dk_at dksX12_isAt_0 4 rfl rfl)
theorem dX12_isAt_6 : decode cX12_isAt 6 = .ok (.iload_n 1, 1) := dk_27 (dk_at dksX12_isAt_0 6 rfl rfl)
theorem dX12_isAt_7 : decode cX12_isAt 7 = .ok (.iadd, 1) := dk_96 (dk_at dksX12_isAt_0 7 rfl rfl)
theorem dX12_isAt_8 : decode cX12_isAt 8 = .ok (.iaload, 1) := dk_46 (dk_at dksX12_isAt_0 8 rfl rfl)
theorem dX12_isAt_9 : decode cX12_isAt 9 = .ok (.iload_n 2, 1) := dk_28 (dk_at dksX12_isAt_0 9 rfl rfl)
theorem dX12_isAt_10 : decode cX12_isAt 10 = .ok (.if_icmp .eq 16, 3) := dk_159 0 16 (dk_at dksX12_isAt_0 10 rfl rfl)
theorem dX12_isAt_13 : decode cX12_isAt 13 = .ok (.aload_n 0, 1) := dk_42 (dk_at dksX12_isAt_0 13 rfl rfl)
theorem dX12_isAt_14 : decode cX12_isAt 14 = .ok (.getfield 23, 3) := dk_180 0 23 (dk_at dksX12_isAt_0 14 rfl rfl)
theorem dX12_isAt_17 : decode cX12_isAt 17 = .ok (.bipush 43, 2) := dk_16 43 (dk_at dksX12_isAt_0 17 rfl rfl)
theorem dX12_isAt_19 : decode cX12_isAt 19 = .ok (.iload_n 1, 1) := dk_27 (dk_at dksX12_isAt_0 19 rfl rfl)
theorem dX12_isAt_20 : decode cX12_isAt 20 = .ok (.iadd, 1) := dk_96 (dk_at dksX12_isAt_0 20 rfl rfl)
theorem dX12_isAt_21 : decode cX12_isAt 21 = .ok (.iaload, 1) := dk_46 (dk_at dksX12_isAt_0 21 rfl rfl)
theorem dX12_isAt_22 : decode cX12_isAt 22 = .ok (.iload_n 2, 1) := dk_28 (dk_at dksX12_isAt_0 22 rfl rfl)
theorem dX12_isAt_23 : decode cX12_isAt 23 = .ok (.if_icmp .ne 7, 3) := dk_160 0 7 (dk_at dksX12_isAt_1 0 rfl rfl)
theorem dX12_isAt_26 : decode cX12_isAt 26 = .ok (.iconst 1, 1) := dk_4 (dk_at dksX12_isAt_1 3 rfl rfl)
theorem dX12_isAt_27 : decode cX12_isAt 27 = .ok (.goto 4, 3) := dk_167 0 4 (dk_at dksX12_isAt_1 4 rfl rfl)
theorem dX12_isAt_30 : decode cX12_isAt 30 = .ok (.iconst 0, 1) := dk_3 (dk_at dksX12_isAt_1 7 rfl rfl)
theorem dX12_isAt_31 : decode cX12_isAt 31 = .ok (.ireturn, 1) := dk_172 (dk_at dksX12_isAt_1 8 rfl rfl)
abbrev cX12_otherEnd : ByteArray := prog_27_method_58_code
def yX12_otherEnd : MethodName := ⟨RX12, "otherEnd", "(II)I"⟩
def dkwX12_otherEnd_1 : List UInt8 := [167, 0, 12, 42, 180, 0, 23, 16, 19, 27, 96, 46, 172]
abbrev dktX12_otherEnd_1 : List UInt8 := dkwX12_otherEnd_1 ++ []
def dkwX12_otherEnd_0 : List UInt8 := [42, 180, 0, 23, 16, 19, 27, 96, 46, 28, 160, 0, 15, 42, 180, 0, 23, 16, 43, 27, 96, 46]
abbrev dktX12_otherEnd_0 : List UInt8 := dkwX12_otherEnd_0 ++ dktX12_otherEnd_1
theorem dksX12_otherEnd_0 : cX12_otherEnd.data.toList.drop 0 = dktX12_otherEnd_0 := by decide +kernel
theorem dksX12_otherEnd_1 : cX12_otherEnd.data.toList.drop 22 = dktX12_otherEnd_1 := dk_seg dksX12_otherEnd_0 22 rfl rfl
theorem dX12_otherEnd_0 : decode cX12_otherEnd 0 = .ok (.aload_n 0, 1) := dk_42 (dk_at dksX12_otherEnd_0 0 rfl rfl)
theorem dX12_otherEnd_1 : decode cX12_otherEnd 1 = .ok (.getfield 23, 3) := dk_180 0 23 (dk_at dksX12_otherEnd_0 1 rfl rfl)
theorem dX12_otherEnd_4 : decode cX12_otherEnd 4 = .ok (.bipush 19, 2) := dk_16 19 (dk_at dksX12_otherEnd_0 4 rfl rfl)
theorem dX12_otherEnd_6 : decode cX12_otherEnd 6 = .ok (.iload_n 1, 1) := dk_27 (dk_at dksX12_otherEnd_0 6 rfl rfl)
theorem dX12_otherEnd_7 : decode cX12_otherEnd 7 = .ok (.iadd, 1) := dk_96 (dk_at dksX12_otherEnd_0 7 rfl rfl)
theorem dX12_otherEnd_8 : decode cX12_otherEnd 8 = .ok (.iaload, 1) := dk_46 (dk_at dksX12_otherEnd_0 8 rfl rfl)
theorem dX12_otherEnd_9 : decode cX12_otherEnd 9 = .ok (.iload_n 2, 1) := dk_28 (dk_at dksX12_otherEnd_0 9 rfl rfl)
theorem dX12_otherEnd_10 : decode cX12_otherEnd 10 = .ok (.if_icmp .ne 15, 3) := dk_160 0 15 (dk_at dksX12_otherEnd_0 10 rfl rfl)
theorem dX12_otherEnd_13 : decode cX12_otherEnd 13 = .ok (.aload_n 0, 1) := dk_42 (dk_at dksX12_otherEnd_0 13 rfl rfl)
theorem dX12_otherEnd_14 : decode cX12_otherEnd 14 = .ok (.getfield 23, 3) := dk_180 0 23 (dk_at dksX12_otherEnd_0 14 rfl rfl)
theorem dX12_otherEnd_17 : decode cX12_otherEnd 17 = .ok (.bipush 43, 2) := dk_16 43 (dk_at dksX12_otherEnd_0 17 rfl rfl)
theorem dX12_otherEnd_19 : decode cX12_otherEnd 19 = .ok (.iload_n 1, 1) := dk_27 (dk_at dksX12_otherEnd_0 19 rfl rfl)
theorem dX12_otherEnd_20 : decode cX12_otherEnd 20 = .ok (.iadd, 1) := dk_96 (dk_at dksX12_otherEnd_0 20 rfl rfl)
theorem dX12_otherEnd_21 : decode cX12_otherEnd 21 = .ok (.iaload, 1) := dk_46 (dk_at dksX12_otherEnd_0 21 rfl rfl)
theorem dX12_otherEnd_22 : decode cX12_otherEnd 22 = .ok (.goto 12, 3) := dk_167 0 12 (dk_at dksX12_otherEnd_1 0 rfl rfl)
theorem dX12_otherEnd_25 : decode cX12_otherEnd 25 = .ok (.aload_n 0, 1) := dk_42 (dk_at dksX12_otherEnd_1 3 rfl rfl)
theorem dX12_otherEnd_26 : decode cX12_otherEnd 26 = .ok (.getfield 23, 3) := dk_180 0 23 (dk_at dksX12_otherEnd_1 4 rfl rfl)
theorem dX12_otherEnd_29 : decode cX12_otherEnd 29 = .ok (.bipush 19, 2) := dk_16 19 (dk_at dksX12_otherEnd_1 7 rfl rfl)
theorem dX12_otherEnd_31 : decode cX12_otherEnd 31 = .ok (.iload_n 1, 1) := dk_27 (dk_at dksX12_otherEnd_1 9 rfl rfl)
theorem dX12_otherEnd_32 : decode cX12_otherEnd 32 = .ok (.iadd, 1) := dk_96 (dk_at dksX12_otherEnd_1 10 rfl rfl)
theorem dX12_otherEnd_33 : decode cX12_otherEnd 33 = .ok (.iaload, 1) := dk_46 (dk_at dksX12_otherEnd_1 11 rfl rfl)
theorem dX12_otherEnd_34 : decode cX12_otherEnd 34 = .ok (.ireturn, 1) := dk_172 (dk_at dksX12_otherEnd_1 12 rfl rfl)
abbrev cX12_findAlone : ByteArray := prog_27_method_68_code
def yX12_findAlone : MethodName := ⟨RX12, "findAlone", "(I)V"⟩
def dkwX12_findAlone_6 : List UInt8 := [132, 3, 255, 167, 255, 127, 177]
abbrev dktX12_findAlone_6 : List UInt8 := dkwX12_findAlone_6 ++ []
def dkwX12_findAlone_5 : List UInt8 := [21, 4, 21, 5, 3, 182, 1, 124, 182, 1, 113, 80, 132, 5, 1, 167, 255, 160, 132, 4, 1, 167, 255, 140]
abbrev dktX12_findAlone_5 : List UInt8 := dkwX12_findAlone_5 ++ dktX12_findAlone_6
def dkwX12_findAlone_4 : List UInt8 := [180, 0, 93, 28, 29, 21, 4, 21, 5, 42, 42, 180, 0, 93, 28, 42, 27, 21, 6, 182, 1, 121, 29]
abbrev dktX12_findAlone_4 : List UInt8 := dkwX12_findAlone_4 ++ dktX12_findAlone_5
def dkwX12_findAlone_3 : List UInt8 := [21, 6, 96, 21, 7, 153, 0, 16, 42, 27, 29, 21, 4, 21, 7, 182, 1, 117, 167, 0, 39, 42, 42]
abbrev dktX12_findAlone_3 : List UInt8 := dkwX12_findAlone_3 ++ dktX12_findAlone_4
def dkwX12_findAlone_2 : List UInt8 := [21, 5, 184, 1, 98, 54, 6, 42, 29, 21, 4, 21, 5, 182, 1, 94, 54, 7, 42, 180, 0, 93, 28]
abbrev dktX12_findAlone_2 : List UInt8 := dkwX12_findAlone_2 ++ dktX12_findAlone_3
def dkwX12_findAlone_1 : List UInt8 := [180, 0, 23, 3, 46, 162, 0, 111, 3, 54, 5, 21, 5, 42, 180, 1, 92, 163, 0, 93, 29, 21, 4]
abbrev dktX12_findAlone_1 : List UInt8 := dkwX12_findAlone_1 ++ dktX12_findAlone_2
def dkwX12_findAlone_0 : List UInt8 := [27, 17, 15, 60, 104, 61, 42, 180, 0, 23, 6, 46, 62, 29, 155, 0, 131, 3, 54, 4, 21, 4, 42]
abbrev dktX12_findAlone_0 : List UInt8 := dkwX12_findAlone_0 ++ dktX12_findAlone_1
theorem dksX12_findAlone_0 : cX12_findAlone.data.toList.drop 0 = dktX12_findAlone_0 := by decide +kernel
theorem dksX12_findAlone_1 : cX12_findAlone.data.toList.drop 23 = dktX12_findAlone_1 := dk_seg dksX12_findAlone_0 23 rfl rfl
theorem dksX12_findAlone_2 : cX12_findAlone.data.toList.drop 46 = dktX12_findAlone_2 := dk_seg dksX12_findAlone_1 23 rfl rfl
theorem dksX12_findAlone_3 : cX12_findAlone.data.toList.drop 69 = dktX12_findAlone_3 := dk_seg dksX12_findAlone_2 23 rfl rfl
theorem dksX12_findAlone_4 : cX12_findAlone.data.toList.drop 92 = dktX12_findAlone_4 := dk_seg dksX12_findAlone_3 23 rfl rfl
theorem dksX12_findAlone_5 : cX12_findAlone.data.toList.drop 115 = dktX12_findAlone_5 := dk_seg dksX12_findAlone_4 23 rfl rfl
theorem dksX12_findAlone_6 : cX12_findAlone.data.toList.drop 139 = dktX12_findAlone_6 := dk_seg dksX12_findAlone_5 24 rfl rfl
theorem dX12_findAlone_0 : decode cX12_findAlone 0 = .ok (.iload_n 1, 1) := dk_27 (dk_at dksX12_findAlone_0 0 rfl rfl)
theorem dX12_findAlone_1 : decode cX12_findAlone 1 = .ok (.sipush 3900, 3) := dk_17 15 60 (dk_at dksX12_findAlone_0 1 rfl rfl)
theorem dX12_findAlone_4 : decode cX12_findAlone 4 = .ok (.imul, 1) := dk_104 (dk_at dksX12_findAlone_0 4 rfl rfl)
theorem dX12_findAlone_5 : decode cX12_findAlone 5 = .ok (.istore_n 2, 1) := dk_61 (dk_at dksX12_findAlone_0 5 rfl rfl)
theorem dX12_findAlone_6 : decode cX12_findAlone 6 = .ok (.aload_n 0, 1) := dk_42 (dk_at dksX12_findAlone_0 6 rfl rfl)
theorem dX12_findAlone_7 : decode cX12_findAlone 7 = .ok (.getfield 23, 3) := dk_180 0 23 (dk_at dksX12_findAlone_0 7 rfl rfl)
theorem dX12_findAlone_10 : decode cX12_findAlone 10 = .ok (.iconst 3, 1) := dk_6 (dk_at dksX12_findAlone_0 10 rfl rfl)
theorem dX12_findAlone_11 : decode cX12_findAlone 11 = .ok (.iaload, 1) := dk_46 (dk_at dksX12_findAlone_0 11 rfl rfl)
theorem dX12_findAlone_12 : decode cX12_findAlone 12 = .ok (.istore_n 3, 1) := dk_62 (dk_at dksX12_findAlone_0 12 rfl rfl)
theorem dX12_findAlone_13 : decode cX12_findAlone 13 = .ok (.iload_n 3, 1) := dk_29 (dk_at dksX12_findAlone_0 13 rfl rfl)
theorem dX12_findAlone_14 : decode cX12_findAlone 14 = .ok (.ifCond .lt 131, 3) := dk_155 0 131 (dk_at dksX12_findAlone_0 14 rfl rfl)
theorem dX12_findAlone_17 : decode cX12_findAlone 17 = .ok (.iconst 0, 1) := dk_3 (dk_at dksX12_findAlone_0 17 rfl rfl)
theorem dX12_findAlone_18 : decode cX12_findAlone 18 = .ok (.istore 4, 2) := dk_54 4 (dk_at dksX12_findAlone_0 18 rfl rfl)
theorem dX12_findAlone_20 : decode cX12_findAlone 20 = .ok (.iload 4, 2) := dk_21 4 (dk_at dksX12_findAlone_0 20 rfl rfl)
theorem dX12_findAlone_22 : decode cX12_findAlone 22 = .ok (.aload_n 0, 1) := dk_42 (dk_at dksX12_findAlone_0 22 rfl rfl)
theorem dX12_findAlone_23 : decode cX12_findAlone 23 = .ok (.getfield 23, 3) := dk_180 0 23 (dk_at dksX12_findAlone_1 0 rfl rfl)
theorem dX12_findAlone_26 : decode cX12_findAlone 26 = .ok (.iconst 0, 1) := dk_3 (dk_at dksX12_findAlone_1 3 rfl rfl)
theorem dX12_findAlone_27 : decode cX12_findAlone 27 = .ok (.iaload, 1) := dk_46 (dk_at dksX12_findAlone_1 4 rfl rfl)
theorem dX12_findAlone_28 : decode cX12_findAlone 28 = .ok (.if_icmp .ge 111, 3) := dk_162 0 111 (dk_at dksX12_findAlone_1 5 rfl rfl)
theorem dX12_findAlone_31 : decode cX12_findAlone 31 = .ok (.iconst 0, 1) := dk_3 (dk_at dksX12_findAlone_1 8 rfl rfl)
theorem dX12_findAlone_32 : decode cX12_findAlone 32 = .ok (.istore 5, 2) := dk_54 5 (dk_at dksX12_findAlone_1 9 rfl rfl)
theorem dX12_findAlone_34 : decode cX12_findAlone 34 = .ok (.iload 5, 2) := dk_21 5 (dk_at dksX12_findAlone_1 11 rfl rfl)
theorem dX12_findAlone_36 : decode cX12_findAlone 36 = .ok (.aload_n 0, 1) := dk_42 (dk_at dksX12_findAlone_1 13 rfl rfl)
theorem dX12_findAlone_37 : decode cX12_findAlone 37 = .ok (.getfield 348, 3) := dk_180 1 92 (dk_at dksX12_findAlone_1 14 rfl rfl)
theorem dX12_findAlone_40 : decode cX12_findAlone 40 = .ok (.if_icmp .gt 93, 3) := dk_163 0 93 (dk_at dksX12_findAlone_1 17 rfl rfl)
theorem dX12_findAlone_43 : decode cX12_findAlone 43 = .ok (.iload_n 3, 1) := dk_29 (dk_at dksX12_findAlone_1 20 rfl rfl)
theorem dX12_findAlone_44 : decode cX12_findAlone 44 = .ok (.iload 4, 2) := dk_21 4 (dk_at dksX12_findAlone_1 21 rfl rfl)
theorem dX12_findAlone_46 : decode cX12_findAlone 46 = .ok (.iload 5, 2) := dk_21 5 (dk_at dksX12_findAlone_2 0 rfl rfl)
theorem dX12_findAlone_48 : decode cX12_findAlone 48 = .ok (.invokestatic 354, 3) := dk_184 1 98 (dk_at dksX12_findAlone_2 2 rfl rfl)
theorem dX12_findAlone_51 : decode cX12_findAlone 51 = .ok (.istore 6, 2) := dk_54 6 (dk_at dksX12_findAlone_2 5 rfl rfl)
theorem dX12_findAlone_53 : decode cX12_findAlone 53 = .ok (.aload_n 0, 1) := dk_42 (dk_at dksX12_findAlone_2 7 rfl rfl)
theorem dX12_findAlone_54 : decode cX12_findAlone 54 = .ok (.iload_n 3, 1) := dk_29 (dk_at dksX12_findAlone_2 8 rfl rfl)
theorem dX12_findAlone_55 : decode cX12_findAlone 55 = .ok (.iload 4, 2) := dk_21 4 (dk_at dksX12_findAlone_2 9 rfl rfl)
theorem dX12_findAlone_57 : decode cX12_findAlone 57 = .ok (.iload 5, 2) := dk_21 5 (dk_at dksX12_findAlone_2 11 rfl rfl)
theorem dX12_findAlone_59 : decode cX12_findAlone 59 = .ok (.invokevirtual 350, 3) := dk_182 1 94 (dk_at dksX12_findAlone_2 13 rfl rfl)
theorem dX12_findAlone_62 : decode cX12_findAlone 62 = .ok (.istore 7, 2) := dk_54 7 (dk_at dksX12_findAlone_2 16 rfl rfl)
theorem dX12_findAlone_64 : decode cX12_findAlone 64 = .ok (.aload_n 0, 1) := dk_42 (dk_at dksX12_findAlone_2 18 rfl rfl)
theorem dX12_findAlone_65 : decode cX12_findAlone 65 = .ok (.getfield 93, 3) := dk_180 0 93 (dk_at dksX12_findAlone_2 19 rfl rfl)
theorem dX12_findAlone_68 : decode cX12_findAlone 68 = .ok (.iload_n 2, 1) := dk_28 (dk_at dksX12_findAlone_2 22 rfl rfl)
theorem dX12_findAlone_69 : decode cX12_findAlone 69 = .ok (.iload 6, 2) := dk_21 6 (dk_at dksX12_findAlone_3 0 rfl rfl)
theorem dX12_findAlone_71 : decode cX12_findAlone 71 = .ok (.iadd, 1) := dk_96 (dk_at dksX12_findAlone_3 2 rfl rfl)
theorem dX12_findAlone_72 : decode cX12_findAlone 72 = .ok (.iload 7, 2) := dk_21 7 (dk_at dksX12_findAlone_3 3 rfl rfl)
theorem dX12_findAlone_74 : decode cX12_findAlone 74 = .ok (.ifCond .eq 16, 3) := dk_153 0 16 (dk_at dksX12_findAlone_3 5 rfl rfl)
theorem dX12_findAlone_77 : decode cX12_findAlone 77 = .ok (.aload_n 0, 1) := dk_42 (dk_at dksX12_findAlone_3 8 rfl rfl)
theorem dX12_findAlone_78 : decode cX12_findAlone 78 = .ok (.iload_n 1, 1) := dk_27 (dk_at dksX12_findAlone_3 9 rfl rfl)
theorem dX12_findAlone_79 : decode cX12_findAlone 79 = .ok (.iload_n 3, 1) := dk_29 (dk_at dksX12_findAlone_3 10 rfl rfl)
theorem dX12_findAlone_80 : decode cX12_findAlone 80 = .ok (.iload 4, 2) := dk_21 4 (dk_at dksX12_findAlone_3 11 rfl rfl)
theorem dX12_findAlone_82 : decode cX12_findAlone 82 = .ok (.iload 7, 2) := dk_21 7 (dk_at dksX12_findAlone_3 13 rfl rfl)
theorem dX12_findAlone_84 : decode cX12_findAlone 84 = .ok (.invokevirtual 373, 3) := dk_182 1 117 (dk_at dksX12_findAlone_3 15 rfl rfl)
theorem dX12_findAlone_87 : decode cX12_findAlone 87 = .ok (.goto 39, 3) := dk_167 0 39 (dk_at dksX12_findAlone_3 18 rfl rfl)
theorem dX12_findAlone_90 : decode cX12_findAlone 90 = .ok (.aload_n 0, 1) := dk_42 (dk_at dksX12_findAlone_3 21 rfl rfl)
theorem dX12_findAlone_91 : decode cX12_findAlone 91 = .ok (.aload_n 0, 1) := dk_42 (dk_at dksX12_findAlone_3 22 rfl rfl)
theorem dX12_findAlone_92 : decode cX12_findAlone 92 = .ok (.getfield 93, 3) := dk_180 0 93 (dk_at dksX12_findAlone_4 0 rfl rfl)
theorem dX12_findAlone_95 : decode cX12_findAlone 95 = .ok (.iload_n 2, 1) := dk_28 (dk_at dksX12_findAlone_4 3 rfl rfl)
theorem dX12_findAlone_96 : decode cX12_findAlone 96 = .ok (.iload_n 3, 1) := dk_29 (dk_at dksX12_findAlone_4 4 rfl rfl)
theorem dX12_findAlone_97 : decode cX12_findAlone 97 = .ok (.iload 4, 2) := dk_21 4 (dk_at dksX12_findAlone_4 5 rfl rfl)
theorem dX12_findAlone_99 : decode cX12_findAlone 99 = .ok (.iload 5, 2) := dk_21 5 (dk_at dksX12_findAlone_4 7 rfl rfl)
theorem dX12_findAlone_101 : decode cX12_findAlone 101 = .ok (.aload_n 0, 1) := dk_42 (dk_at dksX12_findAlone_4 9 rfl rfl)
theorem dX12_findAlone_102 : decode cX12_findAlone 102 = .ok (.aload_n 0, 1) := dk_42 (dk_at dksX12_findAlone_4 10 rfl rfl)
theorem dX12_findAlone_103 : decode cX12_findAlone 103 = .ok (.getfield 93, 3) := dk_180 0 93 (dk_at dksX12_findAlone_4 11 rfl rfl)
theorem dX12_findAlone_106 : decode cX12_findAlone 106 = .ok (.iload_n 2, 1) := dk_28 (dk_at dksX12_findAlone_4 14 rfl rfl)
theorem dX12_findAlone_107 : decode cX12_findAlone 107 = .ok (.aload_n 0, 1) := dk_42 (dk_at dksX12_findAlone_4 15 rfl rfl)
theorem dX12_findAlone_108 : decode cX12_findAlone 108 = .ok (.iload_n 1, 1) := dk_27 (dk_at dksX12_findAlone_4 16 rfl rfl)
theorem dX12_findAlone_109 : decode cX12_findAlone 109 = .ok (.iload 6, 2) := dk_21 6 (dk_at dksX12_findAlone_4 17 rfl rfl)
theorem dX12_findAlone_111 : decode cX12_findAlone 111 = .ok (.invokevirtual 377, 3) := dk_182 1 121 (dk_at dksX12_findAlone_4 19 rfl rfl)
theorem dX12_findAlone_114 : decode cX12_findAlone 114 = .ok (.iload_n 3, 1) := dk_29 (dk_at dksX12_findAlone_4 22 rfl rfl)
theorem dX12_findAlone_115 : decode cX12_findAlone 115 = .ok (.iload 4, 2) := dk_21 4 (dk_at dksX12_findAlone_5 0 rfl rfl)
theorem dX12_findAlone_117 : decode cX12_findAlone 117 = .ok (.iload 5, 2) := dk_21 5 (dk_at dksX12_findAlone_5 2 rfl rfl)
theorem dX12_findAlone_119 : decode cX12_findAlone 119 = .ok (.iconst 0, 1) := dk_3 (dk_at dksX12_findAlone_5 4 rfl rfl)
theorem dX12_findAlone_120 : decode cX12_findAlone 120 = .ok (.invokevirtual 380, 3) := dk_182 1 124 (dk_at dksX12_findAlone_5 5 rfl rfl)
theorem dX12_findAlone_123 : decode cX12_findAlone 123 = .ok (.invokevirtual 369, 3) := dk_182 1 113 (dk_at dksX12_findAlone_5 8 rfl rfl)
theorem dX12_findAlone_126 : decode cX12_findAlone 126 = .ok (.lastore, 1) := dk_80 (dk_at dksX12_findAlone_5 11 rfl rfl)
theorem dX12_findAlone_127 : decode cX12_findAlone 127 = .ok (.iinc 5 1, 3) := dk_132 5 1 (dk_at dksX12_findAlone_5 12 rfl rfl)
theorem dX12_findAlone_130 : decode cX12_findAlone 130 = .ok (.goto (-96), 3) := dk_167 255 160 (dk_at dksX12_findAlone_5 15 rfl rfl)
theorem dX12_findAlone_133 : decode cX12_findAlone 133 = .ok (.iinc 4 1, 3) := dk_132 4 1 (dk_at dksX12_findAlone_5 18 rfl rfl)
theorem dX12_findAlone_136 : decode cX12_findAlone 136 = .ok (.goto (-116), 3) := dk_167 255 140 (dk_at dksX12_findAlone_5 21 rfl rfl)
theorem dX12_findAlone_139 : decode cX12_findAlone 139 = .ok (.iinc 3 (-1), 3) := dk_132 3 255 (dk_at dksX12_findAlone_6 0 rfl rfl)
theorem dX12_findAlone_142 : decode cX12_findAlone 142 = .ok (.goto (-129), 3) := dk_167 255 127 (dk_at dksX12_findAlone_6 3 rfl rfl)
theorem dX12_findAlone_145 : decode cX12_findAlone 145 = .ok (.return_, 1) := dk_177 (dk_at dksX12_findAlone_6 6 rfl rfl)
abbrev cX12_ends : ByteArray := prog_27_method_66_code
def yX12_ends : MethodName := ⟨RX12, "ends", "(IIII)J"⟩
def dkwX12_ends_2 : List UInt8 := [47, 105, 173]
abbrev dktX12_ends_2 : List UInt8 := dkwX12_ends_2 ++ []
def dkwX12_ends_1 : List UInt8 := [27, 104, 96, 29, 96, 46, 28, 42, 180, 0, 23, 16, 67, 27, 96, 46, 104, 100, 133, 42, 180, 0, 86, 28]
abbrev dktX12_ends_1 : List UInt8 := dkwX12_ends_1 ++ dktX12_ends_2
def dkwX12_ends_0 : List UInt8 := [21, 4, 5, 160, 0, 13, 42, 180, 0, 23, 8, 46, 116, 167, 0, 17, 42, 180, 0, 23, 16, 72, 16, 12]
abbrev dktX12_ends_0 : List UInt8 := dkwX12_ends_0 ++ dktX12_ends_1
theorem dksX12_ends_0 : cX12_ends.data.toList.drop 0 = dktX12_ends_0 := by decide +kernel
theorem dksX12_ends_1 : cX12_ends.data.toList.drop 24 = dktX12_ends_1 := dk_seg dksX12_ends_0 24 rfl rfl
theorem dksX12_ends_2 : cX12_ends.data.toList.drop 48 = dktX12_ends_2 := dk_seg dksX12_ends_1 24 rfl rfl
theorem dX12_ends_0 : decode cX12_ends 0 = .ok (.iload 4, 2) := dk_21 4 (dk_at dksX12_ends_0 0 rfl rfl)
theorem dX12_ends_2 : decode cX12_ends 2 = .ok (.iconst 2, 1) := dk_5 (dk_at dksX12_ends_0 2 rfl rfl)
theorem dX12_ends_3 : decode cX12_ends 3 = .ok (.if_icmp .ne 13, 3) := dk_160 0 13 (dk_at dksX12_ends_0 3 rfl rfl)
theorem dX12_ends_6 : decode cX12_ends 6 = .ok (.aload_n 0, 1) := dk_42 (dk_at dksX12_ends_0 6 rfl rfl)
theorem dX12_ends_7 : decode cX12_ends 7 = .ok (.getfield 23, 3) := dk_180 0 23 (dk_at dksX12_ends_0 7 rfl rfl)
theorem dX12_ends_10 : decode cX12_ends 10 = .ok (.iconst 5, 1) := dk_8 (dk_at dksX12_ends_0 10 rfl rfl)
theorem dX12_ends_11 : decode cX12_ends 11 = .ok (.iaload, 1) := dk_46 (dk_at dksX12_ends_0 11 rfl rfl)
theorem dX12_ends_12 : decode cX12_ends 12 = .ok (.ineg, 1) := dk_116 (dk_at dksX12_ends_0 12 rfl rfl)
theorem dX12_ends_13 : decode cX12_ends 13 = .ok (.goto 17, 3) := dk_167 0 17 (dk_at dksX12_ends_0 13 rfl rfl)
theorem dX12_ends_16 : decode cX12_ends 16 = .ok (.aload_n 0, 1) := dk_42 (dk_at dksX12_ends_0 16 rfl rfl)
theorem dX12_ends_17 : decode cX12_ends 17 = .ok (.getfield 23, 3) := dk_180 0 23 (dk_at dksX12_ends_0 17 rfl rfl)
theorem dX12_ends_20 : decode cX12_ends 20 = .ok (.bipush 72, 2) := dk_16 72 (dk_at dksX12_ends_0 20 rfl rfl)
theorem dX12_ends_22 : decode cX12_ends 22 = .ok (.bipush 12, 2) := dk_16 12 (dk_at dksX12_ends_0 22 rfl rfl)
theorem dX12_ends_24 : decode cX12_ends 24 = .ok (.iload_n 1, 1) := dk_27 (dk_at dksX12_ends_1 0 rfl rfl)
theorem dX12_ends_25 : decode cX12_ends 25 = .ok (.imul, 1) := dk_104 (dk_at dksX12_ends_1 1 rfl rfl)
theorem dX12_ends_26 : decode cX12_ends 26 = .ok (.iadd, 1) := dk_96 (dk_at dksX12_ends_1 2 rfl rfl)
theorem dX12_ends_27 : decode cX12_ends 27 = .ok (.iload_n 3, 1) := dk_29 (dk_at dksX12_ends_1 3 rfl rfl)
theorem dX12_ends_28 : decode cX12_ends 28 = .ok (.iadd, 1) := dk_96 (dk_at dksX12_ends_1 4 rfl rfl)
theorem dX12_ends_29 : decode cX12_ends 29 = .ok (.iaload, 1) := dk_46 (dk_at dksX12_ends_1 5 rfl rfl)
theorem dX12_ends_30 : decode cX12_ends 30 = .ok (.iload_n 2, 1) := dk_28 (dk_at dksX12_ends_1 6 rfl rfl)
theorem dX12_ends_31 : decode cX12_ends 31 = .ok (.aload_n 0, 1) := dk_42 (dk_at dksX12_ends_1 7 rfl rfl)
theorem dX12_ends_32 : decode cX12_ends 32 = .ok (.getfield 23, 3) := dk_180 0 23 (dk_at dksX12_ends_1 8 rfl rfl)
theorem dX12_ends_35 : decode cX12_ends 35 = .ok (.bipush 67, 2) := dk_16 67 (dk_at dksX12_ends_1 11 rfl rfl)
theorem dX12_ends_37 : decode cX12_ends 37 = .ok (.iload_n 1, 1) := dk_27 (dk_at dksX12_ends_1 13 rfl rfl)
theorem dX12_ends_38 : decode cX12_ends 38 = .ok (.iadd, 1) := dk_96 (dk_at dksX12_ends_1 14 rfl rfl)
theorem dX12_ends_39 : decode cX12_ends 39 = .ok (.iaload, 1) := dk_46 (dk_at dksX12_ends_1 15 rfl rfl)
theorem dX12_ends_40 : decode cX12_ends 40 = .ok (.imul, 1) := dk_104 (dk_at dksX12_ends_1 16 rfl rfl)
theorem dX12_ends_41 : decode cX12_ends 41 = .ok (.isub, 1) := dk_100 (dk_at dksX12_ends_1 17 rfl rfl)
theorem dX12_ends_42 : decode cX12_ends 42 = .ok (.i2l, 1) := dk_133 (dk_at dksX12_ends_1 18 rfl rfl)
theorem dX12_ends_43 : decode cX12_ends 43 = .ok (.aload_n 0, 1) := dk_42 (dk_at dksX12_ends_1 19 rfl rfl)
theorem dX12_ends_44 : decode cX12_ends 44 = .ok (.getfield 86, 3) := dk_180 0 86 (dk_at dksX12_ends_1 20 rfl rfl)
theorem dX12_ends_47 : decode cX12_ends 47 = .ok (.iload_n 2, 1) := dk_28 (dk_at dksX12_ends_1 23 rfl rfl)
theorem dX12_ends_48 : decode cX12_ends 48 = .ok (.laload, 1) := dk_47 (dk_at dksX12_ends_2 0 rfl rfl)
theorem dX12_ends_49 : decode cX12_ends 49 = .ok (.lmul, 1) := dk_105 (dk_at dksX12_ends_2 1 rfl rfl)
theorem dX12_ends_50 : decode cX12_ends 50 = .ok (.lreturn, 1) := dk_173 (dk_at dksX12_ends_2 2 rfl rfl)
abbrev cX12_moves : ByteArray := prog_27_method_63_code
def yX12_moves : MethodName := ⟨RX12, "moves", "(II)I"⟩
def dkwX12_moves_0 : List UInt8 := [42, 180, 0, 80, 27, 17, 15, 60, 104, 28, 96, 46, 62, 29, 154, 0, 7, 4, 167, 0, 4, 29, 172]
abbrev dktX12_moves_0 : List UInt8 := dkwX12_moves_0 ++ []
theorem dksX12_moves_0 : cX12_moves.data.toList.drop 0 = dktX12_moves_0 := by decide +kernel
theorem dX12_moves_0 : decode cX12_moves 0 = .ok (.aload_n 0, 1) := dk_42 (dk_at dksX12_moves_0 0 rfl rfl)
theorem dX12_moves_1 : decode cX12_moves 1 = .ok (.getfield 80, 3) := dk_180 0 80 (dk_at dksX12_moves_0 1 rfl rfl)
theorem dX12_moves_4 : decode cX12_moves 4 = .ok (.iload_n 1, 1) := dk_27 (dk_at dksX12_moves_0 4 rfl rfl)
theorem dX12_moves_5 : decode cX12_moves 5 = .ok (.sipush 3900, 3) := dk_17 15 60 (dk_at dksX12_moves_0 5 rfl rfl)
theorem dX12_moves_8 : decode cX12_moves 8 = .ok (.imul, 1) := dk_104 (dk_at dksX12_moves_0 8 rfl rfl)
theorem dX12_moves_9 : decode cX12_moves 9 = .ok (.iload_n 2, 1) := dk_28 (dk_at dksX12_moves_0 9 rfl rfl)
theorem dX12_moves_10 : decode cX12_moves 10 = .ok (.iadd, 1) := dk_96 (dk_at dksX12_moves_0 10 rfl rfl)
theorem dX12_moves_11 : decode cX12_moves 11 = .ok (.iaload, 1) := dk_46 (dk_at dksX12_moves_0 11 rfl rfl)
theorem dX12_moves_12 : decode cX12_moves 12 = .ok (.istore_n 3, 1) := dk_62 (dk_at dksX12_moves_0 12 rfl rfl)
theorem dX12_moves_13 : decode cX12_moves 13 = .ok (.iload_n 3, 1) := dk_29 (dk_at dksX12_moves_0 13 rfl rfl)
theorem dX12_moves_14 : decode cX12_moves 14 = .ok (.ifCond .ne 7, 3) := dk_154 0 7 (dk_at dksX12_moves_0 14 rfl rfl)
theorem dX12_moves_17 : decode cX12_moves 17 = .ok (.iconst 1, 1) := dk_4 (dk_at dksX12_moves_0 17 rfl rfl)
theorem dX12_moves_18 : decode cX12_moves 18 = .ok (.goto 4, 3) := dk_167 0 4 (dk_at dksX12_moves_0 18 rfl rfl)
theorem dX12_moves_21 : decode cX12_moves 21 = .ok (.iload_n 3, 1) := dk_29 (dk_at dksX12_moves_0 21 rfl rfl)
theorem dX12_moves_22 : decode cX12_moves 22 = .ok (.ireturn, 1) := dk_172 (dk_at dksX12_moves_0 22 rfl rfl)
abbrev cX12_best : ByteArray := prog_27_method_67_code
def yX12_best : MethodName := ⟨RX12, "best", "([JIIIIIZ)I"⟩
def dkwX12_best_4 : List UInt8 := [21, 8, 172]
abbrev dktX12_best_4 : List UInt8 := dkwX12_best_4 ++ []
def dkwX12_best_3 : List UInt8 := [22, 9, 148, 157, 0, 6, 167, 0, 11, 21, 11, 54, 8, 22, 12, 55, 9, 132, 11, 1, 167, 255, 173]
abbrev dktX12_best_3 : List UInt8 := dkwX12_best_3 ++ dktX12_best_4
def dkwX12_best_2 : List UInt8 := [21, 8, 2, 159, 0, 30, 21, 7, 153, 0, 14, 22, 12, 22, 9, 148, 155, 0, 17, 167, 0, 22, 22, 12]
abbrev dktX12_best_2 : List UInt8 := dkwX12_best_2 ++ dktX12_best_3
def dkwX12_best_1 : List UInt8 := [4, 126, 154, 0, 6, 167, 0, 60, 42, 43, 28, 21, 4, 21, 5, 21, 6, 21, 11, 182, 1, 113, 55, 12]
abbrev dktX12_best_1 : List UInt8 := dkwX12_best_1 ++ dktX12_best_2
def dkwX12_best_0 : List UInt8 := [2, 54, 8, 9, 55, 9, 3, 54, 11, 21, 11, 42, 180, 0, 23, 4, 46, 163, 0, 78, 29, 21, 11, 122]
abbrev dktX12_best_0 : List UInt8 := dkwX12_best_0 ++ dktX12_best_1
theorem dksX12_best_0 : cX12_best.data.toList.drop 0 = dktX12_best_0 := by decide +kernel
theorem dksX12_best_1 : cX12_best.data.toList.drop 24 = dktX12_best_1 := dk_seg dksX12_best_0 24 rfl rfl
theorem dksX12_best_2 : cX12_best.data.toList.drop 48 = dktX12_best_2 := dk_seg dksX12_best_1 24 rfl rfl
theorem dksX12_best_3 : cX12_best.data.toList.drop 72 = dktX12_best_3 := dk_seg dksX12_best_2 24 rfl rfl
theorem dksX12_best_4 : cX12_best.data.toList.drop 95 = dktX12_best_4 := dk_seg dksX12_best_3 23 rfl rfl
theorem dX12_best_0 : decode cX12_best 0 = .ok (.iconst (-1), 1) := dk_2 (dk_at dksX12_best_0 0 rfl rfl)
theorem dX12_best_1 : decode cX12_best 1 = .ok (.istore 8, 2) := dk_54 8 (dk_at dksX12_best_0 1 rfl rfl)
theorem dX12_best_3 : decode cX12_best 3 = .ok (.lconst 0, 1) := dk_9 (dk_at dksX12_best_0 3 rfl rfl)
theorem dX12_best_4 : decode cX12_best 4 = .ok (.lstore 9, 2) := dk_55 9 (dk_at dksX12_best_0 4 rfl rfl)
theorem dX12_best_6 : decode cX12_best 6 = .ok (.iconst 0, 1) := dk_3 (dk_at dksX12_best_0 6 rfl rfl)
theorem dX12_best_7 : decode cX12_best 7 = .ok (.istore 11, 2) := dk_54 11 (dk_at dksX12_best_0 7 rfl rfl)
theorem dX12_best_9 : decode cX12_best 9 = .ok (.iload 11, 2) := dk_21 11 (dk_at dksX12_best_0 9 rfl rfl)
theorem dX12_best_11 : decode cX12_best 11 = .ok (.aload_n 0, 1) := dk_42 (dk_at dksX12_best_0 11 rfl rfl)
theorem dX12_best_12 : decode cX12_best 12 = .ok (.getfield 23, 3) := dk_180 0 23 (dk_at dksX12_best_0 12 rfl rfl)
theorem dX12_best_15 : decode cX12_best 15 = .ok (.iconst 1, 1) := dk_4 (dk_at dksX12_best_0 15 rfl rfl)
theorem dX12_best_16 : decode cX12_best 16 = .ok (.iaload, 1) := dk_46 (dk_at dksX12_best_0 16 rfl rfl)
theorem dX12_best_17 : decode cX12_best 17 = .ok (.if_icmp .gt 78, 3) := dk_163 0 78 (dk_at dksX12_best_0 17 rfl rfl)
theorem dX12_best_20 : decode cX12_best 20 = .ok (.iload_n 3, 1) := dk_29 (dk_at dksX12_best_0 20 rfl rfl)
theorem dX12_best_21 : decode cX12_best 21 = .ok (.iload 11, 2) := dk_21 11 (dk_at dksX12_best_0 21 rfl rfl)
theorem dX12_best_23 : decode cX12_best 23 = .ok (.ishr, 1) := dk_122 (dk_at dksX12_best_0 23 rfl rfl)
theorem dX12_best_24 : decode cX12_best 24 = .ok (.iconst 1, 1) := dk_4 (dk_at dksX12_best_1 0 rfl rfl)
theorem dX12_best_25 : decode cX12_best 25 = .ok (.iand, 1) := dk_126 (dk_at dksX12_best_1 1 rfl rfl)
theorem dX12_best_26 : decode cX12_best 26 = .ok (.ifCond .ne 6, 3) := dk_154 0 6 (dk_at dksX12_best_1 2 rfl rfl)
theorem dX12_best_29 : decode cX12_best 29 = .ok (.goto 60, 3) := dk_167 0 60 (dk_at dksX12_best_1 5 rfl rfl)
theorem dX12_best_32 : decode cX12_best 32 = .ok (.aload_n 0, 1) := dk_42 (dk_at dksX12_best_1 8 rfl rfl)
theorem dX12_best_33 : decode cX12_best 33 = .ok (.aload_n 1, 1) := dk_43 (dk_at dksX12_best_1 9 rfl rfl)
theorem dX12_best_34 : decode cX12_best 34 = .ok (.iload_n 2, 1) := dk_28 (dk_at dksX12_best_1 10 rfl rfl)
theorem dX12_best_35 : decode cX12_best 35 = .ok (.iload 4, 2) := dk_21 4 (dk_at dksX12_best_1 11 rfl rfl)
theorem dX12_best_37 : decode cX12_best 37 = .ok (.iload 5, 2) := dk_21 5 (dk_at dksX12_best_1 13 rfl rfl)
theorem dX12_best_39 : decode cX12_best 39 = .ok (.iload 6, 2) := dk_21 6 (dk_at dksX12_best_1 15 rfl rfl)
theorem dX12_best_41 : decode cX12_best 41 = .ok (.iload 11, 2) := dk_21 11 (dk_at dksX12_best_1 17 rfl rfl)
theorem dX12_best_43 : decode cX12_best 43 = .ok (.invokevirtual 369, 3) := dk_182 1 113 (dk_at dksX12_best_1 19 rfl rfl)
theorem dX12_best_46 : decode cX12_best 46 = .ok (.lstore 12, 2) := dk_55 12 (dk_at dksX12_best_1 22 rfl rfl)
theorem dX12_best_48 : decode cX12_best 48 = .ok (.iload 8, 2) := dk_21 8 (dk_at dksX12_best_2 0 rfl rfl)
theorem dX12_best_50 : decode cX12_best 50 = .ok (.iconst (-1), 1) := dk_2 (dk_at dksX12_best_2 2 rfl rfl)
theorem dX12_best_51 : decode cX12_best 51 = .ok (.if_icmp .eq 30, 3) := dk_159 0 30 (dk_at dksX12_best_2 3 rfl rfl)
theorem dX12_best_54 : decode cX12_best 54 = .ok (.iload 7, 2) := dk_21 7 (dk_at dksX12_best_2 6 rfl rfl)
theorem dX12_best_56 : decode cX12_best 56 = .ok (.ifCond .eq 14, 3) := dk_153 0 14 (dk_at dksX12_best_2 8 rfl rfl)
theorem dX12_best_59 : decode cX12_best 59 = .ok (.lload 12, 2) := dk_22 12 (dk_at dksX12_best_2 11 rfl rfl)
theorem dX12_best_61 : decode cX12_best 61 = .ok (.lload 9, 2) := dk_22 9 (dk_at dksX12_best_2 13 rfl rfl)
theorem dX12_best_63 : decode cX12_best 63 = .ok (.lcmp, 1) := dk_148 (dk_at dksX12_best_2 15 rfl rfl)
theorem dX12_best_64 : decode cX12_best 64 = .ok (.ifCond .lt 17, 3) := dk_155 0 17 (dk_at dksX12_best_2 16 rfl rfl)
theorem dX12_best_67 : decode cX12_best 67 = .ok (.goto 22, 3) := dk_167 0 22 (dk_at dksX12_best_2 19 rfl rfl)
theorem dX12_best_70 : decode cX12_best 70 = .ok (.lload 12, 2) := dk_22 12 (dk_at dksX12_best_2 22 rfl rfl)
theorem dX12_best_72 : decode cX12_best 72 = .ok (.lload 9, 2) := dk_22 9 (dk_at dksX12_best_3 0 rfl rfl)
theorem dX12_best_74 : decode cX12_best 74 = .ok (.lcmp, 1) := dk_148 (dk_at dksX12_best_3 2 rfl rfl)
theorem dX12_best_75 : decode cX12_best 75 = .ok (.ifCond .gt 6, 3) := dk_157 0 6 (dk_at dksX12_best_3 3 rfl rfl)
theorem dX12_best_78 : decode cX12_best 78 = .ok (.goto 11, 3) := dk_167 0 11 (dk_at dksX12_best_3 6 rfl rfl)
theorem dX12_best_81 : decode cX12_best 81 = .ok (.iload 11, 2) := dk_21 11 (dk_at dksX12_best_3 9 rfl rfl)
theorem dX12_best_83 : decode cX12_best 83 = .ok (.istore 8, 2) := dk_54 8 (dk_at dksX12_best_3 11 rfl rfl)
theorem dX12_best_85 : decode cX12_best 85 = .ok (.lload 12, 2) := dk_22 12 (dk_at dksX12_best_3 13 rfl rfl)
theorem dX12_best_87 : decode cX12_best 87 = .ok (.lstore 9, 2) := dk_55 9 (dk_at dksX12_best_3 15 rfl rfl)
theorem dX12_best_89 : decode cX12_best 89 = .ok (.iinc 11 1, 3) := dk_132 11 1 (dk_at dksX12_best_3 17 rfl rfl)
theorem dX12_best_92 : decode cX12_best 92 = .ok (.goto (-83), 3) := dk_167 255 173 (dk_at dksX12_best_3 20 rfl rfl)
theorem dX12_best_95 : decode cX12_best 95 = .ok (.iload 8, 2) := dk_21 8 (dk_at dksX12_best_4 0 rfl rfl)
theorem dX12_best_97 : decode cX12_best 97 = .ok (.ireturn, 1) := dk_172 (dk_at dksX12_best_4 2 rfl rfl)
abbrev cX12_brings : ByteArray := prog_27_method_65_code
def yX12_brings : MethodName := ⟨RX12, "brings", "([JIIIII)J"⟩
def dkwX12_brings_4 : List UInt8 := [104, 96, 29, 96, 46, 54, 11, 21, 11, 133, 22, 7, 105, 16, 16, 21, 11, 100, 133, 22, 9, 105, 97, 173]
abbrev dktX12_brings_4 : List UInt8 := dkwX12_brings_4 ++ []
def dkwX12_brings_3 : List UInt8 := [180, 0, 99, 29, 51, 154, 0, 6, 22, 9, 173, 42, 180, 0, 23, 17, 0, 132, 16, 24, 21, 6, 4, 100]
abbrev dktX12_brings_3 : List UInt8 := dkwX12_brings_3 ++ dktX12_brings_4
def dkwX12_brings_2 : List UInt8 := [21, 4, 21, 5, 42, 21, 6, 4, 100, 21, 4, 182, 1, 89, 182, 1, 110, 96, 47, 55, 9, 42]
abbrev dktX12_brings_2 : List UInt8 := dkwX12_brings_2 ++ dktX12_brings_3
def dkwX12_brings_1 : List UInt8 := [180, 0, 99, 29, 51, 153, 0, 12, 20, 1, 105, 22, 7, 105, 167, 0, 5, 22, 7, 173, 43, 28, 42, 29]
abbrev dktX12_brings_1 : List UInt8 := dkwX12_brings_1 ++ dktX12_brings_2
def dkwX12_brings_0 : List UInt8 := [43, 28, 42, 29, 21, 4, 21, 5, 21, 4, 182, 1, 110, 96, 47, 55, 7, 21, 6, 154, 0, 24, 42]
abbrev dktX12_brings_0 : List UInt8 := dkwX12_brings_0 ++ dktX12_brings_1
theorem dksX12_brings_0 : cX12_brings.data.toList.drop 0 = dktX12_brings_0 := by decide +kernel
theorem dksX12_brings_1 : cX12_brings.data.toList.drop 23 = dktX12_brings_1 := dk_seg dksX12_brings_0 23 rfl rfl
theorem dksX12_brings_2 : cX12_brings.data.toList.drop 47 = dktX12_brings_2 := dk_seg dksX12_brings_1 24 rfl rfl
theorem dksX12_brings_3 : cX12_brings.data.toList.drop 69 = dktX12_brings_3 := dk_seg dksX12_brings_2 22 rfl rfl
theorem dksX12_brings_4 : cX12_brings.data.toList.drop 93 = dktX12_brings_4 := dk_seg dksX12_brings_3 24 rfl rfl
theorem dX12_brings_0 : decode cX12_brings 0 = .ok (.aload_n 1, 1) := dk_43 (dk_at dksX12_brings_0 0 rfl rfl)
theorem dX12_brings_1 : decode cX12_brings 1 = .ok (.iload_n 2, 1) := dk_28 (dk_at dksX12_brings_0 1 rfl rfl)
theorem dX12_brings_2 : decode cX12_brings 2 = .ok (.aload_n 0, 1) := dk_42 (dk_at dksX12_brings_0 2 rfl rfl)
theorem dX12_brings_3 : decode cX12_brings 3 = .ok (.iload_n 3, 1) := dk_29 (dk_at dksX12_brings_0 3 rfl rfl)
theorem dX12_brings_4 : decode cX12_brings 4 = .ok (.iload 4, 2) := dk_21 4 (dk_at dksX12_brings_0 4 rfl rfl)
theorem dX12_brings_6 : decode cX12_brings 6 = .ok (.iload 5, 2) := dk_21 5 (dk_at dksX12_brings_0 6 rfl rfl)
theorem dX12_brings_8 : decode cX12_brings 8 = .ok (.iload 4, 2) := dk_21 4 (dk_at dksX12_brings_0 8 rfl rfl)
theorem dX12_brings_10 : decode cX12_brings 10 = .ok (.invokevirtual 366, 3) := dk_182 1 110 (dk_at dksX12_brings_0 10 rfl rfl)
theorem dX12_brings_13 : decode cX12_brings 13 = .ok (.iadd, 1) := dk_96 (dk_at dksX12_brings_0 13 rfl rfl)
theorem dX12_brings_14 : decode cX12_brings 14 = .ok (.laload, 1) := dk_47 (dk_at dksX12_brings_0 14 rfl rfl)
theorem dX12_brings_15 : decode cX12_brings 15 = .ok (.lstore 7, 2) := dk_55 7 (dk_at dksX12_brings_0 15 rfl rfl)
theorem dX12_brings_17 : decode cX12_brings 17 = .ok (.iload 6, 2) := dk_21 6 (dk_at dksX12_brings_0 17 rfl rfl)
theorem dX12_brings_19 : decode cX12_brings 19 = .ok (.ifCond .ne 24, 3) := dk_154 0 24 (dk_at dksX12_brings_0 19 rfl rfl)
theorem dX12_brings_22 : decode cX12_brings 22 = .ok (.aload_n 0, 1) := dk_42 (dk_at dksX12_brings_0 22 rfl rfl)
theorem dX12_brings_23 : decode cX12_brings 23 = .ok (.getfield 99, 3) := dk_180 0 99 (dk_at dksX12_brings_1 0 rfl rfl)
theorem dX12_brings_26 : decode cX12_brings 26 = .ok (.iload_n 3, 1) := dk_29 (dk_at dksX12_brings_1 3 rfl rfl)
theorem dX12_brings_27 : decode cX12_brings 27 = .ok (.baload, 1) := dk_51 (dk_at dksX12_brings_1 4 rfl rfl)
theorem dX12_brings_28 : decode cX12_brings 28 = .ok (.ifCond .eq 12, 3) := dk_153 0 12 (dk_at dksX12_brings_1 5 rfl rfl)
theorem dX12_brings_31 : decode cX12_brings 31 = .ok (.ldc2_w 361, 3) := dk_20 1 105 (dk_at dksX12_brings_1 8 rfl rfl)
theorem dX12_brings_34 : decode cX12_brings 34 = .ok (.lload 7, 2) := dk_22 7 (dk_at dksX12_brings_1 11 rfl rfl)
theorem dX12_brings_36 : decode cX12_brings 36 = .ok (.lmul, 1) := dk_105 (dk_at dksX12_brings_1 13 rfl rfl)
theorem dX12_brings_37 : decode cX12_brings 37 = .ok (.goto 5, 3) := dk_167 0 5 (dk_at dksX12_brings_1 14 rfl rfl)
theorem dX12_brings_40 : decode cX12_brings 40 = .ok (.lload 7, 2) := dk_22 7 (dk_at dksX12_brings_1 17 rfl rfl)
theorem dX12_brings_42 : decode cX12_brings 42 = .ok (.lreturn, 1) := dk_173 (dk_at dksX12_brings_1 19 rfl rfl)
theorem dX12_brings_43 : decode cX12_brings 43 = .ok (.aload_n 1, 1) := dk_43 (dk_at dksX12_brings_1 20 rfl rfl)
theorem dX12_brings_44 : decode cX12_brings 44 = .ok (.iload_n 2, 1) := dk_28 (dk_at dksX12_brings_1 21 rfl rfl)
theorem dX12_brings_45 : decode cX12_brings 45 = .ok (.aload_n 0, 1) := dk_42 (dk_at dksX12_brings_1 22 rfl rfl)
theorem dX12_brings_46 : decode cX12_brings 46 = .ok (.iload_n 3, 1) := dk_29 (dk_at dksX12_brings_1 23 rfl rfl)
theorem dX12_brings_47 : decode cX12_brings 47 = .ok (.iload 4, 2) := dk_21 4 (dk_at dksX12_brings_2 0 rfl rfl)
theorem dX12_brings_49 : decode cX12_brings 49 = .ok (.iload 5, 2) := dk_21 5 (dk_at dksX12_brings_2 2 rfl rfl)
theorem dX12_brings_51 : decode cX12_brings 51 = .ok (.aload_n 0, 1) := dk_42 (dk_at dksX12_brings_2 4 rfl rfl)
theorem dX12_brings_52 : decode cX12_brings 52 = .ok (.iload 6, 2) := dk_21 6 (dk_at dksX12_brings_2 5 rfl rfl)
theorem dX12_brings_54 : decode cX12_brings 54 = .ok (.iconst 1, 1) := dk_4 (dk_at dksX12_brings_2 7 rfl rfl)
theorem dX12_brings_55 : decode cX12_brings 55 = .ok (.isub, 1) := dk_100 (dk_at dksX12_brings_2 8 rfl rfl)
theorem dX12_brings_56 : decode cX12_brings 56 = .ok (.iload 4, 2) := dk_21 4 (dk_at dksX12_brings_2 9 rfl rfl)
theorem dX12_brings_58 : decode cX12_brings 58 = .ok (.invokevirtual 345, 3) := dk_182 1 89 (dk_at dksX12_brings_2 11 rfl rfl)
theorem dX12_brings_61 : decode cX12_brings 61 = .ok (.invokevirtual 366, 3) := dk_182 1 110 (dk_at dksX12_brings_2 14 rfl rfl)
theorem dX12_brings_64 : decode cX12_brings 64 = .ok (.iadd, 1) := dk_96 (dk_at dksX12_brings_2 17 rfl rfl)
theorem dX12_brings_65 : decode cX12_brings 65 = .ok (.laload, 1) := dk_47 (dk_at dksX12_brings_2 18 rfl rfl)
theorem dX12_brings_66 : decode cX12_brings 66 = .ok (.lstore 9, 2) := dk_55 9 (dk_at dksX12_brings_2 19 rfl rfl)
theorem dX12_brings_68 : decode cX12_brings 68 = .ok (.aload_n 0, 1) := dk_42 (dk_at dksX12_brings_2 21 rfl rfl)
theorem dX12_brings_69 : decode cX12_brings 69 = .ok (.getfield 99, 3) := dk_180 0 99 (dk_at dksX12_brings_3 0 rfl rfl)
theorem dX12_brings_72 : decode cX12_brings 72 = .ok (.iload_n 3, 1) := dk_29 (dk_at dksX12_brings_3 3 rfl rfl)
theorem dX12_brings_73 : decode cX12_brings 73 = .ok (.baload, 1) := dk_51 (dk_at dksX12_brings_3 4 rfl rfl)
theorem dX12_brings_74 : decode cX12_brings 74 = .ok (.ifCond .ne 6, 3) := dk_154 0 6 (dk_at dksX12_brings_3 5 rfl rfl)
theorem dX12_brings_77 : decode cX12_brings 77 = .ok (.lload 9, 2) := dk_22 9 (dk_at dksX12_brings_3 8 rfl rfl)
theorem dX12_brings_79 : decode cX12_brings 79 = .ok (.lreturn, 1) := dk_173 (dk_at dksX12_brings_3 10 rfl rfl)
theorem dX12_brings_80 : decode cX12_brings 80 = .ok (.aload_n 0, 1) := dk_42 (dk_at dksX12_brings_3 11 rfl rfl)
theorem dX12_brings_81 : decode cX12_brings 81 = .ok (.getfield 23, 3) := dk_180 0 23 (dk_at dksX12_brings_3 12 rfl rfl)
theorem dX12_brings_84 : decode cX12_brings 84 = .ok (.sipush 132, 3) := dk_17 0 132 (dk_at dksX12_brings_3 15 rfl rfl)
theorem dX12_brings_87 : decode cX12_brings 87 = .ok (.bipush 24, 2) := dk_16 24 (dk_at dksX12_brings_3 18 rfl rfl)
theorem dX12_brings_89 : decode cX12_brings 89 = .ok (.iload 6, 2) := dk_21 6 (dk_at dksX12_brings_3 20 rfl rfl)
theorem dX12_brings_91 : decode cX12_brings 91 = .ok (.iconst 1, 1) := dk_4 (dk_at dksX12_brings_3 22 rfl rfl)
theorem dX12_brings_92 : decode cX12_brings 92 = .ok (.isub, 1) := dk_100 (dk_at dksX12_brings_3 23 rfl rfl)
theorem dX12_brings_93 : decode cX12_brings 93 = .ok (.imul, 1) := dk_104 (dk_at dksX12_brings_4 0 rfl rfl)
theorem dX12_brings_94 : decode cX12_brings 94 = .ok (.iadd, 1) := dk_96 (dk_at dksX12_brings_4 1 rfl rfl)
theorem dX12_brings_95 : decode cX12_brings 95 = .ok (.iload_n 3, 1) := dk_29 (dk_at dksX12_brings_4 2 rfl rfl)
theorem dX12_brings_96 : decode cX12_brings 96 = .ok (.iadd, 1) := dk_96 (dk_at dksX12_brings_4 3 rfl rfl)
theorem dX12_brings_97 : decode cX12_brings 97 = .ok (.iaload, 1) := dk_46 (dk_at dksX12_brings_4 4 rfl rfl)
theorem dX12_brings_98 : decode cX12_brings 98 = .ok (.istore 11, 2) := dk_54 11 (dk_at dksX12_brings_4 5 rfl rfl)
theorem dX12_brings_100 : decode cX12_brings 100 = .ok (.iload 11, 2) := dk_21 11 (dk_at dksX12_brings_4 7 rfl rfl)
theorem dX12_brings_102 : decode cX12_brings 102 = .ok (.i2l, 1) := dk_133 (dk_at dksX12_brings_4 9 rfl rfl)
theorem dX12_brings_103 : decode cX12_brings 103 = .ok (.lload 7, 2) := dk_22 7 (dk_at dksX12_brings_4 10 rfl rfl)
theorem dX12_brings_105 : decode cX12_brings 105 = .ok (.lmul, 1) := dk_105 (dk_at dksX12_brings_4 12 rfl rfl)
theorem dX12_brings_106 : decode cX12_brings 106 = .ok (.bipush 16, 2) := dk_16 16 (dk_at dksX12_brings_4 13 rfl rfl)
theorem dX12_brings_108 : decode cX12_brings 108 = .ok (.iload 11, 2) := dk_21 11 (dk_at dksX12_brings_4 15 rfl rfl)
theorem dX12_brings_110 : decode cX12_brings 110 = .ok (.isub, 1) := dk_100 (dk_at dksX12_brings_4 17 rfl rfl)
theorem dX12_brings_111 : decode cX12_brings 111 = .ok (.i2l, 1) := dk_133 (dk_at dksX12_brings_4 18 rfl rfl)
theorem dX12_brings_112 : decode cX12_brings 112 = .ok (.lload 9, 2) := dk_22 9 (dk_at dksX12_brings_4 19 rfl rfl)
theorem dX12_brings_114 : decode cX12_brings 114 = .ok (.lmul, 1) := dk_105 (dk_at dksX12_brings_4 21 rfl rfl)
theorem dX12_brings_115 : decode cX12_brings 115 = .ok (.ladd, 1) := dk_97 (dk_at dksX12_brings_4 22 rfl rfl)
theorem dX12_brings_116 : decode cX12_brings 116 = .ok (.lreturn, 1) := dk_173 (dk_at dksX12_brings_4 23 rfl rfl)
abbrev cX12_behind : ByteArray := prog_27_method_64_code
def yX12_behind : MethodName := ⟨RX12, "behind", "(IIII)I"⟩
def dkwX12_behind_1 : List UInt8 := [167, 0, 6, 29, 4, 100, 184, 1, 98, 172]
abbrev dktX12_behind_1 : List UInt8 := dkwX12_behind_1 ++ []
def dkwX12_behind_0 : List UInt8 := [27, 4, 96, 21, 4, 42, 180, 0, 23, 16, 7, 21, 4, 96, 46, 4, 160, 0, 10, 42, 180, 1, 92]
abbrev dktX12_behind_0 : List UInt8 := dkwX12_behind_0 ++ dktX12_behind_1
theorem dksX12_behind_0 : cX12_behind.data.toList.drop 0 = dktX12_behind_0 := by decide +kernel
theorem dksX12_behind_1 : cX12_behind.data.toList.drop 23 = dktX12_behind_1 := dk_seg dksX12_behind_0 23 rfl rfl
theorem dX12_behind_0 : decode cX12_behind 0 = .ok (.iload_n 1, 1) := dk_27 (dk_at dksX12_behind_0 0 rfl rfl)
theorem dX12_behind_1 : decode cX12_behind 1 = .ok (.iconst 1, 1) := dk_4 (dk_at dksX12_behind_0 1 rfl rfl)
theorem dX12_behind_2 : decode cX12_behind 2 = .ok (.iadd, 1) := dk_96 (dk_at dksX12_behind_0 2 rfl rfl)
theorem dX12_behind_3 : decode cX12_behind 3 = .ok (.iload 4, 2) := dk_21 4 (dk_at dksX12_behind_0 3 rfl rfl)
theorem dX12_behind_5 : decode cX12_behind 5 = .ok (.aload_n 0, 1) := dk_42 (dk_at dksX12_behind_0 5 rfl rfl)
theorem dX12_behind_6 : decode cX12_behind 6 = .ok (.getfield 23, 3) := dk_180 0 23 (dk_at dksX12_behind_0 6 rfl rfl)
theorem dX12_behind_9 : decode cX12_behind 9 = .ok (.bipush 7, 2) := dk_16 7 (dk_at dksX12_behind_0 9 rfl rfl)
theorem dX12_behind_11 : decode cX12_behind 11 = .ok (.iload 4, 2) := dk_21 4 (dk_at dksX12_behind_0 11 rfl rfl)
theorem dX12_behind_13 : decode cX12_behind 13 = .ok (.iadd, 1) := dk_96 (dk_at dksX12_behind_0 13 rfl rfl)
theorem dX12_behind_14 : decode cX12_behind 14 = .ok (.iaload, 1) := dk_46 (dk_at dksX12_behind_0 14 rfl rfl)
theorem dX12_behind_15 : decode cX12_behind 15 = .ok (.iconst 1, 1) := dk_4 (dk_at dksX12_behind_0 15 rfl rfl)
theorem dX12_behind_16 : decode cX12_behind 16 = .ok (.if_icmp .ne 10, 3) := dk_160 0 10 (dk_at dksX12_behind_0 16 rfl rfl)
theorem dX12_behind_19 : decode cX12_behind 19 = .ok (.aload_n 0, 1) := dk_42 (dk_at dksX12_behind_0 19 rfl rfl)
theorem dX12_behind_20 : decode cX12_behind 20 = .ok (.getfield 348, 3) := dk_180 1 92 (dk_at dksX12_behind_0 20 rfl rfl)
theorem dX12_behind_23 : decode cX12_behind 23 = .ok (.goto 6, 3) := dk_167 0 6 (dk_at dksX12_behind_1 0 rfl rfl)
theorem dX12_behind_26 : decode cX12_behind 26 = .ok (.iload_n 3, 1) := dk_29 (dk_at dksX12_behind_1 3 rfl rfl)
theorem dX12_behind_27 : decode cX12_behind 27 = .ok (.iconst 1, 1) := dk_4 (dk_at dksX12_behind_1 4 rfl rfl)
theorem dX12_behind_28 : decode cX12_behind 28 = .ok (.isub, 1) := dk_100 (dk_at dksX12_behind_1 5 rfl rfl)
theorem dX12_behind_29 : decode cX12_behind 29 = .ok (.invokestatic 354, 3) := dk_184 1 98 (dk_at dksX12_behind_1 6 rfl rfl)
theorem dX12_behind_32 : decode cX12_behind 32 = .ok (.ireturn, 1) := dk_172 (dk_at dksX12_behind_1 9 rfl rfl)
abbrev cX12_takes : ByteArray := prog_27_method_84_code
def yX12_takes : MethodName := ⟨RX12, "takes", "(III)I"⟩
def dkwX12_takes_1 : List UInt8 := [182, 0, 226, 154, 0, 5, 3, 172, 42, 182, 1, 174, 42, 180, 0, 83, 28, 27, 29, 184, 1, 98, 46, 172]
abbrev dktX12_takes_1 : List UInt8 := dkwX12_takes_1 ++ []
def dkwX12_takes_0 : List UInt8 := [42, 3, 181, 0, 1, 42, 5, 182, 1, 75, 153, 0, 19, 42, 42, 27, 28, 29, 182, 1, 171, 4, 5]
abbrev dktX12_takes_0 : List UInt8 := dkwX12_takes_0 ++ dktX12_takes_1
theorem dksX12_takes_0 : cX12_takes.data.toList.drop 0 = dktX12_takes_0 := by decide +kernel
theorem dksX12_takes_1 : cX12_takes.data.toList.drop 23 = dktX12_takes_1 := dk_seg dksX12_takes_0 23 rfl rfl
theorem dX12_takes_0 : decode cX12_takes 0 = .ok (.aload_n 0, 1) := dk_42 (dk_at dksX12_takes_0 0 rfl rfl)
theorem dX12_takes_1 : decode cX12_takes 1 = .ok (.iconst 0, 1) := dk_3 (dk_at dksX12_takes_0 1 rfl rfl)
theorem dX12_takes_2 : decode cX12_takes 2 = .ok (.putfield 1, 3) := dk_181 0 1 (dk_at dksX12_takes_0 2 rfl rfl)
theorem dX12_takes_5 : decode cX12_takes 5 = .ok (.aload_n 0, 1) := dk_42 (dk_at dksX12_takes_0 5 rfl rfl)
theorem dX12_takes_6 : decode cX12_takes 6 = .ok (.iconst 2, 1) := dk_5 (dk_at dksX12_takes_0 6 rfl rfl)
theorem dX12_takes_7 : decode cX12_takes 7 = .ok (.invokevirtual 331, 3) := dk_182 1 75 (dk_at dksX12_takes_0 7 rfl rfl)
theorem dX12_takes_10 : decode cX12_takes 10 = .ok (.ifCond .eq 19, 3) := dk_153 0 19 (dk_at dksX12_takes_0 10 rfl rfl)
theorem dX12_takes_13 : decode cX12_takes 13 = .ok (.aload_n 0, 1) := dk_42 (dk_at dksX12_takes_0 13 rfl rfl)
theorem dX12_takes_14 : decode cX12_takes 14 = .ok (.aload_n 0, 1) := dk_42 (dk_at dksX12_takes_0 14 rfl rfl)
theorem dX12_takes_15 : decode cX12_takes 15 = .ok (.iload_n 1, 1) := dk_27 (dk_at dksX12_takes_0 15 rfl rfl)
theorem dX12_takes_16 : decode cX12_takes 16 = .ok (.iload_n 2, 1) := dk_28 (dk_at dksX12_takes_0 16 rfl rfl)
theorem dX12_takes_17 : decode cX12_takes 17 = .ok (.iload_n 3, 1) := dk_29 (dk_at dksX12_takes_0 17 rfl rfl)
theorem dX12_takes_18 : decode cX12_takes 18 = .ok (.invokevirtual 427, 3) := dk_182 1 171 (dk_at dksX12_takes_0 18 rfl rfl)
theorem dX12_takes_21 : decode cX12_takes 21 = .ok (.iconst 1, 1) := dk_4 (dk_at dksX12_takes_0 21 rfl rfl)
theorem dX12_takes_22 : decode cX12_takes 22 = .ok (.iconst 2, 1) := dk_5 (dk_at dksX12_takes_0 22 rfl rfl)
theorem dX12_takes_23 : decode cX12_takes 23 = .ok (.invokevirtual 226, 3) := dk_182 0 226 (dk_at dksX12_takes_1 0 rfl rfl)
theorem dX12_takes_26 : decode cX12_takes 26 = .ok (.ifCond .ne 5, 3) := dk_154 0 5 (dk_at dksX12_takes_1 3 rfl rfl)
theorem dX12_takes_29 : decode cX12_takes 29 = .ok (.iconst 0, 1) := dk_3 (dk_at dksX12_takes_1 6 rfl rfl)
theorem dX12_takes_30 : decode cX12_takes 30 = .ok (.ireturn, 1) := dk_172 (dk_at dksX12_takes_1 7 rfl rfl)
theorem dX12_takes_31 : decode cX12_takes 31 = .ok (.aload_n 0, 1) := dk_42 (dk_at dksX12_takes_1 8 rfl rfl)
theorem dX12_takes_32 : decode cX12_takes 32 = .ok (.invokevirtual 430, 3) := dk_182 1 174 (dk_at dksX12_takes_1 9 rfl rfl)
theorem dX12_takes_35 : decode cX12_takes 35 = .ok (.aload_n 0, 1) := dk_42 (dk_at dksX12_takes_1 12 rfl rfl)
theorem dX12_takes_36 : decode cX12_takes 36 = .ok (.getfield 83, 3) := dk_180 0 83 (dk_at dksX12_takes_1 13 rfl rfl)
theorem dX12_takes_39 : decode cX12_takes 39 = .ok (.iload_n 2, 1) := dk_28 (dk_at dksX12_takes_1 16 rfl rfl)
theorem dX12_takes_40 : decode cX12_takes 40 = .ok (.iload_n 1, 1) := dk_27 (dk_at dksX12_takes_1 17 rfl rfl)
theorem dX12_takes_41 : decode cX12_takes 41 = .ok (.iload_n 3, 1) := dk_29 (dk_at dksX12_takes_1 18 rfl rfl)
theorem dX12_takes_42 : decode cX12_takes 42 = .ok (.invokestatic 354, 3) := dk_184 1 98 (dk_at dksX12_takes_1 19 rfl rfl)
theorem dX12_takes_45 : decode cX12_takes 45 = .ok (.iaload, 1) := dk_46 (dk_at dksX12_takes_1 22 rfl rfl)
theorem dX12_takes_46 : decode cX12_takes 46 = .ok (.ireturn, 1) := dk_172 (dk_at dksX12_takes_1 23 rfl rfl)
abbrev cX12_asItIs : ByteArray := prog_27_method_77_code
def yX12_asItIs : MethodName := ⟨RX12, "asItIs", "()V"⟩
def dkwX12_asItIs_0 : List UInt8 := [42, 182, 1, 155, 42, 182, 1, 158, 177]
abbrev dktX12_asItIs_0 : List UInt8 := dkwX12_asItIs_0 ++ []
theorem dksX12_asItIs_0 : cX12_asItIs.data.toList.drop 0 = dktX12_asItIs_0 := by decide +kernel
theorem dX12_asItIs_0 : decode cX12_asItIs 0 = .ok (.aload_n 0, 1) := dk_42 (dk_at dksX12_asItIs_0 0 rfl rfl)
theorem dX12_asItIs_1 : decode cX12_asItIs 1 = .ok (.invokevirtual 411, 3) := dk_182 1 155 (dk_at dksX12_asItIs_0 1 rfl rfl)
theorem dX12_asItIs_4 : decode cX12_asItIs 4 = .ok (.aload_n 0, 1) := dk_42 (dk_at dksX12_asItIs_0 4 rfl rfl)
theorem dX12_asItIs_5 : decode cX12_asItIs 5 = .ok (.invokevirtual 414, 3) := dk_182 1 158 (dk_at dksX12_asItIs_0 5 rfl rfl)
theorem dX12_asItIs_8 : decode cX12_asItIs 8 = .ok (.return_, 1) := dk_177 (dk_at dksX12_asItIs_0 8 rfl rfl)
abbrev cX12_plays : ByteArray := prog_27_method_75_code
def yX12_plays : MethodName := ⟨RX12, "plays", "()V"⟩
def dkwX12_plays_9 : List UInt8 := [132, 1, 255, 167, 255, 81, 177]
abbrev dktX12_plays_9 : List UInt8 := dkwX12_plays_9 ++ []
def dkwX12_plays_8 : List UInt8 := [182, 1, 113, 80, 132, 6, 1, 167, 255, 186, 132, 3, 1, 167, 255, 111, 132, 2, 1, 167, 255, 93]
abbrev dktX12_plays_8 : List UInt8 := dkwX12_plays_8 ++ dktX12_plays_9
def dkwX12_plays_7 : List UInt8 := [167, 0, 27, 42, 42, 180, 0, 90, 21, 6, 17, 15, 60, 104, 27, 28, 29, 42, 180, 0, 83, 21, 4, 46]
abbrev dktX12_plays_7 : List UInt8 := dkwX12_plays_7 ++ dktX12_plays_8
def dkwX12_plays_6 : List UInt8 := [21, 6, 17, 15, 60, 104, 21, 4, 96, 21, 5, 153, 0, 16, 42, 21, 6, 27, 28, 21, 5, 182, 1, 117]
abbrev dktX12_plays_6 : List UInt8 := dkwX12_plays_6 ++ dktX12_plays_7
def dkwX12_plays_5 : List UInt8 := [29, 182, 1, 148, 79, 3, 54, 6, 21, 6, 42, 180, 0, 23, 5, 46, 162, 0, 65, 42, 180, 0, 90]
abbrev dktX12_plays_5 : List UInt8 := dkwX12_plays_5 ++ dktX12_plays_6
def dkwX12_plays_4 : List UInt8 := [167, 0, 28, 42, 42, 180, 0, 65, 27, 46, 42, 42, 180, 0, 65, 27, 46, 21, 4, 182, 1, 121, 27, 28]
abbrev dktX12_plays_4 : List UInt8 := dkwX12_plays_4 ++ dktX12_plays_5
def dkwX12_plays_3 : List UInt8 := [54, 4, 42, 27, 28, 29, 182, 1, 94, 54, 5, 42, 180, 0, 83, 21, 4, 21, 5, 153, 0, 7, 2]
abbrev dktX12_plays_3 : List UInt8 := dkwX12_plays_3 ++ dktX12_plays_4
def dkwX12_plays_2 : List UInt8 := [180, 0, 23, 3, 46, 162, 0, 159, 3, 62, 29, 42, 180, 1, 92, 163, 0, 143, 27, 28, 29, 184, 1, 98]
abbrev dktX12_plays_2 : List UInt8 := dkwX12_plays_2 ++ dktX12_plays_3
def dkwX12_plays_1 : List UInt8 := [182, 1, 145, 132, 1, 1, 167, 255, 228, 42, 180, 0, 23, 6, 46, 60, 27, 155, 0, 177, 3, 61, 28, 42]
abbrev dktX12_plays_1 : List UInt8 := dkwX12_plays_1 ++ dktX12_plays_2
def dkwX12_plays_0 : List UInt8 := [3, 60, 27, 42, 180, 0, 23, 5, 46, 162, 0, 24, 42, 180, 0, 68, 27, 46, 7, 160, 0, 8, 42, 27]
abbrev dktX12_plays_0 : List UInt8 := dkwX12_plays_0 ++ dktX12_plays_1
theorem dksX12_plays_0 : cX12_plays.data.toList.drop 0 = dktX12_plays_0 := by decide +kernel
theorem dksX12_plays_1 : cX12_plays.data.toList.drop 24 = dktX12_plays_1 := dk_seg dksX12_plays_0 24 rfl rfl
theorem dksX12_plays_2 : cX12_plays.data.toList.drop 48 = dktX12_plays_2 := dk_seg dksX12_plays_1 24 rfl rfl
theorem dksX12_plays_3 : cX12_plays.data.toList.drop 72 = dktX12_plays_3 := dk_seg dksX12_plays_2 24 rfl rfl
theorem dksX12_plays_4 : cX12_plays.data.toList.drop 95 = dktX12_plays_4 := dk_seg dksX12_plays_3 23 rfl rfl
theorem dksX12_plays_5 : cX12_plays.data.toList.drop 119 = dktX12_plays_5 := dk_seg dksX12_plays_4 24 rfl rfl
theorem dksX12_plays_6 : cX12_plays.data.toList.drop 142 = dktX12_plays_6 := dk_seg dksX12_plays_5 23 rfl rfl
theorem dksX12_plays_7 : cX12_plays.data.toList.drop 166 = dktX12_plays_7 := dk_seg dksX12_plays_6 24 rfl rfl
theorem dksX12_plays_8 : cX12_plays.data.toList.drop 190 = dktX12_plays_8 := dk_seg dksX12_plays_7 24 rfl rfl
theorem dksX12_plays_9 : cX12_plays.data.toList.drop 212 = dktX12_plays_9 := dk_seg dksX12_plays_8 22 rfl rfl
theorem dX12_plays_0 : decode cX12_plays 0 = .ok (.iconst 0, 1) := dk_3 (dk_at dksX12_plays_0 0 rfl rfl)
theorem dX12_plays_1 : decode cX12_plays 1 = .ok (.istore_n 1, 1) := dk_60 (dk_at dksX12_plays_0 1 rfl rfl)
theorem dX12_plays_2 : decode cX12_plays 2 = .ok (.iload_n 1, 1) := dk_27 (dk_at dksX12_plays_0 2 rfl rfl)
theorem dX12_plays_3 : decode cX12_plays 3 = .ok (.aload_n 0, 1) := dk_42 (dk_at dksX12_plays_0 3 rfl rfl)
theorem dX12_plays_4 : decode cX12_plays 4 = .ok (.getfield 23, 3) := dk_180 0 23 (dk_at dksX12_plays_0 4 rfl rfl)
theorem dX12_plays_7 : decode cX12_plays 7 = .ok (.iconst 2, 1) := dk_5 (dk_at dksX12_plays_0 7 rfl rfl)
theorem dX12_plays_8 : decode cX12_plays 8 = .ok (.iaload, 1) := dk_46 (dk_at dksX12_plays_0 8 rfl rfl)
theorem dX12_plays_9 : decode cX12_plays 9 = .ok (.if_icmp .ge 24, 3) := dk_162 0 24 (dk_at dksX12_plays_0 9 rfl rfl)
theorem dX12_plays_12 : decode cX12_plays 12 = .ok (.aload_n 0, 1) := dk_42 (dk_at dksX12_plays_0 12 rfl rfl)
theorem dX12_plays_13 : decode cX12_plays 13 = .ok (.getfield 68, 3) := dk_180 0 68 (dk_at dksX12_plays_0 13 rfl rfl)
theorem dX12_plays_16 : decode cX12_plays 16 = .ok (.iload_n 1, 1) := dk_27 (dk_at dksX12_plays_0 16 rfl rfl)
theorem dX12_plays_17 : decode cX12_plays 17 = .ok (.iaload, 1) := dk_46 (dk_at dksX12_plays_0 17 rfl rfl)
theorem dX12_plays_18 : decode cX12_plays 18 = .ok (.iconst 4, 1) := dk_7 (dk_at dksX12_plays_0 18 rfl rfl)
theorem dX12_plays_19 : decode cX12_plays 19 = .ok (.if_icmp .ne 8, 3) := dk_160 0 8 (dk_at dksX12_plays_0 19 rfl rfl)
theorem dX12_plays_22 : decode cX12_plays 22 = .ok (.aload_n 0, 1) := dk_42 (dk_at dksX12_plays_0 22 rfl rfl)
theorem dX12_plays_23 : decode cX12_plays 23 = .ok (.iload_n 1, 1) := dk_27 (dk_at dksX12_plays_0 23 rfl rfl)
theorem dX12_plays_24 : decode cX12_plays 24 = .ok (.invokevirtual 401, 3) := dk_182 1 145 (dk_at dksX12_plays_1 0 rfl rfl)
theorem dX12_plays_27 : decode cX12_plays 27 = .ok (.iinc 1 1, 3) := dk_132 1 1 (dk_at dksX12_plays_1 3 rfl rfl)
theorem dX12_plays_30 : decode cX12_plays 30 = .ok (.goto (-28), 3) := dk_167 255 228 (dk_at dksX12_plays_1 6 rfl rfl)
theorem dX12_plays_33 : decode cX12_plays 33 = .ok (.aload_n 0, 1) := dk_42 (dk_at dksX12_plays_1 9 rfl rfl)
theorem dX12_plays_34 : decode cX12_plays 34 = .ok (.getfield 23, 3) := dk_180 0 23 (dk_at dksX12_plays_1 10 rfl rfl)
theorem dX12_plays_37 : decode cX12_plays 37 = .ok (.iconst 3, 1) := dk_6 (dk_at dksX12_plays_1 13 rfl rfl)
theorem dX12_plays_38 : decode cX12_plays 38 = .ok (.iaload, 1) := dk_46 (dk_at dksX12_plays_1 14 rfl rfl)
theorem dX12_plays_39 : decode cX12_plays 39 = .ok (.istore_n 1, 1) := dk_60 (dk_at dksX12_plays_1 15 rfl rfl)
theorem dX12_plays_40 : decode cX12_plays 40 = .ok (.iload_n 1, 1) := dk_27 (dk_at dksX12_plays_1 16 rfl rfl)
theorem dX12_plays_41 : decode cX12_plays 41 = .ok (.ifCond .lt 177, 3) := dk_155 0 177 (dk_at dksX12_plays_1 17 rfl rfl)
theorem dX12_plays_44 : decode cX12_plays 44 = .ok (.iconst 0, 1) := dk_3 (dk_at dksX12_plays_1 20 rfl rfl)
theorem dX12_plays_45 : decode cX12_plays 45 = .ok (.istore_n 2, 1) := dk_61 (dk_at dksX12_plays_1 21 rfl rfl)
theorem dX12_plays_46 : decode cX12_plays 46 = .ok (.iload_n 2, 1) := dk_28 (dk_at dksX12_plays_1 22 rfl rfl)
theorem dX12_plays_47 : decode cX12_plays 47 = .ok (.aload_n 0, 1) := dk_42 (dk_at dksX12_plays_1 23 rfl rfl)
theorem dX12_plays_48 : decode cX12_plays 48 = .ok (.getfield 23, 3) := dk_180 0 23 (dk_at dksX12_plays_2 0 rfl rfl)
theorem dX12_plays_51 : decode cX12_plays 51 = .ok (.iconst 0, 1) := dk_3 (dk_at dksX12_plays_2 3 rfl rfl)
theorem dX12_plays_52 : decode cX12_plays 52 = .ok (.iaload, 1) := dk_46 (dk_at dksX12_plays_2 4 rfl rfl)
theorem dX12_plays_53 : decode cX12_plays 53 = .ok (.if_icmp .ge 159, 3) := dk_162 0 159 (dk_at dksX12_plays_2 5 rfl rfl)
theorem dX12_plays_56 : decode cX12_plays 56 = .ok (.iconst 0, 1) := dk_3 (dk_at dksX12_plays_2 8 rfl rfl)
theorem dX12_plays_57 : decode cX12_plays 57 = .ok (.istore_n 3, 1) := dk_62 (dk_at dksX12_plays_2 9 rfl rfl)
theorem dX12_plays_58 : decode cX12_plays 58 = .ok (.iload_n 3, 1) := dk_29 (dk_at dksX12_plays_2 10 rfl rfl)
theorem dX12_plays_59 : decode cX12_plays 59 = .ok (.aload_n 0, 1) := dk_42 (dk_at dksX12_plays_2 11 rfl rfl)
theorem dX12_plays_60 : decode cX12_plays 60 = .ok (.getfield 348, 3) := dk_180 1 92 (dk_at dksX12_plays_2 12 rfl rfl)
theorem dX12_plays_63 : decode cX12_plays 63 = .ok (.if_icmp .gt 143, 3) := dk_163 0 143 (dk_at dksX12_plays_2 15 rfl rfl)
theorem dX12_plays_66 : decode cX12_plays 66 = .ok (.iload_n 1, 1) := dk_27 (dk_at dksX12_plays_2 18 rfl rfl)
theorem dX12_plays_67 : decode cX12_plays 67 = .ok (.iload_n 2, 1) := dk_28 (dk_at dksX12_plays_2 19 rfl rfl)
theorem dX12_plays_68 : decode cX12_plays 68 = .ok (.iload_n 3, 1) := dk_29 (dk_at dksX12_plays_2 20 rfl rfl)
theorem dX12_plays_69 : decode cX12_plays 69 = .ok (.invokestatic 354, 3) := dk_184 1 98 (dk_at dksX12_plays_2 21 rfl rfl)
theorem dX12_plays_72 : decode cX12_plays 72 = .ok (.istore 4, 2) := dk_54 4 (dk_at dksX12_plays_3 0 rfl rfl)
theorem dX12_plays_74 : decode cX12_plays 74 = .ok (.aload_n 0, 1) := dk_42 (dk_at dksX12_plays_3 2 rfl rfl)
theorem dX12_plays_75 : decode cX12_plays 75 = .ok (.iload_n 1, 1) := dk_27 (dk_at dksX12_plays_3 3 rfl rfl)
theorem dX12_plays_76 : decode cX12_plays 76 = .ok (.iload_n 2, 1) := dk_28 (dk_at dksX12_plays_3 4 rfl rfl)
theorem dX12_plays_77 : decode cX12_plays 77 = .ok (.iload_n 3, 1) := dk_29 (dk_at dksX12_plays_3 5 rfl rfl)
theorem dX12_plays_78 : decode cX12_plays 78 = .ok (.invokevirtual 350, 3) := dk_182 1 94 (dk_at dksX12_plays_3 6 rfl rfl)
theorem dX12_plays_81 : decode cX12_plays 81 = .ok (.istore 5, 2) := dk_54 5 (dk_at dksX12_plays_3 9 rfl rfl)
theorem dX12_plays_83 : decode cX12_plays 83 = .ok (.aload_n 0, 1) := dk_42 (dk_at dksX12_plays_3 11 rfl rfl)
theorem dX12_plays_84 : decode cX12_plays 84 = .ok (.getfield 83, 3) := dk_180 0 83 (dk_at dksX12_plays_3 12 rfl rfl)
theorem dX12_plays_87 : decode cX12_plays 87 = .ok (.iload 4, 2) := dk_21 4 (dk_at dksX12_plays_3 15 rfl rfl)
theorem dX12_plays_89 : decode cX12_plays 89 = .ok (.iload 5, 2) := dk_21 5 (dk_at dksX12_plays_3 17 rfl rfl)
theorem dX12_plays_91 : decode cX12_plays 91 = .ok (.ifCond .eq 7, 3) := dk_153 0 7 (dk_at dksX12_plays_3 19 rfl rfl)
theorem dX12_plays_94 : decode cX12_plays 94 = .ok (.iconst (-1), 1) := dk_2 (dk_at dksX12_plays_3 22 rfl rfl)
theorem dX12_plays_95 : decode cX12_plays 95 = .ok (.goto 28, 3) := dk_167 0 28 (dk_at dksX12_plays_4 0 rfl rfl)
theorem dX12_plays_98 : decode cX12_plays 98 = .ok (.aload_n 0, 1) := dk_42 (dk_at dksX12_plays_4 3 rfl rfl)
theorem dX12_plays_99 : decode cX12_plays 99 = .ok (.aload_n 0, 1) := dk_42 (dk_at dksX12_plays_4 4 rfl rfl)
theorem dX12_plays_100 : decode cX12_plays 100 = .ok (.getfield 65, 3) := dk_180 0 65 (dk_at dksX12_plays_4 5 rfl rfl)
theorem dX12_plays_103 : decode cX12_plays 103 = .ok (.iload_n 1, 1) := dk_27 (dk_at dksX12_plays_4 8 rfl rfl)
theorem dX12_plays_104 : decode cX12_plays 104 = .ok (.iaload, 1) := dk_46 (dk_at dksX12_plays_4 9 rfl rfl)
theorem dX12_plays_105 : decode cX12_plays 105 = .ok (.aload_n 0, 1) := dk_42 (dk_at dksX12_plays_4 10 rfl rfl)
theorem dX12_plays_106 : decode cX12_plays 106 = .ok (.aload_n 0, 1) := dk_42 (dk_at dksX12_plays_4 11 rfl rfl)
theorem dX12_plays_107 : decode cX12_plays 107 = .ok (.getfield 65, 3) := dk_180 0 65 (dk_at dksX12_plays_4 12 rfl rfl)
theorem dX12_plays_110 : decode cX12_plays 110 = .ok (.iload_n 1, 1) := dk_27 (dk_at dksX12_plays_4 15 rfl rfl)
theorem dX12_plays_111 : decode cX12_plays 111 = .ok (.iaload, 1) := dk_46 (dk_at dksX12_plays_4 16 rfl rfl)
theorem dX12_plays_112 : decode cX12_plays 112 = .ok (.iload 4, 2) := dk_21 4 (dk_at dksX12_plays_4 17 rfl rfl)
theorem dX12_plays_114 : decode cX12_plays 114 = .ok (.invokevirtual 377, 3) := dk_182 1 121 (dk_at dksX12_plays_4 19 rfl rfl)
theorem dX12_plays_117 : decode cX12_plays 117 = .ok (.iload_n 1, 1) := dk_27 (dk_at dksX12_plays_4 22 rfl rfl)
theorem dX12_plays_118 : decode cX12_plays 118 = .ok (.iload_n 2, 1) := dk_28 (dk_at dksX12_plays_4 23 rfl rfl)
theorem dX12_plays_119 : decode cX12_plays 119 = .ok (.iload_n 3, 1) := dk_29 (dk_at dksX12_plays_5 0 rfl rfl)
theorem dX12_plays_120 : decode cX12_plays 120 = .ok (.invokevirtual 404, 3) := dk_182 1 148 (dk_at dksX12_plays_5 1 rfl rfl)
theorem dX12_plays_123 : decode cX12_plays 123 = .ok (.iastore, 1) := dk_79 (dk_at dksX12_plays_5 4 rfl rfl)
theorem dX12_plays_124 : decode cX12_plays 124 = .ok (.iconst 0, 1) := dk_3 (dk_at dksX12_plays_5 5 rfl rfl)
theorem dX12_plays_125 : decode cX12_plays 125 = .ok (.istore 6, 2) := dk_54 6 (dk_at dksX12_plays_5 6 rfl rfl)
theorem dX12_plays_127 : decode cX12_plays 127 = .ok (.iload 6, 2) := dk_21 6 (dk_at dksX12_plays_5 8 rfl rfl)
theorem dX12_plays_129 : decode cX12_plays 129 = .ok (.aload_n 0, 1) := dk_42 (dk_at dksX12_plays_5 10 rfl rfl)
theorem dX12_plays_130 : decode cX12_plays 130 = .ok (.getfield 23, 3) := dk_180 0 23 (dk_at dksX12_plays_5 11 rfl rfl)
theorem dX12_plays_133 : decode cX12_plays 133 = .ok (.iconst 2, 1) := dk_5 (dk_at dksX12_plays_5 14 rfl rfl)
theorem dX12_plays_134 : decode cX12_plays 134 = .ok (.iaload, 1) := dk_46 (dk_at dksX12_plays_5 15 rfl rfl)
theorem dX12_plays_135 : decode cX12_plays 135 = .ok (.if_icmp .ge 65, 3) := dk_162 0 65 (dk_at dksX12_plays_5 16 rfl rfl)
theorem dX12_plays_138 : decode cX12_plays 138 = .ok (.aload_n 0, 1) := dk_42 (dk_at dksX12_plays_5 19 rfl rfl)
theorem dX12_plays_139 : decode cX12_plays 139 = .ok (.getfield 90, 3) := dk_180 0 90 (dk_at dksX12_plays_5 20 rfl rfl)
theorem dX12_plays_142 : decode cX12_plays 142 = .ok (.iload 6, 2) := dk_21 6 (dk_at dksX12_plays_6 0 rfl rfl)
theorem dX12_plays_144 : decode cX12_plays 144 = .ok (.sipush 3900, 3) := dk_17 15 60 (dk_at dksX12_plays_6 2 rfl rfl)
theorem dX12_plays_147 : decode cX12_plays 147 = .ok (.imul, 1) := dk_104 (dk_at dksX12_plays_6 5 rfl rfl)
theorem dX12_plays_148 : decode cX12_plays 148 = .ok (.iload 4, 2) := dk_21 4 (dk_at dksX12_plays_6 6 rfl rfl)
theorem dX12_plays_150 : decode cX12_plays 150 = .ok (.iadd, 1) := dk_96 (dk_at dksX12_plays_6 8 rfl rfl)
theorem dX12_plays_151 : decode cX12_plays 151 = .ok (.iload 5, 2) := dk_21 5 (dk_at dksX12_plays_6 9 rfl rfl)
theorem dX12_plays_153 : decode cX12_plays 153 = .ok (.ifCond .eq 16, 3) := dk_153 0 16 (dk_at dksX12_plays_6 11 rfl rfl)
theorem dX12_plays_156 : decode cX12_plays 156 = .ok (.aload_n 0, 1) := dk_42 (dk_at dksX12_plays_6 14 rfl rfl)
theorem dX12_plays_157 : decode cX12_plays 157 = .ok (.iload 6, 2) := dk_21 6 (dk_at dksX12_plays_6 15 rfl rfl)
theorem dX12_plays_159 : decode cX12_plays 159 = .ok (.iload_n 1, 1) := dk_27 (dk_at dksX12_plays_6 17 rfl rfl)
theorem dX12_plays_160 : decode cX12_plays 160 = .ok (.iload_n 2, 1) := dk_28 (dk_at dksX12_plays_6 18 rfl rfl)
theorem dX12_plays_161 : decode cX12_plays 161 = .ok (.iload 5, 2) := dk_21 5 (dk_at dksX12_plays_6 19 rfl rfl)
theorem dX12_plays_163 : decode cX12_plays 163 = .ok (.invokevirtual 373, 3) := dk_182 1 117 (dk_at dksX12_plays_6 21 rfl rfl)
theorem dX12_plays_166 : decode cX12_plays 166 = .ok (.goto 27, 3) := dk_167 0 27 (dk_at dksX12_plays_7 0 rfl rfl)
theorem dX12_plays_169 : decode cX12_plays 169 = .ok (.aload_n 0, 1) := dk_42 (dk_at dksX12_plays_7 3 rfl rfl)
theorem dX12_plays_170 : decode cX12_plays 170 = .ok (.aload_n 0, 1) := dk_42 (dk_at dksX12_plays_7 4 rfl rfl)
theorem dX12_plays_171 : decode cX12_plays 171 = .ok (.getfield 90, 3) := dk_180 0 90 (dk_at dksX12_plays_7 5 rfl rfl)
theorem dX12_plays_174 : decode cX12_plays 174 = .ok (.iload 6, 2) := dk_21 6 (dk_at dksX12_plays_7 8 rfl rfl)
theorem dX12_plays_176 : decode cX12_plays 176 = .ok (.sipush 3900, 3) := dk_17 15 60 (dk_at dksX12_plays_7 10 rfl rfl)
theorem dX12_plays_179 : decode cX12_plays 179 = .ok (.imul, 1) := dk_104 (dk_at dksX12_plays_7 13 rfl rfl)
theorem dX12_plays_180 : decode cX12_plays 180 = .ok (.iload_n 1, 1) := dk_27 (dk_at dksX12_plays_7 14 rfl rfl)
theorem dX12_plays_181 : decode cX12_plays 181 = .ok (.iload_n 2, 1) := dk_28 (dk_at dksX12_plays_7 15 rfl rfl)
theorem dX12_plays_182 : decode cX12_plays 182 = .ok (.iload_n 3, 1) := dk_29 (dk_at dksX12_plays_7 16 rfl rfl)
theorem dX12_plays_183 : decode cX12_plays 183 = .ok (.aload_n 0, 1) := dk_42 (dk_at dksX12_plays_7 17 rfl rfl)
theorem dX12_plays_184 : decode cX12_plays 184 = .ok (.getfield 83, 3) := dk_180 0 83 (dk_at dksX12_plays_7 18 rfl rfl)
theorem dX12_plays_187 : decode cX12_plays 187 = .ok (.iload 4, 2) := dk_21 4 (dk_at dksX12_plays_7 21 rfl rfl)
theorem dX12_plays_189 : decode cX12_plays 189 = .ok (.iaload, 1) := dk_46 (dk_at dksX12_plays_7 23 rfl rfl)
theorem dX12_plays_190 : decode cX12_plays 190 = .ok (.invokevirtual 369, 3) := dk_182 1 113 (dk_at dksX12_plays_8 0 rfl rfl)
theorem dX12_plays_193 : decode cX12_plays 193 = .ok (.lastore, 1) := dk_80 (dk_at dksX12_plays_8 3 rfl rfl)
theorem dX12_plays_194 : decode cX12_plays 194 = .ok (.iinc 6 1, 3) := dk_132 6 1 (dk_at dksX12_plays_8 4 rfl rfl)
theorem dX12_plays_197 : decode cX12_plays 197 = .ok (.goto (-70), 3) := dk_167 255 186 (dk_at dksX12_plays_8 7 rfl rfl)
theorem dX12_plays_200 : decode cX12_plays 200 = .ok (.iinc 3 1, 3) := dk_132 3 1 (dk_at dksX12_plays_8 10 rfl rfl)
theorem dX12_plays_203 : decode cX12_plays 203 = .ok (.goto (-145), 3) := dk_167 255 111 (dk_at dksX12_plays_8 13 rfl rfl)
theorem dX12_plays_206 : decode cX12_plays 206 = .ok (.iinc 2 1, 3) := dk_132 2 1 (dk_at dksX12_plays_8 16 rfl rfl)
theorem dX12_plays_209 : decode cX12_plays 209 = .ok (.goto (-163), 3) := dk_167 255 93 (dk_at dksX12_plays_8 19 rfl rfl)
theorem dX12_plays_212 : decode cX12_plays 212 = .ok (.iinc 1 (-1), 3) := dk_132 1 255 (dk_at dksX12_plays_9 0 rfl rfl)
theorem dX12_plays_215 : decode cX12_plays 215 = .ok (.goto (-175), 3) := dk_167 255 81 (dk_at dksX12_plays_9 3 rfl rfl)
theorem dX12_plays_218 : decode cX12_plays 218 = .ok (.return_, 1) := dk_177 (dk_at dksX12_plays_9 6 rfl rfl)
abbrev cX12_findBlind : ByteArray := prog_27_method_69_code
def yX12_findBlind : MethodName := ⟨RX12, "findBlind", "(I)V"⟩
def dkwX12_findBlind_7 : List UInt8 := [167, 255, 108, 177]
abbrev dktX12_findBlind_7 : List UInt8 := dkwX12_findBlind_7 ++ []
def dkwX12_findBlind_6 : List UInt8 := [182, 1, 124, 182, 1, 113, 80, 132, 5, 1, 167, 255, 141, 132, 4, 1, 167, 255, 121, 132, 3, 255]
abbrev dktX12_findBlind_6 : List UInt8 := dkwX12_findBlind_6 ++ dktX12_findBlind_7
def dkwX12_findBlind_5 : List UInt8 := [182, 1, 121, 29, 21, 4, 21, 5, 42, 180, 0, 65, 29, 46, 27, 159, 0, 7, 4, 167, 0, 4, 3]
abbrev dktX12_findBlind_5 : List UInt8 := dkwX12_findBlind_5 ++ dktX12_findBlind_6
def dkwX12_findBlind_4 : List UInt8 := [180, 0, 96, 28, 29, 21, 4, 21, 5, 42, 42, 180, 0, 96, 28, 42, 42, 180, 0, 65, 29, 46, 21, 6]
abbrev dktX12_findBlind_4 : List UInt8 := dkwX12_findBlind_4 ++ dktX12_findBlind_5
def dkwX12_findBlind_3 : List UInt8 := [21, 6, 96, 21, 7, 153, 0, 16, 42, 27, 29, 21, 4, 21, 7, 182, 1, 117, 167, 0, 58, 42, 42]
abbrev dktX12_findBlind_3 : List UInt8 := dkwX12_findBlind_3 ++ dktX12_findBlind_4
def dkwX12_findBlind_2 : List UInt8 := [21, 5, 184, 1, 98, 54, 6, 42, 29, 21, 4, 21, 5, 182, 1, 94, 54, 7, 42, 180, 0, 96, 28]
abbrev dktX12_findBlind_2 : List UInt8 := dkwX12_findBlind_2 ++ dktX12_findBlind_3
def dkwX12_findBlind_1 : List UInt8 := [180, 0, 23, 3, 46, 162, 0, 130, 3, 54, 5, 21, 5, 42, 180, 1, 92, 163, 0, 112, 29, 21, 4]
abbrev dktX12_findBlind_1 : List UInt8 := dkwX12_findBlind_1 ++ dktX12_findBlind_2
def dkwX12_findBlind_0 : List UInt8 := [27, 17, 15, 60, 104, 61, 42, 180, 0, 23, 6, 46, 62, 29, 155, 0, 150, 3, 54, 4, 21, 4, 42]
abbrev dktX12_findBlind_0 : List UInt8 := dkwX12_findBlind_0 ++ dktX12_findBlind_1
theorem dksX12_findBlind_0 : cX12_findBlind.data.toList.drop 0 = dktX12_findBlind_0 := by decide +kernel
theorem dksX12_findBlind_1 : cX12_findBlind.data.toList.drop 23 = dktX12_findBlind_1 := dk_seg dksX12_findBlind_0 23 rfl rfl
theorem dksX12_findBlind_2 : cX12_findBlind.data.toList.drop 46 = dktX12_findBlind_2 := dk_seg dksX12_findBlind_1 23 rfl rfl
theorem dksX12_findBlind_3 : cX12_findBlind.data.toList.drop 69 = dktX12_findBlind_3 := dk_seg dksX12_findBlind_2 23 rfl rfl
theorem dksX12_findBlind_4 : cX12_findBlind.data.toList.drop 92 = dktX12_findBlind_4 := dk_seg dksX12_findBlind_3 23 rfl rfl
theorem dksX12_findBlind_5 : cX12_findBlind.data.toList.drop 116 = dktX12_findBlind_5 := dk_seg dksX12_findBlind_4 24 rfl rfl
theorem dksX12_findBlind_6 : cX12_findBlind.data.toList.drop 139 = dktX12_findBlind_6 := dk_seg dksX12_findBlind_5 23 rfl rfl
theorem dksX12_findBlind_7 : cX12_findBlind.data.toList.drop 161 = dktX12_findBlind_7 := dk_seg dksX12_findBlind_6 22 rfl rfl
theorem dX12_findBlind_0 : decode cX12_findBlind 0 = .ok (.iload_n 1, 1) := dk_27 (dk_at dksX12_findBlind_0 0 rfl rfl)
theorem dX12_findBlind_1 : decode cX12_findBlind 1 = .ok (.sipush 3900, 3) := dk_17 15 60 (dk_at dksX12_findBlind_0 1 rfl rfl)
theorem dX12_findBlind_4 : decode cX12_findBlind 4 = .ok (.imul, 1) := dk_104 (dk_at dksX12_findBlind_0 4 rfl rfl)
theorem dX12_findBlind_5 : decode cX12_findBlind 5 = .ok (.istore_n 2, 1) := dk_61 (dk_at dksX12_findBlind_0 5 rfl rfl)
theorem dX12_findBlind_6 : decode cX12_findBlind 6 = .ok (.aload_n 0, 1) := dk_42 (dk_at dksX12_findBlind_0 6 rfl rfl)
theorem dX12_findBlind_7 : decode cX12_findBlind 7 = .ok (.getfield 23, 3) := dk_180 0 23 (dk_at dksX12_findBlind_0 7 rfl rfl)
theorem dX12_findBlind_10 : decode cX12_findBlind 10 = .ok (.iconst 3, 1) := dk_6 (dk_at dksX12_findBlind_0 10 rfl rfl)
theorem dX12_findBlind_11 : decode cX12_findBlind 11 = .ok (.iaload, 1) := dk_46 (dk_at dksX12_findBlind_0 11 rfl rfl)
theorem dX12_findBlind_12 : decode cX12_findBlind 12 = .ok (.istore_n 3, 1) := dk_62 (dk_at dksX12_findBlind_0 12 rfl rfl)
theorem dX12_findBlind_13 : decode cX12_findBlind 13 = .ok (.iload_n 3, 1) := dk_29 (dk_at dksX12_findBlind_0 13 rfl rfl)
theorem dX12_findBlind_14 : decode cX12_findBlind 14 = .ok (.ifCond .lt 150, 3) := dk_155 0 150 (dk_at dksX12_findBlind_0 14 rfl rfl)
theorem dX12_findBlind_17 : decode cX12_findBlind 17 = .ok (.iconst 0, 1) := dk_3 (dk_at dksX12_findBlind_0 17 rfl rfl)
theorem dX12_findBlind_18 : decode cX12_findBlind 18 = .ok (.istore 4, 2) := dk_54 4 (dk_at dksX12_findBlind_0 18 rfl rfl)
theorem dX12_findBlind_20 : decode cX12_findBlind 20 = .ok (.iload 4, 2) := dk_21 4 (dk_at dksX12_findBlind_0 20 rfl rfl)
theorem dX12_findBlind_22 : decode cX12_findBlind 22 = .ok (.aload_n 0, 1) := dk_42 (dk_at dksX12_findBlind_0 22 rfl rfl)
theorem dX12_findBlind_23 : decode cX12_findBlind 23 = .ok (.getfield 23, 3) := dk_180 0 23 (dk_at dksX12_findBlind_1 0 rfl rfl)
theorem dX12_findBlind_26 : decode cX12_findBlind 26 = .ok (.iconst 0, 1) := dk_3 (dk_at dksX12_findBlind_1 3 rfl rfl)
theorem dX12_findBlind_27 : decode cX12_findBlind 27 = .ok (.iaload, 1) := dk_46 (dk_at dksX12_findBlind_1 4 rfl rfl)
theorem dX12_findBlind_28 : decode cX12_findBlind 28 = .ok (.if_icmp .ge 130, 3) := dk_162 0 130 (dk_at dksX12_findBlind_1 5 rfl rfl)
theorem dX12_findBlind_31 : decode cX12_findBlind 31 = .ok (.iconst 0, 1) := dk_3 (dk_at dksX12_findBlind_1 8 rfl rfl)
theorem dX12_findBlind_32 : decode cX12_findBlind 32 = .ok (.istore 5, 2) := dk_54 5 (dk_at dksX12_findBlind_1 9 rfl rfl)
theorem dX12_findBlind_34 : decode cX12_findBlind 34 = .ok (.iload 5, 2) := dk_21 5 (dk_at dksX12_findBlind_1 11 rfl rfl)
theorem dX12_findBlind_36 : decode cX12_findBlind 36 = .ok (.aload_n 0, 1) := dk_42 (dk_at dksX12_findBlind_1 13 rfl rfl)
theorem dX12_findBlind_37 : decode cX12_findBlind 37 = .ok (.getfield 348, 3) := dk_180 1 92 (dk_at dksX12_findBlind_1 14 rfl rfl)
theorem dX12_findBlind_40 : decode cX12_findBlind 40 = .ok (.if_icmp .gt 112, 3) := dk_163 0 112 (dk_at dksX12_findBlind_1 17 rfl rfl)
theorem dX12_findBlind_43 : decode cX12_findBlind 43 = .ok (.iload_n 3, 1) := dk_29 (dk_at dksX12_findBlind_1 20 rfl rfl)
theorem dX12_findBlind_44 : decode cX12_findBlind 44 = .ok (.iload 4, 2) := dk_21 4 (dk_at dksX12_findBlind_1 21 rfl rfl)
theorem dX12_findBlind_46 : decode cX12_findBlind 46 = .ok (.iload 5, 2) := dk_21 5 (dk_at dksX12_findBlind_2 0 rfl rfl)
theorem dX12_findBlind_48 : decode cX12_findBlind 48 = .ok (.invokestatic 354, 3) := dk_184 1 98 (dk_at dksX12_findBlind_2 2 rfl rfl)
theorem dX12_findBlind_51 : decode cX12_findBlind 51 = .ok (.istore 6, 2) := dk_54 6 (dk_at dksX12_findBlind_2 5 rfl rfl)
theorem dX12_findBlind_53 : decode cX12_findBlind 53 = .ok (.aload_n 0, 1) := dk_42 (dk_at dksX12_findBlind_2 7 rfl rfl)
theorem dX12_findBlind_54 : decode cX12_findBlind 54 = .ok (.iload_n 3, 1) := dk_29 (dk_at dksX12_findBlind_2 8 rfl rfl)
theorem dX12_findBlind_55 : decode cX12_findBlind 55 = .ok (.iload 4, 2) := dk_21 4 (dk_at dksX12_findBlind_2 9 rfl rfl)
theorem dX12_findBlind_57 : decode cX12_findBlind 57 = .ok (.iload 5, 2) := dk_21 5 (dk_at dksX12_findBlind_2 11 rfl rfl)
theorem dX12_findBlind_59 : decode cX12_findBlind 59 = .ok (.invokevirtual 350, 3) := dk_182 1 94 (dk_at dksX12_findBlind_2 13 rfl rfl)
theorem dX12_findBlind_62 : decode cX12_findBlind 62 = .ok (.istore 7, 2) := dk_54 7 (dk_at dksX12_findBlind_2 16 rfl rfl)
theorem dX12_findBlind_64 : decode cX12_findBlind 64 = .ok (.aload_n 0, 1) := dk_42 (dk_at dksX12_findBlind_2 18 rfl rfl)
theorem dX12_findBlind_65 : decode cX12_findBlind 65 = .ok (.getfield 96, 3) := dk_180 0 96 (dk_at dksX12_findBlind_2 19 rfl rfl)
theorem dX12_findBlind_68 : decode cX12_findBlind 68 = .ok (.iload_n 2, 1) := dk_28 (dk_at dksX12_findBlind_2 22 rfl rfl)
theorem dX12_findBlind_69 : decode cX12_findBlind 69 = .ok (.iload 6, 2) := dk_21 6 (dk_at dksX12_findBlind_3 0 rfl rfl)
theorem dX12_findBlind_71 : decode cX12_findBlind 71 = .ok (.iadd, 1) := dk_96 (dk_at dksX12_findBlind_3 2 rfl rfl)
theorem dX12_findBlind_72 : decode cX12_findBlind 72 = .ok (.iload 7, 2) := dk_21 7 (dk_at dksX12_findBlind_3 3 rfl rfl)
theorem dX12_findBlind_74 : decode cX12_findBlind 74 = .ok (.ifCond .eq 16, 3) := dk_153 0 16 (dk_at dksX12_findBlind_3 5 rfl rfl)
theorem dX12_findBlind_77 : decode cX12_findBlind 77 = .ok (.aload_n 0, 1) := dk_42 (dk_at dksX12_findBlind_3 8 rfl rfl)
theorem dX12_findBlind_78 : decode cX12_findBlind 78 = .ok (.iload_n 1, 1) := dk_27 (dk_at dksX12_findBlind_3 9 rfl rfl)
theorem dX12_findBlind_79 : decode cX12_findBlind 79 = .ok (.iload_n 3, 1) := dk_29 (dk_at dksX12_findBlind_3 10 rfl rfl)
theorem dX12_findBlind_80 : decode cX12_findBlind 80 = .ok (.iload 4, 2) := dk_21 4 (dk_at dksX12_findBlind_3 11 rfl rfl)
theorem dX12_findBlind_82 : decode cX12_findBlind 82 = .ok (.iload 7, 2) := dk_21 7 (dk_at dksX12_findBlind_3 13 rfl rfl)
theorem dX12_findBlind_84 : decode cX12_findBlind 84 = .ok (.invokevirtual 373, 3) := dk_182 1 117 (dk_at dksX12_findBlind_3 15 rfl rfl)
theorem dX12_findBlind_87 : decode cX12_findBlind 87 = .ok (.goto 58, 3) := dk_167 0 58 (dk_at dksX12_findBlind_3 18 rfl rfl)
theorem dX12_findBlind_90 : decode cX12_findBlind 90 = .ok (.aload_n 0, 1) := dk_42 (dk_at dksX12_findBlind_3 21 rfl rfl)
theorem dX12_findBlind_91 : decode cX12_findBlind 91 = .ok (.aload_n 0, 1) := dk_42 (dk_at dksX12_findBlind_3 22 rfl rfl)
theorem dX12_findBlind_92 : decode cX12_findBlind 92 = .ok (.getfield 96, 3) := dk_180 0 96 (dk_at dksX12_findBlind_4 0 rfl rfl)
theorem dX12_findBlind_95 : decode cX12_findBlind 95 = .ok (.iload_n 2, 1) := dk_28 (dk_at dksX12_findBlind_4 3 rfl rfl)
theorem dX12_findBlind_96 : decode cX12_findBlind 96 = .ok (.iload_n 3, 1) := dk_29 (dk_at dksX12_findBlind_4 4 rfl rfl)
theorem dX12_findBlind_97 : decode cX12_findBlind 97 = .ok (.iload 4, 2) := dk_21 4 (dk_at dksX12_findBlind_4 5 rfl rfl)
theorem dX12_findBlind_99 : decode cX12_findBlind 99 = .ok (.iload 5, 2) := dk_21 5 (dk_at dksX12_findBlind_4 7 rfl rfl)
theorem dX12_findBlind_101 : decode cX12_findBlind 101 = .ok (.aload_n 0, 1) := dk_42 (dk_at dksX12_findBlind_4 9 rfl rfl)
theorem dX12_findBlind_102 : decode cX12_findBlind 102 = .ok (.aload_n 0, 1) := dk_42 (dk_at dksX12_findBlind_4 10 rfl rfl)
theorem dX12_findBlind_103 : decode cX12_findBlind 103 = .ok (.getfield 96, 3) := dk_180 0 96 (dk_at dksX12_findBlind_4 11 rfl rfl)
theorem dX12_findBlind_106 : decode cX12_findBlind 106 = .ok (.iload_n 2, 1) := dk_28 (dk_at dksX12_findBlind_4 14 rfl rfl)
theorem dX12_findBlind_107 : decode cX12_findBlind 107 = .ok (.aload_n 0, 1) := dk_42 (dk_at dksX12_findBlind_4 15 rfl rfl)
theorem dX12_findBlind_108 : decode cX12_findBlind 108 = .ok (.aload_n 0, 1) := dk_42 (dk_at dksX12_findBlind_4 16 rfl rfl)
theorem dX12_findBlind_109 : decode cX12_findBlind 109 = .ok (.getfield 65, 3) := dk_180 0 65 (dk_at dksX12_findBlind_4 17 rfl rfl)
theorem dX12_findBlind_112 : decode cX12_findBlind 112 = .ok (.iload_n 3, 1) := dk_29 (dk_at dksX12_findBlind_4 20 rfl rfl)
theorem dX12_findBlind_113 : decode cX12_findBlind 113 = .ok (.iaload, 1) := dk_46 (dk_at dksX12_findBlind_4 21 rfl rfl)
theorem dX12_findBlind_114 : decode cX12_findBlind 114 = .ok (.iload 6, 2) := dk_21 6 (dk_at dksX12_findBlind_4 22 rfl rfl)
theorem dX12_findBlind_116 : decode cX12_findBlind 116 = .ok (.invokevirtual 377, 3) := dk_182 1 121 (dk_at dksX12_findBlind_5 0 rfl rfl)
theorem dX12_findBlind_119 : decode cX12_findBlind 119 = .ok (.iload_n 3, 1) := dk_29 (dk_at dksX12_findBlind_5 3 rfl rfl)
theorem dX12_findBlind_120 : decode cX12_findBlind 120 = .ok (.iload 4, 2) := dk_21 4 (dk_at dksX12_findBlind_5 4 rfl rfl)
theorem dX12_findBlind_122 : decode cX12_findBlind 122 = .ok (.iload 5, 2) := dk_21 5 (dk_at dksX12_findBlind_5 6 rfl rfl)
theorem dX12_findBlind_124 : decode cX12_findBlind 124 = .ok (.aload_n 0, 1) := dk_42 (dk_at dksX12_findBlind_5 8 rfl rfl)
theorem dX12_findBlind_125 : decode cX12_findBlind 125 = .ok (.getfield 65, 3) := dk_180 0 65 (dk_at dksX12_findBlind_5 9 rfl rfl)
theorem dX12_findBlind_128 : decode cX12_findBlind 128 = .ok (.iload_n 3, 1) := dk_29 (dk_at dksX12_findBlind_5 12 rfl rfl)
theorem dX12_findBlind_129 : decode cX12_findBlind 129 = .ok (.iaload, 1) := dk_46 (dk_at dksX12_findBlind_5 13 rfl rfl)
theorem dX12_findBlind_130 : decode cX12_findBlind 130 = .ok (.iload_n 1, 1) := dk_27 (dk_at dksX12_findBlind_5 14 rfl rfl)
theorem dX12_findBlind_131 : decode cX12_findBlind 131 = .ok (.if_icmp .eq 7, 3) := dk_159 0 7 (dk_at dksX12_findBlind_5 15 rfl rfl)
theorem dX12_findBlind_134 : decode cX12_findBlind 134 = .ok (.iconst 1, 1) := dk_4 (dk_at dksX12_findBlind_5 18 rfl rfl)
theorem dX12_findBlind_135 : decode cX12_findBlind 135 = .ok (.goto 4, 3) := dk_167 0 4 (dk_at dksX12_findBlind_5 19 rfl rfl)
theorem dX12_findBlind_138 : decode cX12_findBlind 138 = .ok (.iconst 0, 1) := dk_3 (dk_at dksX12_findBlind_5 22 rfl rfl)
theorem dX12_findBlind_139 : decode cX12_findBlind 139 = .ok (.invokevirtual 380, 3) := dk_182 1 124 (dk_at dksX12_findBlind_6 0 rfl rfl)
theorem dX12_findBlind_142 : decode cX12_findBlind 142 = .ok (.invokevirtual 369, 3) := dk_182 1 113 (dk_at dksX12_findBlind_6 3 rfl rfl)
theorem dX12_findBlind_145 : decode cX12_findBlind 145 = .ok (.lastore, 1) := dk_80 (dk_at dksX12_findBlind_6 6 rfl rfl)
theorem dX12_findBlind_146 : decode cX12_findBlind 146 = .ok (.iinc 5 1, 3) := dk_132 5 1 (dk_at dksX12_findBlind_6 7 rfl rfl)
theorem dX12_findBlind_149 : decode cX12_findBlind 149 = .ok (.goto (-115), 3) := dk_167 255 141 (dk_at dksX12_findBlind_6 10 rfl rfl)
theorem dX12_findBlind_152 : decode cX12_findBlind 152 = .ok (.iinc 4 1, 3) := dk_132 4 1 (dk_at dksX12_findBlind_6 13 rfl rfl)
theorem dX12_findBlind_155 : decode cX12_findBlind 155 = .ok (.goto (-135), 3) := dk_167 255 121 (dk_at dksX12_findBlind_6 16 rfl rfl)
theorem dX12_findBlind_158 : decode cX12_findBlind 158 = .ok (.iinc 3 (-1), 3) := dk_132 3 255 (dk_at dksX12_findBlind_6 19 rfl rfl)
theorem dX12_findBlind_161 : decode cX12_findBlind 161 = .ok (.goto (-148), 3) := dk_167 255 108 (dk_at dksX12_findBlind_7 0 rfl rfl)
theorem dX12_findBlind_164 : decode cX12_findBlind 164 = .ok (.return_, 1) := dk_177 (dk_at dksX12_findBlind_7 3 rfl rfl)
abbrev cX12_chosen : ByteArray := prog_27_method_74_code
def yX12_chosen : MethodName := ⟨RX12, "chosen", "(IIIII)I"⟩
def dkwX12_chosen_8 : List UInt8 := [8, 29, 96, 46, 167, 0, 7, 28, 184, 1, 142, 172]
abbrev dktX12_chosen_8 : List UInt8 := dkwX12_chosen_8 ++ []
def dkwX12_chosen_7 : List UInt8 := [182, 1, 124, 172, 28, 42, 180, 0, 59, 8, 29, 96, 46, 122, 4, 126, 4, 160, 0, 14, 42, 180, 0, 59]
abbrev dktX12_chosen_7 : List UInt8 := dkwX12_chosen_7 ++ dktX12_chosen_8
def dkwX12_chosen_6 : List UInt8 := [182, 1, 138, 172, 28, 184, 1, 142, 172, 42, 42, 180, 0, 96, 21, 6, 28, 29, 21, 4, 21, 5, 3]
abbrev dktX12_chosen_6 : List UInt8 := dkwX12_chosen_6 ++ dktX12_chosen_7
def dkwX12_chosen_5 : List UInt8 := [21, 6, 28, 29, 21, 4, 21, 5, 3, 182, 1, 124, 172, 42, 2, 2, 28, 29, 21, 4, 21, 5]
abbrev dktX12_chosen_5 : List UInt8 := dkwX12_chosen_5 ++ dktX12_chosen_6
def dkwX12_chosen_4 : List UInt8 := [42, 42, 180, 0, 90, 21, 6, 28, 29, 21, 4, 21, 5, 3, 182, 1, 124, 172, 42, 42, 180, 0, 93]
abbrev dktX12_chosen_4 : List UInt8 := dkwX12_chosen_4 ++ dktX12_chosen_5
def dkwX12_chosen_3 : List UInt8 := [170, 0, 0, 0, 0, 106, 0, 0, 0, 0, 0, 0, 0, 4, 0, 0, 0, 34, 0, 0, 0, 52, 0, 0, 0, 70, 0, 0, 0, 83, 0, 0, 0, 88]
abbrev dktX12_chosen_3 : List UInt8 := dkwX12_chosen_3 ++ dktX12_chosen_4
def dkwX12_chosen_2 : List UInt8 := [21, 5, 182, 1, 138, 172, 27, 17, 15, 60, 104, 54, 6, 42, 180, 0, 68, 27, 46]
abbrev dktX12_chosen_2 : List UInt8 := dkwX12_chosen_2 ++ dktX12_chosen_3
def dkwX12_chosen_1 : List UInt8 := [159, 0, 11, 27, 42, 180, 0, 77, 160, 0, 22, 42, 42, 180, 0, 74, 42, 180, 0, 77, 28, 29, 21, 4]
abbrev dktX12_chosen_1 : List UInt8 := dkwX12_chosen_1 ++ dktX12_chosen_2
def dkwX12_chosen_0 : List UInt8 := [42, 180, 1, 132, 153, 0, 14, 42, 28, 29, 21, 4, 21, 5, 182, 1, 135, 172, 27, 42, 180, 0, 74]
abbrev dktX12_chosen_0 : List UInt8 := dkwX12_chosen_0 ++ dktX12_chosen_1
theorem dksX12_chosen_0 : cX12_chosen.data.toList.drop 0 = dktX12_chosen_0 := by decide +kernel
theorem dksX12_chosen_1 : cX12_chosen.data.toList.drop 23 = dktX12_chosen_1 := dk_seg dksX12_chosen_0 23 rfl rfl
theorem dksX12_chosen_2 : cX12_chosen.data.toList.drop 47 = dktX12_chosen_2 := dk_seg dksX12_chosen_1 24 rfl rfl
theorem dksX12_chosen_3 : cX12_chosen.data.toList.drop 66 = dktX12_chosen_3 := dk_seg dksX12_chosen_2 19 rfl rfl
theorem dksX12_chosen_4 : cX12_chosen.data.toList.drop 100 = dktX12_chosen_4 := dk_seg dksX12_chosen_3 34 rfl rfl
theorem dksX12_chosen_5 : cX12_chosen.data.toList.drop 123 = dktX12_chosen_5 := dk_seg dksX12_chosen_4 23 rfl rfl
theorem dksX12_chosen_6 : cX12_chosen.data.toList.drop 145 = dktX12_chosen_6 := dk_seg dksX12_chosen_5 22 rfl rfl
theorem dksX12_chosen_7 : cX12_chosen.data.toList.drop 168 = dktX12_chosen_7 := dk_seg dksX12_chosen_6 23 rfl rfl
theorem dksX12_chosen_8 : cX12_chosen.data.toList.drop 192 = dktX12_chosen_8 := dk_seg dksX12_chosen_7 24 rfl rfl
theorem dX12_chosen_0 : decode cX12_chosen 0 = .ok (.aload_n 0, 1) := dk_42 (dk_at dksX12_chosen_0 0 rfl rfl)
theorem dX12_chosen_1 : decode cX12_chosen 1 = .ok (.getfield 388, 3) := dk_180 1 132 (dk_at dksX12_chosen_0 1 rfl rfl)
theorem dX12_chosen_4 : decode cX12_chosen 4 = .ok (.ifCond .eq 14, 3) := dk_153 0 14 (dk_at dksX12_chosen_0 4 rfl rfl)
theorem dX12_chosen_7 : decode cX12_chosen 7 = .ok (.aload_n 0, 1) := dk_42 (dk_at dksX12_chosen_0 7 rfl rfl)
theorem dX12_chosen_8 : decode cX12_chosen 8 = .ok (.iload_n 2, 1) := dk_28 (dk_at dksX12_chosen_0 8 rfl rfl)
theorem dX12_chosen_9 : decode cX12_chosen 9 = .ok (.iload_n 3, 1) := dk_29 (dk_at dksX12_chosen_0 9 rfl rfl)
theorem dX12_chosen_10 : decode cX12_chosen 10 = .ok (.iload 4, 2) := dk_21 4 (dk_at dksX12_chosen_0 10 rfl rfl)
theorem dX12_chosen_12 : decode cX12_chosen 12 = .ok (.iload 5, 2) := dk_21 5 (dk_at dksX12_chosen_0 12 rfl rfl)
theorem dX12_chosen_14 : decode cX12_chosen 14 = .ok (.invokevirtual 391, 3) := dk_182 1 135 (dk_at dksX12_chosen_0 14 rfl rfl)
theorem dX12_chosen_17 : decode cX12_chosen 17 = .ok (.ireturn, 1) := dk_172 (dk_at dksX12_chosen_0 17 rfl rfl)
theorem dX12_chosen_18 : decode cX12_chosen 18 = .ok (.iload_n 1, 1) := dk_27 (dk_at dksX12_chosen_0 18 rfl rfl)
theorem dX12_chosen_19 : decode cX12_chosen 19 = .ok (.aload_n 0, 1) := dk_42 (dk_at dksX12_chosen_0 19 rfl rfl)
theorem dX12_chosen_20 : decode cX12_chosen 20 = .ok (.getfield 74, 3) := dk_180 0 74 (dk_at dksX12_chosen_0 20 rfl rfl)
theorem dX12_chosen_23 : decode cX12_chosen 23 = .ok (.if_icmp .eq 11, 3) := dk_159 0 11 (dk_at dksX12_chosen_1 0 rfl rfl)
theorem dX12_chosen_26 : decode cX12_chosen 26 = .ok (.iload_n 1, 1) := dk_27 (dk_at dksX12_chosen_1 3 rfl rfl)
theorem dX12_chosen_27 : decode cX12_chosen 27 = .ok (.aload_n 0, 1) := dk_42 (dk_at dksX12_chosen_1 4 rfl rfl)
theorem dX12_chosen_28 : decode cX12_chosen 28 = .ok (.getfield 77, 3) := dk_180 0 77 (dk_at dksX12_chosen_1 5 rfl rfl)
theorem dX12_chosen_31 : decode cX12_chosen 31 = .ok (.if_icmp .ne 22, 3) := dk_160 0 22 (dk_at dksX12_chosen_1 8 rfl rfl)
theorem dX12_chosen_34 : decode cX12_chosen 34 = .ok (.aload_n 0, 1) := dk_42 (dk_at dksX12_chosen_1 11 rfl rfl)
theorem dX12_chosen_35 : decode cX12_chosen 35 = .ok (.aload_n 0, 1) := dk_42 (dk_at dksX12_chosen_1 12 rfl rfl)
theorem dX12_chosen_36 : decode cX12_chosen 36 = .ok (.getfield 74, 3) := dk_180 0 74 (dk_at dksX12_chosen_1 13 rfl rfl)
theorem dX12_chosen_39 : decode cX12_chosen 39 = .ok (.aload_n 0, 1) := dk_42 (dk_at dksX12_chosen_1 16 rfl rfl)
theorem dX12_chosen_40 : decode cX12_chosen 40 = .ok (.getfield 77, 3) := dk_180 0 77 (dk_at dksX12_chosen_1 17 rfl rfl)
theorem dX12_chosen_43 : decode cX12_chosen 43 = .ok (.iload_n 2, 1) := dk_28 (dk_at dksX12_chosen_1 20 rfl rfl)
theorem dX12_chosen_44 : decode cX12_chosen 44 = .ok (.iload_n 3, 1) := dk_29 (dk_at dksX12_chosen_1 21 rfl rfl)
theorem dX12_chosen_45 : decode cX12_chosen 45 = .ok (.iload 4, 2) := dk_21 4 (dk_at dksX12_chosen_1 22 rfl rfl)
theorem dX12_chosen_47 : decode cX12_chosen 47 = .ok (.iload 5, 2) := dk_21 5 (dk_at dksX12_chosen_2 0 rfl rfl)
theorem dX12_chosen_49 : decode cX12_chosen 49 = .ok (.invokevirtual 394, 3) := dk_182 1 138 (dk_at dksX12_chosen_2 2 rfl rfl)
theorem dX12_chosen_52 : decode cX12_chosen 52 = .ok (.ireturn, 1) := dk_172 (dk_at dksX12_chosen_2 5 rfl rfl)
theorem dX12_chosen_53 : decode cX12_chosen 53 = .ok (.iload_n 1, 1) := dk_27 (dk_at dksX12_chosen_2 6 rfl rfl)
theorem dX12_chosen_54 : decode cX12_chosen 54 = .ok (.sipush 3900, 3) := dk_17 15 60 (dk_at dksX12_chosen_2 7 rfl rfl)
theorem dX12_chosen_57 : decode cX12_chosen 57 = .ok (.imul, 1) := dk_104 (dk_at dksX12_chosen_2 10 rfl rfl)
theorem dX12_chosen_58 : decode cX12_chosen 58 = .ok (.istore 6, 2) := dk_54 6 (dk_at dksX12_chosen_2 11 rfl rfl)
theorem dX12_chosen_60 : decode cX12_chosen 60 = .ok (.aload_n 0, 1) := dk_42 (dk_at dksX12_chosen_2 13 rfl rfl)
theorem dX12_chosen_61 : decode cX12_chosen 61 = .ok (.getfield 68, 3) := dk_180 0 68 (dk_at dksX12_chosen_2 14 rfl rfl)
theorem dX12_chosen_64 : decode cX12_chosen 64 = .ok (.iload_n 1, 1) := dk_27 (dk_at dksX12_chosen_2 17 rfl rfl)
theorem dX12_chosen_65 : decode cX12_chosen 65 = .ok (.iaload, 1) := dk_46 (dk_at dksX12_chosen_2 18 rfl rfl)
theorem dX12_chosen_66 : decode cX12_chosen 66 = .ok (.tableswitch 106 0 4 #[34, 52, 70, 83, 88], 34) := by decide +kernel
theorem dX12_chosen_100 : decode cX12_chosen 100 = .ok (.aload_n 0, 1) := dk_42 (dk_at dksX12_chosen_4 0 rfl rfl)
theorem dX12_chosen_101 : decode cX12_chosen 101 = .ok (.aload_n 0, 1) := dk_42 (dk_at dksX12_chosen_4 1 rfl rfl)
theorem dX12_chosen_102 : decode cX12_chosen 102 = .ok (.getfield 90, 3) := dk_180 0 90 (dk_at dksX12_chosen_4 2 rfl rfl)
theorem dX12_chosen_105 : decode cX12_chosen 105 = .ok (.iload 6, 2) := dk_21 6 (dk_at dksX12_chosen_4 5 rfl rfl)
theorem dX12_chosen_107 : decode cX12_chosen 107 = .ok (.iload_n 2, 1) := dk_28 (dk_at dksX12_chosen_4 7 rfl rfl)
theorem dX12_chosen_108 : decode cX12_chosen 108 = .ok (.iload_n 3, 1) := dk_29 (dk_at dksX12_chosen_4 8 rfl rfl)
theorem dX12_chosen_109 : decode cX12_chosen 109 = .ok (.iload 4, 2) := dk_21 4 (dk_at dksX12_chosen_4 9 rfl rfl)
theorem dX12_chosen_111 : decode cX12_chosen 111 = .ok (.iload 5, 2) := dk_21 5 (dk_at dksX12_chosen_4 11 rfl rfl)
theorem dX12_chosen_113 : decode cX12_chosen 113 = .ok (.iconst 0, 1) := dk_3 (dk_at dksX12_chosen_4 13 rfl rfl)
theorem dX12_chosen_114 : decode cX12_chosen 114 = .ok (.invokevirtual 380, 3) := dk_182 1 124 (dk_at dksX12_chosen_4 14 rfl rfl)
theorem dX12_chosen_117 : decode cX12_chosen 117 = .ok (.ireturn, 1) := dk_172 (dk_at dksX12_chosen_4 17 rfl rfl)
theorem dX12_chosen_118 : decode cX12_chosen 118 = .ok (.aload_n 0, 1) := dk_42 (dk_at dksX12_chosen_4 18 rfl rfl)
theorem dX12_chosen_119 : decode cX12_chosen 119 = .ok (.aload_n 0, 1) := dk_42 (dk_at dksX12_chosen_4 19 rfl rfl)
theorem dX12_chosen_120 : decode cX12_chosen 120 = .ok (.getfield 93, 3) := dk_180 0 93 (dk_at dksX12_chosen_4 20 rfl rfl)
theorem dX12_chosen_123 : decode cX12_chosen 123 = .ok (.iload 6, 2) := dk_21 6 (dk_at dksX12_chosen_5 0 rfl rfl)
theorem dX12_chosen_125 : decode cX12_chosen 125 = .ok (.iload_n 2, 1) := dk_28 (dk_at dksX12_chosen_5 2 rfl rfl)
theorem dX12_chosen_126 : decode cX12_chosen 126 = .ok (.iload_n 3, 1) := dk_29 (dk_at dksX12_chosen_5 3 rfl rfl)
theorem dX12_chosen_127 : decode cX12_chosen 127 = .ok (.iload 4, 2) := dk_21 4 (dk_at dksX12_chosen_5 4 rfl rfl)
theorem dX12_chosen_129 : decode cX12_chosen 129 = .ok (.iload 5, 2) := dk_21 5 (dk_at dksX12_chosen_5 6 rfl rfl)
theorem dX12_chosen_131 : decode cX12_chosen 131 = .ok (.iconst 0, 1) := dk_3 (dk_at dksX12_chosen_5 8 rfl rfl)
theorem dX12_chosen_132 : decode cX12_chosen 132 = .ok (.invokevirtual 380, 3) := dk_182 1 124 (dk_at dksX12_chosen_5 9 rfl rfl)
theorem dX12_chosen_135 : decode cX12_chosen 135 = .ok (.ireturn, 1) := dk_172 (dk_at dksX12_chosen_5 12 rfl rfl)
theorem dX12_chosen_136 : decode cX12_chosen 136 = .ok (.aload_n 0, 1) := dk_42 (dk_at dksX12_chosen_5 13 rfl rfl)
theorem dX12_chosen_137 : decode cX12_chosen 137 = .ok (.iconst (-1), 1) := dk_2 (dk_at dksX12_chosen_5 14 rfl rfl)
theorem dX12_chosen_138 : decode cX12_chosen 138 = .ok (.iconst (-1), 1) := dk_2 (dk_at dksX12_chosen_5 15 rfl rfl)
theorem dX12_chosen_139 : decode cX12_chosen 139 = .ok (.iload_n 2, 1) := dk_28 (dk_at dksX12_chosen_5 16 rfl rfl)
theorem dX12_chosen_140 : decode cX12_chosen 140 = .ok (.iload_n 3, 1) := dk_29 (dk_at dksX12_chosen_5 17 rfl rfl)
theorem dX12_chosen_141 : decode cX12_chosen 141 = .ok (.iload 4, 2) := dk_21 4 (dk_at dksX12_chosen_5 18 rfl rfl)
theorem dX12_chosen_143 : decode cX12_chosen 143 = .ok (.iload 5, 2) := dk_21 5 (dk_at dksX12_chosen_5 20 rfl rfl)
theorem dX12_chosen_145 : decode cX12_chosen 145 = .ok (.invokevirtual 394, 3) := dk_182 1 138 (dk_at dksX12_chosen_6 0 rfl rfl)
theorem dX12_chosen_148 : decode cX12_chosen 148 = .ok (.ireturn, 1) := dk_172 (dk_at dksX12_chosen_6 3 rfl rfl)
theorem dX12_chosen_149 : decode cX12_chosen 149 = .ok (.iload_n 2, 1) := dk_28 (dk_at dksX12_chosen_6 4 rfl rfl)
theorem dX12_chosen_150 : decode cX12_chosen 150 = .ok (.invokestatic 398, 3) := dk_184 1 142 (dk_at dksX12_chosen_6 5 rfl rfl)
theorem dX12_chosen_153 : decode cX12_chosen 153 = .ok (.ireturn, 1) := dk_172 (dk_at dksX12_chosen_6 8 rfl rfl)
theorem dX12_chosen_154 : decode cX12_chosen 154 = .ok (.aload_n 0, 1) := dk_42 (dk_at dksX12_chosen_6 9 rfl rfl)
theorem dX12_chosen_155 : decode cX12_chosen 155 = .ok (.aload_n 0, 1) := dk_42 (dk_at dksX12_chosen_6 10 rfl rfl)
theorem dX12_chosen_156 : decode cX12_chosen 156 = .ok (.getfield 96, 3) := dk_180 0 96 (dk_at dksX12_chosen_6 11 rfl rfl)
theorem dX12_chosen_159 : decode cX12_chosen 159 = .ok (.iload 6, 2) := dk_21 6 (dk_at dksX12_chosen_6 14 rfl rfl)
theorem dX12_chosen_161 : decode cX12_chosen 161 = .ok (.iload_n 2, 1) := dk_28 (dk_at dksX12_chosen_6 16 rfl rfl)
theorem dX12_chosen_162 : decode cX12_chosen 162 = .ok (.iload_n 3, 1) := dk_29 (dk_at dksX12_chosen_6 17 rfl rfl)
theorem dX12_chosen_163 : decode cX12_chosen 163 = .ok (.iload 4, 2) := dk_21 4 (dk_at dksX12_chosen_6 18 rfl rfl)
theorem dX12_chosen_165 : decode cX12_chosen 165 = .ok (.iload 5, 2) := dk_21 5 (dk_at dksX12_chosen_6 20 rfl rfl)
theorem dX12_chosen_167 : decode cX12_chosen 167 = .ok (.iconst 0, 1) := dk_3 (dk_at dksX12_chosen_6 22 rfl rfl)
theorem dX12_chosen_168 : decode cX12_chosen 168 = .ok (.invokevirtual 380, 3) := dk_182 1 124 (dk_at dksX12_chosen_7 0 rfl rfl)
theorem dX12_chosen_171 : decode cX12_chosen 171 = .ok (.ireturn, 1) := dk_172 (dk_at dksX12_chosen_7 3 rfl rfl)
theorem dX12_chosen_172 : decode cX12_chosen 172 = .ok (.iload_n 2, 1) := dk_28 (dk_at dksX12_chosen_7 4 rfl rfl)
theorem dX12_chosen_173 : decode cX12_chosen 173 = .ok (.aload_n 0, 1) := dk_42 (dk_at dksX12_chosen_7 5 rfl rfl)
theorem dX12_chosen_174 : decode cX12_chosen 174 = .ok (.getfield 59, 3) := dk_180 0 59 (dk_at dksX12_chosen_7 6 rfl rfl)
theorem dX12_chosen_177 : decode cX12_chosen 177 = .ok (.iconst 5, 1) := dk_8 (dk_at dksX12_chosen_7 9 rfl rfl)
theorem dX12_chosen_178 : decode cX12_chosen 178 = .ok (.iload_n 3, 1) := dk_29 (dk_at dksX12_chosen_7 10 rfl rfl)
theorem dX12_chosen_179 : decode cX12_chosen 179 = .ok (.iadd, 1) := dk_96 (dk_at dksX12_chosen_7 11 rfl rfl)
theorem dX12_chosen_180 : decode cX12_chosen 180 = .ok (.iaload, 1) := dk_46 (dk_at dksX12_chosen_7 12 rfl rfl)
theorem dX12_chosen_181 : decode cX12_chosen 181 = .ok (.ishr, 1) := dk_122 (dk_at dksX12_chosen_7 13 rfl rfl)
theorem dX12_chosen_182 : decode cX12_chosen 182 = .ok (.iconst 1, 1) := dk_4 (dk_at dksX12_chosen_7 14 rfl rfl)
theorem dX12_chosen_183 : decode cX12_chosen 183 = .ok (.iand, 1) := dk_126 (dk_at dksX12_chosen_7 15 rfl rfl)
theorem dX12_chosen_184 : decode cX12_chosen 184 = .ok (.iconst 1, 1) := dk_4 (dk_at dksX12_chosen_7 16 rfl rfl)
theorem dX12_chosen_185 : decode cX12_chosen 185 = .ok (.if_icmp .ne 14, 3) := dk_160 0 14 (dk_at dksX12_chosen_7 17 rfl rfl)
theorem dX12_chosen_188 : decode cX12_chosen 188 = .ok (.aload_n 0, 1) := dk_42 (dk_at dksX12_chosen_7 20 rfl rfl)
theorem dX12_chosen_189 : decode cX12_chosen 189 = .ok (.getfield 59, 3) := dk_180 0 59 (dk_at dksX12_chosen_7 21 rfl rfl)
theorem dX12_chosen_192 : decode cX12_chosen 192 = .ok (.iconst 5, 1) := dk_8 (dk_at dksX12_chosen_8 0 rfl rfl)
theorem dX12_chosen_193 : decode cX12_chosen 193 = .ok (.iload_n 3, 1) := dk_29 (dk_at dksX12_chosen_8 1 rfl rfl)
theorem dX12_chosen_194 : decode cX12_chosen 194 = .ok (.iadd, 1) := dk_96 (dk_at dksX12_chosen_8 2 rfl rfl)
theorem dX12_chosen_195 : decode cX12_chosen 195 = .ok (.iaload, 1) := dk_46 (dk_at dksX12_chosen_8 3 rfl rfl)
theorem dX12_chosen_196 : decode cX12_chosen 196 = .ok (.goto 7, 3) := dk_167 0 7 (dk_at dksX12_chosen_8 4 rfl rfl)
theorem dX12_chosen_199 : decode cX12_chosen 199 = .ok (.iload_n 2, 1) := dk_28 (dk_at dksX12_chosen_8 7 rfl rfl)
theorem dX12_chosen_200 : decode cX12_chosen 200 = .ok (.invokestatic 398, 3) := dk_184 1 142 (dk_at dksX12_chosen_8 8 rfl rfl)
theorem dX12_chosen_203 : decode cX12_chosen 203 = .ok (.ireturn, 1) := dk_172 (dk_at dksX12_chosen_8 11 rfl rfl)
abbrev cX12_voted : ByteArray := prog_27_method_72_code
def yX12_voted : MethodName := ⟨RX12, "voted", "(IIII)I"⟩
def dkwX12_voted_5 : List UInt8 := [167, 255, 221, 21, 5, 172]
abbrev dktX12_voted_5 : List UInt8 := dkwX12_voted_5 ++ []
def dkwX12_voted_4 : List UInt8 := [42, 180, 0, 103, 21, 6, 46, 42, 180, 0, 103, 21, 5, 46, 164, 0, 7, 21, 6, 54, 5, 132, 6, 1]
abbrev dktX12_voted_4 : List UInt8 := dkwX12_voted_4 ++ dktX12_voted_5
def dkwX12_voted_3 : List UInt8 := [79, 132, 5, 1, 167, 255, 213, 3, 54, 5, 4, 54, 6, 21, 6, 42, 180, 0, 23, 4, 46, 163, 0, 30]
abbrev dktX12_voted_3 : List UInt8 := dkwX12_voted_3 ++ dktX12_voted_4
def dkwX12_voted_2 : List UInt8 := [42, 42, 180, 0, 90, 21, 5, 17, 15, 60, 104, 27, 28, 29, 21, 4, 3, 182, 1, 124, 92, 46, 4, 96]
abbrev dktX12_voted_2 : List UInt8 := dkwX12_voted_2 ++ dktX12_voted_3
def dkwX12_voted_1 : List UInt8 := [132, 5, 1, 167, 255, 234, 3, 54, 5, 21, 5, 42, 180, 0, 23, 5, 46, 162, 0, 38, 42, 180, 0, 103]
abbrev dktX12_voted_1 : List UInt8 := dkwX12_voted_1 ++ dktX12_voted_2
def dkwX12_voted_0 : List UInt8 := [3, 54, 5, 21, 5, 42, 180, 0, 23, 4, 46, 163, 0, 17, 42, 180, 0, 103, 21, 5, 3, 79]
abbrev dktX12_voted_0 : List UInt8 := dkwX12_voted_0 ++ dktX12_voted_1
theorem dksX12_voted_0 : cX12_voted.data.toList.drop 0 = dktX12_voted_0 := by decide +kernel
theorem dksX12_voted_1 : cX12_voted.data.toList.drop 22 = dktX12_voted_1 := dk_seg dksX12_voted_0 22 rfl rfl
theorem dksX12_voted_2 : cX12_voted.data.toList.drop 46 = dktX12_voted_2 := dk_seg dksX12_voted_1 24 rfl rfl
theorem dksX12_voted_3 : cX12_voted.data.toList.drop 70 = dktX12_voted_3 := dk_seg dksX12_voted_2 24 rfl rfl
theorem dksX12_voted_4 : cX12_voted.data.toList.drop 94 = dktX12_voted_4 := dk_seg dksX12_voted_3 24 rfl rfl
theorem dksX12_voted_5 : cX12_voted.data.toList.drop 118 = dktX12_voted_5 := dk_seg dksX12_voted_4 24 rfl rfl
theorem dX12_voted_0 : decode cX12_voted 0 = .ok (.iconst 0, 1) := dk_3 (dk_at dksX12_voted_0 0 rfl rfl)
theorem dX12_voted_1 : decode cX12_voted 1 = .ok (.istore 5, 2) := dk_54 5 (dk_at dksX12_voted_0 1 rfl rfl)
theorem dX12_voted_3 : decode cX12_voted 3 = .ok (.iload 5, 2) := dk_21 5 (dk_at dksX12_voted_0 3 rfl rfl)
theorem dX12_voted_5 : decode cX12_voted 5 = .ok (.aload_n 0, 1) := dk_42 (dk_at dksX12_voted_0 5 rfl rfl)
theorem dX12_voted_6 : decode cX12_voted 6 = .ok (.getfield 23, 3) := dk_180 0 23 (dk_at dksX12_voted_0 6 rfl rfl)
theorem dX12_voted_9 : decode cX12_voted 9 = .ok (.iconst 1, 1) := dk_4 (dk_at dksX12_voted_0 9 rfl rfl)
theorem dX12_voted_10 : decode cX12_voted 10 = .ok (.iaload, 1) := dk_46 (dk_at dksX12_voted_0 10 rfl rfl)
theorem dX12_voted_11 : decode cX12_voted 11 = .ok (.if_icmp .gt 17, 3) := dk_163 0 17 (dk_at dksX12_voted_0 11 rfl rfl)
theorem dX12_voted_14 : decode cX12_voted 14 = .ok (.aload_n 0, 1) := dk_42 (dk_at dksX12_voted_0 14 rfl rfl)
theorem dX12_voted_15 : decode cX12_voted 15 = .ok (.getfield 103, 3) := dk_180 0 103 (dk_at dksX12_voted_0 15 rfl rfl)
theorem dX12_voted_18 : decode cX12_voted 18 = .ok (.iload 5, 2) := dk_21 5 (dk_at dksX12_voted_0 18 rfl rfl)
theorem dX12_voted_20 : decode cX12_voted 20 = .ok (.iconst 0, 1) := dk_3 (dk_at dksX12_voted_0 20 rfl rfl)
theorem dX12_voted_21 : decode cX12_voted 21 = .ok (.iastore, 1) := dk_79 (dk_at dksX12_voted_0 21 rfl rfl)
theorem dX12_voted_22 : decode cX12_voted 22 = .ok (.iinc 5 1, 3) := dk_132 5 1 (dk_at dksX12_voted_1 0 rfl rfl)
theorem dX12_voted_25 : decode cX12_voted 25 = .ok (.goto (-22), 3) := dk_167 255 234 (dk_at dksX12_voted_1 3 rfl rfl)
theorem dX12_voted_28 : decode cX12_voted 28 = .ok (.iconst 0, 1) := dk_3 (dk_at dksX12_voted_1 6 rfl rfl)
theorem dX12_voted_29 : decode cX12_voted 29 = .ok (.istore 5, 2) := dk_54 5 (dk_at dksX12_voted_1 7 rfl rfl)
theorem dX12_voted_31 : decode cX12_voted 31 = .ok (.iload 5, 2) := dk_21 5 (dk_at dksX12_voted_1 9 rfl rfl)
theorem dX12_voted_33 : decode cX12_voted 33 = .ok (.aload_n 0, 1) := dk_42 (dk_at dksX12_voted_1 11 rfl rfl)
theorem dX12_voted_34 : decode cX12_voted 34 = .ok (.getfield 23, 3) := dk_180 0 23 (dk_at dksX12_voted_1 12 rfl rfl)
theorem dX12_voted_37 : decode cX12_voted 37 = .ok (.iconst 2, 1) := dk_5 (dk_at dksX12_voted_1 15 rfl rfl)
theorem dX12_voted_38 : decode cX12_voted 38 = .ok (.iaload, 1) := dk_46 (dk_at dksX12_voted_1 16 rfl rfl)
theorem dX12_voted_39 : decode cX12_voted 39 = .ok (.if_icmp .ge 38, 3) := dk_162 0 38 (dk_at dksX12_voted_1 17 rfl rfl)
theorem dX12_voted_42 : decode cX12_voted 42 = .ok (.aload_n 0, 1) := dk_42 (dk_at dksX12_voted_1 20 rfl rfl)
theorem dX12_voted_43 : decode cX12_voted 43 = .ok (.getfield 103, 3) := dk_180 0 103 (dk_at dksX12_voted_1 21 rfl rfl)
theorem dX12_voted_46 : decode cX12_voted 46 = .ok (.aload_n 0, 1) := dk_42 (dk_at dksX12_voted_2 0 rfl rfl)
theorem dX12_voted_47 : decode cX12_voted 47 = .ok (.aload_n 0, 1) := dk_42 (dk_at dksX12_voted_2 1 rfl rfl)
theorem dX12_voted_48 : decode cX12_voted 48 = .ok (.getfield 90, 3) := dk_180 0 90 (dk_at dksX12_voted_2 2 rfl rfl)
theorem dX12_voted_51 : decode cX12_voted 51 = .ok (.iload 5, 2) := dk_21 5 (dk_at dksX12_voted_2 5 rfl rfl)
theorem dX12_voted_53 : decode cX12_voted 53 = .ok (.sipush 3900, 3) := dk_17 15 60 (dk_at dksX12_voted_2 7 rfl rfl)
theorem dX12_voted_56 : decode cX12_voted 56 = .ok (.imul, 1) := dk_104 (dk_at dksX12_voted_2 10 rfl rfl)
theorem dX12_voted_57 : decode cX12_voted 57 = .ok (.iload_n 1, 1) := dk_27 (dk_at dksX12_voted_2 11 rfl rfl)
theorem dX12_voted_58 : decode cX12_voted 58 = .ok (.iload_n 2, 1) := dk_28 (dk_at dksX12_voted_2 12 rfl rfl)
theorem dX12_voted_59 : decode cX12_voted 59 = .ok (.iload_n 3, 1) := dk_29 (dk_at dksX12_voted_2 13 rfl rfl)
theorem dX12_voted_60 : decode cX12_voted 60 = .ok (.iload 4, 2) := dk_21 4 (dk_at dksX12_voted_2 14 rfl rfl)
theorem dX12_voted_62 : decode cX12_voted 62 = .ok (.iconst 0, 1) := dk_3 (dk_at dksX12_voted_2 16 rfl rfl)
theorem dX12_voted_63 : decode cX12_voted 63 = .ok (.invokevirtual 380, 3) := dk_182 1 124 (dk_at dksX12_voted_2 17 rfl rfl)
theorem dX12_voted_66 : decode cX12_voted 66 = .ok (.dup2, 1) := dk_92 (dk_at dksX12_voted_2 20 rfl rfl)
theorem dX12_voted_67 : decode cX12_voted 67 = .ok (.iaload, 1) := dk_46 (dk_at dksX12_voted_2 21 rfl rfl)
theorem dX12_voted_68 : decode cX12_voted 68 = .ok (.iconst 1, 1) := dk_4 (dk_at dksX12_voted_2 22 rfl rfl)
theorem dX12_voted_69 : decode cX12_voted 69 = .ok (.iadd, 1) := dk_96 (dk_at dksX12_voted_2 23 rfl rfl)
theorem dX12_voted_70 : decode cX12_voted 70 = .ok (.iastore, 1) := dk_79 (dk_at dksX12_voted_3 0 rfl rfl)
theorem dX12_voted_71 : decode cX12_voted 71 = .ok (.iinc 5 1, 3) := dk_132 5 1 (dk_at dksX12_voted_3 1 rfl rfl)
theorem dX12_voted_74 : decode cX12_voted 74 = .ok (.goto (-43), 3) := dk_167 255 213 (dk_at dksX12_voted_3 4 rfl rfl)
theorem dX12_voted_77 : decode cX12_voted 77 = .ok (.iconst 0, 1) := dk_3 (dk_at dksX12_voted_3 7 rfl rfl)
theorem dX12_voted_78 : decode cX12_voted 78 = .ok (.istore 5, 2) := dk_54 5 (dk_at dksX12_voted_3 8 rfl rfl)
theorem dX12_voted_80 : decode cX12_voted 80 = .ok (.iconst 1, 1) := dk_4 (dk_at dksX12_voted_3 10 rfl rfl)
theorem dX12_voted_81 : decode cX12_voted 81 = .ok (.istore 6, 2) := dk_54 6 (dk_at dksX12_voted_3 11 rfl rfl)
theorem dX12_voted_83 : decode cX12_voted 83 = .ok (.iload 6, 2) := dk_21 6 (dk_at dksX12_voted_3 13 rfl rfl)
theorem dX12_voted_85 : decode cX12_voted 85 = .ok (.aload_n 0, 1) := dk_42 (dk_at dksX12_voted_3 15 rfl rfl)
theorem dX12_voted_86 : decode cX12_voted 86 = .ok (.getfield 23, 3) := dk_180 0 23 (dk_at dksX12_voted_3 16 rfl rfl)
theorem dX12_voted_89 : decode cX12_voted 89 = .ok (.iconst 1, 1) := dk_4 (dk_at dksX12_voted_3 19 rfl rfl)
theorem dX12_voted_90 : decode cX12_voted 90 = .ok (.iaload, 1) := dk_46 (dk_at dksX12_voted_3 20 rfl rfl)
theorem dX12_voted_91 : decode cX12_voted 91 = .ok (.if_icmp .gt 30, 3) := dk_163 0 30 (dk_at dksX12_voted_3 21 rfl rfl)
theorem dX12_voted_94 : decode cX12_voted 94 = .ok (.aload_n 0, 1) := dk_42 (dk_at dksX12_voted_4 0 rfl rfl)
theorem dX12_voted_95 : decode cX12_voted 95 = .ok (.getfield 103, 3) := dk_180 0 103 (dk_at dksX12_voted_4 1 rfl rfl)
theorem dX12_voted_98 : decode cX12_voted 98 = .ok (.iload 6, 2) := dk_21 6 (dk_at dksX12_voted_4 4 rfl rfl)
theorem dX12_voted_100 : decode cX12_voted 100 = .ok (.iaload, 1) := dk_46 (dk_at dksX12_voted_4 6 rfl rfl)
theorem dX12_voted_101 : decode cX12_voted 101 = .ok (.aload_n 0, 1) := dk_42 (dk_at dksX12_voted_4 7 rfl rfl)
theorem dX12_voted_102 : decode cX12_voted 102 = .ok (.getfield 103, 3) := dk_180 0 103 (dk_at dksX12_voted_4 8 rfl rfl)
theorem dX12_voted_105 : decode cX12_voted 105 = .ok (.iload 5, 2) := dk_21 5 (dk_at dksX12_voted_4 11 rfl rfl)
theorem dX12_voted_107 : decode cX12_voted 107 = .ok (.iaload, 1) := dk_46 (dk_at dksX12_voted_4 13 rfl rfl)
theorem dX12_voted_108 : decode cX12_voted 108 = .ok (.if_icmp .le 7, 3) := dk_164 0 7 (dk_at dksX12_voted_4 14 rfl rfl)
theorem dX12_voted_111 : decode cX12_voted 111 = .ok (.iload 6, 2) := dk_21 6 (dk_at dksX12_voted_4 17 rfl rfl)
theorem dX12_voted_113 : decode cX12_voted 113 = .ok (.istore 5, 2) := dk_54 5 (dk_at dksX12_voted_4 19 rfl rfl)
theorem dX12_voted_115 : decode cX12_voted 115 = .ok (.iinc 6 1, 3) := dk_132 6 1 (dk_at dksX12_voted_4 21 rfl rfl)
theorem dX12_voted_118 : decode cX12_voted 118 = .ok (.goto (-35), 3) := dk_167 255 221 (dk_at dksX12_voted_5 0 rfl rfl)
theorem dX12_voted_121 : decode cX12_voted 121 = .ok (.iload 5, 2) := dk_21 5 (dk_at dksX12_voted_5 3 rfl rfl)
theorem dX12_voted_123 : decode cX12_voted 123 = .ok (.ireturn, 1) := dk_172 (dk_at dksX12_voted_5 5 rfl rfl)
abbrev cX12_bestOf : ByteArray := prog_27_method_71_code
def yX12_bestOf : MethodName := ⟨RX12, "bestOf", "(IIIIII)I"⟩
def dkwX12_bestOf_3 : List UInt8 := [55, 8, 132, 10, 1, 167, 255, 189, 21, 7, 172]
abbrev dktX12_bestOf_3 : List UInt8 := dkwX12_bestOf_3 ++ []
def dkwX12_bestOf_2 : List UInt8 := [21, 7, 2, 159, 0, 14, 22, 11, 22, 8, 148, 157, 0, 6, 167, 0, 11, 21, 10, 54, 7, 22, 11]
abbrev dktX12_bestOf_2 : List UInt8 := dkwX12_bestOf_2 ++ dktX12_bestOf_3
def dkwX12_bestOf_1 : List UInt8 := [4, 126, 154, 0, 6, 167, 0, 44, 42, 27, 28, 21, 4, 21, 5, 21, 6, 21, 10, 182, 1, 128, 55, 11]
abbrev dktX12_bestOf_1 : List UInt8 := dkwX12_bestOf_1 ++ dktX12_bestOf_2
def dkwX12_bestOf_0 : List UInt8 := [2, 54, 7, 9, 55, 8, 3, 54, 10, 21, 10, 42, 180, 0, 23, 4, 46, 163, 0, 62, 29, 21, 10, 122]
abbrev dktX12_bestOf_0 : List UInt8 := dkwX12_bestOf_0 ++ dktX12_bestOf_1
theorem dksX12_bestOf_0 : cX12_bestOf.data.toList.drop 0 = dktX12_bestOf_0 := by decide +kernel
theorem dksX12_bestOf_1 : cX12_bestOf.data.toList.drop 24 = dktX12_bestOf_1 := dk_seg dksX12_bestOf_0 24 rfl rfl
theorem dksX12_bestOf_2 : cX12_bestOf.data.toList.drop 48 = dktX12_bestOf_2 := dk_seg dksX12_bestOf_1 24 rfl rfl
theorem dksX12_bestOf_3 : cX12_bestOf.data.toList.drop 71 = dktX12_bestOf_3 := dk_seg dksX12_bestOf_2 23 rfl rfl
theorem dX12_bestOf_0 : decode cX12_bestOf 0 = .ok (.iconst (-1), 1) := dk_2 (dk_at dksX12_bestOf_0 0 rfl rfl)
theorem dX12_bestOf_1 : decode cX12_bestOf 1 = .ok (.istore 7, 2) := dk_54 7 (dk_at dksX12_bestOf_0 1 rfl rfl)
theorem dX12_bestOf_3 : decode cX12_bestOf 3 = .ok (.lconst 0, 1) := dk_9 (dk_at dksX12_bestOf_0 3 rfl rfl)
theorem dX12_bestOf_4 : decode cX12_bestOf 4 = .ok (.lstore 8, 2) := dk_55 8 (dk_at dksX12_bestOf_0 4 rfl rfl)
theorem dX12_bestOf_6 : decode cX12_bestOf 6 = .ok (.iconst 0, 1) := dk_3 (dk_at dksX12_bestOf_0 6 rfl rfl)
theorem dX12_bestOf_7 : decode cX12_bestOf 7 = .ok (.istore 10, 2) := dk_54 10 (dk_at dksX12_bestOf_0 7 rfl rfl)
theorem dX12_bestOf_9 : decode cX12_bestOf 9 = .ok (.iload 10, 2) := dk_21 10 (dk_at dksX12_bestOf_0 9 rfl rfl)
theorem dX12_bestOf_11 : decode cX12_bestOf 11 = .ok (.aload_n 0, 1) := dk_42 (dk_at dksX12_bestOf_0 11 rfl rfl)
theorem dX12_bestOf_12 : decode cX12_bestOf 12 = .ok (.getfield 23, 3) := dk_180 0 23 (dk_at dksX12_bestOf_0 12 rfl rfl)
theorem dX12_bestOf_15 : decode cX12_bestOf 15 = .ok (.iconst 1, 1) := dk_4 (dk_at dksX12_bestOf_0 15 rfl rfl)
theorem dX12_bestOf_16 : decode cX12_bestOf 16 = .ok (.iaload, 1) := dk_46 (dk_at dksX12_bestOf_0 16 rfl rfl)
theorem dX12_bestOf_17 : decode cX12_bestOf 17 = .ok (.if_icmp .gt 62, 3) := dk_163 0 62 (dk_at dksX12_bestOf_0 17 rfl rfl)
theorem dX12_bestOf_20 : decode cX12_bestOf 20 = .ok (.iload_n 3, 1) := dk_29 (dk_at dksX12_bestOf_0 20 rfl rfl)
theorem dX12_bestOf_21 : decode cX12_bestOf 21 = .ok (.iload 10, 2) := dk_21 10 (dk_at dksX12_bestOf_0 21 rfl rfl)
theorem dX12_bestOf_23 : decode cX12_bestOf 23 = .ok (.ishr, 1) := dk_122 (dk_at dksX12_bestOf_0 23 rfl rfl)
theorem dX12_bestOf_24 : decode cX12_bestOf 24 = .ok (.iconst 1, 1) := dk_4 (dk_at dksX12_bestOf_1 0 rfl rfl)
theorem dX12_bestOf_25 : decode cX12_bestOf 25 = .ok (.iand, 1) := dk_126 (dk_at dksX12_bestOf_1 1 rfl rfl)
theorem dX12_bestOf_26 : decode cX12_bestOf 26 = .ok (.ifCond .ne 6, 3) := dk_154 0 6 (dk_at dksX12_bestOf_1 2 rfl rfl)
theorem dX12_bestOf_29 : decode cX12_bestOf 29 = .ok (.goto 44, 3) := dk_167 0 44 (dk_at dksX12_bestOf_1 5 rfl rfl)
theorem dX12_bestOf_32 : decode cX12_bestOf 32 = .ok (.aload_n 0, 1) := dk_42 (dk_at dksX12_bestOf_1 8 rfl rfl)
theorem dX12_bestOf_33 : decode cX12_bestOf 33 = .ok (.iload_n 1, 1) := dk_27 (dk_at dksX12_bestOf_1 9 rfl rfl)
theorem dX12_bestOf_34 : decode cX12_bestOf 34 = .ok (.iload_n 2, 1) := dk_28 (dk_at dksX12_bestOf_1 10 rfl rfl)
theorem dX12_bestOf_35 : decode cX12_bestOf 35 = .ok (.iload 4, 2) := dk_21 4 (dk_at dksX12_bestOf_1 11 rfl rfl)
theorem dX12_bestOf_37 : decode cX12_bestOf 37 = .ok (.iload 5, 2) := dk_21 5 (dk_at dksX12_bestOf_1 13 rfl rfl)
theorem dX12_bestOf_39 : decode cX12_bestOf 39 = .ok (.iload 6, 2) := dk_21 6 (dk_at dksX12_bestOf_1 15 rfl rfl)
theorem dX12_bestOf_41 : decode cX12_bestOf 41 = .ok (.iload 10, 2) := dk_21 10 (dk_at dksX12_bestOf_1 17 rfl rfl)
theorem dX12_bestOf_43 : decode cX12_bestOf 43 = .ok (.invokevirtual 384, 3) := dk_182 1 128 (dk_at dksX12_bestOf_1 19 rfl rfl)
theorem dX12_bestOf_46 : decode cX12_bestOf 46 = .ok (.lstore 11, 2) := dk_55 11 (dk_at dksX12_bestOf_1 22 rfl rfl)
theorem dX12_bestOf_48 : decode cX12_bestOf 48 = .ok (.iload 7, 2) := dk_21 7 (dk_at dksX12_bestOf_2 0 rfl rfl)
theorem dX12_bestOf_50 : decode cX12_bestOf 50 = .ok (.iconst (-1), 1) := dk_2 (dk_at dksX12_bestOf_2 2 rfl rfl)
theorem dX12_bestOf_51 : decode cX12_bestOf 51 = .ok (.if_icmp .eq 14, 3) := dk_159 0 14 (dk_at dksX12_bestOf_2 3 rfl rfl)
theorem dX12_bestOf_54 : decode cX12_bestOf 54 = .ok (.lload 11, 2) := dk_22 11 (dk_at dksX12_bestOf_2 6 rfl rfl)
theorem dX12_bestOf_56 : decode cX12_bestOf 56 = .ok (.lload 8, 2) := dk_22 8 (dk_at dksX12_bestOf_2 8 rfl rfl)
theorem dX12_bestOf_58 : decode cX12_bestOf 58 = .ok (.lcmp, 1) := dk_148 (dk_at dksX12_bestOf_2 10 rfl rfl)
theorem dX12_bestOf_59 : decode cX12_bestOf 59 = .ok (.ifCond .gt 6, 3) := dk_157 0 6 (dk_at dksX12_bestOf_2 11 rfl rfl)
theorem dX12_bestOf_62 : decode cX12_bestOf 62 = .ok (.goto 11, 3) := dk_167 0 11 (dk_at dksX12_bestOf_2 14 rfl rfl)
theorem dX12_bestOf_65 : decode cX12_bestOf 65 = .ok (.iload 10, 2) := dk_21 10 (dk_at dksX12_bestOf_2 17 rfl rfl)
theorem dX12_bestOf_67 : decode cX12_bestOf 67 = .ok (.istore 7, 2) := dk_54 7 (dk_at dksX12_bestOf_2 19 rfl rfl)
theorem dX12_bestOf_69 : decode cX12_bestOf 69 = .ok (.lload 11, 2) := dk_22 11 (dk_at dksX12_bestOf_2 21 rfl rfl)
theorem dX12_bestOf_71 : decode cX12_bestOf 71 = .ok (.lstore 8, 2) := dk_55 8 (dk_at dksX12_bestOf_3 0 rfl rfl)
theorem dX12_bestOf_73 : decode cX12_bestOf 73 = .ok (.iinc 10 1, 3) := dk_132 10 1 (dk_at dksX12_bestOf_3 2 rfl rfl)
theorem dX12_bestOf_76 : decode cX12_bestOf 76 = .ok (.goto (-67), 3) := dk_167 255 189 (dk_at dksX12_bestOf_3 5 rfl rfl)
theorem dX12_bestOf_79 : decode cX12_bestOf 79 = .ok (.iload 7, 2) := dk_21 7 (dk_at dksX12_bestOf_3 8 rfl rfl)
theorem dX12_bestOf_81 : decode cX12_bestOf 81 = .ok (.ireturn, 1) := dk_172 (dk_at dksX12_bestOf_3 10 rfl rfl)
abbrev cX12_sums : ByteArray := prog_27_method_70_code
def yX12_sums : MethodName := ⟨RX12, "sums", "(IIIIII)J"⟩
def dkwX12_sums_2 : List UInt8 := [21, 4, 21, 5, 21, 6, 182, 1, 113, 97, 55, 7, 132, 9, 1, 167, 255, 199, 22, 7, 173]
abbrev dktX12_sums_2 : List UInt8 := dkwX12_sums_2 ++ []
def dkwX12_sums_1 : List UInt8 := [27, 159, 0, 9, 21, 9, 28, 160, 0, 29, 22, 7, 42, 42, 180, 0, 90, 21, 9, 17, 15, 60, 104, 29]
abbrev dktX12_sums_1 : List UInt8 := dkwX12_sums_1 ++ dktX12_sums_2
def dkwX12_sums_0 : List UInt8 := [9, 55, 7, 3, 54, 9, 21, 9, 42, 180, 0, 23, 5, 46, 162, 0, 52, 27, 2, 159, 0, 15, 21, 9]
abbrev dktX12_sums_0 : List UInt8 := dkwX12_sums_0 ++ dktX12_sums_1
theorem dksX12_sums_0 : cX12_sums.data.toList.drop 0 = dktX12_sums_0 := by decide +kernel
theorem dksX12_sums_1 : cX12_sums.data.toList.drop 24 = dktX12_sums_1 := dk_seg dksX12_sums_0 24 rfl rfl
theorem dksX12_sums_2 : cX12_sums.data.toList.drop 48 = dktX12_sums_2 := dk_seg dksX12_sums_1 24 rfl rfl
theorem dX12_sums_0 : decode cX12_sums 0 = .ok (.lconst 0, 1) := dk_9 (dk_at dksX12_sums_0 0 rfl rfl)
theorem dX12_sums_1 : decode cX12_sums 1 = .ok (.lstore 7, 2) := dk_55 7 (dk_at dksX12_sums_0 1 rfl rfl)
theorem dX12_sums_3 : decode cX12_sums 3 = .ok (.iconst 0, 1) := dk_3 (dk_at dksX12_sums_0 3 rfl rfl)
theorem dX12_sums_4 : decode cX12_sums 4 = .ok (.istore 9, 2) := dk_54 9 (dk_at dksX12_sums_0 4 rfl rfl)
theorem dX12_sums_6 : decode cX12_sums 6 = .ok (.iload 9, 2) := dk_21 9 (dk_at dksX12_sums_0 6 rfl rfl)
theorem dX12_sums_8 : decode cX12_sums 8 = .ok (.aload_n 0, 1) := dk_42 (dk_at dksX12_sums_0 8 rfl rfl)
theorem dX12_sums_9 : decode cX12_sums 9 = .ok (.getfield 23, 3) := dk_180 0 23 (dk_at dksX12_sums_0 9 rfl rfl)
theorem dX12_sums_12 : decode cX12_sums 12 = .ok (.iconst 2, 1) := dk_5 (dk_at dksX12_sums_0 12 rfl rfl)
theorem dX12_sums_13 : decode cX12_sums 13 = .ok (.iaload, 1) := dk_46 (dk_at dksX12_sums_0 13 rfl rfl)
theorem dX12_sums_14 : decode cX12_sums 14 = .ok (.if_icmp .ge 52, 3) := dk_162 0 52 (dk_at dksX12_sums_0 14 rfl rfl)
theorem dX12_sums_17 : decode cX12_sums 17 = .ok (.iload_n 1, 1) := dk_27 (dk_at dksX12_sums_0 17 rfl rfl)
theorem dX12_sums_18 : decode cX12_sums 18 = .ok (.iconst (-1), 1) := dk_2 (dk_at dksX12_sums_0 18 rfl rfl)
theorem dX12_sums_19 : decode cX12_sums 19 = .ok (.if_icmp .eq 15, 3) := dk_159 0 15 (dk_at dksX12_sums_0 19 rfl rfl)
theorem dX12_sums_22 : decode cX12_sums 22 = .ok (.iload 9, 2) := dk_21 9 (dk_at dksX12_sums_0 22 rfl rfl)
theorem dX12_sums_24 : decode cX12_sums 24 = .ok (.iload_n 1, 1) := dk_27 (dk_at dksX12_sums_1 0 rfl rfl)
theorem dX12_sums_25 : decode cX12_sums 25 = .ok (.if_icmp .eq 9, 3) := dk_159 0 9 (dk_at dksX12_sums_1 1 rfl rfl)
theorem dX12_sums_28 : decode cX12_sums 28 = .ok (.iload 9, 2) := dk_21 9 (dk_at dksX12_sums_1 4 rfl rfl)
theorem dX12_sums_30 : decode cX12_sums 30 = .ok (.iload_n 2, 1) := dk_28 (dk_at dksX12_sums_1 6 rfl rfl)
theorem dX12_sums_31 : decode cX12_sums 31 = .ok (.if_icmp .ne 29, 3) := dk_160 0 29 (dk_at dksX12_sums_1 7 rfl rfl)
theorem dX12_sums_34 : decode cX12_sums 34 = .ok (.lload 7, 2) := dk_22 7 (dk_at dksX12_sums_1 10 rfl rfl)
theorem dX12_sums_36 : decode cX12_sums 36 = .ok (.aload_n 0, 1) := dk_42 (dk_at dksX12_sums_1 12 rfl rfl)
theorem dX12_sums_37 : decode cX12_sums 37 = .ok (.aload_n 0, 1) := dk_42 (dk_at dksX12_sums_1 13 rfl rfl)
theorem dX12_sums_38 : decode cX12_sums 38 = .ok (.getfield 90, 3) := dk_180 0 90 (dk_at dksX12_sums_1 14 rfl rfl)
theorem dX12_sums_41 : decode cX12_sums 41 = .ok (.iload 9, 2) := dk_21 9 (dk_at dksX12_sums_1 17 rfl rfl)
theorem dX12_sums_43 : decode cX12_sums 43 = .ok (.sipush 3900, 3) := dk_17 15 60 (dk_at dksX12_sums_1 19 rfl rfl)
theorem dX12_sums_46 : decode cX12_sums 46 = .ok (.imul, 1) := dk_104 (dk_at dksX12_sums_1 22 rfl rfl)
theorem dX12_sums_47 : decode cX12_sums 47 = .ok (.iload_n 3, 1) := dk_29 (dk_at dksX12_sums_1 23 rfl rfl)
theorem dX12_sums_48 : decode cX12_sums 48 = .ok (.iload 4, 2) := dk_21 4 (dk_at dksX12_sums_2 0 rfl rfl)
theorem dX12_sums_50 : decode cX12_sums 50 = .ok (.iload 5, 2) := dk_21 5 (dk_at dksX12_sums_2 2 rfl rfl)
theorem dX12_sums_52 : decode cX12_sums 52 = .ok (.iload 6, 2) := dk_21 6 (dk_at dksX12_sums_2 4 rfl rfl)
theorem dX12_sums_54 : decode cX12_sums 54 = .ok (.invokevirtual 369, 3) := dk_182 1 113 (dk_at dksX12_sums_2 6 rfl rfl)
theorem dX12_sums_57 : decode cX12_sums 57 = .ok (.ladd, 1) := dk_97 (dk_at dksX12_sums_2 9 rfl rfl)
theorem dX12_sums_58 : decode cX12_sums 58 = .ok (.lstore 7, 2) := dk_55 7 (dk_at dksX12_sums_2 10 rfl rfl)
theorem dX12_sums_60 : decode cX12_sums 60 = .ok (.iinc 9 1, 3) := dk_132 9 1 (dk_at dksX12_sums_2 12 rfl rfl)
theorem dX12_sums_63 : decode cX12_sums 63 = .ok (.goto (-57), 3) := dk_167 255 199 (dk_at dksX12_sums_2 15 rfl rfl)
theorem dX12_sums_66 : decode cX12_sums 66 = .ok (.lload 7, 2) := dk_22 7 (dk_at dksX12_sums_2 18 rfl rfl)
theorem dX12_sums_68 : decode cX12_sums 68 = .ok (.lreturn, 1) := dk_173 (dk_at dksX12_sums_2 20 rfl rfl)
abbrev cX12_first : ByteArray := prog_27_method_73_code
def yX12_first : MethodName := ⟨RX12, "first", "(I)I"⟩
def dkwX12_first_0 : List UInt8 := [3, 60, 26, 27, 122, 4, 126, 154, 0, 9, 132, 1, 1, 167, 255, 245, 27, 172]
abbrev dktX12_first_0 : List UInt8 := dkwX12_first_0 ++ []
theorem dksX12_first_0 : cX12_first.data.toList.drop 0 = dktX12_first_0 := by decide +kernel
theorem dX12_first_0 : decode cX12_first 0 = .ok (.iconst 0, 1) := dk_3 (dk_at dksX12_first_0 0 rfl rfl)
theorem dX12_first_1 : decode cX12_first 1 = .ok (.istore_n 1, 1) := dk_60 (dk_at dksX12_first_0 1 rfl rfl)
theorem dX12_first_2 : decode cX12_first 2 = .ok (.iload_n 0, 1) := dk_26 (dk_at dksX12_first_0 2 rfl rfl)
theorem dX12_first_3 : decode cX12_first 3 = .ok (.iload_n 1, 1) := dk_27 (dk_at dksX12_first_0 3 rfl rfl)
theorem dX12_first_4 : decode cX12_first 4 = .ok (.ishr, 1) := dk_122 (dk_at dksX12_first_0 4 rfl rfl)
theorem dX12_first_5 : decode cX12_first 5 = .ok (.iconst 1, 1) := dk_4 (dk_at dksX12_first_0 5 rfl rfl)
theorem dX12_first_6 : decode cX12_first 6 = .ok (.iand, 1) := dk_126 (dk_at dksX12_first_0 6 rfl rfl)
theorem dX12_first_7 : decode cX12_first 7 = .ok (.ifCond .ne 9, 3) := dk_154 0 9 (dk_at dksX12_first_0 7 rfl rfl)
theorem dX12_first_10 : decode cX12_first 10 = .ok (.iinc 1 1, 3) := dk_132 1 1 (dk_at dksX12_first_0 10 rfl rfl)
theorem dX12_first_13 : decode cX12_first 13 = .ok (.goto (-11), 3) := dk_167 255 245 (dk_at dksX12_first_0 13 rfl rfl)
theorem dX12_first_16 : decode cX12_first 16 = .ok (.iload_n 1, 1) := dk_27 (dk_at dksX12_first_0 16 rfl rfl)
theorem dX12_first_17 : decode cX12_first 17 = .ok (.ireturn, 1) := dk_172 (dk_at dksX12_first_0 17 rfl rfl)
abbrev cX12_value : ByteArray := prog_27_method_85_code
def yX12_value : MethodName := ⟨RX12, "value", "(IIII)J"⟩
def dkwX12_value_2 : List UInt8 := [180, 0, 90, 27, 17, 15, 60, 104, 29, 28, 21, 4, 184, 1, 98, 96, 47, 173]
abbrev dktX12_value_2 : List UInt8 := dkwX12_value_2 ++ []
def dkwX12_value_1 : List UInt8 := [28, 29, 21, 4, 182, 1, 171, 5, 5, 182, 0, 226, 154, 0, 5, 9, 173, 42, 182, 1, 174, 42]
abbrev dktX12_value_1 : List UInt8 := dkwX12_value_1 ++ dktX12_value_2
def dkwX12_value_0 : List UInt8 := [42, 3, 181, 0, 1, 42, 6, 182, 1, 75, 153, 0, 29, 42, 27, 4, 182, 1, 62, 153, 0, 20, 42, 42]
abbrev dktX12_value_0 : List UInt8 := dkwX12_value_0 ++ dktX12_value_1
theorem dksX12_value_0 : cX12_value.data.toList.drop 0 = dktX12_value_0 := by decide +kernel
theorem dksX12_value_1 : cX12_value.data.toList.drop 24 = dktX12_value_1 := dk_seg dksX12_value_0 24 rfl rfl
theorem dksX12_value_2 : cX12_value.data.toList.drop 46 = dktX12_value_2 := dk_seg dksX12_value_1 22 rfl rfl
theorem dX12_value_0 : decode cX12_value 0 = .ok (.aload_n 0, 1) := dk_42 (dk_at dksX12_value_0 0 rfl rfl)
theorem dX12_value_1 : decode cX12_value 1 = .ok (.iconst 0, 1) := dk_3 (dk_at dksX12_value_0 1 rfl rfl)
theorem dX12_value_2 : decode cX12_value 2 = .ok (.putfield 1, 3) := dk_181 0 1 (dk_at dksX12_value_0 2 rfl rfl)
theorem dX12_value_5 : decode cX12_value 5 = .ok (.aload_n 0, 1) := dk_42 (dk_at dksX12_value_0 5 rfl rfl)
theorem dX12_value_6 : decode cX12_value 6 = .ok (.iconst 3, 1) := dk_6 (dk_at dksX12_value_0 6 rfl rfl)
theorem dX12_value_7 : decode cX12_value 7 = .ok (.invokevirtual 331, 3) := dk_182 1 75 (dk_at dksX12_value_0 7 rfl rfl)
theorem dX12_value_10 : decode cX12_value 10 = .ok (.ifCond .eq 29, 3) := dk_153 0 29 (dk_at dksX12_value_0 10 rfl rfl)
theorem dX12_value_13 : decode cX12_value 13 = .ok (.aload_n 0, 1) := dk_42 (dk_at dksX12_value_0 13 rfl rfl)
theorem dX12_value_14 : decode cX12_value 14 = .ok (.iload_n 1, 1) := dk_27 (dk_at dksX12_value_0 14 rfl rfl)
theorem dX12_value_15 : decode cX12_value 15 = .ok (.iconst 1, 1) := dk_4 (dk_at dksX12_value_0 15 rfl rfl)
theorem dX12_value_16 : decode cX12_value 16 = .ok (.invokevirtual 318, 3) := dk_182 1 62 (dk_at dksX12_value_0 16 rfl rfl)
theorem dX12_value_19 : decode cX12_value 19 = .ok (.ifCond .eq 20, 3) := dk_153 0 20 (dk_at dksX12_value_0 19 rfl rfl)
theorem dX12_value_22 : decode cX12_value 22 = .ok (.aload_n 0, 1) := dk_42 (dk_at dksX12_value_0 22 rfl rfl)
theorem dX12_value_23 : decode cX12_value 23 = .ok (.aload_n 0, 1) := dk_42 (dk_at dksX12_value_0 23 rfl rfl)
theorem dX12_value_24 : decode cX12_value 24 = .ok (.iload_n 2, 1) := dk_28 (dk_at dksX12_value_1 0 rfl rfl)
theorem dX12_value_25 : decode cX12_value 25 = .ok (.iload_n 3, 1) := dk_29 (dk_at dksX12_value_1 1 rfl rfl)
theorem dX12_value_26 : decode cX12_value 26 = .ok (.iload 4, 2) := dk_21 4 (dk_at dksX12_value_1 2 rfl rfl)
theorem dX12_value_28 : decode cX12_value 28 = .ok (.invokevirtual 427, 3) := dk_182 1 171 (dk_at dksX12_value_1 4 rfl rfl)
theorem dX12_value_31 : decode cX12_value 31 = .ok (.iconst 2, 1) := dk_5 (dk_at dksX12_value_1 7 rfl rfl)
theorem dX12_value_32 : decode cX12_value 32 = .ok (.iconst 2, 1) := dk_5 (dk_at dksX12_value_1 8 rfl rfl)
theorem dX12_value_33 : decode cX12_value 33 = .ok (.invokevirtual 226, 3) := dk_182 0 226 (dk_at dksX12_value_1 9 rfl rfl)
theorem dX12_value_36 : decode cX12_value 36 = .ok (.ifCond .ne 5, 3) := dk_154 0 5 (dk_at dksX12_value_1 12 rfl rfl)
theorem dX12_value_39 : decode cX12_value 39 = .ok (.lconst 0, 1) := dk_9 (dk_at dksX12_value_1 15 rfl rfl)
theorem dX12_value_40 : decode cX12_value 40 = .ok (.lreturn, 1) := dk_173 (dk_at dksX12_value_1 16 rfl rfl)
theorem dX12_value_41 : decode cX12_value 41 = .ok (.aload_n 0, 1) := dk_42 (dk_at dksX12_value_1 17 rfl rfl)
theorem dX12_value_42 : decode cX12_value 42 = .ok (.invokevirtual 430, 3) := dk_182 1 174 (dk_at dksX12_value_1 18 rfl rfl)
theorem dX12_value_45 : decode cX12_value 45 = .ok (.aload_n 0, 1) := dk_42 (dk_at dksX12_value_1 21 rfl rfl)
theorem dX12_value_46 : decode cX12_value 46 = .ok (.getfield 90, 3) := dk_180 0 90 (dk_at dksX12_value_2 0 rfl rfl)
theorem dX12_value_49 : decode cX12_value 49 = .ok (.iload_n 1, 1) := dk_27 (dk_at dksX12_value_2 3 rfl rfl)
theorem dX12_value_50 : decode cX12_value 50 = .ok (.sipush 3900, 3) := dk_17 15 60 (dk_at dksX12_value_2 4 rfl rfl)
theorem dX12_value_53 : decode cX12_value 53 = .ok (.imul, 1) := dk_104 (dk_at dksX12_value_2 7 rfl rfl)
theorem dX12_value_54 : decode cX12_value 54 = .ok (.iload_n 3, 1) := dk_29 (dk_at dksX12_value_2 8 rfl rfl)
theorem dX12_value_55 : decode cX12_value 55 = .ok (.iload_n 2, 1) := dk_28 (dk_at dksX12_value_2 9 rfl rfl)
theorem dX12_value_56 : decode cX12_value 56 = .ok (.iload 4, 2) := dk_21 4 (dk_at dksX12_value_2 10 rfl rfl)
theorem dX12_value_58 : decode cX12_value 58 = .ok (.invokestatic 354, 3) := dk_184 1 98 (dk_at dksX12_value_2 12 rfl rfl)
theorem dX12_value_61 : decode cX12_value 61 = .ok (.iadd, 1) := dk_96 (dk_at dksX12_value_2 15 rfl rfl)
theorem dX12_value_62 : decode cX12_value 62 = .ok (.laload, 1) := dk_47 (dk_at dksX12_value_2 16 rfl rfl)
theorem dX12_value_63 : decode cX12_value 63 = .ok (.lreturn, 1) := dk_173 (dk_at dksX12_value_2 17 rfl rfl)
abbrev cX12_scale : ByteArray := prog_27_method_86_code
def yX12_scale : MethodName := ⟨RX12, "scale", "(I)J"⟩
def dkwX12_scale_1 : List UInt8 := [184, 1, 58, 4, 5, 182, 0, 226, 154, 0, 5, 9, 173, 42, 182, 1, 155, 42, 180, 0, 86, 27, 47, 173]
abbrev dktX12_scale_1 : List UInt8 := dkwX12_scale_1 ++ []
def dkwX12_scale_0 : List UInt8 := [42, 3, 181, 0, 1, 42, 5, 182, 1, 75, 153, 0, 23, 42, 27, 3, 42, 180, 0, 23, 6, 46]
abbrev dktX12_scale_0 : List UInt8 := dkwX12_scale_0 ++ dktX12_scale_1
theorem dksX12_scale_0 : cX12_scale.data.toList.drop 0 = dktX12_scale_0 := by decide +kernel
theorem dksX12_scale_1 : cX12_scale.data.toList.drop 22 = dktX12_scale_1 := dk_seg dksX12_scale_0 22 rfl rfl
theorem dX12_scale_0 : decode cX12_scale 0 = .ok (.aload_n 0, 1) := dk_42 (dk_at dksX12_scale_0 0 rfl rfl)
theorem dX12_scale_1 : decode cX12_scale 1 = .ok (.iconst 0, 1) := dk_3 (dk_at dksX12_scale_0 1 rfl rfl)
theorem dX12_scale_2 : decode cX12_scale 2 = .ok (.putfield 1, 3) := dk_181 0 1 (dk_at dksX12_scale_0 2 rfl rfl)
theorem dX12_scale_5 : decode cX12_scale 5 = .ok (.aload_n 0, 1) := dk_42 (dk_at dksX12_scale_0 5 rfl rfl)
theorem dX12_scale_6 : decode cX12_scale 6 = .ok (.iconst 2, 1) := dk_5 (dk_at dksX12_scale_0 6 rfl rfl)
theorem dX12_scale_7 : decode cX12_scale 7 = .ok (.invokevirtual 331, 3) := dk_182 1 75 (dk_at dksX12_scale_0 7 rfl rfl)
theorem dX12_scale_10 : decode cX12_scale 10 = .ok (.ifCond .eq 23, 3) := dk_153 0 23 (dk_at dksX12_scale_0 10 rfl rfl)
theorem dX12_scale_13 : decode cX12_scale 13 = .ok (.aload_n 0, 1) := dk_42 (dk_at dksX12_scale_0 13 rfl rfl)
theorem dX12_scale_14 : decode cX12_scale 14 = .ok (.iload_n 1, 1) := dk_27 (dk_at dksX12_scale_0 14 rfl rfl)
theorem dX12_scale_15 : decode cX12_scale 15 = .ok (.iconst 0, 1) := dk_3 (dk_at dksX12_scale_0 15 rfl rfl)
theorem dX12_scale_16 : decode cX12_scale 16 = .ok (.aload_n 0, 1) := dk_42 (dk_at dksX12_scale_0 16 rfl rfl)
theorem dX12_scale_17 : decode cX12_scale 17 = .ok (.getfield 23, 3) := dk_180 0 23 (dk_at dksX12_scale_0 17 rfl rfl)
theorem dX12_scale_20 : decode cX12_scale 20 = .ok (.iconst 3, 1) := dk_6 (dk_at dksX12_scale_0 20 rfl rfl)
theorem dX12_scale_21 : decode cX12_scale 21 = .ok (.iaload, 1) := dk_46 (dk_at dksX12_scale_0 21 rfl rfl)
theorem dX12_scale_22 : decode cX12_scale 22 = .ok (.invokestatic 314, 3) := dk_184 1 58 (dk_at dksX12_scale_1 0 rfl rfl)
theorem dX12_scale_25 : decode cX12_scale 25 = .ok (.iconst 1, 1) := dk_4 (dk_at dksX12_scale_1 3 rfl rfl)
theorem dX12_scale_26 : decode cX12_scale 26 = .ok (.iconst 2, 1) := dk_5 (dk_at dksX12_scale_1 4 rfl rfl)
theorem dX12_scale_27 : decode cX12_scale 27 = .ok (.invokevirtual 226, 3) := dk_182 0 226 (dk_at dksX12_scale_1 5 rfl rfl)
theorem dX12_scale_30 : decode cX12_scale 30 = .ok (.ifCond .ne 5, 3) := dk_154 0 5 (dk_at dksX12_scale_1 8 rfl rfl)
theorem dX12_scale_33 : decode cX12_scale 33 = .ok (.lconst 0, 1) := dk_9 (dk_at dksX12_scale_1 11 rfl rfl)
theorem dX12_scale_34 : decode cX12_scale 34 = .ok (.lreturn, 1) := dk_173 (dk_at dksX12_scale_1 12 rfl rfl)
theorem dX12_scale_35 : decode cX12_scale 35 = .ok (.aload_n 0, 1) := dk_42 (dk_at dksX12_scale_1 13 rfl rfl)
theorem dX12_scale_36 : decode cX12_scale 36 = .ok (.invokevirtual 411, 3) := dk_182 1 155 (dk_at dksX12_scale_1 14 rfl rfl)
theorem dX12_scale_39 : decode cX12_scale 39 = .ok (.aload_n 0, 1) := dk_42 (dk_at dksX12_scale_1 17 rfl rfl)
theorem dX12_scale_40 : decode cX12_scale 40 = .ok (.getfield 86, 3) := dk_180 0 86 (dk_at dksX12_scale_1 18 rfl rfl)
theorem dX12_scale_43 : decode cX12_scale 43 = .ok (.iload_n 1, 1) := dk_27 (dk_at dksX12_scale_1 21 rfl rfl)
theorem dX12_scale_44 : decode cX12_scale 44 = .ok (.laload, 1) := dk_47 (dk_at dksX12_scale_1 22 rfl rfl)
theorem dX12_scale_45 : decode cX12_scale 45 = .ok (.lreturn, 1) := dk_173 (dk_at dksX12_scale_1 23 rfl rfl)
abbrev cX12_all : ByteArray := prog_27_method_87_code
def yX12_all : MethodName := ⟨RX12, "all", "()J"⟩
def dkwX12_all_0 : List UInt8 := [42, 3, 181, 0, 1, 42, 4, 182, 1, 75, 154, 0, 5, 9, 173, 42, 182, 1, 174, 42, 182, 1, 167, 173]
abbrev dktX12_all_0 : List UInt8 := dkwX12_all_0 ++ []
theorem dksX12_all_0 : cX12_all.data.toList.drop 0 = dktX12_all_0 := by decide +kernel
theorem dX12_all_0 : decode cX12_all 0 = .ok (.aload_n 0, 1) := dk_42 (dk_at dksX12_all_0 0 rfl rfl)
theorem dX12_all_1 : decode cX12_all 1 = .ok (.iconst 0, 1) := dk_3 (dk_at dksX12_all_0 1 rfl rfl)
theorem dX12_all_2 : decode cX12_all 2 = .ok (.putfield 1, 3) := dk_181 0 1 (dk_at dksX12_all_0 2 rfl rfl)
theorem dX12_all_5 : decode cX12_all 5 = .ok (.aload_n 0, 1) := dk_42 (dk_at dksX12_all_0 5 rfl rfl)
theorem dX12_all_6 : decode cX12_all 6 = .ok (.iconst 1, 1) := dk_4 (dk_at dksX12_all_0 6 rfl rfl)
theorem dX12_all_7 : decode cX12_all 7 = .ok (.invokevirtual 331, 3) := dk_182 1 75 (dk_at dksX12_all_0 7 rfl rfl)
theorem dX12_all_10 : decode cX12_all 10 = .ok (.ifCond .ne 5, 3) := dk_154 0 5 (dk_at dksX12_all_0 10 rfl rfl)
theorem dX12_all_13 : decode cX12_all 13 = .ok (.lconst 0, 1) := dk_9 (dk_at dksX12_all_0 13 rfl rfl)
theorem dX12_all_14 : decode cX12_all 14 = .ok (.lreturn, 1) := dk_173 (dk_at dksX12_all_0 14 rfl rfl)
theorem dX12_all_15 : decode cX12_all 15 = .ok (.aload_n 0, 1) := dk_42 (dk_at dksX12_all_0 15 rfl rfl)
theorem dX12_all_16 : decode cX12_all 16 = .ok (.invokevirtual 430, 3) := dk_182 1 174 (dk_at dksX12_all_0 16 rfl rfl)
theorem dX12_all_19 : decode cX12_all 19 = .ok (.aload_n 0, 1) := dk_42 (dk_at dksX12_all_0 19 rfl rfl)
theorem dX12_all_20 : decode cX12_all 20 = .ok (.invokevirtual 423, 3) := dk_182 1 167 (dk_at dksX12_all_0 20 rfl rfl)
theorem dX12_all_23 : decode cX12_all 23 = .ok (.lreturn, 1) := dk_173 (dk_at dksX12_all_0 23 rfl rfl)
abbrev cX12_nowAll : ByteArray := prog_27_method_80_code
def yX12_nowAll : MethodName := ⟨RX12, "nowAll", "()J"⟩
def dkwX12_nowAll_1 : List UInt8 := [132, 3, 1, 167, 255, 235, 31, 173]
abbrev dktX12_nowAll_1 : List UInt8 := dkwX12_nowAll_1 ++ []
def dkwX12_nowAll_0 : List UInt8 := [9, 64, 3, 62, 29, 42, 180, 0, 23, 5, 46, 162, 0, 17, 31, 42, 29, 182, 1, 163, 97, 64]
abbrev dktX12_nowAll_0 : List UInt8 := dkwX12_nowAll_0 ++ dktX12_nowAll_1
theorem dksX12_nowAll_0 : cX12_nowAll.data.toList.drop 0 = dktX12_nowAll_0 := by decide +kernel
theorem dksX12_nowAll_1 : cX12_nowAll.data.toList.drop 22 = dktX12_nowAll_1 := dk_seg dksX12_nowAll_0 22 rfl rfl
theorem dX12_nowAll_0 : decode cX12_nowAll 0 = .ok (.lconst 0, 1) := dk_9 (dk_at dksX12_nowAll_0 0 rfl rfl)
theorem dX12_nowAll_1 : decode cX12_nowAll 1 = .ok (.lstore_n 1, 1) := dk_64 (dk_at dksX12_nowAll_0 1 rfl rfl)
theorem dX12_nowAll_2 : decode cX12_nowAll 2 = .ok (.iconst 0, 1) := dk_3 (dk_at dksX12_nowAll_0 2 rfl rfl)
theorem dX12_nowAll_3 : decode cX12_nowAll 3 = .ok (.istore_n 3, 1) := dk_62 (dk_at dksX12_nowAll_0 3 rfl rfl)
theorem dX12_nowAll_4 : decode cX12_nowAll 4 = .ok (.iload_n 3, 1) := dk_29 (dk_at dksX12_nowAll_0 4 rfl rfl)
theorem dX12_nowAll_5 : decode cX12_nowAll 5 = .ok (.aload_n 0, 1) := dk_42 (dk_at dksX12_nowAll_0 5 rfl rfl)
theorem dX12_nowAll_6 : decode cX12_nowAll 6 = .ok (.getfield 23, 3) := dk_180 0 23 (dk_at dksX12_nowAll_0 6 rfl rfl)
theorem dX12_nowAll_9 : decode cX12_nowAll 9 = .ok (.iconst 2, 1) := dk_5 (dk_at dksX12_nowAll_0 9 rfl rfl)
theorem dX12_nowAll_10 : decode cX12_nowAll 10 = .ok (.iaload, 1) := dk_46 (dk_at dksX12_nowAll_0 10 rfl rfl)
theorem dX12_nowAll_11 : decode cX12_nowAll 11 = .ok (.if_icmp .ge 17, 3) := dk_162 0 17 (dk_at dksX12_nowAll_0 11 rfl rfl)
theorem dX12_nowAll_14 : decode cX12_nowAll 14 = .ok (.lload_n 1, 1) := dk_31 (dk_at dksX12_nowAll_0 14 rfl rfl)
theorem dX12_nowAll_15 : decode cX12_nowAll 15 = .ok (.aload_n 0, 1) := dk_42 (dk_at dksX12_nowAll_0 15 rfl rfl)
theorem dX12_nowAll_16 : decode cX12_nowAll 16 = .ok (.iload_n 3, 1) := dk_29 (dk_at dksX12_nowAll_0 16 rfl rfl)
theorem dX12_nowAll_17 : decode cX12_nowAll 17 = .ok (.invokevirtual 419, 3) := dk_182 1 163 (dk_at dksX12_nowAll_0 17 rfl rfl)
theorem dX12_nowAll_20 : decode cX12_nowAll 20 = .ok (.ladd, 1) := dk_97 (dk_at dksX12_nowAll_0 20 rfl rfl)
theorem dX12_nowAll_21 : decode cX12_nowAll 21 = .ok (.lstore_n 1, 1) := dk_64 (dk_at dksX12_nowAll_0 21 rfl rfl)
theorem dX12_nowAll_22 : decode cX12_nowAll 22 = .ok (.iinc 3 1, 3) := dk_132 3 1 (dk_at dksX12_nowAll_1 0 rfl rfl)
theorem dX12_nowAll_25 : decode cX12_nowAll 25 = .ok (.goto (-21), 3) := dk_167 255 235 (dk_at dksX12_nowAll_1 3 rfl rfl)
theorem dX12_nowAll_28 : decode cX12_nowAll 28 = .ok (.lload_n 1, 1) := dk_31 (dk_at dksX12_nowAll_1 6 rfl rfl)
theorem dX12_nowAll_29 : decode cX12_nowAll 29 = .ok (.lreturn, 1) := dk_173 (dk_at dksX12_nowAll_1 7 rfl rfl)
abbrev cX12_now : ByteArray := prog_27_method_79_code
def yX12_now : MethodName := ⟨RX12, "now", "(I)J"⟩
def dkwX12_now_0 : List UInt8 := [42, 180, 0, 90, 27, 17, 15, 60, 104, 42, 182, 1, 161, 96, 47, 173]
abbrev dktX12_now_0 : List UInt8 := dkwX12_now_0 ++ []
theorem dksX12_now_0 : cX12_now.data.toList.drop 0 = dktX12_now_0 := by decide +kernel
theorem dX12_now_0 : decode cX12_now 0 = .ok (.aload_n 0, 1) := dk_42 (dk_at dksX12_now_0 0 rfl rfl)
theorem dX12_now_1 : decode cX12_now 1 = .ok (.getfield 90, 3) := dk_180 0 90 (dk_at dksX12_now_0 1 rfl rfl)
theorem dX12_now_4 : decode cX12_now 4 = .ok (.iload_n 1, 1) := dk_27 (dk_at dksX12_now_0 4 rfl rfl)
theorem dX12_now_5 : decode cX12_now 5 = .ok (.sipush 3900, 3) := dk_17 15 60 (dk_at dksX12_now_0 5 rfl rfl)
theorem dX12_now_8 : decode cX12_now 8 = .ok (.imul, 1) := dk_104 (dk_at dksX12_now_0 8 rfl rfl)
theorem dX12_now_9 : decode cX12_now 9 = .ok (.aload_n 0, 1) := dk_42 (dk_at dksX12_now_0 9 rfl rfl)
theorem dX12_now_10 : decode cX12_now 10 = .ok (.invokevirtual 417, 3) := dk_182 1 161 (dk_at dksX12_now_0 10 rfl rfl)
theorem dX12_now_13 : decode cX12_now 13 = .ok (.iadd, 1) := dk_96 (dk_at dksX12_now_0 13 rfl rfl)
theorem dX12_now_14 : decode cX12_now 14 = .ok (.laload, 1) := dk_47 (dk_at dksX12_now_0 14 rfl rfl)
theorem dX12_now_15 : decode cX12_now 15 = .ok (.lreturn, 1) := dk_173 (dk_at dksX12_now_0 15 rfl rfl)
abbrev cX12_start : ByteArray := prog_27_method_78_code
def yX12_start : MethodName := ⟨RX12, "start", "()I"⟩
def dkwX12_start_0 : List UInt8 := [3, 42, 180, 0, 23, 16, 6, 46, 42, 180, 1, 92, 184, 1, 98, 172]
abbrev dktX12_start_0 : List UInt8 := dkwX12_start_0 ++ []
theorem dksX12_start_0 : cX12_start.data.toList.drop 0 = dktX12_start_0 := by decide +kernel
theorem dX12_start_0 : decode cX12_start 0 = .ok (.iconst 0, 1) := dk_3 (dk_at dksX12_start_0 0 rfl rfl)
theorem dX12_start_1 : decode cX12_start 1 = .ok (.aload_n 0, 1) := dk_42 (dk_at dksX12_start_0 1 rfl rfl)
theorem dX12_start_2 : decode cX12_start 2 = .ok (.getfield 23, 3) := dk_180 0 23 (dk_at dksX12_start_0 2 rfl rfl)
theorem dX12_start_5 : decode cX12_start 5 = .ok (.bipush 6, 2) := dk_16 6 (dk_at dksX12_start_0 5 rfl rfl)
theorem dX12_start_7 : decode cX12_start 7 = .ok (.iaload, 1) := dk_46 (dk_at dksX12_start_0 7 rfl rfl)
theorem dX12_start_8 : decode cX12_start 8 = .ok (.aload_n 0, 1) := dk_42 (dk_at dksX12_start_0 8 rfl rfl)
theorem dX12_start_9 : decode cX12_start 9 = .ok (.getfield 348, 3) := dk_180 1 92 (dk_at dksX12_start_0 9 rfl rfl)
theorem dX12_start_12 : decode cX12_start 12 = .ok (.invokestatic 354, 3) := dk_184 1 98 (dk_at dksX12_start_0 12 rfl rfl)
theorem dX12_start_15 : decode cX12_start 15 = .ok (.ireturn, 1) := dk_172 (dk_at dksX12_start_0 15 rfl rfl)
abbrev cX12_alone : ByteArray := prog_27_method_88_code
def yX12_alone : MethodName := ⟨RX12, "alone", "(I)J"⟩
def dkwX12_alone_1 : List UInt8 := [42, 182, 1, 155, 42, 180, 0, 93, 27, 17, 15, 60, 104, 42, 182, 1, 161, 96, 47, 173]
abbrev dktX12_alone_1 : List UInt8 := dkwX12_alone_1 ++ []
def dkwX12_alone_0 : List UInt8 := [42, 3, 181, 0, 1, 42, 5, 182, 1, 75, 153, 0, 12, 42, 27, 4, 182, 1, 62, 154, 0, 5, 9, 173]
abbrev dktX12_alone_0 : List UInt8 := dkwX12_alone_0 ++ dktX12_alone_1
theorem dksX12_alone_0 : cX12_alone.data.toList.drop 0 = dktX12_alone_0 := by decide +kernel
theorem dksX12_alone_1 : cX12_alone.data.toList.drop 24 = dktX12_alone_1 := dk_seg dksX12_alone_0 24 rfl rfl
theorem dX12_alone_0 : decode cX12_alone 0 = .ok (.aload_n 0, 1) := dk_42 (dk_at dksX12_alone_0 0 rfl rfl)
theorem dX12_alone_1 : decode cX12_alone 1 = .ok (.iconst 0, 1) := dk_3 (dk_at dksX12_alone_0 1 rfl rfl)
theorem dX12_alone_2 : decode cX12_alone 2 = .ok (.putfield 1, 3) := dk_181 0 1 (dk_at dksX12_alone_0 2 rfl rfl)
theorem dX12_alone_5 : decode cX12_alone 5 = .ok (.aload_n 0, 1) := dk_42 (dk_at dksX12_alone_0 5 rfl rfl)
theorem dX12_alone_6 : decode cX12_alone 6 = .ok (.iconst 2, 1) := dk_5 (dk_at dksX12_alone_0 6 rfl rfl)
theorem dX12_alone_7 : decode cX12_alone 7 = .ok (.invokevirtual 331, 3) := dk_182 1 75 (dk_at dksX12_alone_0 7 rfl rfl)
theorem dX12_alone_10 : decode cX12_alone 10 = .ok (.ifCond .eq 12, 3) := dk_153 0 12 (dk_at dksX12_alone_0 10 rfl rfl)
theorem dX12_alone_13 : decode cX12_alone 13 = .ok (.aload_n 0, 1) := dk_42 (dk_at dksX12_alone_0 13 rfl rfl)
theorem dX12_alone_14 : decode cX12_alone 14 = .ok (.iload_n 1, 1) := dk_27 (dk_at dksX12_alone_0 14 rfl rfl)
theorem dX12_alone_15 : decode cX12_alone 15 = .ok (.iconst 1, 1) := dk_4 (dk_at dksX12_alone_0 15 rfl rfl)
theorem dX12_alone_16 : decode cX12_alone 16 = .ok (.invokevirtual 318, 3) := dk_182 1 62 (dk_at dksX12_alone_0 16 rfl rfl)
theorem dX12_alone_19 : decode cX12_alone 19 = .ok (.ifCond .ne 5, 3) := dk_154 0 5 (dk_at dksX12_alone_0 19 rfl rfl)
theorem dX12_alone_22 : decode cX12_alone 22 = .ok (.lconst 0, 1) := dk_9 (dk_at dksX12_alone_0 22 rfl rfl)
theorem dX12_alone_23 : decode cX12_alone 23 = .ok (.lreturn, 1) := dk_173 (dk_at dksX12_alone_0 23 rfl rfl)
theorem dX12_alone_24 : decode cX12_alone 24 = .ok (.aload_n 0, 1) := dk_42 (dk_at dksX12_alone_1 0 rfl rfl)
theorem dX12_alone_25 : decode cX12_alone 25 = .ok (.invokevirtual 411, 3) := dk_182 1 155 (dk_at dksX12_alone_1 1 rfl rfl)
theorem dX12_alone_28 : decode cX12_alone 28 = .ok (.aload_n 0, 1) := dk_42 (dk_at dksX12_alone_1 4 rfl rfl)
theorem dX12_alone_29 : decode cX12_alone 29 = .ok (.getfield 93, 3) := dk_180 0 93 (dk_at dksX12_alone_1 5 rfl rfl)
theorem dX12_alone_32 : decode cX12_alone 32 = .ok (.iload_n 1, 1) := dk_27 (dk_at dksX12_alone_1 8 rfl rfl)
theorem dX12_alone_33 : decode cX12_alone 33 = .ok (.sipush 3900, 3) := dk_17 15 60 (dk_at dksX12_alone_1 9 rfl rfl)
theorem dX12_alone_36 : decode cX12_alone 36 = .ok (.imul, 1) := dk_104 (dk_at dksX12_alone_1 12 rfl rfl)
theorem dX12_alone_37 : decode cX12_alone 37 = .ok (.aload_n 0, 1) := dk_42 (dk_at dksX12_alone_1 13 rfl rfl)
theorem dX12_alone_38 : decode cX12_alone 38 = .ok (.invokevirtual 417, 3) := dk_182 1 161 (dk_at dksX12_alone_1 14 rfl rfl)
theorem dX12_alone_41 : decode cX12_alone 41 = .ok (.iadd, 1) := dk_96 (dk_at dksX12_alone_1 17 rfl rfl)
theorem dX12_alone_42 : decode cX12_alone 42 = .ok (.laload, 1) := dk_47 (dk_at dksX12_alone_1 18 rfl rfl)
theorem dX12_alone_43 : decode cX12_alone 43 = .ok (.lreturn, 1) := dk_173 (dk_at dksX12_alone_1 19 rfl rfl)
abbrev cX12_run : ByteArray := prog_27_method_89_code
def yX12_run : MethodName := ⟨RX12, "run", "(I)I"⟩
def dkwX12_run_11 : List UInt8 := [21, 5, 79, 42, 180, 0, 59, 16, 81, 42, 21, 5, 29, 21, 4, 182, 1, 94, 6, 112, 79, 21, 5, 172]
abbrev dktX12_run_11 : List UInt8 := dkwX12_run_11 ++ []
def dkwX12_run_10 : List UInt8 := [29, 79, 42, 180, 0, 59, 16, 107, 21, 5, 96, 21, 4, 79, 167, 255, 74, 42, 180, 0, 59, 16, 80]
abbrev dktX12_run_10 : List UInt8 := dkwX12_run_10 ++ dktX12_run_11
def dkwX12_run_9 : List UInt8 := [167, 0, 7, 21, 4, 4, 100, 54, 4, 21, 7, 62, 132, 5, 1, 42, 180, 0, 59, 16, 82, 21, 5, 96]
abbrev dktX12_run_9 : List UInt8 := dkwX12_run_9 ++ dktX12_run_10
def dkwX12_run_8 : List UInt8 := [182, 1, 89, 54, 7, 42, 180, 0, 23, 16, 7, 21, 7, 96, 46, 4, 160, 0, 10, 42, 180, 1, 92]
abbrev dktX12_run_8 : List UInt8 := dkwX12_run_8 ++ dktX12_run_9
def dkwX12_run_7 : List UInt8 := [21, 8, 162, 0, 7, 4, 167, 0, 4, 3, 54, 9, 21, 9, 154, 0, 14, 42, 21, 6, 4, 100, 29]
abbrev dktX12_run_7 : List UInt8 := dkwX12_run_7 ++ dktX12_run_8
def dkwX12_run_6 : List UInt8 := [158, 0, 36, 28, 19, 1, 177, 104, 17, 48, 57, 96, 61, 28, 16, 16, 122, 17, 127, 255, 126, 16, 16, 112]
abbrev dktX12_run_6 : List UInt8 := dkwX12_run_6 ++ dktX12_run_7
def dkwX12_run_5 : List UInt8 := [17, 0, 132, 16, 24, 21, 6, 4, 100, 104, 96, 21, 5, 96, 46, 54, 8, 3, 54, 9, 21, 8]
abbrev dktX12_run_5 : List UInt8 := dkwX12_run_5 ++ dktX12_run_6
def dkwX12_run_4 : List UInt8 := [180, 0, 59, 17, 0, 132, 21, 5, 96, 21, 6, 79, 29, 54, 7, 21, 6, 158, 0, 81, 42, 180, 0, 23]
abbrev dktX12_run_4 : List UInt8 := dkwX12_run_4 ++ dktX12_run_5
def dkwX12_run_3 : List UInt8 := [182, 1, 94, 154, 0, 176, 42, 180, 0, 83, 21, 5, 29, 21, 4, 184, 1, 98, 46, 54, 6, 42]
abbrev dktX12_run_3 : List UInt8 := dkwX12_run_3 ++ dktX12_run_4
def dkwX12_run_2 : List UInt8 := [42, 180, 0, 59, 16, 82, 29, 79, 42, 180, 0, 59, 16, 107, 21, 4, 79, 42, 21, 5, 29, 21, 4]
abbrev dktX12_run_2 : List UInt8 := dkwX12_run_2 ++ dktX12_run_3
def dkwX12_run_1 : List UInt8 := [180, 0, 23, 16, 6, 46, 62, 42, 180, 1, 92, 54, 4, 3, 54, 5, 42, 180, 0, 59, 16, 79, 4, 79]
abbrev dktX12_run_1 : List UInt8 := dkwX12_run_1 ++ dktX12_run_2
def dkwX12_run_0 : List UInt8 := [42, 3, 181, 0, 1, 42, 4, 182, 1, 75, 154, 0, 5, 3, 172, 42, 182, 1, 174, 27, 61, 42]
abbrev dktX12_run_0 : List UInt8 := dkwX12_run_0 ++ dktX12_run_1
theorem dksX12_run_0 : cX12_run.data.toList.drop 0 = dktX12_run_0 := by decide +kernel
theorem dksX12_run_1 : cX12_run.data.toList.drop 22 = dktX12_run_1 := dk_seg dksX12_run_0 22 rfl rfl
theorem dksX12_run_2 : cX12_run.data.toList.drop 46 = dktX12_run_2 := dk_seg dksX12_run_1 24 rfl rfl
theorem dksX12_run_3 : cX12_run.data.toList.drop 69 = dktX12_run_3 := dk_seg dksX12_run_2 23 rfl rfl
theorem dksX12_run_4 : cX12_run.data.toList.drop 91 = dktX12_run_4 := dk_seg dksX12_run_3 22 rfl rfl
theorem dksX12_run_5 : cX12_run.data.toList.drop 115 = dktX12_run_5 := dk_seg dksX12_run_4 24 rfl rfl
theorem dksX12_run_6 : cX12_run.data.toList.drop 137 = dktX12_run_6 := dk_seg dksX12_run_5 22 rfl rfl
theorem dksX12_run_7 : cX12_run.data.toList.drop 161 = dktX12_run_7 := dk_seg dksX12_run_6 24 rfl rfl
theorem dksX12_run_8 : cX12_run.data.toList.drop 184 = dktX12_run_8 := dk_seg dksX12_run_7 23 rfl rfl
theorem dksX12_run_9 : cX12_run.data.toList.drop 207 = dktX12_run_9 := dk_seg dksX12_run_8 23 rfl rfl
theorem dksX12_run_10 : cX12_run.data.toList.drop 231 = dktX12_run_10 := dk_seg dksX12_run_9 24 rfl rfl
theorem dksX12_run_11 : cX12_run.data.toList.drop 254 = dktX12_run_11 := dk_seg dksX12_run_10 23 rfl rfl
theorem dX12_run_0 : decode cX12_run 0 = .ok (.aload_n 0, 1) := dk_42 (dk_at dksX12_run_0 0 rfl rfl)
theorem dX12_run_1 : decode cX12_run 1 = .ok (.iconst 0, 1) := dk_3 (dk_at dksX12_run_0 1 rfl rfl)
theorem dX12_run_2 : decode cX12_run 2 = .ok (.putfield 1, 3) := dk_181 0 1 (dk_at dksX12_run_0 2 rfl rfl)
theorem dX12_run_5 : decode cX12_run 5 = .ok (.aload_n 0, 1) := dk_42 (dk_at dksX12_run_0 5 rfl rfl)
theorem dX12_run_6 : decode cX12_run 6 = .ok (.iconst 1, 1) := dk_4 (dk_at dksX12_run_0 6 rfl rfl)
theorem dX12_run_7 : decode cX12_run 7 = .ok (.invokevirtual 331, 3) := dk_182 1 75 (dk_at dksX12_run_0 7 rfl rfl)
theorem dX12_run_10 : decode cX12_run 10 = .ok (.ifCond .ne 5, 3) := dk_154 0 5 (dk_at dksX12_run_0 10 rfl rfl)
theorem dX12_run_13 : decode cX12_run 13 = .ok (.iconst 0, 1) := dk_3 (dk_at dksX12_run_0 13 rfl rfl)
theorem dX12_run_14 : decode cX12_run 14 = .ok (.ireturn, 1) := dk_172 (dk_at dksX12_run_0 14 rfl rfl)
theorem dX12_run_15 : decode cX12_run 15 = .ok (.aload_n 0, 1) := dk_42 (dk_at dksX12_run_0 15 rfl rfl)
theorem dX12_run_16 : decode cX12_run 16 = .ok (.invokevirtual 430, 3) := dk_182 1 174 (dk_at dksX12_run_0 16 rfl rfl)
theorem dX12_run_19 : decode cX12_run 19 = .ok (.iload_n 1, 1) := dk_27 (dk_at dksX12_run_0 19 rfl rfl)
theorem dX12_run_20 : decode cX12_run 20 = .ok (.istore_n 2, 1) := dk_61 (dk_at dksX12_run_0 20 rfl rfl)
theorem dX12_run_21 : decode cX12_run 21 = .ok (.aload_n 0, 1) := dk_42 (dk_at dksX12_run_0 21 rfl rfl)
theorem dX12_run_22 : decode cX12_run 22 = .ok (.getfield 23, 3) := dk_180 0 23 (dk_at dksX12_run_1 0 rfl rfl)
theorem dX12_run_25 : decode cX12_run 25 = .ok (.bipush 6, 2) := dk_16 6 (dk_at dksX12_run_1 3 rfl rfl)
theorem dX12_run_27 : decode cX12_run 27 = .ok (.iaload, 1) := dk_46 (dk_at dksX12_run_1 5 rfl rfl)
theorem dX12_run_28 : decode cX12_run 28 = .ok (.istore_n 3, 1) := dk_62 (dk_at dksX12_run_1 6 rfl rfl)
theorem dX12_run_29 : decode cX12_run 29 = .ok (.aload_n 0, 1) := dk_42 (dk_at dksX12_run_1 7 rfl rfl)
theorem dX12_run_30 : decode cX12_run 30 = .ok (.getfield 348, 3) := dk_180 1 92 (dk_at dksX12_run_1 8 rfl rfl)
theorem dX12_run_33 : decode cX12_run 33 = .ok (.istore 4, 2) := dk_54 4 (dk_at dksX12_run_1 11 rfl rfl)
theorem dX12_run_35 : decode cX12_run 35 = .ok (.iconst 0, 1) := dk_3 (dk_at dksX12_run_1 13 rfl rfl)
theorem dX12_run_36 : decode cX12_run 36 = .ok (.istore 5, 2) := dk_54 5 (dk_at dksX12_run_1 14 rfl rfl)
theorem dX12_run_38 : decode cX12_run 38 = .ok (.aload_n 0, 1) := dk_42 (dk_at dksX12_run_1 16 rfl rfl)
theorem dX12_run_39 : decode cX12_run 39 = .ok (.getfield 59, 3) := dk_180 0 59 (dk_at dksX12_run_1 17 rfl rfl)
theorem dX12_run_42 : decode cX12_run 42 = .ok (.bipush 79, 2) := dk_16 79 (dk_at dksX12_run_1 20 rfl rfl)
theorem dX12_run_44 : decode cX12_run 44 = .ok (.iconst 1, 1) := dk_4 (dk_at dksX12_run_1 22 rfl rfl)
theorem dX12_run_45 : decode cX12_run 45 = .ok (.iastore, 1) := dk_79 (dk_at dksX12_run_1 23 rfl rfl)
theorem dX12_run_46 : decode cX12_run 46 = .ok (.aload_n 0, 1) := dk_42 (dk_at dksX12_run_2 0 rfl rfl)
theorem dX12_run_47 : decode cX12_run 47 = .ok (.getfield 59, 3) := dk_180 0 59 (dk_at dksX12_run_2 1 rfl rfl)
theorem dX12_run_50 : decode cX12_run 50 = .ok (.bipush 82, 2) := dk_16 82 (dk_at dksX12_run_2 4 rfl rfl)
theorem dX12_run_52 : decode cX12_run 52 = .ok (.iload_n 3, 1) := dk_29 (dk_at dksX12_run_2 6 rfl rfl)
theorem dX12_run_53 : decode cX12_run 53 = .ok (.iastore, 1) := dk_79 (dk_at dksX12_run_2 7 rfl rfl)
theorem dX12_run_54 : decode cX12_run 54 = .ok (.aload_n 0, 1) := dk_42 (dk_at dksX12_run_2 8 rfl rfl)
theorem dX12_run_55 : decode cX12_run 55 = .ok (.getfield 59, 3) := dk_180 0 59 (dk_at dksX12_run_2 9 rfl rfl)
theorem dX12_run_58 : decode cX12_run 58 = .ok (.bipush 107, 2) := dk_16 107 (dk_at dksX12_run_2 12 rfl rfl)
theorem dX12_run_60 : decode cX12_run 60 = .ok (.iload 4, 2) := dk_21 4 (dk_at dksX12_run_2 14 rfl rfl)
theorem dX12_run_62 : decode cX12_run 62 = .ok (.iastore, 1) := dk_79 (dk_at dksX12_run_2 16 rfl rfl)
theorem dX12_run_63 : decode cX12_run 63 = .ok (.aload_n 0, 1) := dk_42 (dk_at dksX12_run_2 17 rfl rfl)
theorem dX12_run_64 : decode cX12_run 64 = .ok (.iload 5, 2) := dk_21 5 (dk_at dksX12_run_2 18 rfl rfl)
theorem dX12_run_66 : decode cX12_run 66 = .ok (.iload_n 3, 1) := dk_29 (dk_at dksX12_run_2 20 rfl rfl)
theorem dX12_run_67 : decode cX12_run 67 = .ok (.iload 4, 2) := dk_21 4 (dk_at dksX12_run_2 21 rfl rfl)
theorem dX12_run_69 : decode cX12_run 69 = .ok (.invokevirtual 350, 3) := dk_182 1 94 (dk_at dksX12_run_3 0 rfl rfl)
theorem dX12_run_72 : decode cX12_run 72 = .ok (.ifCond .ne 176, 3) := dk_154 0 176 (dk_at dksX12_run_3 3 rfl rfl)
theorem dX12_run_75 : decode cX12_run 75 = .ok (.aload_n 0, 1) := dk_42 (dk_at dksX12_run_3 6 rfl rfl)
theorem dX12_run_76 : decode cX12_run 76 = .ok (.getfield 83, 3) := dk_180 0 83 (dk_at dksX12_run_3 7 rfl rfl)
theorem dX12_run_79 : decode cX12_run 79 = .ok (.iload 5, 2) := dk_21 5 (dk_at dksX12_run_3 10 rfl rfl)
theorem dX12_run_81 : decode cX12_run 81 = .ok (.iload_n 3, 1) := dk_29 (dk_at dksX12_run_3 12 rfl rfl)
theorem dX12_run_82 : decode cX12_run 82 = .ok (.iload 4, 2) := dk_21 4 (dk_at dksX12_run_3 13 rfl rfl)
theorem dX12_run_84 : decode cX12_run 84 = .ok (.invokestatic 354, 3) := dk_184 1 98 (dk_at dksX12_run_3 15 rfl rfl)
theorem dX12_run_87 : decode cX12_run 87 = .ok (.iaload, 1) := dk_46 (dk_at dksX12_run_3 18 rfl rfl)
theorem dX12_run_88 : decode cX12_run 88 = .ok (.istore 6, 2) := dk_54 6 (dk_at dksX12_run_3 19 rfl rfl)
theorem dX12_run_90 : decode cX12_run 90 = .ok (.aload_n 0, 1) := dk_42 (dk_at dksX12_run_3 21 rfl rfl)
theorem dX12_run_91 : decode cX12_run 91 = .ok (.getfield 59, 3) := dk_180 0 59 (dk_at dksX12_run_4 0 rfl rfl)
theorem dX12_run_94 : decode cX12_run 94 = .ok (.sipush 132, 3) := dk_17 0 132 (dk_at dksX12_run_4 3 rfl rfl)
theorem dX12_run_97 : decode cX12_run 97 = .ok (.iload 5, 2) := dk_21 5 (dk_at dksX12_run_4 6 rfl rfl)
theorem dX12_run_99 : decode cX12_run 99 = .ok (.iadd, 1) := dk_96 (dk_at dksX12_run_4 8 rfl rfl)
theorem dX12_run_100 : decode cX12_run 100 = .ok (.iload 6, 2) := dk_21 6 (dk_at dksX12_run_4 9 rfl rfl)
theorem dX12_run_102 : decode cX12_run 102 = .ok (.iastore, 1) := dk_79 (dk_at dksX12_run_4 11 rfl rfl)
theorem dX12_run_103 : decode cX12_run 103 = .ok (.iload_n 3, 1) := dk_29 (dk_at dksX12_run_4 12 rfl rfl)
theorem dX12_run_104 : decode cX12_run 104 = .ok (.istore 7, 2) := dk_54 7 (dk_at dksX12_run_4 13 rfl rfl)
theorem dX12_run_106 : decode cX12_run 106 = .ok (.iload 6, 2) := dk_21 6 (dk_at dksX12_run_4 15 rfl rfl)
theorem dX12_run_108 : decode cX12_run 108 = .ok (.ifCond .le 81, 3) := dk_158 0 81 (dk_at dksX12_run_4 17 rfl rfl)
theorem dX12_run_111 : decode cX12_run 111 = .ok (.aload_n 0, 1) := dk_42 (dk_at dksX12_run_4 20 rfl rfl)
theorem dX12_run_112 : decode cX12_run 112 = .ok (.getfield 23, 3) := dk_180 0 23 (dk_at dksX12_run_4 21 rfl rfl)
theorem dX12_run_115 : decode cX12_run 115 = .ok (.sipush 132, 3) := dk_17 0 132 (dk_at dksX12_run_5 0 rfl rfl)
theorem dX12_run_118 : decode cX12_run 118 = .ok (.bipush 24, 2) := dk_16 24 (dk_at dksX12_run_5 3 rfl rfl)
theorem dX12_run_120 : decode cX12_run 120 = .ok (.iload 6, 2) := dk_21 6 (dk_at dksX12_run_5 5 rfl rfl)
theorem dX12_run_122 : decode cX12_run 122 = .ok (.iconst 1, 1) := dk_4 (dk_at dksX12_run_5 7 rfl rfl)
theorem dX12_run_123 : decode cX12_run 123 = .ok (.isub, 1) := dk_100 (dk_at dksX12_run_5 8 rfl rfl)
theorem dX12_run_124 : decode cX12_run 124 = .ok (.imul, 1) := dk_104 (dk_at dksX12_run_5 9 rfl rfl)
theorem dX12_run_125 : decode cX12_run 125 = .ok (.iadd, 1) := dk_96 (dk_at dksX12_run_5 10 rfl rfl)
theorem dX12_run_126 : decode cX12_run 126 = .ok (.iload 5, 2) := dk_21 5 (dk_at dksX12_run_5 11 rfl rfl)
theorem dX12_run_128 : decode cX12_run 128 = .ok (.iadd, 1) := dk_96 (dk_at dksX12_run_5 13 rfl rfl)
theorem dX12_run_129 : decode cX12_run 129 = .ok (.iaload, 1) := dk_46 (dk_at dksX12_run_5 14 rfl rfl)
theorem dX12_run_130 : decode cX12_run 130 = .ok (.istore 8, 2) := dk_54 8 (dk_at dksX12_run_5 15 rfl rfl)
theorem dX12_run_132 : decode cX12_run 132 = .ok (.iconst 0, 1) := dk_3 (dk_at dksX12_run_5 17 rfl rfl)
theorem dX12_run_133 : decode cX12_run 133 = .ok (.istore 9, 2) := dk_54 9 (dk_at dksX12_run_5 18 rfl rfl)
theorem dX12_run_135 : decode cX12_run 135 = .ok (.iload 8, 2) := dk_21 8 (dk_at dksX12_run_5 20 rfl rfl)
theorem dX12_run_137 : decode cX12_run 137 = .ok (.ifCond .le 36, 3) := dk_158 0 36 (dk_at dksX12_run_6 0 rfl rfl)
theorem dX12_run_140 : decode cX12_run 140 = .ok (.iload_n 2, 1) := dk_28 (dk_at dksX12_run_6 3 rfl rfl)
theorem dX12_run_141 : decode cX12_run 141 = .ok (.ldc_w 433, 3) := dk_19 1 177 (dk_at dksX12_run_6 4 rfl rfl)
theorem dX12_run_144 : decode cX12_run 144 = .ok (.imul, 1) := dk_104 (dk_at dksX12_run_6 7 rfl rfl)
theorem dX12_run_145 : decode cX12_run 145 = .ok (.sipush 12345, 3) := dk_17 48 57 (dk_at dksX12_run_6 8 rfl rfl)
theorem dX12_run_148 : decode cX12_run 148 = .ok (.iadd, 1) := dk_96 (dk_at dksX12_run_6 11 rfl rfl)
theorem dX12_run_149 : decode cX12_run 149 = .ok (.istore_n 2, 1) := dk_61 (dk_at dksX12_run_6 12 rfl rfl)
theorem dX12_run_150 : decode cX12_run 150 = .ok (.iload_n 2, 1) := dk_28 (dk_at dksX12_run_6 13 rfl rfl)
theorem dX12_run_151 : decode cX12_run 151 = .ok (.bipush 16, 2) := dk_16 16 (dk_at dksX12_run_6 14 rfl rfl)
theorem dX12_run_153 : decode cX12_run 153 = .ok (.ishr, 1) := dk_122 (dk_at dksX12_run_6 16 rfl rfl)
theorem dX12_run_154 : decode cX12_run 154 = .ok (.sipush 32767, 3) := dk_17 127 255 (dk_at dksX12_run_6 17 rfl rfl)
theorem dX12_run_157 : decode cX12_run 157 = .ok (.iand, 1) := dk_126 (dk_at dksX12_run_6 20 rfl rfl)
theorem dX12_run_158 : decode cX12_run 158 = .ok (.bipush 16, 2) := dk_16 16 (dk_at dksX12_run_6 21 rfl rfl)
theorem dX12_run_160 : decode cX12_run 160 = .ok (.irem, 1) := dk_112 (dk_at dksX12_run_6 23 rfl rfl)
theorem dX12_run_161 : decode cX12_run 161 = .ok (.iload 8, 2) := dk_21 8 (dk_at dksX12_run_7 0 rfl rfl)
theorem dX12_run_163 : decode cX12_run 163 = .ok (.if_icmp .ge 7, 3) := dk_162 0 7 (dk_at dksX12_run_7 2 rfl rfl)
theorem dX12_run_166 : decode cX12_run 166 = .ok (.iconst 1, 1) := dk_4 (dk_at dksX12_run_7 5 rfl rfl)
theorem dX12_run_167 : decode cX12_run 167 = .ok (.goto 4, 3) := dk_167 0 4 (dk_at dksX12_run_7 6 rfl rfl)
theorem dX12_run_170 : decode cX12_run 170 = .ok (.iconst 0, 1) := dk_3 (dk_at dksX12_run_7 9 rfl rfl)
theorem dX12_run_171 : decode cX12_run 171 = .ok (.istore 9, 2) := dk_54 9 (dk_at dksX12_run_7 10 rfl rfl)
theorem dX12_run_173 : decode cX12_run 173 = .ok (.iload 9, 2) := dk_21 9 (dk_at dksX12_run_7 12 rfl rfl)
theorem dX12_run_175 : decode cX12_run 175 = .ok (.ifCond .ne 14, 3) := dk_154 0 14 (dk_at dksX12_run_7 14 rfl rfl)
theorem dX12_run_178 : decode cX12_run 178 = .ok (.aload_n 0, 1) := dk_42 (dk_at dksX12_run_7 17 rfl rfl)
theorem dX12_run_179 : decode cX12_run 179 = .ok (.iload 6, 2) := dk_21 6 (dk_at dksX12_run_7 18 rfl rfl)
theorem dX12_run_181 : decode cX12_run 181 = .ok (.iconst 1, 1) := dk_4 (dk_at dksX12_run_7 20 rfl rfl)
theorem dX12_run_182 : decode cX12_run 182 = .ok (.isub, 1) := dk_100 (dk_at dksX12_run_7 21 rfl rfl)
theorem dX12_run_183 : decode cX12_run 183 = .ok (.iload_n 3, 1) := dk_29 (dk_at dksX12_run_7 22 rfl rfl)
theorem dX12_run_184 : decode cX12_run 184 = .ok (.invokevirtual 345, 3) := dk_182 1 89 (dk_at dksX12_run_8 0 rfl rfl)
theorem dX12_run_187 : decode cX12_run 187 = .ok (.istore 7, 2) := dk_54 7 (dk_at dksX12_run_8 3 rfl rfl)
theorem dX12_run_189 : decode cX12_run 189 = .ok (.aload_n 0, 1) := dk_42 (dk_at dksX12_run_8 5 rfl rfl)
theorem dX12_run_190 : decode cX12_run 190 = .ok (.getfield 23, 3) := dk_180 0 23 (dk_at dksX12_run_8 6 rfl rfl)
theorem dX12_run_193 : decode cX12_run 193 = .ok (.bipush 7, 2) := dk_16 7 (dk_at dksX12_run_8 9 rfl rfl)
theorem dX12_run_195 : decode cX12_run 195 = .ok (.iload 7, 2) := dk_21 7 (dk_at dksX12_run_8 11 rfl rfl)
theorem dX12_run_197 : decode cX12_run 197 = .ok (.iadd, 1) := dk_96 (dk_at dksX12_run_8 13 rfl rfl)
theorem dX12_run_198 : decode cX12_run 198 = .ok (.iaload, 1) := dk_46 (dk_at dksX12_run_8 14 rfl rfl)
theorem dX12_run_199 : decode cX12_run 199 = .ok (.iconst 1, 1) := dk_4 (dk_at dksX12_run_8 15 rfl rfl)
theorem dX12_run_200 : decode cX12_run 200 = .ok (.if_icmp .ne 10, 3) := dk_160 0 10 (dk_at dksX12_run_8 16 rfl rfl)
theorem dX12_run_203 : decode cX12_run 203 = .ok (.aload_n 0, 1) := dk_42 (dk_at dksX12_run_8 19 rfl rfl)
theorem dX12_run_204 : decode cX12_run 204 = .ok (.getfield 348, 3) := dk_180 1 92 (dk_at dksX12_run_8 20 rfl rfl)
theorem dX12_run_207 : decode cX12_run 207 = .ok (.goto 7, 3) := dk_167 0 7 (dk_at dksX12_run_9 0 rfl rfl)
theorem dX12_run_210 : decode cX12_run 210 = .ok (.iload 4, 2) := dk_21 4 (dk_at dksX12_run_9 3 rfl rfl)
theorem dX12_run_212 : decode cX12_run 212 = .ok (.iconst 1, 1) := dk_4 (dk_at dksX12_run_9 5 rfl rfl)
theorem dX12_run_213 : decode cX12_run 213 = .ok (.isub, 1) := dk_100 (dk_at dksX12_run_9 6 rfl rfl)
theorem dX12_run_214 : decode cX12_run 214 = .ok (.istore 4, 2) := dk_54 4 (dk_at dksX12_run_9 7 rfl rfl)
theorem dX12_run_216 : decode cX12_run 216 = .ok (.iload 7, 2) := dk_21 7 (dk_at dksX12_run_9 9 rfl rfl)
theorem dX12_run_218 : decode cX12_run 218 = .ok (.istore_n 3, 1) := dk_62 (dk_at dksX12_run_9 11 rfl rfl)
theorem dX12_run_219 : decode cX12_run 219 = .ok (.iinc 5 1, 3) := dk_132 5 1 (dk_at dksX12_run_9 12 rfl rfl)
theorem dX12_run_222 : decode cX12_run 222 = .ok (.aload_n 0, 1) := dk_42 (dk_at dksX12_run_9 15 rfl rfl)
theorem dX12_run_223 : decode cX12_run 223 = .ok (.getfield 59, 3) := dk_180 0 59 (dk_at dksX12_run_9 16 rfl rfl)
theorem dX12_run_226 : decode cX12_run 226 = .ok (.bipush 82, 2) := dk_16 82 (dk_at dksX12_run_9 19 rfl rfl)
theorem dX12_run_228 : decode cX12_run 228 = .ok (.iload 5, 2) := dk_21 5 (dk_at dksX12_run_9 21 rfl rfl)
theorem dX12_run_230 : decode cX12_run 230 = .ok (.iadd, 1) := dk_96 (dk_at dksX12_run_9 23 rfl rfl)
theorem dX12_run_231 : decode cX12_run 231 = .ok (.iload_n 3, 1) := dk_29 (dk_at dksX12_run_10 0 rfl rfl)
theorem dX12_run_232 : decode cX12_run 232 = .ok (.iastore, 1) := dk_79 (dk_at dksX12_run_10 1 rfl rfl)
theorem dX12_run_233 : decode cX12_run 233 = .ok (.aload_n 0, 1) := dk_42 (dk_at dksX12_run_10 2 rfl rfl)
theorem dX12_run_234 : decode cX12_run 234 = .ok (.getfield 59, 3) := dk_180 0 59 (dk_at dksX12_run_10 3 rfl rfl)
theorem dX12_run_237 : decode cX12_run 237 = .ok (.bipush 107, 2) := dk_16 107 (dk_at dksX12_run_10 6 rfl rfl)
theorem dX12_run_239 : decode cX12_run 239 = .ok (.iload 5, 2) := dk_21 5 (dk_at dksX12_run_10 8 rfl rfl)
theorem dX12_run_241 : decode cX12_run 241 = .ok (.iadd, 1) := dk_96 (dk_at dksX12_run_10 10 rfl rfl)
theorem dX12_run_242 : decode cX12_run 242 = .ok (.iload 4, 2) := dk_21 4 (dk_at dksX12_run_10 11 rfl rfl)
theorem dX12_run_244 : decode cX12_run 244 = .ok (.iastore, 1) := dk_79 (dk_at dksX12_run_10 13 rfl rfl)
theorem dX12_run_245 : decode cX12_run 245 = .ok (.goto (-182), 3) := dk_167 255 74 (dk_at dksX12_run_10 14 rfl rfl)
theorem dX12_run_248 : decode cX12_run 248 = .ok (.aload_n 0, 1) := dk_42 (dk_at dksX12_run_10 17 rfl rfl)
theorem dX12_run_249 : decode cX12_run 249 = .ok (.getfield 59, 3) := dk_180 0 59 (dk_at dksX12_run_10 18 rfl rfl)
theorem dX12_run_252 : decode cX12_run 252 = .ok (.bipush 80, 2) := dk_16 80 (dk_at dksX12_run_10 21 rfl rfl)
theorem dX12_run_254 : decode cX12_run 254 = .ok (.iload 5, 2) := dk_21 5 (dk_at dksX12_run_11 0 rfl rfl)
theorem dX12_run_256 : decode cX12_run 256 = .ok (.iastore, 1) := dk_79 (dk_at dksX12_run_11 2 rfl rfl)
theorem dX12_run_257 : decode cX12_run 257 = .ok (.aload_n 0, 1) := dk_42 (dk_at dksX12_run_11 3 rfl rfl)
theorem dX12_run_258 : decode cX12_run 258 = .ok (.getfield 59, 3) := dk_180 0 59 (dk_at dksX12_run_11 4 rfl rfl)
theorem dX12_run_261 : decode cX12_run 261 = .ok (.bipush 81, 2) := dk_16 81 (dk_at dksX12_run_11 7 rfl rfl)
theorem dX12_run_263 : decode cX12_run 263 = .ok (.aload_n 0, 1) := dk_42 (dk_at dksX12_run_11 9 rfl rfl)
theorem dX12_run_264 : decode cX12_run 264 = .ok (.iload 5, 2) := dk_21 5 (dk_at dksX12_run_11 10 rfl rfl)
theorem dX12_run_266 : decode cX12_run 266 = .ok (.iload_n 3, 1) := dk_29 (dk_at dksX12_run_11 12 rfl rfl)
theorem dX12_run_267 : decode cX12_run 267 = .ok (.iload 4, 2) := dk_21 4 (dk_at dksX12_run_11 13 rfl rfl)
theorem dX12_run_269 : decode cX12_run 269 = .ok (.invokevirtual 350, 3) := dk_182 1 94 (dk_at dksX12_run_11 15 rfl rfl)
theorem dX12_run_272 : decode cX12_run 272 = .ok (.iconst 3, 1) := dk_6 (dk_at dksX12_run_11 18 rfl rfl)
theorem dX12_run_273 : decode cX12_run 273 = .ok (.irem, 1) := dk_112 (dk_at dksX12_run_11 19 rfl rfl)
theorem dX12_run_274 : decode cX12_run 274 = .ok (.iastore, 1) := dk_79 (dk_at dksX12_run_11 20 rfl rfl)
theorem dX12_run_275 : decode cX12_run 275 = .ok (.iload 5, 2) := dk_21 5 (dk_at dksX12_run_11 21 rfl rfl)
theorem dX12_run_277 : decode cX12_run 277 = .ok (.ireturn, 1) := dk_172 (dk_at dksX12_run_11 23 rfl rfl)
abbrev cX12_was : ByteArray := prog_27_method_90_code
def yX12_was : MethodName := ⟨RX12, "was", "(II)I"⟩
def dkwX12_was_5 : List UInt8 := [17, 0, 132, 27, 96, 46, 172]
abbrev dktX12_was_5 : List UInt8 := dkwX12_was_5 ++ []
def dkwX12_was_4 : List UInt8 := [167, 0, 30, 28, 4, 160, 0, 15, 42, 180, 0, 59, 16, 107, 27, 96, 46, 167, 0, 13, 42, 180, 0, 59]
abbrev dktX12_was_4 : List UInt8 := dkwX12_was_4 ++ dktX12_was_5
def dkwX12_was_3 : List UInt8 := [180, 0, 59, 16, 80, 46, 160, 0, 5, 2, 172, 28, 154, 0, 15, 42, 180, 0, 59, 16, 82, 27, 96, 46]
abbrev dktX12_was_3 : List UInt8 := dkwX12_was_3 ++ dktX12_was_4
def dkwX12_was_2 : List UInt8 := [46, 153, 0, 30, 27, 42, 180, 0, 59, 16, 80, 46, 163, 0, 19, 28, 5, 160, 0, 16, 27, 42]
abbrev dktX12_was_2 : List UInt8 := dkwX12_was_2 ++ dktX12_was_3
def dkwX12_was_1 : List UInt8 := [153, 0, 7, 4, 167, 0, 4, 3, 4, 5, 182, 0, 226, 154, 0, 5, 3, 172, 42, 180, 0, 59, 16, 79]
abbrev dktX12_was_1 : List UInt8 := dkwX12_was_1 ++ dktX12_was_2
def dkwX12_was_0 : List UInt8 := [42, 3, 181, 0, 1, 42, 27, 3, 16, 24, 184, 1, 58, 153, 0, 16, 28, 3, 5, 184, 1, 58]
abbrev dktX12_was_0 : List UInt8 := dkwX12_was_0 ++ dktX12_was_1
theorem dksX12_was_0 : cX12_was.data.toList.drop 0 = dktX12_was_0 := by decide +kernel
theorem dksX12_was_1 : cX12_was.data.toList.drop 22 = dktX12_was_1 := dk_seg dksX12_was_0 22 rfl rfl
theorem dksX12_was_2 : cX12_was.data.toList.drop 46 = dktX12_was_2 := dk_seg dksX12_was_1 24 rfl rfl
theorem dksX12_was_3 : cX12_was.data.toList.drop 68 = dktX12_was_3 := dk_seg dksX12_was_2 22 rfl rfl
theorem dksX12_was_4 : cX12_was.data.toList.drop 92 = dktX12_was_4 := dk_seg dksX12_was_3 24 rfl rfl
theorem dksX12_was_5 : cX12_was.data.toList.drop 116 = dktX12_was_5 := dk_seg dksX12_was_4 24 rfl rfl
theorem dX12_was_0 : decode cX12_was 0 = .ok (.aload_n 0, 1) := dk_42 (dk_at dksX12_was_0 0 rfl rfl)
theorem dX12_was_1 : decode cX12_was 1 = .ok (.iconst 0, 1) := dk_3 (dk_at dksX12_was_0 1 rfl rfl)
theorem dX12_was_2 : decode cX12_was 2 = .ok (.putfield 1, 3) := dk_181 0 1 (dk_at dksX12_was_0 2 rfl rfl)
theorem dX12_was_5 : decode cX12_was 5 = .ok (.aload_n 0, 1) := dk_42 (dk_at dksX12_was_0 5 rfl rfl)
theorem dX12_was_6 : decode cX12_was 6 = .ok (.iload_n 1, 1) := dk_27 (dk_at dksX12_was_0 6 rfl rfl)
theorem dX12_was_7 : decode cX12_was 7 = .ok (.iconst 0, 1) := dk_3 (dk_at dksX12_was_0 7 rfl rfl)
theorem dX12_was_8 : decode cX12_was 8 = .ok (.bipush 24, 2) := dk_16 24 (dk_at dksX12_was_0 8 rfl rfl)
theorem dX12_was_10 : decode cX12_was 10 = .ok (.invokestatic 314, 3) := dk_184 1 58 (dk_at dksX12_was_0 10 rfl rfl)
theorem dX12_was_13 : decode cX12_was 13 = .ok (.ifCond .eq 16, 3) := dk_153 0 16 (dk_at dksX12_was_0 13 rfl rfl)
theorem dX12_was_16 : decode cX12_was 16 = .ok (.iload_n 2, 1) := dk_28 (dk_at dksX12_was_0 16 rfl rfl)
theorem dX12_was_17 : decode cX12_was 17 = .ok (.iconst 0, 1) := dk_3 (dk_at dksX12_was_0 17 rfl rfl)
theorem dX12_was_18 : decode cX12_was 18 = .ok (.iconst 2, 1) := dk_5 (dk_at dksX12_was_0 18 rfl rfl)
theorem dX12_was_19 : decode cX12_was 19 = .ok (.invokestatic 314, 3) := dk_184 1 58 (dk_at dksX12_was_0 19 rfl rfl)
theorem dX12_was_22 : decode cX12_was 22 = .ok (.ifCond .eq 7, 3) := dk_153 0 7 (dk_at dksX12_was_1 0 rfl rfl)
theorem dX12_was_25 : decode cX12_was 25 = .ok (.iconst 1, 1) := dk_4 (dk_at dksX12_was_1 3 rfl rfl)
theorem dX12_was_26 : decode cX12_was 26 = .ok (.goto 4, 3) := dk_167 0 4 (dk_at dksX12_was_1 4 rfl rfl)
theorem dX12_was_29 : decode cX12_was 29 = .ok (.iconst 0, 1) := dk_3 (dk_at dksX12_was_1 7 rfl rfl)
theorem dX12_was_30 : decode cX12_was 30 = .ok (.iconst 1, 1) := dk_4 (dk_at dksX12_was_1 8 rfl rfl)
theorem dX12_was_31 : decode cX12_was 31 = .ok (.iconst 2, 1) := dk_5 (dk_at dksX12_was_1 9 rfl rfl)
theorem dX12_was_32 : decode cX12_was 32 = .ok (.invokevirtual 226, 3) := dk_182 0 226 (dk_at dksX12_was_1 10 rfl rfl)
theorem dX12_was_35 : decode cX12_was 35 = .ok (.ifCond .ne 5, 3) := dk_154 0 5 (dk_at dksX12_was_1 13 rfl rfl)
theorem dX12_was_38 : decode cX12_was 38 = .ok (.iconst 0, 1) := dk_3 (dk_at dksX12_was_1 16 rfl rfl)
theorem dX12_was_39 : decode cX12_was 39 = .ok (.ireturn, 1) := dk_172 (dk_at dksX12_was_1 17 rfl rfl)
theorem dX12_was_40 : decode cX12_was 40 = .ok (.aload_n 0, 1) := dk_42 (dk_at dksX12_was_1 18 rfl rfl)
theorem dX12_was_41 : decode cX12_was 41 = .ok (.getfield 59, 3) := dk_180 0 59 (dk_at dksX12_was_1 19 rfl rfl)
theorem dX12_was_44 : decode cX12_was 44 = .ok (.bipush 79, 2) := dk_16 79 (dk_at dksX12_was_1 22 rfl rfl)
theorem dX12_was_46 : decode cX12_was 46 = .ok (.iaload, 1) := dk_46 (dk_at dksX12_was_2 0 rfl rfl)
theorem dX12_was_47 : decode cX12_was 47 = .ok (.ifCond .eq 30, 3) := dk_153 0 30 (dk_at dksX12_was_2 1 rfl rfl)
theorem dX12_was_50 : decode cX12_was 50 = .ok (.iload_n 1, 1) := dk_27 (dk_at dksX12_was_2 4 rfl rfl)
theorem dX12_was_51 : decode cX12_was 51 = .ok (.aload_n 0, 1) := dk_42 (dk_at dksX12_was_2 5 rfl rfl)
theorem dX12_was_52 : decode cX12_was 52 = .ok (.getfield 59, 3) := dk_180 0 59 (dk_at dksX12_was_2 6 rfl rfl)
theorem dX12_was_55 : decode cX12_was 55 = .ok (.bipush 80, 2) := dk_16 80 (dk_at dksX12_was_2 9 rfl rfl)
theorem dX12_was_57 : decode cX12_was 57 = .ok (.iaload, 1) := dk_46 (dk_at dksX12_was_2 11 rfl rfl)
theorem dX12_was_58 : decode cX12_was 58 = .ok (.if_icmp .gt 19, 3) := dk_163 0 19 (dk_at dksX12_was_2 12 rfl rfl)
theorem dX12_was_61 : decode cX12_was 61 = .ok (.iload_n 2, 1) := dk_28 (dk_at dksX12_was_2 15 rfl rfl)
theorem dX12_was_62 : decode cX12_was 62 = .ok (.iconst 2, 1) := dk_5 (dk_at dksX12_was_2 16 rfl rfl)
theorem dX12_was_63 : decode cX12_was 63 = .ok (.if_icmp .ne 16, 3) := dk_160 0 16 (dk_at dksX12_was_2 17 rfl rfl)
theorem dX12_was_66 : decode cX12_was 66 = .ok (.iload_n 1, 1) := dk_27 (dk_at dksX12_was_2 20 rfl rfl)
theorem dX12_was_67 : decode cX12_was 67 = .ok (.aload_n 0, 1) := dk_42 (dk_at dksX12_was_2 21 rfl rfl)
theorem dX12_was_68 : decode cX12_was 68 = .ok (.getfield 59, 3) := dk_180 0 59 (dk_at dksX12_was_3 0 rfl rfl)
theorem dX12_was_71 : decode cX12_was 71 = .ok (.bipush 80, 2) := dk_16 80 (dk_at dksX12_was_3 3 rfl rfl)
theorem dX12_was_73 : decode cX12_was 73 = .ok (.iaload, 1) := dk_46 (dk_at dksX12_was_3 5 rfl rfl)
theorem dX12_was_74 : decode cX12_was 74 = .ok (.if_icmp .ne 5, 3) := dk_160 0 5 (dk_at dksX12_was_3 6 rfl rfl)
theorem dX12_was_77 : decode cX12_was 77 = .ok (.iconst (-1), 1) := dk_2 (dk_at dksX12_was_3 9 rfl rfl)
theorem dX12_was_78 : decode cX12_was 78 = .ok (.ireturn, 1) := dk_172 (dk_at dksX12_was_3 10 rfl rfl)
theorem dX12_was_79 : decode cX12_was 79 = .ok (.iload_n 2, 1) := dk_28 (dk_at dksX12_was_3 11 rfl rfl)
theorem dX12_was_80 : decode cX12_was 80 = .ok (.ifCond .ne 15, 3) := dk_154 0 15 (dk_at dksX12_was_3 12 rfl rfl)
theorem dX12_was_83 : decode cX12_was 83 = .ok (.aload_n 0, 1) := dk_42 (dk_at dksX12_was_3 15 rfl rfl)
theorem dX12_was_84 : decode cX12_was 84 = .ok (.getfield 59, 3) := dk_180 0 59 (dk_at dksX12_was_3 16 rfl rfl)
theorem dX12_was_87 : decode cX12_was 87 = .ok (.bipush 82, 2) := dk_16 82 (dk_at dksX12_was_3 19 rfl rfl)
theorem dX12_was_89 : decode cX12_was 89 = .ok (.iload_n 1, 1) := dk_27 (dk_at dksX12_was_3 21 rfl rfl)
theorem dX12_was_90 : decode cX12_was 90 = .ok (.iadd, 1) := dk_96 (dk_at dksX12_was_3 22 rfl rfl)
theorem dX12_was_91 : decode cX12_was 91 = .ok (.iaload, 1) := dk_46 (dk_at dksX12_was_3 23 rfl rfl)
theorem dX12_was_92 : decode cX12_was 92 = .ok (.goto 30, 3) := dk_167 0 30 (dk_at dksX12_was_4 0 rfl rfl)
theorem dX12_was_95 : decode cX12_was 95 = .ok (.iload_n 2, 1) := dk_28 (dk_at dksX12_was_4 3 rfl rfl)
theorem dX12_was_96 : decode cX12_was 96 = .ok (.iconst 1, 1) := dk_4 (dk_at dksX12_was_4 4 rfl rfl)
theorem dX12_was_97 : decode cX12_was 97 = .ok (.if_icmp .ne 15, 3) := dk_160 0 15 (dk_at dksX12_was_4 5 rfl rfl)
theorem dX12_was_100 : decode cX12_was 100 = .ok (.aload_n 0, 1) := dk_42 (dk_at dksX12_was_4 8 rfl rfl)
theorem dX12_was_101 : decode cX12_was 101 = .ok (.getfield 59, 3) := dk_180 0 59 (dk_at dksX12_was_4 9 rfl rfl)
theorem dX12_was_104 : decode cX12_was 104 = .ok (.bipush 107, 2) := dk_16 107 (dk_at dksX12_was_4 12 rfl rfl)
theorem dX12_was_106 : decode cX12_was 106 = .ok (.iload_n 1, 1) := dk_27 (dk_at dksX12_was_4 14 rfl rfl)
theorem dX12_was_107 : decode cX12_was 107 = .ok (.iadd, 1) := dk_96 (dk_at dksX12_was_4 15 rfl rfl)
theorem dX12_was_108 : decode cX12_was 108 = .ok (.iaload, 1) := dk_46 (dk_at dksX12_was_4 16 rfl rfl)
theorem dX12_was_109 : decode cX12_was 109 = .ok (.goto 13, 3) := dk_167 0 13 (dk_at dksX12_was_4 17 rfl rfl)
theorem dX12_was_112 : decode cX12_was 112 = .ok (.aload_n 0, 1) := dk_42 (dk_at dksX12_was_4 20 rfl rfl)
theorem dX12_was_113 : decode cX12_was 113 = .ok (.getfield 59, 3) := dk_180 0 59 (dk_at dksX12_was_4 21 rfl rfl)
theorem dX12_was_116 : decode cX12_was 116 = .ok (.sipush 132, 3) := dk_17 0 132 (dk_at dksX12_was_5 0 rfl rfl)
theorem dX12_was_119 : decode cX12_was 119 = .ok (.iload_n 1, 1) := dk_27 (dk_at dksX12_was_5 3 rfl rfl)
theorem dX12_was_120 : decode cX12_was 120 = .ok (.iadd, 1) := dk_96 (dk_at dksX12_was_5 4 rfl rfl)
theorem dX12_was_121 : decode cX12_was 121 = .ok (.iaload, 1) := dk_46 (dk_at dksX12_was_5 5 rfl rfl)
theorem dX12_was_122 : decode cX12_was 122 = .ok (.ireturn, 1) := dk_172 (dk_at dksX12_was_5 6 rfl rfl)
abbrev cX12_ended_2 : ByteArray := prog_27_method_91_code
def yX12_ended_2 : MethodName := ⟨RX12, "ended", "()I"⟩
def dkwX12_ended_2_1 : List UInt8 := [16, 81, 46, 172]
abbrev dktX12_ended_2_1 : List UInt8 := dkwX12_ended_2_1 ++ []
def dkwX12_ended_2_0 : List UInt8 := [42, 3, 181, 0, 1, 42, 180, 0, 59, 16, 79, 46, 154, 0, 7, 2, 167, 0, 10, 42, 180, 0, 59]
abbrev dktX12_ended_2_0 : List UInt8 := dkwX12_ended_2_0 ++ dktX12_ended_2_1
theorem dksX12_ended_2_0 : cX12_ended_2.data.toList.drop 0 = dktX12_ended_2_0 := by decide +kernel
theorem dksX12_ended_2_1 : cX12_ended_2.data.toList.drop 23 = dktX12_ended_2_1 := dk_seg dksX12_ended_2_0 23 rfl rfl
theorem dX12_ended_2_0 : decode cX12_ended_2 0 = .ok (.aload_n 0, 1) := dk_42 (dk_at dksX12_ended_2_0 0 rfl rfl)
theorem dX12_ended_2_1 : decode cX12_ended_2 1 = .ok (.iconst 0, 1) := dk_3 (dk_at dksX12_ended_2_0 1 rfl rfl)
theorem dX12_ended_2_2 : decode cX12_ended_2 2 = .ok (.putfield 1, 3) := dk_181 0 1 (dk_at dksX12_ended_2_0 2 rfl rfl)
theorem dX12_ended_2_5 : decode cX12_ended_2 5 = .ok (.aload_n 0, 1) := dk_42 (dk_at dksX12_ended_2_0 5 rfl rfl)
theorem dX12_ended_2_6 : decode cX12_ended_2 6 = .ok (.getfield 59, 3) := dk_180 0 59 (dk_at dksX12_ended_2_0 6 rfl rfl)
theorem dX12_ended_2_9 : decode cX12_ended_2 9 = .ok (.bipush 79, 2) := dk_16 79 (dk_at dksX12_ended_2_0 9 rfl rfl)
theorem dX12_ended_2_11 : decode cX12_ended_2 11 = .ok (.iaload, 1) := dk_46 (dk_at dksX12_ended_2_0 11 rfl rfl)
theorem dX12_ended_2_12 : decode cX12_ended_2 12 = .ok (.ifCond .ne 7, 3) := dk_154 0 7 (dk_at dksX12_ended_2_0 12 rfl rfl)
theorem dX12_ended_2_15 : decode cX12_ended_2 15 = .ok (.iconst (-1), 1) := dk_2 (dk_at dksX12_ended_2_0 15 rfl rfl)
theorem dX12_ended_2_16 : decode cX12_ended_2 16 = .ok (.goto 10, 3) := dk_167 0 10 (dk_at dksX12_ended_2_0 16 rfl rfl)
theorem dX12_ended_2_19 : decode cX12_ended_2 19 = .ok (.aload_n 0, 1) := dk_42 (dk_at dksX12_ended_2_0 19 rfl rfl)
theorem dX12_ended_2_20 : decode cX12_ended_2 20 = .ok (.getfield 59, 3) := dk_180 0 59 (dk_at dksX12_ended_2_0 20 rfl rfl)
theorem dX12_ended_2_23 : decode cX12_ended_2 23 = .ok (.bipush 81, 2) := dk_16 81 (dk_at dksX12_ended_2_1 0 rfl rfl)
theorem dX12_ended_2_25 : decode cX12_ended_2 25 = .ok (.iaload, 1) := dk_46 (dk_at dksX12_ended_2_1 2 rfl rfl)
theorem dX12_ended_2_26 : decode cX12_ended_2 26 = .ok (.ireturn, 1) := dk_172 (dk_at dksX12_ended_2_1 3 rfl rfl)
abbrev cX12_row : ByteArray := prog_27_method_92_code
def yX12_row : MethodName := ⟨RX12, "row", "(I)I"⟩
def dkwX12_row_3 : List UInt8 := [180, 0, 59, 16, 54, 46, 172]
abbrev dktX12_row_3 : List UInt8 := dkwX12_row_3 ++ []
def dkwX12_row_2 : List UInt8 := [16, 55, 42, 180, 0, 59, 16, 54, 46, 96, 27, 79, 42, 180, 0, 59, 16, 54, 92, 46, 4, 96, 79, 42]
abbrev dktX12_row_2 : List UInt8 := dkwX12_row_2 ++ dktX12_row_3
def dkwX12_row_1 : List UInt8 := [154, 0, 5, 3, 172, 42, 180, 0, 59, 16, 54, 46, 16, 24, 160, 0, 5, 2, 172, 42, 180, 0, 59]
abbrev dktX12_row_1 : List UInt8 := dkwX12_row_1 ++ dktX12_row_2
def dkwX12_row_0 : List UInt8 := [42, 3, 181, 0, 1, 42, 27, 3, 42, 180, 0, 23, 4, 46, 184, 1, 58, 4, 5, 182, 0, 226]
abbrev dktX12_row_0 : List UInt8 := dkwX12_row_0 ++ dktX12_row_1
theorem dksX12_row_0 : cX12_row.data.toList.drop 0 = dktX12_row_0 := by decide +kernel
theorem dksX12_row_1 : cX12_row.data.toList.drop 22 = dktX12_row_1 := dk_seg dksX12_row_0 22 rfl rfl
theorem dksX12_row_2 : cX12_row.data.toList.drop 45 = dktX12_row_2 := dk_seg dksX12_row_1 23 rfl rfl
theorem dksX12_row_3 : cX12_row.data.toList.drop 69 = dktX12_row_3 := dk_seg dksX12_row_2 24 rfl rfl
theorem dX12_row_0 : decode cX12_row 0 = .ok (.aload_n 0, 1) := dk_42 (dk_at dksX12_row_0 0 rfl rfl)
theorem dX12_row_1 : decode cX12_row 1 = .ok (.iconst 0, 1) := dk_3 (dk_at dksX12_row_0 1 rfl rfl)
theorem dX12_row_2 : decode cX12_row 2 = .ok (.putfield 1, 3) := dk_181 0 1 (dk_at dksX12_row_0 2 rfl rfl)
theorem dX12_row_5 : decode cX12_row 5 = .ok (.aload_n 0, 1) := dk_42 (dk_at dksX12_row_0 5 rfl rfl)
theorem dX12_row_6 : decode cX12_row 6 = .ok (.iload_n 1, 1) := dk_27 (dk_at dksX12_row_0 6 rfl rfl)
theorem dX12_row_7 : decode cX12_row 7 = .ok (.iconst 0, 1) := dk_3 (dk_at dksX12_row_0 7 rfl rfl)
theorem dX12_row_8 : decode cX12_row 8 = .ok (.aload_n 0, 1) := dk_42 (dk_at dksX12_row_0 8 rfl rfl)
theorem dX12_row_9 : decode cX12_row 9 = .ok (.getfield 23, 3) := dk_180 0 23 (dk_at dksX12_row_0 9 rfl rfl)
theorem dX12_row_12 : decode cX12_row 12 = .ok (.iconst 1, 1) := dk_4 (dk_at dksX12_row_0 12 rfl rfl)
theorem dX12_row_13 : decode cX12_row 13 = .ok (.iaload, 1) := dk_46 (dk_at dksX12_row_0 13 rfl rfl)
theorem dX12_row_14 : decode cX12_row 14 = .ok (.invokestatic 314, 3) := dk_184 1 58 (dk_at dksX12_row_0 14 rfl rfl)
theorem dX12_row_17 : decode cX12_row 17 = .ok (.iconst 1, 1) := dk_4 (dk_at dksX12_row_0 17 rfl rfl)
theorem dX12_row_18 : decode cX12_row 18 = .ok (.iconst 2, 1) := dk_5 (dk_at dksX12_row_0 18 rfl rfl)
theorem dX12_row_19 : decode cX12_row 19 = .ok (.invokevirtual 226, 3) := dk_182 0 226 (dk_at dksX12_row_0 19 rfl rfl)
theorem dX12_row_22 : decode cX12_row 22 = .ok (.ifCond .ne 5, 3) := dk_154 0 5 (dk_at dksX12_row_1 0 rfl rfl)
theorem dX12_row_25 : decode cX12_row 25 = .ok (.iconst 0, 1) := dk_3 (dk_at dksX12_row_1 3 rfl rfl)
theorem dX12_row_26 : decode cX12_row 26 = .ok (.ireturn, 1) := dk_172 (dk_at dksX12_row_1 4 rfl rfl)
theorem dX12_row_27 : decode cX12_row 27 = .ok (.aload_n 0, 1) := dk_42 (dk_at dksX12_row_1 5 rfl rfl)
theorem dX12_row_28 : decode cX12_row 28 = .ok (.getfield 59, 3) := dk_180 0 59 (dk_at dksX12_row_1 6 rfl rfl)
theorem dX12_row_31 : decode cX12_row 31 = .ok (.bipush 54, 2) := dk_16 54 (dk_at dksX12_row_1 9 rfl rfl)
theorem dX12_row_33 : decode cX12_row 33 = .ok (.iaload, 1) := dk_46 (dk_at dksX12_row_1 11 rfl rfl)
theorem dX12_row_34 : decode cX12_row 34 = .ok (.bipush 24, 2) := dk_16 24 (dk_at dksX12_row_1 12 rfl rfl)
theorem dX12_row_36 : decode cX12_row 36 = .ok (.if_icmp .ne 5, 3) := dk_160 0 5 (dk_at dksX12_row_1 14 rfl rfl)
theorem dX12_row_39 : decode cX12_row 39 = .ok (.iconst (-1), 1) := dk_2 (dk_at dksX12_row_1 17 rfl rfl)
theorem dX12_row_40 : decode cX12_row 40 = .ok (.ireturn, 1) := dk_172 (dk_at dksX12_row_1 18 rfl rfl)
theorem dX12_row_41 : decode cX12_row 41 = .ok (.aload_n 0, 1) := dk_42 (dk_at dksX12_row_1 19 rfl rfl)
theorem dX12_row_42 : decode cX12_row 42 = .ok (.getfield 59, 3) := dk_180 0 59 (dk_at dksX12_row_1 20 rfl rfl)
theorem dX12_row_45 : decode cX12_row 45 = .ok (.bipush 55, 2) := dk_16 55 (dk_at dksX12_row_2 0 rfl rfl)
theorem dX12_row_47 : decode cX12_row 47 = .ok (.aload_n 0, 1) := dk_42 (dk_at dksX12_row_2 2 rfl rfl)
theorem dX12_row_48 : decode cX12_row 48 = .ok (.getfield 59, 3) := dk_180 0 59 (dk_at dksX12_row_2 3 rfl rfl)
theorem dX12_row_51 : decode cX12_row 51 = .ok (.bipush 54, 2) := dk_16 54 (dk_at dksX12_row_2 6 rfl rfl)
theorem dX12_row_53 : decode cX12_row 53 = .ok (.iaload, 1) := dk_46 (dk_at dksX12_row_2 8 rfl rfl)
theorem dX12_row_54 : decode cX12_row 54 = .ok (.iadd, 1) := dk_96 (dk_at dksX12_row_2 9 rfl rfl)
theorem dX12_row_55 : decode cX12_row 55 = .ok (.iload_n 1, 1) := dk_27 (dk_at dksX12_row_2 10 rfl rfl)
theorem dX12_row_56 : decode cX12_row 56 = .ok (.iastore, 1) := dk_79 (dk_at dksX12_row_2 11 rfl rfl)
theorem dX12_row_57 : decode cX12_row 57 = .ok (.aload_n 0, 1) := dk_42 (dk_at dksX12_row_2 12 rfl rfl)
theorem dX12_row_58 : decode cX12_row 58 = .ok (.getfield 59, 3) := dk_180 0 59 (dk_at dksX12_row_2 13 rfl rfl)
theorem dX12_row_61 : decode cX12_row 61 = .ok (.bipush 54, 2) := dk_16 54 (dk_at dksX12_row_2 16 rfl rfl)
theorem dX12_row_63 : decode cX12_row 63 = .ok (.dup2, 1) := dk_92 (dk_at dksX12_row_2 18 rfl rfl)
theorem dX12_row_64 : decode cX12_row 64 = .ok (.iaload, 1) := dk_46 (dk_at dksX12_row_2 19 rfl rfl)
theorem dX12_row_65 : decode cX12_row 65 = .ok (.iconst 1, 1) := dk_4 (dk_at dksX12_row_2 20 rfl rfl)
theorem dX12_row_66 : decode cX12_row 66 = .ok (.iadd, 1) := dk_96 (dk_at dksX12_row_2 21 rfl rfl)
theorem dX12_row_67 : decode cX12_row 67 = .ok (.iastore, 1) := dk_79 (dk_at dksX12_row_2 22 rfl rfl)
theorem dX12_row_68 : decode cX12_row 68 = .ok (.aload_n 0, 1) := dk_42 (dk_at dksX12_row_2 23 rfl rfl)
theorem dX12_row_69 : decode cX12_row 69 = .ok (.getfield 59, 3) := dk_180 0 59 (dk_at dksX12_row_3 0 rfl rfl)
theorem dX12_row_72 : decode cX12_row 72 = .ok (.bipush 54, 2) := dk_16 54 (dk_at dksX12_row_3 3 rfl rfl)
theorem dX12_row_74 : decode cX12_row 74 = .ok (.iaload, 1) := dk_46 (dk_at dksX12_row_3 5 rfl rfl)
theorem dX12_row_75 : decode cX12_row 75 = .ok (.ireturn, 1) := dk_172 (dk_at dksX12_row_3 6 rfl rfl)
abbrev cX12_clear : ByteArray := prog_27_method_93_code
def yX12_clear : MethodName := ⟨RX12, "clear", "()I"⟩
def dkwX12_clear_0 : List UInt8 := [42, 3, 181, 0, 1, 42, 180, 0, 59, 16, 54, 46, 60, 42, 180, 0, 59, 16, 54, 3, 79, 27, 172]
abbrev dktX12_clear_0 : List UInt8 := dkwX12_clear_0 ++ []
theorem dksX12_clear_0 : cX12_clear.data.toList.drop 0 = dktX12_clear_0 := by decide +kernel
theorem dX12_clear_0 : decode cX12_clear 0 = .ok (.aload_n 0, 1) := dk_42 (dk_at dksX12_clear_0 0 rfl rfl)
theorem dX12_clear_1 : decode cX12_clear 1 = .ok (.iconst 0, 1) := dk_3 (dk_at dksX12_clear_0 1 rfl rfl)
theorem dX12_clear_2 : decode cX12_clear 2 = .ok (.putfield 1, 3) := dk_181 0 1 (dk_at dksX12_clear_0 2 rfl rfl)
theorem dX12_clear_5 : decode cX12_clear 5 = .ok (.aload_n 0, 1) := dk_42 (dk_at dksX12_clear_0 5 rfl rfl)
theorem dX12_clear_6 : decode cX12_clear 6 = .ok (.getfield 59, 3) := dk_180 0 59 (dk_at dksX12_clear_0 6 rfl rfl)
theorem dX12_clear_9 : decode cX12_clear 9 = .ok (.bipush 54, 2) := dk_16 54 (dk_at dksX12_clear_0 9 rfl rfl)
theorem dX12_clear_11 : decode cX12_clear 11 = .ok (.iaload, 1) := dk_46 (dk_at dksX12_clear_0 11 rfl rfl)
theorem dX12_clear_12 : decode cX12_clear 12 = .ok (.istore_n 1, 1) := dk_60 (dk_at dksX12_clear_0 12 rfl rfl)
theorem dX12_clear_13 : decode cX12_clear 13 = .ok (.aload_n 0, 1) := dk_42 (dk_at dksX12_clear_0 13 rfl rfl)
theorem dX12_clear_14 : decode cX12_clear 14 = .ok (.getfield 59, 3) := dk_180 0 59 (dk_at dksX12_clear_0 14 rfl rfl)
theorem dX12_clear_17 : decode cX12_clear 17 = .ok (.bipush 54, 2) := dk_16 54 (dk_at dksX12_clear_0 17 rfl rfl)
theorem dX12_clear_19 : decode cX12_clear 19 = .ok (.iconst 0, 1) := dk_3 (dk_at dksX12_clear_0 19 rfl rfl)
theorem dX12_clear_20 : decode cX12_clear 20 = .ok (.iastore, 1) := dk_79 (dk_at dksX12_clear_0 20 rfl rfl)
theorem dX12_clear_21 : decode cX12_clear 21 = .ok (.iload_n 1, 1) := dk_27 (dk_at dksX12_clear_0 21 rfl rfl)
theorem dX12_clear_22 : decode cX12_clear 22 = .ok (.ireturn, 1) := dk_172 (dk_at dksX12_clear_0 22 rfl rfl)
abbrev cX12_judge : ByteArray := prog_27_method_96_code
def yX12_judge : MethodName := ⟨RX12, "judge", "()I"⟩
def dkwX12_judge_5 : List UInt8 := [182, 1, 190, 132, 1, 1, 167, 255, 159, 2, 172]
abbrev dktX12_judge_5 : List UInt8 := dkwX12_judge_5 ++ []
def dkwX12_judge_4 : List UInt8 := [184, 1, 98, 182, 1, 121, 28, 122, 4, 126, 154, 0, 10, 16, 10, 27, 104, 4, 96, 172, 42, 28]
abbrev dktX12_judge_4 : List UInt8 := dkwX12_judge_4 ++ dktX12_judge_5
def dkwX12_judge_3 : List UInt8 := [46, 61, 42, 42, 180, 0, 65, 42, 180, 1, 181, 46, 42, 180, 1, 181, 42, 180, 1, 178, 42, 180, 1, 184]
abbrev dktX12_judge_3 : List UInt8 := dkwX12_judge_3 ++ dktX12_judge_4
def dkwX12_judge_2 : List UInt8 := [180, 1, 184, 182, 1, 94, 153, 0, 10, 16, 10, 27, 104, 5, 96, 172, 42, 180, 0, 59, 16, 55, 27, 96]
abbrev dktX12_judge_2 : List UInt8 := dkwX12_judge_2 ++ dktX12_judge_3
def dkwX12_judge_1 : List UInt8 := [60, 27, 42, 180, 0, 59, 16, 54, 46, 162, 0, 92, 42, 42, 180, 1, 181, 42, 180, 1, 178, 42]
abbrev dktX12_judge_1 : List UInt8 := dkwX12_judge_1 ++ dktX12_judge_2
def dkwX12_judge_0 : List UInt8 := [42, 3, 181, 0, 1, 42, 4, 182, 1, 75, 154, 0, 5, 3, 172, 42, 182, 1, 155, 42, 182, 1, 187, 3]
abbrev dktX12_judge_0 : List UInt8 := dkwX12_judge_0 ++ dktX12_judge_1
theorem dksX12_judge_0 : cX12_judge.data.toList.drop 0 = dktX12_judge_0 := by decide +kernel
theorem dksX12_judge_1 : cX12_judge.data.toList.drop 24 = dktX12_judge_1 := dk_seg dksX12_judge_0 24 rfl rfl
theorem dksX12_judge_2 : cX12_judge.data.toList.drop 46 = dktX12_judge_2 := dk_seg dksX12_judge_1 22 rfl rfl
theorem dksX12_judge_3 : cX12_judge.data.toList.drop 70 = dktX12_judge_3 := dk_seg dksX12_judge_2 24 rfl rfl
theorem dksX12_judge_4 : cX12_judge.data.toList.drop 94 = dktX12_judge_4 := dk_seg dksX12_judge_3 24 rfl rfl
theorem dksX12_judge_5 : cX12_judge.data.toList.drop 116 = dktX12_judge_5 := dk_seg dksX12_judge_4 22 rfl rfl
theorem dX12_judge_0 : decode cX12_judge 0 = .ok (.aload_n 0, 1) := dk_42 (dk_at dksX12_judge_0 0 rfl rfl)
theorem dX12_judge_1 : decode cX12_judge 1 = .ok (.iconst 0, 1) := dk_3 (dk_at dksX12_judge_0 1 rfl rfl)
theorem dX12_judge_2 : decode cX12_judge 2 = .ok (.putfield 1, 3) := dk_181 0 1 (dk_at dksX12_judge_0 2 rfl rfl)
theorem dX12_judge_5 : decode cX12_judge 5 = .ok (.aload_n 0, 1) := dk_42 (dk_at dksX12_judge_0 5 rfl rfl)
theorem dX12_judge_6 : decode cX12_judge 6 = .ok (.iconst 1, 1) := dk_4 (dk_at dksX12_judge_0 6 rfl rfl)
theorem dX12_judge_7 : decode cX12_judge 7 = .ok (.invokevirtual 331, 3) := dk_182 1 75 (dk_at dksX12_judge_0 7 rfl rfl)
theorem dX12_judge_10 : decode cX12_judge 10 = .ok (.ifCond .ne 5, 3) := dk_154 0 5 (dk_at dksX12_judge_0 10 rfl rfl)
theorem dX12_judge_13 : decode cX12_judge 13 = .ok (.iconst 0, 1) := dk_3 (dk_at dksX12_judge_0 13 rfl rfl)
theorem dX12_judge_14 : decode cX12_judge 14 = .ok (.ireturn, 1) := dk_172 (dk_at dksX12_judge_0 14 rfl rfl)
theorem dX12_judge_15 : decode cX12_judge 15 = .ok (.aload_n 0, 1) := dk_42 (dk_at dksX12_judge_0 15 rfl rfl)
theorem dX12_judge_16 : decode cX12_judge 16 = .ok (.invokevirtual 411, 3) := dk_182 1 155 (dk_at dksX12_judge_0 16 rfl rfl)
theorem dX12_judge_19 : decode cX12_judge 19 = .ok (.aload_n 0, 1) := dk_42 (dk_at dksX12_judge_0 19 rfl rfl)
theorem dX12_judge_20 : decode cX12_judge 20 = .ok (.invokevirtual 443, 3) := dk_182 1 187 (dk_at dksX12_judge_0 20 rfl rfl)
theorem dX12_judge_23 : decode cX12_judge 23 = .ok (.iconst 0, 1) := dk_3 (dk_at dksX12_judge_0 23 rfl rfl)
theorem dX12_judge_24 : decode cX12_judge 24 = .ok (.istore_n 1, 1) := dk_60 (dk_at dksX12_judge_1 0 rfl rfl)
theorem dX12_judge_25 : decode cX12_judge 25 = .ok (.iload_n 1, 1) := dk_27 (dk_at dksX12_judge_1 1 rfl rfl)
theorem dX12_judge_26 : decode cX12_judge 26 = .ok (.aload_n 0, 1) := dk_42 (dk_at dksX12_judge_1 2 rfl rfl)
theorem dX12_judge_27 : decode cX12_judge 27 = .ok (.getfield 59, 3) := dk_180 0 59 (dk_at dksX12_judge_1 3 rfl rfl)
theorem dX12_judge_30 : decode cX12_judge 30 = .ok (.bipush 54, 2) := dk_16 54 (dk_at dksX12_judge_1 6 rfl rfl)
theorem dX12_judge_32 : decode cX12_judge 32 = .ok (.iaload, 1) := dk_46 (dk_at dksX12_judge_1 8 rfl rfl)
theorem dX12_judge_33 : decode cX12_judge 33 = .ok (.if_icmp .ge 92, 3) := dk_162 0 92 (dk_at dksX12_judge_1 9 rfl rfl)
theorem dX12_judge_36 : decode cX12_judge 36 = .ok (.aload_n 0, 1) := dk_42 (dk_at dksX12_judge_1 12 rfl rfl)
theorem dX12_judge_37 : decode cX12_judge 37 = .ok (.aload_n 0, 1) := dk_42 (dk_at dksX12_judge_1 13 rfl rfl)
theorem dX12_judge_38 : decode cX12_judge 38 = .ok (.getfield 437, 3) := dk_180 1 181 (dk_at dksX12_judge_1 14 rfl rfl)
theorem dX12_judge_41 : decode cX12_judge 41 = .ok (.aload_n 0, 1) := dk_42 (dk_at dksX12_judge_1 17 rfl rfl)
theorem dX12_judge_42 : decode cX12_judge 42 = .ok (.getfield 434, 3) := dk_180 1 178 (dk_at dksX12_judge_1 18 rfl rfl)
theorem dX12_judge_45 : decode cX12_judge 45 = .ok (.aload_n 0, 1) := dk_42 (dk_at dksX12_judge_1 21 rfl rfl)
theorem dX12_judge_46 : decode cX12_judge 46 = .ok (.getfield 440, 3) := dk_180 1 184 (dk_at dksX12_judge_2 0 rfl rfl)
theorem dX12_judge_49 : decode cX12_judge 49 = .ok (.invokevirtual 350, 3) := dk_182 1 94 (dk_at dksX12_judge_2 3 rfl rfl)
theorem dX12_judge_52 : decode cX12_judge 52 = .ok (.ifCond .eq 10, 3) := dk_153 0 10 (dk_at dksX12_judge_2 6 rfl rfl)
theorem dX12_judge_55 : decode cX12_judge 55 = .ok (.bipush 10, 2) := dk_16 10 (dk_at dksX12_judge_2 9 rfl rfl)
theorem dX12_judge_57 : decode cX12_judge 57 = .ok (.iload_n 1, 1) := dk_27 (dk_at dksX12_judge_2 11 rfl rfl)
theorem dX12_judge_58 : decode cX12_judge 58 = .ok (.imul, 1) := dk_104 (dk_at dksX12_judge_2 12 rfl rfl)
theorem dX12_judge_59 : decode cX12_judge 59 = .ok (.iconst 2, 1) := dk_5 (dk_at dksX12_judge_2 13 rfl rfl)
theorem dX12_judge_60 : decode cX12_judge 60 = .ok (.iadd, 1) := dk_96 (dk_at dksX12_judge_2 14 rfl rfl)
theorem dX12_judge_61 : decode cX12_judge 61 = .ok (.ireturn, 1) := dk_172 (dk_at dksX12_judge_2 15 rfl rfl)
theorem dX12_judge_62 : decode cX12_judge 62 = .ok (.aload_n 0, 1) := dk_42 (dk_at dksX12_judge_2 16 rfl rfl)
theorem dX12_judge_63 : decode cX12_judge 63 = .ok (.getfield 59, 3) := dk_180 0 59 (dk_at dksX12_judge_2 17 rfl rfl)
theorem dX12_judge_66 : decode cX12_judge 66 = .ok (.bipush 55, 2) := dk_16 55 (dk_at dksX12_judge_2 20 rfl rfl)
theorem dX12_judge_68 : decode cX12_judge 68 = .ok (.iload_n 1, 1) := dk_27 (dk_at dksX12_judge_2 22 rfl rfl)
theorem dX12_judge_69 : decode cX12_judge 69 = .ok (.iadd, 1) := dk_96 (dk_at dksX12_judge_2 23 rfl rfl)
theorem dX12_judge_70 : decode cX12_judge 70 = .ok (.iaload, 1) := dk_46 (dk_at dksX12_judge_3 0 rfl rfl)
theorem dX12_judge_71 : decode cX12_judge 71 = .ok (.istore_n 2, 1) := dk_61 (dk_at dksX12_judge_3 1 rfl rfl)
theorem dX12_judge_72 : decode cX12_judge 72 = .ok (.aload_n 0, 1) := dk_42 (dk_at dksX12_judge_3 2 rfl rfl)
theorem dX12_judge_73 : decode cX12_judge 73 = .ok (.aload_n 0, 1) := dk_42 (dk_at dksX12_judge_3 3 rfl rfl)
theorem dX12_judge_74 : decode cX12_judge 74 = .ok (.getfield 65, 3) := dk_180 0 65 (dk_at dksX12_judge_3 4 rfl rfl)
theorem dX12_judge_77 : decode cX12_judge 77 = .ok (.aload_n 0, 1) := dk_42 (dk_at dksX12_judge_3 7 rfl rfl)
theorem dX12_judge_78 : decode cX12_judge 78 = .ok (.getfield 437, 3) := dk_180 1 181 (dk_at dksX12_judge_3 8 rfl rfl)
theorem dX12_judge_81 : decode cX12_judge 81 = .ok (.iaload, 1) := dk_46 (dk_at dksX12_judge_3 11 rfl rfl)
theorem dX12_judge_82 : decode cX12_judge 82 = .ok (.aload_n 0, 1) := dk_42 (dk_at dksX12_judge_3 12 rfl rfl)
theorem dX12_judge_83 : decode cX12_judge 83 = .ok (.getfield 437, 3) := dk_180 1 181 (dk_at dksX12_judge_3 13 rfl rfl)
theorem dX12_judge_86 : decode cX12_judge 86 = .ok (.aload_n 0, 1) := dk_42 (dk_at dksX12_judge_3 16 rfl rfl)
theorem dX12_judge_87 : decode cX12_judge 87 = .ok (.getfield 434, 3) := dk_180 1 178 (dk_at dksX12_judge_3 17 rfl rfl)
theorem dX12_judge_90 : decode cX12_judge 90 = .ok (.aload_n 0, 1) := dk_42 (dk_at dksX12_judge_3 20 rfl rfl)
theorem dX12_judge_91 : decode cX12_judge 91 = .ok (.getfield 440, 3) := dk_180 1 184 (dk_at dksX12_judge_3 21 rfl rfl)
theorem dX12_judge_94 : decode cX12_judge 94 = .ok (.invokestatic 354, 3) := dk_184 1 98 (dk_at dksX12_judge_4 0 rfl rfl)
theorem dX12_judge_97 : decode cX12_judge 97 = .ok (.invokevirtual 377, 3) := dk_182 1 121 (dk_at dksX12_judge_4 3 rfl rfl)
theorem dX12_judge_100 : decode cX12_judge 100 = .ok (.iload_n 2, 1) := dk_28 (dk_at dksX12_judge_4 6 rfl rfl)
theorem dX12_judge_101 : decode cX12_judge 101 = .ok (.ishr, 1) := dk_122 (dk_at dksX12_judge_4 7 rfl rfl)
theorem dX12_judge_102 : decode cX12_judge 102 = .ok (.iconst 1, 1) := dk_4 (dk_at dksX12_judge_4 8 rfl rfl)
theorem dX12_judge_103 : decode cX12_judge 103 = .ok (.iand, 1) := dk_126 (dk_at dksX12_judge_4 9 rfl rfl)
theorem dX12_judge_104 : decode cX12_judge 104 = .ok (.ifCond .ne 10, 3) := dk_154 0 10 (dk_at dksX12_judge_4 10 rfl rfl)
theorem dX12_judge_107 : decode cX12_judge 107 = .ok (.bipush 10, 2) := dk_16 10 (dk_at dksX12_judge_4 13 rfl rfl)
theorem dX12_judge_109 : decode cX12_judge 109 = .ok (.iload_n 1, 1) := dk_27 (dk_at dksX12_judge_4 15 rfl rfl)
theorem dX12_judge_110 : decode cX12_judge 110 = .ok (.imul, 1) := dk_104 (dk_at dksX12_judge_4 16 rfl rfl)
theorem dX12_judge_111 : decode cX12_judge 111 = .ok (.iconst 1, 1) := dk_4 (dk_at dksX12_judge_4 17 rfl rfl)
theorem dX12_judge_112 : decode cX12_judge 112 = .ok (.iadd, 1) := dk_96 (dk_at dksX12_judge_4 18 rfl rfl)
theorem dX12_judge_113 : decode cX12_judge 113 = .ok (.ireturn, 1) := dk_172 (dk_at dksX12_judge_4 19 rfl rfl)
theorem dX12_judge_114 : decode cX12_judge 114 = .ok (.aload_n 0, 1) := dk_42 (dk_at dksX12_judge_4 20 rfl rfl)
theorem dX12_judge_115 : decode cX12_judge 115 = .ok (.iload_n 2, 1) := dk_28 (dk_at dksX12_judge_4 21 rfl rfl)
theorem dX12_judge_116 : decode cX12_judge 116 = .ok (.invokevirtual 446, 3) := dk_182 1 190 (dk_at dksX12_judge_5 0 rfl rfl)
theorem dX12_judge_119 : decode cX12_judge 119 = .ok (.iinc 1 1, 3) := dk_132 1 1 (dk_at dksX12_judge_5 3 rfl rfl)
theorem dX12_judge_122 : decode cX12_judge 122 = .ok (.goto (-97), 3) := dk_167 255 159 (dk_at dksX12_judge_5 6 rfl rfl)
theorem dX12_judge_125 : decode cX12_judge 125 = .ok (.iconst (-1), 1) := dk_2 (dk_at dksX12_judge_5 9 rfl rfl)
theorem dX12_judge_126 : decode cX12_judge 126 = .ok (.ireturn, 1) := dk_172 (dk_at dksX12_judge_5 10 rfl rfl)
abbrev cX12_begin : ByteArray := prog_27_method_94_code
def yX12_begin : MethodName := ⟨RX12, "begin", "()V"⟩
def dkwX12_begin_1 : List UInt8 := [177]
abbrev dktX12_begin_1 : List UInt8 := dkwX12_begin_1 ++ []
def dkwX12_begin_0 : List UInt8 := [42, 42, 180, 0, 23, 16, 6, 46, 181, 1, 178, 42, 3, 181, 1, 181, 42, 42, 180, 1, 92, 181, 1, 184]
abbrev dktX12_begin_0 : List UInt8 := dkwX12_begin_0 ++ dktX12_begin_1
theorem dksX12_begin_0 : cX12_begin.data.toList.drop 0 = dktX12_begin_0 := by decide +kernel
theorem dksX12_begin_1 : cX12_begin.data.toList.drop 24 = dktX12_begin_1 := dk_seg dksX12_begin_0 24 rfl rfl
theorem dX12_begin_0 : decode cX12_begin 0 = .ok (.aload_n 0, 1) := dk_42 (dk_at dksX12_begin_0 0 rfl rfl)
theorem dX12_begin_1 : decode cX12_begin 1 = .ok (.aload_n 0, 1) := dk_42 (dk_at dksX12_begin_0 1 rfl rfl)
theorem dX12_begin_2 : decode cX12_begin 2 = .ok (.getfield 23, 3) := dk_180 0 23 (dk_at dksX12_begin_0 2 rfl rfl)
theorem dX12_begin_5 : decode cX12_begin 5 = .ok (.bipush 6, 2) := dk_16 6 (dk_at dksX12_begin_0 5 rfl rfl)
theorem dX12_begin_7 : decode cX12_begin 7 = .ok (.iaload, 1) := dk_46 (dk_at dksX12_begin_0 7 rfl rfl)
theorem dX12_begin_8 : decode cX12_begin 8 = .ok (.putfield 434, 3) := dk_181 1 178 (dk_at dksX12_begin_0 8 rfl rfl)
theorem dX12_begin_11 : decode cX12_begin 11 = .ok (.aload_n 0, 1) := dk_42 (dk_at dksX12_begin_0 11 rfl rfl)
theorem dX12_begin_12 : decode cX12_begin 12 = .ok (.iconst 0, 1) := dk_3 (dk_at dksX12_begin_0 12 rfl rfl)
theorem dX12_begin_13 : decode cX12_begin 13 = .ok (.putfield 437, 3) := dk_181 1 181 (dk_at dksX12_begin_0 13 rfl rfl)
theorem dX12_begin_16 : decode cX12_begin 16 = .ok (.aload_n 0, 1) := dk_42 (dk_at dksX12_begin_0 16 rfl rfl)
theorem dX12_begin_17 : decode cX12_begin 17 = .ok (.aload_n 0, 1) := dk_42 (dk_at dksX12_begin_0 17 rfl rfl)
theorem dX12_begin_18 : decode cX12_begin 18 = .ok (.getfield 348, 3) := dk_180 1 92 (dk_at dksX12_begin_0 18 rfl rfl)
theorem dX12_begin_21 : decode cX12_begin 21 = .ok (.putfield 440, 3) := dk_181 1 184 (dk_at dksX12_begin_0 21 rfl rfl)
theorem dX12_begin_24 : decode cX12_begin 24 = .ok (.return_, 1) := dk_177 (dk_at dksX12_begin_1 0 rfl rfl)
abbrev cX12_goes : ByteArray := prog_27_method_95_code
def yX12_goes : MethodName := ⟨RX12, "goes", "(I)V"⟩
def dkwX12_goes_2 : List UInt8 := [100, 181, 1, 184, 42, 89, 180, 1, 181, 4, 96, 181, 1, 181, 177]
abbrev dktX12_goes_2 : List UInt8 := dkwX12_goes_2 ++ []
def dkwX12_goes_1 : List UInt8 := [16, 7, 42, 180, 1, 178, 96, 46, 4, 160, 0, 10, 42, 180, 1, 92, 167, 0, 9, 42, 180, 1, 184, 4]
abbrev dktX12_goes_1 : List UInt8 := dkwX12_goes_1 ++ dktX12_goes_2
def dkwX12_goes_0 : List UInt8 := [27, 158, 0, 18, 42, 42, 27, 4, 100, 42, 180, 1, 178, 182, 1, 89, 181, 1, 178, 42, 42, 180, 0, 23]
abbrev dktX12_goes_0 : List UInt8 := dkwX12_goes_0 ++ dktX12_goes_1
theorem dksX12_goes_0 : cX12_goes.data.toList.drop 0 = dktX12_goes_0 := by decide +kernel
theorem dksX12_goes_1 : cX12_goes.data.toList.drop 24 = dktX12_goes_1 := dk_seg dksX12_goes_0 24 rfl rfl
theorem dksX12_goes_2 : cX12_goes.data.toList.drop 48 = dktX12_goes_2 := dk_seg dksX12_goes_1 24 rfl rfl
theorem dX12_goes_0 : decode cX12_goes 0 = .ok (.iload_n 1, 1) := dk_27 (dk_at dksX12_goes_0 0 rfl rfl)
theorem dX12_goes_1 : decode cX12_goes 1 = .ok (.ifCond .le 18, 3) := dk_158 0 18 (dk_at dksX12_goes_0 1 rfl rfl)
theorem dX12_goes_4 : decode cX12_goes 4 = .ok (.aload_n 0, 1) := dk_42 (dk_at dksX12_goes_0 4 rfl rfl)
theorem dX12_goes_5 : decode cX12_goes 5 = .ok (.aload_n 0, 1) := dk_42 (dk_at dksX12_goes_0 5 rfl rfl)
theorem dX12_goes_6 : decode cX12_goes 6 = .ok (.iload_n 1, 1) := dk_27 (dk_at dksX12_goes_0 6 rfl rfl)
theorem dX12_goes_7 : decode cX12_goes 7 = .ok (.iconst 1, 1) := dk_4 (dk_at dksX12_goes_0 7 rfl rfl)
theorem dX12_goes_8 : decode cX12_goes 8 = .ok (.isub, 1) := dk_100 (dk_at dksX12_goes_0 8 rfl rfl)
theorem dX12_goes_9 : decode cX12_goes 9 = .ok (.aload_n 0, 1) := dk_42 (dk_at dksX12_goes_0 9 rfl rfl)
theorem dX12_goes_10 : decode cX12_goes 10 = .ok (.getfield 434, 3) := dk_180 1 178 (dk_at dksX12_goes_0 10 rfl rfl)
theorem dX12_goes_13 : decode cX12_goes 13 = .ok (.invokevirtual 345, 3) := dk_182 1 89 (dk_at dksX12_goes_0 13 rfl rfl)
theorem dX12_goes_16 : decode cX12_goes 16 = .ok (.putfield 434, 3) := dk_181 1 178 (dk_at dksX12_goes_0 16 rfl rfl)
theorem dX12_goes_19 : decode cX12_goes 19 = .ok (.aload_n 0, 1) := dk_42 (dk_at dksX12_goes_0 19 rfl rfl)
theorem dX12_goes_20 : decode cX12_goes 20 = .ok (.aload_n 0, 1) := dk_42 (dk_at dksX12_goes_0 20 rfl rfl)
theorem dX12_goes_21 : decode cX12_goes 21 = .ok (.getfield 23, 3) := dk_180 0 23 (dk_at dksX12_goes_0 21 rfl rfl)
theorem dX12_goes_24 : decode cX12_goes 24 = .ok (.bipush 7, 2) := dk_16 7 (dk_at dksX12_goes_1 0 rfl rfl)
theorem dX12_goes_26 : decode cX12_goes 26 = .ok (.aload_n 0, 1) := dk_42 (dk_at dksX12_goes_1 2 rfl rfl)
theorem dX12_goes_27 : decode cX12_goes 27 = .ok (.getfield 434, 3) := dk_180 1 178 (dk_at dksX12_goes_1 3 rfl rfl)
theorem dX12_goes_30 : decode cX12_goes 30 = .ok (.iadd, 1) := dk_96 (dk_at dksX12_goes_1 6 rfl rfl)
theorem dX12_goes_31 : decode cX12_goes 31 = .ok (.iaload, 1) := dk_46 (dk_at dksX12_goes_1 7 rfl rfl)
theorem dX12_goes_32 : decode cX12_goes 32 = .ok (.iconst 1, 1) := dk_4 (dk_at dksX12_goes_1 8 rfl rfl)
theorem dX12_goes_33 : decode cX12_goes 33 = .ok (.if_icmp .ne 10, 3) := dk_160 0 10 (dk_at dksX12_goes_1 9 rfl rfl)
theorem dX12_goes_36 : decode cX12_goes 36 = .ok (.aload_n 0, 1) := dk_42 (dk_at dksX12_goes_1 12 rfl rfl)
theorem dX12_goes_37 : decode cX12_goes 37 = .ok (.getfield 348, 3) := dk_180 1 92 (dk_at dksX12_goes_1 13 rfl rfl)
theorem dX12_goes_40 : decode cX12_goes 40 = .ok (.goto 9, 3) := dk_167 0 9 (dk_at dksX12_goes_1 16 rfl rfl)
theorem dX12_goes_43 : decode cX12_goes 43 = .ok (.aload_n 0, 1) := dk_42 (dk_at dksX12_goes_1 19 rfl rfl)
theorem dX12_goes_44 : decode cX12_goes 44 = .ok (.getfield 440, 3) := dk_180 1 184 (dk_at dksX12_goes_1 20 rfl rfl)
theorem dX12_goes_47 : decode cX12_goes 47 = .ok (.iconst 1, 1) := dk_4 (dk_at dksX12_goes_1 23 rfl rfl)
theorem dX12_goes_48 : decode cX12_goes 48 = .ok (.isub, 1) := dk_100 (dk_at dksX12_goes_2 0 rfl rfl)
theorem dX12_goes_49 : decode cX12_goes 49 = .ok (.putfield 440, 3) := dk_181 1 184 (dk_at dksX12_goes_2 1 rfl rfl)
theorem dX12_goes_52 : decode cX12_goes 52 = .ok (.aload_n 0, 1) := dk_42 (dk_at dksX12_goes_2 4 rfl rfl)
theorem dX12_goes_53 : decode cX12_goes 53 = .ok (.dup, 1) := dk_89 (dk_at dksX12_goes_2 5 rfl rfl)
theorem dX12_goes_54 : decode cX12_goes 54 = .ok (.getfield 437, 3) := dk_180 1 181 (dk_at dksX12_goes_2 6 rfl rfl)
theorem dX12_goes_57 : decode cX12_goes 57 = .ok (.iconst 1, 1) := dk_4 (dk_at dksX12_goes_2 9 rfl rfl)
theorem dX12_goes_58 : decode cX12_goes 58 = .ok (.iadd, 1) := dk_96 (dk_at dksX12_goes_2 10 rfl rfl)
theorem dX12_goes_59 : decode cX12_goes 59 = .ok (.putfield 437, 3) := dk_181 1 181 (dk_at dksX12_goes_2 11 rfl rfl)
theorem dX12_goes_62 : decode cX12_goes 62 = .ok (.return_, 1) := dk_177 (dk_at dksX12_goes_2 14 rfl rfl)
abbrev cX12_proof : ByteArray := prog_27_method_97_code
def yX12_proof : MethodName := ⟨RX12, "proof", "(I)I"⟩
def dkwX12_proof_9 : List UInt8 := [180, 1, 181, 172, 42, 21, 4, 182, 1, 190, 167, 255, 75, 2, 172]
abbrev dktX12_proof_9 : List UInt8 := dkwX12_proof_9 ++ []
def dkwX12_proof_8 : List UInt8 := [180, 1, 181, 42, 180, 1, 178, 42, 180, 1, 184, 21, 7, 182, 1, 113, 22, 5, 148, 158, 0, 8, 42]
abbrev dktX12_proof_8 : List UInt8 := dkwX12_proof_8 ++ dktX12_proof_9
def dkwX12_proof_7 : List UInt8 := [180, 1, 184, 3, 182, 1, 124, 54, 7, 21, 7, 21, 4, 159, 0, 37, 42, 42, 180, 0, 93, 28, 42]
abbrev dktX12_proof_7 : List UInt8 := dkwX12_proof_7 ++ dktX12_proof_8
def dkwX12_proof_6 : List UInt8 := [21, 4, 182, 1, 113, 55, 5, 42, 42, 180, 0, 93, 28, 29, 42, 180, 1, 181, 42, 180, 1, 178, 42]
abbrev dktX12_proof_6 : List UInt8 := dkwX12_proof_6 ++ dktX12_proof_7
def dkwX12_proof_5 : List UInt8 := [154, 0, 6, 3, 54, 4, 42, 42, 180, 0, 93, 28, 42, 180, 1, 181, 42, 180, 1, 178, 42, 180, 1, 184]
abbrev dktX12_proof_5 : List UInt8 := dkwX12_proof_5 ++ dktX12_proof_6
def dkwX12_proof_4 : List UInt8 := [180, 0, 59, 16, 55, 42, 180, 1, 181, 96, 46, 167, 0, 4, 3, 54, 4, 29, 21, 4, 122, 4, 126]
abbrev dktX12_proof_4 : List UInt8 := dkwX12_proof_4 ++ dktX12_proof_5
def dkwX12_proof_3 : List UInt8 := [184, 1, 98, 182, 1, 121, 62, 42, 180, 1, 181, 42, 180, 0, 59, 16, 54, 46, 162, 0, 18, 42]
abbrev dktX12_proof_3 : List UInt8 := dkwX12_proof_3 ++ dktX12_proof_4
def dkwX12_proof_2 : List UInt8 := [180, 1, 184, 182, 1, 94, 154, 0, 168, 42, 27, 42, 180, 1, 181, 42, 180, 1, 178, 42, 180, 1, 184]
abbrev dktX12_proof_2 : List UInt8 := dkwX12_proof_2 ++ dktX12_proof_3
def dkwX12_proof_1 : List UInt8 := [42, 182, 1, 155, 42, 182, 1, 187, 27, 17, 15, 60, 104, 61, 42, 42, 180, 1, 181, 42, 180, 1, 178, 42]
abbrev dktX12_proof_1 : List UInt8 := dkwX12_proof_1 ++ dktX12_proof_2
def dkwX12_proof_0 : List UInt8 := [42, 3, 181, 0, 1, 42, 5, 182, 1, 75, 153, 0, 12, 42, 27, 4, 182, 1, 62, 154, 0, 5, 3, 172]
abbrev dktX12_proof_0 : List UInt8 := dkwX12_proof_0 ++ dktX12_proof_1
theorem dksX12_proof_0 : cX12_proof.data.toList.drop 0 = dktX12_proof_0 := by decide +kernel
theorem dksX12_proof_1 : cX12_proof.data.toList.drop 24 = dktX12_proof_1 := dk_seg dksX12_proof_0 24 rfl rfl
theorem dksX12_proof_2 : cX12_proof.data.toList.drop 48 = dktX12_proof_2 := dk_seg dksX12_proof_1 24 rfl rfl
theorem dksX12_proof_3 : cX12_proof.data.toList.drop 71 = dktX12_proof_3 := dk_seg dksX12_proof_2 23 rfl rfl
theorem dksX12_proof_4 : cX12_proof.data.toList.drop 93 = dktX12_proof_4 := dk_seg dksX12_proof_3 22 rfl rfl
theorem dksX12_proof_5 : cX12_proof.data.toList.drop 116 = dktX12_proof_5 := dk_seg dksX12_proof_4 23 rfl rfl
theorem dksX12_proof_6 : cX12_proof.data.toList.drop 140 = dktX12_proof_6 := dk_seg dksX12_proof_5 24 rfl rfl
theorem dksX12_proof_7 : cX12_proof.data.toList.drop 163 = dktX12_proof_7 := dk_seg dksX12_proof_6 23 rfl rfl
theorem dksX12_proof_8 : cX12_proof.data.toList.drop 186 = dktX12_proof_8 := dk_seg dksX12_proof_7 23 rfl rfl
theorem dksX12_proof_9 : cX12_proof.data.toList.drop 209 = dktX12_proof_9 := dk_seg dksX12_proof_8 23 rfl rfl
theorem dX12_proof_0 : decode cX12_proof 0 = .ok (.aload_n 0, 1) := dk_42 (dk_at dksX12_proof_0 0 rfl rfl)
theorem dX12_proof_1 : decode cX12_proof 1 = .ok (.iconst 0, 1) := dk_3 (dk_at dksX12_proof_0 1 rfl rfl)
theorem dX12_proof_2 : decode cX12_proof 2 = .ok (.putfield 1, 3) := dk_181 0 1 (dk_at dksX12_proof_0 2 rfl rfl)
theorem dX12_proof_5 : decode cX12_proof 5 = .ok (.aload_n 0, 1) := dk_42 (dk_at dksX12_proof_0 5 rfl rfl)
theorem dX12_proof_6 : decode cX12_proof 6 = .ok (.iconst 2, 1) := dk_5 (dk_at dksX12_proof_0 6 rfl rfl)
theorem dX12_proof_7 : decode cX12_proof 7 = .ok (.invokevirtual 331, 3) := dk_182 1 75 (dk_at dksX12_proof_0 7 rfl rfl)
theorem dX12_proof_10 : decode cX12_proof 10 = .ok (.ifCond .eq 12, 3) := dk_153 0 12 (dk_at dksX12_proof_0 10 rfl rfl)
theorem dX12_proof_13 : decode cX12_proof 13 = .ok (.aload_n 0, 1) := dk_42 (dk_at dksX12_proof_0 13 rfl rfl)
theorem dX12_proof_14 : decode cX12_proof 14 = .ok (.iload_n 1, 1) := dk_27 (dk_at dksX12_proof_0 14 rfl rfl)
theorem dX12_proof_15 : decode cX12_proof 15 = .ok (.iconst 1, 1) := dk_4 (dk_at dksX12_proof_0 15 rfl rfl)
theorem dX12_proof_16 : decode cX12_proof 16 = .ok (.invokevirtual 318, 3) := dk_182 1 62 (dk_at dksX12_proof_0 16 rfl rfl)
theorem dX12_proof_19 : decode cX12_proof 19 = .ok (.ifCond .ne 5, 3) := dk_154 0 5 (dk_at dksX12_proof_0 19 rfl rfl)
theorem dX12_proof_22 : decode cX12_proof 22 = .ok (.iconst 0, 1) := dk_3 (dk_at dksX12_proof_0 22 rfl rfl)
theorem dX12_proof_23 : decode cX12_proof 23 = .ok (.ireturn, 1) := dk_172 (dk_at dksX12_proof_0 23 rfl rfl)
theorem dX12_proof_24 : decode cX12_proof 24 = .ok (.aload_n 0, 1) := dk_42 (dk_at dksX12_proof_1 0 rfl rfl)
theorem dX12_proof_25 : decode cX12_proof 25 = .ok (.invokevirtual 411, 3) := dk_182 1 155 (dk_at dksX12_proof_1 1 rfl rfl)
theorem dX12_proof_28 : decode cX12_proof 28 = .ok (.aload_n 0, 1) := dk_42 (dk_at dksX12_proof_1 4 rfl rfl)
theorem dX12_proof_29 : decode cX12_proof 29 = .ok (.invokevirtual 443, 3) := dk_182 1 187 (dk_at dksX12_proof_1 5 rfl rfl)
theorem dX12_proof_32 : decode cX12_proof 32 = .ok (.iload_n 1, 1) := dk_27 (dk_at dksX12_proof_1 8 rfl rfl)
theorem dX12_proof_33 : decode cX12_proof 33 = .ok (.sipush 3900, 3) := dk_17 15 60 (dk_at dksX12_proof_1 9 rfl rfl)
theorem dX12_proof_36 : decode cX12_proof 36 = .ok (.imul, 1) := dk_104 (dk_at dksX12_proof_1 12 rfl rfl)
theorem dX12_proof_37 : decode cX12_proof 37 = .ok (.istore_n 2, 1) := dk_61 (dk_at dksX12_proof_1 13 rfl rfl)
theorem dX12_proof_38 : decode cX12_proof 38 = .ok (.aload_n 0, 1) := dk_42 (dk_at dksX12_proof_1 14 rfl rfl)
theorem dX12_proof_39 : decode cX12_proof 39 = .ok (.aload_n 0, 1) := dk_42 (dk_at dksX12_proof_1 15 rfl rfl)
theorem dX12_proof_40 : decode cX12_proof 40 = .ok (.getfield 437, 3) := dk_180 1 181 (dk_at dksX12_proof_1 16 rfl rfl)
theorem dX12_proof_43 : decode cX12_proof 43 = .ok (.aload_n 0, 1) := dk_42 (dk_at dksX12_proof_1 19 rfl rfl)
theorem dX12_proof_44 : decode cX12_proof 44 = .ok (.getfield 434, 3) := dk_180 1 178 (dk_at dksX12_proof_1 20 rfl rfl)
theorem dX12_proof_47 : decode cX12_proof 47 = .ok (.aload_n 0, 1) := dk_42 (dk_at dksX12_proof_1 23 rfl rfl)
theorem dX12_proof_48 : decode cX12_proof 48 = .ok (.getfield 440, 3) := dk_180 1 184 (dk_at dksX12_proof_2 0 rfl rfl)
theorem dX12_proof_51 : decode cX12_proof 51 = .ok (.invokevirtual 350, 3) := dk_182 1 94 (dk_at dksX12_proof_2 3 rfl rfl)
theorem dX12_proof_54 : decode cX12_proof 54 = .ok (.ifCond .ne 168, 3) := dk_154 0 168 (dk_at dksX12_proof_2 6 rfl rfl)
theorem dX12_proof_57 : decode cX12_proof 57 = .ok (.aload_n 0, 1) := dk_42 (dk_at dksX12_proof_2 9 rfl rfl)
theorem dX12_proof_58 : decode cX12_proof 58 = .ok (.iload_n 1, 1) := dk_27 (dk_at dksX12_proof_2 10 rfl rfl)
theorem dX12_proof_59 : decode cX12_proof 59 = .ok (.aload_n 0, 1) := dk_42 (dk_at dksX12_proof_2 11 rfl rfl)
theorem dX12_proof_60 : decode cX12_proof 60 = .ok (.getfield 437, 3) := dk_180 1 181 (dk_at dksX12_proof_2 12 rfl rfl)
theorem dX12_proof_63 : decode cX12_proof 63 = .ok (.aload_n 0, 1) := dk_42 (dk_at dksX12_proof_2 15 rfl rfl)
theorem dX12_proof_64 : decode cX12_proof 64 = .ok (.getfield 434, 3) := dk_180 1 178 (dk_at dksX12_proof_2 16 rfl rfl)
theorem dX12_proof_67 : decode cX12_proof 67 = .ok (.aload_n 0, 1) := dk_42 (dk_at dksX12_proof_2 19 rfl rfl)
theorem dX12_proof_68 : decode cX12_proof 68 = .ok (.getfield 440, 3) := dk_180 1 184 (dk_at dksX12_proof_2 20 rfl rfl)
theorem dX12_proof_71 : decode cX12_proof 71 = .ok (.invokestatic 354, 3) := dk_184 1 98 (dk_at dksX12_proof_3 0 rfl rfl)
theorem dX12_proof_74 : decode cX12_proof 74 = .ok (.invokevirtual 377, 3) := dk_182 1 121 (dk_at dksX12_proof_3 3 rfl rfl)
theorem dX12_proof_77 : decode cX12_proof 77 = .ok (.istore_n 3, 1) := dk_62 (dk_at dksX12_proof_3 6 rfl rfl)
theorem dX12_proof_78 : decode cX12_proof 78 = .ok (.aload_n 0, 1) := dk_42 (dk_at dksX12_proof_3 7 rfl rfl)
theorem dX12_proof_79 : decode cX12_proof 79 = .ok (.getfield 437, 3) := dk_180 1 181 (dk_at dksX12_proof_3 8 rfl rfl)
theorem dX12_proof_82 : decode cX12_proof 82 = .ok (.aload_n 0, 1) := dk_42 (dk_at dksX12_proof_3 11 rfl rfl)
theorem dX12_proof_83 : decode cX12_proof 83 = .ok (.getfield 59, 3) := dk_180 0 59 (dk_at dksX12_proof_3 12 rfl rfl)
theorem dX12_proof_86 : decode cX12_proof 86 = .ok (.bipush 54, 2) := dk_16 54 (dk_at dksX12_proof_3 15 rfl rfl)
theorem dX12_proof_88 : decode cX12_proof 88 = .ok (.iaload, 1) := dk_46 (dk_at dksX12_proof_3 17 rfl rfl)
theorem dX12_proof_89 : decode cX12_proof 89 = .ok (.if_icmp .ge 18, 3) := dk_162 0 18 (dk_at dksX12_proof_3 18 rfl rfl)
theorem dX12_proof_92 : decode cX12_proof 92 = .ok (.aload_n 0, 1) := dk_42 (dk_at dksX12_proof_3 21 rfl rfl)
theorem dX12_proof_93 : decode cX12_proof 93 = .ok (.getfield 59, 3) := dk_180 0 59 (dk_at dksX12_proof_4 0 rfl rfl)
theorem dX12_proof_96 : decode cX12_proof 96 = .ok (.bipush 55, 2) := dk_16 55 (dk_at dksX12_proof_4 3 rfl rfl)
theorem dX12_proof_98 : decode cX12_proof 98 = .ok (.aload_n 0, 1) := dk_42 (dk_at dksX12_proof_4 5 rfl rfl)
theorem dX12_proof_99 : decode cX12_proof 99 = .ok (.getfield 437, 3) := dk_180 1 181 (dk_at dksX12_proof_4 6 rfl rfl)
theorem dX12_proof_102 : decode cX12_proof 102 = .ok (.iadd, 1) := dk_96 (dk_at dksX12_proof_4 9 rfl rfl)
theorem dX12_proof_103 : decode cX12_proof 103 = .ok (.iaload, 1) := dk_46 (dk_at dksX12_proof_4 10 rfl rfl)
theorem dX12_proof_104 : decode cX12_proof 104 = .ok (.goto 4, 3) := dk_167 0 4 (dk_at dksX12_proof_4 11 rfl rfl)
theorem dX12_proof_107 : decode cX12_proof 107 = .ok (.iconst 0, 1) := dk_3 (dk_at dksX12_proof_4 14 rfl rfl)
theorem dX12_proof_108 : decode cX12_proof 108 = .ok (.istore 4, 2) := dk_54 4 (dk_at dksX12_proof_4 15 rfl rfl)
theorem dX12_proof_110 : decode cX12_proof 110 = .ok (.iload_n 3, 1) := dk_29 (dk_at dksX12_proof_4 17 rfl rfl)
theorem dX12_proof_111 : decode cX12_proof 111 = .ok (.iload 4, 2) := dk_21 4 (dk_at dksX12_proof_4 18 rfl rfl)
theorem dX12_proof_113 : decode cX12_proof 113 = .ok (.ishr, 1) := dk_122 (dk_at dksX12_proof_4 20 rfl rfl)
theorem dX12_proof_114 : decode cX12_proof 114 = .ok (.iconst 1, 1) := dk_4 (dk_at dksX12_proof_4 21 rfl rfl)
theorem dX12_proof_115 : decode cX12_proof 115 = .ok (.iand, 1) := dk_126 (dk_at dksX12_proof_4 22 rfl rfl)
theorem dX12_proof_116 : decode cX12_proof 116 = .ok (.ifCond .ne 6, 3) := dk_154 0 6 (dk_at dksX12_proof_5 0 rfl rfl)
theorem dX12_proof_119 : decode cX12_proof 119 = .ok (.iconst 0, 1) := dk_3 (dk_at dksX12_proof_5 3 rfl rfl)
theorem dX12_proof_120 : decode cX12_proof 120 = .ok (.istore 4, 2) := dk_54 4 (dk_at dksX12_proof_5 4 rfl rfl)
theorem dX12_proof_122 : decode cX12_proof 122 = .ok (.aload_n 0, 1) := dk_42 (dk_at dksX12_proof_5 6 rfl rfl)
theorem dX12_proof_123 : decode cX12_proof 123 = .ok (.aload_n 0, 1) := dk_42 (dk_at dksX12_proof_5 7 rfl rfl)
theorem dX12_proof_124 : decode cX12_proof 124 = .ok (.getfield 93, 3) := dk_180 0 93 (dk_at dksX12_proof_5 8 rfl rfl)
theorem dX12_proof_127 : decode cX12_proof 127 = .ok (.iload_n 2, 1) := dk_28 (dk_at dksX12_proof_5 11 rfl rfl)
theorem dX12_proof_128 : decode cX12_proof 128 = .ok (.aload_n 0, 1) := dk_42 (dk_at dksX12_proof_5 12 rfl rfl)
theorem dX12_proof_129 : decode cX12_proof 129 = .ok (.getfield 437, 3) := dk_180 1 181 (dk_at dksX12_proof_5 13 rfl rfl)
theorem dX12_proof_132 : decode cX12_proof 132 = .ok (.aload_n 0, 1) := dk_42 (dk_at dksX12_proof_5 16 rfl rfl)
theorem dX12_proof_133 : decode cX12_proof 133 = .ok (.getfield 434, 3) := dk_180 1 178 (dk_at dksX12_proof_5 17 rfl rfl)
theorem dX12_proof_136 : decode cX12_proof 136 = .ok (.aload_n 0, 1) := dk_42 (dk_at dksX12_proof_5 20 rfl rfl)
theorem dX12_proof_137 : decode cX12_proof 137 = .ok (.getfield 440, 3) := dk_180 1 184 (dk_at dksX12_proof_5 21 rfl rfl)
theorem dX12_proof_140 : decode cX12_proof 140 = .ok (.iload 4, 2) := dk_21 4 (dk_at dksX12_proof_6 0 rfl rfl)
theorem dX12_proof_142 : decode cX12_proof 142 = .ok (.invokevirtual 369, 3) := dk_182 1 113 (dk_at dksX12_proof_6 2 rfl rfl)
theorem dX12_proof_145 : decode cX12_proof 145 = .ok (.lstore 5, 2) := dk_55 5 (dk_at dksX12_proof_6 5 rfl rfl)
theorem dX12_proof_147 : decode cX12_proof 147 = .ok (.aload_n 0, 1) := dk_42 (dk_at dksX12_proof_6 7 rfl rfl)
theorem dX12_proof_148 : decode cX12_proof 148 = .ok (.aload_n 0, 1) := dk_42 (dk_at dksX12_proof_6 8 rfl rfl)
theorem dX12_proof_149 : decode cX12_proof 149 = .ok (.getfield 93, 3) := dk_180 0 93 (dk_at dksX12_proof_6 9 rfl rfl)
theorem dX12_proof_152 : decode cX12_proof 152 = .ok (.iload_n 2, 1) := dk_28 (dk_at dksX12_proof_6 12 rfl rfl)
theorem dX12_proof_153 : decode cX12_proof 153 = .ok (.iload_n 3, 1) := dk_29 (dk_at dksX12_proof_6 13 rfl rfl)
theorem dX12_proof_154 : decode cX12_proof 154 = .ok (.aload_n 0, 1) := dk_42 (dk_at dksX12_proof_6 14 rfl rfl)
theorem dX12_proof_155 : decode cX12_proof 155 = .ok (.getfield 437, 3) := dk_180 1 181 (dk_at dksX12_proof_6 15 rfl rfl)
theorem dX12_proof_158 : decode cX12_proof 158 = .ok (.aload_n 0, 1) := dk_42 (dk_at dksX12_proof_6 18 rfl rfl)
theorem dX12_proof_159 : decode cX12_proof 159 = .ok (.getfield 434, 3) := dk_180 1 178 (dk_at dksX12_proof_6 19 rfl rfl)
theorem dX12_proof_162 : decode cX12_proof 162 = .ok (.aload_n 0, 1) := dk_42 (dk_at dksX12_proof_6 22 rfl rfl)
theorem dX12_proof_163 : decode cX12_proof 163 = .ok (.getfield 440, 3) := dk_180 1 184 (dk_at dksX12_proof_7 0 rfl rfl)
theorem dX12_proof_166 : decode cX12_proof 166 = .ok (.iconst 0, 1) := dk_3 (dk_at dksX12_proof_7 3 rfl rfl)
theorem dX12_proof_167 : decode cX12_proof 167 = .ok (.invokevirtual 380, 3) := dk_182 1 124 (dk_at dksX12_proof_7 4 rfl rfl)
theorem dX12_proof_170 : decode cX12_proof 170 = .ok (.istore 7, 2) := dk_54 7 (dk_at dksX12_proof_7 7 rfl rfl)
theorem dX12_proof_172 : decode cX12_proof 172 = .ok (.iload 7, 2) := dk_21 7 (dk_at dksX12_proof_7 9 rfl rfl)
theorem dX12_proof_174 : decode cX12_proof 174 = .ok (.iload 4, 2) := dk_21 4 (dk_at dksX12_proof_7 11 rfl rfl)
theorem dX12_proof_176 : decode cX12_proof 176 = .ok (.if_icmp .eq 37, 3) := dk_159 0 37 (dk_at dksX12_proof_7 13 rfl rfl)
theorem dX12_proof_179 : decode cX12_proof 179 = .ok (.aload_n 0, 1) := dk_42 (dk_at dksX12_proof_7 16 rfl rfl)
theorem dX12_proof_180 : decode cX12_proof 180 = .ok (.aload_n 0, 1) := dk_42 (dk_at dksX12_proof_7 17 rfl rfl)
theorem dX12_proof_181 : decode cX12_proof 181 = .ok (.getfield 93, 3) := dk_180 0 93 (dk_at dksX12_proof_7 18 rfl rfl)
theorem dX12_proof_184 : decode cX12_proof 184 = .ok (.iload_n 2, 1) := dk_28 (dk_at dksX12_proof_7 21 rfl rfl)
theorem dX12_proof_185 : decode cX12_proof 185 = .ok (.aload_n 0, 1) := dk_42 (dk_at dksX12_proof_7 22 rfl rfl)
theorem dX12_proof_186 : decode cX12_proof 186 = .ok (.getfield 437, 3) := dk_180 1 181 (dk_at dksX12_proof_8 0 rfl rfl)
theorem dX12_proof_189 : decode cX12_proof 189 = .ok (.aload_n 0, 1) := dk_42 (dk_at dksX12_proof_8 3 rfl rfl)
theorem dX12_proof_190 : decode cX12_proof 190 = .ok (.getfield 434, 3) := dk_180 1 178 (dk_at dksX12_proof_8 4 rfl rfl)
theorem dX12_proof_193 : decode cX12_proof 193 = .ok (.aload_n 0, 1) := dk_42 (dk_at dksX12_proof_8 7 rfl rfl)
theorem dX12_proof_194 : decode cX12_proof 194 = .ok (.getfield 440, 3) := dk_180 1 184 (dk_at dksX12_proof_8 8 rfl rfl)
theorem dX12_proof_197 : decode cX12_proof 197 = .ok (.iload 7, 2) := dk_21 7 (dk_at dksX12_proof_8 11 rfl rfl)
theorem dX12_proof_199 : decode cX12_proof 199 = .ok (.invokevirtual 369, 3) := dk_182 1 113 (dk_at dksX12_proof_8 13 rfl rfl)
theorem dX12_proof_202 : decode cX12_proof 202 = .ok (.lload 5, 2) := dk_22 5 (dk_at dksX12_proof_8 16 rfl rfl)
theorem dX12_proof_204 : decode cX12_proof 204 = .ok (.lcmp, 1) := dk_148 (dk_at dksX12_proof_8 18 rfl rfl)
theorem dX12_proof_205 : decode cX12_proof 205 = .ok (.ifCond .le 8, 3) := dk_158 0 8 (dk_at dksX12_proof_8 19 rfl rfl)
theorem dX12_proof_208 : decode cX12_proof 208 = .ok (.aload_n 0, 1) := dk_42 (dk_at dksX12_proof_8 22 rfl rfl)
theorem dX12_proof_209 : decode cX12_proof 209 = .ok (.getfield 437, 3) := dk_180 1 181 (dk_at dksX12_proof_9 0 rfl rfl)
theorem dX12_proof_212 : decode cX12_proof 212 = .ok (.ireturn, 1) := dk_172 (dk_at dksX12_proof_9 3 rfl rfl)
theorem dX12_proof_213 : decode cX12_proof 213 = .ok (.aload_n 0, 1) := dk_42 (dk_at dksX12_proof_9 4 rfl rfl)
theorem dX12_proof_214 : decode cX12_proof 214 = .ok (.iload 4, 2) := dk_21 4 (dk_at dksX12_proof_9 5 rfl rfl)
theorem dX12_proof_216 : decode cX12_proof 216 = .ok (.invokevirtual 446, 3) := dk_182 1 190 (dk_at dksX12_proof_9 7 rfl rfl)
theorem dX12_proof_219 : decode cX12_proof 219 = .ok (.goto (-181), 3) := dk_167 255 75 (dk_at dksX12_proof_9 10 rfl rfl)
theorem dX12_proof_222 : decode cX12_proof 222 = .ok (.iconst (-1), 1) := dk_2 (dk_at dksX12_proof_9 13 rfl rfl)
theorem dX12_proof_223 : decode cX12_proof 223 = .ok (.ireturn, 1) := dk_172 (dk_at dksX12_proof_9 14 rfl rfl)
abbrev cX12_hour : ByteArray := prog_27_method_101_code
def yX12_hour : MethodName := ⟨RX12, "hour", "(II)J"⟩
def dkwX12_hour_2 : List UInt8 := [42, 27, 182, 1, 163, 42, 180, 0, 106, 27, 47, 101, 173]
abbrev dktX12_hour_2 : List UInt8 := dkwX12_hour_2 ++ []
def dkwX12_hour_1 : List UInt8 := [28, 182, 1, 193, 5, 5, 182, 0, 226, 154, 0, 5, 9, 173, 42, 182, 1, 196, 42, 28, 27, 182, 1, 199]
abbrev dktX12_hour_1 : List UInt8 := dkwX12_hour_1 ++ dktX12_hour_2
def dkwX12_hour_0 : List UInt8 := [42, 3, 181, 0, 1, 42, 6, 182, 1, 75, 153, 0, 26, 42, 27, 4, 182, 1, 62, 153, 0, 17, 42, 42]
abbrev dktX12_hour_0 : List UInt8 := dkwX12_hour_0 ++ dktX12_hour_1
theorem dksX12_hour_0 : cX12_hour.data.toList.drop 0 = dktX12_hour_0 := by decide +kernel
theorem dksX12_hour_1 : cX12_hour.data.toList.drop 24 = dktX12_hour_1 := dk_seg dksX12_hour_0 24 rfl rfl
theorem dksX12_hour_2 : cX12_hour.data.toList.drop 48 = dktX12_hour_2 := dk_seg dksX12_hour_1 24 rfl rfl
theorem dX12_hour_0 : decode cX12_hour 0 = .ok (.aload_n 0, 1) := dk_42 (dk_at dksX12_hour_0 0 rfl rfl)
theorem dX12_hour_1 : decode cX12_hour 1 = .ok (.iconst 0, 1) := dk_3 (dk_at dksX12_hour_0 1 rfl rfl)
theorem dX12_hour_2 : decode cX12_hour 2 = .ok (.putfield 1, 3) := dk_181 0 1 (dk_at dksX12_hour_0 2 rfl rfl)
theorem dX12_hour_5 : decode cX12_hour 5 = .ok (.aload_n 0, 1) := dk_42 (dk_at dksX12_hour_0 5 rfl rfl)
theorem dX12_hour_6 : decode cX12_hour 6 = .ok (.iconst 3, 1) := dk_6 (dk_at dksX12_hour_0 6 rfl rfl)
theorem dX12_hour_7 : decode cX12_hour 7 = .ok (.invokevirtual 331, 3) := dk_182 1 75 (dk_at dksX12_hour_0 7 rfl rfl)
theorem dX12_hour_10 : decode cX12_hour 10 = .ok (.ifCond .eq 26, 3) := dk_153 0 26 (dk_at dksX12_hour_0 10 rfl rfl)
theorem dX12_hour_13 : decode cX12_hour 13 = .ok (.aload_n 0, 1) := dk_42 (dk_at dksX12_hour_0 13 rfl rfl)
theorem dX12_hour_14 : decode cX12_hour 14 = .ok (.iload_n 1, 1) := dk_27 (dk_at dksX12_hour_0 14 rfl rfl)
theorem dX12_hour_15 : decode cX12_hour 15 = .ok (.iconst 1, 1) := dk_4 (dk_at dksX12_hour_0 15 rfl rfl)
theorem dX12_hour_16 : decode cX12_hour 16 = .ok (.invokevirtual 318, 3) := dk_182 1 62 (dk_at dksX12_hour_0 16 rfl rfl)
theorem dX12_hour_19 : decode cX12_hour 19 = .ok (.ifCond .eq 17, 3) := dk_153 0 17 (dk_at dksX12_hour_0 19 rfl rfl)
theorem dX12_hour_22 : decode cX12_hour 22 = .ok (.aload_n 0, 1) := dk_42 (dk_at dksX12_hour_0 22 rfl rfl)
theorem dX12_hour_23 : decode cX12_hour 23 = .ok (.aload_n 0, 1) := dk_42 (dk_at dksX12_hour_0 23 rfl rfl)
theorem dX12_hour_24 : decode cX12_hour 24 = .ok (.iload_n 2, 1) := dk_28 (dk_at dksX12_hour_1 0 rfl rfl)
theorem dX12_hour_25 : decode cX12_hour 25 = .ok (.invokevirtual 449, 3) := dk_182 1 193 (dk_at dksX12_hour_1 1 rfl rfl)
theorem dX12_hour_28 : decode cX12_hour 28 = .ok (.iconst 2, 1) := dk_5 (dk_at dksX12_hour_1 4 rfl rfl)
theorem dX12_hour_29 : decode cX12_hour 29 = .ok (.iconst 2, 1) := dk_5 (dk_at dksX12_hour_1 5 rfl rfl)
theorem dX12_hour_30 : decode cX12_hour 30 = .ok (.invokevirtual 226, 3) := dk_182 0 226 (dk_at dksX12_hour_1 6 rfl rfl)
theorem dX12_hour_33 : decode cX12_hour 33 = .ok (.ifCond .ne 5, 3) := dk_154 0 5 (dk_at dksX12_hour_1 9 rfl rfl)
theorem dX12_hour_36 : decode cX12_hour 36 = .ok (.lconst 0, 1) := dk_9 (dk_at dksX12_hour_1 12 rfl rfl)
theorem dX12_hour_37 : decode cX12_hour 37 = .ok (.lreturn, 1) := dk_173 (dk_at dksX12_hour_1 13 rfl rfl)
theorem dX12_hour_38 : decode cX12_hour 38 = .ok (.aload_n 0, 1) := dk_42 (dk_at dksX12_hour_1 14 rfl rfl)
theorem dX12_hour_39 : decode cX12_hour 39 = .ok (.invokevirtual 452, 3) := dk_182 1 196 (dk_at dksX12_hour_1 15 rfl rfl)
theorem dX12_hour_42 : decode cX12_hour 42 = .ok (.aload_n 0, 1) := dk_42 (dk_at dksX12_hour_1 18 rfl rfl)
theorem dX12_hour_43 : decode cX12_hour 43 = .ok (.iload_n 2, 1) := dk_28 (dk_at dksX12_hour_1 19 rfl rfl)
theorem dX12_hour_44 : decode cX12_hour 44 = .ok (.iload_n 1, 1) := dk_27 (dk_at dksX12_hour_1 20 rfl rfl)
theorem dX12_hour_45 : decode cX12_hour 45 = .ok (.invokevirtual 455, 3) := dk_182 1 199 (dk_at dksX12_hour_1 21 rfl rfl)
theorem dX12_hour_48 : decode cX12_hour 48 = .ok (.aload_n 0, 1) := dk_42 (dk_at dksX12_hour_2 0 rfl rfl)
theorem dX12_hour_49 : decode cX12_hour 49 = .ok (.iload_n 1, 1) := dk_27 (dk_at dksX12_hour_2 1 rfl rfl)
theorem dX12_hour_50 : decode cX12_hour 50 = .ok (.invokevirtual 419, 3) := dk_182 1 163 (dk_at dksX12_hour_2 2 rfl rfl)
theorem dX12_hour_53 : decode cX12_hour 53 = .ok (.aload_n 0, 1) := dk_42 (dk_at dksX12_hour_2 5 rfl rfl)
theorem dX12_hour_54 : decode cX12_hour 54 = .ok (.getfield 106, 3) := dk_180 0 106 (dk_at dksX12_hour_2 6 rfl rfl)
theorem dX12_hour_57 : decode cX12_hour 57 = .ok (.iload_n 1, 1) := dk_27 (dk_at dksX12_hour_2 9 rfl rfl)
theorem dX12_hour_58 : decode cX12_hour 58 = .ok (.laload, 1) := dk_47 (dk_at dksX12_hour_2 10 rfl rfl)
theorem dX12_hour_59 : decode cX12_hour 59 = .ok (.lsub, 1) := dk_101 (dk_at dksX12_hour_2 11 rfl rfl)
theorem dX12_hour_60 : decode cX12_hour 60 = .ok (.lreturn, 1) := dk_173 (dk_at dksX12_hour_2 12 rfl rfl)
abbrev cX12_isLed : ByteArray := prog_27_method_98_code
def yX12_isLed : MethodName := ⟨RX12, "isLed", "(I)Z"⟩
def dkwX12_isLed_0 : List UInt8 := [27, 3, 42, 180, 0, 23, 6, 46, 4, 100, 184, 1, 58, 172]
abbrev dktX12_isLed_0 : List UInt8 := dkwX12_isLed_0 ++ []
theorem dksX12_isLed_0 : cX12_isLed.data.toList.drop 0 = dktX12_isLed_0 := by decide +kernel
theorem dX12_isLed_0 : decode cX12_isLed 0 = .ok (.iload_n 1, 1) := dk_27 (dk_at dksX12_isLed_0 0 rfl rfl)
theorem dX12_isLed_1 : decode cX12_isLed 1 = .ok (.iconst 0, 1) := dk_3 (dk_at dksX12_isLed_0 1 rfl rfl)
theorem dX12_isLed_2 : decode cX12_isLed 2 = .ok (.aload_n 0, 1) := dk_42 (dk_at dksX12_isLed_0 2 rfl rfl)
theorem dX12_isLed_3 : decode cX12_isLed 3 = .ok (.getfield 23, 3) := dk_180 0 23 (dk_at dksX12_isLed_0 3 rfl rfl)
theorem dX12_isLed_6 : decode cX12_isLed 6 = .ok (.iconst 3, 1) := dk_6 (dk_at dksX12_isLed_0 6 rfl rfl)
theorem dX12_isLed_7 : decode cX12_isLed 7 = .ok (.iaload, 1) := dk_46 (dk_at dksX12_isLed_0 7 rfl rfl)
theorem dX12_isLed_8 : decode cX12_isLed 8 = .ok (.iconst 1, 1) := dk_4 (dk_at dksX12_isLed_0 8 rfl rfl)
theorem dX12_isLed_9 : decode cX12_isLed 9 = .ok (.isub, 1) := dk_100 (dk_at dksX12_isLed_0 9 rfl rfl)
theorem dX12_isLed_10 : decode cX12_isLed 10 = .ok (.invokestatic 314, 3) := dk_184 1 58 (dk_at dksX12_isLed_0 10 rfl rfl)
theorem dX12_isLed_13 : decode cX12_isLed 13 = .ok (.ireturn, 1) := dk_172 (dk_at dksX12_isLed_0 13 rfl rfl)
abbrev cX12_keeps : ByteArray := prog_27_method_99_code
def yX12_keeps : MethodName := ⟨RX12, "keeps", "()V"⟩
def dkwX12_keeps_1 : List UInt8 := [182, 1, 163, 80, 132, 1, 1, 167, 255, 232, 177]
abbrev dktX12_keeps_1 : List UInt8 := dkwX12_keeps_1 ++ []
def dkwX12_keeps_0 : List UInt8 := [42, 182, 1, 174, 3, 60, 27, 42, 180, 0, 23, 5, 46, 162, 0, 20, 42, 180, 0, 106, 27, 42, 27]
abbrev dktX12_keeps_0 : List UInt8 := dkwX12_keeps_0 ++ dktX12_keeps_1
theorem dksX12_keeps_0 : cX12_keeps.data.toList.drop 0 = dktX12_keeps_0 := by decide +kernel
theorem dksX12_keeps_1 : cX12_keeps.data.toList.drop 23 = dktX12_keeps_1 := dk_seg dksX12_keeps_0 23 rfl rfl
theorem dX12_keeps_0 : decode cX12_keeps 0 = .ok (.aload_n 0, 1) := dk_42 (dk_at dksX12_keeps_0 0 rfl rfl)
theorem dX12_keeps_1 : decode cX12_keeps 1 = .ok (.invokevirtual 430, 3) := dk_182 1 174 (dk_at dksX12_keeps_0 1 rfl rfl)
theorem dX12_keeps_4 : decode cX12_keeps 4 = .ok (.iconst 0, 1) := dk_3 (dk_at dksX12_keeps_0 4 rfl rfl)
theorem dX12_keeps_5 : decode cX12_keeps 5 = .ok (.istore_n 1, 1) := dk_60 (dk_at dksX12_keeps_0 5 rfl rfl)
theorem dX12_keeps_6 : decode cX12_keeps 6 = .ok (.iload_n 1, 1) := dk_27 (dk_at dksX12_keeps_0 6 rfl rfl)
theorem dX12_keeps_7 : decode cX12_keeps 7 = .ok (.aload_n 0, 1) := dk_42 (dk_at dksX12_keeps_0 7 rfl rfl)
theorem dX12_keeps_8 : decode cX12_keeps 8 = .ok (.getfield 23, 3) := dk_180 0 23 (dk_at dksX12_keeps_0 8 rfl rfl)
theorem dX12_keeps_11 : decode cX12_keeps 11 = .ok (.iconst 2, 1) := dk_5 (dk_at dksX12_keeps_0 11 rfl rfl)
theorem dX12_keeps_12 : decode cX12_keeps 12 = .ok (.iaload, 1) := dk_46 (dk_at dksX12_keeps_0 12 rfl rfl)
theorem dX12_keeps_13 : decode cX12_keeps 13 = .ok (.if_icmp .ge 20, 3) := dk_162 0 20 (dk_at dksX12_keeps_0 13 rfl rfl)
theorem dX12_keeps_16 : decode cX12_keeps 16 = .ok (.aload_n 0, 1) := dk_42 (dk_at dksX12_keeps_0 16 rfl rfl)
theorem dX12_keeps_17 : decode cX12_keeps 17 = .ok (.getfield 106, 3) := dk_180 0 106 (dk_at dksX12_keeps_0 17 rfl rfl)
theorem dX12_keeps_20 : decode cX12_keeps 20 = .ok (.iload_n 1, 1) := dk_27 (dk_at dksX12_keeps_0 20 rfl rfl)
theorem dX12_keeps_21 : decode cX12_keeps 21 = .ok (.aload_n 0, 1) := dk_42 (dk_at dksX12_keeps_0 21 rfl rfl)
theorem dX12_keeps_22 : decode cX12_keeps 22 = .ok (.iload_n 1, 1) := dk_27 (dk_at dksX12_keeps_0 22 rfl rfl)
theorem dX12_keeps_23 : decode cX12_keeps 23 = .ok (.invokevirtual 419, 3) := dk_182 1 163 (dk_at dksX12_keeps_1 0 rfl rfl)
theorem dX12_keeps_26 : decode cX12_keeps 26 = .ok (.lastore, 1) := dk_80 (dk_at dksX12_keeps_1 3 rfl rfl)
theorem dX12_keeps_27 : decode cX12_keeps 27 = .ok (.iinc 1 1, 3) := dk_132 1 1 (dk_at dksX12_keeps_1 4 rfl rfl)
theorem dX12_keeps_30 : decode cX12_keeps 30 = .ok (.goto (-24), 3) := dk_167 255 232 (dk_at dksX12_keeps_1 7 rfl rfl)
theorem dX12_keeps_33 : decode cX12_keeps 33 = .ok (.return_, 1) := dk_177 (dk_at dksX12_keeps_1 10 rfl rfl)
abbrev cX12_ledBy : ByteArray := prog_27_method_100_code
def yX12_ledBy : MethodName := ⟨RX12, "ledBy", "(II)V"⟩
def dkwX12_ledBy_0 : List UInt8 := [42, 180, 0, 65, 27, 28, 79, 42, 182, 1, 158, 177]
abbrev dktX12_ledBy_0 : List UInt8 := dkwX12_ledBy_0 ++ []
theorem dksX12_ledBy_0 : cX12_ledBy.data.toList.drop 0 = dktX12_ledBy_0 := by decide +kernel
theorem dX12_ledBy_0 : decode cX12_ledBy 0 = .ok (.aload_n 0, 1) := dk_42 (dk_at dksX12_ledBy_0 0 rfl rfl)
theorem dX12_ledBy_1 : decode cX12_ledBy 1 = .ok (.getfield 65, 3) := dk_180 0 65 (dk_at dksX12_ledBy_0 1 rfl rfl)
theorem dX12_ledBy_4 : decode cX12_ledBy 4 = .ok (.iload_n 1, 1) := dk_27 (dk_at dksX12_ledBy_0 4 rfl rfl)
theorem dX12_ledBy_5 : decode cX12_ledBy 5 = .ok (.iload_n 2, 1) := dk_28 (dk_at dksX12_ledBy_0 5 rfl rfl)
theorem dX12_ledBy_6 : decode cX12_ledBy 6 = .ok (.iastore, 1) := dk_79 (dk_at dksX12_ledBy_0 6 rfl rfl)
theorem dX12_ledBy_7 : decode cX12_ledBy 7 = .ok (.aload_n 0, 1) := dk_42 (dk_at dksX12_ledBy_0 7 rfl rfl)
theorem dX12_ledBy_8 : decode cX12_ledBy 8 = .ok (.invokevirtual 414, 3) := dk_182 1 158 (dk_at dksX12_ledBy_0 8 rfl rfl)
theorem dX12_ledBy_11 : decode cX12_ledBy 11 = .ok (.return_, 1) := dk_177 (dk_at dksX12_ledBy_0 11 rfl rfl)
abbrev cX12_give : ByteArray := prog_27_method_102_code
def yX12_give : MethodName := ⟨RX12, "give", "()I"⟩
def dkwX12_give_5 : List UInt8 := [167, 255, 160, 2, 172]
abbrev dktX12_give_5 : List UInt8 := dkwX12_give_5 ++ []
def dkwX12_give_4 : List UInt8 := [16, 10, 27, 104, 29, 96, 172, 132, 3, 1, 167, 255, 192, 42, 180, 0, 65, 27, 28, 79, 132, 1, 1]
abbrev dktX12_give_4 : List UInt8 := dkwX12_give_4 ++ dktX12_give_5
def dkwX12_give_3 : List UInt8 := [180, 0, 106, 29, 47, 148, 158, 0, 25, 42, 28, 182, 1, 163, 42, 180, 0, 106, 28, 47, 148, 158, 0, 10]
abbrev dktX12_give_3 : List UInt8 := dkwX12_give_3 ++ dktX12_give_4
def dkwX12_give_2 : List UInt8 := [162, 0, 60, 29, 28, 160, 0, 6, 167, 0, 46, 42, 27, 29, 182, 1, 199, 42, 29, 182, 1, 163, 42]
abbrev dktX12_give_2 : List UInt8 := dkwX12_give_2 ++ dktX12_give_3
def dkwX12_give_1 : List UInt8 := [180, 0, 23, 6, 46, 162, 0, 92, 42, 180, 0, 65, 27, 46, 61, 3, 62, 29, 42, 180, 0, 23, 5, 46]
abbrev dktX12_give_1 : List UInt8 := dkwX12_give_1 ++ dktX12_give_2
def dkwX12_give_0 : List UInt8 := [42, 3, 181, 0, 1, 42, 4, 182, 1, 75, 154, 0, 5, 3, 172, 42, 182, 1, 196, 3, 60, 27, 42]
abbrev dktX12_give_0 : List UInt8 := dkwX12_give_0 ++ dktX12_give_1
theorem dksX12_give_0 : cX12_give.data.toList.drop 0 = dktX12_give_0 := by decide +kernel
theorem dksX12_give_1 : cX12_give.data.toList.drop 23 = dktX12_give_1 := dk_seg dksX12_give_0 23 rfl rfl
theorem dksX12_give_2 : cX12_give.data.toList.drop 47 = dktX12_give_2 := dk_seg dksX12_give_1 24 rfl rfl
theorem dksX12_give_3 : cX12_give.data.toList.drop 70 = dktX12_give_3 := dk_seg dksX12_give_2 23 rfl rfl
theorem dksX12_give_4 : cX12_give.data.toList.drop 94 = dktX12_give_4 := dk_seg dksX12_give_3 24 rfl rfl
theorem dksX12_give_5 : cX12_give.data.toList.drop 117 = dktX12_give_5 := dk_seg dksX12_give_4 23 rfl rfl
theorem dX12_give_0 : decode cX12_give 0 = .ok (.aload_n 0, 1) := dk_42 (dk_at dksX12_give_0 0 rfl rfl)
theorem dX12_give_1 : decode cX12_give 1 = .ok (.iconst 0, 1) := dk_3 (dk_at dksX12_give_0 1 rfl rfl)
theorem dX12_give_2 : decode cX12_give 2 = .ok (.putfield 1, 3) := dk_181 0 1 (dk_at dksX12_give_0 2 rfl rfl)
theorem dX12_give_5 : decode cX12_give 5 = .ok (.aload_n 0, 1) := dk_42 (dk_at dksX12_give_0 5 rfl rfl)
theorem dX12_give_6 : decode cX12_give 6 = .ok (.iconst 1, 1) := dk_4 (dk_at dksX12_give_0 6 rfl rfl)
theorem dX12_give_7 : decode cX12_give 7 = .ok (.invokevirtual 331, 3) := dk_182 1 75 (dk_at dksX12_give_0 7 rfl rfl)
theorem dX12_give_10 : decode cX12_give 10 = .ok (.ifCond .ne 5, 3) := dk_154 0 5 (dk_at dksX12_give_0 10 rfl rfl)
theorem dX12_give_13 : decode cX12_give 13 = .ok (.iconst 0, 1) := dk_3 (dk_at dksX12_give_0 13 rfl rfl)
theorem dX12_give_14 : decode cX12_give 14 = .ok (.ireturn, 1) := dk_172 (dk_at dksX12_give_0 14 rfl rfl)
theorem dX12_give_15 : decode cX12_give 15 = .ok (.aload_n 0, 1) := dk_42 (dk_at dksX12_give_0 15 rfl rfl)
theorem dX12_give_16 : decode cX12_give 16 = .ok (.invokevirtual 452, 3) := dk_182 1 196 (dk_at dksX12_give_0 16 rfl rfl)
theorem dX12_give_19 : decode cX12_give 19 = .ok (.iconst 0, 1) := dk_3 (dk_at dksX12_give_0 19 rfl rfl)
theorem dX12_give_20 : decode cX12_give 20 = .ok (.istore_n 1, 1) := dk_60 (dk_at dksX12_give_0 20 rfl rfl)
theorem dX12_give_21 : decode cX12_give 21 = .ok (.iload_n 1, 1) := dk_27 (dk_at dksX12_give_0 21 rfl rfl)
theorem dX12_give_22 : decode cX12_give 22 = .ok (.aload_n 0, 1) := dk_42 (dk_at dksX12_give_0 22 rfl rfl)
theorem dX12_give_23 : decode cX12_give 23 = .ok (.getfield 23, 3) := dk_180 0 23 (dk_at dksX12_give_1 0 rfl rfl)
theorem dX12_give_26 : decode cX12_give 26 = .ok (.iconst 3, 1) := dk_6 (dk_at dksX12_give_1 3 rfl rfl)
theorem dX12_give_27 : decode cX12_give 27 = .ok (.iaload, 1) := dk_46 (dk_at dksX12_give_1 4 rfl rfl)
theorem dX12_give_28 : decode cX12_give 28 = .ok (.if_icmp .ge 92, 3) := dk_162 0 92 (dk_at dksX12_give_1 5 rfl rfl)
theorem dX12_give_31 : decode cX12_give 31 = .ok (.aload_n 0, 1) := dk_42 (dk_at dksX12_give_1 8 rfl rfl)
theorem dX12_give_32 : decode cX12_give 32 = .ok (.getfield 65, 3) := dk_180 0 65 (dk_at dksX12_give_1 9 rfl rfl)
theorem dX12_give_35 : decode cX12_give 35 = .ok (.iload_n 1, 1) := dk_27 (dk_at dksX12_give_1 12 rfl rfl)
theorem dX12_give_36 : decode cX12_give 36 = .ok (.iaload, 1) := dk_46 (dk_at dksX12_give_1 13 rfl rfl)
theorem dX12_give_37 : decode cX12_give 37 = .ok (.istore_n 2, 1) := dk_61 (dk_at dksX12_give_1 14 rfl rfl)
theorem dX12_give_38 : decode cX12_give 38 = .ok (.iconst 0, 1) := dk_3 (dk_at dksX12_give_1 15 rfl rfl)
theorem dX12_give_39 : decode cX12_give 39 = .ok (.istore_n 3, 1) := dk_62 (dk_at dksX12_give_1 16 rfl rfl)
theorem dX12_give_40 : decode cX12_give 40 = .ok (.iload_n 3, 1) := dk_29 (dk_at dksX12_give_1 17 rfl rfl)
theorem dX12_give_41 : decode cX12_give 41 = .ok (.aload_n 0, 1) := dk_42 (dk_at dksX12_give_1 18 rfl rfl)
theorem dX12_give_42 : decode cX12_give 42 = .ok (.getfield 23, 3) := dk_180 0 23 (dk_at dksX12_give_1 19 rfl rfl)
theorem dX12_give_45 : decode cX12_give 45 = .ok (.iconst 2, 1) := dk_5 (dk_at dksX12_give_1 22 rfl rfl)
theorem dX12_give_46 : decode cX12_give 46 = .ok (.iaload, 1) := dk_46 (dk_at dksX12_give_1 23 rfl rfl)
theorem dX12_give_47 : decode cX12_give 47 = .ok (.if_icmp .ge 60, 3) := dk_162 0 60 (dk_at dksX12_give_2 0 rfl rfl)
theorem dX12_give_50 : decode cX12_give 50 = .ok (.iload_n 3, 1) := dk_29 (dk_at dksX12_give_2 3 rfl rfl)
theorem dX12_give_51 : decode cX12_give 51 = .ok (.iload_n 2, 1) := dk_28 (dk_at dksX12_give_2 4 rfl rfl)
theorem dX12_give_52 : decode cX12_give 52 = .ok (.if_icmp .ne 6, 3) := dk_160 0 6 (dk_at dksX12_give_2 5 rfl rfl)
theorem dX12_give_55 : decode cX12_give 55 = .ok (.goto 46, 3) := dk_167 0 46 (dk_at dksX12_give_2 8 rfl rfl)
theorem dX12_give_58 : decode cX12_give 58 = .ok (.aload_n 0, 1) := dk_42 (dk_at dksX12_give_2 11 rfl rfl)
theorem dX12_give_59 : decode cX12_give 59 = .ok (.iload_n 1, 1) := dk_27 (dk_at dksX12_give_2 12 rfl rfl)
theorem dX12_give_60 : decode cX12_give 60 = .ok (.iload_n 3, 1) := dk_29 (dk_at dksX12_give_2 13 rfl rfl)
theorem dX12_give_61 : decode cX12_give 61 = .ok (.invokevirtual 455, 3) := dk_182 1 199 (dk_at dksX12_give_2 14 rfl rfl)
theorem dX12_give_64 : decode cX12_give 64 = .ok (.aload_n 0, 1) := dk_42 (dk_at dksX12_give_2 17 rfl rfl)
theorem dX12_give_65 : decode cX12_give 65 = .ok (.iload_n 3, 1) := dk_29 (dk_at dksX12_give_2 18 rfl rfl)
theorem dX12_give_66 : decode cX12_give 66 = .ok (.invokevirtual 419, 3) := dk_182 1 163 (dk_at dksX12_give_2 19 rfl rfl)
theorem dX12_give_69 : decode cX12_give 69 = .ok (.aload_n 0, 1) := dk_42 (dk_at dksX12_give_2 22 rfl rfl)
theorem dX12_give_70 : decode cX12_give 70 = .ok (.getfield 106, 3) := dk_180 0 106 (dk_at dksX12_give_3 0 rfl rfl)
theorem dX12_give_73 : decode cX12_give 73 = .ok (.iload_n 3, 1) := dk_29 (dk_at dksX12_give_3 3 rfl rfl)
theorem dX12_give_74 : decode cX12_give 74 = .ok (.laload, 1) := dk_47 (dk_at dksX12_give_3 4 rfl rfl)
theorem dX12_give_75 : decode cX12_give 75 = .ok (.lcmp, 1) := dk_148 (dk_at dksX12_give_3 5 rfl rfl)
theorem dX12_give_76 : decode cX12_give 76 = .ok (.ifCond .le 25, 3) := dk_158 0 25 (dk_at dksX12_give_3 6 rfl rfl)
theorem dX12_give_79 : decode cX12_give 79 = .ok (.aload_n 0, 1) := dk_42 (dk_at dksX12_give_3 9 rfl rfl)
theorem dX12_give_80 : decode cX12_give 80 = .ok (.iload_n 2, 1) := dk_28 (dk_at dksX12_give_3 10 rfl rfl)
theorem dX12_give_81 : decode cX12_give 81 = .ok (.invokevirtual 419, 3) := dk_182 1 163 (dk_at dksX12_give_3 11 rfl rfl)
theorem dX12_give_84 : decode cX12_give 84 = .ok (.aload_n 0, 1) := dk_42 (dk_at dksX12_give_3 14 rfl rfl)
theorem dX12_give_85 : decode cX12_give 85 = .ok (.getfield 106, 3) := dk_180 0 106 (dk_at dksX12_give_3 15 rfl rfl)
theorem dX12_give_88 : decode cX12_give 88 = .ok (.iload_n 2, 1) := dk_28 (dk_at dksX12_give_3 18 rfl rfl)
theorem dX12_give_89 : decode cX12_give 89 = .ok (.laload, 1) := dk_47 (dk_at dksX12_give_3 19 rfl rfl)
theorem dX12_give_90 : decode cX12_give 90 = .ok (.lcmp, 1) := dk_148 (dk_at dksX12_give_3 20 rfl rfl)
theorem dX12_give_91 : decode cX12_give 91 = .ok (.ifCond .le 10, 3) := dk_158 0 10 (dk_at dksX12_give_3 21 rfl rfl)
theorem dX12_give_94 : decode cX12_give 94 = .ok (.bipush 10, 2) := dk_16 10 (dk_at dksX12_give_4 0 rfl rfl)
theorem dX12_give_96 : decode cX12_give 96 = .ok (.iload_n 1, 1) := dk_27 (dk_at dksX12_give_4 2 rfl rfl)
theorem dX12_give_97 : decode cX12_give 97 = .ok (.imul, 1) := dk_104 (dk_at dksX12_give_4 3 rfl rfl)
theorem dX12_give_98 : decode cX12_give 98 = .ok (.iload_n 3, 1) := dk_29 (dk_at dksX12_give_4 4 rfl rfl)
theorem dX12_give_99 : decode cX12_give 99 = .ok (.iadd, 1) := dk_96 (dk_at dksX12_give_4 5 rfl rfl)
theorem dX12_give_100 : decode cX12_give 100 = .ok (.ireturn, 1) := dk_172 (dk_at dksX12_give_4 6 rfl rfl)
theorem dX12_give_101 : decode cX12_give 101 = .ok (.iinc 3 1, 3) := dk_132 3 1 (dk_at dksX12_give_4 7 rfl rfl)
theorem dX12_give_104 : decode cX12_give 104 = .ok (.goto (-64), 3) := dk_167 255 192 (dk_at dksX12_give_4 10 rfl rfl)
theorem dX12_give_107 : decode cX12_give 107 = .ok (.aload_n 0, 1) := dk_42 (dk_at dksX12_give_4 13 rfl rfl)
theorem dX12_give_108 : decode cX12_give 108 = .ok (.getfield 65, 3) := dk_180 0 65 (dk_at dksX12_give_4 14 rfl rfl)
theorem dX12_give_111 : decode cX12_give 111 = .ok (.iload_n 1, 1) := dk_27 (dk_at dksX12_give_4 17 rfl rfl)
theorem dX12_give_112 : decode cX12_give 112 = .ok (.iload_n 2, 1) := dk_28 (dk_at dksX12_give_4 18 rfl rfl)
theorem dX12_give_113 : decode cX12_give 113 = .ok (.iastore, 1) := dk_79 (dk_at dksX12_give_4 19 rfl rfl)
theorem dX12_give_114 : decode cX12_give 114 = .ok (.iinc 1 1, 3) := dk_132 1 1 (dk_at dksX12_give_4 20 rfl rfl)
theorem dX12_give_117 : decode cX12_give 117 = .ok (.goto (-96), 3) := dk_167 255 160 (dk_at dksX12_give_5 0 rfl rfl)
theorem dX12_give_120 : decode cX12_give 120 = .ok (.iconst (-1), 1) := dk_2 (dk_at dksX12_give_5 3 rfl rfl)
theorem dX12_give_121 : decode cX12_give 121 = .ok (.ireturn, 1) := dk_172 (dk_at dksX12_give_5 4 rfl rfl)
abbrev cX12_price : ByteArray := prog_27_method_103_code
def yX12_price : MethodName := ⟨RX12, "price", "(II)J"⟩
def dkwX12_price_3 : List UInt8 := [47, 42, 29, 182, 1, 163, 101, 101, 173]
abbrev dktX12_price_3 : List UInt8 := dkwX12_price_3 ++ []
def dkwX12_price_2 : List UInt8 := [62, 42, 27, 28, 182, 1, 199, 42, 28, 182, 1, 163, 42, 180, 0, 106, 28, 47, 101, 42, 180, 0, 106, 29]
abbrev dktX12_price_2 : List UInt8 := dkwX12_price_2 ++ dktX12_price_3
def dkwX12_price_1 : List UInt8 := [27, 182, 1, 193, 5, 5, 182, 0, 226, 154, 0, 5, 9, 173, 42, 182, 1, 196, 42, 180, 0, 65, 27, 46]
abbrev dktX12_price_1 : List UInt8 := dkwX12_price_1 ++ dktX12_price_2
def dkwX12_price_0 : List UInt8 := [42, 3, 181, 0, 1, 42, 6, 182, 1, 75, 153, 0, 26, 42, 28, 4, 182, 1, 62, 153, 0, 17, 42, 42]
abbrev dktX12_price_0 : List UInt8 := dkwX12_price_0 ++ dktX12_price_1
theorem dksX12_price_0 : cX12_price.data.toList.drop 0 = dktX12_price_0 := by decide +kernel
theorem dksX12_price_1 : cX12_price.data.toList.drop 24 = dktX12_price_1 := dk_seg dksX12_price_0 24 rfl rfl
theorem dksX12_price_2 : cX12_price.data.toList.drop 48 = dktX12_price_2 := dk_seg dksX12_price_1 24 rfl rfl
theorem dksX12_price_3 : cX12_price.data.toList.drop 72 = dktX12_price_3 := dk_seg dksX12_price_2 24 rfl rfl
theorem dX12_price_0 : decode cX12_price 0 = .ok (.aload_n 0, 1) := dk_42 (dk_at dksX12_price_0 0 rfl rfl)
theorem dX12_price_1 : decode cX12_price 1 = .ok (.iconst 0, 1) := dk_3 (dk_at dksX12_price_0 1 rfl rfl)
theorem dX12_price_2 : decode cX12_price 2 = .ok (.putfield 1, 3) := dk_181 0 1 (dk_at dksX12_price_0 2 rfl rfl)
theorem dX12_price_5 : decode cX12_price 5 = .ok (.aload_n 0, 1) := dk_42 (dk_at dksX12_price_0 5 rfl rfl)
theorem dX12_price_6 : decode cX12_price 6 = .ok (.iconst 3, 1) := dk_6 (dk_at dksX12_price_0 6 rfl rfl)
theorem dX12_price_7 : decode cX12_price 7 = .ok (.invokevirtual 331, 3) := dk_182 1 75 (dk_at dksX12_price_0 7 rfl rfl)
theorem dX12_price_10 : decode cX12_price 10 = .ok (.ifCond .eq 26, 3) := dk_153 0 26 (dk_at dksX12_price_0 10 rfl rfl)
theorem dX12_price_13 : decode cX12_price 13 = .ok (.aload_n 0, 1) := dk_42 (dk_at dksX12_price_0 13 rfl rfl)
theorem dX12_price_14 : decode cX12_price 14 = .ok (.iload_n 2, 1) := dk_28 (dk_at dksX12_price_0 14 rfl rfl)
theorem dX12_price_15 : decode cX12_price 15 = .ok (.iconst 1, 1) := dk_4 (dk_at dksX12_price_0 15 rfl rfl)
theorem dX12_price_16 : decode cX12_price 16 = .ok (.invokevirtual 318, 3) := dk_182 1 62 (dk_at dksX12_price_0 16 rfl rfl)
theorem dX12_price_19 : decode cX12_price 19 = .ok (.ifCond .eq 17, 3) := dk_153 0 17 (dk_at dksX12_price_0 19 rfl rfl)
theorem dX12_price_22 : decode cX12_price 22 = .ok (.aload_n 0, 1) := dk_42 (dk_at dksX12_price_0 22 rfl rfl)
theorem dX12_price_23 : decode cX12_price 23 = .ok (.aload_n 0, 1) := dk_42 (dk_at dksX12_price_0 23 rfl rfl)
theorem dX12_price_24 : decode cX12_price 24 = .ok (.iload_n 1, 1) := dk_27 (dk_at dksX12_price_1 0 rfl rfl)
theorem dX12_price_25 : decode cX12_price 25 = .ok (.invokevirtual 449, 3) := dk_182 1 193 (dk_at dksX12_price_1 1 rfl rfl)
theorem dX12_price_28 : decode cX12_price 28 = .ok (.iconst 2, 1) := dk_5 (dk_at dksX12_price_1 4 rfl rfl)
theorem dX12_price_29 : decode cX12_price 29 = .ok (.iconst 2, 1) := dk_5 (dk_at dksX12_price_1 5 rfl rfl)
theorem dX12_price_30 : decode cX12_price 30 = .ok (.invokevirtual 226, 3) := dk_182 0 226 (dk_at dksX12_price_1 6 rfl rfl)
theorem dX12_price_33 : decode cX12_price 33 = .ok (.ifCond .ne 5, 3) := dk_154 0 5 (dk_at dksX12_price_1 9 rfl rfl)
theorem dX12_price_36 : decode cX12_price 36 = .ok (.lconst 0, 1) := dk_9 (dk_at dksX12_price_1 12 rfl rfl)
theorem dX12_price_37 : decode cX12_price 37 = .ok (.lreturn, 1) := dk_173 (dk_at dksX12_price_1 13 rfl rfl)
theorem dX12_price_38 : decode cX12_price 38 = .ok (.aload_n 0, 1) := dk_42 (dk_at dksX12_price_1 14 rfl rfl)
theorem dX12_price_39 : decode cX12_price 39 = .ok (.invokevirtual 452, 3) := dk_182 1 196 (dk_at dksX12_price_1 15 rfl rfl)
theorem dX12_price_42 : decode cX12_price 42 = .ok (.aload_n 0, 1) := dk_42 (dk_at dksX12_price_1 18 rfl rfl)
theorem dX12_price_43 : decode cX12_price 43 = .ok (.getfield 65, 3) := dk_180 0 65 (dk_at dksX12_price_1 19 rfl rfl)
theorem dX12_price_46 : decode cX12_price 46 = .ok (.iload_n 1, 1) := dk_27 (dk_at dksX12_price_1 22 rfl rfl)
theorem dX12_price_47 : decode cX12_price 47 = .ok (.iaload, 1) := dk_46 (dk_at dksX12_price_1 23 rfl rfl)
theorem dX12_price_48 : decode cX12_price 48 = .ok (.istore_n 3, 1) := dk_62 (dk_at dksX12_price_2 0 rfl rfl)
theorem dX12_price_49 : decode cX12_price 49 = .ok (.aload_n 0, 1) := dk_42 (dk_at dksX12_price_2 1 rfl rfl)
theorem dX12_price_50 : decode cX12_price 50 = .ok (.iload_n 1, 1) := dk_27 (dk_at dksX12_price_2 2 rfl rfl)
theorem dX12_price_51 : decode cX12_price 51 = .ok (.iload_n 2, 1) := dk_28 (dk_at dksX12_price_2 3 rfl rfl)
theorem dX12_price_52 : decode cX12_price 52 = .ok (.invokevirtual 455, 3) := dk_182 1 199 (dk_at dksX12_price_2 4 rfl rfl)
theorem dX12_price_55 : decode cX12_price 55 = .ok (.aload_n 0, 1) := dk_42 (dk_at dksX12_price_2 7 rfl rfl)
theorem dX12_price_56 : decode cX12_price 56 = .ok (.iload_n 2, 1) := dk_28 (dk_at dksX12_price_2 8 rfl rfl)
theorem dX12_price_57 : decode cX12_price 57 = .ok (.invokevirtual 419, 3) := dk_182 1 163 (dk_at dksX12_price_2 9 rfl rfl)
theorem dX12_price_60 : decode cX12_price 60 = .ok (.aload_n 0, 1) := dk_42 (dk_at dksX12_price_2 12 rfl rfl)
theorem dX12_price_61 : decode cX12_price 61 = .ok (.getfield 106, 3) := dk_180 0 106 (dk_at dksX12_price_2 13 rfl rfl)
theorem dX12_price_64 : decode cX12_price 64 = .ok (.iload_n 2, 1) := dk_28 (dk_at dksX12_price_2 16 rfl rfl)
theorem dX12_price_65 : decode cX12_price 65 = .ok (.laload, 1) := dk_47 (dk_at dksX12_price_2 17 rfl rfl)
theorem dX12_price_66 : decode cX12_price 66 = .ok (.lsub, 1) := dk_101 (dk_at dksX12_price_2 18 rfl rfl)
theorem dX12_price_67 : decode cX12_price 67 = .ok (.aload_n 0, 1) := dk_42 (dk_at dksX12_price_2 19 rfl rfl)
theorem dX12_price_68 : decode cX12_price 68 = .ok (.getfield 106, 3) := dk_180 0 106 (dk_at dksX12_price_2 20 rfl rfl)
theorem dX12_price_71 : decode cX12_price 71 = .ok (.iload_n 3, 1) := dk_29 (dk_at dksX12_price_2 23 rfl rfl)
theorem dX12_price_72 : decode cX12_price 72 = .ok (.laload, 1) := dk_47 (dk_at dksX12_price_3 0 rfl rfl)
theorem dX12_price_73 : decode cX12_price 73 = .ok (.aload_n 0, 1) := dk_42 (dk_at dksX12_price_3 1 rfl rfl)
theorem dX12_price_74 : decode cX12_price 74 = .ok (.iload_n 3, 1) := dk_29 (dk_at dksX12_price_3 2 rfl rfl)
theorem dX12_price_75 : decode cX12_price 75 = .ok (.invokevirtual 419, 3) := dk_182 1 163 (dk_at dksX12_price_3 3 rfl rfl)
theorem dX12_price_78 : decode cX12_price 78 = .ok (.lsub, 1) := dk_101 (dk_at dksX12_price_3 6 rfl rfl)
theorem dX12_price_79 : decode cX12_price 79 = .ok (.lsub, 1) := dk_101 (dk_at dksX12_price_3 7 rfl rfl)
theorem dX12_price_80 : decode cX12_price 80 = .ok (.lreturn, 1) := dk_173 (dk_at dksX12_price_3 8 rfl rfl)
abbrev cX12_swap : ByteArray := prog_27_method_104_code
def yX12_swap : MethodName := ⟨RX12, "swap", "(II)I"⟩
def dkwX12_swap_8 : List UInt8 := [21, 4, 96, 172, 132, 4, 1, 167, 255, 134, 132, 3, 1, 167, 255, 115, 2, 172]
abbrev dktX12_swap_8 : List UInt8 := dkwX12_swap_8 ++ []
def dkwX12_swap_7 : List UInt8 := [180, 0, 65, 29, 27, 79, 42, 180, 0, 65, 21, 4, 28, 79, 21, 5, 153, 0, 11, 16, 100, 29, 104]
abbrev dktX12_swap_7 : List UInt8 := dkwX12_swap_7 ++ dktX12_swap_8
def dkwX12_swap_6 : List UInt8 := [28, 182, 1, 163, 42, 180, 0, 106, 28, 47, 148, 158, 0, 7, 4, 167, 0, 4, 3, 54, 5, 42]
abbrev dktX12_swap_6 : List UInt8 := dkwX12_swap_6 ++ dktX12_swap_7
def dkwX12_swap_5 : List UInt8 := [21, 4, 27, 79, 42, 182, 1, 158, 42, 27, 182, 1, 163, 42, 180, 0, 106, 27, 47, 148, 158, 0, 22, 42]
abbrev dktX12_swap_5 : List UInt8 := dkwX12_swap_5 ++ dktX12_swap_6
def dkwX12_swap_4 : List UInt8 := [180, 0, 65, 21, 4, 46, 28, 159, 0, 6, 167, 0, 87, 42, 180, 0, 65, 29, 28, 79, 42, 180, 0, 65]
abbrev dktX12_swap_4 : List UInt8 := dkwX12_swap_4 ++ dktX12_swap_5
def dkwX12_swap_3 : List UInt8 := [21, 4, 42, 180, 0, 23, 6, 46, 162, 0, 117, 42, 180, 0, 65, 29, 46, 27, 160, 0, 101, 42]
abbrev dktX12_swap_3 : List UInt8 := dkwX12_swap_3 ++ dktX12_swap_4
def dkwX12_swap_2 : List UInt8 := [154, 0, 5, 3, 172, 42, 182, 1, 196, 3, 62, 29, 42, 180, 0, 23, 6, 46, 162, 0, 137, 3, 54, 4]
abbrev dktX12_swap_2 : List UInt8 := dkwX12_swap_2 ++ dktX12_swap_3
def dkwX12_swap_1 : List UInt8 := [4, 182, 1, 62, 153, 0, 22, 42, 27, 28, 159, 0, 7, 4, 167, 0, 4, 3, 5, 5, 182, 0, 226]
abbrev dktX12_swap_1 : List UInt8 := dkwX12_swap_1 ++ dktX12_swap_2
def dkwX12_swap_0 : List UInt8 := [42, 3, 181, 0, 1, 42, 6, 182, 1, 75, 153, 0, 40, 42, 27, 4, 182, 1, 62, 153, 0, 31, 42, 28]
abbrev dktX12_swap_0 : List UInt8 := dkwX12_swap_0 ++ dktX12_swap_1
theorem dksX12_swap_0 : cX12_swap.data.toList.drop 0 = dktX12_swap_0 := by decide +kernel
theorem dksX12_swap_1 : cX12_swap.data.toList.drop 24 = dktX12_swap_1 := dk_seg dksX12_swap_0 24 rfl rfl
theorem dksX12_swap_2 : cX12_swap.data.toList.drop 47 = dktX12_swap_2 := dk_seg dksX12_swap_1 23 rfl rfl
theorem dksX12_swap_3 : cX12_swap.data.toList.drop 71 = dktX12_swap_3 := dk_seg dksX12_swap_2 24 rfl rfl
theorem dksX12_swap_4 : cX12_swap.data.toList.drop 93 = dktX12_swap_4 := dk_seg dksX12_swap_3 22 rfl rfl
theorem dksX12_swap_5 : cX12_swap.data.toList.drop 117 = dktX12_swap_5 := dk_seg dksX12_swap_4 24 rfl rfl
theorem dksX12_swap_6 : cX12_swap.data.toList.drop 141 = dktX12_swap_6 := dk_seg dksX12_swap_5 24 rfl rfl
theorem dksX12_swap_7 : cX12_swap.data.toList.drop 163 = dktX12_swap_7 := dk_seg dksX12_swap_6 22 rfl rfl
theorem dksX12_swap_8 : cX12_swap.data.toList.drop 186 = dktX12_swap_8 := dk_seg dksX12_swap_7 23 rfl rfl
theorem dX12_swap_0 : decode cX12_swap 0 = .ok (.aload_n 0, 1) := dk_42 (dk_at dksX12_swap_0 0 rfl rfl)
theorem dX12_swap_1 : decode cX12_swap 1 = .ok (.iconst 0, 1) := dk_3 (dk_at dksX12_swap_0 1 rfl rfl)
theorem dX12_swap_2 : decode cX12_swap 2 = .ok (.putfield 1, 3) := dk_181 0 1 (dk_at dksX12_swap_0 2 rfl rfl)
theorem dX12_swap_5 : decode cX12_swap 5 = .ok (.aload_n 0, 1) := dk_42 (dk_at dksX12_swap_0 5 rfl rfl)
theorem dX12_swap_6 : decode cX12_swap 6 = .ok (.iconst 3, 1) := dk_6 (dk_at dksX12_swap_0 6 rfl rfl)
theorem dX12_swap_7 : decode cX12_swap 7 = .ok (.invokevirtual 331, 3) := dk_182 1 75 (dk_at dksX12_swap_0 7 rfl rfl)
theorem dX12_swap_10 : decode cX12_swap 10 = .ok (.ifCond .eq 40, 3) := dk_153 0 40 (dk_at dksX12_swap_0 10 rfl rfl)
theorem dX12_swap_13 : decode cX12_swap 13 = .ok (.aload_n 0, 1) := dk_42 (dk_at dksX12_swap_0 13 rfl rfl)
theorem dX12_swap_14 : decode cX12_swap 14 = .ok (.iload_n 1, 1) := dk_27 (dk_at dksX12_swap_0 14 rfl rfl)
theorem dX12_swap_15 : decode cX12_swap 15 = .ok (.iconst 1, 1) := dk_4 (dk_at dksX12_swap_0 15 rfl rfl)
theorem dX12_swap_16 : decode cX12_swap 16 = .ok (.invokevirtual 318, 3) := dk_182 1 62 (dk_at dksX12_swap_0 16 rfl rfl)
theorem dX12_swap_19 : decode cX12_swap 19 = .ok (.ifCond .eq 31, 3) := dk_153 0 31 (dk_at dksX12_swap_0 19 rfl rfl)
theorem dX12_swap_22 : decode cX12_swap 22 = .ok (.aload_n 0, 1) := dk_42 (dk_at dksX12_swap_0 22 rfl rfl)
theorem dX12_swap_23 : decode cX12_swap 23 = .ok (.iload_n 2, 1) := dk_28 (dk_at dksX12_swap_0 23 rfl rfl)
theorem dX12_swap_24 : decode cX12_swap 24 = .ok (.iconst 1, 1) := dk_4 (dk_at dksX12_swap_1 0 rfl rfl)
theorem dX12_swap_25 : decode cX12_swap 25 = .ok (.invokevirtual 318, 3) := dk_182 1 62 (dk_at dksX12_swap_1 1 rfl rfl)
theorem dX12_swap_28 : decode cX12_swap 28 = .ok (.ifCond .eq 22, 3) := dk_153 0 22 (dk_at dksX12_swap_1 4 rfl rfl)
theorem dX12_swap_31 : decode cX12_swap 31 = .ok (.aload_n 0, 1) := dk_42 (dk_at dksX12_swap_1 7 rfl rfl)
theorem dX12_swap_32 : decode cX12_swap 32 = .ok (.iload_n 1, 1) := dk_27 (dk_at dksX12_swap_1 8 rfl rfl)
theorem dX12_swap_33 : decode cX12_swap 33 = .ok (.iload_n 2, 1) := dk_28 (dk_at dksX12_swap_1 9 rfl rfl)
theorem dX12_swap_34 : decode cX12_swap 34 = .ok (.if_icmp .eq 7, 3) := dk_159 0 7 (dk_at dksX12_swap_1 10 rfl rfl)
theorem dX12_swap_37 : decode cX12_swap 37 = .ok (.iconst 1, 1) := dk_4 (dk_at dksX12_swap_1 13 rfl rfl)
theorem dX12_swap_38 : decode cX12_swap 38 = .ok (.goto 4, 3) := dk_167 0 4 (dk_at dksX12_swap_1 14 rfl rfl)
theorem dX12_swap_41 : decode cX12_swap 41 = .ok (.iconst 0, 1) := dk_3 (dk_at dksX12_swap_1 17 rfl rfl)
theorem dX12_swap_42 : decode cX12_swap 42 = .ok (.iconst 2, 1) := dk_5 (dk_at dksX12_swap_1 18 rfl rfl)
theorem dX12_swap_43 : decode cX12_swap 43 = .ok (.iconst 2, 1) := dk_5 (dk_at dksX12_swap_1 19 rfl rfl)
theorem dX12_swap_44 : decode cX12_swap 44 = .ok (.invokevirtual 226, 3) := dk_182 0 226 (dk_at dksX12_swap_1 20 rfl rfl)
theorem dX12_swap_47 : decode cX12_swap 47 = .ok (.ifCond .ne 5, 3) := dk_154 0 5 (dk_at dksX12_swap_2 0 rfl rfl)
theorem dX12_swap_50 : decode cX12_swap 50 = .ok (.iconst 0, 1) := dk_3 (dk_at dksX12_swap_2 3 rfl rfl)
theorem dX12_swap_51 : decode cX12_swap 51 = .ok (.ireturn, 1) := dk_172 (dk_at dksX12_swap_2 4 rfl rfl)
theorem dX12_swap_52 : decode cX12_swap 52 = .ok (.aload_n 0, 1) := dk_42 (dk_at dksX12_swap_2 5 rfl rfl)
theorem dX12_swap_53 : decode cX12_swap 53 = .ok (.invokevirtual 452, 3) := dk_182 1 196 (dk_at dksX12_swap_2 6 rfl rfl)
theorem dX12_swap_56 : decode cX12_swap 56 = .ok (.iconst 0, 1) := dk_3 (dk_at dksX12_swap_2 9 rfl rfl)
theorem dX12_swap_57 : decode cX12_swap 57 = .ok (.istore_n 3, 1) := dk_62 (dk_at dksX12_swap_2 10 rfl rfl)
theorem dX12_swap_58 : decode cX12_swap 58 = .ok (.iload_n 3, 1) := dk_29 (dk_at dksX12_swap_2 11 rfl rfl)
theorem dX12_swap_59 : decode cX12_swap 59 = .ok (.aload_n 0, 1) := dk_42 (dk_at dksX12_swap_2 12 rfl rfl)
theorem dX12_swap_60 : decode cX12_swap 60 = .ok (.getfield 23, 3) := dk_180 0 23 (dk_at dksX12_swap_2 13 rfl rfl)
theorem dX12_swap_63 : decode cX12_swap 63 = .ok (.iconst 3, 1) := dk_6 (dk_at dksX12_swap_2 16 rfl rfl)
theorem dX12_swap_64 : decode cX12_swap 64 = .ok (.iaload, 1) := dk_46 (dk_at dksX12_swap_2 17 rfl rfl)
theorem dX12_swap_65 : decode cX12_swap 65 = .ok (.if_icmp .ge 137, 3) := dk_162 0 137 (dk_at dksX12_swap_2 18 rfl rfl)
theorem dX12_swap_68 : decode cX12_swap 68 = .ok (.iconst 0, 1) := dk_3 (dk_at dksX12_swap_2 21 rfl rfl)
theorem dX12_swap_69 : decode cX12_swap 69 = .ok (.istore 4, 2) := dk_54 4 (dk_at dksX12_swap_2 22 rfl rfl)
theorem dX12_swap_71 : decode cX12_swap 71 = .ok (.iload 4, 2) := dk_21 4 (dk_at dksX12_swap_3 0 rfl rfl)
theorem dX12_swap_73 : decode cX12_swap 73 = .ok (.aload_n 0, 1) := dk_42 (dk_at dksX12_swap_3 2 rfl rfl)
theorem dX12_swap_74 : decode cX12_swap 74 = .ok (.getfield 23, 3) := dk_180 0 23 (dk_at dksX12_swap_3 3 rfl rfl)
theorem dX12_swap_77 : decode cX12_swap 77 = .ok (.iconst 3, 1) := dk_6 (dk_at dksX12_swap_3 6 rfl rfl)
theorem dX12_swap_78 : decode cX12_swap 78 = .ok (.iaload, 1) := dk_46 (dk_at dksX12_swap_3 7 rfl rfl)
theorem dX12_swap_79 : decode cX12_swap 79 = .ok (.if_icmp .ge 117, 3) := dk_162 0 117 (dk_at dksX12_swap_3 8 rfl rfl)
theorem dX12_swap_82 : decode cX12_swap 82 = .ok (.aload_n 0, 1) := dk_42 (dk_at dksX12_swap_3 11 rfl rfl)
theorem dX12_swap_83 : decode cX12_swap 83 = .ok (.getfield 65, 3) := dk_180 0 65 (dk_at dksX12_swap_3 12 rfl rfl)
theorem dX12_swap_86 : decode cX12_swap 86 = .ok (.iload_n 3, 1) := dk_29 (dk_at dksX12_swap_3 15 rfl rfl)
theorem dX12_swap_87 : decode cX12_swap 87 = .ok (.iaload, 1) := dk_46 (dk_at dksX12_swap_3 16 rfl rfl)
theorem dX12_swap_88 : decode cX12_swap 88 = .ok (.iload_n 1, 1) := dk_27 (dk_at dksX12_swap_3 17 rfl rfl)
theorem dX12_swap_89 : decode cX12_swap 89 = .ok (.if_icmp .ne 101, 3) := dk_160 0 101 (dk_at dksX12_swap_3 18 rfl rfl)
theorem dX12_swap_92 : decode cX12_swap 92 = .ok (.aload_n 0, 1) := dk_42 (dk_at dksX12_swap_3 21 rfl rfl)
theorem dX12_swap_93 : decode cX12_swap 93 = .ok (.getfield 65, 3) := dk_180 0 65 (dk_at dksX12_swap_4 0 rfl rfl)
theorem dX12_swap_96 : decode cX12_swap 96 = .ok (.iload 4, 2) := dk_21 4 (dk_at dksX12_swap_4 3 rfl rfl)
theorem dX12_swap_98 : decode cX12_swap 98 = .ok (.iaload, 1) := dk_46 (dk_at dksX12_swap_4 5 rfl rfl)
theorem dX12_swap_99 : decode cX12_swap 99 = .ok (.iload_n 2, 1) := dk_28 (dk_at dksX12_swap_4 6 rfl rfl)
theorem dX12_swap_100 : decode cX12_swap 100 = .ok (.if_icmp .eq 6, 3) := dk_159 0 6 (dk_at dksX12_swap_4 7 rfl rfl)
theorem dX12_swap_103 : decode cX12_swap 103 = .ok (.goto 87, 3) := dk_167 0 87 (dk_at dksX12_swap_4 10 rfl rfl)
theorem dX12_swap_106 : decode cX12_swap 106 = .ok (.aload_n 0, 1) := dk_42 (dk_at dksX12_swap_4 13 rfl rfl)
theorem dX12_swap_107 : decode cX12_swap 107 = .ok (.getfield 65, 3) := dk_180 0 65 (dk_at dksX12_swap_4 14 rfl rfl)
theorem dX12_swap_110 : decode cX12_swap 110 = .ok (.iload_n 3, 1) := dk_29 (dk_at dksX12_swap_4 17 rfl rfl)
theorem dX12_swap_111 : decode cX12_swap 111 = .ok (.iload_n 2, 1) := dk_28 (dk_at dksX12_swap_4 18 rfl rfl)
theorem dX12_swap_112 : decode cX12_swap 112 = .ok (.iastore, 1) := dk_79 (dk_at dksX12_swap_4 19 rfl rfl)
theorem dX12_swap_113 : decode cX12_swap 113 = .ok (.aload_n 0, 1) := dk_42 (dk_at dksX12_swap_4 20 rfl rfl)
theorem dX12_swap_114 : decode cX12_swap 114 = .ok (.getfield 65, 3) := dk_180 0 65 (dk_at dksX12_swap_4 21 rfl rfl)
theorem dX12_swap_117 : decode cX12_swap 117 = .ok (.iload 4, 2) := dk_21 4 (dk_at dksX12_swap_5 0 rfl rfl)
theorem dX12_swap_119 : decode cX12_swap 119 = .ok (.iload_n 1, 1) := dk_27 (dk_at dksX12_swap_5 2 rfl rfl)
theorem dX12_swap_120 : decode cX12_swap 120 = .ok (.iastore, 1) := dk_79 (dk_at dksX12_swap_5 3 rfl rfl)
theorem dX12_swap_121 : decode cX12_swap 121 = .ok (.aload_n 0, 1) := dk_42 (dk_at dksX12_swap_5 4 rfl rfl)
theorem dX12_swap_122 : decode cX12_swap 122 = .ok (.invokevirtual 414, 3) := dk_182 1 158 (dk_at dksX12_swap_5 5 rfl rfl)
theorem dX12_swap_125 : decode cX12_swap 125 = .ok (.aload_n 0, 1) := dk_42 (dk_at dksX12_swap_5 8 rfl rfl)
theorem dX12_swap_126 : decode cX12_swap 126 = .ok (.iload_n 1, 1) := dk_27 (dk_at dksX12_swap_5 9 rfl rfl)
theorem dX12_swap_127 : decode cX12_swap 127 = .ok (.invokevirtual 419, 3) := dk_182 1 163 (dk_at dksX12_swap_5 10 rfl rfl)
theorem dX12_swap_130 : decode cX12_swap 130 = .ok (.aload_n 0, 1) := dk_42 (dk_at dksX12_swap_5 13 rfl rfl)
theorem dX12_swap_131 : decode cX12_swap 131 = .ok (.getfield 106, 3) := dk_180 0 106 (dk_at dksX12_swap_5 14 rfl rfl)
theorem dX12_swap_134 : decode cX12_swap 134 = .ok (.iload_n 1, 1) := dk_27 (dk_at dksX12_swap_5 17 rfl rfl)
theorem dX12_swap_135 : decode cX12_swap 135 = .ok (.laload, 1) := dk_47 (dk_at dksX12_swap_5 18 rfl rfl)
theorem dX12_swap_136 : decode cX12_swap 136 = .ok (.lcmp, 1) := dk_148 (dk_at dksX12_swap_5 19 rfl rfl)
theorem dX12_swap_137 : decode cX12_swap 137 = .ok (.ifCond .le 22, 3) := dk_158 0 22 (dk_at dksX12_swap_5 20 rfl rfl)
theorem dX12_swap_140 : decode cX12_swap 140 = .ok (.aload_n 0, 1) := dk_42 (dk_at dksX12_swap_5 23 rfl rfl)
theorem dX12_swap_141 : decode cX12_swap 141 = .ok (.iload_n 2, 1) := dk_28 (dk_at dksX12_swap_6 0 rfl rfl)
theorem dX12_swap_142 : decode cX12_swap 142 = .ok (.invokevirtual 419, 3) := dk_182 1 163 (dk_at dksX12_swap_6 1 rfl rfl)
theorem dX12_swap_145 : decode cX12_swap 145 = .ok (.aload_n 0, 1) := dk_42 (dk_at dksX12_swap_6 4 rfl rfl)
theorem dX12_swap_146 : decode cX12_swap 146 = .ok (.getfield 106, 3) := dk_180 0 106 (dk_at dksX12_swap_6 5 rfl rfl)
theorem dX12_swap_149 : decode cX12_swap 149 = .ok (.iload_n 2, 1) := dk_28 (dk_at dksX12_swap_6 8 rfl rfl)
theorem dX12_swap_150 : decode cX12_swap 150 = .ok (.laload, 1) := dk_47 (dk_at dksX12_swap_6 9 rfl rfl)
theorem dX12_swap_151 : decode cX12_swap 151 = .ok (.lcmp, 1) := dk_148 (dk_at dksX12_swap_6 10 rfl rfl)
theorem dX12_swap_152 : decode cX12_swap 152 = .ok (.ifCond .le 7, 3) := dk_158 0 7 (dk_at dksX12_swap_6 11 rfl rfl)
theorem dX12_swap_155 : decode cX12_swap 155 = .ok (.iconst 1, 1) := dk_4 (dk_at dksX12_swap_6 14 rfl rfl)
theorem dX12_swap_156 : decode cX12_swap 156 = .ok (.goto 4, 3) := dk_167 0 4 (dk_at dksX12_swap_6 15 rfl rfl)
theorem dX12_swap_159 : decode cX12_swap 159 = .ok (.iconst 0, 1) := dk_3 (dk_at dksX12_swap_6 18 rfl rfl)
theorem dX12_swap_160 : decode cX12_swap 160 = .ok (.istore 5, 2) := dk_54 5 (dk_at dksX12_swap_6 19 rfl rfl)
theorem dX12_swap_162 : decode cX12_swap 162 = .ok (.aload_n 0, 1) := dk_42 (dk_at dksX12_swap_6 21 rfl rfl)
theorem dX12_swap_163 : decode cX12_swap 163 = .ok (.getfield 65, 3) := dk_180 0 65 (dk_at dksX12_swap_7 0 rfl rfl)
theorem dX12_swap_166 : decode cX12_swap 166 = .ok (.iload_n 3, 1) := dk_29 (dk_at dksX12_swap_7 3 rfl rfl)
theorem dX12_swap_167 : decode cX12_swap 167 = .ok (.iload_n 1, 1) := dk_27 (dk_at dksX12_swap_7 4 rfl rfl)
theorem dX12_swap_168 : decode cX12_swap 168 = .ok (.iastore, 1) := dk_79 (dk_at dksX12_swap_7 5 rfl rfl)
theorem dX12_swap_169 : decode cX12_swap 169 = .ok (.aload_n 0, 1) := dk_42 (dk_at dksX12_swap_7 6 rfl rfl)
theorem dX12_swap_170 : decode cX12_swap 170 = .ok (.getfield 65, 3) := dk_180 0 65 (dk_at dksX12_swap_7 7 rfl rfl)
theorem dX12_swap_173 : decode cX12_swap 173 = .ok (.iload 4, 2) := dk_21 4 (dk_at dksX12_swap_7 10 rfl rfl)
theorem dX12_swap_175 : decode cX12_swap 175 = .ok (.iload_n 2, 1) := dk_28 (dk_at dksX12_swap_7 12 rfl rfl)
theorem dX12_swap_176 : decode cX12_swap 176 = .ok (.iastore, 1) := dk_79 (dk_at dksX12_swap_7 13 rfl rfl)
theorem dX12_swap_177 : decode cX12_swap 177 = .ok (.iload 5, 2) := dk_21 5 (dk_at dksX12_swap_7 14 rfl rfl)
theorem dX12_swap_179 : decode cX12_swap 179 = .ok (.ifCond .eq 11, 3) := dk_153 0 11 (dk_at dksX12_swap_7 16 rfl rfl)
theorem dX12_swap_182 : decode cX12_swap 182 = .ok (.bipush 100, 2) := dk_16 100 (dk_at dksX12_swap_7 19 rfl rfl)
theorem dX12_swap_184 : decode cX12_swap 184 = .ok (.iload_n 3, 1) := dk_29 (dk_at dksX12_swap_7 21 rfl rfl)
theorem dX12_swap_185 : decode cX12_swap 185 = .ok (.imul, 1) := dk_104 (dk_at dksX12_swap_7 22 rfl rfl)
theorem dX12_swap_186 : decode cX12_swap 186 = .ok (.iload 4, 2) := dk_21 4 (dk_at dksX12_swap_8 0 rfl rfl)
theorem dX12_swap_188 : decode cX12_swap 188 = .ok (.iadd, 1) := dk_96 (dk_at dksX12_swap_8 2 rfl rfl)
theorem dX12_swap_189 : decode cX12_swap 189 = .ok (.ireturn, 1) := dk_172 (dk_at dksX12_swap_8 3 rfl rfl)
theorem dX12_swap_190 : decode cX12_swap 190 = .ok (.iinc 4 1, 3) := dk_132 4 1 (dk_at dksX12_swap_8 4 rfl rfl)
theorem dX12_swap_193 : decode cX12_swap 193 = .ok (.goto (-122), 3) := dk_167 255 134 (dk_at dksX12_swap_8 7 rfl rfl)
theorem dX12_swap_196 : decode cX12_swap 196 = .ok (.iinc 3 1, 3) := dk_132 3 1 (dk_at dksX12_swap_8 10 rfl rfl)
theorem dX12_swap_199 : decode cX12_swap 199 = .ok (.goto (-141), 3) := dk_167 255 115 (dk_at dksX12_swap_8 13 rfl rfl)
theorem dX12_swap_202 : decode cX12_swap 202 = .ok (.iconst (-1), 1) := dk_2 (dk_at dksX12_swap_8 16 rfl rfl)
theorem dX12_swap_203 : decode cX12_swap 203 = .ok (.ireturn, 1) := dk_172 (dk_at dksX12_swap_8 17 rfl rfl)
abbrev cX12_order : ByteArray := prog_27_method_106_code
def yX12_order : MethodName := ⟨RX12, "order", "(I)I"⟩
def dkwX12_order_1 : List UInt8 := [42, 182, 1, 155, 42, 2, 181, 1, 205, 42, 3, 3, 3, 27, 182, 1, 212, 42, 180, 1, 205, 172]
abbrev dktX12_order_1 : List UInt8 := dkwX12_order_1 ++ []
def dkwX12_order_0 : List UInt8 := [42, 3, 181, 0, 1, 42, 5, 182, 1, 75, 153, 0, 12, 42, 27, 4, 182, 1, 72, 154, 0, 5, 3, 172]
abbrev dktX12_order_0 : List UInt8 := dkwX12_order_0 ++ dktX12_order_1
theorem dksX12_order_0 : cX12_order.data.toList.drop 0 = dktX12_order_0 := by decide +kernel
theorem dksX12_order_1 : cX12_order.data.toList.drop 24 = dktX12_order_1 := dk_seg dksX12_order_0 24 rfl rfl
theorem dX12_order_0 : decode cX12_order 0 = .ok (.aload_n 0, 1) := dk_42 (dk_at dksX12_order_0 0 rfl rfl)
theorem dX12_order_1 : decode cX12_order 1 = .ok (.iconst 0, 1) := dk_3 (dk_at dksX12_order_0 1 rfl rfl)
theorem dX12_order_2 : decode cX12_order 2 = .ok (.putfield 1, 3) := dk_181 0 1 (dk_at dksX12_order_0 2 rfl rfl)
theorem dX12_order_5 : decode cX12_order 5 = .ok (.aload_n 0, 1) := dk_42 (dk_at dksX12_order_0 5 rfl rfl)
theorem dX12_order_6 : decode cX12_order 6 = .ok (.iconst 2, 1) := dk_5 (dk_at dksX12_order_0 6 rfl rfl)
theorem dX12_order_7 : decode cX12_order 7 = .ok (.invokevirtual 331, 3) := dk_182 1 75 (dk_at dksX12_order_0 7 rfl rfl)
theorem dX12_order_10 : decode cX12_order 10 = .ok (.ifCond .eq 12, 3) := dk_153 0 12 (dk_at dksX12_order_0 10 rfl rfl)
theorem dX12_order_13 : decode cX12_order 13 = .ok (.aload_n 0, 1) := dk_42 (dk_at dksX12_order_0 13 rfl rfl)
theorem dX12_order_14 : decode cX12_order 14 = .ok (.iload_n 1, 1) := dk_27 (dk_at dksX12_order_0 14 rfl rfl)
theorem dX12_order_15 : decode cX12_order 15 = .ok (.iconst 1, 1) := dk_4 (dk_at dksX12_order_0 15 rfl rfl)
theorem dX12_order_16 : decode cX12_order 16 = .ok (.invokevirtual 328, 3) := dk_182 1 72 (dk_at dksX12_order_0 16 rfl rfl)
theorem dX12_order_19 : decode cX12_order 19 = .ok (.ifCond .ne 5, 3) := dk_154 0 5 (dk_at dksX12_order_0 19 rfl rfl)
theorem dX12_order_22 : decode cX12_order 22 = .ok (.iconst 0, 1) := dk_3 (dk_at dksX12_order_0 22 rfl rfl)
theorem dX12_order_23 : decode cX12_order 23 = .ok (.ireturn, 1) := dk_172 (dk_at dksX12_order_0 23 rfl rfl)
theorem dX12_order_24 : decode cX12_order 24 = .ok (.aload_n 0, 1) := dk_42 (dk_at dksX12_order_1 0 rfl rfl)
theorem dX12_order_25 : decode cX12_order 25 = .ok (.invokevirtual 411, 3) := dk_182 1 155 (dk_at dksX12_order_1 1 rfl rfl)
theorem dX12_order_28 : decode cX12_order 28 = .ok (.aload_n 0, 1) := dk_42 (dk_at dksX12_order_1 4 rfl rfl)
theorem dX12_order_29 : decode cX12_order 29 = .ok (.iconst (-1), 1) := dk_2 (dk_at dksX12_order_1 5 rfl rfl)
theorem dX12_order_30 : decode cX12_order 30 = .ok (.putfield 461, 3) := dk_181 1 205 (dk_at dksX12_order_1 6 rfl rfl)
theorem dX12_order_33 : decode cX12_order 33 = .ok (.aload_n 0, 1) := dk_42 (dk_at dksX12_order_1 9 rfl rfl)
theorem dX12_order_34 : decode cX12_order 34 = .ok (.iconst 0, 1) := dk_3 (dk_at dksX12_order_1 10 rfl rfl)
theorem dX12_order_35 : decode cX12_order 35 = .ok (.iconst 0, 1) := dk_3 (dk_at dksX12_order_1 11 rfl rfl)
theorem dX12_order_36 : decode cX12_order 36 = .ok (.iconst 0, 1) := dk_3 (dk_at dksX12_order_1 12 rfl rfl)
theorem dX12_order_37 : decode cX12_order 37 = .ok (.iload_n 1, 1) := dk_27 (dk_at dksX12_order_1 13 rfl rfl)
theorem dX12_order_38 : decode cX12_order 38 = .ok (.invokevirtual 468, 3) := dk_182 1 212 (dk_at dksX12_order_1 14 rfl rfl)
theorem dX12_order_41 : decode cX12_order 41 = .ok (.aload_n 0, 1) := dk_42 (dk_at dksX12_order_1 17 rfl rfl)
theorem dX12_order_42 : decode cX12_order 42 = .ok (.getfield 461, 3) := dk_180 1 205 (dk_at dksX12_order_1 18 rfl rfl)
theorem dX12_order_45 : decode cX12_order 45 = .ok (.ireturn, 1) := dk_172 (dk_at dksX12_order_1 21 rfl rfl)
abbrev cX12_orders : ByteArray := prog_27_method_105_code
def yX12_orders : MethodName := ⟨RX12, "orders", "(IIII)V"⟩
def dkwX12_orders_8 : List UInt8 := [177]
abbrev dktX12_orders_8 : List UInt8 := dkwX12_orders_8 ++ []
def dkwX12_orders_7 : List UInt8 := [28, 4, 21, 6, 120, 128, 16, 10, 29, 104, 21, 6, 96, 21, 4, 182, 1, 212, 132, 6, 1, 167, 255, 203]
abbrev dktX12_orders_7 : List UInt8 := dkwX12_orders_7 ++ dktX12_orders_8
def dkwX12_orders_6 : List UInt8 := [21, 6, 122, 4, 126, 4, 160, 0, 6, 167, 0, 33, 42, 180, 0, 109, 27, 21, 6, 79, 42, 27, 4, 96]
abbrev dktX12_orders_6 : List UInt8 := dkwX12_orders_6 ++ dktX12_orders_7
def dkwX12_orders_5 : List UInt8 := [42, 29, 181, 1, 205, 42, 22, 6, 181, 1, 208, 177, 3, 54, 6, 21, 6, 21, 5, 162, 0, 52, 28]
abbrev dktX12_orders_5 : List UInt8 := dkwX12_orders_5 ++ dktX12_orders_6
def dkwX12_orders_4 : List UInt8 := [182, 1, 202, 55, 6, 42, 180, 1, 205, 2, 159, 0, 14, 22, 6, 42, 180, 1, 208, 148, 157, 0, 4, 177]
abbrev dktX12_orders_4 : List UInt8 := dkwX12_orders_4 ++ dktX12_orders_5
def dkwX12_orders_3 : List UInt8 := [16, 53, 46, 108, 21, 5, 112, 46, 79, 132, 6, 1, 167, 255, 190, 42, 182, 1, 158, 42, 21, 4]
abbrev dktX12_orders_3 : List UInt8 := dkwX12_orders_3 ++ dktX12_orders_4
def dkwX12_orders_2 : List UInt8 := [42, 180, 0, 59, 16, 29, 21, 6, 96, 46, 167, 0, 21, 42, 180, 0, 109, 21, 6, 42, 180, 0, 59]
abbrev dktX12_orders_2 : List UInt8 := dkwX12_orders_2 ++ dktX12_orders_3
def dkwX12_orders_1 : List UInt8 := [46, 162, 0, 61, 42, 180, 0, 65, 21, 6, 42, 180, 0, 59, 16, 29, 21, 6, 96, 46, 2, 159, 0, 16]
abbrev dktX12_orders_1 : List UInt8 := dkwX12_orders_1 ++ dktX12_orders_2
def dkwX12_orders_0 : List UInt8 := [42, 180, 0, 23, 5, 46, 54, 5, 27, 21, 5, 160, 0, 118, 3, 54, 6, 21, 6, 42, 180, 0, 23, 6]
abbrev dktX12_orders_0 : List UInt8 := dkwX12_orders_0 ++ dktX12_orders_1
theorem dksX12_orders_0 : cX12_orders.data.toList.drop 0 = dktX12_orders_0 := by decide +kernel
theorem dksX12_orders_1 : cX12_orders.data.toList.drop 24 = dktX12_orders_1 := dk_seg dksX12_orders_0 24 rfl rfl
theorem dksX12_orders_2 : cX12_orders.data.toList.drop 48 = dktX12_orders_2 := dk_seg dksX12_orders_1 24 rfl rfl
theorem dksX12_orders_3 : cX12_orders.data.toList.drop 71 = dktX12_orders_3 := dk_seg dksX12_orders_2 23 rfl rfl
theorem dksX12_orders_4 : cX12_orders.data.toList.drop 93 = dktX12_orders_4 := dk_seg dksX12_orders_3 22 rfl rfl
theorem dksX12_orders_5 : cX12_orders.data.toList.drop 117 = dktX12_orders_5 := dk_seg dksX12_orders_4 24 rfl rfl
theorem dksX12_orders_6 : cX12_orders.data.toList.drop 140 = dktX12_orders_6 := dk_seg dksX12_orders_5 23 rfl rfl
theorem dksX12_orders_7 : cX12_orders.data.toList.drop 164 = dktX12_orders_7 := dk_seg dksX12_orders_6 24 rfl rfl
theorem dksX12_orders_8 : cX12_orders.data.toList.drop 188 = dktX12_orders_8 := dk_seg dksX12_orders_7 24 rfl rfl
theorem dX12_orders_0 : decode cX12_orders 0 = .ok (.aload_n 0, 1) := dk_42 (dk_at dksX12_orders_0 0 rfl rfl)
theorem dX12_orders_1 : decode cX12_orders 1 = .ok (.getfield 23, 3) := dk_180 0 23 (dk_at dksX12_orders_0 1 rfl rfl)
theorem dX12_orders_4 : decode cX12_orders 4 = .ok (.iconst 2, 1) := dk_5 (dk_at dksX12_orders_0 4 rfl rfl)
theorem dX12_orders_5 : decode cX12_orders 5 = .ok (.iaload, 1) := dk_46 (dk_at dksX12_orders_0 5 rfl rfl)
theorem dX12_orders_6 : decode cX12_orders 6 = .ok (.istore 5, 2) := dk_54 5 (dk_at dksX12_orders_0 6 rfl rfl)
theorem dX12_orders_8 : decode cX12_orders 8 = .ok (.iload_n 1, 1) := dk_27 (dk_at dksX12_orders_0 8 rfl rfl)
theorem dX12_orders_9 : decode cX12_orders 9 = .ok (.iload 5, 2) := dk_21 5 (dk_at dksX12_orders_0 9 rfl rfl)
theorem dX12_orders_11 : decode cX12_orders 11 = .ok (.if_icmp .ne 118, 3) := dk_160 0 118 (dk_at dksX12_orders_0 11 rfl rfl)
theorem dX12_orders_14 : decode cX12_orders 14 = .ok (.iconst 0, 1) := dk_3 (dk_at dksX12_orders_0 14 rfl rfl)
theorem dX12_orders_15 : decode cX12_orders 15 = .ok (.istore 6, 2) := dk_54 6 (dk_at dksX12_orders_0 15 rfl rfl)
theorem dX12_orders_17 : decode cX12_orders 17 = .ok (.iload 6, 2) := dk_21 6 (dk_at dksX12_orders_0 17 rfl rfl)
theorem dX12_orders_19 : decode cX12_orders 19 = .ok (.aload_n 0, 1) := dk_42 (dk_at dksX12_orders_0 19 rfl rfl)
theorem dX12_orders_20 : decode cX12_orders 20 = .ok (.getfield 23, 3) := dk_180 0 23 (dk_at dksX12_orders_0 20 rfl rfl)
theorem dX12_orders_23 : decode cX12_orders 23 = .ok (.iconst 3, 1) := dk_6 (dk_at dksX12_orders_0 23 rfl rfl)
theorem dX12_orders_24 : decode cX12_orders 24 = .ok (.iaload, 1) := dk_46 (dk_at dksX12_orders_1 0 rfl rfl)
theorem dX12_orders_25 : decode cX12_orders 25 = .ok (.if_icmp .ge 61, 3) := dk_162 0 61 (dk_at dksX12_orders_1 1 rfl rfl)
theorem dX12_orders_28 : decode cX12_orders 28 = .ok (.aload_n 0, 1) := dk_42 (dk_at dksX12_orders_1 4 rfl rfl)
theorem dX12_orders_29 : decode cX12_orders 29 = .ok (.getfield 65, 3) := dk_180 0 65 (dk_at dksX12_orders_1 5 rfl rfl)
theorem dX12_orders_32 : decode cX12_orders 32 = .ok (.iload 6, 2) := dk_21 6 (dk_at dksX12_orders_1 8 rfl rfl)
theorem dX12_orders_34 : decode cX12_orders 34 = .ok (.aload_n 0, 1) := dk_42 (dk_at dksX12_orders_1 10 rfl rfl)
theorem dX12_orders_35 : decode cX12_orders 35 = .ok (.getfield 59, 3) := dk_180 0 59 (dk_at dksX12_orders_1 11 rfl rfl)
theorem dX12_orders_38 : decode cX12_orders 38 = .ok (.bipush 29, 2) := dk_16 29 (dk_at dksX12_orders_1 14 rfl rfl)
theorem dX12_orders_40 : decode cX12_orders 40 = .ok (.iload 6, 2) := dk_21 6 (dk_at dksX12_orders_1 16 rfl rfl)
theorem dX12_orders_42 : decode cX12_orders 42 = .ok (.iadd, 1) := dk_96 (dk_at dksX12_orders_1 18 rfl rfl)
theorem dX12_orders_43 : decode cX12_orders 43 = .ok (.iaload, 1) := dk_46 (dk_at dksX12_orders_1 19 rfl rfl)
theorem dX12_orders_44 : decode cX12_orders 44 = .ok (.iconst (-1), 1) := dk_2 (dk_at dksX12_orders_1 20 rfl rfl)
theorem dX12_orders_45 : decode cX12_orders 45 = .ok (.if_icmp .eq 16, 3) := dk_159 0 16 (dk_at dksX12_orders_1 21 rfl rfl)
theorem dX12_orders_48 : decode cX12_orders 48 = .ok (.aload_n 0, 1) := dk_42 (dk_at dksX12_orders_2 0 rfl rfl)
theorem dX12_orders_49 : decode cX12_orders 49 = .ok (.getfield 59, 3) := dk_180 0 59 (dk_at dksX12_orders_2 1 rfl rfl)
theorem dX12_orders_52 : decode cX12_orders 52 = .ok (.bipush 29, 2) := dk_16 29 (dk_at dksX12_orders_2 4 rfl rfl)
theorem dX12_orders_54 : decode cX12_orders 54 = .ok (.iload 6, 2) := dk_21 6 (dk_at dksX12_orders_2 6 rfl rfl)
theorem dX12_orders_56 : decode cX12_orders 56 = .ok (.iadd, 1) := dk_96 (dk_at dksX12_orders_2 8 rfl rfl)
theorem dX12_orders_57 : decode cX12_orders 57 = .ok (.iaload, 1) := dk_46 (dk_at dksX12_orders_2 9 rfl rfl)
theorem dX12_orders_58 : decode cX12_orders 58 = .ok (.goto 21, 3) := dk_167 0 21 (dk_at dksX12_orders_2 10 rfl rfl)
theorem dX12_orders_61 : decode cX12_orders 61 = .ok (.aload_n 0, 1) := dk_42 (dk_at dksX12_orders_2 13 rfl rfl)
theorem dX12_orders_62 : decode cX12_orders 62 = .ok (.getfield 109, 3) := dk_180 0 109 (dk_at dksX12_orders_2 14 rfl rfl)
theorem dX12_orders_65 : decode cX12_orders 65 = .ok (.iload 6, 2) := dk_21 6 (dk_at dksX12_orders_2 17 rfl rfl)
theorem dX12_orders_67 : decode cX12_orders 67 = .ok (.aload_n 0, 1) := dk_42 (dk_at dksX12_orders_2 19 rfl rfl)
theorem dX12_orders_68 : decode cX12_orders 68 = .ok (.getfield 59, 3) := dk_180 0 59 (dk_at dksX12_orders_2 20 rfl rfl)
theorem dX12_orders_71 : decode cX12_orders 71 = .ok (.bipush 53, 2) := dk_16 53 (dk_at dksX12_orders_3 0 rfl rfl)
theorem dX12_orders_73 : decode cX12_orders 73 = .ok (.iaload, 1) := dk_46 (dk_at dksX12_orders_3 2 rfl rfl)
theorem dX12_orders_74 : decode cX12_orders 74 = .ok (.idiv, 1) := dk_108 (dk_at dksX12_orders_3 3 rfl rfl)
theorem dX12_orders_75 : decode cX12_orders 75 = .ok (.iload 5, 2) := dk_21 5 (dk_at dksX12_orders_3 4 rfl rfl)
theorem dX12_orders_77 : decode cX12_orders 77 = .ok (.irem, 1) := dk_112 (dk_at dksX12_orders_3 6 rfl rfl)
theorem dX12_orders_78 : decode cX12_orders 78 = .ok (.iaload, 1) := dk_46 (dk_at dksX12_orders_3 7 rfl rfl)
theorem dX12_orders_79 : decode cX12_orders 79 = .ok (.iastore, 1) := dk_79 (dk_at dksX12_orders_3 8 rfl rfl)
theorem dX12_orders_80 : decode cX12_orders 80 = .ok (.iinc 6 1, 3) := dk_132 6 1 (dk_at dksX12_orders_3 9 rfl rfl)
theorem dX12_orders_83 : decode cX12_orders 83 = .ok (.goto (-66), 3) := dk_167 255 190 (dk_at dksX12_orders_3 12 rfl rfl)
theorem dX12_orders_86 : decode cX12_orders 86 = .ok (.aload_n 0, 1) := dk_42 (dk_at dksX12_orders_3 15 rfl rfl)
theorem dX12_orders_87 : decode cX12_orders 87 = .ok (.invokevirtual 414, 3) := dk_182 1 158 (dk_at dksX12_orders_3 16 rfl rfl)
theorem dX12_orders_90 : decode cX12_orders 90 = .ok (.aload_n 0, 1) := dk_42 (dk_at dksX12_orders_3 19 rfl rfl)
theorem dX12_orders_91 : decode cX12_orders 91 = .ok (.iload 4, 2) := dk_21 4 (dk_at dksX12_orders_3 20 rfl rfl)
theorem dX12_orders_93 : decode cX12_orders 93 = .ok (.invokevirtual 458, 3) := dk_182 1 202 (dk_at dksX12_orders_4 0 rfl rfl)
theorem dX12_orders_96 : decode cX12_orders 96 = .ok (.lstore 6, 2) := dk_55 6 (dk_at dksX12_orders_4 3 rfl rfl)
theorem dX12_orders_98 : decode cX12_orders 98 = .ok (.aload_n 0, 1) := dk_42 (dk_at dksX12_orders_4 5 rfl rfl)
theorem dX12_orders_99 : decode cX12_orders 99 = .ok (.getfield 461, 3) := dk_180 1 205 (dk_at dksX12_orders_4 6 rfl rfl)
theorem dX12_orders_102 : decode cX12_orders 102 = .ok (.iconst (-1), 1) := dk_2 (dk_at dksX12_orders_4 9 rfl rfl)
theorem dX12_orders_103 : decode cX12_orders 103 = .ok (.if_icmp .eq 14, 3) := dk_159 0 14 (dk_at dksX12_orders_4 10 rfl rfl)
theorem dX12_orders_106 : decode cX12_orders 106 = .ok (.lload 6, 2) := dk_22 6 (dk_at dksX12_orders_4 13 rfl rfl)
theorem dX12_orders_108 : decode cX12_orders 108 = .ok (.aload_n 0, 1) := dk_42 (dk_at dksX12_orders_4 15 rfl rfl)
theorem dX12_orders_109 : decode cX12_orders 109 = .ok (.getfield 464, 3) := dk_180 1 208 (dk_at dksX12_orders_4 16 rfl rfl)
theorem dX12_orders_112 : decode cX12_orders 112 = .ok (.lcmp, 1) := dk_148 (dk_at dksX12_orders_4 19 rfl rfl)
theorem dX12_orders_113 : decode cX12_orders 113 = .ok (.ifCond .gt 4, 3) := dk_157 0 4 (dk_at dksX12_orders_4 20 rfl rfl)
theorem dX12_orders_116 : decode cX12_orders 116 = .ok (.return_, 1) := dk_177 (dk_at dksX12_orders_4 23 rfl rfl)
theorem dX12_orders_117 : decode cX12_orders 117 = .ok (.aload_n 0, 1) := dk_42 (dk_at dksX12_orders_5 0 rfl rfl)
theorem dX12_orders_118 : decode cX12_orders 118 = .ok (.iload_n 3, 1) := dk_29 (dk_at dksX12_orders_5 1 rfl rfl)
theorem dX12_orders_119 : decode cX12_orders 119 = .ok (.putfield 461, 3) := dk_181 1 205 (dk_at dksX12_orders_5 2 rfl rfl)
theorem dX12_orders_122 : decode cX12_orders 122 = .ok (.aload_n 0, 1) := dk_42 (dk_at dksX12_orders_5 5 rfl rfl)
theorem dX12_orders_123 : decode cX12_orders 123 = .ok (.lload 6, 2) := dk_22 6 (dk_at dksX12_orders_5 6 rfl rfl)
theorem dX12_orders_125 : decode cX12_orders 125 = .ok (.putfield 464, 3) := dk_181 1 208 (dk_at dksX12_orders_5 8 rfl rfl)
theorem dX12_orders_128 : decode cX12_orders 128 = .ok (.return_, 1) := dk_177 (dk_at dksX12_orders_5 11 rfl rfl)
theorem dX12_orders_129 : decode cX12_orders 129 = .ok (.iconst 0, 1) := dk_3 (dk_at dksX12_orders_5 12 rfl rfl)
theorem dX12_orders_130 : decode cX12_orders 130 = .ok (.istore 6, 2) := dk_54 6 (dk_at dksX12_orders_5 13 rfl rfl)
theorem dX12_orders_132 : decode cX12_orders 132 = .ok (.iload 6, 2) := dk_21 6 (dk_at dksX12_orders_5 15 rfl rfl)
theorem dX12_orders_134 : decode cX12_orders 134 = .ok (.iload 5, 2) := dk_21 5 (dk_at dksX12_orders_5 17 rfl rfl)
theorem dX12_orders_136 : decode cX12_orders 136 = .ok (.if_icmp .ge 52, 3) := dk_162 0 52 (dk_at dksX12_orders_5 19 rfl rfl)
theorem dX12_orders_139 : decode cX12_orders 139 = .ok (.iload_n 2, 1) := dk_28 (dk_at dksX12_orders_5 22 rfl rfl)
theorem dX12_orders_140 : decode cX12_orders 140 = .ok (.iload 6, 2) := dk_21 6 (dk_at dksX12_orders_6 0 rfl rfl)
theorem dX12_orders_142 : decode cX12_orders 142 = .ok (.ishr, 1) := dk_122 (dk_at dksX12_orders_6 2 rfl rfl)
theorem dX12_orders_143 : decode cX12_orders 143 = .ok (.iconst 1, 1) := dk_4 (dk_at dksX12_orders_6 3 rfl rfl)
theorem dX12_orders_144 : decode cX12_orders 144 = .ok (.iand, 1) := dk_126 (dk_at dksX12_orders_6 4 rfl rfl)
theorem dX12_orders_145 : decode cX12_orders 145 = .ok (.iconst 1, 1) := dk_4 (dk_at dksX12_orders_6 5 rfl rfl)
theorem dX12_orders_146 : decode cX12_orders 146 = .ok (.if_icmp .ne 6, 3) := dk_160 0 6 (dk_at dksX12_orders_6 6 rfl rfl)
theorem dX12_orders_149 : decode cX12_orders 149 = .ok (.goto 33, 3) := dk_167 0 33 (dk_at dksX12_orders_6 9 rfl rfl)
theorem dX12_orders_152 : decode cX12_orders 152 = .ok (.aload_n 0, 1) := dk_42 (dk_at dksX12_orders_6 12 rfl rfl)
theorem dX12_orders_153 : decode cX12_orders 153 = .ok (.getfield 109, 3) := dk_180 0 109 (dk_at dksX12_orders_6 13 rfl rfl)
theorem dX12_orders_156 : decode cX12_orders 156 = .ok (.iload_n 1, 1) := dk_27 (dk_at dksX12_orders_6 16 rfl rfl)
theorem dX12_orders_157 : decode cX12_orders 157 = .ok (.iload 6, 2) := dk_21 6 (dk_at dksX12_orders_6 17 rfl rfl)
theorem dX12_orders_159 : decode cX12_orders 159 = .ok (.iastore, 1) := dk_79 (dk_at dksX12_orders_6 19 rfl rfl)
theorem dX12_orders_160 : decode cX12_orders 160 = .ok (.aload_n 0, 1) := dk_42 (dk_at dksX12_orders_6 20 rfl rfl)
theorem dX12_orders_161 : decode cX12_orders 161 = .ok (.iload_n 1, 1) := dk_27 (dk_at dksX12_orders_6 21 rfl rfl)
theorem dX12_orders_162 : decode cX12_orders 162 = .ok (.iconst 1, 1) := dk_4 (dk_at dksX12_orders_6 22 rfl rfl)
theorem dX12_orders_163 : decode cX12_orders 163 = .ok (.iadd, 1) := dk_96 (dk_at dksX12_orders_6 23 rfl rfl)
theorem dX12_orders_164 : decode cX12_orders 164 = .ok (.iload_n 2, 1) := dk_28 (dk_at dksX12_orders_7 0 rfl rfl)
theorem dX12_orders_165 : decode cX12_orders 165 = .ok (.iconst 1, 1) := dk_4 (dk_at dksX12_orders_7 1 rfl rfl)
theorem dX12_orders_166 : decode cX12_orders 166 = .ok (.iload 6, 2) := dk_21 6 (dk_at dksX12_orders_7 2 rfl rfl)
theorem dX12_orders_168 : decode cX12_orders 168 = .ok (.ishl, 1) := dk_120 (dk_at dksX12_orders_7 4 rfl rfl)
theorem dX12_orders_169 : decode cX12_orders 169 = .ok (.ior, 1) := dk_128 (dk_at dksX12_orders_7 5 rfl rfl)
theorem dX12_orders_170 : decode cX12_orders 170 = .ok (.bipush 10, 2) := dk_16 10 (dk_at dksX12_orders_7 6 rfl rfl)
theorem dX12_orders_172 : decode cX12_orders 172 = .ok (.iload_n 3, 1) := dk_29 (dk_at dksX12_orders_7 8 rfl rfl)
theorem dX12_orders_173 : decode cX12_orders 173 = .ok (.imul, 1) := dk_104 (dk_at dksX12_orders_7 9 rfl rfl)
theorem dX12_orders_174 : decode cX12_orders 174 = .ok (.iload 6, 2) := dk_21 6 (dk_at dksX12_orders_7 10 rfl rfl)
theorem dX12_orders_176 : decode cX12_orders 176 = .ok (.iadd, 1) := dk_96 (dk_at dksX12_orders_7 12 rfl rfl)
theorem dX12_orders_177 : decode cX12_orders 177 = .ok (.iload 4, 2) := dk_21 4 (dk_at dksX12_orders_7 13 rfl rfl)
theorem dX12_orders_179 : decode cX12_orders 179 = .ok (.invokevirtual 468, 3) := dk_182 1 212 (dk_at dksX12_orders_7 15 rfl rfl)
theorem dX12_orders_182 : decode cX12_orders 182 = .ok (.iinc 6 1, 3) := dk_132 6 1 (dk_at dksX12_orders_7 18 rfl rfl)
theorem dX12_orders_185 : decode cX12_orders 185 = .ok (.goto (-53), 3) := dk_167 255 203 (dk_at dksX12_orders_7 21 rfl rfl)
theorem dX12_orders_188 : decode cX12_orders 188 = .ok (.return_, 1) := dk_177 (dk_at dksX12_orders_8 0 rfl rfl)
abbrev cX12_nowTo : ByteArray := prog_27_method_81_code
def yX12_nowTo : MethodName := ⟨RX12, "nowTo", "(I)J"⟩
def dkwX12_nowTo_0 : List UInt8 := [27, 2, 160, 0, 10, 42, 182, 1, 167, 167, 0, 8, 42, 27, 182, 1, 163, 173]
abbrev dktX12_nowTo_0 : List UInt8 := dkwX12_nowTo_0 ++ []
theorem dksX12_nowTo_0 : cX12_nowTo.data.toList.drop 0 = dktX12_nowTo_0 := by decide +kernel
theorem dX12_nowTo_0 : decode cX12_nowTo 0 = .ok (.iload_n 1, 1) := dk_27 (dk_at dksX12_nowTo_0 0 rfl rfl)
theorem dX12_nowTo_1 : decode cX12_nowTo 1 = .ok (.iconst (-1), 1) := dk_2 (dk_at dksX12_nowTo_0 1 rfl rfl)
theorem dX12_nowTo_2 : decode cX12_nowTo 2 = .ok (.if_icmp .ne 10, 3) := dk_160 0 10 (dk_at dksX12_nowTo_0 2 rfl rfl)
theorem dX12_nowTo_5 : decode cX12_nowTo 5 = .ok (.aload_n 0, 1) := dk_42 (dk_at dksX12_nowTo_0 5 rfl rfl)
theorem dX12_nowTo_6 : decode cX12_nowTo 6 = .ok (.invokevirtual 423, 3) := dk_182 1 167 (dk_at dksX12_nowTo_0 6 rfl rfl)
theorem dX12_nowTo_9 : decode cX12_nowTo 9 = .ok (.goto 8, 3) := dk_167 0 8 (dk_at dksX12_nowTo_0 9 rfl rfl)
theorem dX12_nowTo_12 : decode cX12_nowTo 12 = .ok (.aload_n 0, 1) := dk_42 (dk_at dksX12_nowTo_0 12 rfl rfl)
theorem dX12_nowTo_13 : decode cX12_nowTo 13 = .ok (.iload_n 1, 1) := dk_27 (dk_at dksX12_nowTo_0 13 rfl rfl)
theorem dX12_nowTo_14 : decode cX12_nowTo 14 = .ok (.invokevirtual 419, 3) := dk_182 1 163 (dk_at dksX12_nowTo_0 14 rfl rfl)
theorem dX12_nowTo_17 : decode cX12_nowTo 17 = .ok (.lreturn, 1) := dk_173 (dk_at dksX12_nowTo_0 17 rfl rfl)
abbrev cX12_length : ByteArray := prog_27_method_107_code
def yX12_length : MethodName := ⟨RX12, "length", "(I)I"⟩
def dkwX12_length_6 : List UInt8 := [167, 255, 148, 28, 172]
abbrev dktX12_length_6 : List UInt8 := dkwX12_length_6 ++ []
def dkwX12_length_5 : List UInt8 := [28, 2, 159, 0, 13, 22, 6, 33, 148, 157, 0, 6, 167, 0, 9, 21, 5, 61, 22, 6, 66, 132, 5, 1]
abbrev dktX12_length_5 : List UInt8 := dkwX12_length_5 ++ dktX12_length_6
def dkwX12_length_4 : List UInt8 := [180, 0, 23, 5, 46, 112, 79, 132, 6, 1, 167, 255, 196, 42, 182, 1, 158, 42, 27, 182, 1, 202, 55, 6]
abbrev dktX12_length_4 : List UInt8 := dkwX12_length_4 ++ dktX12_length_5
def dkwX12_length_3 : List UInt8 := [2, 159, 0, 16, 42, 180, 0, 59, 16, 29, 21, 6, 96, 46, 167, 0, 15, 21, 6, 21, 5, 108, 42]
abbrev dktX12_length_3 : List UInt8 := dkwX12_length_3 ++ dktX12_length_4
def dkwX12_length_2 : List UInt8 := [180, 0, 23, 6, 46, 162, 0, 55, 42, 180, 0, 65, 21, 6, 42, 180, 0, 59, 16, 29, 21, 6, 96, 46]
abbrev dktX12_length_2 : List UInt8 := dkwX12_length_2 ++ dktX12_length_3
def dkwX12_length_1 : List UInt8 := [42, 182, 1, 155, 2, 61, 9, 66, 4, 54, 5, 21, 5, 16, 12, 163, 0, 107, 3, 54, 6, 21, 6, 42]
abbrev dktX12_length_1 : List UInt8 := dkwX12_length_1 ++ dktX12_length_2
def dkwX12_length_0 : List UInt8 := [42, 3, 181, 0, 1, 42, 5, 182, 1, 75, 153, 0, 12, 42, 27, 4, 182, 1, 72, 154, 0, 5, 3, 172]
abbrev dktX12_length_0 : List UInt8 := dkwX12_length_0 ++ dktX12_length_1
theorem dksX12_length_0 : cX12_length.data.toList.drop 0 = dktX12_length_0 := by decide +kernel
theorem dksX12_length_1 : cX12_length.data.toList.drop 24 = dktX12_length_1 := dk_seg dksX12_length_0 24 rfl rfl
theorem dksX12_length_2 : cX12_length.data.toList.drop 48 = dktX12_length_2 := dk_seg dksX12_length_1 24 rfl rfl
theorem dksX12_length_3 : cX12_length.data.toList.drop 72 = dktX12_length_3 := dk_seg dksX12_length_2 24 rfl rfl
theorem dksX12_length_4 : cX12_length.data.toList.drop 95 = dktX12_length_4 := dk_seg dksX12_length_3 23 rfl rfl
theorem dksX12_length_5 : cX12_length.data.toList.drop 119 = dktX12_length_5 := dk_seg dksX12_length_4 24 rfl rfl
theorem dksX12_length_6 : cX12_length.data.toList.drop 143 = dktX12_length_6 := dk_seg dksX12_length_5 24 rfl rfl
theorem dX12_length_0 : decode cX12_length 0 = .ok (.aload_n 0, 1) := dk_42 (dk_at dksX12_length_0 0 rfl rfl)
theorem dX12_length_1 : decode cX12_length 1 = .ok (.iconst 0, 1) := dk_3 (dk_at dksX12_length_0 1 rfl rfl)
theorem dX12_length_2 : decode cX12_length 2 = .ok (.putfield 1, 3) := dk_181 0 1 (dk_at dksX12_length_0 2 rfl rfl)
theorem dX12_length_5 : decode cX12_length 5 = .ok (.aload_n 0, 1) := dk_42 (dk_at dksX12_length_0 5 rfl rfl)
theorem dX12_length_6 : decode cX12_length 6 = .ok (.iconst 2, 1) := dk_5 (dk_at dksX12_length_0 6 rfl rfl)
theorem dX12_length_7 : decode cX12_length 7 = .ok (.invokevirtual 331, 3) := dk_182 1 75 (dk_at dksX12_length_0 7 rfl rfl)
theorem dX12_length_10 : decode cX12_length 10 = .ok (.ifCond .eq 12, 3) := dk_153 0 12 (dk_at dksX12_length_0 10 rfl rfl)
theorem dX12_length_13 : decode cX12_length 13 = .ok (.aload_n 0, 1) := dk_42 (dk_at dksX12_length_0 13 rfl rfl)
theorem dX12_length_14 : decode cX12_length 14 = .ok (.iload_n 1, 1) := dk_27 (dk_at dksX12_length_0 14 rfl rfl)
theorem dX12_length_15 : decode cX12_length 15 = .ok (.iconst 1, 1) := dk_4 (dk_at dksX12_length_0 15 rfl rfl)
theorem dX12_length_16 : decode cX12_length 16 = .ok (.invokevirtual 328, 3) := dk_182 1 72 (dk_at dksX12_length_0 16 rfl rfl)
theorem dX12_length_19 : decode cX12_length 19 = .ok (.ifCond .ne 5, 3) := dk_154 0 5 (dk_at dksX12_length_0 19 rfl rfl)
theorem dX12_length_22 : decode cX12_length 22 = .ok (.iconst 0, 1) := dk_3 (dk_at dksX12_length_0 22 rfl rfl)
theorem dX12_length_23 : decode cX12_length 23 = .ok (.ireturn, 1) := dk_172 (dk_at dksX12_length_0 23 rfl rfl)
theorem dX12_length_24 : decode cX12_length 24 = .ok (.aload_n 0, 1) := dk_42 (dk_at dksX12_length_1 0 rfl rfl)
theorem dX12_length_25 : decode cX12_length 25 = .ok (.invokevirtual 411, 3) := dk_182 1 155 (dk_at dksX12_length_1 1 rfl rfl)
theorem dX12_length_28 : decode cX12_length 28 = .ok (.iconst (-1), 1) := dk_2 (dk_at dksX12_length_1 4 rfl rfl)
theorem dX12_length_29 : decode cX12_length 29 = .ok (.istore_n 2, 1) := dk_61 (dk_at dksX12_length_1 5 rfl rfl)
theorem dX12_length_30 : decode cX12_length 30 = .ok (.lconst 0, 1) := dk_9 (dk_at dksX12_length_1 6 rfl rfl)
theorem dX12_length_31 : decode cX12_length 31 = .ok (.lstore_n 3, 1) := dk_66 (dk_at dksX12_length_1 7 rfl rfl)
theorem dX12_length_32 : decode cX12_length 32 = .ok (.iconst 1, 1) := dk_4 (dk_at dksX12_length_1 8 rfl rfl)
theorem dX12_length_33 : decode cX12_length 33 = .ok (.istore 5, 2) := dk_54 5 (dk_at dksX12_length_1 9 rfl rfl)
theorem dX12_length_35 : decode cX12_length 35 = .ok (.iload 5, 2) := dk_21 5 (dk_at dksX12_length_1 11 rfl rfl)
theorem dX12_length_37 : decode cX12_length 37 = .ok (.bipush 12, 2) := dk_16 12 (dk_at dksX12_length_1 13 rfl rfl)
theorem dX12_length_39 : decode cX12_length 39 = .ok (.if_icmp .gt 107, 3) := dk_163 0 107 (dk_at dksX12_length_1 15 rfl rfl)
theorem dX12_length_42 : decode cX12_length 42 = .ok (.iconst 0, 1) := dk_3 (dk_at dksX12_length_1 18 rfl rfl)
theorem dX12_length_43 : decode cX12_length 43 = .ok (.istore 6, 2) := dk_54 6 (dk_at dksX12_length_1 19 rfl rfl)
theorem dX12_length_45 : decode cX12_length 45 = .ok (.iload 6, 2) := dk_21 6 (dk_at dksX12_length_1 21 rfl rfl)
theorem dX12_length_47 : decode cX12_length 47 = .ok (.aload_n 0, 1) := dk_42 (dk_at dksX12_length_1 23 rfl rfl)
theorem dX12_length_48 : decode cX12_length 48 = .ok (.getfield 23, 3) := dk_180 0 23 (dk_at dksX12_length_2 0 rfl rfl)
theorem dX12_length_51 : decode cX12_length 51 = .ok (.iconst 3, 1) := dk_6 (dk_at dksX12_length_2 3 rfl rfl)
theorem dX12_length_52 : decode cX12_length 52 = .ok (.iaload, 1) := dk_46 (dk_at dksX12_length_2 4 rfl rfl)
theorem dX12_length_53 : decode cX12_length 53 = .ok (.if_icmp .ge 55, 3) := dk_162 0 55 (dk_at dksX12_length_2 5 rfl rfl)
theorem dX12_length_56 : decode cX12_length 56 = .ok (.aload_n 0, 1) := dk_42 (dk_at dksX12_length_2 8 rfl rfl)
theorem dX12_length_57 : decode cX12_length 57 = .ok (.getfield 65, 3) := dk_180 0 65 (dk_at dksX12_length_2 9 rfl rfl)
theorem dX12_length_60 : decode cX12_length 60 = .ok (.iload 6, 2) := dk_21 6 (dk_at dksX12_length_2 12 rfl rfl)
theorem dX12_length_62 : decode cX12_length 62 = .ok (.aload_n 0, 1) := dk_42 (dk_at dksX12_length_2 14 rfl rfl)
theorem dX12_length_63 : decode cX12_length 63 = .ok (.getfield 59, 3) := dk_180 0 59 (dk_at dksX12_length_2 15 rfl rfl)
theorem dX12_length_66 : decode cX12_length 66 = .ok (.bipush 29, 2) := dk_16 29 (dk_at dksX12_length_2 18 rfl rfl)
theorem dX12_length_68 : decode cX12_length 68 = .ok (.iload 6, 2) := dk_21 6 (dk_at dksX12_length_2 20 rfl rfl)
theorem dX12_length_70 : decode cX12_length 70 = .ok (.iadd, 1) := dk_96 (dk_at dksX12_length_2 22 rfl rfl)
theorem dX12_length_71 : decode cX12_length 71 = .ok (.iaload, 1) := dk_46 (dk_at dksX12_length_2 23 rfl rfl)
theorem dX12_length_72 : decode cX12_length 72 = .ok (.iconst (-1), 1) := dk_2 (dk_at dksX12_length_3 0 rfl rfl)
theorem dX12_length_73 : decode cX12_length 73 = .ok (.if_icmp .eq 16, 3) := dk_159 0 16 (dk_at dksX12_length_3 1 rfl rfl)
theorem dX12_length_76 : decode cX12_length 76 = .ok (.aload_n 0, 1) := dk_42 (dk_at dksX12_length_3 4 rfl rfl)
theorem dX12_length_77 : decode cX12_length 77 = .ok (.getfield 59, 3) := dk_180 0 59 (dk_at dksX12_length_3 5 rfl rfl)
theorem dX12_length_80 : decode cX12_length 80 = .ok (.bipush 29, 2) := dk_16 29 (dk_at dksX12_length_3 8 rfl rfl)
theorem dX12_length_82 : decode cX12_length 82 = .ok (.iload 6, 2) := dk_21 6 (dk_at dksX12_length_3 10 rfl rfl)
theorem dX12_length_84 : decode cX12_length 84 = .ok (.iadd, 1) := dk_96 (dk_at dksX12_length_3 12 rfl rfl)
theorem dX12_length_85 : decode cX12_length 85 = .ok (.iaload, 1) := dk_46 (dk_at dksX12_length_3 13 rfl rfl)
theorem dX12_length_86 : decode cX12_length 86 = .ok (.goto 15, 3) := dk_167 0 15 (dk_at dksX12_length_3 14 rfl rfl)
theorem dX12_length_89 : decode cX12_length 89 = .ok (.iload 6, 2) := dk_21 6 (dk_at dksX12_length_3 17 rfl rfl)
theorem dX12_length_91 : decode cX12_length 91 = .ok (.iload 5, 2) := dk_21 5 (dk_at dksX12_length_3 19 rfl rfl)
theorem dX12_length_93 : decode cX12_length 93 = .ok (.idiv, 1) := dk_108 (dk_at dksX12_length_3 21 rfl rfl)
theorem dX12_length_94 : decode cX12_length 94 = .ok (.aload_n 0, 1) := dk_42 (dk_at dksX12_length_3 22 rfl rfl)
theorem dX12_length_95 : decode cX12_length 95 = .ok (.getfield 23, 3) := dk_180 0 23 (dk_at dksX12_length_4 0 rfl rfl)
theorem dX12_length_98 : decode cX12_length 98 = .ok (.iconst 2, 1) := dk_5 (dk_at dksX12_length_4 3 rfl rfl)
theorem dX12_length_99 : decode cX12_length 99 = .ok (.iaload, 1) := dk_46 (dk_at dksX12_length_4 4 rfl rfl)
theorem dX12_length_100 : decode cX12_length 100 = .ok (.irem, 1) := dk_112 (dk_at dksX12_length_4 5 rfl rfl)
theorem dX12_length_101 : decode cX12_length 101 = .ok (.iastore, 1) := dk_79 (dk_at dksX12_length_4 6 rfl rfl)
theorem dX12_length_102 : decode cX12_length 102 = .ok (.iinc 6 1, 3) := dk_132 6 1 (dk_at dksX12_length_4 7 rfl rfl)
theorem dX12_length_105 : decode cX12_length 105 = .ok (.goto (-60), 3) := dk_167 255 196 (dk_at dksX12_length_4 10 rfl rfl)
theorem dX12_length_108 : decode cX12_length 108 = .ok (.aload_n 0, 1) := dk_42 (dk_at dksX12_length_4 13 rfl rfl)
theorem dX12_length_109 : decode cX12_length 109 = .ok (.invokevirtual 414, 3) := dk_182 1 158 (dk_at dksX12_length_4 14 rfl rfl)
theorem dX12_length_112 : decode cX12_length 112 = .ok (.aload_n 0, 1) := dk_42 (dk_at dksX12_length_4 17 rfl rfl)
theorem dX12_length_113 : decode cX12_length 113 = .ok (.iload_n 1, 1) := dk_27 (dk_at dksX12_length_4 18 rfl rfl)
theorem dX12_length_114 : decode cX12_length 114 = .ok (.invokevirtual 458, 3) := dk_182 1 202 (dk_at dksX12_length_4 19 rfl rfl)
theorem dX12_length_117 : decode cX12_length 117 = .ok (.lstore 6, 2) := dk_55 6 (dk_at dksX12_length_4 22 rfl rfl)
theorem dX12_length_119 : decode cX12_length 119 = .ok (.iload_n 2, 1) := dk_28 (dk_at dksX12_length_5 0 rfl rfl)
theorem dX12_length_120 : decode cX12_length 120 = .ok (.iconst (-1), 1) := dk_2 (dk_at dksX12_length_5 1 rfl rfl)
theorem dX12_length_121 : decode cX12_length 121 = .ok (.if_icmp .eq 13, 3) := dk_159 0 13 (dk_at dksX12_length_5 2 rfl rfl)
theorem dX12_length_124 : decode cX12_length 124 = .ok (.lload 6, 2) := dk_22 6 (dk_at dksX12_length_5 5 rfl rfl)
theorem dX12_length_126 : decode cX12_length 126 = .ok (.lload_n 3, 1) := dk_33 (dk_at dksX12_length_5 7 rfl rfl)
theorem dX12_length_127 : decode cX12_length 127 = .ok (.lcmp, 1) := dk_148 (dk_at dksX12_length_5 8 rfl rfl)
theorem dX12_length_128 : decode cX12_length 128 = .ok (.ifCond .gt 6, 3) := dk_157 0 6 (dk_at dksX12_length_5 9 rfl rfl)
theorem dX12_length_131 : decode cX12_length 131 = .ok (.goto 9, 3) := dk_167 0 9 (dk_at dksX12_length_5 12 rfl rfl)
theorem dX12_length_134 : decode cX12_length 134 = .ok (.iload 5, 2) := dk_21 5 (dk_at dksX12_length_5 15 rfl rfl)
theorem dX12_length_136 : decode cX12_length 136 = .ok (.istore_n 2, 1) := dk_61 (dk_at dksX12_length_5 17 rfl rfl)
theorem dX12_length_137 : decode cX12_length 137 = .ok (.lload 6, 2) := dk_22 6 (dk_at dksX12_length_5 18 rfl rfl)
theorem dX12_length_139 : decode cX12_length 139 = .ok (.lstore_n 3, 1) := dk_66 (dk_at dksX12_length_5 20 rfl rfl)
theorem dX12_length_140 : decode cX12_length 140 = .ok (.iinc 5 1, 3) := dk_132 5 1 (dk_at dksX12_length_5 21 rfl rfl)
theorem dX12_length_143 : decode cX12_length 143 = .ok (.goto (-108), 3) := dk_167 255 148 (dk_at dksX12_length_6 0 rfl rfl)
theorem dX12_length_146 : decode cX12_length 146 = .ok (.iload_n 2, 1) := dk_28 (dk_at dksX12_length_6 3 rfl rfl)
theorem dX12_length_147 : decode cX12_length 147 = .ok (.ireturn, 1) := dk_172 (dk_at dksX12_length_6 4 rfl rfl)
abbrev cX12_trap : ByteArray := prog_27_method_109_code
def yX12_trap : MethodName := ⟨RX12, "trap", "(III)Z"⟩
def dkwX12_trap_1 : List UInt8 := [182, 0, 226, 154, 0, 5, 3, 172, 42, 182, 1, 155, 42, 28, 27, 29, 182, 1, 216, 172]
abbrev dktX12_trap_1 : List UInt8 := dkwX12_trap_1 ++ []
def dkwX12_trap_0 : List UInt8 := [42, 3, 181, 0, 1, 42, 5, 182, 1, 75, 153, 0, 19, 42, 42, 27, 28, 29, 182, 1, 171, 4, 5]
abbrev dktX12_trap_0 : List UInt8 := dkwX12_trap_0 ++ dktX12_trap_1
theorem dksX12_trap_0 : cX12_trap.data.toList.drop 0 = dktX12_trap_0 := by decide +kernel
theorem dksX12_trap_1 : cX12_trap.data.toList.drop 23 = dktX12_trap_1 := dk_seg dksX12_trap_0 23 rfl rfl
theorem dX12_trap_0 : decode cX12_trap 0 = .ok (.aload_n 0, 1) := dk_42 (dk_at dksX12_trap_0 0 rfl rfl)
theorem dX12_trap_1 : decode cX12_trap 1 = .ok (.iconst 0, 1) := dk_3 (dk_at dksX12_trap_0 1 rfl rfl)
theorem dX12_trap_2 : decode cX12_trap 2 = .ok (.putfield 1, 3) := dk_181 0 1 (dk_at dksX12_trap_0 2 rfl rfl)
theorem dX12_trap_5 : decode cX12_trap 5 = .ok (.aload_n 0, 1) := dk_42 (dk_at dksX12_trap_0 5 rfl rfl)
theorem dX12_trap_6 : decode cX12_trap 6 = .ok (.iconst 2, 1) := dk_5 (dk_at dksX12_trap_0 6 rfl rfl)
theorem dX12_trap_7 : decode cX12_trap 7 = .ok (.invokevirtual 331, 3) := dk_182 1 75 (dk_at dksX12_trap_0 7 rfl rfl)
theorem dX12_trap_10 : decode cX12_trap 10 = .ok (.ifCond .eq 19, 3) := dk_153 0 19 (dk_at dksX12_trap_0 10 rfl rfl)
theorem dX12_trap_13 : decode cX12_trap 13 = .ok (.aload_n 0, 1) := dk_42 (dk_at dksX12_trap_0 13 rfl rfl)
theorem dX12_trap_14 : decode cX12_trap 14 = .ok (.aload_n 0, 1) := dk_42 (dk_at dksX12_trap_0 14 rfl rfl)
theorem dX12_trap_15 : decode cX12_trap 15 = .ok (.iload_n 1, 1) := dk_27 (dk_at dksX12_trap_0 15 rfl rfl)
theorem dX12_trap_16 : decode cX12_trap 16 = .ok (.iload_n 2, 1) := dk_28 (dk_at dksX12_trap_0 16 rfl rfl)
theorem dX12_trap_17 : decode cX12_trap 17 = .ok (.iload_n 3, 1) := dk_29 (dk_at dksX12_trap_0 17 rfl rfl)
theorem dX12_trap_18 : decode cX12_trap 18 = .ok (.invokevirtual 427, 3) := dk_182 1 171 (dk_at dksX12_trap_0 18 rfl rfl)
theorem dX12_trap_21 : decode cX12_trap 21 = .ok (.iconst 1, 1) := dk_4 (dk_at dksX12_trap_0 21 rfl rfl)
theorem dX12_trap_22 : decode cX12_trap 22 = .ok (.iconst 2, 1) := dk_5 (dk_at dksX12_trap_0 22 rfl rfl)
theorem dX12_trap_23 : decode cX12_trap 23 = .ok (.invokevirtual 226, 3) := dk_182 0 226 (dk_at dksX12_trap_1 0 rfl rfl)
theorem dX12_trap_26 : decode cX12_trap 26 = .ok (.ifCond .ne 5, 3) := dk_154 0 5 (dk_at dksX12_trap_1 3 rfl rfl)
theorem dX12_trap_29 : decode cX12_trap 29 = .ok (.iconst 0, 1) := dk_3 (dk_at dksX12_trap_1 6 rfl rfl)
theorem dX12_trap_30 : decode cX12_trap 30 = .ok (.ireturn, 1) := dk_172 (dk_at dksX12_trap_1 7 rfl rfl)
theorem dX12_trap_31 : decode cX12_trap 31 = .ok (.aload_n 0, 1) := dk_42 (dk_at dksX12_trap_1 8 rfl rfl)
theorem dX12_trap_32 : decode cX12_trap 32 = .ok (.invokevirtual 411, 3) := dk_182 1 155 (dk_at dksX12_trap_1 9 rfl rfl)
theorem dX12_trap_35 : decode cX12_trap 35 = .ok (.aload_n 0, 1) := dk_42 (dk_at dksX12_trap_1 12 rfl rfl)
theorem dX12_trap_36 : decode cX12_trap 36 = .ok (.iload_n 2, 1) := dk_28 (dk_at dksX12_trap_1 13 rfl rfl)
theorem dX12_trap_37 : decode cX12_trap 37 = .ok (.iload_n 1, 1) := dk_27 (dk_at dksX12_trap_1 14 rfl rfl)
theorem dX12_trap_38 : decode cX12_trap 38 = .ok (.iload_n 3, 1) := dk_29 (dk_at dksX12_trap_1 15 rfl rfl)
theorem dX12_trap_39 : decode cX12_trap 39 = .ok (.invokevirtual 472, 3) := dk_182 1 216 (dk_at dksX12_trap_1 16 rfl rfl)
theorem dX12_trap_42 : decode cX12_trap 42 = .ok (.ireturn, 1) := dk_172 (dk_at dksX12_trap_1 19 rfl rfl)
abbrev cX12_isTrap : ByteArray := prog_27_method_108_code
def yX12_isTrap : MethodName := ⟨RX12, "isTrap", "(III)Z"⟩
def dkwX12_isTrap_2 : List UInt8 := [4, 167, 0, 4, 3, 172]
abbrev dktX12_isTrap_2 : List UInt8 := dkwX12_isTrap_2 ++ []
def dkwX12_isTrap_1 : List UInt8 := [17, 15, 60, 104, 27, 28, 29, 184, 1, 98, 96, 46, 54, 4, 21, 4, 21, 4, 4, 100, 126, 154, 0, 7]
abbrev dktX12_isTrap_1 : List UInt8 := dkwX12_isTrap_1 ++ dktX12_isTrap_2
def dkwX12_isTrap_0 : List UInt8 := [42, 27, 28, 29, 182, 1, 94, 153, 0, 5, 3, 172, 42, 180, 0, 80, 42, 180, 0, 65, 27, 46]
abbrev dktX12_isTrap_0 : List UInt8 := dkwX12_isTrap_0 ++ dktX12_isTrap_1
theorem dksX12_isTrap_0 : cX12_isTrap.data.toList.drop 0 = dktX12_isTrap_0 := by decide +kernel
theorem dksX12_isTrap_1 : cX12_isTrap.data.toList.drop 22 = dktX12_isTrap_1 := dk_seg dksX12_isTrap_0 22 rfl rfl
theorem dksX12_isTrap_2 : cX12_isTrap.data.toList.drop 46 = dktX12_isTrap_2 := dk_seg dksX12_isTrap_1 24 rfl rfl
theorem dX12_isTrap_0 : decode cX12_isTrap 0 = .ok (.aload_n 0, 1) := dk_42 (dk_at dksX12_isTrap_0 0 rfl rfl)
theorem dX12_isTrap_1 : decode cX12_isTrap 1 = .ok (.iload_n 1, 1) := dk_27 (dk_at dksX12_isTrap_0 1 rfl rfl)
theorem dX12_isTrap_2 : decode cX12_isTrap 2 = .ok (.iload_n 2, 1) := dk_28 (dk_at dksX12_isTrap_0 2 rfl rfl)
theorem dX12_isTrap_3 : decode cX12_isTrap 3 = .ok (.iload_n 3, 1) := dk_29 (dk_at dksX12_isTrap_0 3 rfl rfl)
theorem dX12_isTrap_4 : decode cX12_isTrap 4 = .ok (.invokevirtual 350, 3) := dk_182 1 94 (dk_at dksX12_isTrap_0 4 rfl rfl)
theorem dX12_isTrap_7 : decode cX12_isTrap 7 = .ok (.ifCond .eq 5, 3) := dk_153 0 5 (dk_at dksX12_isTrap_0 7 rfl rfl)
theorem dX12_isTrap_10 : decode cX12_isTrap 10 = .ok (.iconst 0, 1) := dk_3 (dk_at dksX12_isTrap_0 10 rfl rfl)
theorem dX12_isTrap_11 : decode cX12_isTrap 11 = .ok (.ireturn, 1) := dk_172 (dk_at dksX12_isTrap_0 11 rfl rfl)
theorem dX12_isTrap_12 : decode cX12_isTrap 12 = .ok (.aload_n 0, 1) := dk_42 (dk_at dksX12_isTrap_0 12 rfl rfl)
theorem dX12_isTrap_13 : decode cX12_isTrap 13 = .ok (.getfield 80, 3) := dk_180 0 80 (dk_at dksX12_isTrap_0 13 rfl rfl)
theorem dX12_isTrap_16 : decode cX12_isTrap 16 = .ok (.aload_n 0, 1) := dk_42 (dk_at dksX12_isTrap_0 16 rfl rfl)
theorem dX12_isTrap_17 : decode cX12_isTrap 17 = .ok (.getfield 65, 3) := dk_180 0 65 (dk_at dksX12_isTrap_0 17 rfl rfl)
theorem dX12_isTrap_20 : decode cX12_isTrap 20 = .ok (.iload_n 1, 1) := dk_27 (dk_at dksX12_isTrap_0 20 rfl rfl)
theorem dX12_isTrap_21 : decode cX12_isTrap 21 = .ok (.iaload, 1) := dk_46 (dk_at dksX12_isTrap_0 21 rfl rfl)
theorem dX12_isTrap_22 : decode cX12_isTrap 22 = .ok (.sipush 3900, 3) := dk_17 15 60 (dk_at dksX12_isTrap_1 0 rfl rfl)
theorem dX12_isTrap_25 : decode cX12_isTrap 25 = .ok (.imul, 1) := dk_104 (dk_at dksX12_isTrap_1 3 rfl rfl)
theorem dX12_isTrap_26 : decode cX12_isTrap 26 = .ok (.iload_n 1, 1) := dk_27 (dk_at dksX12_isTrap_1 4 rfl rfl)
theorem dX12_isTrap_27 : decode cX12_isTrap 27 = .ok (.iload_n 2, 1) := dk_28 (dk_at dksX12_isTrap_1 5 rfl rfl)
theorem dX12_isTrap_28 : decode cX12_isTrap 28 = .ok (.iload_n 3, 1) := dk_29 (dk_at dksX12_isTrap_1 6 rfl rfl)
theorem dX12_isTrap_29 : decode cX12_isTrap 29 = .ok (.invokestatic 354, 3) := dk_184 1 98 (dk_at dksX12_isTrap_1 7 rfl rfl)
theorem dX12_isTrap_32 : decode cX12_isTrap 32 = .ok (.iadd, 1) := dk_96 (dk_at dksX12_isTrap_1 10 rfl rfl)
theorem dX12_isTrap_33 : decode cX12_isTrap 33 = .ok (.iaload, 1) := dk_46 (dk_at dksX12_isTrap_1 11 rfl rfl)
theorem dX12_isTrap_34 : decode cX12_isTrap 34 = .ok (.istore 4, 2) := dk_54 4 (dk_at dksX12_isTrap_1 12 rfl rfl)
theorem dX12_isTrap_36 : decode cX12_isTrap 36 = .ok (.iload 4, 2) := dk_21 4 (dk_at dksX12_isTrap_1 14 rfl rfl)
theorem dX12_isTrap_38 : decode cX12_isTrap 38 = .ok (.iload 4, 2) := dk_21 4 (dk_at dksX12_isTrap_1 16 rfl rfl)
theorem dX12_isTrap_40 : decode cX12_isTrap 40 = .ok (.iconst 1, 1) := dk_4 (dk_at dksX12_isTrap_1 18 rfl rfl)
theorem dX12_isTrap_41 : decode cX12_isTrap 41 = .ok (.isub, 1) := dk_100 (dk_at dksX12_isTrap_1 19 rfl rfl)
theorem dX12_isTrap_42 : decode cX12_isTrap 42 = .ok (.iand, 1) := dk_126 (dk_at dksX12_isTrap_1 20 rfl rfl)
theorem dX12_isTrap_43 : decode cX12_isTrap 43 = .ok (.ifCond .ne 7, 3) := dk_154 0 7 (dk_at dksX12_isTrap_1 21 rfl rfl)
theorem dX12_isTrap_46 : decode cX12_isTrap 46 = .ok (.iconst 1, 1) := dk_4 (dk_at dksX12_isTrap_2 0 rfl rfl)
theorem dX12_isTrap_47 : decode cX12_isTrap 47 = .ok (.goto 4, 3) := dk_167 0 4 (dk_at dksX12_isTrap_2 1 rfl rfl)
theorem dX12_isTrap_50 : decode cX12_isTrap 50 = .ok (.iconst 0, 1) := dk_3 (dk_at dksX12_isTrap_2 4 rfl rfl)
theorem dX12_isTrap_51 : decode cX12_isTrap 51 = .ok (.ireturn, 1) := dk_172 (dk_at dksX12_isTrap_2 5 rfl rfl)
abbrev cX12_force : ByteArray := prog_27_method_110_code
def yX12_force : MethodName := ⟨RX12, "force", "(III)I"⟩
def dkwX12_force_6 : List UInt8 := [182, 1, 216, 153, 0, 6, 21, 5, 172, 132, 5, 1, 167, 255, 170, 2, 172]
abbrev dktX12_force_6 : List UInt8 := dkwX12_force_6 ++ []
def dkwX12_force_5 : List UInt8 := [42, 180, 0, 23, 16, 7, 21, 6, 96, 46, 4, 160, 0, 10, 42, 180, 1, 92, 167, 0, 6, 29, 4, 100]
abbrev dktX12_force_5 : List UInt8 := dkwX12_force_5 ++ dktX12_force_6
def dkwX12_force_4 : List UInt8 := [154, 0, 7, 27, 167, 0, 12, 42, 21, 5, 4, 100, 27, 182, 1, 89, 54, 6, 42, 28, 4, 96, 21, 6]
abbrev dktX12_force_4 : List UInt8 := dkwX12_force_4 ++ dktX12_force_5
def dkwX12_force_3 : List UInt8 := [180, 0, 23, 4, 46, 163, 0, 81, 21, 4, 21, 5, 122, 4, 126, 154, 0, 6, 167, 0, 62, 21, 5]
abbrev dktX12_force_3 : List UInt8 := dkwX12_force_3 ++ dktX12_force_4
def dkwX12_force_2 : List UInt8 := [42, 42, 180, 0, 65, 28, 46, 28, 27, 29, 184, 1, 98, 182, 1, 121, 54, 4, 3, 54, 5, 21, 5, 42]
abbrev dktX12_force_2 : List UInt8 := dkwX12_force_2 ++ dktX12_force_3
def dkwX12_force_1 : List UInt8 := [182, 0, 226, 154, 0, 5, 3, 172, 42, 182, 1, 155, 42, 28, 27, 29, 182, 1, 94, 153, 0, 5, 2, 172]
abbrev dktX12_force_1 : List UInt8 := dkwX12_force_1 ++ dktX12_force_2
def dkwX12_force_0 : List UInt8 := [42, 3, 181, 0, 1, 42, 5, 182, 1, 75, 153, 0, 19, 42, 42, 27, 28, 29, 182, 1, 171, 4, 5]
abbrev dktX12_force_0 : List UInt8 := dkwX12_force_0 ++ dktX12_force_1
theorem dksX12_force_0 : cX12_force.data.toList.drop 0 = dktX12_force_0 := by decide +kernel
theorem dksX12_force_1 : cX12_force.data.toList.drop 23 = dktX12_force_1 := dk_seg dksX12_force_0 23 rfl rfl
theorem dksX12_force_2 : cX12_force.data.toList.drop 47 = dktX12_force_2 := dk_seg dksX12_force_1 24 rfl rfl
theorem dksX12_force_3 : cX12_force.data.toList.drop 71 = dktX12_force_3 := dk_seg dksX12_force_2 24 rfl rfl
theorem dksX12_force_4 : cX12_force.data.toList.drop 94 = dktX12_force_4 := dk_seg dksX12_force_3 23 rfl rfl
theorem dksX12_force_5 : cX12_force.data.toList.drop 118 = dktX12_force_5 := dk_seg dksX12_force_4 24 rfl rfl
theorem dksX12_force_6 : cX12_force.data.toList.drop 142 = dktX12_force_6 := dk_seg dksX12_force_5 24 rfl rfl
theorem dX12_force_0 : decode cX12_force 0 = .ok (.aload_n 0, 1) := dk_42 (dk_at dksX12_force_0 0 rfl rfl)
theorem dX12_force_1 : decode cX12_force 1 = .ok (.iconst 0, 1) := dk_3 (dk_at dksX12_force_0 1 rfl rfl)
theorem dX12_force_2 : decode cX12_force 2 = .ok (.putfield 1, 3) := dk_181 0 1 (dk_at dksX12_force_0 2 rfl rfl)
theorem dX12_force_5 : decode cX12_force 5 = .ok (.aload_n 0, 1) := dk_42 (dk_at dksX12_force_0 5 rfl rfl)
theorem dX12_force_6 : decode cX12_force 6 = .ok (.iconst 2, 1) := dk_5 (dk_at dksX12_force_0 6 rfl rfl)
theorem dX12_force_7 : decode cX12_force 7 = .ok (.invokevirtual 331, 3) := dk_182 1 75 (dk_at dksX12_force_0 7 rfl rfl)
theorem dX12_force_10 : decode cX12_force 10 = .ok (.ifCond .eq 19, 3) := dk_153 0 19 (dk_at dksX12_force_0 10 rfl rfl)
theorem dX12_force_13 : decode cX12_force 13 = .ok (.aload_n 0, 1) := dk_42 (dk_at dksX12_force_0 13 rfl rfl)
theorem dX12_force_14 : decode cX12_force 14 = .ok (.aload_n 0, 1) := dk_42 (dk_at dksX12_force_0 14 rfl rfl)
theorem dX12_force_15 : decode cX12_force 15 = .ok (.iload_n 1, 1) := dk_27 (dk_at dksX12_force_0 15 rfl rfl)
theorem dX12_force_16 : decode cX12_force 16 = .ok (.iload_n 2, 1) := dk_28 (dk_at dksX12_force_0 16 rfl rfl)
theorem dX12_force_17 : decode cX12_force 17 = .ok (.iload_n 3, 1) := dk_29 (dk_at dksX12_force_0 17 rfl rfl)
theorem dX12_force_18 : decode cX12_force 18 = .ok (.invokevirtual 427, 3) := dk_182 1 171 (dk_at dksX12_force_0 18 rfl rfl)
theorem dX12_force_21 : decode cX12_force 21 = .ok (.iconst 1, 1) := dk_4 (dk_at dksX12_force_0 21 rfl rfl)
theorem dX12_force_22 : decode cX12_force 22 = .ok (.iconst 2, 1) := dk_5 (dk_at dksX12_force_0 22 rfl rfl)
theorem dX12_force_23 : decode cX12_force 23 = .ok (.invokevirtual 226, 3) := dk_182 0 226 (dk_at dksX12_force_1 0 rfl rfl)
theorem dX12_force_26 : decode cX12_force 26 = .ok (.ifCond .ne 5, 3) := dk_154 0 5 (dk_at dksX12_force_1 3 rfl rfl)
theorem dX12_force_29 : decode cX12_force 29 = .ok (.iconst 0, 1) := dk_3 (dk_at dksX12_force_1 6 rfl rfl)
theorem dX12_force_30 : decode cX12_force 30 = .ok (.ireturn, 1) := dk_172 (dk_at dksX12_force_1 7 rfl rfl)
theorem dX12_force_31 : decode cX12_force 31 = .ok (.aload_n 0, 1) := dk_42 (dk_at dksX12_force_1 8 rfl rfl)
theorem dX12_force_32 : decode cX12_force 32 = .ok (.invokevirtual 411, 3) := dk_182 1 155 (dk_at dksX12_force_1 9 rfl rfl)
theorem dX12_force_35 : decode cX12_force 35 = .ok (.aload_n 0, 1) := dk_42 (dk_at dksX12_force_1 12 rfl rfl)
theorem dX12_force_36 : decode cX12_force 36 = .ok (.iload_n 2, 1) := dk_28 (dk_at dksX12_force_1 13 rfl rfl)
theorem dX12_force_37 : decode cX12_force 37 = .ok (.iload_n 1, 1) := dk_27 (dk_at dksX12_force_1 14 rfl rfl)
theorem dX12_force_38 : decode cX12_force 38 = .ok (.iload_n 3, 1) := dk_29 (dk_at dksX12_force_1 15 rfl rfl)
theorem dX12_force_39 : decode cX12_force 39 = .ok (.invokevirtual 350, 3) := dk_182 1 94 (dk_at dksX12_force_1 16 rfl rfl)
theorem dX12_force_42 : decode cX12_force 42 = .ok (.ifCond .eq 5, 3) := dk_153 0 5 (dk_at dksX12_force_1 19 rfl rfl)
theorem dX12_force_45 : decode cX12_force 45 = .ok (.iconst (-1), 1) := dk_2 (dk_at dksX12_force_1 22 rfl rfl)
theorem dX12_force_46 : decode cX12_force 46 = .ok (.ireturn, 1) := dk_172 (dk_at dksX12_force_1 23 rfl rfl)
theorem dX12_force_47 : decode cX12_force 47 = .ok (.aload_n 0, 1) := dk_42 (dk_at dksX12_force_2 0 rfl rfl)
theorem dX12_force_48 : decode cX12_force 48 = .ok (.aload_n 0, 1) := dk_42 (dk_at dksX12_force_2 1 rfl rfl)
theorem dX12_force_49 : decode cX12_force 49 = .ok (.getfield 65, 3) := dk_180 0 65 (dk_at dksX12_force_2 2 rfl rfl)
theorem dX12_force_52 : decode cX12_force 52 = .ok (.iload_n 2, 1) := dk_28 (dk_at dksX12_force_2 5 rfl rfl)
theorem dX12_force_53 : decode cX12_force 53 = .ok (.iaload, 1) := dk_46 (dk_at dksX12_force_2 6 rfl rfl)
theorem dX12_force_54 : decode cX12_force 54 = .ok (.iload_n 2, 1) := dk_28 (dk_at dksX12_force_2 7 rfl rfl)
theorem dX12_force_55 : decode cX12_force 55 = .ok (.iload_n 1, 1) := dk_27 (dk_at dksX12_force_2 8 rfl rfl)
theorem dX12_force_56 : decode cX12_force 56 = .ok (.iload_n 3, 1) := dk_29 (dk_at dksX12_force_2 9 rfl rfl)
theorem dX12_force_57 : decode cX12_force 57 = .ok (.invokestatic 354, 3) := dk_184 1 98 (dk_at dksX12_force_2 10 rfl rfl)
theorem dX12_force_60 : decode cX12_force 60 = .ok (.invokevirtual 377, 3) := dk_182 1 121 (dk_at dksX12_force_2 13 rfl rfl)
theorem dX12_force_63 : decode cX12_force 63 = .ok (.istore 4, 2) := dk_54 4 (dk_at dksX12_force_2 16 rfl rfl)
theorem dX12_force_65 : decode cX12_force 65 = .ok (.iconst 0, 1) := dk_3 (dk_at dksX12_force_2 18 rfl rfl)
theorem dX12_force_66 : decode cX12_force 66 = .ok (.istore 5, 2) := dk_54 5 (dk_at dksX12_force_2 19 rfl rfl)
theorem dX12_force_68 : decode cX12_force 68 = .ok (.iload 5, 2) := dk_21 5 (dk_at dksX12_force_2 21 rfl rfl)
theorem dX12_force_70 : decode cX12_force 70 = .ok (.aload_n 0, 1) := dk_42 (dk_at dksX12_force_2 23 rfl rfl)
theorem dX12_force_71 : decode cX12_force 71 = .ok (.getfield 23, 3) := dk_180 0 23 (dk_at dksX12_force_3 0 rfl rfl)
theorem dX12_force_74 : decode cX12_force 74 = .ok (.iconst 1, 1) := dk_4 (dk_at dksX12_force_3 3 rfl rfl)
theorem dX12_force_75 : decode cX12_force 75 = .ok (.iaload, 1) := dk_46 (dk_at dksX12_force_3 4 rfl rfl)
theorem dX12_force_76 : decode cX12_force 76 = .ok (.if_icmp .gt 81, 3) := dk_163 0 81 (dk_at dksX12_force_3 5 rfl rfl)
theorem dX12_force_79 : decode cX12_force 79 = .ok (.iload 4, 2) := dk_21 4 (dk_at dksX12_force_3 8 rfl rfl)
theorem dX12_force_81 : decode cX12_force 81 = .ok (.iload 5, 2) := dk_21 5 (dk_at dksX12_force_3 10 rfl rfl)
theorem dX12_force_83 : decode cX12_force 83 = .ok (.ishr, 1) := dk_122 (dk_at dksX12_force_3 12 rfl rfl)
theorem dX12_force_84 : decode cX12_force 84 = .ok (.iconst 1, 1) := dk_4 (dk_at dksX12_force_3 13 rfl rfl)
theorem dX12_force_85 : decode cX12_force 85 = .ok (.iand, 1) := dk_126 (dk_at dksX12_force_3 14 rfl rfl)
theorem dX12_force_86 : decode cX12_force 86 = .ok (.ifCond .ne 6, 3) := dk_154 0 6 (dk_at dksX12_force_3 15 rfl rfl)
theorem dX12_force_89 : decode cX12_force 89 = .ok (.goto 62, 3) := dk_167 0 62 (dk_at dksX12_force_3 18 rfl rfl)
theorem dX12_force_92 : decode cX12_force 92 = .ok (.iload 5, 2) := dk_21 5 (dk_at dksX12_force_3 21 rfl rfl)
theorem dX12_force_94 : decode cX12_force 94 = .ok (.ifCond .ne 7, 3) := dk_154 0 7 (dk_at dksX12_force_4 0 rfl rfl)
theorem dX12_force_97 : decode cX12_force 97 = .ok (.iload_n 1, 1) := dk_27 (dk_at dksX12_force_4 3 rfl rfl)
theorem dX12_force_98 : decode cX12_force 98 = .ok (.goto 12, 3) := dk_167 0 12 (dk_at dksX12_force_4 4 rfl rfl)
theorem dX12_force_101 : decode cX12_force 101 = .ok (.aload_n 0, 1) := dk_42 (dk_at dksX12_force_4 7 rfl rfl)
theorem dX12_force_102 : decode cX12_force 102 = .ok (.iload 5, 2) := dk_21 5 (dk_at dksX12_force_4 8 rfl rfl)
theorem dX12_force_104 : decode cX12_force 104 = .ok (.iconst 1, 1) := dk_4 (dk_at dksX12_force_4 10 rfl rfl)
theorem dX12_force_105 : decode cX12_force 105 = .ok (.isub, 1) := dk_100 (dk_at dksX12_force_4 11 rfl rfl)
theorem dX12_force_106 : decode cX12_force 106 = .ok (.iload_n 1, 1) := dk_27 (dk_at dksX12_force_4 12 rfl rfl)
theorem dX12_force_107 : decode cX12_force 107 = .ok (.invokevirtual 345, 3) := dk_182 1 89 (dk_at dksX12_force_4 13 rfl rfl)
theorem dX12_force_110 : decode cX12_force 110 = .ok (.istore 6, 2) := dk_54 6 (dk_at dksX12_force_4 16 rfl rfl)
theorem dX12_force_112 : decode cX12_force 112 = .ok (.aload_n 0, 1) := dk_42 (dk_at dksX12_force_4 18 rfl rfl)
theorem dX12_force_113 : decode cX12_force 113 = .ok (.iload_n 2, 1) := dk_28 (dk_at dksX12_force_4 19 rfl rfl)
theorem dX12_force_114 : decode cX12_force 114 = .ok (.iconst 1, 1) := dk_4 (dk_at dksX12_force_4 20 rfl rfl)
theorem dX12_force_115 : decode cX12_force 115 = .ok (.iadd, 1) := dk_96 (dk_at dksX12_force_4 21 rfl rfl)
theorem dX12_force_116 : decode cX12_force 116 = .ok (.iload 6, 2) := dk_21 6 (dk_at dksX12_force_4 22 rfl rfl)
theorem dX12_force_118 : decode cX12_force 118 = .ok (.aload_n 0, 1) := dk_42 (dk_at dksX12_force_5 0 rfl rfl)
theorem dX12_force_119 : decode cX12_force 119 = .ok (.getfield 23, 3) := dk_180 0 23 (dk_at dksX12_force_5 1 rfl rfl)
theorem dX12_force_122 : decode cX12_force 122 = .ok (.bipush 7, 2) := dk_16 7 (dk_at dksX12_force_5 4 rfl rfl)
theorem dX12_force_124 : decode cX12_force 124 = .ok (.iload 6, 2) := dk_21 6 (dk_at dksX12_force_5 6 rfl rfl)
theorem dX12_force_126 : decode cX12_force 126 = .ok (.iadd, 1) := dk_96 (dk_at dksX12_force_5 8 rfl rfl)
theorem dX12_force_127 : decode cX12_force 127 = .ok (.iaload, 1) := dk_46 (dk_at dksX12_force_5 9 rfl rfl)
theorem dX12_force_128 : decode cX12_force 128 = .ok (.iconst 1, 1) := dk_4 (dk_at dksX12_force_5 10 rfl rfl)
theorem dX12_force_129 : decode cX12_force 129 = .ok (.if_icmp .ne 10, 3) := dk_160 0 10 (dk_at dksX12_force_5 11 rfl rfl)
theorem dX12_force_132 : decode cX12_force 132 = .ok (.aload_n 0, 1) := dk_42 (dk_at dksX12_force_5 14 rfl rfl)
theorem dX12_force_133 : decode cX12_force 133 = .ok (.getfield 348, 3) := dk_180 1 92 (dk_at dksX12_force_5 15 rfl rfl)
theorem dX12_force_136 : decode cX12_force 136 = .ok (.goto 6, 3) := dk_167 0 6 (dk_at dksX12_force_5 18 rfl rfl)
theorem dX12_force_139 : decode cX12_force 139 = .ok (.iload_n 3, 1) := dk_29 (dk_at dksX12_force_5 21 rfl rfl)
theorem dX12_force_140 : decode cX12_force 140 = .ok (.iconst 1, 1) := dk_4 (dk_at dksX12_force_5 22 rfl rfl)
theorem dX12_force_141 : decode cX12_force 141 = .ok (.isub, 1) := dk_100 (dk_at dksX12_force_5 23 rfl rfl)
theorem dX12_force_142 : decode cX12_force 142 = .ok (.invokevirtual 472, 3) := dk_182 1 216 (dk_at dksX12_force_6 0 rfl rfl)
theorem dX12_force_145 : decode cX12_force 145 = .ok (.ifCond .eq 6, 3) := dk_153 0 6 (dk_at dksX12_force_6 3 rfl rfl)
theorem dX12_force_148 : decode cX12_force 148 = .ok (.iload 5, 2) := dk_21 5 (dk_at dksX12_force_6 6 rfl rfl)
theorem dX12_force_150 : decode cX12_force 150 = .ok (.ireturn, 1) := dk_172 (dk_at dksX12_force_6 8 rfl rfl)
theorem dX12_force_151 : decode cX12_force 151 = .ok (.iinc 5 1, 3) := dk_132 5 1 (dk_at dksX12_force_6 9 rfl rfl)
theorem dX12_force_154 : decode cX12_force 154 = .ok (.goto (-86), 3) := dk_167 255 170 (dk_at dksX12_force_6 12 rfl rfl)
theorem dX12_force_157 : decode cX12_force 157 = .ok (.iconst (-1), 1) := dk_2 (dk_at dksX12_force_6 15 rfl rfl)
theorem dX12_force_158 : decode cX12_force 158 = .ok (.ireturn, 1) := dk_172 (dk_at dksX12_force_6 16 rfl rfl)
abbrev cX12_ever : ByteArray := prog_27_method_111_code
def yX12_ever : MethodName := ⟨RX12, "ever", "(III)I"⟩
def dkwX12_ever_13 : List UInt8 := [167, 255, 41, 132, 4, 1, 167, 255, 21, 2, 172]
abbrev dktX12_ever_13 : List UInt8 := dkwX12_ever_13 ++ []
def dkwX12_ever_12 : List UInt8 := [182, 1, 89, 182, 1, 110, 4, 84, 132, 9, 1, 167, 255, 152, 132, 6, 1, 167, 255, 61, 132, 5, 1]
abbrev dktX12_ever_12 : List UInt8 := dkwX12_ever_12 ++ dktX12_ever_13
def dkwX12_ever_11 : List UInt8 := [21, 9, 153, 0, 8, 21, 10, 153, 0, 8, 21, 5, 167, 0, 13, 42, 21, 9, 4, 100, 21, 5]
abbrev dktX12_ever_11 : List UInt8 := dkwX12_ever_11 ++ dktX12_ever_12
def dkwX12_ever_10 : List UInt8 := [16, 16, 160, 0, 7, 4, 167, 0, 4, 3, 54, 10, 42, 180, 0, 112, 42, 21, 4, 21, 5, 21, 6]
abbrev dktX12_ever_10 : List UInt8 := dkwX12_ever_10 ++ dktX12_ever_11
def dkwX12_ever_9 : List UInt8 := [21, 9, 158, 0, 31, 42, 180, 0, 23, 17, 0, 132, 16, 24, 21, 9, 4, 100, 104, 96, 21, 4, 96, 46]
abbrev dktX12_ever_9 : List UInt8 := dkwX12_ever_9 ++ dktX12_ever_10
def dkwX12_ever_8 : List UInt8 := [21, 9, 42, 180, 0, 23, 4, 46, 163, 0, 99, 21, 8, 21, 9, 122, 4, 126, 154, 0, 6, 167, 0, 80]
abbrev dktX12_ever_8 : List UInt8 := dkwX12_ever_8 ++ dktX12_ever_9
def dkwX12_ever_7 : List UInt8 := [180, 0, 65, 21, 4, 46, 21, 4, 21, 5, 21, 6, 184, 1, 98, 182, 1, 121, 54, 8, 3, 54, 9]
abbrev dktX12_ever_7 : List UInt8 := dkwX12_ever_7 ++ dktX12_ever_8
def dkwX12_ever_6 : List UInt8 := [54, 7, 21, 7, 4, 160, 0, 8, 21, 4, 28, 100, 172, 21, 7, 153, 0, 6, 167, 0, 135, 42, 42]
abbrev dktX12_ever_6 : List UInt8 := dkwX12_ever_6 ++ dktX12_ever_7
def dkwX12_ever_5 : List UInt8 := [21, 5, 21, 6, 184, 1, 98, 51, 154, 0, 6, 167, 0, 166, 42, 21, 4, 21, 5, 21, 6, 182, 1, 94]
abbrev dktX12_ever_5 : List UInt8 := dkwX12_ever_5 ++ dktX12_ever_6
def dkwX12_ever_4 : List UInt8 := [3, 46, 162, 0, 210, 3, 54, 6, 21, 6, 42, 180, 1, 92, 163, 0, 192, 42, 180, 0, 112, 21, 4]
abbrev dktX12_ever_4 : List UInt8 := dkwX12_ever_4 ++ dktX12_ever_5
def dkwX12_ever_3 : List UInt8 := [84, 28, 54, 4, 21, 4, 42, 180, 0, 23, 6, 46, 163, 0, 230, 3, 54, 5, 21, 5, 42, 180, 0, 23]
abbrev dktX12_ever_3 : List UInt8 := dkwX12_ever_3 ++ dktX12_ever_4
def dkwX12_ever_2 : List UInt8 := [180, 0, 112, 21, 4, 3, 84, 132, 4, 1, 167, 255, 237, 42, 180, 0, 112, 28, 27, 29, 184, 1, 98, 4]
abbrev dktX12_ever_2 : List UInt8 := dkwX12_ever_2 ++ dktX12_ever_3
def dkwX12_ever_1 : List UInt8 := [182, 0, 226, 154, 0, 5, 3, 172, 42, 182, 1, 155, 3, 54, 4, 21, 4, 17, 15, 60, 162, 0, 17, 42]
abbrev dktX12_ever_1 : List UInt8 := dkwX12_ever_1 ++ dktX12_ever_2
def dkwX12_ever_0 : List UInt8 := [42, 3, 181, 0, 1, 42, 5, 182, 1, 75, 153, 0, 19, 42, 42, 27, 28, 29, 182, 1, 171, 4, 5]
abbrev dktX12_ever_0 : List UInt8 := dkwX12_ever_0 ++ dktX12_ever_1
theorem dksX12_ever_0 : cX12_ever.data.toList.drop 0 = dktX12_ever_0 := by decide +kernel
theorem dksX12_ever_1 : cX12_ever.data.toList.drop 23 = dktX12_ever_1 := dk_seg dksX12_ever_0 23 rfl rfl
theorem dksX12_ever_2 : cX12_ever.data.toList.drop 47 = dktX12_ever_2 := dk_seg dksX12_ever_1 24 rfl rfl
theorem dksX12_ever_3 : cX12_ever.data.toList.drop 71 = dktX12_ever_3 := dk_seg dksX12_ever_2 24 rfl rfl
theorem dksX12_ever_4 : cX12_ever.data.toList.drop 95 = dktX12_ever_4 := dk_seg dksX12_ever_3 24 rfl rfl
theorem dksX12_ever_5 : cX12_ever.data.toList.drop 118 = dktX12_ever_5 := dk_seg dksX12_ever_4 23 rfl rfl
theorem dksX12_ever_6 : cX12_ever.data.toList.drop 142 = dktX12_ever_6 := dk_seg dksX12_ever_5 24 rfl rfl
theorem dksX12_ever_7 : cX12_ever.data.toList.drop 165 = dktX12_ever_7 := dk_seg dksX12_ever_6 23 rfl rfl
theorem dksX12_ever_8 : cX12_ever.data.toList.drop 188 = dktX12_ever_8 := dk_seg dksX12_ever_7 23 rfl rfl
theorem dksX12_ever_9 : cX12_ever.data.toList.drop 212 = dktX12_ever_9 := dk_seg dksX12_ever_8 24 rfl rfl
theorem dksX12_ever_10 : cX12_ever.data.toList.drop 236 = dktX12_ever_10 := dk_seg dksX12_ever_9 24 rfl rfl
theorem dksX12_ever_11 : cX12_ever.data.toList.drop 259 = dktX12_ever_11 := dk_seg dksX12_ever_10 23 rfl rfl
theorem dksX12_ever_12 : cX12_ever.data.toList.drop 281 = dktX12_ever_12 := dk_seg dksX12_ever_11 22 rfl rfl
theorem dksX12_ever_13 : cX12_ever.data.toList.drop 304 = dktX12_ever_13 := dk_seg dksX12_ever_12 23 rfl rfl
theorem dX12_ever_0 : decode cX12_ever 0 = .ok (.aload_n 0, 1) := dk_42 (dk_at dksX12_ever_0 0 rfl rfl)
theorem dX12_ever_1 : decode cX12_ever 1 = .ok (.iconst 0, 1) := dk_3 (dk_at dksX12_ever_0 1 rfl rfl)
theorem dX12_ever_2 : decode cX12_ever 2 = .ok (.putfield 1, 3) := dk_181 0 1 (dk_at dksX12_ever_0 2 rfl rfl)
theorem dX12_ever_5 : decode cX12_ever 5 = .ok (.aload_n 0, 1) := dk_42 (dk_at dksX12_ever_0 5 rfl rfl)
theorem dX12_ever_6 : decode cX12_ever 6 = .ok (.iconst 2, 1) := dk_5 (dk_at dksX12_ever_0 6 rfl rfl)
theorem dX12_ever_7 : decode cX12_ever 7 = .ok (.invokevirtual 331, 3) := dk_182 1 75 (dk_at dksX12_ever_0 7 rfl rfl)
theorem dX12_ever_10 : decode cX12_ever 10 = .ok (.ifCond .eq 19, 3) := dk_153 0 19 (dk_at dksX12_ever_0 10 rfl rfl)
theorem dX12_ever_13 : decode cX12_ever 13 = .ok (.aload_n 0, 1) := dk_42 (dk_at dksX12_ever_0 13 rfl rfl)
theorem dX12_ever_14 : decode cX12_ever 14 = .ok (.aload_n 0, 1) := dk_42 (dk_at dksX12_ever_0 14 rfl rfl)
theorem dX12_ever_15 : decode cX12_ever 15 = .ok (.iload_n 1, 1) := dk_27 (dk_at dksX12_ever_0 15 rfl rfl)
theorem dX12_ever_16 : decode cX12_ever 16 = .ok (.iload_n 2, 1) := dk_28 (dk_at dksX12_ever_0 16 rfl rfl)
theorem dX12_ever_17 : decode cX12_ever 17 = .ok (.iload_n 3, 1) := dk_29 (dk_at dksX12_ever_0 17 rfl rfl)
theorem dX12_ever_18 : decode cX12_ever 18 = .ok (.invokevirtual 427, 3) := dk_182 1 171 (dk_at dksX12_ever_0 18 rfl rfl)
theorem dX12_ever_21 : decode cX12_ever 21 = .ok (.iconst 1, 1) := dk_4 (dk_at dksX12_ever_0 21 rfl rfl)
theorem dX12_ever_22 : decode cX12_ever 22 = .ok (.iconst 2, 1) := dk_5 (dk_at dksX12_ever_0 22 rfl rfl)
theorem dX12_ever_23 : decode cX12_ever 23 = .ok (.invokevirtual 226, 3) := dk_182 0 226 (dk_at dksX12_ever_1 0 rfl rfl)
theorem dX12_ever_26 : decode cX12_ever 26 = .ok (.ifCond .ne 5, 3) := dk_154 0 5 (dk_at dksX12_ever_1 3 rfl rfl)
theorem dX12_ever_29 : decode cX12_ever 29 = .ok (.iconst 0, 1) := dk_3 (dk_at dksX12_ever_1 6 rfl rfl)
theorem dX12_ever_30 : decode cX12_ever 30 = .ok (.ireturn, 1) := dk_172 (dk_at dksX12_ever_1 7 rfl rfl)
theorem dX12_ever_31 : decode cX12_ever 31 = .ok (.aload_n 0, 1) := dk_42 (dk_at dksX12_ever_1 8 rfl rfl)
theorem dX12_ever_32 : decode cX12_ever 32 = .ok (.invokevirtual 411, 3) := dk_182 1 155 (dk_at dksX12_ever_1 9 rfl rfl)
theorem dX12_ever_35 : decode cX12_ever 35 = .ok (.iconst 0, 1) := dk_3 (dk_at dksX12_ever_1 12 rfl rfl)
theorem dX12_ever_36 : decode cX12_ever 36 = .ok (.istore 4, 2) := dk_54 4 (dk_at dksX12_ever_1 13 rfl rfl)
theorem dX12_ever_38 : decode cX12_ever 38 = .ok (.iload 4, 2) := dk_21 4 (dk_at dksX12_ever_1 15 rfl rfl)
theorem dX12_ever_40 : decode cX12_ever 40 = .ok (.sipush 3900, 3) := dk_17 15 60 (dk_at dksX12_ever_1 17 rfl rfl)
theorem dX12_ever_43 : decode cX12_ever 43 = .ok (.if_icmp .ge 17, 3) := dk_162 0 17 (dk_at dksX12_ever_1 20 rfl rfl)
theorem dX12_ever_46 : decode cX12_ever 46 = .ok (.aload_n 0, 1) := dk_42 (dk_at dksX12_ever_1 23 rfl rfl)
theorem dX12_ever_47 : decode cX12_ever 47 = .ok (.getfield 112, 3) := dk_180 0 112 (dk_at dksX12_ever_2 0 rfl rfl)
theorem dX12_ever_50 : decode cX12_ever 50 = .ok (.iload 4, 2) := dk_21 4 (dk_at dksX12_ever_2 3 rfl rfl)
theorem dX12_ever_52 : decode cX12_ever 52 = .ok (.iconst 0, 1) := dk_3 (dk_at dksX12_ever_2 5 rfl rfl)
theorem dX12_ever_53 : decode cX12_ever 53 = .ok (.bastore, 1) := dk_84 (dk_at dksX12_ever_2 6 rfl rfl)
theorem dX12_ever_54 : decode cX12_ever 54 = .ok (.iinc 4 1, 3) := dk_132 4 1 (dk_at dksX12_ever_2 7 rfl rfl)
theorem dX12_ever_57 : decode cX12_ever 57 = .ok (.goto (-19), 3) := dk_167 255 237 (dk_at dksX12_ever_2 10 rfl rfl)
theorem dX12_ever_60 : decode cX12_ever 60 = .ok (.aload_n 0, 1) := dk_42 (dk_at dksX12_ever_2 13 rfl rfl)
theorem dX12_ever_61 : decode cX12_ever 61 = .ok (.getfield 112, 3) := dk_180 0 112 (dk_at dksX12_ever_2 14 rfl rfl)
theorem dX12_ever_64 : decode cX12_ever 64 = .ok (.iload_n 2, 1) := dk_28 (dk_at dksX12_ever_2 17 rfl rfl)
theorem dX12_ever_65 : decode cX12_ever 65 = .ok (.iload_n 1, 1) := dk_27 (dk_at dksX12_ever_2 18 rfl rfl)
theorem dX12_ever_66 : decode cX12_ever 66 = .ok (.iload_n 3, 1) := dk_29 (dk_at dksX12_ever_2 19 rfl rfl)
theorem dX12_ever_67 : decode cX12_ever 67 = .ok (.invokestatic 354, 3) := dk_184 1 98 (dk_at dksX12_ever_2 20 rfl rfl)
theorem dX12_ever_70 : decode cX12_ever 70 = .ok (.iconst 1, 1) := dk_4 (dk_at dksX12_ever_2 23 rfl rfl)
theorem dX12_ever_71 : decode cX12_ever 71 = .ok (.bastore, 1) := dk_84 (dk_at dksX12_ever_3 0 rfl rfl)
theorem dX12_ever_72 : decode cX12_ever 72 = .ok (.iload_n 2, 1) := dk_28 (dk_at dksX12_ever_3 1 rfl rfl)
theorem dX12_ever_73 : decode cX12_ever 73 = .ok (.istore 4, 2) := dk_54 4 (dk_at dksX12_ever_3 2 rfl rfl)
theorem dX12_ever_75 : decode cX12_ever 75 = .ok (.iload 4, 2) := dk_21 4 (dk_at dksX12_ever_3 4 rfl rfl)
theorem dX12_ever_77 : decode cX12_ever 77 = .ok (.aload_n 0, 1) := dk_42 (dk_at dksX12_ever_3 6 rfl rfl)
theorem dX12_ever_78 : decode cX12_ever 78 = .ok (.getfield 23, 3) := dk_180 0 23 (dk_at dksX12_ever_3 7 rfl rfl)
theorem dX12_ever_81 : decode cX12_ever 81 = .ok (.iconst 3, 1) := dk_6 (dk_at dksX12_ever_3 10 rfl rfl)
theorem dX12_ever_82 : decode cX12_ever 82 = .ok (.iaload, 1) := dk_46 (dk_at dksX12_ever_3 11 rfl rfl)
theorem dX12_ever_83 : decode cX12_ever 83 = .ok (.if_icmp .gt 230, 3) := dk_163 0 230 (dk_at dksX12_ever_3 12 rfl rfl)
theorem dX12_ever_86 : decode cX12_ever 86 = .ok (.iconst 0, 1) := dk_3 (dk_at dksX12_ever_3 15 rfl rfl)
theorem dX12_ever_87 : decode cX12_ever 87 = .ok (.istore 5, 2) := dk_54 5 (dk_at dksX12_ever_3 16 rfl rfl)
theorem dX12_ever_89 : decode cX12_ever 89 = .ok (.iload 5, 2) := dk_21 5 (dk_at dksX12_ever_3 18 rfl rfl)
theorem dX12_ever_91 : decode cX12_ever 91 = .ok (.aload_n 0, 1) := dk_42 (dk_at dksX12_ever_3 20 rfl rfl)
theorem dX12_ever_92 : decode cX12_ever 92 = .ok (.getfield 23, 3) := dk_180 0 23 (dk_at dksX12_ever_3 21 rfl rfl)
theorem dX12_ever_95 : decode cX12_ever 95 = .ok (.iconst 0, 1) := dk_3 (dk_at dksX12_ever_4 0 rfl rfl)
theorem dX12_ever_96 : decode cX12_ever 96 = .ok (.iaload, 1) := dk_46 (dk_at dksX12_ever_4 1 rfl rfl)
theorem dX12_ever_97 : decode cX12_ever 97 = .ok (.if_icmp .ge 210, 3) := dk_162 0 210 (dk_at dksX12_ever_4 2 rfl rfl)
theorem dX12_ever_100 : decode cX12_ever 100 = .ok (.iconst 0, 1) := dk_3 (dk_at dksX12_ever_4 5 rfl rfl)
theorem dX12_ever_101 : decode cX12_ever 101 = .ok (.istore 6, 2) := dk_54 6 (dk_at dksX12_ever_4 6 rfl rfl)
theorem dX12_ever_103 : decode cX12_ever 103 = .ok (.iload 6, 2) := dk_21 6 (dk_at dksX12_ever_4 8 rfl rfl)
theorem dX12_ever_105 : decode cX12_ever 105 = .ok (.aload_n 0, 1) := dk_42 (dk_at dksX12_ever_4 10 rfl rfl)
theorem dX12_ever_106 : decode cX12_ever 106 = .ok (.getfield 348, 3) := dk_180 1 92 (dk_at dksX12_ever_4 11 rfl rfl)
theorem dX12_ever_109 : decode cX12_ever 109 = .ok (.if_icmp .gt 192, 3) := dk_163 0 192 (dk_at dksX12_ever_4 14 rfl rfl)
theorem dX12_ever_112 : decode cX12_ever 112 = .ok (.aload_n 0, 1) := dk_42 (dk_at dksX12_ever_4 17 rfl rfl)
theorem dX12_ever_113 : decode cX12_ever 113 = .ok (.getfield 112, 3) := dk_180 0 112 (dk_at dksX12_ever_4 18 rfl rfl)
theorem dX12_ever_116 : decode cX12_ever 116 = .ok (.iload 4, 2) := dk_21 4 (dk_at dksX12_ever_4 21 rfl rfl)
theorem dX12_ever_118 : decode cX12_ever 118 = .ok (.iload 5, 2) := dk_21 5 (dk_at dksX12_ever_5 0 rfl rfl)
theorem dX12_ever_120 : decode cX12_ever 120 = .ok (.iload 6, 2) := dk_21 6 (dk_at dksX12_ever_5 2 rfl rfl)
theorem dX12_ever_122 : decode cX12_ever 122 = .ok (.invokestatic 354, 3) := dk_184 1 98 (dk_at dksX12_ever_5 4 rfl rfl)
theorem dX12_ever_125 : decode cX12_ever 125 = .ok (.baload, 1) := dk_51 (dk_at dksX12_ever_5 7 rfl rfl)
theorem dX12_ever_126 : decode cX12_ever 126 = .ok (.ifCond .ne 6, 3) := dk_154 0 6 (dk_at dksX12_ever_5 8 rfl rfl)
theorem dX12_ever_129 : decode cX12_ever 129 = .ok (.goto 166, 3) := dk_167 0 166 (dk_at dksX12_ever_5 11 rfl rfl)
theorem dX12_ever_132 : decode cX12_ever 132 = .ok (.aload_n 0, 1) := dk_42 (dk_at dksX12_ever_5 14 rfl rfl)
theorem dX12_ever_133 : decode cX12_ever 133 = .ok (.iload 4, 2) := dk_21 4 (dk_at dksX12_ever_5 15 rfl rfl)
theorem dX12_ever_135 : decode cX12_ever 135 = .ok (.iload 5, 2) := dk_21 5 (dk_at dksX12_ever_5 17 rfl rfl)
theorem dX12_ever_137 : decode cX12_ever 137 = .ok (.iload 6, 2) := dk_21 6 (dk_at dksX12_ever_5 19 rfl rfl)
theorem dX12_ever_139 : decode cX12_ever 139 = .ok (.invokevirtual 350, 3) := dk_182 1 94 (dk_at dksX12_ever_5 21 rfl rfl)
theorem dX12_ever_142 : decode cX12_ever 142 = .ok (.istore 7, 2) := dk_54 7 (dk_at dksX12_ever_6 0 rfl rfl)
theorem dX12_ever_144 : decode cX12_ever 144 = .ok (.iload 7, 2) := dk_21 7 (dk_at dksX12_ever_6 2 rfl rfl)
theorem dX12_ever_146 : decode cX12_ever 146 = .ok (.iconst 1, 1) := dk_4 (dk_at dksX12_ever_6 4 rfl rfl)
theorem dX12_ever_147 : decode cX12_ever 147 = .ok (.if_icmp .ne 8, 3) := dk_160 0 8 (dk_at dksX12_ever_6 5 rfl rfl)
theorem dX12_ever_150 : decode cX12_ever 150 = .ok (.iload 4, 2) := dk_21 4 (dk_at dksX12_ever_6 8 rfl rfl)
theorem dX12_ever_152 : decode cX12_ever 152 = .ok (.iload_n 2, 1) := dk_28 (dk_at dksX12_ever_6 10 rfl rfl)
theorem dX12_ever_153 : decode cX12_ever 153 = .ok (.isub, 1) := dk_100 (dk_at dksX12_ever_6 11 rfl rfl)
theorem dX12_ever_154 : decode cX12_ever 154 = .ok (.ireturn, 1) := dk_172 (dk_at dksX12_ever_6 12 rfl rfl)
theorem dX12_ever_155 : decode cX12_ever 155 = .ok (.iload 7, 2) := dk_21 7 (dk_at dksX12_ever_6 13 rfl rfl)
theorem dX12_ever_157 : decode cX12_ever 157 = .ok (.ifCond .eq 6, 3) := dk_153 0 6 (dk_at dksX12_ever_6 15 rfl rfl)
theorem dX12_ever_160 : decode cX12_ever 160 = .ok (.goto 135, 3) := dk_167 0 135 (dk_at dksX12_ever_6 18 rfl rfl)
theorem dX12_ever_163 : decode cX12_ever 163 = .ok (.aload_n 0, 1) := dk_42 (dk_at dksX12_ever_6 21 rfl rfl)
theorem dX12_ever_164 : decode cX12_ever 164 = .ok (.aload_n 0, 1) := dk_42 (dk_at dksX12_ever_6 22 rfl rfl)
theorem dX12_ever_165 : decode cX12_ever 165 = .ok (.getfield 65, 3) := dk_180 0 65 (dk_at dksX12_ever_7 0 rfl rfl)
theorem dX12_ever_168 : decode cX12_ever 168 = .ok (.iload 4, 2) := dk_21 4 (dk_at dksX12_ever_7 3 rfl rfl)
theorem dX12_ever_170 : decode cX12_ever 170 = .ok (.iaload, 1) := dk_46 (dk_at dksX12_ever_7 5 rfl rfl)
theorem dX12_ever_171 : decode cX12_ever 171 = .ok (.iload 4, 2) := dk_21 4 (dk_at dksX12_ever_7 6 rfl rfl)
theorem dX12_ever_173 : decode cX12_ever 173 = .ok (.iload 5, 2) := dk_21 5 (dk_at dksX12_ever_7 8 rfl rfl)
theorem dX12_ever_175 : decode cX12_ever 175 = .ok (.iload 6, 2) := dk_21 6 (dk_at dksX12_ever_7 10 rfl rfl)
theorem dX12_ever_177 : decode cX12_ever 177 = .ok (.invokestatic 354, 3) := dk_184 1 98 (dk_at dksX12_ever_7 12 rfl rfl)
theorem dX12_ever_180 : decode cX12_ever 180 = .ok (.invokevirtual 377, 3) := dk_182 1 121 (dk_at dksX12_ever_7 15 rfl rfl)
theorem dX12_ever_183 : decode cX12_ever 183 = .ok (.istore 8, 2) := dk_54 8 (dk_at dksX12_ever_7 18 rfl rfl)
theorem dX12_ever_185 : decode cX12_ever 185 = .ok (.iconst 0, 1) := dk_3 (dk_at dksX12_ever_7 20 rfl rfl)
theorem dX12_ever_186 : decode cX12_ever 186 = .ok (.istore 9, 2) := dk_54 9 (dk_at dksX12_ever_7 21 rfl rfl)
theorem dX12_ever_188 : decode cX12_ever 188 = .ok (.iload 9, 2) := dk_21 9 (dk_at dksX12_ever_8 0 rfl rfl)
theorem dX12_ever_190 : decode cX12_ever 190 = .ok (.aload_n 0, 1) := dk_42 (dk_at dksX12_ever_8 2 rfl rfl)
theorem dX12_ever_191 : decode cX12_ever 191 = .ok (.getfield 23, 3) := dk_180 0 23 (dk_at dksX12_ever_8 3 rfl rfl)
theorem dX12_ever_194 : decode cX12_ever 194 = .ok (.iconst 1, 1) := dk_4 (dk_at dksX12_ever_8 6 rfl rfl)
theorem dX12_ever_195 : decode cX12_ever 195 = .ok (.iaload, 1) := dk_46 (dk_at dksX12_ever_8 7 rfl rfl)
theorem dX12_ever_196 : decode cX12_ever 196 = .ok (.if_icmp .gt 99, 3) := dk_163 0 99 (dk_at dksX12_ever_8 8 rfl rfl)
theorem dX12_ever_199 : decode cX12_ever 199 = .ok (.iload 8, 2) := dk_21 8 (dk_at dksX12_ever_8 11 rfl rfl)
theorem dX12_ever_201 : decode cX12_ever 201 = .ok (.iload 9, 2) := dk_21 9 (dk_at dksX12_ever_8 13 rfl rfl)
theorem dX12_ever_203 : decode cX12_ever 203 = .ok (.ishr, 1) := dk_122 (dk_at dksX12_ever_8 15 rfl rfl)
theorem dX12_ever_204 : decode cX12_ever 204 = .ok (.iconst 1, 1) := dk_4 (dk_at dksX12_ever_8 16 rfl rfl)
theorem dX12_ever_205 : decode cX12_ever 205 = .ok (.iand, 1) := dk_126 (dk_at dksX12_ever_8 17 rfl rfl)
theorem dX12_ever_206 : decode cX12_ever 206 = .ok (.ifCond .ne 6, 3) := dk_154 0 6 (dk_at dksX12_ever_8 18 rfl rfl)
theorem dX12_ever_209 : decode cX12_ever 209 = .ok (.goto 80, 3) := dk_167 0 80 (dk_at dksX12_ever_8 21 rfl rfl)
theorem dX12_ever_212 : decode cX12_ever 212 = .ok (.iload 9, 2) := dk_21 9 (dk_at dksX12_ever_9 0 rfl rfl)
theorem dX12_ever_214 : decode cX12_ever 214 = .ok (.ifCond .le 31, 3) := dk_158 0 31 (dk_at dksX12_ever_9 2 rfl rfl)
theorem dX12_ever_217 : decode cX12_ever 217 = .ok (.aload_n 0, 1) := dk_42 (dk_at dksX12_ever_9 5 rfl rfl)
theorem dX12_ever_218 : decode cX12_ever 218 = .ok (.getfield 23, 3) := dk_180 0 23 (dk_at dksX12_ever_9 6 rfl rfl)
theorem dX12_ever_221 : decode cX12_ever 221 = .ok (.sipush 132, 3) := dk_17 0 132 (dk_at dksX12_ever_9 9 rfl rfl)
theorem dX12_ever_224 : decode cX12_ever 224 = .ok (.bipush 24, 2) := dk_16 24 (dk_at dksX12_ever_9 12 rfl rfl)
theorem dX12_ever_226 : decode cX12_ever 226 = .ok (.iload 9, 2) := dk_21 9 (dk_at dksX12_ever_9 14 rfl rfl)
theorem dX12_ever_228 : decode cX12_ever 228 = .ok (.iconst 1, 1) := dk_4 (dk_at dksX12_ever_9 16 rfl rfl)
theorem dX12_ever_229 : decode cX12_ever 229 = .ok (.isub, 1) := dk_100 (dk_at dksX12_ever_9 17 rfl rfl)
theorem dX12_ever_230 : decode cX12_ever 230 = .ok (.imul, 1) := dk_104 (dk_at dksX12_ever_9 18 rfl rfl)
theorem dX12_ever_231 : decode cX12_ever 231 = .ok (.iadd, 1) := dk_96 (dk_at dksX12_ever_9 19 rfl rfl)
theorem dX12_ever_232 : decode cX12_ever 232 = .ok (.iload 4, 2) := dk_21 4 (dk_at dksX12_ever_9 20 rfl rfl)
theorem dX12_ever_234 : decode cX12_ever 234 = .ok (.iadd, 1) := dk_96 (dk_at dksX12_ever_9 22 rfl rfl)
theorem dX12_ever_235 : decode cX12_ever 235 = .ok (.iaload, 1) := dk_46 (dk_at dksX12_ever_9 23 rfl rfl)
theorem dX12_ever_236 : decode cX12_ever 236 = .ok (.bipush 16, 2) := dk_16 16 (dk_at dksX12_ever_10 0 rfl rfl)
theorem dX12_ever_238 : decode cX12_ever 238 = .ok (.if_icmp .ne 7, 3) := dk_160 0 7 (dk_at dksX12_ever_10 2 rfl rfl)
theorem dX12_ever_241 : decode cX12_ever 241 = .ok (.iconst 1, 1) := dk_4 (dk_at dksX12_ever_10 5 rfl rfl)
theorem dX12_ever_242 : decode cX12_ever 242 = .ok (.goto 4, 3) := dk_167 0 4 (dk_at dksX12_ever_10 6 rfl rfl)
theorem dX12_ever_245 : decode cX12_ever 245 = .ok (.iconst 0, 1) := dk_3 (dk_at dksX12_ever_10 9 rfl rfl)
theorem dX12_ever_246 : decode cX12_ever 246 = .ok (.istore 10, 2) := dk_54 10 (dk_at dksX12_ever_10 10 rfl rfl)
theorem dX12_ever_248 : decode cX12_ever 248 = .ok (.aload_n 0, 1) := dk_42 (dk_at dksX12_ever_10 12 rfl rfl)
theorem dX12_ever_249 : decode cX12_ever 249 = .ok (.getfield 112, 3) := dk_180 0 112 (dk_at dksX12_ever_10 13 rfl rfl)
theorem dX12_ever_252 : decode cX12_ever 252 = .ok (.aload_n 0, 1) := dk_42 (dk_at dksX12_ever_10 16 rfl rfl)
theorem dX12_ever_253 : decode cX12_ever 253 = .ok (.iload 4, 2) := dk_21 4 (dk_at dksX12_ever_10 17 rfl rfl)
theorem dX12_ever_255 : decode cX12_ever 255 = .ok (.iload 5, 2) := dk_21 5 (dk_at dksX12_ever_10 19 rfl rfl)
theorem dX12_ever_257 : decode cX12_ever 257 = .ok (.iload 6, 2) := dk_21 6 (dk_at dksX12_ever_10 21 rfl rfl)
theorem dX12_ever_259 : decode cX12_ever 259 = .ok (.iload 9, 2) := dk_21 9 (dk_at dksX12_ever_11 0 rfl rfl)
theorem dX12_ever_261 : decode cX12_ever 261 = .ok (.ifCond .eq 8, 3) := dk_153 0 8 (dk_at dksX12_ever_11 2 rfl rfl)
theorem dX12_ever_264 : decode cX12_ever 264 = .ok (.iload 10, 2) := dk_21 10 (dk_at dksX12_ever_11 5 rfl rfl)
theorem dX12_ever_266 : decode cX12_ever 266 = .ok (.ifCond .eq 8, 3) := dk_153 0 8 (dk_at dksX12_ever_11 7 rfl rfl)
theorem dX12_ever_269 : decode cX12_ever 269 = .ok (.iload 5, 2) := dk_21 5 (dk_at dksX12_ever_11 10 rfl rfl)
theorem dX12_ever_271 : decode cX12_ever 271 = .ok (.goto 13, 3) := dk_167 0 13 (dk_at dksX12_ever_11 12 rfl rfl)
theorem dX12_ever_274 : decode cX12_ever 274 = .ok (.aload_n 0, 1) := dk_42 (dk_at dksX12_ever_11 15 rfl rfl)
theorem dX12_ever_275 : decode cX12_ever 275 = .ok (.iload 9, 2) := dk_21 9 (dk_at dksX12_ever_11 16 rfl rfl)
theorem dX12_ever_277 : decode cX12_ever 277 = .ok (.iconst 1, 1) := dk_4 (dk_at dksX12_ever_11 18 rfl rfl)
theorem dX12_ever_278 : decode cX12_ever 278 = .ok (.isub, 1) := dk_100 (dk_at dksX12_ever_11 19 rfl rfl)
theorem dX12_ever_279 : decode cX12_ever 279 = .ok (.iload 5, 2) := dk_21 5 (dk_at dksX12_ever_11 20 rfl rfl)
theorem dX12_ever_281 : decode cX12_ever 281 = .ok (.invokevirtual 345, 3) := dk_182 1 89 (dk_at dksX12_ever_12 0 rfl rfl)
theorem dX12_ever_284 : decode cX12_ever 284 = .ok (.invokevirtual 366, 3) := dk_182 1 110 (dk_at dksX12_ever_12 3 rfl rfl)
theorem dX12_ever_287 : decode cX12_ever 287 = .ok (.iconst 1, 1) := dk_4 (dk_at dksX12_ever_12 6 rfl rfl)
theorem dX12_ever_288 : decode cX12_ever 288 = .ok (.bastore, 1) := dk_84 (dk_at dksX12_ever_12 7 rfl rfl)
theorem dX12_ever_289 : decode cX12_ever 289 = .ok (.iinc 9 1, 3) := dk_132 9 1 (dk_at dksX12_ever_12 8 rfl rfl)
theorem dX12_ever_292 : decode cX12_ever 292 = .ok (.goto (-104), 3) := dk_167 255 152 (dk_at dksX12_ever_12 11 rfl rfl)
theorem dX12_ever_295 : decode cX12_ever 295 = .ok (.iinc 6 1, 3) := dk_132 6 1 (dk_at dksX12_ever_12 14 rfl rfl)
theorem dX12_ever_298 : decode cX12_ever 298 = .ok (.goto (-195), 3) := dk_167 255 61 (dk_at dksX12_ever_12 17 rfl rfl)
theorem dX12_ever_301 : decode cX12_ever 301 = .ok (.iinc 5 1, 3) := dk_132 5 1 (dk_at dksX12_ever_12 20 rfl rfl)
theorem dX12_ever_304 : decode cX12_ever 304 = .ok (.goto (-215), 3) := dk_167 255 41 (dk_at dksX12_ever_13 0 rfl rfl)
theorem dX12_ever_307 : decode cX12_ever 307 = .ok (.iinc 4 1, 3) := dk_132 4 1 (dk_at dksX12_ever_13 3 rfl rfl)
theorem dX12_ever_310 : decode cX12_ever 310 = .ok (.goto (-235), 3) := dk_167 255 21 (dk_at dksX12_ever_13 6 rfl rfl)
theorem dX12_ever_313 : decode cX12_ever 313 = .ok (.iconst (-1), 1) := dk_2 (dk_at dksX12_ever_13 9 rfl rfl)
theorem dX12_ever_314 : decode cX12_ever 314 = .ok (.ireturn, 1) := dk_172 (dk_at dksX12_ever_13 10 rfl rfl)
abbrev cX12_there : ByteArray := prog_27_method_115_code
def yX12_there : MethodName := ⟨RX12, "there", "(I)J"⟩
def dkwX12_there_1 : List UInt8 := [182, 0, 226, 154, 0, 5, 9, 173, 42, 182, 1, 174, 42, 182, 1, 223, 42, 27, 4, 96, 182, 1, 226, 173]
abbrev dktX12_there_1 : List UInt8 := dkwX12_there_1 ++ []
def dkwX12_there_0 : List UInt8 := [42, 3, 181, 0, 1, 42, 5, 182, 1, 75, 153, 0, 18, 42, 27, 3, 4, 184, 1, 58, 4, 5]
abbrev dktX12_there_0 : List UInt8 := dkwX12_there_0 ++ dktX12_there_1
theorem dksX12_there_0 : cX12_there.data.toList.drop 0 = dktX12_there_0 := by decide +kernel
theorem dksX12_there_1 : cX12_there.data.toList.drop 22 = dktX12_there_1 := dk_seg dksX12_there_0 22 rfl rfl
theorem dX12_there_0 : decode cX12_there 0 = .ok (.aload_n 0, 1) := dk_42 (dk_at dksX12_there_0 0 rfl rfl)
theorem dX12_there_1 : decode cX12_there 1 = .ok (.iconst 0, 1) := dk_3 (dk_at dksX12_there_0 1 rfl rfl)
theorem dX12_there_2 : decode cX12_there 2 = .ok (.putfield 1, 3) := dk_181 0 1 (dk_at dksX12_there_0 2 rfl rfl)
theorem dX12_there_5 : decode cX12_there 5 = .ok (.aload_n 0, 1) := dk_42 (dk_at dksX12_there_0 5 rfl rfl)
theorem dX12_there_6 : decode cX12_there 6 = .ok (.iconst 2, 1) := dk_5 (dk_at dksX12_there_0 6 rfl rfl)
theorem dX12_there_7 : decode cX12_there 7 = .ok (.invokevirtual 331, 3) := dk_182 1 75 (dk_at dksX12_there_0 7 rfl rfl)
theorem dX12_there_10 : decode cX12_there 10 = .ok (.ifCond .eq 18, 3) := dk_153 0 18 (dk_at dksX12_there_0 10 rfl rfl)
theorem dX12_there_13 : decode cX12_there 13 = .ok (.aload_n 0, 1) := dk_42 (dk_at dksX12_there_0 13 rfl rfl)
theorem dX12_there_14 : decode cX12_there 14 = .ok (.iload_n 1, 1) := dk_27 (dk_at dksX12_there_0 14 rfl rfl)
theorem dX12_there_15 : decode cX12_there 15 = .ok (.iconst 0, 1) := dk_3 (dk_at dksX12_there_0 15 rfl rfl)
theorem dX12_there_16 : decode cX12_there 16 = .ok (.iconst 1, 1) := dk_4 (dk_at dksX12_there_0 16 rfl rfl)
theorem dX12_there_17 : decode cX12_there 17 = .ok (.invokestatic 314, 3) := dk_184 1 58 (dk_at dksX12_there_0 17 rfl rfl)
theorem dX12_there_20 : decode cX12_there 20 = .ok (.iconst 1, 1) := dk_4 (dk_at dksX12_there_0 20 rfl rfl)
theorem dX12_there_21 : decode cX12_there 21 = .ok (.iconst 2, 1) := dk_5 (dk_at dksX12_there_0 21 rfl rfl)
theorem dX12_there_22 : decode cX12_there 22 = .ok (.invokevirtual 226, 3) := dk_182 0 226 (dk_at dksX12_there_1 0 rfl rfl)
theorem dX12_there_25 : decode cX12_there 25 = .ok (.ifCond .ne 5, 3) := dk_154 0 5 (dk_at dksX12_there_1 3 rfl rfl)
theorem dX12_there_28 : decode cX12_there 28 = .ok (.lconst 0, 1) := dk_9 (dk_at dksX12_there_1 6 rfl rfl)
theorem dX12_there_29 : decode cX12_there 29 = .ok (.lreturn, 1) := dk_173 (dk_at dksX12_there_1 7 rfl rfl)
theorem dX12_there_30 : decode cX12_there 30 = .ok (.aload_n 0, 1) := dk_42 (dk_at dksX12_there_1 8 rfl rfl)
theorem dX12_there_31 : decode cX12_there 31 = .ok (.invokevirtual 430, 3) := dk_182 1 174 (dk_at dksX12_there_1 9 rfl rfl)
theorem dX12_there_34 : decode cX12_there 34 = .ok (.aload_n 0, 1) := dk_42 (dk_at dksX12_there_1 12 rfl rfl)
theorem dX12_there_35 : decode cX12_there 35 = .ok (.invokevirtual 479, 3) := dk_182 1 223 (dk_at dksX12_there_1 13 rfl rfl)
theorem dX12_there_38 : decode cX12_there 38 = .ok (.aload_n 0, 1) := dk_42 (dk_at dksX12_there_1 16 rfl rfl)
theorem dX12_there_39 : decode cX12_there 39 = .ok (.iload_n 1, 1) := dk_27 (dk_at dksX12_there_1 17 rfl rfl)
theorem dX12_there_40 : decode cX12_there 40 = .ok (.iconst 1, 1) := dk_4 (dk_at dksX12_there_1 18 rfl rfl)
theorem dX12_there_41 : decode cX12_there 41 = .ok (.iadd, 1) := dk_96 (dk_at dksX12_there_1 19 rfl rfl)
theorem dX12_there_42 : decode cX12_there 42 = .ok (.invokevirtual 482, 3) := dk_182 1 226 (dk_at dksX12_there_1 20 rfl rfl)
theorem dX12_there_45 : decode cX12_there 45 = .ok (.lreturn, 1) := dk_173 (dk_at dksX12_there_1 23 rfl rfl)
abbrev cX12_flows : ByteArray := prog_27_method_112_code
def yX12_flows : MethodName := ⟨RX12, "flows", "()V"⟩
def dkwX12_flows_11 : List UInt8 := [167, 255, 32, 177]
abbrev dktX12_flows_11 : List UInt8 := dkwX12_flows_11 ++ []
def dkwX12_flows_10 : List UInt8 := [21, 8, 21, 7, 100, 133, 105, 97, 80, 132, 3, 1, 167, 255, 68, 132, 2, 1, 167, 255, 50, 132, 1, 1]
abbrev dktX12_flows_10 : List UInt8 := dkwX12_flows_10 ++ dktX12_flows_11
def dkwX12_flows_9 : List UInt8 := [180, 0, 115, 42, 27, 28, 29, 42, 21, 6, 4, 100, 28, 182, 1, 89, 182, 1, 110, 92, 47, 22, 4]
abbrev dktX12_flows_9 : List UInt8 := dkwX12_flows_9 ++ dktX12_flows_10
def dkwX12_flows_8 : List UInt8 := [42, 180, 0, 115, 42, 27, 28, 29, 28, 182, 1, 110, 92, 47, 22, 4, 21, 7, 133, 105, 97, 80, 42]
abbrev dktX12_flows_8 : List UInt8 := dkwX12_flows_8 ++ dktX12_flows_9
def dkwX12_flows_7 : List UInt8 := [180, 0, 115, 42, 27, 28, 29, 28, 182, 1, 110, 92, 47, 22, 4, 21, 8, 133, 105, 97, 80, 167, 0, 58]
abbrev dktX12_flows_7 : List UInt8 := dkwX12_flows_7 ++ dktX12_flows_8
def dkwX12_flows_6 : List UInt8 := [42, 180, 0, 99, 27, 51, 153, 0, 8, 16, 16, 167, 0, 4, 4, 54, 8, 21, 6, 154, 0, 28, 42]
abbrev dktX12_flows_6 : List UInt8 := dkwX12_flows_6 ++ dktX12_flows_7
def dkwX12_flows_5 : List UInt8 := [3, 167, 0, 21, 42, 180, 0, 23, 17, 0, 132, 16, 24, 21, 6, 4, 100, 104, 96, 27, 96, 46, 54, 7]
abbrev dktX12_flows_5 : List UInt8 := dkwX12_flows_5 ++ dktX12_flows_6
def dkwX12_flows_4 : List UInt8 := [153, 0, 6, 167, 0, 147, 42, 180, 0, 83, 27, 28, 29, 184, 1, 98, 46, 54, 6, 21, 6, 154, 0, 7]
abbrev dktX12_flows_4 : List UInt8 := dkwX12_flows_4 ++ dktX12_flows_5
def dkwX12_flows_3 : List UInt8 := [28, 29, 184, 1, 98, 47, 55, 4, 22, 4, 9, 148, 153, 0, 160, 42, 27, 28, 29, 182, 1, 94]
abbrev dktX12_flows_3 : List UInt8 := dkwX12_flows_3 ++ dktX12_flows_4
def dkwX12_flows_2 : List UInt8 := [42, 180, 0, 23, 3, 46, 162, 0, 202, 3, 62, 29, 42, 180, 1, 92, 163, 0, 186, 42, 180, 0, 115, 27]
abbrev dktX12_flows_2 : List UInt8 := dkwX12_flows_2 ++ dktX12_flows_3
def dkwX12_flows_1 : List UInt8 := [180, 0, 115, 42, 182, 1, 161, 10, 80, 3, 60, 27, 42, 180, 0, 23, 6, 46, 162, 0, 220, 3, 61, 28]
abbrev dktX12_flows_1 : List UInt8 := dkwX12_flows_1 ++ dktX12_flows_2
def dkwX12_flows_0 : List UInt8 := [3, 60, 27, 17, 15, 60, 162, 0, 16, 42, 180, 0, 115, 27, 9, 80, 132, 1, 1, 167, 255, 239, 42]
abbrev dktX12_flows_0 : List UInt8 := dkwX12_flows_0 ++ dktX12_flows_1
theorem dksX12_flows_0 : cX12_flows.data.toList.drop 0 = dktX12_flows_0 := by decide +kernel
theorem dksX12_flows_1 : cX12_flows.data.toList.drop 23 = dktX12_flows_1 := dk_seg dksX12_flows_0 23 rfl rfl
theorem dksX12_flows_2 : cX12_flows.data.toList.drop 47 = dktX12_flows_2 := dk_seg dksX12_flows_1 24 rfl rfl
theorem dksX12_flows_3 : cX12_flows.data.toList.drop 71 = dktX12_flows_3 := dk_seg dksX12_flows_2 24 rfl rfl
theorem dksX12_flows_4 : cX12_flows.data.toList.drop 93 = dktX12_flows_4 := dk_seg dksX12_flows_3 22 rfl rfl
theorem dksX12_flows_5 : cX12_flows.data.toList.drop 117 = dktX12_flows_5 := dk_seg dksX12_flows_4 24 rfl rfl
theorem dksX12_flows_6 : cX12_flows.data.toList.drop 141 = dktX12_flows_6 := dk_seg dksX12_flows_5 24 rfl rfl
theorem dksX12_flows_7 : cX12_flows.data.toList.drop 164 = dktX12_flows_7 := dk_seg dksX12_flows_6 23 rfl rfl
theorem dksX12_flows_8 : cX12_flows.data.toList.drop 188 = dktX12_flows_8 := dk_seg dksX12_flows_7 24 rfl rfl
theorem dksX12_flows_9 : cX12_flows.data.toList.drop 211 = dktX12_flows_9 := dk_seg dksX12_flows_8 23 rfl rfl
theorem dksX12_flows_10 : cX12_flows.data.toList.drop 234 = dktX12_flows_10 := dk_seg dksX12_flows_9 23 rfl rfl
theorem dksX12_flows_11 : cX12_flows.data.toList.drop 258 = dktX12_flows_11 := dk_seg dksX12_flows_10 24 rfl rfl
theorem dX12_flows_0 : decode cX12_flows 0 = .ok (.iconst 0, 1) := dk_3 (dk_at dksX12_flows_0 0 rfl rfl)
theorem dX12_flows_1 : decode cX12_flows 1 = .ok (.istore_n 1, 1) := dk_60 (dk_at dksX12_flows_0 1 rfl rfl)
theorem dX12_flows_2 : decode cX12_flows 2 = .ok (.iload_n 1, 1) := dk_27 (dk_at dksX12_flows_0 2 rfl rfl)
theorem dX12_flows_3 : decode cX12_flows 3 = .ok (.sipush 3900, 3) := dk_17 15 60 (dk_at dksX12_flows_0 3 rfl rfl)
theorem dX12_flows_6 : decode cX12_flows 6 = .ok (.if_icmp .ge 16, 3) := dk_162 0 16 (dk_at dksX12_flows_0 6 rfl rfl)
theorem dX12_flows_9 : decode cX12_flows 9 = .ok (.aload_n 0, 1) := dk_42 (dk_at dksX12_flows_0 9 rfl rfl)
theorem dX12_flows_10 : decode cX12_flows 10 = .ok (.getfield 115, 3) := dk_180 0 115 (dk_at dksX12_flows_0 10 rfl rfl)
theorem dX12_flows_13 : decode cX12_flows 13 = .ok (.iload_n 1, 1) := dk_27 (dk_at dksX12_flows_0 13 rfl rfl)
theorem dX12_flows_14 : decode cX12_flows 14 = .ok (.lconst 0, 1) := dk_9 (dk_at dksX12_flows_0 14 rfl rfl)
theorem dX12_flows_15 : decode cX12_flows 15 = .ok (.lastore, 1) := dk_80 (dk_at dksX12_flows_0 15 rfl rfl)
theorem dX12_flows_16 : decode cX12_flows 16 = .ok (.iinc 1 1, 3) := dk_132 1 1 (dk_at dksX12_flows_0 16 rfl rfl)
theorem dX12_flows_19 : decode cX12_flows 19 = .ok (.goto (-17), 3) := dk_167 255 239 (dk_at dksX12_flows_0 19 rfl rfl)
theorem dX12_flows_22 : decode cX12_flows 22 = .ok (.aload_n 0, 1) := dk_42 (dk_at dksX12_flows_0 22 rfl rfl)
theorem dX12_flows_23 : decode cX12_flows 23 = .ok (.getfield 115, 3) := dk_180 0 115 (dk_at dksX12_flows_1 0 rfl rfl)
theorem dX12_flows_26 : decode cX12_flows 26 = .ok (.aload_n 0, 1) := dk_42 (dk_at dksX12_flows_1 3 rfl rfl)
theorem dX12_flows_27 : decode cX12_flows 27 = .ok (.invokevirtual 417, 3) := dk_182 1 161 (dk_at dksX12_flows_1 4 rfl rfl)
theorem dX12_flows_30 : decode cX12_flows 30 = .ok (.lconst 1, 1) := dk_10 (dk_at dksX12_flows_1 7 rfl rfl)
theorem dX12_flows_31 : decode cX12_flows 31 = .ok (.lastore, 1) := dk_80 (dk_at dksX12_flows_1 8 rfl rfl)
theorem dX12_flows_32 : decode cX12_flows 32 = .ok (.iconst 0, 1) := dk_3 (dk_at dksX12_flows_1 9 rfl rfl)
theorem dX12_flows_33 : decode cX12_flows 33 = .ok (.istore_n 1, 1) := dk_60 (dk_at dksX12_flows_1 10 rfl rfl)
theorem dX12_flows_34 : decode cX12_flows 34 = .ok (.iload_n 1, 1) := dk_27 (dk_at dksX12_flows_1 11 rfl rfl)
theorem dX12_flows_35 : decode cX12_flows 35 = .ok (.aload_n 0, 1) := dk_42 (dk_at dksX12_flows_1 12 rfl rfl)
theorem dX12_flows_36 : decode cX12_flows 36 = .ok (.getfield 23, 3) := dk_180 0 23 (dk_at dksX12_flows_1 13 rfl rfl)
theorem dX12_flows_39 : decode cX12_flows 39 = .ok (.iconst 3, 1) := dk_6 (dk_at dksX12_flows_1 16 rfl rfl)
theorem dX12_flows_40 : decode cX12_flows 40 = .ok (.iaload, 1) := dk_46 (dk_at dksX12_flows_1 17 rfl rfl)
theorem dX12_flows_41 : decode cX12_flows 41 = .ok (.if_icmp .ge 220, 3) := dk_162 0 220 (dk_at dksX12_flows_1 18 rfl rfl)
theorem dX12_flows_44 : decode cX12_flows 44 = .ok (.iconst 0, 1) := dk_3 (dk_at dksX12_flows_1 21 rfl rfl)
theorem dX12_flows_45 : decode cX12_flows 45 = .ok (.istore_n 2, 1) := dk_61 (dk_at dksX12_flows_1 22 rfl rfl)
theorem dX12_flows_46 : decode cX12_flows 46 = .ok (.iload_n 2, 1) := dk_28 (dk_at dksX12_flows_1 23 rfl rfl)
theorem dX12_flows_47 : decode cX12_flows 47 = .ok (.aload_n 0, 1) := dk_42 (dk_at dksX12_flows_2 0 rfl rfl)
theorem dX12_flows_48 : decode cX12_flows 48 = .ok (.getfield 23, 3) := dk_180 0 23 (dk_at dksX12_flows_2 1 rfl rfl)
theorem dX12_flows_51 : decode cX12_flows 51 = .ok (.iconst 0, 1) := dk_3 (dk_at dksX12_flows_2 4 rfl rfl)
theorem dX12_flows_52 : decode cX12_flows 52 = .ok (.iaload, 1) := dk_46 (dk_at dksX12_flows_2 5 rfl rfl)
theorem dX12_flows_53 : decode cX12_flows 53 = .ok (.if_icmp .ge 202, 3) := dk_162 0 202 (dk_at dksX12_flows_2 6 rfl rfl)
theorem dX12_flows_56 : decode cX12_flows 56 = .ok (.iconst 0, 1) := dk_3 (dk_at dksX12_flows_2 9 rfl rfl)
theorem dX12_flows_57 : decode cX12_flows 57 = .ok (.istore_n 3, 1) := dk_62 (dk_at dksX12_flows_2 10 rfl rfl)
theorem dX12_flows_58 : decode cX12_flows 58 = .ok (.iload_n 3, 1) := dk_29 (dk_at dksX12_flows_2 11 rfl rfl)
theorem dX12_flows_59 : decode cX12_flows 59 = .ok (.aload_n 0, 1) := dk_42 (dk_at dksX12_flows_2 12 rfl rfl)
theorem dX12_flows_60 : decode cX12_flows 60 = .ok (.getfield 348, 3) := dk_180 1 92 (dk_at dksX12_flows_2 13 rfl rfl)
theorem dX12_flows_63 : decode cX12_flows 63 = .ok (.if_icmp .gt 186, 3) := dk_163 0 186 (dk_at dksX12_flows_2 16 rfl rfl)
theorem dX12_flows_66 : decode cX12_flows 66 = .ok (.aload_n 0, 1) := dk_42 (dk_at dksX12_flows_2 19 rfl rfl)
theorem dX12_flows_67 : decode cX12_flows 67 = .ok (.getfield 115, 3) := dk_180 0 115 (dk_at dksX12_flows_2 20 rfl rfl)
theorem dX12_flows_70 : decode cX12_flows 70 = .ok (.iload_n 1, 1) := dk_27 (dk_at dksX12_flows_2 23 rfl rfl)
theorem dX12_flows_71 : decode cX12_flows 71 = .ok (.iload_n 2, 1) := dk_28 (dk_at dksX12_flows_3 0 rfl rfl)
theorem dX12_flows_72 : decode cX12_flows 72 = .ok (.iload_n 3, 1) := dk_29 (dk_at dksX12_flows_3 1 rfl rfl)
theorem dX12_flows_73 : decode cX12_flows 73 = .ok (.invokestatic 354, 3) := dk_184 1 98 (dk_at dksX12_flows_3 2 rfl rfl)
theorem dX12_flows_76 : decode cX12_flows 76 = .ok (.laload, 1) := dk_47 (dk_at dksX12_flows_3 5 rfl rfl)
theorem dX12_flows_77 : decode cX12_flows 77 = .ok (.lstore 4, 2) := dk_55 4 (dk_at dksX12_flows_3 6 rfl rfl)
theorem dX12_flows_79 : decode cX12_flows 79 = .ok (.lload 4, 2) := dk_22 4 (dk_at dksX12_flows_3 8 rfl rfl)
theorem dX12_flows_81 : decode cX12_flows 81 = .ok (.lconst 0, 1) := dk_9 (dk_at dksX12_flows_3 10 rfl rfl)
theorem dX12_flows_82 : decode cX12_flows 82 = .ok (.lcmp, 1) := dk_148 (dk_at dksX12_flows_3 11 rfl rfl)
theorem dX12_flows_83 : decode cX12_flows 83 = .ok (.ifCond .eq 160, 3) := dk_153 0 160 (dk_at dksX12_flows_3 12 rfl rfl)
theorem dX12_flows_86 : decode cX12_flows 86 = .ok (.aload_n 0, 1) := dk_42 (dk_at dksX12_flows_3 15 rfl rfl)
theorem dX12_flows_87 : decode cX12_flows 87 = .ok (.iload_n 1, 1) := dk_27 (dk_at dksX12_flows_3 16 rfl rfl)
theorem dX12_flows_88 : decode cX12_flows 88 = .ok (.iload_n 2, 1) := dk_28 (dk_at dksX12_flows_3 17 rfl rfl)
theorem dX12_flows_89 : decode cX12_flows 89 = .ok (.iload_n 3, 1) := dk_29 (dk_at dksX12_flows_3 18 rfl rfl)
theorem dX12_flows_90 : decode cX12_flows 90 = .ok (.invokevirtual 350, 3) := dk_182 1 94 (dk_at dksX12_flows_3 19 rfl rfl)
theorem dX12_flows_93 : decode cX12_flows 93 = .ok (.ifCond .eq 6, 3) := dk_153 0 6 (dk_at dksX12_flows_4 0 rfl rfl)
theorem dX12_flows_96 : decode cX12_flows 96 = .ok (.goto 147, 3) := dk_167 0 147 (dk_at dksX12_flows_4 3 rfl rfl)
theorem dX12_flows_99 : decode cX12_flows 99 = .ok (.aload_n 0, 1) := dk_42 (dk_at dksX12_flows_4 6 rfl rfl)
theorem dX12_flows_100 : decode cX12_flows 100 = .ok (.getfield 83, 3) := dk_180 0 83 (dk_at dksX12_flows_4 7 rfl rfl)
theorem dX12_flows_103 : decode cX12_flows 103 = .ok (.iload_n 1, 1) := dk_27 (dk_at dksX12_flows_4 10 rfl rfl)
theorem dX12_flows_104 : decode cX12_flows 104 = .ok (.iload_n 2, 1) := dk_28 (dk_at dksX12_flows_4 11 rfl rfl)
theorem dX12_flows_105 : decode cX12_flows 105 = .ok (.iload_n 3, 1) := dk_29 (dk_at dksX12_flows_4 12 rfl rfl)
theorem dX12_flows_106 : decode cX12_flows 106 = .ok (.invokestatic 354, 3) := dk_184 1 98 (dk_at dksX12_flows_4 13 rfl rfl)
theorem dX12_flows_109 : decode cX12_flows 109 = .ok (.iaload, 1) := dk_46 (dk_at dksX12_flows_4 16 rfl rfl)
theorem dX12_flows_110 : decode cX12_flows 110 = .ok (.istore 6, 2) := dk_54 6 (dk_at dksX12_flows_4 17 rfl rfl)
theorem dX12_flows_112 : decode cX12_flows 112 = .ok (.iload 6, 2) := dk_21 6 (dk_at dksX12_flows_4 19 rfl rfl)
theorem dX12_flows_114 : decode cX12_flows 114 = .ok (.ifCond .ne 7, 3) := dk_154 0 7 (dk_at dksX12_flows_4 21 rfl rfl)
theorem dX12_flows_117 : decode cX12_flows 117 = .ok (.iconst 0, 1) := dk_3 (dk_at dksX12_flows_5 0 rfl rfl)
theorem dX12_flows_118 : decode cX12_flows 118 = .ok (.goto 21, 3) := dk_167 0 21 (dk_at dksX12_flows_5 1 rfl rfl)
theorem dX12_flows_121 : decode cX12_flows 121 = .ok (.aload_n 0, 1) := dk_42 (dk_at dksX12_flows_5 4 rfl rfl)
theorem dX12_flows_122 : decode cX12_flows 122 = .ok (.getfield 23, 3) := dk_180 0 23 (dk_at dksX12_flows_5 5 rfl rfl)
theorem dX12_flows_125 : decode cX12_flows 125 = .ok (.sipush 132, 3) := dk_17 0 132 (dk_at dksX12_flows_5 8 rfl rfl)
theorem dX12_flows_128 : decode cX12_flows 128 = .ok (.bipush 24, 2) := dk_16 24 (dk_at dksX12_flows_5 11 rfl rfl)
theorem dX12_flows_130 : decode cX12_flows 130 = .ok (.iload 6, 2) := dk_21 6 (dk_at dksX12_flows_5 13 rfl rfl)
theorem dX12_flows_132 : decode cX12_flows 132 = .ok (.iconst 1, 1) := dk_4 (dk_at dksX12_flows_5 15 rfl rfl)
theorem dX12_flows_133 : decode cX12_flows 133 = .ok (.isub, 1) := dk_100 (dk_at dksX12_flows_5 16 rfl rfl)
theorem dX12_flows_134 : decode cX12_flows 134 = .ok (.imul, 1) := dk_104 (dk_at dksX12_flows_5 17 rfl rfl)
theorem dX12_flows_135 : decode cX12_flows 135 = .ok (.iadd, 1) := dk_96 (dk_at dksX12_flows_5 18 rfl rfl)
theorem dX12_flows_136 : decode cX12_flows 136 = .ok (.iload_n 1, 1) := dk_27 (dk_at dksX12_flows_5 19 rfl rfl)
theorem dX12_flows_137 : decode cX12_flows 137 = .ok (.iadd, 1) := dk_96 (dk_at dksX12_flows_5 20 rfl rfl)
theorem dX12_flows_138 : decode cX12_flows 138 = .ok (.iaload, 1) := dk_46 (dk_at dksX12_flows_5 21 rfl rfl)
theorem dX12_flows_139 : decode cX12_flows 139 = .ok (.istore 7, 2) := dk_54 7 (dk_at dksX12_flows_5 22 rfl rfl)
theorem dX12_flows_141 : decode cX12_flows 141 = .ok (.aload_n 0, 1) := dk_42 (dk_at dksX12_flows_6 0 rfl rfl)
theorem dX12_flows_142 : decode cX12_flows 142 = .ok (.getfield 99, 3) := dk_180 0 99 (dk_at dksX12_flows_6 1 rfl rfl)
theorem dX12_flows_145 : decode cX12_flows 145 = .ok (.iload_n 1, 1) := dk_27 (dk_at dksX12_flows_6 4 rfl rfl)
theorem dX12_flows_146 : decode cX12_flows 146 = .ok (.baload, 1) := dk_51 (dk_at dksX12_flows_6 5 rfl rfl)
theorem dX12_flows_147 : decode cX12_flows 147 = .ok (.ifCond .eq 8, 3) := dk_153 0 8 (dk_at dksX12_flows_6 6 rfl rfl)
theorem dX12_flows_150 : decode cX12_flows 150 = .ok (.bipush 16, 2) := dk_16 16 (dk_at dksX12_flows_6 9 rfl rfl)
theorem dX12_flows_152 : decode cX12_flows 152 = .ok (.goto 4, 3) := dk_167 0 4 (dk_at dksX12_flows_6 11 rfl rfl)
theorem dX12_flows_155 : decode cX12_flows 155 = .ok (.iconst 1, 1) := dk_4 (dk_at dksX12_flows_6 14 rfl rfl)
theorem dX12_flows_156 : decode cX12_flows 156 = .ok (.istore 8, 2) := dk_54 8 (dk_at dksX12_flows_6 15 rfl rfl)
theorem dX12_flows_158 : decode cX12_flows 158 = .ok (.iload 6, 2) := dk_21 6 (dk_at dksX12_flows_6 17 rfl rfl)
theorem dX12_flows_160 : decode cX12_flows 160 = .ok (.ifCond .ne 28, 3) := dk_154 0 28 (dk_at dksX12_flows_6 19 rfl rfl)
theorem dX12_flows_163 : decode cX12_flows 163 = .ok (.aload_n 0, 1) := dk_42 (dk_at dksX12_flows_6 22 rfl rfl)
theorem dX12_flows_164 : decode cX12_flows 164 = .ok (.getfield 115, 3) := dk_180 0 115 (dk_at dksX12_flows_7 0 rfl rfl)
theorem dX12_flows_167 : decode cX12_flows 167 = .ok (.aload_n 0, 1) := dk_42 (dk_at dksX12_flows_7 3 rfl rfl)
theorem dX12_flows_168 : decode cX12_flows 168 = .ok (.iload_n 1, 1) := dk_27 (dk_at dksX12_flows_7 4 rfl rfl)
theorem dX12_flows_169 : decode cX12_flows 169 = .ok (.iload_n 2, 1) := dk_28 (dk_at dksX12_flows_7 5 rfl rfl)
theorem dX12_flows_170 : decode cX12_flows 170 = .ok (.iload_n 3, 1) := dk_29 (dk_at dksX12_flows_7 6 rfl rfl)
theorem dX12_flows_171 : decode cX12_flows 171 = .ok (.iload_n 2, 1) := dk_28 (dk_at dksX12_flows_7 7 rfl rfl)
theorem dX12_flows_172 : decode cX12_flows 172 = .ok (.invokevirtual 366, 3) := dk_182 1 110 (dk_at dksX12_flows_7 8 rfl rfl)
theorem dX12_flows_175 : decode cX12_flows 175 = .ok (.dup2, 1) := dk_92 (dk_at dksX12_flows_7 11 rfl rfl)
theorem dX12_flows_176 : decode cX12_flows 176 = .ok (.laload, 1) := dk_47 (dk_at dksX12_flows_7 12 rfl rfl)
theorem dX12_flows_177 : decode cX12_flows 177 = .ok (.lload 4, 2) := dk_22 4 (dk_at dksX12_flows_7 13 rfl rfl)
theorem dX12_flows_179 : decode cX12_flows 179 = .ok (.iload 8, 2) := dk_21 8 (dk_at dksX12_flows_7 15 rfl rfl)
theorem dX12_flows_181 : decode cX12_flows 181 = .ok (.i2l, 1) := dk_133 (dk_at dksX12_flows_7 17 rfl rfl)
theorem dX12_flows_182 : decode cX12_flows 182 = .ok (.lmul, 1) := dk_105 (dk_at dksX12_flows_7 18 rfl rfl)
theorem dX12_flows_183 : decode cX12_flows 183 = .ok (.ladd, 1) := dk_97 (dk_at dksX12_flows_7 19 rfl rfl)
theorem dX12_flows_184 : decode cX12_flows 184 = .ok (.lastore, 1) := dk_80 (dk_at dksX12_flows_7 20 rfl rfl)
theorem dX12_flows_185 : decode cX12_flows 185 = .ok (.goto 58, 3) := dk_167 0 58 (dk_at dksX12_flows_7 21 rfl rfl)
theorem dX12_flows_188 : decode cX12_flows 188 = .ok (.aload_n 0, 1) := dk_42 (dk_at dksX12_flows_8 0 rfl rfl)
theorem dX12_flows_189 : decode cX12_flows 189 = .ok (.getfield 115, 3) := dk_180 0 115 (dk_at dksX12_flows_8 1 rfl rfl)
theorem dX12_flows_192 : decode cX12_flows 192 = .ok (.aload_n 0, 1) := dk_42 (dk_at dksX12_flows_8 4 rfl rfl)
theorem dX12_flows_193 : decode cX12_flows 193 = .ok (.iload_n 1, 1) := dk_27 (dk_at dksX12_flows_8 5 rfl rfl)
theorem dX12_flows_194 : decode cX12_flows 194 = .ok (.iload_n 2, 1) := dk_28 (dk_at dksX12_flows_8 6 rfl rfl)
theorem dX12_flows_195 : decode cX12_flows 195 = .ok (.iload_n 3, 1) := dk_29 (dk_at dksX12_flows_8 7 rfl rfl)
theorem dX12_flows_196 : decode cX12_flows 196 = .ok (.iload_n 2, 1) := dk_28 (dk_at dksX12_flows_8 8 rfl rfl)
theorem dX12_flows_197 : decode cX12_flows 197 = .ok (.invokevirtual 366, 3) := dk_182 1 110 (dk_at dksX12_flows_8 9 rfl rfl)
theorem dX12_flows_200 : decode cX12_flows 200 = .ok (.dup2, 1) := dk_92 (dk_at dksX12_flows_8 12 rfl rfl)
theorem dX12_flows_201 : decode cX12_flows 201 = .ok (.laload, 1) := dk_47 (dk_at dksX12_flows_8 13 rfl rfl)
theorem dX12_flows_202 : decode cX12_flows 202 = .ok (.lload 4, 2) := dk_22 4 (dk_at dksX12_flows_8 14 rfl rfl)
theorem dX12_flows_204 : decode cX12_flows 204 = .ok (.iload 7, 2) := dk_21 7 (dk_at dksX12_flows_8 16 rfl rfl)
theorem dX12_flows_206 : decode cX12_flows 206 = .ok (.i2l, 1) := dk_133 (dk_at dksX12_flows_8 18 rfl rfl)
theorem dX12_flows_207 : decode cX12_flows 207 = .ok (.lmul, 1) := dk_105 (dk_at dksX12_flows_8 19 rfl rfl)
theorem dX12_flows_208 : decode cX12_flows 208 = .ok (.ladd, 1) := dk_97 (dk_at dksX12_flows_8 20 rfl rfl)
theorem dX12_flows_209 : decode cX12_flows 209 = .ok (.lastore, 1) := dk_80 (dk_at dksX12_flows_8 21 rfl rfl)
theorem dX12_flows_210 : decode cX12_flows 210 = .ok (.aload_n 0, 1) := dk_42 (dk_at dksX12_flows_8 22 rfl rfl)
theorem dX12_flows_211 : decode cX12_flows 211 = .ok (.getfield 115, 3) := dk_180 0 115 (dk_at dksX12_flows_9 0 rfl rfl)
theorem dX12_flows_214 : decode cX12_flows 214 = .ok (.aload_n 0, 1) := dk_42 (dk_at dksX12_flows_9 3 rfl rfl)
theorem dX12_flows_215 : decode cX12_flows 215 = .ok (.iload_n 1, 1) := dk_27 (dk_at dksX12_flows_9 4 rfl rfl)
theorem dX12_flows_216 : decode cX12_flows 216 = .ok (.iload_n 2, 1) := dk_28 (dk_at dksX12_flows_9 5 rfl rfl)
theorem dX12_flows_217 : decode cX12_flows 217 = .ok (.iload_n 3, 1) := dk_29 (dk_at dksX12_flows_9 6 rfl rfl)
theorem dX12_flows_218 : decode cX12_flows 218 = .ok (.aload_n 0, 1) := dk_42 (dk_at dksX12_flows_9 7 rfl rfl)
theorem dX12_flows_219 : decode cX12_flows 219 = .ok (.iload 6, 2) := dk_21 6 (dk_at dksX12_flows_9 8 rfl rfl)
theorem dX12_flows_221 : decode cX12_flows 221 = .ok (.iconst 1, 1) := dk_4 (dk_at dksX12_flows_9 10 rfl rfl)
theorem dX12_flows_222 : decode cX12_flows 222 = .ok (.isub, 1) := dk_100 (dk_at dksX12_flows_9 11 rfl rfl)
theorem dX12_flows_223 : decode cX12_flows 223 = .ok (.iload_n 2, 1) := dk_28 (dk_at dksX12_flows_9 12 rfl rfl)
theorem dX12_flows_224 : decode cX12_flows 224 = .ok (.invokevirtual 345, 3) := dk_182 1 89 (dk_at dksX12_flows_9 13 rfl rfl)
theorem dX12_flows_227 : decode cX12_flows 227 = .ok (.invokevirtual 366, 3) := dk_182 1 110 (dk_at dksX12_flows_9 16 rfl rfl)
theorem dX12_flows_230 : decode cX12_flows 230 = .ok (.dup2, 1) := dk_92 (dk_at dksX12_flows_9 19 rfl rfl)
theorem dX12_flows_231 : decode cX12_flows 231 = .ok (.laload, 1) := dk_47 (dk_at dksX12_flows_9 20 rfl rfl)
theorem dX12_flows_232 : decode cX12_flows 232 = .ok (.lload 4, 2) := dk_22 4 (dk_at dksX12_flows_9 21 rfl rfl)
theorem dX12_flows_234 : decode cX12_flows 234 = .ok (.iload 8, 2) := dk_21 8 (dk_at dksX12_flows_10 0 rfl rfl)
theorem dX12_flows_236 : decode cX12_flows 236 = .ok (.iload 7, 2) := dk_21 7 (dk_at dksX12_flows_10 2 rfl rfl)
theorem dX12_flows_238 : decode cX12_flows 238 = .ok (.isub, 1) := dk_100 (dk_at dksX12_flows_10 4 rfl rfl)
theorem dX12_flows_239 : decode cX12_flows 239 = .ok (.i2l, 1) := dk_133 (dk_at dksX12_flows_10 5 rfl rfl)
theorem dX12_flows_240 : decode cX12_flows 240 = .ok (.lmul, 1) := dk_105 (dk_at dksX12_flows_10 6 rfl rfl)
theorem dX12_flows_241 : decode cX12_flows 241 = .ok (.ladd, 1) := dk_97 (dk_at dksX12_flows_10 7 rfl rfl)
theorem dX12_flows_242 : decode cX12_flows 242 = .ok (.lastore, 1) := dk_80 (dk_at dksX12_flows_10 8 rfl rfl)
theorem dX12_flows_243 : decode cX12_flows 243 = .ok (.iinc 3 1, 3) := dk_132 3 1 (dk_at dksX12_flows_10 9 rfl rfl)
theorem dX12_flows_246 : decode cX12_flows 246 = .ok (.goto (-188), 3) := dk_167 255 68 (dk_at dksX12_flows_10 12 rfl rfl)
theorem dX12_flows_249 : decode cX12_flows 249 = .ok (.iinc 2 1, 3) := dk_132 2 1 (dk_at dksX12_flows_10 15 rfl rfl)
theorem dX12_flows_252 : decode cX12_flows 252 = .ok (.goto (-206), 3) := dk_167 255 50 (dk_at dksX12_flows_10 18 rfl rfl)
theorem dX12_flows_255 : decode cX12_flows 255 = .ok (.iinc 1 1, 3) := dk_132 1 1 (dk_at dksX12_flows_10 21 rfl rfl)
theorem dX12_flows_258 : decode cX12_flows 258 = .ok (.goto (-224), 3) := dk_167 255 32 (dk_at dksX12_flows_11 0 rfl rfl)
theorem dX12_flows_261 : decode cX12_flows 261 = .ok (.return_, 1) := dk_177 (dk_at dksX12_flows_11 3 rfl rfl)
abbrev cX12_endedAll : ByteArray := prog_27_method_114_code
def yX12_endedAll : MethodName := ⟨RX12, "endedAll", "(I)J"⟩
def dkwX12_endedAll_1 : List UInt8 := [97, 65, 132, 4, 1, 167, 255, 232, 32, 173]
abbrev dktX12_endedAll_1 : List UInt8 := dkwX12_endedAll_1 ++ []
def dkwX12_endedAll_0 : List UInt8 := [9, 65, 3, 54, 4, 21, 4, 42, 180, 0, 23, 6, 46, 163, 0, 19, 32, 42, 21, 4, 27, 182, 1, 219]
abbrev dktX12_endedAll_0 : List UInt8 := dkwX12_endedAll_0 ++ dktX12_endedAll_1
theorem dksX12_endedAll_0 : cX12_endedAll.data.toList.drop 0 = dktX12_endedAll_0 := by decide +kernel
theorem dksX12_endedAll_1 : cX12_endedAll.data.toList.drop 24 = dktX12_endedAll_1 := dk_seg dksX12_endedAll_0 24 rfl rfl
theorem dX12_endedAll_0 : decode cX12_endedAll 0 = .ok (.lconst 0, 1) := dk_9 (dk_at dksX12_endedAll_0 0 rfl rfl)
theorem dX12_endedAll_1 : decode cX12_endedAll 1 = .ok (.lstore_n 2, 1) := dk_65 (dk_at dksX12_endedAll_0 1 rfl rfl)
theorem dX12_endedAll_2 : decode cX12_endedAll 2 = .ok (.iconst 0, 1) := dk_3 (dk_at dksX12_endedAll_0 2 rfl rfl)
theorem dX12_endedAll_3 : decode cX12_endedAll 3 = .ok (.istore 4, 2) := dk_54 4 (dk_at dksX12_endedAll_0 3 rfl rfl)
theorem dX12_endedAll_5 : decode cX12_endedAll 5 = .ok (.iload 4, 2) := dk_21 4 (dk_at dksX12_endedAll_0 5 rfl rfl)
theorem dX12_endedAll_7 : decode cX12_endedAll 7 = .ok (.aload_n 0, 1) := dk_42 (dk_at dksX12_endedAll_0 7 rfl rfl)
theorem dX12_endedAll_8 : decode cX12_endedAll 8 = .ok (.getfield 23, 3) := dk_180 0 23 (dk_at dksX12_endedAll_0 8 rfl rfl)
theorem dX12_endedAll_11 : decode cX12_endedAll 11 = .ok (.iconst 3, 1) := dk_6 (dk_at dksX12_endedAll_0 11 rfl rfl)
theorem dX12_endedAll_12 : decode cX12_endedAll 12 = .ok (.iaload, 1) := dk_46 (dk_at dksX12_endedAll_0 12 rfl rfl)
theorem dX12_endedAll_13 : decode cX12_endedAll 13 = .ok (.if_icmp .gt 19, 3) := dk_163 0 19 (dk_at dksX12_endedAll_0 13 rfl rfl)
theorem dX12_endedAll_16 : decode cX12_endedAll 16 = .ok (.lload_n 2, 1) := dk_32 (dk_at dksX12_endedAll_0 16 rfl rfl)
theorem dX12_endedAll_17 : decode cX12_endedAll 17 = .ok (.aload_n 0, 1) := dk_42 (dk_at dksX12_endedAll_0 17 rfl rfl)
theorem dX12_endedAll_18 : decode cX12_endedAll 18 = .ok (.iload 4, 2) := dk_21 4 (dk_at dksX12_endedAll_0 18 rfl rfl)
theorem dX12_endedAll_20 : decode cX12_endedAll 20 = .ok (.iload_n 1, 1) := dk_27 (dk_at dksX12_endedAll_0 20 rfl rfl)
theorem dX12_endedAll_21 : decode cX12_endedAll 21 = .ok (.invokevirtual 475, 3) := dk_182 1 219 (dk_at dksX12_endedAll_0 21 rfl rfl)
theorem dX12_endedAll_24 : decode cX12_endedAll 24 = .ok (.ladd, 1) := dk_97 (dk_at dksX12_endedAll_1 0 rfl rfl)
theorem dX12_endedAll_25 : decode cX12_endedAll 25 = .ok (.lstore_n 2, 1) := dk_65 (dk_at dksX12_endedAll_1 1 rfl rfl)
theorem dX12_endedAll_26 : decode cX12_endedAll 26 = .ok (.iinc 4 1, 3) := dk_132 4 1 (dk_at dksX12_endedAll_1 2 rfl rfl)
theorem dX12_endedAll_29 : decode cX12_endedAll 29 = .ok (.goto (-24), 3) := dk_167 255 232 (dk_at dksX12_endedAll_1 5 rfl rfl)
theorem dX12_endedAll_32 : decode cX12_endedAll 32 = .ok (.lload_n 2, 1) := dk_32 (dk_at dksX12_endedAll_1 8 rfl rfl)
theorem dX12_endedAll_33 : decode cX12_endedAll 33 = .ok (.lreturn, 1) := dk_173 (dk_at dksX12_endedAll_1 9 rfl rfl)
abbrev cX12_endedAt : ByteArray := prog_27_method_113_code
def yX12_endedAt : MethodName := ⟨RX12, "endedAt", "(II)J"⟩
def dkwX12_endedAt_3 : List UInt8 := [132, 5, 1, 167, 255, 188, 33, 173]
abbrev dktX12_endedAt_3 : List UInt8 := dkwX12_endedAt_3 ++ []
def dkwX12_endedAt_2 : List UInt8 := [27, 21, 5, 21, 6, 184, 1, 98, 47, 42, 180, 0, 86, 27, 47, 105, 97, 66, 132, 6, 1, 167, 255, 208]
abbrev dktX12_endedAt_2 : List UInt8 := dkwX12_endedAt_2 ++ dktX12_endedAt_3
def dkwX12_endedAt_1 : List UInt8 := [180, 1, 92, 163, 0, 45, 42, 27, 21, 5, 21, 6, 182, 1, 94, 28, 160, 0, 26, 33, 42, 180, 0, 115]
abbrev dktX12_endedAt_1 : List UInt8 := dkwX12_endedAt_1 ++ dktX12_endedAt_2
def dkwX12_endedAt_0 : List UInt8 := [9, 66, 3, 54, 5, 21, 5, 42, 180, 0, 23, 3, 46, 162, 0, 63, 3, 54, 6, 21, 6, 42]
abbrev dktX12_endedAt_0 : List UInt8 := dkwX12_endedAt_0 ++ dktX12_endedAt_1
theorem dksX12_endedAt_0 : cX12_endedAt.data.toList.drop 0 = dktX12_endedAt_0 := by decide +kernel
theorem dksX12_endedAt_1 : cX12_endedAt.data.toList.drop 22 = dktX12_endedAt_1 := dk_seg dksX12_endedAt_0 22 rfl rfl
theorem dksX12_endedAt_2 : cX12_endedAt.data.toList.drop 46 = dktX12_endedAt_2 := dk_seg dksX12_endedAt_1 24 rfl rfl
theorem dksX12_endedAt_3 : cX12_endedAt.data.toList.drop 70 = dktX12_endedAt_3 := dk_seg dksX12_endedAt_2 24 rfl rfl
theorem dX12_endedAt_0 : decode cX12_endedAt 0 = .ok (.lconst 0, 1) := dk_9 (dk_at dksX12_endedAt_0 0 rfl rfl)
theorem dX12_endedAt_1 : decode cX12_endedAt 1 = .ok (.lstore_n 3, 1) := dk_66 (dk_at dksX12_endedAt_0 1 rfl rfl)
theorem dX12_endedAt_2 : decode cX12_endedAt 2 = .ok (.iconst 0, 1) := dk_3 (dk_at dksX12_endedAt_0 2 rfl rfl)
theorem dX12_endedAt_3 : decode cX12_endedAt 3 = .ok (.istore 5, 2) := dk_54 5 (dk_at dksX12_endedAt_0 3 rfl rfl)
theorem dX12_endedAt_5 : decode cX12_endedAt 5 = .ok (.iload 5, 2) := dk_21 5 (dk_at dksX12_endedAt_0 5 rfl rfl)
theorem dX12_endedAt_7 : decode cX12_endedAt 7 = .ok (.aload_n 0, 1) := dk_42 (dk_at dksX12_endedAt_0 7 rfl rfl)
theorem dX12_endedAt_8 : decode cX12_endedAt 8 = .ok (.getfield 23, 3) := dk_180 0 23 (dk_at dksX12_endedAt_0 8 rfl rfl)
theorem dX12_endedAt_11 : decode cX12_endedAt 11 = .ok (.iconst 0, 1) := dk_3 (dk_at dksX12_endedAt_0 11 rfl rfl)
theorem dX12_endedAt_12 : decode cX12_endedAt 12 = .ok (.iaload, 1) := dk_46 (dk_at dksX12_endedAt_0 12 rfl rfl)
theorem dX12_endedAt_13 : decode cX12_endedAt 13 = .ok (.if_icmp .ge 63, 3) := dk_162 0 63 (dk_at dksX12_endedAt_0 13 rfl rfl)
theorem dX12_endedAt_16 : decode cX12_endedAt 16 = .ok (.iconst 0, 1) := dk_3 (dk_at dksX12_endedAt_0 16 rfl rfl)
theorem dX12_endedAt_17 : decode cX12_endedAt 17 = .ok (.istore 6, 2) := dk_54 6 (dk_at dksX12_endedAt_0 17 rfl rfl)
theorem dX12_endedAt_19 : decode cX12_endedAt 19 = .ok (.iload 6, 2) := dk_21 6 (dk_at dksX12_endedAt_0 19 rfl rfl)
theorem dX12_endedAt_21 : decode cX12_endedAt 21 = .ok (.aload_n 0, 1) := dk_42 (dk_at dksX12_endedAt_0 21 rfl rfl)
theorem dX12_endedAt_22 : decode cX12_endedAt 22 = .ok (.getfield 348, 3) := dk_180 1 92 (dk_at dksX12_endedAt_1 0 rfl rfl)
theorem dX12_endedAt_25 : decode cX12_endedAt 25 = .ok (.if_icmp .gt 45, 3) := dk_163 0 45 (dk_at dksX12_endedAt_1 3 rfl rfl)
theorem dX12_endedAt_28 : decode cX12_endedAt 28 = .ok (.aload_n 0, 1) := dk_42 (dk_at dksX12_endedAt_1 6 rfl rfl)
theorem dX12_endedAt_29 : decode cX12_endedAt 29 = .ok (.iload_n 1, 1) := dk_27 (dk_at dksX12_endedAt_1 7 rfl rfl)
theorem dX12_endedAt_30 : decode cX12_endedAt 30 = .ok (.iload 5, 2) := dk_21 5 (dk_at dksX12_endedAt_1 8 rfl rfl)
theorem dX12_endedAt_32 : decode cX12_endedAt 32 = .ok (.iload 6, 2) := dk_21 6 (dk_at dksX12_endedAt_1 10 rfl rfl)
theorem dX12_endedAt_34 : decode cX12_endedAt 34 = .ok (.invokevirtual 350, 3) := dk_182 1 94 (dk_at dksX12_endedAt_1 12 rfl rfl)
theorem dX12_endedAt_37 : decode cX12_endedAt 37 = .ok (.iload_n 2, 1) := dk_28 (dk_at dksX12_endedAt_1 15 rfl rfl)
theorem dX12_endedAt_38 : decode cX12_endedAt 38 = .ok (.if_icmp .ne 26, 3) := dk_160 0 26 (dk_at dksX12_endedAt_1 16 rfl rfl)
theorem dX12_endedAt_41 : decode cX12_endedAt 41 = .ok (.lload_n 3, 1) := dk_33 (dk_at dksX12_endedAt_1 19 rfl rfl)
theorem dX12_endedAt_42 : decode cX12_endedAt 42 = .ok (.aload_n 0, 1) := dk_42 (dk_at dksX12_endedAt_1 20 rfl rfl)
theorem dX12_endedAt_43 : decode cX12_endedAt 43 = .ok (.getfield 115, 3) := dk_180 0 115 (dk_at dksX12_endedAt_1 21 rfl rfl)
theorem dX12_endedAt_46 : decode cX12_endedAt 46 = .ok (.iload_n 1, 1) := dk_27 (dk_at dksX12_endedAt_2 0 rfl rfl)
theorem dX12_endedAt_47 : decode cX12_endedAt 47 = .ok (.iload 5, 2) := dk_21 5 (dk_at dksX12_endedAt_2 1 rfl rfl)
theorem dX12_endedAt_49 : decode cX12_endedAt 49 = .ok (.iload 6, 2) := dk_21 6 (dk_at dksX12_endedAt_2 3 rfl rfl)
theorem dX12_endedAt_51 : decode cX12_endedAt 51 = .ok (.invokestatic 354, 3) := dk_184 1 98 (dk_at dksX12_endedAt_2 5 rfl rfl)
theorem dX12_endedAt_54 : decode cX12_endedAt 54 = .ok (.laload, 1) := dk_47 (dk_at dksX12_endedAt_2 8 rfl rfl)
theorem dX12_endedAt_55 : decode cX12_endedAt 55 = .ok (.aload_n 0, 1) := dk_42 (dk_at dksX12_endedAt_2 9 rfl rfl)
theorem dX12_endedAt_56 : decode cX12_endedAt 56 = .ok (.getfield 86, 3) := dk_180 0 86 (dk_at dksX12_endedAt_2 10 rfl rfl)
theorem dX12_endedAt_59 : decode cX12_endedAt 59 = .ok (.iload_n 1, 1) := dk_27 (dk_at dksX12_endedAt_2 13 rfl rfl)
theorem dX12_endedAt_60 : decode cX12_endedAt 60 = .ok (.laload, 1) := dk_47 (dk_at dksX12_endedAt_2 14 rfl rfl)
theorem dX12_endedAt_61 : decode cX12_endedAt 61 = .ok (.lmul, 1) := dk_105 (dk_at dksX12_endedAt_2 15 rfl rfl)
theorem dX12_endedAt_62 : decode cX12_endedAt 62 = .ok (.ladd, 1) := dk_97 (dk_at dksX12_endedAt_2 16 rfl rfl)
theorem dX12_endedAt_63 : decode cX12_endedAt 63 = .ok (.lstore_n 3, 1) := dk_66 (dk_at dksX12_endedAt_2 17 rfl rfl)
theorem dX12_endedAt_64 : decode cX12_endedAt 64 = .ok (.iinc 6 1, 3) := dk_132 6 1 (dk_at dksX12_endedAt_2 18 rfl rfl)
theorem dX12_endedAt_67 : decode cX12_endedAt 67 = .ok (.goto (-48), 3) := dk_167 255 208 (dk_at dksX12_endedAt_2 21 rfl rfl)
theorem dX12_endedAt_70 : decode cX12_endedAt 70 = .ok (.iinc 5 1, 3) := dk_132 5 1 (dk_at dksX12_endedAt_3 0 rfl rfl)
theorem dX12_endedAt_73 : decode cX12_endedAt 73 = .ok (.goto (-68), 3) := dk_167 255 188 (dk_at dksX12_endedAt_3 3 rfl rfl)
theorem dX12_endedAt_76 : decode cX12_endedAt 76 = .ok (.lload_n 3, 1) := dk_33 (dk_at dksX12_endedAt_3 6 rfl rfl)
theorem dX12_endedAt_77 : decode cX12_endedAt 77 = .ok (.lreturn, 1) := dk_173 (dk_at dksX12_endedAt_3 7 rfl rfl)
abbrev cX12_arrives : ByteArray := prog_27_method_116_code
def yX12_arrives : MethodName := ⟨RX12, "arrives", "(II)J"⟩
def dkwX12_arrives_3 : List UInt8 := [173]
abbrev dktX12_arrives_3 : List UInt8 := dkwX12_arrives_3 ++ []
def dkwX12_arrives_2 : List UInt8 := [182, 0, 226, 154, 0, 5, 9, 173, 42, 182, 1, 174, 42, 182, 1, 223, 42, 27, 28, 4, 96, 182, 1, 219]
abbrev dktX12_arrives_2 : List UInt8 := dkwX12_arrives_2 ++ dktX12_arrives_3
def dkwX12_arrives_1 : List UInt8 := [184, 1, 58, 153, 0, 16, 28, 3, 5, 184, 1, 58, 153, 0, 7, 4, 167, 0, 4, 3, 4, 5]
abbrev dktX12_arrives_1 : List UInt8 := dkwX12_arrives_1 ++ dktX12_arrives_2
def dkwX12_arrives_0 : List UInt8 := [42, 3, 181, 0, 1, 42, 5, 182, 1, 75, 153, 0, 40, 42, 27, 3, 42, 180, 0, 23, 6, 46]
abbrev dktX12_arrives_0 : List UInt8 := dkwX12_arrives_0 ++ dktX12_arrives_1
theorem dksX12_arrives_0 : cX12_arrives.data.toList.drop 0 = dktX12_arrives_0 := by decide +kernel
theorem dksX12_arrives_1 : cX12_arrives.data.toList.drop 22 = dktX12_arrives_1 := dk_seg dksX12_arrives_0 22 rfl rfl
theorem dksX12_arrives_2 : cX12_arrives.data.toList.drop 44 = dktX12_arrives_2 := dk_seg dksX12_arrives_1 22 rfl rfl
theorem dksX12_arrives_3 : cX12_arrives.data.toList.drop 68 = dktX12_arrives_3 := dk_seg dksX12_arrives_2 24 rfl rfl
theorem dX12_arrives_0 : decode cX12_arrives 0 = .ok (.aload_n 0, 1) := dk_42 (dk_at dksX12_arrives_0 0 rfl rfl)
theorem dX12_arrives_1 : decode cX12_arrives 1 = .ok (.iconst 0, 1) := dk_3 (dk_at dksX12_arrives_0 1 rfl rfl)
theorem dX12_arrives_2 : decode cX12_arrives 2 = .ok (.putfield 1, 3) := dk_181 0 1 (dk_at dksX12_arrives_0 2 rfl rfl)
theorem dX12_arrives_5 : decode cX12_arrives 5 = .ok (.aload_n 0, 1) := dk_42 (dk_at dksX12_arrives_0 5 rfl rfl)
theorem dX12_arrives_6 : decode cX12_arrives 6 = .ok (.iconst 2, 1) := dk_5 (dk_at dksX12_arrives_0 6 rfl rfl)
theorem dX12_arrives_7 : decode cX12_arrives 7 = .ok (.invokevirtual 331, 3) := dk_182 1 75 (dk_at dksX12_arrives_0 7 rfl rfl)
theorem dX12_arrives_10 : decode cX12_arrives 10 = .ok (.ifCond .eq 40, 3) := dk_153 0 40 (dk_at dksX12_arrives_0 10 rfl rfl)
theorem dX12_arrives_13 : decode cX12_arrives 13 = .ok (.aload_n 0, 1) := dk_42 (dk_at dksX12_arrives_0 13 rfl rfl)
theorem dX12_arrives_14 : decode cX12_arrives 14 = .ok (.iload_n 1, 1) := dk_27 (dk_at dksX12_arrives_0 14 rfl rfl)
theorem dX12_arrives_15 : decode cX12_arrives 15 = .ok (.iconst 0, 1) := dk_3 (dk_at dksX12_arrives_0 15 rfl rfl)
theorem dX12_arrives_16 : decode cX12_arrives 16 = .ok (.aload_n 0, 1) := dk_42 (dk_at dksX12_arrives_0 16 rfl rfl)
theorem dX12_arrives_17 : decode cX12_arrives 17 = .ok (.getfield 23, 3) := dk_180 0 23 (dk_at dksX12_arrives_0 17 rfl rfl)
theorem dX12_arrives_20 : decode cX12_arrives 20 = .ok (.iconst 3, 1) := dk_6 (dk_at dksX12_arrives_0 20 rfl rfl)
theorem dX12_arrives_21 : decode cX12_arrives 21 = .ok (.iaload, 1) := dk_46 (dk_at dksX12_arrives_0 21 rfl rfl)
theorem dX12_arrives_22 : decode cX12_arrives 22 = .ok (.invokestatic 314, 3) := dk_184 1 58 (dk_at dksX12_arrives_1 0 rfl rfl)
theorem dX12_arrives_25 : decode cX12_arrives 25 = .ok (.ifCond .eq 16, 3) := dk_153 0 16 (dk_at dksX12_arrives_1 3 rfl rfl)
theorem dX12_arrives_28 : decode cX12_arrives 28 = .ok (.iload_n 2, 1) := dk_28 (dk_at dksX12_arrives_1 6 rfl rfl)
theorem dX12_arrives_29 : decode cX12_arrives 29 = .ok (.iconst 0, 1) := dk_3 (dk_at dksX12_arrives_1 7 rfl rfl)
theorem dX12_arrives_30 : decode cX12_arrives 30 = .ok (.iconst 2, 1) := dk_5 (dk_at dksX12_arrives_1 8 rfl rfl)
theorem dX12_arrives_31 : decode cX12_arrives 31 = .ok (.invokestatic 314, 3) := dk_184 1 58 (dk_at dksX12_arrives_1 9 rfl rfl)
theorem dX12_arrives_34 : decode cX12_arrives 34 = .ok (.ifCond .eq 7, 3) := dk_153 0 7 (dk_at dksX12_arrives_1 12 rfl rfl)
theorem dX12_arrives_37 : decode cX12_arrives 37 = .ok (.iconst 1, 1) := dk_4 (dk_at dksX12_arrives_1 15 rfl rfl)
theorem dX12_arrives_38 : decode cX12_arrives 38 = .ok (.goto 4, 3) := dk_167 0 4 (dk_at dksX12_arrives_1 16 rfl rfl)
theorem dX12_arrives_41 : decode cX12_arrives 41 = .ok (.iconst 0, 1) := dk_3 (dk_at dksX12_arrives_1 19 rfl rfl)
theorem dX12_arrives_42 : decode cX12_arrives 42 = .ok (.iconst 1, 1) := dk_4 (dk_at dksX12_arrives_1 20 rfl rfl)
theorem dX12_arrives_43 : decode cX12_arrives 43 = .ok (.iconst 2, 1) := dk_5 (dk_at dksX12_arrives_1 21 rfl rfl)
theorem dX12_arrives_44 : decode cX12_arrives 44 = .ok (.invokevirtual 226, 3) := dk_182 0 226 (dk_at dksX12_arrives_2 0 rfl rfl)
theorem dX12_arrives_47 : decode cX12_arrives 47 = .ok (.ifCond .ne 5, 3) := dk_154 0 5 (dk_at dksX12_arrives_2 3 rfl rfl)
theorem dX12_arrives_50 : decode cX12_arrives 50 = .ok (.lconst 0, 1) := dk_9 (dk_at dksX12_arrives_2 6 rfl rfl)
theorem dX12_arrives_51 : decode cX12_arrives 51 = .ok (.lreturn, 1) := dk_173 (dk_at dksX12_arrives_2 7 rfl rfl)
theorem dX12_arrives_52 : decode cX12_arrives 52 = .ok (.aload_n 0, 1) := dk_42 (dk_at dksX12_arrives_2 8 rfl rfl)
theorem dX12_arrives_53 : decode cX12_arrives 53 = .ok (.invokevirtual 430, 3) := dk_182 1 174 (dk_at dksX12_arrives_2 9 rfl rfl)
theorem dX12_arrives_56 : decode cX12_arrives 56 = .ok (.aload_n 0, 1) := dk_42 (dk_at dksX12_arrives_2 12 rfl rfl)
theorem dX12_arrives_57 : decode cX12_arrives 57 = .ok (.invokevirtual 479, 3) := dk_182 1 223 (dk_at dksX12_arrives_2 13 rfl rfl)
theorem dX12_arrives_60 : decode cX12_arrives 60 = .ok (.aload_n 0, 1) := dk_42 (dk_at dksX12_arrives_2 16 rfl rfl)
theorem dX12_arrives_61 : decode cX12_arrives 61 = .ok (.iload_n 1, 1) := dk_27 (dk_at dksX12_arrives_2 17 rfl rfl)
theorem dX12_arrives_62 : decode cX12_arrives 62 = .ok (.iload_n 2, 1) := dk_28 (dk_at dksX12_arrives_2 18 rfl rfl)
theorem dX12_arrives_63 : decode cX12_arrives 63 = .ok (.iconst 1, 1) := dk_4 (dk_at dksX12_arrives_2 19 rfl rfl)
theorem dX12_arrives_64 : decode cX12_arrives 64 = .ok (.iadd, 1) := dk_96 (dk_at dksX12_arrives_2 20 rfl rfl)
theorem dX12_arrives_65 : decode cX12_arrives 65 = .ok (.invokevirtual 475, 3) := dk_182 1 219 (dk_at dksX12_arrives_2 21 rfl rfl)
theorem dX12_arrives_68 : decode cX12_arrives 68 = .ok (.lreturn, 1) := dk_173 (dk_at dksX12_arrives_3 0 rfl rfl)
abbrev cX12_visits : ByteArray := prog_27_method_117_code
def yX12_visits : MethodName := ⟨RX12, "visits", "(I)J"⟩
def dkwX12_visits_4 : List UInt8 := [105, 97, 65, 132, 5, 1, 167, 255, 220, 132, 4, 1, 167, 255, 200, 32, 173]
abbrev dktX12_visits_4 : List UInt8 := dkwX12_visits_4 ++ []
def dkwX12_visits_3 : List UInt8 := [163, 0, 33, 32, 42, 180, 0, 115, 21, 4, 27, 21, 5, 184, 1, 98, 47, 42, 180, 0, 86, 21, 4, 47]
abbrev dktX12_visits_3 : List UInt8 := dkwX12_visits_3 ++ dktX12_visits_4
def dkwX12_visits_2 : List UInt8 := [54, 4, 21, 4, 42, 180, 0, 23, 6, 46, 163, 0, 51, 3, 54, 5, 21, 5, 42, 180, 1, 92]
abbrev dktX12_visits_2 : List UInt8 := dkwX12_visits_2 ++ dktX12_visits_3
def dkwX12_visits_1 : List UInt8 := [184, 1, 58, 4, 5, 182, 0, 226, 154, 0, 5, 9, 173, 42, 182, 1, 174, 42, 182, 1, 223, 9, 65, 3]
abbrev dktX12_visits_1 : List UInt8 := dkwX12_visits_1 ++ dktX12_visits_2
def dkwX12_visits_0 : List UInt8 := [42, 3, 181, 0, 1, 42, 5, 182, 1, 75, 153, 0, 25, 42, 27, 3, 42, 180, 0, 23, 3, 46, 4, 100]
abbrev dktX12_visits_0 : List UInt8 := dkwX12_visits_0 ++ dktX12_visits_1
theorem dksX12_visits_0 : cX12_visits.data.toList.drop 0 = dktX12_visits_0 := by decide +kernel
theorem dksX12_visits_1 : cX12_visits.data.toList.drop 24 = dktX12_visits_1 := dk_seg dksX12_visits_0 24 rfl rfl
theorem dksX12_visits_2 : cX12_visits.data.toList.drop 48 = dktX12_visits_2 := dk_seg dksX12_visits_1 24 rfl rfl
theorem dksX12_visits_3 : cX12_visits.data.toList.drop 70 = dktX12_visits_3 := dk_seg dksX12_visits_2 22 rfl rfl
theorem dksX12_visits_4 : cX12_visits.data.toList.drop 94 = dktX12_visits_4 := dk_seg dksX12_visits_3 24 rfl rfl
theorem dX12_visits_0 : decode cX12_visits 0 = .ok (.aload_n 0, 1) := dk_42 (dk_at dksX12_visits_0 0 rfl rfl)
theorem dX12_visits_1 : decode cX12_visits 1 = .ok (.iconst 0, 1) := dk_3 (dk_at dksX12_visits_0 1 rfl rfl)
theorem dX12_visits_2 : decode cX12_visits 2 = .ok (.putfield 1, 3) := dk_181 0 1 (dk_at dksX12_visits_0 2 rfl rfl)
theorem dX12_visits_5 : decode cX12_visits 5 = .ok (.aload_n 0, 1) := dk_42 (dk_at dksX12_visits_0 5 rfl rfl)
theorem dX12_visits_6 : decode cX12_visits 6 = .ok (.iconst 2, 1) := dk_5 (dk_at dksX12_visits_0 6 rfl rfl)
theorem dX12_visits_7 : decode cX12_visits 7 = .ok (.invokevirtual 331, 3) := dk_182 1 75 (dk_at dksX12_visits_0 7 rfl rfl)
theorem dX12_visits_10 : decode cX12_visits 10 = .ok (.ifCond .eq 25, 3) := dk_153 0 25 (dk_at dksX12_visits_0 10 rfl rfl)
theorem dX12_visits_13 : decode cX12_visits 13 = .ok (.aload_n 0, 1) := dk_42 (dk_at dksX12_visits_0 13 rfl rfl)
theorem dX12_visits_14 : decode cX12_visits 14 = .ok (.iload_n 1, 1) := dk_27 (dk_at dksX12_visits_0 14 rfl rfl)
theorem dX12_visits_15 : decode cX12_visits 15 = .ok (.iconst 0, 1) := dk_3 (dk_at dksX12_visits_0 15 rfl rfl)
theorem dX12_visits_16 : decode cX12_visits 16 = .ok (.aload_n 0, 1) := dk_42 (dk_at dksX12_visits_0 16 rfl rfl)
theorem dX12_visits_17 : decode cX12_visits 17 = .ok (.getfield 23, 3) := dk_180 0 23 (dk_at dksX12_visits_0 17 rfl rfl)
theorem dX12_visits_20 : decode cX12_visits 20 = .ok (.iconst 0, 1) := dk_3 (dk_at dksX12_visits_0 20 rfl rfl)
theorem dX12_visits_21 : decode cX12_visits 21 = .ok (.iaload, 1) := dk_46 (dk_at dksX12_visits_0 21 rfl rfl)
theorem dX12_visits_22 : decode cX12_visits 22 = .ok (.iconst 1, 1) := dk_4 (dk_at dksX12_visits_0 22 rfl rfl)
theorem dX12_visits_23 : decode cX12_visits 23 = .ok (.isub, 1) := dk_100 (dk_at dksX12_visits_0 23 rfl rfl)
theorem dX12_visits_24 : decode cX12_visits 24 = .ok (.invokestatic 314, 3) := dk_184 1 58 (dk_at dksX12_visits_1 0 rfl rfl)
theorem dX12_visits_27 : decode cX12_visits 27 = .ok (.iconst 1, 1) := dk_4 (dk_at dksX12_visits_1 3 rfl rfl)
theorem dX12_visits_28 : decode cX12_visits 28 = .ok (.iconst 2, 1) := dk_5 (dk_at dksX12_visits_1 4 rfl rfl)
theorem dX12_visits_29 : decode cX12_visits 29 = .ok (.invokevirtual 226, 3) := dk_182 0 226 (dk_at dksX12_visits_1 5 rfl rfl)
theorem dX12_visits_32 : decode cX12_visits 32 = .ok (.ifCond .ne 5, 3) := dk_154 0 5 (dk_at dksX12_visits_1 8 rfl rfl)
theorem dX12_visits_35 : decode cX12_visits 35 = .ok (.lconst 0, 1) := dk_9 (dk_at dksX12_visits_1 11 rfl rfl)
theorem dX12_visits_36 : decode cX12_visits 36 = .ok (.lreturn, 1) := dk_173 (dk_at dksX12_visits_1 12 rfl rfl)
theorem dX12_visits_37 : decode cX12_visits 37 = .ok (.aload_n 0, 1) := dk_42 (dk_at dksX12_visits_1 13 rfl rfl)
theorem dX12_visits_38 : decode cX12_visits 38 = .ok (.invokevirtual 430, 3) := dk_182 1 174 (dk_at dksX12_visits_1 14 rfl rfl)
theorem dX12_visits_41 : decode cX12_visits 41 = .ok (.aload_n 0, 1) := dk_42 (dk_at dksX12_visits_1 17 rfl rfl)
theorem dX12_visits_42 : decode cX12_visits 42 = .ok (.invokevirtual 479, 3) := dk_182 1 223 (dk_at dksX12_visits_1 18 rfl rfl)
theorem dX12_visits_45 : decode cX12_visits 45 = .ok (.lconst 0, 1) := dk_9 (dk_at dksX12_visits_1 21 rfl rfl)
theorem dX12_visits_46 : decode cX12_visits 46 = .ok (.lstore_n 2, 1) := dk_65 (dk_at dksX12_visits_1 22 rfl rfl)
theorem dX12_visits_47 : decode cX12_visits 47 = .ok (.iconst 0, 1) := dk_3 (dk_at dksX12_visits_1 23 rfl rfl)
theorem dX12_visits_48 : decode cX12_visits 48 = .ok (.istore 4, 2) := dk_54 4 (dk_at dksX12_visits_2 0 rfl rfl)
theorem dX12_visits_50 : decode cX12_visits 50 = .ok (.iload 4, 2) := dk_21 4 (dk_at dksX12_visits_2 2 rfl rfl)
theorem dX12_visits_52 : decode cX12_visits 52 = .ok (.aload_n 0, 1) := dk_42 (dk_at dksX12_visits_2 4 rfl rfl)
theorem dX12_visits_53 : decode cX12_visits 53 = .ok (.getfield 23, 3) := dk_180 0 23 (dk_at dksX12_visits_2 5 rfl rfl)
theorem dX12_visits_56 : decode cX12_visits 56 = .ok (.iconst 3, 1) := dk_6 (dk_at dksX12_visits_2 8 rfl rfl)
theorem dX12_visits_57 : decode cX12_visits 57 = .ok (.iaload, 1) := dk_46 (dk_at dksX12_visits_2 9 rfl rfl)
theorem dX12_visits_58 : decode cX12_visits 58 = .ok (.if_icmp .gt 51, 3) := dk_163 0 51 (dk_at dksX12_visits_2 10 rfl rfl)
theorem dX12_visits_61 : decode cX12_visits 61 = .ok (.iconst 0, 1) := dk_3 (dk_at dksX12_visits_2 13 rfl rfl)
theorem dX12_visits_62 : decode cX12_visits 62 = .ok (.istore 5, 2) := dk_54 5 (dk_at dksX12_visits_2 14 rfl rfl)
theorem dX12_visits_64 : decode cX12_visits 64 = .ok (.iload 5, 2) := dk_21 5 (dk_at dksX12_visits_2 16 rfl rfl)
theorem dX12_visits_66 : decode cX12_visits 66 = .ok (.aload_n 0, 1) := dk_42 (dk_at dksX12_visits_2 18 rfl rfl)
theorem dX12_visits_67 : decode cX12_visits 67 = .ok (.getfield 348, 3) := dk_180 1 92 (dk_at dksX12_visits_2 19 rfl rfl)
theorem dX12_visits_70 : decode cX12_visits 70 = .ok (.if_icmp .gt 33, 3) := dk_163 0 33 (dk_at dksX12_visits_3 0 rfl rfl)
theorem dX12_visits_73 : decode cX12_visits 73 = .ok (.lload_n 2, 1) := dk_32 (dk_at dksX12_visits_3 3 rfl rfl)
theorem dX12_visits_74 : decode cX12_visits 74 = .ok (.aload_n 0, 1) := dk_42 (dk_at dksX12_visits_3 4 rfl rfl)
theorem dX12_visits_75 : decode cX12_visits 75 = .ok (.getfield 115, 3) := dk_180 0 115 (dk_at dksX12_visits_3 5 rfl rfl)
theorem dX12_visits_78 : decode cX12_visits 78 = .ok (.iload 4, 2) := dk_21 4 (dk_at dksX12_visits_3 8 rfl rfl)
theorem dX12_visits_80 : decode cX12_visits 80 = .ok (.iload_n 1, 1) := dk_27 (dk_at dksX12_visits_3 10 rfl rfl)
theorem dX12_visits_81 : decode cX12_visits 81 = .ok (.iload 5, 2) := dk_21 5 (dk_at dksX12_visits_3 11 rfl rfl)
theorem dX12_visits_83 : decode cX12_visits 83 = .ok (.invokestatic 354, 3) := dk_184 1 98 (dk_at dksX12_visits_3 13 rfl rfl)
theorem dX12_visits_86 : decode cX12_visits 86 = .ok (.laload, 1) := dk_47 (dk_at dksX12_visits_3 16 rfl rfl)
theorem dX12_visits_87 : decode cX12_visits 87 = .ok (.aload_n 0, 1) := dk_42 (dk_at dksX12_visits_3 17 rfl rfl)
theorem dX12_visits_88 : decode cX12_visits 88 = .ok (.getfield 86, 3) := dk_180 0 86 (dk_at dksX12_visits_3 18 rfl rfl)
theorem dX12_visits_91 : decode cX12_visits 91 = .ok (.iload 4, 2) := dk_21 4 (dk_at dksX12_visits_3 21 rfl rfl)
theorem dX12_visits_93 : decode cX12_visits 93 = .ok (.laload, 1) := dk_47 (dk_at dksX12_visits_3 23 rfl rfl)
theorem dX12_visits_94 : decode cX12_visits 94 = .ok (.lmul, 1) := dk_105 (dk_at dksX12_visits_4 0 rfl rfl)
theorem dX12_visits_95 : decode cX12_visits 95 = .ok (.ladd, 1) := dk_97 (dk_at dksX12_visits_4 1 rfl rfl)
theorem dX12_visits_96 : decode cX12_visits 96 = .ok (.lstore_n 2, 1) := dk_65 (dk_at dksX12_visits_4 2 rfl rfl)
theorem dX12_visits_97 : decode cX12_visits 97 = .ok (.iinc 5 1, 3) := dk_132 5 1 (dk_at dksX12_visits_4 3 rfl rfl)
theorem dX12_visits_100 : decode cX12_visits 100 = .ok (.goto (-36), 3) := dk_167 255 220 (dk_at dksX12_visits_4 6 rfl rfl)
theorem dX12_visits_103 : decode cX12_visits 103 = .ok (.iinc 4 1, 3) := dk_132 4 1 (dk_at dksX12_visits_4 9 rfl rfl)
theorem dX12_visits_106 : decode cX12_visits 106 = .ok (.goto (-56), 3) := dk_167 255 200 (dk_at dksX12_visits_4 12 rfl rfl)
theorem dX12_visits_109 : decode cX12_visits 109 = .ok (.lload_n 2, 1) := dk_32 (dk_at dksX12_visits_4 15 rfl rfl)
theorem dX12_visits_110 : decode cX12_visits 110 = .ok (.lreturn, 1) := dk_173 (dk_at dksX12_visits_4 16 rfl rfl)
abbrev cX12_needs : ByteArray := prog_27_method_118_code
def yX12_needs : MethodName := ⟨RX12, "needs", "()I"⟩
def dkwX12_needs_3 : List UInt8 := [167, 255, 208, 42, 3, 181, 1, 55, 27, 172]
abbrev dktX12_needs_3 : List UInt8 := dkwX12_needs_3 ++ []
def dkwX12_needs_2 : List UInt8 := [182, 1, 223, 42, 4, 182, 1, 226, 42, 180, 0, 86, 3, 47, 148, 154, 0, 5, 28, 60, 132, 2, 1]
abbrev dktX12_needs_2 : List UInt8 := dkwX12_needs_2 ++ dktX12_needs_3
def dkwX12_needs_1 : List UInt8 := [16, 12, 163, 0, 48, 27, 2, 160, 0, 43, 42, 28, 181, 1, 92, 42, 182, 1, 152, 42, 182, 1, 158, 42]
abbrev dktX12_needs_1 : List UInt8 := dkwX12_needs_1 ++ dktX12_needs_2
def dkwX12_needs_0 : List UInt8 := [42, 3, 181, 0, 1, 42, 4, 182, 1, 75, 154, 0, 5, 3, 172, 42, 182, 1, 155, 2, 60, 4, 61, 28]
abbrev dktX12_needs_0 : List UInt8 := dkwX12_needs_0 ++ dktX12_needs_1
theorem dksX12_needs_0 : cX12_needs.data.toList.drop 0 = dktX12_needs_0 := by decide +kernel
theorem dksX12_needs_1 : cX12_needs.data.toList.drop 24 = dktX12_needs_1 := dk_seg dksX12_needs_0 24 rfl rfl
theorem dksX12_needs_2 : cX12_needs.data.toList.drop 48 = dktX12_needs_2 := dk_seg dksX12_needs_1 24 rfl rfl
theorem dksX12_needs_3 : cX12_needs.data.toList.drop 71 = dktX12_needs_3 := dk_seg dksX12_needs_2 23 rfl rfl
theorem dX12_needs_0 : decode cX12_needs 0 = .ok (.aload_n 0, 1) := dk_42 (dk_at dksX12_needs_0 0 rfl rfl)
theorem dX12_needs_1 : decode cX12_needs 1 = .ok (.iconst 0, 1) := dk_3 (dk_at dksX12_needs_0 1 rfl rfl)
theorem dX12_needs_2 : decode cX12_needs 2 = .ok (.putfield 1, 3) := dk_181 0 1 (dk_at dksX12_needs_0 2 rfl rfl)
theorem dX12_needs_5 : decode cX12_needs 5 = .ok (.aload_n 0, 1) := dk_42 (dk_at dksX12_needs_0 5 rfl rfl)
theorem dX12_needs_6 : decode cX12_needs 6 = .ok (.iconst 1, 1) := dk_4 (dk_at dksX12_needs_0 6 rfl rfl)
theorem dX12_needs_7 : decode cX12_needs 7 = .ok (.invokevirtual 331, 3) := dk_182 1 75 (dk_at dksX12_needs_0 7 rfl rfl)
theorem dX12_needs_10 : decode cX12_needs 10 = .ok (.ifCond .ne 5, 3) := dk_154 0 5 (dk_at dksX12_needs_0 10 rfl rfl)
theorem dX12_needs_13 : decode cX12_needs 13 = .ok (.iconst 0, 1) := dk_3 (dk_at dksX12_needs_0 13 rfl rfl)
theorem dX12_needs_14 : decode cX12_needs 14 = .ok (.ireturn, 1) := dk_172 (dk_at dksX12_needs_0 14 rfl rfl)
theorem dX12_needs_15 : decode cX12_needs 15 = .ok (.aload_n 0, 1) := dk_42 (dk_at dksX12_needs_0 15 rfl rfl)
theorem dX12_needs_16 : decode cX12_needs 16 = .ok (.invokevirtual 411, 3) := dk_182 1 155 (dk_at dksX12_needs_0 16 rfl rfl)
theorem dX12_needs_19 : decode cX12_needs 19 = .ok (.iconst (-1), 1) := dk_2 (dk_at dksX12_needs_0 19 rfl rfl)
theorem dX12_needs_20 : decode cX12_needs 20 = .ok (.istore_n 1, 1) := dk_60 (dk_at dksX12_needs_0 20 rfl rfl)
theorem dX12_needs_21 : decode cX12_needs 21 = .ok (.iconst 1, 1) := dk_4 (dk_at dksX12_needs_0 21 rfl rfl)
theorem dX12_needs_22 : decode cX12_needs 22 = .ok (.istore_n 2, 1) := dk_61 (dk_at dksX12_needs_0 22 rfl rfl)
theorem dX12_needs_23 : decode cX12_needs 23 = .ok (.iload_n 2, 1) := dk_28 (dk_at dksX12_needs_0 23 rfl rfl)
theorem dX12_needs_24 : decode cX12_needs 24 = .ok (.bipush 12, 2) := dk_16 12 (dk_at dksX12_needs_1 0 rfl rfl)
theorem dX12_needs_26 : decode cX12_needs 26 = .ok (.if_icmp .gt 48, 3) := dk_163 0 48 (dk_at dksX12_needs_1 2 rfl rfl)
theorem dX12_needs_29 : decode cX12_needs 29 = .ok (.iload_n 1, 1) := dk_27 (dk_at dksX12_needs_1 5 rfl rfl)
theorem dX12_needs_30 : decode cX12_needs 30 = .ok (.iconst (-1), 1) := dk_2 (dk_at dksX12_needs_1 6 rfl rfl)
theorem dX12_needs_31 : decode cX12_needs 31 = .ok (.if_icmp .ne 43, 3) := dk_160 0 43 (dk_at dksX12_needs_1 7 rfl rfl)
theorem dX12_needs_34 : decode cX12_needs 34 = .ok (.aload_n 0, 1) := dk_42 (dk_at dksX12_needs_1 10 rfl rfl)
theorem dX12_needs_35 : decode cX12_needs 35 = .ok (.iload_n 2, 1) := dk_28 (dk_at dksX12_needs_1 11 rfl rfl)
theorem dX12_needs_36 : decode cX12_needs 36 = .ok (.putfield 348, 3) := dk_181 1 92 (dk_at dksX12_needs_1 12 rfl rfl)
theorem dX12_needs_39 : decode cX12_needs 39 = .ok (.aload_n 0, 1) := dk_42 (dk_at dksX12_needs_1 15 rfl rfl)
theorem dX12_needs_40 : decode cX12_needs 40 = .ok (.invokevirtual 408, 3) := dk_182 1 152 (dk_at dksX12_needs_1 16 rfl rfl)
theorem dX12_needs_43 : decode cX12_needs 43 = .ok (.aload_n 0, 1) := dk_42 (dk_at dksX12_needs_1 19 rfl rfl)
theorem dX12_needs_44 : decode cX12_needs 44 = .ok (.invokevirtual 414, 3) := dk_182 1 158 (dk_at dksX12_needs_1 20 rfl rfl)
theorem dX12_needs_47 : decode cX12_needs 47 = .ok (.aload_n 0, 1) := dk_42 (dk_at dksX12_needs_1 23 rfl rfl)
theorem dX12_needs_48 : decode cX12_needs 48 = .ok (.invokevirtual 479, 3) := dk_182 1 223 (dk_at dksX12_needs_2 0 rfl rfl)
theorem dX12_needs_51 : decode cX12_needs 51 = .ok (.aload_n 0, 1) := dk_42 (dk_at dksX12_needs_2 3 rfl rfl)
theorem dX12_needs_52 : decode cX12_needs 52 = .ok (.iconst 1, 1) := dk_4 (dk_at dksX12_needs_2 4 rfl rfl)
theorem dX12_needs_53 : decode cX12_needs 53 = .ok (.invokevirtual 482, 3) := dk_182 1 226 (dk_at dksX12_needs_2 5 rfl rfl)
theorem dX12_needs_56 : decode cX12_needs 56 = .ok (.aload_n 0, 1) := dk_42 (dk_at dksX12_needs_2 8 rfl rfl)
theorem dX12_needs_57 : decode cX12_needs 57 = .ok (.getfield 86, 3) := dk_180 0 86 (dk_at dksX12_needs_2 9 rfl rfl)
theorem dX12_needs_60 : decode cX12_needs 60 = .ok (.iconst 0, 1) := dk_3 (dk_at dksX12_needs_2 12 rfl rfl)
theorem dX12_needs_61 : decode cX12_needs 61 = .ok (.laload, 1) := dk_47 (dk_at dksX12_needs_2 13 rfl rfl)
theorem dX12_needs_62 : decode cX12_needs 62 = .ok (.lcmp, 1) := dk_148 (dk_at dksX12_needs_2 14 rfl rfl)
theorem dX12_needs_63 : decode cX12_needs 63 = .ok (.ifCond .ne 5, 3) := dk_154 0 5 (dk_at dksX12_needs_2 15 rfl rfl)
theorem dX12_needs_66 : decode cX12_needs 66 = .ok (.iload_n 2, 1) := dk_28 (dk_at dksX12_needs_2 18 rfl rfl)
theorem dX12_needs_67 : decode cX12_needs 67 = .ok (.istore_n 1, 1) := dk_60 (dk_at dksX12_needs_2 19 rfl rfl)
theorem dX12_needs_68 : decode cX12_needs 68 = .ok (.iinc 2 1, 3) := dk_132 2 1 (dk_at dksX12_needs_2 20 rfl rfl)
theorem dX12_needs_71 : decode cX12_needs 71 = .ok (.goto (-48), 3) := dk_167 255 208 (dk_at dksX12_needs_3 0 rfl rfl)
theorem dX12_needs_74 : decode cX12_needs 74 = .ok (.aload_n 0, 1) := dk_42 (dk_at dksX12_needs_3 3 rfl rfl)
theorem dX12_needs_75 : decode cX12_needs 75 = .ok (.iconst 0, 1) := dk_3 (dk_at dksX12_needs_3 4 rfl rfl)
theorem dX12_needs_76 : decode cX12_needs 76 = .ok (.putfield 311, 3) := dk_181 1 55 (dk_at dksX12_needs_3 5 rfl rfl)
theorem dX12_needs_79 : decode cX12_needs 79 = .ok (.iload_n 1, 1) := dk_27 (dk_at dksX12_needs_3 8 rfl rfl)
theorem dX12_needs_80 : decode cX12_needs 80 = .ok (.ireturn, 1) := dk_172 (dk_at dksX12_needs_3 9 rfl rfl)
abbrev cX12_blind : ByteArray := prog_27_method_120_code
def yX12_blind : MethodName := ⟨RX12, "blind", "(I)J"⟩
def dkwX12_blind_1 : List UInt8 := [42, 182, 1, 155, 42, 27, 3, 182, 1, 229, 42, 27, 7, 182, 1, 229, 101, 173]
abbrev dktX12_blind_1 : List UInt8 := dkwX12_blind_1 ++ []
def dkwX12_blind_0 : List UInt8 := [42, 3, 181, 0, 1, 42, 5, 182, 1, 75, 153, 0, 12, 42, 27, 4, 182, 1, 62, 154, 0, 5, 9, 173]
abbrev dktX12_blind_0 : List UInt8 := dkwX12_blind_0 ++ dktX12_blind_1
theorem dksX12_blind_0 : cX12_blind.data.toList.drop 0 = dktX12_blind_0 := by decide +kernel
theorem dksX12_blind_1 : cX12_blind.data.toList.drop 24 = dktX12_blind_1 := dk_seg dksX12_blind_0 24 rfl rfl
theorem dX12_blind_0 : decode cX12_blind 0 = .ok (.aload_n 0, 1) := dk_42 (dk_at dksX12_blind_0 0 rfl rfl)
theorem dX12_blind_1 : decode cX12_blind 1 = .ok (.iconst 0, 1) := dk_3 (dk_at dksX12_blind_0 1 rfl rfl)
theorem dX12_blind_2 : decode cX12_blind 2 = .ok (.putfield 1, 3) := dk_181 0 1 (dk_at dksX12_blind_0 2 rfl rfl)
theorem dX12_blind_5 : decode cX12_blind 5 = .ok (.aload_n 0, 1) := dk_42 (dk_at dksX12_blind_0 5 rfl rfl)
theorem dX12_blind_6 : decode cX12_blind 6 = .ok (.iconst 2, 1) := dk_5 (dk_at dksX12_blind_0 6 rfl rfl)
theorem dX12_blind_7 : decode cX12_blind 7 = .ok (.invokevirtual 331, 3) := dk_182 1 75 (dk_at dksX12_blind_0 7 rfl rfl)
theorem dX12_blind_10 : decode cX12_blind 10 = .ok (.ifCond .eq 12, 3) := dk_153 0 12 (dk_at dksX12_blind_0 10 rfl rfl)
theorem dX12_blind_13 : decode cX12_blind 13 = .ok (.aload_n 0, 1) := dk_42 (dk_at dksX12_blind_0 13 rfl rfl)
theorem dX12_blind_14 : decode cX12_blind 14 = .ok (.iload_n 1, 1) := dk_27 (dk_at dksX12_blind_0 14 rfl rfl)
theorem dX12_blind_15 : decode cX12_blind 15 = .ok (.iconst 1, 1) := dk_4 (dk_at dksX12_blind_0 15 rfl rfl)
theorem dX12_blind_16 : decode cX12_blind 16 = .ok (.invokevirtual 318, 3) := dk_182 1 62 (dk_at dksX12_blind_0 16 rfl rfl)
theorem dX12_blind_19 : decode cX12_blind 19 = .ok (.ifCond .ne 5, 3) := dk_154 0 5 (dk_at dksX12_blind_0 19 rfl rfl)
theorem dX12_blind_22 : decode cX12_blind 22 = .ok (.lconst 0, 1) := dk_9 (dk_at dksX12_blind_0 22 rfl rfl)
theorem dX12_blind_23 : decode cX12_blind 23 = .ok (.lreturn, 1) := dk_173 (dk_at dksX12_blind_0 23 rfl rfl)
theorem dX12_blind_24 : decode cX12_blind 24 = .ok (.aload_n 0, 1) := dk_42 (dk_at dksX12_blind_1 0 rfl rfl)
theorem dX12_blind_25 : decode cX12_blind 25 = .ok (.invokevirtual 411, 3) := dk_182 1 155 (dk_at dksX12_blind_1 1 rfl rfl)
theorem dX12_blind_28 : decode cX12_blind 28 = .ok (.aload_n 0, 1) := dk_42 (dk_at dksX12_blind_1 4 rfl rfl)
theorem dX12_blind_29 : decode cX12_blind 29 = .ok (.iload_n 1, 1) := dk_27 (dk_at dksX12_blind_1 5 rfl rfl)
theorem dX12_blind_30 : decode cX12_blind 30 = .ok (.iconst 0, 1) := dk_3 (dk_at dksX12_blind_1 6 rfl rfl)
theorem dX12_blind_31 : decode cX12_blind 31 = .ok (.invokevirtual 485, 3) := dk_182 1 229 (dk_at dksX12_blind_1 7 rfl rfl)
theorem dX12_blind_34 : decode cX12_blind 34 = .ok (.aload_n 0, 1) := dk_42 (dk_at dksX12_blind_1 10 rfl rfl)
theorem dX12_blind_35 : decode cX12_blind 35 = .ok (.iload_n 1, 1) := dk_27 (dk_at dksX12_blind_1 11 rfl rfl)
theorem dX12_blind_36 : decode cX12_blind 36 = .ok (.iconst 4, 1) := dk_7 (dk_at dksX12_blind_1 12 rfl rfl)
theorem dX12_blind_37 : decode cX12_blind 37 = .ok (.invokevirtual 485, 3) := dk_182 1 229 (dk_at dksX12_blind_1 13 rfl rfl)
theorem dX12_blind_40 : decode cX12_blind 40 = .ok (.lsub, 1) := dk_101 (dk_at dksX12_blind_1 16 rfl rfl)
theorem dX12_blind_41 : decode cX12_blind 41 = .ok (.lreturn, 1) := dk_173 (dk_at dksX12_blind_1 17 rfl rfl)
abbrev cX12_asKind : ByteArray := prog_27_method_119_code
def yX12_asKind : MethodName := ⟨RX12, "asKind", "(II)J"⟩
def dkwX12_asKind_0 : List UInt8 := [42, 180, 0, 68, 27, 28, 79, 42, 182, 1, 158, 42, 27, 182, 1, 163, 173]
abbrev dktX12_asKind_0 : List UInt8 := dkwX12_asKind_0 ++ []
theorem dksX12_asKind_0 : cX12_asKind.data.toList.drop 0 = dktX12_asKind_0 := by decide +kernel
theorem dX12_asKind_0 : decode cX12_asKind 0 = .ok (.aload_n 0, 1) := dk_42 (dk_at dksX12_asKind_0 0 rfl rfl)
theorem dX12_asKind_1 : decode cX12_asKind 1 = .ok (.getfield 68, 3) := dk_180 0 68 (dk_at dksX12_asKind_0 1 rfl rfl)
theorem dX12_asKind_4 : decode cX12_asKind 4 = .ok (.iload_n 1, 1) := dk_27 (dk_at dksX12_asKind_0 4 rfl rfl)
theorem dX12_asKind_5 : decode cX12_asKind 5 = .ok (.iload_n 2, 1) := dk_28 (dk_at dksX12_asKind_0 5 rfl rfl)
theorem dX12_asKind_6 : decode cX12_asKind 6 = .ok (.iastore, 1) := dk_79 (dk_at dksX12_asKind_0 6 rfl rfl)
theorem dX12_asKind_7 : decode cX12_asKind 7 = .ok (.aload_n 0, 1) := dk_42 (dk_at dksX12_asKind_0 7 rfl rfl)
theorem dX12_asKind_8 : decode cX12_asKind 8 = .ok (.invokevirtual 414, 3) := dk_182 1 158 (dk_at dksX12_asKind_0 8 rfl rfl)
theorem dX12_asKind_11 : decode cX12_asKind 11 = .ok (.aload_n 0, 1) := dk_42 (dk_at dksX12_asKind_0 11 rfl rfl)
theorem dX12_asKind_12 : decode cX12_asKind 12 = .ok (.iload_n 1, 1) := dk_27 (dk_at dksX12_asKind_0 12 rfl rfl)
theorem dX12_asKind_13 : decode cX12_asKind 13 = .ok (.invokevirtual 419, 3) := dk_182 1 163 (dk_at dksX12_asKind_0 13 rfl rfl)
theorem dX12_asKind_16 : decode cX12_asKind 16 = .ok (.lreturn, 1) := dk_173 (dk_at dksX12_asKind_0 16 rfl rfl)
abbrev cX12_asks : ByteArray := prog_27_method_121_code
def yX12_asks : MethodName := ⟨RX12, "asks", "(I)I"⟩
def dkwX12_asks_3 : List UInt8 := [132, 5, 1, 167, 255, 221, 28, 172]
abbrev dktX12_asks_3 : List UInt8 := dkwX12_asks_3 ++ []
def dkwX12_asks_2 : List UInt8 := [27, 21, 5, 182, 1, 229, 55, 6, 22, 6, 33, 148, 157, 0, 6, 167, 0, 9, 21, 5, 61, 22, 6, 66]
abbrev dktX12_asks_2 : List UInt8 := dkwX12_asks_2 ++ dktX12_asks_3
def dkwX12_asks_1 : List UInt8 := [42, 182, 1, 155, 3, 61, 42, 27, 3, 182, 1, 229, 66, 4, 54, 5, 21, 5, 16, 6, 162, 0, 34, 42]
abbrev dktX12_asks_1 : List UInt8 := dkwX12_asks_1 ++ dktX12_asks_2
def dkwX12_asks_0 : List UInt8 := [42, 3, 181, 0, 1, 42, 5, 182, 1, 75, 153, 0, 12, 42, 27, 4, 182, 1, 62, 154, 0, 5, 3, 172]
abbrev dktX12_asks_0 : List UInt8 := dkwX12_asks_0 ++ dktX12_asks_1
theorem dksX12_asks_0 : cX12_asks.data.toList.drop 0 = dktX12_asks_0 := by decide +kernel
theorem dksX12_asks_1 : cX12_asks.data.toList.drop 24 = dktX12_asks_1 := dk_seg dksX12_asks_0 24 rfl rfl
theorem dksX12_asks_2 : cX12_asks.data.toList.drop 48 = dktX12_asks_2 := dk_seg dksX12_asks_1 24 rfl rfl
theorem dksX12_asks_3 : cX12_asks.data.toList.drop 72 = dktX12_asks_3 := dk_seg dksX12_asks_2 24 rfl rfl
theorem dX12_asks_0 : decode cX12_asks 0 = .ok (.aload_n 0, 1) := dk_42 (dk_at dksX12_asks_0 0 rfl rfl)
theorem dX12_asks_1 : decode cX12_asks 1 = .ok (.iconst 0, 1) := dk_3 (dk_at dksX12_asks_0 1 rfl rfl)
theorem dX12_asks_2 : decode cX12_asks 2 = .ok (.putfield 1, 3) := dk_181 0 1 (dk_at dksX12_asks_0 2 rfl rfl)
theorem dX12_asks_5 : decode cX12_asks 5 = .ok (.aload_n 0, 1) := dk_42 (dk_at dksX12_asks_0 5 rfl rfl)
theorem dX12_asks_6 : decode cX12_asks 6 = .ok (.iconst 2, 1) := dk_5 (dk_at dksX12_asks_0 6 rfl rfl)
theorem dX12_asks_7 : decode cX12_asks 7 = .ok (.invokevirtual 331, 3) := dk_182 1 75 (dk_at dksX12_asks_0 7 rfl rfl)
theorem dX12_asks_10 : decode cX12_asks 10 = .ok (.ifCond .eq 12, 3) := dk_153 0 12 (dk_at dksX12_asks_0 10 rfl rfl)
theorem dX12_asks_13 : decode cX12_asks 13 = .ok (.aload_n 0, 1) := dk_42 (dk_at dksX12_asks_0 13 rfl rfl)
theorem dX12_asks_14 : decode cX12_asks 14 = .ok (.iload_n 1, 1) := dk_27 (dk_at dksX12_asks_0 14 rfl rfl)
theorem dX12_asks_15 : decode cX12_asks 15 = .ok (.iconst 1, 1) := dk_4 (dk_at dksX12_asks_0 15 rfl rfl)
theorem dX12_asks_16 : decode cX12_asks 16 = .ok (.invokevirtual 318, 3) := dk_182 1 62 (dk_at dksX12_asks_0 16 rfl rfl)
theorem dX12_asks_19 : decode cX12_asks 19 = .ok (.ifCond .ne 5, 3) := dk_154 0 5 (dk_at dksX12_asks_0 19 rfl rfl)
theorem dX12_asks_22 : decode cX12_asks 22 = .ok (.iconst 0, 1) := dk_3 (dk_at dksX12_asks_0 22 rfl rfl)
theorem dX12_asks_23 : decode cX12_asks 23 = .ok (.ireturn, 1) := dk_172 (dk_at dksX12_asks_0 23 rfl rfl)
theorem dX12_asks_24 : decode cX12_asks 24 = .ok (.aload_n 0, 1) := dk_42 (dk_at dksX12_asks_1 0 rfl rfl)
theorem dX12_asks_25 : decode cX12_asks 25 = .ok (.invokevirtual 411, 3) := dk_182 1 155 (dk_at dksX12_asks_1 1 rfl rfl)
theorem dX12_asks_28 : decode cX12_asks 28 = .ok (.iconst 0, 1) := dk_3 (dk_at dksX12_asks_1 4 rfl rfl)
theorem dX12_asks_29 : decode cX12_asks 29 = .ok (.istore_n 2, 1) := dk_61 (dk_at dksX12_asks_1 5 rfl rfl)
theorem dX12_asks_30 : decode cX12_asks 30 = .ok (.aload_n 0, 1) := dk_42 (dk_at dksX12_asks_1 6 rfl rfl)
theorem dX12_asks_31 : decode cX12_asks 31 = .ok (.iload_n 1, 1) := dk_27 (dk_at dksX12_asks_1 7 rfl rfl)
theorem dX12_asks_32 : decode cX12_asks 32 = .ok (.iconst 0, 1) := dk_3 (dk_at dksX12_asks_1 8 rfl rfl)
theorem dX12_asks_33 : decode cX12_asks 33 = .ok (.invokevirtual 485, 3) := dk_182 1 229 (dk_at dksX12_asks_1 9 rfl rfl)
theorem dX12_asks_36 : decode cX12_asks 36 = .ok (.lstore_n 3, 1) := dk_66 (dk_at dksX12_asks_1 12 rfl rfl)
theorem dX12_asks_37 : decode cX12_asks 37 = .ok (.iconst 1, 1) := dk_4 (dk_at dksX12_asks_1 13 rfl rfl)
theorem dX12_asks_38 : decode cX12_asks 38 = .ok (.istore 5, 2) := dk_54 5 (dk_at dksX12_asks_1 14 rfl rfl)
theorem dX12_asks_40 : decode cX12_asks 40 = .ok (.iload 5, 2) := dk_21 5 (dk_at dksX12_asks_1 16 rfl rfl)
theorem dX12_asks_42 : decode cX12_asks 42 = .ok (.bipush 6, 2) := dk_16 6 (dk_at dksX12_asks_1 18 rfl rfl)
theorem dX12_asks_44 : decode cX12_asks 44 = .ok (.if_icmp .ge 34, 3) := dk_162 0 34 (dk_at dksX12_asks_1 20 rfl rfl)
theorem dX12_asks_47 : decode cX12_asks 47 = .ok (.aload_n 0, 1) := dk_42 (dk_at dksX12_asks_1 23 rfl rfl)
theorem dX12_asks_48 : decode cX12_asks 48 = .ok (.iload_n 1, 1) := dk_27 (dk_at dksX12_asks_2 0 rfl rfl)
theorem dX12_asks_49 : decode cX12_asks 49 = .ok (.iload 5, 2) := dk_21 5 (dk_at dksX12_asks_2 1 rfl rfl)
theorem dX12_asks_51 : decode cX12_asks 51 = .ok (.invokevirtual 485, 3) := dk_182 1 229 (dk_at dksX12_asks_2 3 rfl rfl)
theorem dX12_asks_54 : decode cX12_asks 54 = .ok (.lstore 6, 2) := dk_55 6 (dk_at dksX12_asks_2 6 rfl rfl)
theorem dX12_asks_56 : decode cX12_asks 56 = .ok (.lload 6, 2) := dk_22 6 (dk_at dksX12_asks_2 8 rfl rfl)
theorem dX12_asks_58 : decode cX12_asks 58 = .ok (.lload_n 3, 1) := dk_33 (dk_at dksX12_asks_2 10 rfl rfl)
theorem dX12_asks_59 : decode cX12_asks 59 = .ok (.lcmp, 1) := dk_148 (dk_at dksX12_asks_2 11 rfl rfl)
theorem dX12_asks_60 : decode cX12_asks 60 = .ok (.ifCond .gt 6, 3) := dk_157 0 6 (dk_at dksX12_asks_2 12 rfl rfl)
theorem dX12_asks_63 : decode cX12_asks 63 = .ok (.goto 9, 3) := dk_167 0 9 (dk_at dksX12_asks_2 15 rfl rfl)
theorem dX12_asks_66 : decode cX12_asks 66 = .ok (.iload 5, 2) := dk_21 5 (dk_at dksX12_asks_2 18 rfl rfl)
theorem dX12_asks_68 : decode cX12_asks 68 = .ok (.istore_n 2, 1) := dk_61 (dk_at dksX12_asks_2 20 rfl rfl)
theorem dX12_asks_69 : decode cX12_asks 69 = .ok (.lload 6, 2) := dk_22 6 (dk_at dksX12_asks_2 21 rfl rfl)
theorem dX12_asks_71 : decode cX12_asks 71 = .ok (.lstore_n 3, 1) := dk_66 (dk_at dksX12_asks_2 23 rfl rfl)
theorem dX12_asks_72 : decode cX12_asks 72 = .ok (.iinc 5 1, 3) := dk_132 5 1 (dk_at dksX12_asks_3 0 rfl rfl)
theorem dX12_asks_75 : decode cX12_asks 75 = .ok (.goto (-35), 3) := dk_167 255 221 (dk_at dksX12_asks_3 3 rfl rfl)
theorem dX12_asks_78 : decode cX12_asks 78 = .ok (.iload_n 2, 1) := dk_28 (dk_at dksX12_asks_3 6 rfl rfl)
theorem dX12_asks_79 : decode cX12_asks 79 = .ok (.ireturn, 1) := dk_172 (dk_at dksX12_asks_3 7 rfl rfl)
abbrev cX12_beside : ByteArray := prog_27_method_122_code
def yX12_beside : MethodName := ⟨RX12, "beside", "(I)J"⟩
def dkwX12_beside_2 : List UInt8 := [101, 173]
abbrev dktX12_beside_2 : List UInt8 := dkwX12_beside_2 ++ []
def dkwX12_beside_1 : List UInt8 := [42, 182, 1, 174, 42, 180, 0, 93, 27, 17, 15, 60, 104, 42, 182, 1, 161, 96, 47, 42, 27, 182, 1, 163]
abbrev dktX12_beside_1 : List UInt8 := dkwX12_beside_1 ++ dktX12_beside_2
def dkwX12_beside_0 : List UInt8 := [42, 3, 181, 0, 1, 42, 5, 182, 1, 75, 153, 0, 12, 42, 27, 4, 182, 1, 62, 154, 0, 5, 9, 173]
abbrev dktX12_beside_0 : List UInt8 := dkwX12_beside_0 ++ dktX12_beside_1
theorem dksX12_beside_0 : cX12_beside.data.toList.drop 0 = dktX12_beside_0 := by decide +kernel
theorem dksX12_beside_1 : cX12_beside.data.toList.drop 24 = dktX12_beside_1 := dk_seg dksX12_beside_0 24 rfl rfl
theorem dksX12_beside_2 : cX12_beside.data.toList.drop 48 = dktX12_beside_2 := dk_seg dksX12_beside_1 24 rfl rfl
theorem dX12_beside_0 : decode cX12_beside 0 = .ok (.aload_n 0, 1) := dk_42 (dk_at dksX12_beside_0 0 rfl rfl)
theorem dX12_beside_1 : decode cX12_beside 1 = .ok (.iconst 0, 1) := dk_3 (dk_at dksX12_beside_0 1 rfl rfl)
theorem dX12_beside_2 : decode cX12_beside 2 = .ok (.putfield 1, 3) := dk_181 0 1 (dk_at dksX12_beside_0 2 rfl rfl)
theorem dX12_beside_5 : decode cX12_beside 5 = .ok (.aload_n 0, 1) := dk_42 (dk_at dksX12_beside_0 5 rfl rfl)
theorem dX12_beside_6 : decode cX12_beside 6 = .ok (.iconst 2, 1) := dk_5 (dk_at dksX12_beside_0 6 rfl rfl)
theorem dX12_beside_7 : decode cX12_beside 7 = .ok (.invokevirtual 331, 3) := dk_182 1 75 (dk_at dksX12_beside_0 7 rfl rfl)
theorem dX12_beside_10 : decode cX12_beside 10 = .ok (.ifCond .eq 12, 3) := dk_153 0 12 (dk_at dksX12_beside_0 10 rfl rfl)
theorem dX12_beside_13 : decode cX12_beside 13 = .ok (.aload_n 0, 1) := dk_42 (dk_at dksX12_beside_0 13 rfl rfl)
theorem dX12_beside_14 : decode cX12_beside 14 = .ok (.iload_n 1, 1) := dk_27 (dk_at dksX12_beside_0 14 rfl rfl)
theorem dX12_beside_15 : decode cX12_beside 15 = .ok (.iconst 1, 1) := dk_4 (dk_at dksX12_beside_0 15 rfl rfl)
theorem dX12_beside_16 : decode cX12_beside 16 = .ok (.invokevirtual 318, 3) := dk_182 1 62 (dk_at dksX12_beside_0 16 rfl rfl)
theorem dX12_beside_19 : decode cX12_beside 19 = .ok (.ifCond .ne 5, 3) := dk_154 0 5 (dk_at dksX12_beside_0 19 rfl rfl)
theorem dX12_beside_22 : decode cX12_beside 22 = .ok (.lconst 0, 1) := dk_9 (dk_at dksX12_beside_0 22 rfl rfl)
theorem dX12_beside_23 : decode cX12_beside 23 = .ok (.lreturn, 1) := dk_173 (dk_at dksX12_beside_0 23 rfl rfl)
theorem dX12_beside_24 : decode cX12_beside 24 = .ok (.aload_n 0, 1) := dk_42 (dk_at dksX12_beside_1 0 rfl rfl)
theorem dX12_beside_25 : decode cX12_beside 25 = .ok (.invokevirtual 430, 3) := dk_182 1 174 (dk_at dksX12_beside_1 1 rfl rfl)
theorem dX12_beside_28 : decode cX12_beside 28 = .ok (.aload_n 0, 1) := dk_42 (dk_at dksX12_beside_1 4 rfl rfl)
theorem dX12_beside_29 : decode cX12_beside 29 = .ok (.getfield 93, 3) := dk_180 0 93 (dk_at dksX12_beside_1 5 rfl rfl)
theorem dX12_beside_32 : decode cX12_beside 32 = .ok (.iload_n 1, 1) := dk_27 (dk_at dksX12_beside_1 8 rfl rfl)
theorem dX12_beside_33 : decode cX12_beside 33 = .ok (.sipush 3900, 3) := dk_17 15 60 (dk_at dksX12_beside_1 9 rfl rfl)
theorem dX12_beside_36 : decode cX12_beside 36 = .ok (.imul, 1) := dk_104 (dk_at dksX12_beside_1 12 rfl rfl)
theorem dX12_beside_37 : decode cX12_beside 37 = .ok (.aload_n 0, 1) := dk_42 (dk_at dksX12_beside_1 13 rfl rfl)
theorem dX12_beside_38 : decode cX12_beside 38 = .ok (.invokevirtual 417, 3) := dk_182 1 161 (dk_at dksX12_beside_1 14 rfl rfl)
theorem dX12_beside_41 : decode cX12_beside 41 = .ok (.iadd, 1) := dk_96 (dk_at dksX12_beside_1 17 rfl rfl)
theorem dX12_beside_42 : decode cX12_beside 42 = .ok (.laload, 1) := dk_47 (dk_at dksX12_beside_1 18 rfl rfl)
theorem dX12_beside_43 : decode cX12_beside 43 = .ok (.aload_n 0, 1) := dk_42 (dk_at dksX12_beside_1 19 rfl rfl)
theorem dX12_beside_44 : decode cX12_beside 44 = .ok (.iload_n 1, 1) := dk_27 (dk_at dksX12_beside_1 20 rfl rfl)
theorem dX12_beside_45 : decode cX12_beside 45 = .ok (.invokevirtual 419, 3) := dk_182 1 163 (dk_at dksX12_beside_1 21 rfl rfl)
theorem dX12_beside_48 : decode cX12_beside 48 = .ok (.lsub, 1) := dk_101 (dk_at dksX12_beside_2 0 rfl rfl)
theorem dX12_beside_49 : decode cX12_beside 49 = .ok (.lreturn, 1) := dk_173 (dk_at dksX12_beside_2 1 rfl rfl)
abbrev cX12_pact : ByteArray := prog_27_method_124_code
def yX12_pact : MethodName := ⟨RX12, "pact", "(III)J"⟩
def dkwX12_pact_4 : List UInt8 := [101, 173]
abbrev dktX12_pact_4 : List UInt8 := dkwX12_pact_4 ++ []
def dkwX12_pact_3 : List UInt8 := [29, 154, 0, 7, 27, 167, 0, 4, 28, 54, 4, 42, 21, 4, 182, 1, 163, 42, 180, 0, 106, 21, 4, 47]
abbrev dktX12_pact_3 : List UInt8 := dkwX12_pact_3 ++ dktX12_pact_4
def dkwX12_pact_2 : List UInt8 := [167, 0, 4, 3, 5, 5, 182, 0, 226, 154, 0, 5, 9, 173, 42, 182, 1, 196, 42, 27, 28, 182, 1, 232]
abbrev dktX12_pact_2 : List UInt8 := dkwX12_pact_2 ++ dktX12_pact_3
def dkwX12_pact_1 : List UInt8 := [4, 182, 1, 62, 153, 0, 31, 42, 27, 28, 159, 0, 16, 29, 3, 4, 184, 1, 58, 153, 0, 7, 4]
abbrev dktX12_pact_1 : List UInt8 := dkwX12_pact_1 ++ dktX12_pact_2
def dkwX12_pact_0 : List UInt8 := [42, 3, 181, 0, 1, 42, 6, 182, 1, 75, 153, 0, 49, 42, 27, 4, 182, 1, 62, 153, 0, 40, 42, 28]
abbrev dktX12_pact_0 : List UInt8 := dkwX12_pact_0 ++ dktX12_pact_1
theorem dksX12_pact_0 : cX12_pact.data.toList.drop 0 = dktX12_pact_0 := by decide +kernel
theorem dksX12_pact_1 : cX12_pact.data.toList.drop 24 = dktX12_pact_1 := dk_seg dksX12_pact_0 24 rfl rfl
theorem dksX12_pact_2 : cX12_pact.data.toList.drop 47 = dktX12_pact_2 := dk_seg dksX12_pact_1 23 rfl rfl
theorem dksX12_pact_3 : cX12_pact.data.toList.drop 71 = dktX12_pact_3 := dk_seg dksX12_pact_2 24 rfl rfl
theorem dksX12_pact_4 : cX12_pact.data.toList.drop 95 = dktX12_pact_4 := dk_seg dksX12_pact_3 24 rfl rfl
theorem dX12_pact_0 : decode cX12_pact 0 = .ok (.aload_n 0, 1) := dk_42 (dk_at dksX12_pact_0 0 rfl rfl)
theorem dX12_pact_1 : decode cX12_pact 1 = .ok (.iconst 0, 1) := dk_3 (dk_at dksX12_pact_0 1 rfl rfl)
theorem dX12_pact_2 : decode cX12_pact 2 = .ok (.putfield 1, 3) := dk_181 0 1 (dk_at dksX12_pact_0 2 rfl rfl)
theorem dX12_pact_5 : decode cX12_pact 5 = .ok (.aload_n 0, 1) := dk_42 (dk_at dksX12_pact_0 5 rfl rfl)
theorem dX12_pact_6 : decode cX12_pact 6 = .ok (.iconst 3, 1) := dk_6 (dk_at dksX12_pact_0 6 rfl rfl)
theorem dX12_pact_7 : decode cX12_pact 7 = .ok (.invokevirtual 331, 3) := dk_182 1 75 (dk_at dksX12_pact_0 7 rfl rfl)
theorem dX12_pact_10 : decode cX12_pact 10 = .ok (.ifCond .eq 49, 3) := dk_153 0 49 (dk_at dksX12_pact_0 10 rfl rfl)
theorem dX12_pact_13 : decode cX12_pact 13 = .ok (.aload_n 0, 1) := dk_42 (dk_at dksX12_pact_0 13 rfl rfl)
theorem dX12_pact_14 : decode cX12_pact 14 = .ok (.iload_n 1, 1) := dk_27 (dk_at dksX12_pact_0 14 rfl rfl)
theorem dX12_pact_15 : decode cX12_pact 15 = .ok (.iconst 1, 1) := dk_4 (dk_at dksX12_pact_0 15 rfl rfl)
theorem dX12_pact_16 : decode cX12_pact 16 = .ok (.invokevirtual 318, 3) := dk_182 1 62 (dk_at dksX12_pact_0 16 rfl rfl)
theorem dX12_pact_19 : decode cX12_pact 19 = .ok (.ifCond .eq 40, 3) := dk_153 0 40 (dk_at dksX12_pact_0 19 rfl rfl)
theorem dX12_pact_22 : decode cX12_pact 22 = .ok (.aload_n 0, 1) := dk_42 (dk_at dksX12_pact_0 22 rfl rfl)
theorem dX12_pact_23 : decode cX12_pact 23 = .ok (.iload_n 2, 1) := dk_28 (dk_at dksX12_pact_0 23 rfl rfl)
theorem dX12_pact_24 : decode cX12_pact 24 = .ok (.iconst 1, 1) := dk_4 (dk_at dksX12_pact_1 0 rfl rfl)
theorem dX12_pact_25 : decode cX12_pact 25 = .ok (.invokevirtual 318, 3) := dk_182 1 62 (dk_at dksX12_pact_1 1 rfl rfl)
theorem dX12_pact_28 : decode cX12_pact 28 = .ok (.ifCond .eq 31, 3) := dk_153 0 31 (dk_at dksX12_pact_1 4 rfl rfl)
theorem dX12_pact_31 : decode cX12_pact 31 = .ok (.aload_n 0, 1) := dk_42 (dk_at dksX12_pact_1 7 rfl rfl)
theorem dX12_pact_32 : decode cX12_pact 32 = .ok (.iload_n 1, 1) := dk_27 (dk_at dksX12_pact_1 8 rfl rfl)
theorem dX12_pact_33 : decode cX12_pact 33 = .ok (.iload_n 2, 1) := dk_28 (dk_at dksX12_pact_1 9 rfl rfl)
theorem dX12_pact_34 : decode cX12_pact 34 = .ok (.if_icmp .eq 16, 3) := dk_159 0 16 (dk_at dksX12_pact_1 10 rfl rfl)
theorem dX12_pact_37 : decode cX12_pact 37 = .ok (.iload_n 3, 1) := dk_29 (dk_at dksX12_pact_1 13 rfl rfl)
theorem dX12_pact_38 : decode cX12_pact 38 = .ok (.iconst 0, 1) := dk_3 (dk_at dksX12_pact_1 14 rfl rfl)
theorem dX12_pact_39 : decode cX12_pact 39 = .ok (.iconst 1, 1) := dk_4 (dk_at dksX12_pact_1 15 rfl rfl)
theorem dX12_pact_40 : decode cX12_pact 40 = .ok (.invokestatic 314, 3) := dk_184 1 58 (dk_at dksX12_pact_1 16 rfl rfl)
theorem dX12_pact_43 : decode cX12_pact 43 = .ok (.ifCond .eq 7, 3) := dk_153 0 7 (dk_at dksX12_pact_1 19 rfl rfl)
theorem dX12_pact_46 : decode cX12_pact 46 = .ok (.iconst 1, 1) := dk_4 (dk_at dksX12_pact_1 22 rfl rfl)
theorem dX12_pact_47 : decode cX12_pact 47 = .ok (.goto 4, 3) := dk_167 0 4 (dk_at dksX12_pact_2 0 rfl rfl)
theorem dX12_pact_50 : decode cX12_pact 50 = .ok (.iconst 0, 1) := dk_3 (dk_at dksX12_pact_2 3 rfl rfl)
theorem dX12_pact_51 : decode cX12_pact 51 = .ok (.iconst 2, 1) := dk_5 (dk_at dksX12_pact_2 4 rfl rfl)
theorem dX12_pact_52 : decode cX12_pact 52 = .ok (.iconst 2, 1) := dk_5 (dk_at dksX12_pact_2 5 rfl rfl)
theorem dX12_pact_53 : decode cX12_pact 53 = .ok (.invokevirtual 226, 3) := dk_182 0 226 (dk_at dksX12_pact_2 6 rfl rfl)
theorem dX12_pact_56 : decode cX12_pact 56 = .ok (.ifCond .ne 5, 3) := dk_154 0 5 (dk_at dksX12_pact_2 9 rfl rfl)
theorem dX12_pact_59 : decode cX12_pact 59 = .ok (.lconst 0, 1) := dk_9 (dk_at dksX12_pact_2 12 rfl rfl)
theorem dX12_pact_60 : decode cX12_pact 60 = .ok (.lreturn, 1) := dk_173 (dk_at dksX12_pact_2 13 rfl rfl)
theorem dX12_pact_61 : decode cX12_pact 61 = .ok (.aload_n 0, 1) := dk_42 (dk_at dksX12_pact_2 14 rfl rfl)
theorem dX12_pact_62 : decode cX12_pact 62 = .ok (.invokevirtual 452, 3) := dk_182 1 196 (dk_at dksX12_pact_2 15 rfl rfl)
theorem dX12_pact_65 : decode cX12_pact 65 = .ok (.aload_n 0, 1) := dk_42 (dk_at dksX12_pact_2 18 rfl rfl)
theorem dX12_pact_66 : decode cX12_pact 66 = .ok (.iload_n 1, 1) := dk_27 (dk_at dksX12_pact_2 19 rfl rfl)
theorem dX12_pact_67 : decode cX12_pact 67 = .ok (.iload_n 2, 1) := dk_28 (dk_at dksX12_pact_2 20 rfl rfl)
theorem dX12_pact_68 : decode cX12_pact 68 = .ok (.invokevirtual 488, 3) := dk_182 1 232 (dk_at dksX12_pact_2 21 rfl rfl)
theorem dX12_pact_71 : decode cX12_pact 71 = .ok (.iload_n 3, 1) := dk_29 (dk_at dksX12_pact_3 0 rfl rfl)
theorem dX12_pact_72 : decode cX12_pact 72 = .ok (.ifCond .ne 7, 3) := dk_154 0 7 (dk_at dksX12_pact_3 1 rfl rfl)
theorem dX12_pact_75 : decode cX12_pact 75 = .ok (.iload_n 1, 1) := dk_27 (dk_at dksX12_pact_3 4 rfl rfl)
theorem dX12_pact_76 : decode cX12_pact 76 = .ok (.goto 4, 3) := dk_167 0 4 (dk_at dksX12_pact_3 5 rfl rfl)
theorem dX12_pact_79 : decode cX12_pact 79 = .ok (.iload_n 2, 1) := dk_28 (dk_at dksX12_pact_3 8 rfl rfl)
theorem dX12_pact_80 : decode cX12_pact 80 = .ok (.istore 4, 2) := dk_54 4 (dk_at dksX12_pact_3 9 rfl rfl)
theorem dX12_pact_82 : decode cX12_pact 82 = .ok (.aload_n 0, 1) := dk_42 (dk_at dksX12_pact_3 11 rfl rfl)
theorem dX12_pact_83 : decode cX12_pact 83 = .ok (.iload 4, 2) := dk_21 4 (dk_at dksX12_pact_3 12 rfl rfl)
theorem dX12_pact_85 : decode cX12_pact 85 = .ok (.invokevirtual 419, 3) := dk_182 1 163 (dk_at dksX12_pact_3 14 rfl rfl)
theorem dX12_pact_88 : decode cX12_pact 88 = .ok (.aload_n 0, 1) := dk_42 (dk_at dksX12_pact_3 17 rfl rfl)
theorem dX12_pact_89 : decode cX12_pact 89 = .ok (.getfield 106, 3) := dk_180 0 106 (dk_at dksX12_pact_3 18 rfl rfl)
theorem dX12_pact_92 : decode cX12_pact 92 = .ok (.iload 4, 2) := dk_21 4 (dk_at dksX12_pact_3 21 rfl rfl)
theorem dX12_pact_94 : decode cX12_pact 94 = .ok (.laload, 1) := dk_47 (dk_at dksX12_pact_3 23 rfl rfl)
theorem dX12_pact_95 : decode cX12_pact 95 = .ok (.lsub, 1) := dk_101 (dk_at dksX12_pact_4 0 rfl rfl)
theorem dX12_pact_96 : decode cX12_pact 96 = .ok (.lreturn, 1) := dk_173 (dk_at dksX12_pact_4 1 rfl rfl)
abbrev cX12_agree : ByteArray := prog_27_method_123_code
def yX12_agree : MethodName := ⟨RX12, "agree", "(II)V"⟩
def dkwX12_agree_1 : List UInt8 := [177]
abbrev dktX12_agree_1 : List UInt8 := dkwX12_agree_1 ++ []
def dkwX12_agree_0 : List UInt8 := [42, 27, 181, 0, 74, 42, 28, 181, 0, 77, 42, 182, 1, 158, 42, 2, 181, 0, 74, 42, 2, 181, 0, 77]
abbrev dktX12_agree_0 : List UInt8 := dkwX12_agree_0 ++ dktX12_agree_1
theorem dksX12_agree_0 : cX12_agree.data.toList.drop 0 = dktX12_agree_0 := by decide +kernel
theorem dksX12_agree_1 : cX12_agree.data.toList.drop 24 = dktX12_agree_1 := dk_seg dksX12_agree_0 24 rfl rfl
theorem dX12_agree_0 : decode cX12_agree 0 = .ok (.aload_n 0, 1) := dk_42 (dk_at dksX12_agree_0 0 rfl rfl)
theorem dX12_agree_1 : decode cX12_agree 1 = .ok (.iload_n 1, 1) := dk_27 (dk_at dksX12_agree_0 1 rfl rfl)
theorem dX12_agree_2 : decode cX12_agree 2 = .ok (.putfield 74, 3) := dk_181 0 74 (dk_at dksX12_agree_0 2 rfl rfl)
theorem dX12_agree_5 : decode cX12_agree 5 = .ok (.aload_n 0, 1) := dk_42 (dk_at dksX12_agree_0 5 rfl rfl)
theorem dX12_agree_6 : decode cX12_agree 6 = .ok (.iload_n 2, 1) := dk_28 (dk_at dksX12_agree_0 6 rfl rfl)
theorem dX12_agree_7 : decode cX12_agree 7 = .ok (.putfield 77, 3) := dk_181 0 77 (dk_at dksX12_agree_0 7 rfl rfl)
theorem dX12_agree_10 : decode cX12_agree 10 = .ok (.aload_n 0, 1) := dk_42 (dk_at dksX12_agree_0 10 rfl rfl)
theorem dX12_agree_11 : decode cX12_agree 11 = .ok (.invokevirtual 414, 3) := dk_182 1 158 (dk_at dksX12_agree_0 11 rfl rfl)
theorem dX12_agree_14 : decode cX12_agree 14 = .ok (.aload_n 0, 1) := dk_42 (dk_at dksX12_agree_0 14 rfl rfl)
theorem dX12_agree_15 : decode cX12_agree 15 = .ok (.iconst (-1), 1) := dk_2 (dk_at dksX12_agree_0 15 rfl rfl)
theorem dX12_agree_16 : decode cX12_agree 16 = .ok (.putfield 74, 3) := dk_181 0 74 (dk_at dksX12_agree_0 16 rfl rfl)
theorem dX12_agree_19 : decode cX12_agree 19 = .ok (.aload_n 0, 1) := dk_42 (dk_at dksX12_agree_0 19 rfl rfl)
theorem dX12_agree_20 : decode cX12_agree 20 = .ok (.iconst (-1), 1) := dk_2 (dk_at dksX12_agree_0 20 rfl rfl)
theorem dX12_agree_21 : decode cX12_agree 21 = .ok (.putfield 77, 3) := dk_181 0 77 (dk_at dksX12_agree_0 21 rfl rfl)
theorem dX12_agree_24 : decode cX12_agree 24 = .ok (.return_, 1) := dk_177 (dk_at dksX12_agree_1 0 rfl rfl)
abbrev cX12_holds_2 : ByteArray := prog_27_method_125_code
def yX12_holds_2 : MethodName := ⟨RX12, "holds", "()I"⟩
def dkwX12_holds_2_4 : List UInt8 := [132, 1, 1, 167, 255, 180, 2, 172]
abbrev dktX12_holds_2_4 : List UInt8 := dkwX12_holds_2_4 ++ []
def dkwX12_holds_2_3 : List UInt8 := [42, 180, 0, 106, 28, 47, 148, 158, 0, 10, 16, 10, 27, 104, 28, 96, 172, 132, 2, 1, 167, 255, 200]
abbrev dktX12_holds_2_3 : List UInt8 := dkwX12_holds_2_3 ++ dktX12_holds_2_4
def dkwX12_holds_2_2 : List UInt8 := [28, 182, 1, 232, 42, 27, 182, 1, 163, 42, 180, 0, 106, 27, 47, 148, 158, 0, 25, 42, 28, 182, 1, 163]
abbrev dktX12_holds_2_2 : List UInt8 := dkwX12_holds_2_2 ++ dktX12_holds_2_3
def dkwX12_holds_2_1 : List UInt8 := [180, 0, 23, 5, 46, 162, 0, 72, 27, 4, 96, 61, 28, 42, 180, 0, 23, 5, 46, 162, 0, 52, 42, 27]
abbrev dktX12_holds_2_1 : List UInt8 := dkwX12_holds_2_1 ++ dktX12_holds_2_2
def dkwX12_holds_2_0 : List UInt8 := [42, 3, 181, 0, 1, 42, 4, 182, 1, 75, 154, 0, 5, 3, 172, 42, 182, 1, 196, 3, 60, 27, 42]
abbrev dktX12_holds_2_0 : List UInt8 := dkwX12_holds_2_0 ++ dktX12_holds_2_1
theorem dksX12_holds_2_0 : cX12_holds_2.data.toList.drop 0 = dktX12_holds_2_0 := by decide +kernel
theorem dksX12_holds_2_1 : cX12_holds_2.data.toList.drop 23 = dktX12_holds_2_1 := dk_seg dksX12_holds_2_0 23 rfl rfl
theorem dksX12_holds_2_2 : cX12_holds_2.data.toList.drop 47 = dktX12_holds_2_2 := dk_seg dksX12_holds_2_1 24 rfl rfl
theorem dksX12_holds_2_3 : cX12_holds_2.data.toList.drop 71 = dktX12_holds_2_3 := dk_seg dksX12_holds_2_2 24 rfl rfl
theorem dksX12_holds_2_4 : cX12_holds_2.data.toList.drop 94 = dktX12_holds_2_4 := dk_seg dksX12_holds_2_3 23 rfl rfl
theorem dX12_holds_2_0 : decode cX12_holds_2 0 = .ok (.aload_n 0, 1) := dk_42 (dk_at dksX12_holds_2_0 0 rfl rfl)
theorem dX12_holds_2_1 : decode cX12_holds_2 1 = .ok (.iconst 0, 1) := dk_3 (dk_at dksX12_holds_2_0 1 rfl rfl)
theorem dX12_holds_2_2 : decode cX12_holds_2 2 = .ok (.putfield 1, 3) := dk_181 0 1 (dk_at dksX12_holds_2_0 2 rfl rfl)
theorem dX12_holds_2_5 : decode cX12_holds_2 5 = .ok (.aload_n 0, 1) := dk_42 (dk_at dksX12_holds_2_0 5 rfl rfl)
theorem dX12_holds_2_6 : decode cX12_holds_2 6 = .ok (.iconst 1, 1) := dk_4 (dk_at dksX12_holds_2_0 6 rfl rfl)
theorem dX12_holds_2_7 : decode cX12_holds_2 7 = .ok (.invokevirtual 331, 3) := dk_182 1 75 (dk_at dksX12_holds_2_0 7 rfl rfl)
theorem dX12_holds_2_10 : decode cX12_holds_2 10 = .ok (.ifCond .ne 5, 3) := dk_154 0 5 (dk_at dksX12_holds_2_0 10 rfl rfl)
theorem dX12_holds_2_13 : decode cX12_holds_2 13 = .ok (.iconst 0, 1) := dk_3 (dk_at dksX12_holds_2_0 13 rfl rfl)
theorem dX12_holds_2_14 : decode cX12_holds_2 14 = .ok (.ireturn, 1) := dk_172 (dk_at dksX12_holds_2_0 14 rfl rfl)
theorem dX12_holds_2_15 : decode cX12_holds_2 15 = .ok (.aload_n 0, 1) := dk_42 (dk_at dksX12_holds_2_0 15 rfl rfl)
theorem dX12_holds_2_16 : decode cX12_holds_2 16 = .ok (.invokevirtual 452, 3) := dk_182 1 196 (dk_at dksX12_holds_2_0 16 rfl rfl)
theorem dX12_holds_2_19 : decode cX12_holds_2 19 = .ok (.iconst 0, 1) := dk_3 (dk_at dksX12_holds_2_0 19 rfl rfl)
theorem dX12_holds_2_20 : decode cX12_holds_2 20 = .ok (.istore_n 1, 1) := dk_60 (dk_at dksX12_holds_2_0 20 rfl rfl)
theorem dX12_holds_2_21 : decode cX12_holds_2 21 = .ok (.iload_n 1, 1) := dk_27 (dk_at dksX12_holds_2_0 21 rfl rfl)
theorem dX12_holds_2_22 : decode cX12_holds_2 22 = .ok (.aload_n 0, 1) := dk_42 (dk_at dksX12_holds_2_0 22 rfl rfl)
theorem dX12_holds_2_23 : decode cX12_holds_2 23 = .ok (.getfield 23, 3) := dk_180 0 23 (dk_at dksX12_holds_2_1 0 rfl rfl)
theorem dX12_holds_2_26 : decode cX12_holds_2 26 = .ok (.iconst 2, 1) := dk_5 (dk_at dksX12_holds_2_1 3 rfl rfl)
theorem dX12_holds_2_27 : decode cX12_holds_2 27 = .ok (.iaload, 1) := dk_46 (dk_at dksX12_holds_2_1 4 rfl rfl)
theorem dX12_holds_2_28 : decode cX12_holds_2 28 = .ok (.if_icmp .ge 72, 3) := dk_162 0 72 (dk_at dksX12_holds_2_1 5 rfl rfl)
theorem dX12_holds_2_31 : decode cX12_holds_2 31 = .ok (.iload_n 1, 1) := dk_27 (dk_at dksX12_holds_2_1 8 rfl rfl)
theorem dX12_holds_2_32 : decode cX12_holds_2 32 = .ok (.iconst 1, 1) := dk_4 (dk_at dksX12_holds_2_1 9 rfl rfl)
theorem dX12_holds_2_33 : decode cX12_holds_2 33 = .ok (.iadd, 1) := dk_96 (dk_at dksX12_holds_2_1 10 rfl rfl)
theorem dX12_holds_2_34 : decode cX12_holds_2 34 = .ok (.istore_n 2, 1) := dk_61 (dk_at dksX12_holds_2_1 11 rfl rfl)
theorem dX12_holds_2_35 : decode cX12_holds_2 35 = .ok (.iload_n 2, 1) := dk_28 (dk_at dksX12_holds_2_1 12 rfl rfl)
theorem dX12_holds_2_36 : decode cX12_holds_2 36 = .ok (.aload_n 0, 1) := dk_42 (dk_at dksX12_holds_2_1 13 rfl rfl)
theorem dX12_holds_2_37 : decode cX12_holds_2 37 = .ok (.getfield 23, 3) := dk_180 0 23 (dk_at dksX12_holds_2_1 14 rfl rfl)
theorem dX12_holds_2_40 : decode cX12_holds_2 40 = .ok (.iconst 2, 1) := dk_5 (dk_at dksX12_holds_2_1 17 rfl rfl)
theorem dX12_holds_2_41 : decode cX12_holds_2 41 = .ok (.iaload, 1) := dk_46 (dk_at dksX12_holds_2_1 18 rfl rfl)
theorem dX12_holds_2_42 : decode cX12_holds_2 42 = .ok (.if_icmp .ge 52, 3) := dk_162 0 52 (dk_at dksX12_holds_2_1 19 rfl rfl)
theorem dX12_holds_2_45 : decode cX12_holds_2 45 = .ok (.aload_n 0, 1) := dk_42 (dk_at dksX12_holds_2_1 22 rfl rfl)
theorem dX12_holds_2_46 : decode cX12_holds_2 46 = .ok (.iload_n 1, 1) := dk_27 (dk_at dksX12_holds_2_1 23 rfl rfl)
theorem dX12_holds_2_47 : decode cX12_holds_2 47 = .ok (.iload_n 2, 1) := dk_28 (dk_at dksX12_holds_2_2 0 rfl rfl)
theorem dX12_holds_2_48 : decode cX12_holds_2 48 = .ok (.invokevirtual 488, 3) := dk_182 1 232 (dk_at dksX12_holds_2_2 1 rfl rfl)
theorem dX12_holds_2_51 : decode cX12_holds_2 51 = .ok (.aload_n 0, 1) := dk_42 (dk_at dksX12_holds_2_2 4 rfl rfl)
theorem dX12_holds_2_52 : decode cX12_holds_2 52 = .ok (.iload_n 1, 1) := dk_27 (dk_at dksX12_holds_2_2 5 rfl rfl)
theorem dX12_holds_2_53 : decode cX12_holds_2 53 = .ok (.invokevirtual 419, 3) := dk_182 1 163 (dk_at dksX12_holds_2_2 6 rfl rfl)
theorem dX12_holds_2_56 : decode cX12_holds_2 56 = .ok (.aload_n 0, 1) := dk_42 (dk_at dksX12_holds_2_2 9 rfl rfl)
theorem dX12_holds_2_57 : decode cX12_holds_2 57 = .ok (.getfield 106, 3) := dk_180 0 106 (dk_at dksX12_holds_2_2 10 rfl rfl)
theorem dX12_holds_2_60 : decode cX12_holds_2 60 = .ok (.iload_n 1, 1) := dk_27 (dk_at dksX12_holds_2_2 13 rfl rfl)
theorem dX12_holds_2_61 : decode cX12_holds_2 61 = .ok (.laload, 1) := dk_47 (dk_at dksX12_holds_2_2 14 rfl rfl)
theorem dX12_holds_2_62 : decode cX12_holds_2 62 = .ok (.lcmp, 1) := dk_148 (dk_at dksX12_holds_2_2 15 rfl rfl)
theorem dX12_holds_2_63 : decode cX12_holds_2 63 = .ok (.ifCond .le 25, 3) := dk_158 0 25 (dk_at dksX12_holds_2_2 16 rfl rfl)
theorem dX12_holds_2_66 : decode cX12_holds_2 66 = .ok (.aload_n 0, 1) := dk_42 (dk_at dksX12_holds_2_2 19 rfl rfl)
theorem dX12_holds_2_67 : decode cX12_holds_2 67 = .ok (.iload_n 2, 1) := dk_28 (dk_at dksX12_holds_2_2 20 rfl rfl)
theorem dX12_holds_2_68 : decode cX12_holds_2 68 = .ok (.invokevirtual 419, 3) := dk_182 1 163 (dk_at dksX12_holds_2_2 21 rfl rfl)
theorem dX12_holds_2_71 : decode cX12_holds_2 71 = .ok (.aload_n 0, 1) := dk_42 (dk_at dksX12_holds_2_3 0 rfl rfl)
theorem dX12_holds_2_72 : decode cX12_holds_2 72 = .ok (.getfield 106, 3) := dk_180 0 106 (dk_at dksX12_holds_2_3 1 rfl rfl)
theorem dX12_holds_2_75 : decode cX12_holds_2 75 = .ok (.iload_n 2, 1) := dk_28 (dk_at dksX12_holds_2_3 4 rfl rfl)
theorem dX12_holds_2_76 : decode cX12_holds_2 76 = .ok (.laload, 1) := dk_47 (dk_at dksX12_holds_2_3 5 rfl rfl)
theorem dX12_holds_2_77 : decode cX12_holds_2 77 = .ok (.lcmp, 1) := dk_148 (dk_at dksX12_holds_2_3 6 rfl rfl)
theorem dX12_holds_2_78 : decode cX12_holds_2 78 = .ok (.ifCond .le 10, 3) := dk_158 0 10 (dk_at dksX12_holds_2_3 7 rfl rfl)
theorem dX12_holds_2_81 : decode cX12_holds_2 81 = .ok (.bipush 10, 2) := dk_16 10 (dk_at dksX12_holds_2_3 10 rfl rfl)
theorem dX12_holds_2_83 : decode cX12_holds_2 83 = .ok (.iload_n 1, 1) := dk_27 (dk_at dksX12_holds_2_3 12 rfl rfl)
theorem dX12_holds_2_84 : decode cX12_holds_2 84 = .ok (.imul, 1) := dk_104 (dk_at dksX12_holds_2_3 13 rfl rfl)
theorem dX12_holds_2_85 : decode cX12_holds_2 85 = .ok (.iload_n 2, 1) := dk_28 (dk_at dksX12_holds_2_3 14 rfl rfl)
theorem dX12_holds_2_86 : decode cX12_holds_2 86 = .ok (.iadd, 1) := dk_96 (dk_at dksX12_holds_2_3 15 rfl rfl)
theorem dX12_holds_2_87 : decode cX12_holds_2 87 = .ok (.ireturn, 1) := dk_172 (dk_at dksX12_holds_2_3 16 rfl rfl)
theorem dX12_holds_2_88 : decode cX12_holds_2 88 = .ok (.iinc 2 1, 3) := dk_132 2 1 (dk_at dksX12_holds_2_3 17 rfl rfl)
theorem dX12_holds_2_91 : decode cX12_holds_2 91 = .ok (.goto (-56), 3) := dk_167 255 200 (dk_at dksX12_holds_2_3 20 rfl rfl)
theorem dX12_holds_2_94 : decode cX12_holds_2 94 = .ok (.iinc 1 1, 3) := dk_132 1 1 (dk_at dksX12_holds_2_4 0 rfl rfl)
theorem dX12_holds_2_97 : decode cX12_holds_2 97 = .ok (.goto (-76), 3) := dk_167 255 180 (dk_at dksX12_holds_2_4 3 rfl rfl)
theorem dX12_holds_2_100 : decode cX12_holds_2 100 = .ok (.iconst (-1), 1) := dk_2 (dk_at dksX12_holds_2_4 6 rfl rfl)
theorem dX12_holds_2_101 : decode cX12_holds_2 101 = .ok (.ireturn, 1) := dk_172 (dk_at dksX12_holds_2_4 7 rfl rfl)
abbrev cX12_vote : ByteArray := prog_27_method_126_code
def yX12_vote : MethodName := ⟨RX12, "vote", "()J"⟩
def dkwX12_vote_1 : List UInt8 := [42, 182, 1, 158, 42, 3, 181, 1, 132, 42, 182, 1, 167, 173]
abbrev dktX12_vote_1 : List UInt8 := dkwX12_vote_1 ++ []
def dkwX12_vote_0 : List UInt8 := [42, 3, 181, 0, 1, 42, 4, 182, 1, 75, 154, 0, 5, 9, 173, 42, 182, 1, 155, 42, 4, 181, 1, 132]
abbrev dktX12_vote_0 : List UInt8 := dkwX12_vote_0 ++ dktX12_vote_1
theorem dksX12_vote_0 : cX12_vote.data.toList.drop 0 = dktX12_vote_0 := by decide +kernel
theorem dksX12_vote_1 : cX12_vote.data.toList.drop 24 = dktX12_vote_1 := dk_seg dksX12_vote_0 24 rfl rfl
theorem dX12_vote_0 : decode cX12_vote 0 = .ok (.aload_n 0, 1) := dk_42 (dk_at dksX12_vote_0 0 rfl rfl)
theorem dX12_vote_1 : decode cX12_vote 1 = .ok (.iconst 0, 1) := dk_3 (dk_at dksX12_vote_0 1 rfl rfl)
theorem dX12_vote_2 : decode cX12_vote 2 = .ok (.putfield 1, 3) := dk_181 0 1 (dk_at dksX12_vote_0 2 rfl rfl)
theorem dX12_vote_5 : decode cX12_vote 5 = .ok (.aload_n 0, 1) := dk_42 (dk_at dksX12_vote_0 5 rfl rfl)
theorem dX12_vote_6 : decode cX12_vote 6 = .ok (.iconst 1, 1) := dk_4 (dk_at dksX12_vote_0 6 rfl rfl)
theorem dX12_vote_7 : decode cX12_vote 7 = .ok (.invokevirtual 331, 3) := dk_182 1 75 (dk_at dksX12_vote_0 7 rfl rfl)
theorem dX12_vote_10 : decode cX12_vote 10 = .ok (.ifCond .ne 5, 3) := dk_154 0 5 (dk_at dksX12_vote_0 10 rfl rfl)
theorem dX12_vote_13 : decode cX12_vote 13 = .ok (.lconst 0, 1) := dk_9 (dk_at dksX12_vote_0 13 rfl rfl)
theorem dX12_vote_14 : decode cX12_vote 14 = .ok (.lreturn, 1) := dk_173 (dk_at dksX12_vote_0 14 rfl rfl)
theorem dX12_vote_15 : decode cX12_vote 15 = .ok (.aload_n 0, 1) := dk_42 (dk_at dksX12_vote_0 15 rfl rfl)
theorem dX12_vote_16 : decode cX12_vote 16 = .ok (.invokevirtual 411, 3) := dk_182 1 155 (dk_at dksX12_vote_0 16 rfl rfl)
theorem dX12_vote_19 : decode cX12_vote 19 = .ok (.aload_n 0, 1) := dk_42 (dk_at dksX12_vote_0 19 rfl rfl)
theorem dX12_vote_20 : decode cX12_vote 20 = .ok (.iconst 1, 1) := dk_4 (dk_at dksX12_vote_0 20 rfl rfl)
theorem dX12_vote_21 : decode cX12_vote 21 = .ok (.putfield 388, 3) := dk_181 1 132 (dk_at dksX12_vote_0 21 rfl rfl)
theorem dX12_vote_24 : decode cX12_vote 24 = .ok (.aload_n 0, 1) := dk_42 (dk_at dksX12_vote_1 0 rfl rfl)
theorem dX12_vote_25 : decode cX12_vote 25 = .ok (.invokevirtual 414, 3) := dk_182 1 158 (dk_at dksX12_vote_1 1 rfl rfl)
theorem dX12_vote_28 : decode cX12_vote 28 = .ok (.aload_n 0, 1) := dk_42 (dk_at dksX12_vote_1 4 rfl rfl)
theorem dX12_vote_29 : decode cX12_vote 29 = .ok (.iconst 0, 1) := dk_3 (dk_at dksX12_vote_1 5 rfl rfl)
theorem dX12_vote_30 : decode cX12_vote 30 = .ok (.putfield 388, 3) := dk_181 1 132 (dk_at dksX12_vote_1 6 rfl rfl)
theorem dX12_vote_33 : decode cX12_vote 33 = .ok (.aload_n 0, 1) := dk_42 (dk_at dksX12_vote_1 9 rfl rfl)
theorem dX12_vote_34 : decode cX12_vote 34 = .ok (.invokevirtual 423, 3) := dk_182 1 167 (dk_at dksX12_vote_1 10 rfl rfl)
theorem dX12_vote_37 : decode cX12_vote 37 = .ok (.lreturn, 1) := dk_173 (dk_at dksX12_vote_1 13 rfl rfl)
abbrev cX12_without : ByteArray := prog_27_method_127_code
def yX12_without : MethodName := ⟨RX12, "without", "(II)J"⟩
def dkwX12_without_3 : List UInt8 := [42, 3, 181, 1, 55, 42, 28, 182, 1, 202, 33, 101, 173]
abbrev dktX12_without_3 : List UInt8 := dkwX12_without_3 ++ []
def dkwX12_without_2 : List UInt8 := [42, 28, 182, 1, 202, 66, 42, 27, 181, 0, 71, 42, 182, 1, 152, 42, 182, 1, 158, 42, 2, 181, 0, 71]
abbrev dktX12_without_2 : List UInt8 := dkwX12_without_2 ++ dktX12_without_3
def dkwX12_without_1 : List UInt8 := [3, 42, 180, 1, 0, 4, 100, 184, 1, 58, 5, 4, 182, 0, 226, 154, 0, 5, 9, 173, 42, 182, 1, 174]
abbrev dktX12_without_1 : List UInt8 := dkwX12_without_1 ++ dktX12_without_2
def dkwX12_without_0 : List UInt8 := [42, 3, 181, 0, 1, 42, 6, 182, 1, 75, 153, 0, 32, 42, 28, 4, 182, 1, 72, 153, 0, 23, 42, 27]
abbrev dktX12_without_0 : List UInt8 := dkwX12_without_0 ++ dktX12_without_1
theorem dksX12_without_0 : cX12_without.data.toList.drop 0 = dktX12_without_0 := by decide +kernel
theorem dksX12_without_1 : cX12_without.data.toList.drop 24 = dktX12_without_1 := dk_seg dksX12_without_0 24 rfl rfl
theorem dksX12_without_2 : cX12_without.data.toList.drop 48 = dktX12_without_2 := dk_seg dksX12_without_1 24 rfl rfl
theorem dksX12_without_3 : cX12_without.data.toList.drop 72 = dktX12_without_3 := dk_seg dksX12_without_2 24 rfl rfl
theorem dX12_without_0 : decode cX12_without 0 = .ok (.aload_n 0, 1) := dk_42 (dk_at dksX12_without_0 0 rfl rfl)
theorem dX12_without_1 : decode cX12_without 1 = .ok (.iconst 0, 1) := dk_3 (dk_at dksX12_without_0 1 rfl rfl)
theorem dX12_without_2 : decode cX12_without 2 = .ok (.putfield 1, 3) := dk_181 0 1 (dk_at dksX12_without_0 2 rfl rfl)
theorem dX12_without_5 : decode cX12_without 5 = .ok (.aload_n 0, 1) := dk_42 (dk_at dksX12_without_0 5 rfl rfl)
theorem dX12_without_6 : decode cX12_without 6 = .ok (.iconst 3, 1) := dk_6 (dk_at dksX12_without_0 6 rfl rfl)
theorem dX12_without_7 : decode cX12_without 7 = .ok (.invokevirtual 331, 3) := dk_182 1 75 (dk_at dksX12_without_0 7 rfl rfl)
theorem dX12_without_10 : decode cX12_without 10 = .ok (.ifCond .eq 32, 3) := dk_153 0 32 (dk_at dksX12_without_0 10 rfl rfl)
theorem dX12_without_13 : decode cX12_without 13 = .ok (.aload_n 0, 1) := dk_42 (dk_at dksX12_without_0 13 rfl rfl)
theorem dX12_without_14 : decode cX12_without 14 = .ok (.iload_n 2, 1) := dk_28 (dk_at dksX12_without_0 14 rfl rfl)
theorem dX12_without_15 : decode cX12_without 15 = .ok (.iconst 1, 1) := dk_4 (dk_at dksX12_without_0 15 rfl rfl)
theorem dX12_without_16 : decode cX12_without 16 = .ok (.invokevirtual 328, 3) := dk_182 1 72 (dk_at dksX12_without_0 16 rfl rfl)
theorem dX12_without_19 : decode cX12_without 19 = .ok (.ifCond .eq 23, 3) := dk_153 0 23 (dk_at dksX12_without_0 19 rfl rfl)
theorem dX12_without_22 : decode cX12_without 22 = .ok (.aload_n 0, 1) := dk_42 (dk_at dksX12_without_0 22 rfl rfl)
theorem dX12_without_23 : decode cX12_without 23 = .ok (.iload_n 1, 1) := dk_27 (dk_at dksX12_without_0 23 rfl rfl)
theorem dX12_without_24 : decode cX12_without 24 = .ok (.iconst 0, 1) := dk_3 (dk_at dksX12_without_1 0 rfl rfl)
theorem dX12_without_25 : decode cX12_without 25 = .ok (.aload_n 0, 1) := dk_42 (dk_at dksX12_without_1 1 rfl rfl)
theorem dX12_without_26 : decode cX12_without 26 = .ok (.getfield 256, 3) := dk_180 1 0 (dk_at dksX12_without_1 2 rfl rfl)
theorem dX12_without_29 : decode cX12_without 29 = .ok (.iconst 1, 1) := dk_4 (dk_at dksX12_without_1 5 rfl rfl)
theorem dX12_without_30 : decode cX12_without 30 = .ok (.isub, 1) := dk_100 (dk_at dksX12_without_1 6 rfl rfl)
theorem dX12_without_31 : decode cX12_without 31 = .ok (.invokestatic 314, 3) := dk_184 1 58 (dk_at dksX12_without_1 7 rfl rfl)
theorem dX12_without_34 : decode cX12_without 34 = .ok (.iconst 2, 1) := dk_5 (dk_at dksX12_without_1 10 rfl rfl)
theorem dX12_without_35 : decode cX12_without 35 = .ok (.iconst 1, 1) := dk_4 (dk_at dksX12_without_1 11 rfl rfl)
theorem dX12_without_36 : decode cX12_without 36 = .ok (.invokevirtual 226, 3) := dk_182 0 226 (dk_at dksX12_without_1 12 rfl rfl)
theorem dX12_without_39 : decode cX12_without 39 = .ok (.ifCond .ne 5, 3) := dk_154 0 5 (dk_at dksX12_without_1 15 rfl rfl)
theorem dX12_without_42 : decode cX12_without 42 = .ok (.lconst 0, 1) := dk_9 (dk_at dksX12_without_1 18 rfl rfl)
theorem dX12_without_43 : decode cX12_without 43 = .ok (.lreturn, 1) := dk_173 (dk_at dksX12_without_1 19 rfl rfl)
theorem dX12_without_44 : decode cX12_without 44 = .ok (.aload_n 0, 1) := dk_42 (dk_at dksX12_without_1 20 rfl rfl)
theorem dX12_without_45 : decode cX12_without 45 = .ok (.invokevirtual 430, 3) := dk_182 1 174 (dk_at dksX12_without_1 21 rfl rfl)
theorem dX12_without_48 : decode cX12_without 48 = .ok (.aload_n 0, 1) := dk_42 (dk_at dksX12_without_2 0 rfl rfl)
theorem dX12_without_49 : decode cX12_without 49 = .ok (.iload_n 2, 1) := dk_28 (dk_at dksX12_without_2 1 rfl rfl)
theorem dX12_without_50 : decode cX12_without 50 = .ok (.invokevirtual 458, 3) := dk_182 1 202 (dk_at dksX12_without_2 2 rfl rfl)
theorem dX12_without_53 : decode cX12_without 53 = .ok (.lstore_n 3, 1) := dk_66 (dk_at dksX12_without_2 5 rfl rfl)
theorem dX12_without_54 : decode cX12_without 54 = .ok (.aload_n 0, 1) := dk_42 (dk_at dksX12_without_2 6 rfl rfl)
theorem dX12_without_55 : decode cX12_without 55 = .ok (.iload_n 1, 1) := dk_27 (dk_at dksX12_without_2 7 rfl rfl)
theorem dX12_without_56 : decode cX12_without 56 = .ok (.putfield 71, 3) := dk_181 0 71 (dk_at dksX12_without_2 8 rfl rfl)
theorem dX12_without_59 : decode cX12_without 59 = .ok (.aload_n 0, 1) := dk_42 (dk_at dksX12_without_2 11 rfl rfl)
theorem dX12_without_60 : decode cX12_without 60 = .ok (.invokevirtual 408, 3) := dk_182 1 152 (dk_at dksX12_without_2 12 rfl rfl)
theorem dX12_without_63 : decode cX12_without 63 = .ok (.aload_n 0, 1) := dk_42 (dk_at dksX12_without_2 15 rfl rfl)
theorem dX12_without_64 : decode cX12_without 64 = .ok (.invokevirtual 414, 3) := dk_182 1 158 (dk_at dksX12_without_2 16 rfl rfl)
theorem dX12_without_67 : decode cX12_without 67 = .ok (.aload_n 0, 1) := dk_42 (dk_at dksX12_without_2 19 rfl rfl)
theorem dX12_without_68 : decode cX12_without 68 = .ok (.iconst (-1), 1) := dk_2 (dk_at dksX12_without_2 20 rfl rfl)
theorem dX12_without_69 : decode cX12_without 69 = .ok (.putfield 71, 3) := dk_181 0 71 (dk_at dksX12_without_2 21 rfl rfl)
theorem dX12_without_72 : decode cX12_without 72 = .ok (.aload_n 0, 1) := dk_42 (dk_at dksX12_without_3 0 rfl rfl)
theorem dX12_without_73 : decode cX12_without 73 = .ok (.iconst 0, 1) := dk_3 (dk_at dksX12_without_3 1 rfl rfl)
theorem dX12_without_74 : decode cX12_without 74 = .ok (.putfield 311, 3) := dk_181 1 55 (dk_at dksX12_without_3 2 rfl rfl)
theorem dX12_without_77 : decode cX12_without 77 = .ok (.aload_n 0, 1) := dk_42 (dk_at dksX12_without_3 5 rfl rfl)
theorem dX12_without_78 : decode cX12_without 78 = .ok (.iload_n 2, 1) := dk_28 (dk_at dksX12_without_3 6 rfl rfl)
theorem dX12_without_79 : decode cX12_without 79 = .ok (.invokevirtual 458, 3) := dk_182 1 202 (dk_at dksX12_without_3 7 rfl rfl)
theorem dX12_without_82 : decode cX12_without 82 = .ok (.lload_n 3, 1) := dk_33 (dk_at dksX12_without_3 10 rfl rfl)
theorem dX12_without_83 : decode cX12_without 83 = .ok (.lsub, 1) := dk_101 (dk_at dksX12_without_3 11 rfl rfl)
theorem dX12_without_84 : decode cX12_without 84 = .ok (.lreturn, 1) := dk_173 (dk_at dksX12_without_3 12 rfl rfl)
abbrev cX12_mind : ByteArray := prog_27_method_129_code
def yX12_mind : MethodName := ⟨RX12, "mind", "()I"⟩
def dkwX12_mind_12 : List UInt8 := [167, 255, 31, 27, 172]
abbrev dktX12_mind_12 : List UInt8 := dkwX12_mind_12 ++ []
def dkwX12_mind_11 : List UInt8 := [4, 84, 132, 6, 1, 167, 255, 149, 132, 4, 1, 167, 255, 68, 132, 3, 1, 167, 255, 49, 132, 2, 1]
abbrev dktX12_mind_11 : List UInt8 := dkwX12_mind_11 ++ dktX12_mind_12
def dkwX12_mind_10 : List UInt8 := [162, 0, 26, 42, 180, 0, 112, 42, 28, 29, 21, 4, 42, 21, 6, 4, 100, 29, 182, 1, 89, 182, 1, 110]
abbrev dktX12_mind_10 : List UInt8 := dkwX12_mind_10 ++ dktX12_mind_11
def dkwX12_mind_9 : List UInt8 := [21, 7, 158, 0, 18, 42, 180, 0, 112, 42, 28, 29, 21, 4, 29, 182, 1, 110, 4, 84, 21, 7, 16, 16]
abbrev dktX12_mind_9 : List UInt8 := dkwX12_mind_9 ++ dktX12_mind_10
def dkwX12_mind_8 : List UInt8 := [167, 0, 21, 42, 180, 0, 23, 17, 0, 132, 16, 24, 21, 6, 4, 100, 104, 96, 28, 96, 46, 54, 7]
abbrev dktX12_mind_8 : List UInt8 := dkwX12_mind_8 ++ dktX12_mind_9
def dkwX12_mind_7 : List UInt8 := [163, 0, 102, 21, 5, 21, 6, 122, 4, 126, 154, 0, 6, 167, 0, 83, 21, 6, 154, 0, 8, 16, 16]
abbrev dktX12_mind_7 : List UInt8 := dkwX12_mind_7 ++ dktX12_mind_8
def dkwX12_mind_6 : List UInt8 := [46, 28, 29, 21, 4, 184, 1, 98, 182, 1, 121, 54, 5, 3, 54, 6, 21, 6, 42, 180, 0, 23, 4, 46]
abbrev dktX12_mind_6 : List UInt8 := dkwX12_mind_6 ++ dktX12_mind_7
def dkwX12_mind_5 : List UInt8 := [167, 0, 150, 42, 28, 29, 21, 4, 182, 1, 235, 154, 0, 7, 28, 4, 96, 60, 42, 42, 180, 0, 65, 28]
abbrev dktX12_mind_5 : List UInt8 := dkwX12_mind_5 ++ dktX12_mind_6
def dkwX12_mind_4 : List UInt8 := [28, 29, 21, 4, 184, 1, 98, 51, 153, 0, 164, 42, 28, 29, 21, 4, 182, 1, 94, 153, 0, 6]
abbrev dktX12_mind_4 : List UInt8 := dkwX12_mind_4 ++ dktX12_mind_5
def dkwX12_mind_3 : List UInt8 := [180, 0, 23, 3, 46, 162, 0, 203, 3, 54, 4, 21, 4, 42, 180, 1, 92, 163, 0, 185, 42, 180, 0, 112]
abbrev dktX12_mind_3 : List UInt8 := dkwX12_mind_3 ++ dktX12_mind_4
def dkwX12_mind_2 : List UInt8 := [182, 1, 161, 4, 84, 3, 60, 3, 61, 28, 42, 180, 0, 23, 6, 46, 162, 0, 221, 3, 62, 29, 42]
abbrev dktX12_mind_2 : List UInt8 := dkwX12_mind_2 ++ dktX12_mind_3
def dkwX12_mind_1 : List UInt8 := [17, 15, 60, 162, 0, 16, 42, 180, 0, 112, 27, 3, 84, 132, 1, 1, 167, 255, 239, 42, 180, 0, 112, 42]
abbrev dktX12_mind_1 : List UInt8 := dkwX12_mind_1 ++ dktX12_mind_2
def dkwX12_mind_0 : List UInt8 := [42, 3, 181, 0, 1, 42, 4, 182, 1, 75, 154, 0, 5, 3, 172, 42, 182, 1, 174, 3, 60, 27]
abbrev dktX12_mind_0 : List UInt8 := dkwX12_mind_0 ++ dktX12_mind_1
theorem dksX12_mind_0 : cX12_mind.data.toList.drop 0 = dktX12_mind_0 := by decide +kernel
theorem dksX12_mind_1 : cX12_mind.data.toList.drop 22 = dktX12_mind_1 := dk_seg dksX12_mind_0 22 rfl rfl
theorem dksX12_mind_2 : cX12_mind.data.toList.drop 46 = dktX12_mind_2 := dk_seg dksX12_mind_1 24 rfl rfl
theorem dksX12_mind_3 : cX12_mind.data.toList.drop 69 = dktX12_mind_3 := dk_seg dksX12_mind_2 23 rfl rfl
theorem dksX12_mind_4 : cX12_mind.data.toList.drop 93 = dktX12_mind_4 := dk_seg dksX12_mind_3 24 rfl rfl
theorem dksX12_mind_5 : cX12_mind.data.toList.drop 115 = dktX12_mind_5 := dk_seg dksX12_mind_4 22 rfl rfl
theorem dksX12_mind_6 : cX12_mind.data.toList.drop 139 = dktX12_mind_6 := dk_seg dksX12_mind_5 24 rfl rfl
theorem dksX12_mind_7 : cX12_mind.data.toList.drop 163 = dktX12_mind_7 := dk_seg dksX12_mind_6 24 rfl rfl
theorem dksX12_mind_8 : cX12_mind.data.toList.drop 186 = dktX12_mind_8 := dk_seg dksX12_mind_7 23 rfl rfl
theorem dksX12_mind_9 : cX12_mind.data.toList.drop 209 = dktX12_mind_9 := dk_seg dksX12_mind_8 23 rfl rfl
theorem dksX12_mind_10 : cX12_mind.data.toList.drop 233 = dktX12_mind_10 := dk_seg dksX12_mind_9 24 rfl rfl
theorem dksX12_mind_11 : cX12_mind.data.toList.drop 257 = dktX12_mind_11 := dk_seg dksX12_mind_10 24 rfl rfl
theorem dksX12_mind_12 : cX12_mind.data.toList.drop 280 = dktX12_mind_12 := dk_seg dksX12_mind_11 23 rfl rfl
theorem dX12_mind_0 : decode cX12_mind 0 = .ok (.aload_n 0, 1) := dk_42 (dk_at dksX12_mind_0 0 rfl rfl)
theorem dX12_mind_1 : decode cX12_mind 1 = .ok (.iconst 0, 1) := dk_3 (dk_at dksX12_mind_0 1 rfl rfl)
theorem dX12_mind_2 : decode cX12_mind 2 = .ok (.putfield 1, 3) := dk_181 0 1 (dk_at dksX12_mind_0 2 rfl rfl)
theorem dX12_mind_5 : decode cX12_mind 5 = .ok (.aload_n 0, 1) := dk_42 (dk_at dksX12_mind_0 5 rfl rfl)
theorem dX12_mind_6 : decode cX12_mind 6 = .ok (.iconst 1, 1) := dk_4 (dk_at dksX12_mind_0 6 rfl rfl)
theorem dX12_mind_7 : decode cX12_mind 7 = .ok (.invokevirtual 331, 3) := dk_182 1 75 (dk_at dksX12_mind_0 7 rfl rfl)
theorem dX12_mind_10 : decode cX12_mind 10 = .ok (.ifCond .ne 5, 3) := dk_154 0 5 (dk_at dksX12_mind_0 10 rfl rfl)
theorem dX12_mind_13 : decode cX12_mind 13 = .ok (.iconst 0, 1) := dk_3 (dk_at dksX12_mind_0 13 rfl rfl)
theorem dX12_mind_14 : decode cX12_mind 14 = .ok (.ireturn, 1) := dk_172 (dk_at dksX12_mind_0 14 rfl rfl)
theorem dX12_mind_15 : decode cX12_mind 15 = .ok (.aload_n 0, 1) := dk_42 (dk_at dksX12_mind_0 15 rfl rfl)
theorem dX12_mind_16 : decode cX12_mind 16 = .ok (.invokevirtual 430, 3) := dk_182 1 174 (dk_at dksX12_mind_0 16 rfl rfl)
theorem dX12_mind_19 : decode cX12_mind 19 = .ok (.iconst 0, 1) := dk_3 (dk_at dksX12_mind_0 19 rfl rfl)
theorem dX12_mind_20 : decode cX12_mind 20 = .ok (.istore_n 1, 1) := dk_60 (dk_at dksX12_mind_0 20 rfl rfl)
theorem dX12_mind_21 : decode cX12_mind 21 = .ok (.iload_n 1, 1) := dk_27 (dk_at dksX12_mind_0 21 rfl rfl)
theorem dX12_mind_22 : decode cX12_mind 22 = .ok (.sipush 3900, 3) := dk_17 15 60 (dk_at dksX12_mind_1 0 rfl rfl)
theorem dX12_mind_25 : decode cX12_mind 25 = .ok (.if_icmp .ge 16, 3) := dk_162 0 16 (dk_at dksX12_mind_1 3 rfl rfl)
theorem dX12_mind_28 : decode cX12_mind 28 = .ok (.aload_n 0, 1) := dk_42 (dk_at dksX12_mind_1 6 rfl rfl)
theorem dX12_mind_29 : decode cX12_mind 29 = .ok (.getfield 112, 3) := dk_180 0 112 (dk_at dksX12_mind_1 7 rfl rfl)
theorem dX12_mind_32 : decode cX12_mind 32 = .ok (.iload_n 1, 1) := dk_27 (dk_at dksX12_mind_1 10 rfl rfl)
theorem dX12_mind_33 : decode cX12_mind 33 = .ok (.iconst 0, 1) := dk_3 (dk_at dksX12_mind_1 11 rfl rfl)
theorem dX12_mind_34 : decode cX12_mind 34 = .ok (.bastore, 1) := dk_84 (dk_at dksX12_mind_1 12 rfl rfl)
theorem dX12_mind_35 : decode cX12_mind 35 = .ok (.iinc 1 1, 3) := dk_132 1 1 (dk_at dksX12_mind_1 13 rfl rfl)
theorem dX12_mind_38 : decode cX12_mind 38 = .ok (.goto (-17), 3) := dk_167 255 239 (dk_at dksX12_mind_1 16 rfl rfl)
theorem dX12_mind_41 : decode cX12_mind 41 = .ok (.aload_n 0, 1) := dk_42 (dk_at dksX12_mind_1 19 rfl rfl)
theorem dX12_mind_42 : decode cX12_mind 42 = .ok (.getfield 112, 3) := dk_180 0 112 (dk_at dksX12_mind_1 20 rfl rfl)
theorem dX12_mind_45 : decode cX12_mind 45 = .ok (.aload_n 0, 1) := dk_42 (dk_at dksX12_mind_1 23 rfl rfl)
theorem dX12_mind_46 : decode cX12_mind 46 = .ok (.invokevirtual 417, 3) := dk_182 1 161 (dk_at dksX12_mind_2 0 rfl rfl)
theorem dX12_mind_49 : decode cX12_mind 49 = .ok (.iconst 1, 1) := dk_4 (dk_at dksX12_mind_2 3 rfl rfl)
theorem dX12_mind_50 : decode cX12_mind 50 = .ok (.bastore, 1) := dk_84 (dk_at dksX12_mind_2 4 rfl rfl)
theorem dX12_mind_51 : decode cX12_mind 51 = .ok (.iconst 0, 1) := dk_3 (dk_at dksX12_mind_2 5 rfl rfl)
theorem dX12_mind_52 : decode cX12_mind 52 = .ok (.istore_n 1, 1) := dk_60 (dk_at dksX12_mind_2 6 rfl rfl)
theorem dX12_mind_53 : decode cX12_mind 53 = .ok (.iconst 0, 1) := dk_3 (dk_at dksX12_mind_2 7 rfl rfl)
theorem dX12_mind_54 : decode cX12_mind 54 = .ok (.istore_n 2, 1) := dk_61 (dk_at dksX12_mind_2 8 rfl rfl)
theorem dX12_mind_55 : decode cX12_mind 55 = .ok (.iload_n 2, 1) := dk_28 (dk_at dksX12_mind_2 9 rfl rfl)
theorem dX12_mind_56 : decode cX12_mind 56 = .ok (.aload_n 0, 1) := dk_42 (dk_at dksX12_mind_2 10 rfl rfl)
theorem dX12_mind_57 : decode cX12_mind 57 = .ok (.getfield 23, 3) := dk_180 0 23 (dk_at dksX12_mind_2 11 rfl rfl)
theorem dX12_mind_60 : decode cX12_mind 60 = .ok (.iconst 3, 1) := dk_6 (dk_at dksX12_mind_2 14 rfl rfl)
theorem dX12_mind_61 : decode cX12_mind 61 = .ok (.iaload, 1) := dk_46 (dk_at dksX12_mind_2 15 rfl rfl)
theorem dX12_mind_62 : decode cX12_mind 62 = .ok (.if_icmp .ge 221, 3) := dk_162 0 221 (dk_at dksX12_mind_2 16 rfl rfl)
theorem dX12_mind_65 : decode cX12_mind 65 = .ok (.iconst 0, 1) := dk_3 (dk_at dksX12_mind_2 19 rfl rfl)
theorem dX12_mind_66 : decode cX12_mind 66 = .ok (.istore_n 3, 1) := dk_62 (dk_at dksX12_mind_2 20 rfl rfl)
theorem dX12_mind_67 : decode cX12_mind 67 = .ok (.iload_n 3, 1) := dk_29 (dk_at dksX12_mind_2 21 rfl rfl)
theorem dX12_mind_68 : decode cX12_mind 68 = .ok (.aload_n 0, 1) := dk_42 (dk_at dksX12_mind_2 22 rfl rfl)
theorem dX12_mind_69 : decode cX12_mind 69 = .ok (.getfield 23, 3) := dk_180 0 23 (dk_at dksX12_mind_3 0 rfl rfl)
theorem dX12_mind_72 : decode cX12_mind 72 = .ok (.iconst 0, 1) := dk_3 (dk_at dksX12_mind_3 3 rfl rfl)
theorem dX12_mind_73 : decode cX12_mind 73 = .ok (.iaload, 1) := dk_46 (dk_at dksX12_mind_3 4 rfl rfl)
theorem dX12_mind_74 : decode cX12_mind 74 = .ok (.if_icmp .ge 203, 3) := dk_162 0 203 (dk_at dksX12_mind_3 5 rfl rfl)
theorem dX12_mind_77 : decode cX12_mind 77 = .ok (.iconst 0, 1) := dk_3 (dk_at dksX12_mind_3 8 rfl rfl)
theorem dX12_mind_78 : decode cX12_mind 78 = .ok (.istore 4, 2) := dk_54 4 (dk_at dksX12_mind_3 9 rfl rfl)
theorem dX12_mind_80 : decode cX12_mind 80 = .ok (.iload 4, 2) := dk_21 4 (dk_at dksX12_mind_3 11 rfl rfl)
theorem dX12_mind_82 : decode cX12_mind 82 = .ok (.aload_n 0, 1) := dk_42 (dk_at dksX12_mind_3 13 rfl rfl)
theorem dX12_mind_83 : decode cX12_mind 83 = .ok (.getfield 348, 3) := dk_180 1 92 (dk_at dksX12_mind_3 14 rfl rfl)
theorem dX12_mind_86 : decode cX12_mind 86 = .ok (.if_icmp .gt 185, 3) := dk_163 0 185 (dk_at dksX12_mind_3 17 rfl rfl)
theorem dX12_mind_89 : decode cX12_mind 89 = .ok (.aload_n 0, 1) := dk_42 (dk_at dksX12_mind_3 20 rfl rfl)
theorem dX12_mind_90 : decode cX12_mind 90 = .ok (.getfield 112, 3) := dk_180 0 112 (dk_at dksX12_mind_3 21 rfl rfl)
theorem dX12_mind_93 : decode cX12_mind 93 = .ok (.iload_n 2, 1) := dk_28 (dk_at dksX12_mind_4 0 rfl rfl)
theorem dX12_mind_94 : decode cX12_mind 94 = .ok (.iload_n 3, 1) := dk_29 (dk_at dksX12_mind_4 1 rfl rfl)
theorem dX12_mind_95 : decode cX12_mind 95 = .ok (.iload 4, 2) := dk_21 4 (dk_at dksX12_mind_4 2 rfl rfl)
theorem dX12_mind_97 : decode cX12_mind 97 = .ok (.invokestatic 354, 3) := dk_184 1 98 (dk_at dksX12_mind_4 4 rfl rfl)
theorem dX12_mind_100 : decode cX12_mind 100 = .ok (.baload, 1) := dk_51 (dk_at dksX12_mind_4 7 rfl rfl)
theorem dX12_mind_101 : decode cX12_mind 101 = .ok (.ifCond .eq 164, 3) := dk_153 0 164 (dk_at dksX12_mind_4 8 rfl rfl)
theorem dX12_mind_104 : decode cX12_mind 104 = .ok (.aload_n 0, 1) := dk_42 (dk_at dksX12_mind_4 11 rfl rfl)
theorem dX12_mind_105 : decode cX12_mind 105 = .ok (.iload_n 2, 1) := dk_28 (dk_at dksX12_mind_4 12 rfl rfl)
theorem dX12_mind_106 : decode cX12_mind 106 = .ok (.iload_n 3, 1) := dk_29 (dk_at dksX12_mind_4 13 rfl rfl)
theorem dX12_mind_107 : decode cX12_mind 107 = .ok (.iload 4, 2) := dk_21 4 (dk_at dksX12_mind_4 14 rfl rfl)
theorem dX12_mind_109 : decode cX12_mind 109 = .ok (.invokevirtual 350, 3) := dk_182 1 94 (dk_at dksX12_mind_4 16 rfl rfl)
theorem dX12_mind_112 : decode cX12_mind 112 = .ok (.ifCond .eq 6, 3) := dk_153 0 6 (dk_at dksX12_mind_4 19 rfl rfl)
theorem dX12_mind_115 : decode cX12_mind 115 = .ok (.goto 150, 3) := dk_167 0 150 (dk_at dksX12_mind_5 0 rfl rfl)
theorem dX12_mind_118 : decode cX12_mind 118 = .ok (.aload_n 0, 1) := dk_42 (dk_at dksX12_mind_5 3 rfl rfl)
theorem dX12_mind_119 : decode cX12_mind 119 = .ok (.iload_n 2, 1) := dk_28 (dk_at dksX12_mind_5 4 rfl rfl)
theorem dX12_mind_120 : decode cX12_mind 120 = .ok (.iload_n 3, 1) := dk_29 (dk_at dksX12_mind_5 5 rfl rfl)
theorem dX12_mind_121 : decode cX12_mind 121 = .ok (.iload 4, 2) := dk_21 4 (dk_at dksX12_mind_5 6 rfl rfl)
theorem dX12_mind_123 : decode cX12_mind 123 = .ok (.invokevirtual 491, 3) := dk_182 1 235 (dk_at dksX12_mind_5 8 rfl rfl)
theorem dX12_mind_126 : decode cX12_mind 126 = .ok (.ifCond .ne 7, 3) := dk_154 0 7 (dk_at dksX12_mind_5 11 rfl rfl)
theorem dX12_mind_129 : decode cX12_mind 129 = .ok (.iload_n 2, 1) := dk_28 (dk_at dksX12_mind_5 14 rfl rfl)
theorem dX12_mind_130 : decode cX12_mind 130 = .ok (.iconst 1, 1) := dk_4 (dk_at dksX12_mind_5 15 rfl rfl)
theorem dX12_mind_131 : decode cX12_mind 131 = .ok (.iadd, 1) := dk_96 (dk_at dksX12_mind_5 16 rfl rfl)
theorem dX12_mind_132 : decode cX12_mind 132 = .ok (.istore_n 1, 1) := dk_60 (dk_at dksX12_mind_5 17 rfl rfl)
theorem dX12_mind_133 : decode cX12_mind 133 = .ok (.aload_n 0, 1) := dk_42 (dk_at dksX12_mind_5 18 rfl rfl)
theorem dX12_mind_134 : decode cX12_mind 134 = .ok (.aload_n 0, 1) := dk_42 (dk_at dksX12_mind_5 19 rfl rfl)
theorem dX12_mind_135 : decode cX12_mind 135 = .ok (.getfield 65, 3) := dk_180 0 65 (dk_at dksX12_mind_5 20 rfl rfl)
theorem dX12_mind_138 : decode cX12_mind 138 = .ok (.iload_n 2, 1) := dk_28 (dk_at dksX12_mind_5 23 rfl rfl)
theorem dX12_mind_139 : decode cX12_mind 139 = .ok (.iaload, 1) := dk_46 (dk_at dksX12_mind_6 0 rfl rfl)
theorem dX12_mind_140 : decode cX12_mind 140 = .ok (.iload_n 2, 1) := dk_28 (dk_at dksX12_mind_6 1 rfl rfl)
theorem dX12_mind_141 : decode cX12_mind 141 = .ok (.iload_n 3, 1) := dk_29 (dk_at dksX12_mind_6 2 rfl rfl)
theorem dX12_mind_142 : decode cX12_mind 142 = .ok (.iload 4, 2) := dk_21 4 (dk_at dksX12_mind_6 3 rfl rfl)
theorem dX12_mind_144 : decode cX12_mind 144 = .ok (.invokestatic 354, 3) := dk_184 1 98 (dk_at dksX12_mind_6 5 rfl rfl)
theorem dX12_mind_147 : decode cX12_mind 147 = .ok (.invokevirtual 377, 3) := dk_182 1 121 (dk_at dksX12_mind_6 8 rfl rfl)
theorem dX12_mind_150 : decode cX12_mind 150 = .ok (.istore 5, 2) := dk_54 5 (dk_at dksX12_mind_6 11 rfl rfl)
theorem dX12_mind_152 : decode cX12_mind 152 = .ok (.iconst 0, 1) := dk_3 (dk_at dksX12_mind_6 13 rfl rfl)
theorem dX12_mind_153 : decode cX12_mind 153 = .ok (.istore 6, 2) := dk_54 6 (dk_at dksX12_mind_6 14 rfl rfl)
theorem dX12_mind_155 : decode cX12_mind 155 = .ok (.iload 6, 2) := dk_21 6 (dk_at dksX12_mind_6 16 rfl rfl)
theorem dX12_mind_157 : decode cX12_mind 157 = .ok (.aload_n 0, 1) := dk_42 (dk_at dksX12_mind_6 18 rfl rfl)
theorem dX12_mind_158 : decode cX12_mind 158 = .ok (.getfield 23, 3) := dk_180 0 23 (dk_at dksX12_mind_6 19 rfl rfl)
theorem dX12_mind_161 : decode cX12_mind 161 = .ok (.iconst 1, 1) := dk_4 (dk_at dksX12_mind_6 22 rfl rfl)
theorem dX12_mind_162 : decode cX12_mind 162 = .ok (.iaload, 1) := dk_46 (dk_at dksX12_mind_6 23 rfl rfl)
theorem dX12_mind_163 : decode cX12_mind 163 = .ok (.if_icmp .gt 102, 3) := dk_163 0 102 (dk_at dksX12_mind_7 0 rfl rfl)
theorem dX12_mind_166 : decode cX12_mind 166 = .ok (.iload 5, 2) := dk_21 5 (dk_at dksX12_mind_7 3 rfl rfl)
theorem dX12_mind_168 : decode cX12_mind 168 = .ok (.iload 6, 2) := dk_21 6 (dk_at dksX12_mind_7 5 rfl rfl)
theorem dX12_mind_170 : decode cX12_mind 170 = .ok (.ishr, 1) := dk_122 (dk_at dksX12_mind_7 7 rfl rfl)
theorem dX12_mind_171 : decode cX12_mind 171 = .ok (.iconst 1, 1) := dk_4 (dk_at dksX12_mind_7 8 rfl rfl)
theorem dX12_mind_172 : decode cX12_mind 172 = .ok (.iand, 1) := dk_126 (dk_at dksX12_mind_7 9 rfl rfl)
theorem dX12_mind_173 : decode cX12_mind 173 = .ok (.ifCond .ne 6, 3) := dk_154 0 6 (dk_at dksX12_mind_7 10 rfl rfl)
theorem dX12_mind_176 : decode cX12_mind 176 = .ok (.goto 83, 3) := dk_167 0 83 (dk_at dksX12_mind_7 13 rfl rfl)
theorem dX12_mind_179 : decode cX12_mind 179 = .ok (.iload 6, 2) := dk_21 6 (dk_at dksX12_mind_7 16 rfl rfl)
theorem dX12_mind_181 : decode cX12_mind 181 = .ok (.ifCond .ne 8, 3) := dk_154 0 8 (dk_at dksX12_mind_7 18 rfl rfl)
theorem dX12_mind_184 : decode cX12_mind 184 = .ok (.bipush 16, 2) := dk_16 16 (dk_at dksX12_mind_7 21 rfl rfl)
theorem dX12_mind_186 : decode cX12_mind 186 = .ok (.goto 21, 3) := dk_167 0 21 (dk_at dksX12_mind_8 0 rfl rfl)
theorem dX12_mind_189 : decode cX12_mind 189 = .ok (.aload_n 0, 1) := dk_42 (dk_at dksX12_mind_8 3 rfl rfl)
theorem dX12_mind_190 : decode cX12_mind 190 = .ok (.getfield 23, 3) := dk_180 0 23 (dk_at dksX12_mind_8 4 rfl rfl)
theorem dX12_mind_193 : decode cX12_mind 193 = .ok (.sipush 132, 3) := dk_17 0 132 (dk_at dksX12_mind_8 7 rfl rfl)
theorem dX12_mind_196 : decode cX12_mind 196 = .ok (.bipush 24, 2) := dk_16 24 (dk_at dksX12_mind_8 10 rfl rfl)
theorem dX12_mind_198 : decode cX12_mind 198 = .ok (.iload 6, 2) := dk_21 6 (dk_at dksX12_mind_8 12 rfl rfl)
theorem dX12_mind_200 : decode cX12_mind 200 = .ok (.iconst 1, 1) := dk_4 (dk_at dksX12_mind_8 14 rfl rfl)
theorem dX12_mind_201 : decode cX12_mind 201 = .ok (.isub, 1) := dk_100 (dk_at dksX12_mind_8 15 rfl rfl)
theorem dX12_mind_202 : decode cX12_mind 202 = .ok (.imul, 1) := dk_104 (dk_at dksX12_mind_8 16 rfl rfl)
theorem dX12_mind_203 : decode cX12_mind 203 = .ok (.iadd, 1) := dk_96 (dk_at dksX12_mind_8 17 rfl rfl)
theorem dX12_mind_204 : decode cX12_mind 204 = .ok (.iload_n 2, 1) := dk_28 (dk_at dksX12_mind_8 18 rfl rfl)
theorem dX12_mind_205 : decode cX12_mind 205 = .ok (.iadd, 1) := dk_96 (dk_at dksX12_mind_8 19 rfl rfl)
theorem dX12_mind_206 : decode cX12_mind 206 = .ok (.iaload, 1) := dk_46 (dk_at dksX12_mind_8 20 rfl rfl)
theorem dX12_mind_207 : decode cX12_mind 207 = .ok (.istore 7, 2) := dk_54 7 (dk_at dksX12_mind_8 21 rfl rfl)
theorem dX12_mind_209 : decode cX12_mind 209 = .ok (.iload 7, 2) := dk_21 7 (dk_at dksX12_mind_9 0 rfl rfl)
theorem dX12_mind_211 : decode cX12_mind 211 = .ok (.ifCond .le 18, 3) := dk_158 0 18 (dk_at dksX12_mind_9 2 rfl rfl)
theorem dX12_mind_214 : decode cX12_mind 214 = .ok (.aload_n 0, 1) := dk_42 (dk_at dksX12_mind_9 5 rfl rfl)
theorem dX12_mind_215 : decode cX12_mind 215 = .ok (.getfield 112, 3) := dk_180 0 112 (dk_at dksX12_mind_9 6 rfl rfl)
theorem dX12_mind_218 : decode cX12_mind 218 = .ok (.aload_n 0, 1) := dk_42 (dk_at dksX12_mind_9 9 rfl rfl)
theorem dX12_mind_219 : decode cX12_mind 219 = .ok (.iload_n 2, 1) := dk_28 (dk_at dksX12_mind_9 10 rfl rfl)
theorem dX12_mind_220 : decode cX12_mind 220 = .ok (.iload_n 3, 1) := dk_29 (dk_at dksX12_mind_9 11 rfl rfl)
theorem dX12_mind_221 : decode cX12_mind 221 = .ok (.iload 4, 2) := dk_21 4 (dk_at dksX12_mind_9 12 rfl rfl)
theorem dX12_mind_223 : decode cX12_mind 223 = .ok (.iload_n 3, 1) := dk_29 (dk_at dksX12_mind_9 14 rfl rfl)
theorem dX12_mind_224 : decode cX12_mind 224 = .ok (.invokevirtual 366, 3) := dk_182 1 110 (dk_at dksX12_mind_9 15 rfl rfl)
theorem dX12_mind_227 : decode cX12_mind 227 = .ok (.iconst 1, 1) := dk_4 (dk_at dksX12_mind_9 18 rfl rfl)
theorem dX12_mind_228 : decode cX12_mind 228 = .ok (.bastore, 1) := dk_84 (dk_at dksX12_mind_9 19 rfl rfl)
theorem dX12_mind_229 : decode cX12_mind 229 = .ok (.iload 7, 2) := dk_21 7 (dk_at dksX12_mind_9 20 rfl rfl)
theorem dX12_mind_231 : decode cX12_mind 231 = .ok (.bipush 16, 2) := dk_16 16 (dk_at dksX12_mind_9 22 rfl rfl)
theorem dX12_mind_233 : decode cX12_mind 233 = .ok (.if_icmp .ge 26, 3) := dk_162 0 26 (dk_at dksX12_mind_10 0 rfl rfl)
theorem dX12_mind_236 : decode cX12_mind 236 = .ok (.aload_n 0, 1) := dk_42 (dk_at dksX12_mind_10 3 rfl rfl)
theorem dX12_mind_237 : decode cX12_mind 237 = .ok (.getfield 112, 3) := dk_180 0 112 (dk_at dksX12_mind_10 4 rfl rfl)
theorem dX12_mind_240 : decode cX12_mind 240 = .ok (.aload_n 0, 1) := dk_42 (dk_at dksX12_mind_10 7 rfl rfl)
theorem dX12_mind_241 : decode cX12_mind 241 = .ok (.iload_n 2, 1) := dk_28 (dk_at dksX12_mind_10 8 rfl rfl)
theorem dX12_mind_242 : decode cX12_mind 242 = .ok (.iload_n 3, 1) := dk_29 (dk_at dksX12_mind_10 9 rfl rfl)
theorem dX12_mind_243 : decode cX12_mind 243 = .ok (.iload 4, 2) := dk_21 4 (dk_at dksX12_mind_10 10 rfl rfl)
theorem dX12_mind_245 : decode cX12_mind 245 = .ok (.aload_n 0, 1) := dk_42 (dk_at dksX12_mind_10 12 rfl rfl)
theorem dX12_mind_246 : decode cX12_mind 246 = .ok (.iload 6, 2) := dk_21 6 (dk_at dksX12_mind_10 13 rfl rfl)
theorem dX12_mind_248 : decode cX12_mind 248 = .ok (.iconst 1, 1) := dk_4 (dk_at dksX12_mind_10 15 rfl rfl)
theorem dX12_mind_249 : decode cX12_mind 249 = .ok (.isub, 1) := dk_100 (dk_at dksX12_mind_10 16 rfl rfl)
theorem dX12_mind_250 : decode cX12_mind 250 = .ok (.iload_n 3, 1) := dk_29 (dk_at dksX12_mind_10 17 rfl rfl)
theorem dX12_mind_251 : decode cX12_mind 251 = .ok (.invokevirtual 345, 3) := dk_182 1 89 (dk_at dksX12_mind_10 18 rfl rfl)
theorem dX12_mind_254 : decode cX12_mind 254 = .ok (.invokevirtual 366, 3) := dk_182 1 110 (dk_at dksX12_mind_10 21 rfl rfl)
theorem dX12_mind_257 : decode cX12_mind 257 = .ok (.iconst 1, 1) := dk_4 (dk_at dksX12_mind_11 0 rfl rfl)
theorem dX12_mind_258 : decode cX12_mind 258 = .ok (.bastore, 1) := dk_84 (dk_at dksX12_mind_11 1 rfl rfl)
theorem dX12_mind_259 : decode cX12_mind 259 = .ok (.iinc 6 1, 3) := dk_132 6 1 (dk_at dksX12_mind_11 2 rfl rfl)
theorem dX12_mind_262 : decode cX12_mind 262 = .ok (.goto (-107), 3) := dk_167 255 149 (dk_at dksX12_mind_11 5 rfl rfl)
theorem dX12_mind_265 : decode cX12_mind 265 = .ok (.iinc 4 1, 3) := dk_132 4 1 (dk_at dksX12_mind_11 8 rfl rfl)
theorem dX12_mind_268 : decode cX12_mind 268 = .ok (.goto (-188), 3) := dk_167 255 68 (dk_at dksX12_mind_11 11 rfl rfl)
theorem dX12_mind_271 : decode cX12_mind 271 = .ok (.iinc 3 1, 3) := dk_132 3 1 (dk_at dksX12_mind_11 14 rfl rfl)
theorem dX12_mind_274 : decode cX12_mind 274 = .ok (.goto (-207), 3) := dk_167 255 49 (dk_at dksX12_mind_11 17 rfl rfl)
theorem dX12_mind_277 : decode cX12_mind 277 = .ok (.iinc 2 1, 3) := dk_132 2 1 (dk_at dksX12_mind_11 20 rfl rfl)
theorem dX12_mind_280 : decode cX12_mind 280 = .ok (.goto (-225), 3) := dk_167 255 31 (dk_at dksX12_mind_12 0 rfl rfl)
theorem dX12_mind_283 : decode cX12_mind 283 = .ok (.iload_n 1, 1) := dk_27 (dk_at dksX12_mind_12 3 rfl rfl)
theorem dX12_mind_284 : decode cX12_mind 284 = .ok (.ireturn, 1) := dk_172 (dk_at dksX12_mind_12 4 rfl rfl)
abbrev cX12_isOneMind : ByteArray := prog_27_method_128_code
def yX12_isOneMind : MethodName := ⟨RX12, "isOneMind", "(III)Z"⟩
def dkwX12_isOneMind_3 : List UInt8 := [21, 5, 159, 0, 5, 3, 172, 132, 6, 1, 167, 255, 215, 4, 172]
abbrev dktX12_isOneMind_3 : List UInt8 := dkwX12_isOneMind_3 ++ []
def dkwX12_isOneMind_2 : List UInt8 := [162, 0, 36, 42, 42, 180, 0, 90, 21, 6, 17, 15, 60, 104, 21, 4, 27, 28, 29, 3, 182, 1, 124]
abbrev dktX12_isOneMind_2 : List UInt8 := dkwX12_isOneMind_2 ++ dktX12_isOneMind_3
def dkwX12_isOneMind_1 : List UInt8 := [21, 4, 27, 28, 29, 3, 182, 1, 124, 54, 5, 4, 54, 6, 21, 6, 42, 180, 0, 23, 5, 46]
abbrev dktX12_isOneMind_1 : List UInt8 := dkwX12_isOneMind_1 ++ dktX12_isOneMind_2
def dkwX12_isOneMind_0 : List UInt8 := [42, 42, 180, 0, 65, 27, 46, 27, 28, 29, 184, 1, 98, 182, 1, 121, 54, 4, 42, 42, 180, 0, 90, 3]
abbrev dktX12_isOneMind_0 : List UInt8 := dkwX12_isOneMind_0 ++ dktX12_isOneMind_1
theorem dksX12_isOneMind_0 : cX12_isOneMind.data.toList.drop 0 = dktX12_isOneMind_0 := by decide +kernel
theorem dksX12_isOneMind_1 : cX12_isOneMind.data.toList.drop 24 = dktX12_isOneMind_1 := dk_seg dksX12_isOneMind_0 24 rfl rfl
theorem dksX12_isOneMind_2 : cX12_isOneMind.data.toList.drop 46 = dktX12_isOneMind_2 := dk_seg dksX12_isOneMind_1 22 rfl rfl
theorem dksX12_isOneMind_3 : cX12_isOneMind.data.toList.drop 69 = dktX12_isOneMind_3 := dk_seg dksX12_isOneMind_2 23 rfl rfl
theorem dX12_isOneMind_0 : decode cX12_isOneMind 0 = .ok (.aload_n 0, 1) := dk_42 (dk_at dksX12_isOneMind_0 0 rfl rfl)
theorem dX12_isOneMind_1 : decode cX12_isOneMind 1 = .ok (.aload_n 0, 1) := dk_42 (dk_at dksX12_isOneMind_0 1 rfl rfl)
theorem dX12_isOneMind_2 : decode cX12_isOneMind 2 = .ok (.getfield 65, 3) := dk_180 0 65 (dk_at dksX12_isOneMind_0 2 rfl rfl)
theorem dX12_isOneMind_5 : decode cX12_isOneMind 5 = .ok (.iload_n 1, 1) := dk_27 (dk_at dksX12_isOneMind_0 5 rfl rfl)
theorem dX12_isOneMind_6 : decode cX12_isOneMind 6 = .ok (.iaload, 1) := dk_46 (dk_at dksX12_isOneMind_0 6 rfl rfl)
theorem dX12_isOneMind_7 : decode cX12_isOneMind 7 = .ok (.iload_n 1, 1) := dk_27 (dk_at dksX12_isOneMind_0 7 rfl rfl)
theorem dX12_isOneMind_8 : decode cX12_isOneMind 8 = .ok (.iload_n 2, 1) := dk_28 (dk_at dksX12_isOneMind_0 8 rfl rfl)
theorem dX12_isOneMind_9 : decode cX12_isOneMind 9 = .ok (.iload_n 3, 1) := dk_29 (dk_at dksX12_isOneMind_0 9 rfl rfl)
theorem dX12_isOneMind_10 : decode cX12_isOneMind 10 = .ok (.invokestatic 354, 3) := dk_184 1 98 (dk_at dksX12_isOneMind_0 10 rfl rfl)
theorem dX12_isOneMind_13 : decode cX12_isOneMind 13 = .ok (.invokevirtual 377, 3) := dk_182 1 121 (dk_at dksX12_isOneMind_0 13 rfl rfl)
theorem dX12_isOneMind_16 : decode cX12_isOneMind 16 = .ok (.istore 4, 2) := dk_54 4 (dk_at dksX12_isOneMind_0 16 rfl rfl)
theorem dX12_isOneMind_18 : decode cX12_isOneMind 18 = .ok (.aload_n 0, 1) := dk_42 (dk_at dksX12_isOneMind_0 18 rfl rfl)
theorem dX12_isOneMind_19 : decode cX12_isOneMind 19 = .ok (.aload_n 0, 1) := dk_42 (dk_at dksX12_isOneMind_0 19 rfl rfl)
theorem dX12_isOneMind_20 : decode cX12_isOneMind 20 = .ok (.getfield 90, 3) := dk_180 0 90 (dk_at dksX12_isOneMind_0 20 rfl rfl)
theorem dX12_isOneMind_23 : decode cX12_isOneMind 23 = .ok (.iconst 0, 1) := dk_3 (dk_at dksX12_isOneMind_0 23 rfl rfl)
theorem dX12_isOneMind_24 : decode cX12_isOneMind 24 = .ok (.iload 4, 2) := dk_21 4 (dk_at dksX12_isOneMind_1 0 rfl rfl)
theorem dX12_isOneMind_26 : decode cX12_isOneMind 26 = .ok (.iload_n 1, 1) := dk_27 (dk_at dksX12_isOneMind_1 2 rfl rfl)
theorem dX12_isOneMind_27 : decode cX12_isOneMind 27 = .ok (.iload_n 2, 1) := dk_28 (dk_at dksX12_isOneMind_1 3 rfl rfl)
theorem dX12_isOneMind_28 : decode cX12_isOneMind 28 = .ok (.iload_n 3, 1) := dk_29 (dk_at dksX12_isOneMind_1 4 rfl rfl)
theorem dX12_isOneMind_29 : decode cX12_isOneMind 29 = .ok (.iconst 0, 1) := dk_3 (dk_at dksX12_isOneMind_1 5 rfl rfl)
theorem dX12_isOneMind_30 : decode cX12_isOneMind 30 = .ok (.invokevirtual 380, 3) := dk_182 1 124 (dk_at dksX12_isOneMind_1 6 rfl rfl)
theorem dX12_isOneMind_33 : decode cX12_isOneMind 33 = .ok (.istore 5, 2) := dk_54 5 (dk_at dksX12_isOneMind_1 9 rfl rfl)
theorem dX12_isOneMind_35 : decode cX12_isOneMind 35 = .ok (.iconst 1, 1) := dk_4 (dk_at dksX12_isOneMind_1 11 rfl rfl)
theorem dX12_isOneMind_36 : decode cX12_isOneMind 36 = .ok (.istore 6, 2) := dk_54 6 (dk_at dksX12_isOneMind_1 12 rfl rfl)
theorem dX12_isOneMind_38 : decode cX12_isOneMind 38 = .ok (.iload 6, 2) := dk_21 6 (dk_at dksX12_isOneMind_1 14 rfl rfl)
theorem dX12_isOneMind_40 : decode cX12_isOneMind 40 = .ok (.aload_n 0, 1) := dk_42 (dk_at dksX12_isOneMind_1 16 rfl rfl)
theorem dX12_isOneMind_41 : decode cX12_isOneMind 41 = .ok (.getfield 23, 3) := dk_180 0 23 (dk_at dksX12_isOneMind_1 17 rfl rfl)
theorem dX12_isOneMind_44 : decode cX12_isOneMind 44 = .ok (.iconst 2, 1) := dk_5 (dk_at dksX12_isOneMind_1 20 rfl rfl)
theorem dX12_isOneMind_45 : decode cX12_isOneMind 45 = .ok (.iaload, 1) := dk_46 (dk_at dksX12_isOneMind_1 21 rfl rfl)
theorem dX12_isOneMind_46 : decode cX12_isOneMind 46 = .ok (.if_icmp .ge 36, 3) := dk_162 0 36 (dk_at dksX12_isOneMind_2 0 rfl rfl)
theorem dX12_isOneMind_49 : decode cX12_isOneMind 49 = .ok (.aload_n 0, 1) := dk_42 (dk_at dksX12_isOneMind_2 3 rfl rfl)
theorem dX12_isOneMind_50 : decode cX12_isOneMind 50 = .ok (.aload_n 0, 1) := dk_42 (dk_at dksX12_isOneMind_2 4 rfl rfl)
theorem dX12_isOneMind_51 : decode cX12_isOneMind 51 = .ok (.getfield 90, 3) := dk_180 0 90 (dk_at dksX12_isOneMind_2 5 rfl rfl)
theorem dX12_isOneMind_54 : decode cX12_isOneMind 54 = .ok (.iload 6, 2) := dk_21 6 (dk_at dksX12_isOneMind_2 8 rfl rfl)
theorem dX12_isOneMind_56 : decode cX12_isOneMind 56 = .ok (.sipush 3900, 3) := dk_17 15 60 (dk_at dksX12_isOneMind_2 10 rfl rfl)
theorem dX12_isOneMind_59 : decode cX12_isOneMind 59 = .ok (.imul, 1) := dk_104 (dk_at dksX12_isOneMind_2 13 rfl rfl)
theorem dX12_isOneMind_60 : decode cX12_isOneMind 60 = .ok (.iload 4, 2) := dk_21 4 (dk_at dksX12_isOneMind_2 14 rfl rfl)
theorem dX12_isOneMind_62 : decode cX12_isOneMind 62 = .ok (.iload_n 1, 1) := dk_27 (dk_at dksX12_isOneMind_2 16 rfl rfl)
theorem dX12_isOneMind_63 : decode cX12_isOneMind 63 = .ok (.iload_n 2, 1) := dk_28 (dk_at dksX12_isOneMind_2 17 rfl rfl)
theorem dX12_isOneMind_64 : decode cX12_isOneMind 64 = .ok (.iload_n 3, 1) := dk_29 (dk_at dksX12_isOneMind_2 18 rfl rfl)
theorem dX12_isOneMind_65 : decode cX12_isOneMind 65 = .ok (.iconst 0, 1) := dk_3 (dk_at dksX12_isOneMind_2 19 rfl rfl)
theorem dX12_isOneMind_66 : decode cX12_isOneMind 66 = .ok (.invokevirtual 380, 3) := dk_182 1 124 (dk_at dksX12_isOneMind_2 20 rfl rfl)
theorem dX12_isOneMind_69 : decode cX12_isOneMind 69 = .ok (.iload 5, 2) := dk_21 5 (dk_at dksX12_isOneMind_3 0 rfl rfl)
theorem dX12_isOneMind_71 : decode cX12_isOneMind 71 = .ok (.if_icmp .eq 5, 3) := dk_159 0 5 (dk_at dksX12_isOneMind_3 2 rfl rfl)
theorem dX12_isOneMind_74 : decode cX12_isOneMind 74 = .ok (.iconst 0, 1) := dk_3 (dk_at dksX12_isOneMind_3 5 rfl rfl)
theorem dX12_isOneMind_75 : decode cX12_isOneMind 75 = .ok (.ireturn, 1) := dk_172 (dk_at dksX12_isOneMind_3 6 rfl rfl)
theorem dX12_isOneMind_76 : decode cX12_isOneMind 76 = .ok (.iinc 6 1, 3) := dk_132 6 1 (dk_at dksX12_isOneMind_3 7 rfl rfl)
theorem dX12_isOneMind_79 : decode cX12_isOneMind 79 = .ok (.goto (-41), 3) := dk_167 255 215 (dk_at dksX12_isOneMind_3 10 rfl rfl)
theorem dX12_isOneMind_82 : decode cX12_isOneMind 82 = .ok (.iconst 1, 1) := dk_4 (dk_at dksX12_isOneMind_3 13 rfl rfl)
theorem dX12_isOneMind_83 : decode cX12_isOneMind 83 = .ok (.ireturn, 1) := dk_172 (dk_at dksX12_isOneMind_3 14 rfl rfl)
abbrev cX12_image : ByteArray := prog_27_method_130_code
def yX12_image : MethodName := ⟨RX12, "image", "()I"⟩
def dkwX12_image_2 : List UInt8 := [167, 255, 225, 42, 89, 180, 0, 253, 4, 96, 181, 0, 253, 42, 180, 0, 253, 172]
abbrev dktX12_image_2 : List UInt8 := dkwX12_image_2 ++ []
def dkwX12_image_1 : List UInt8 := [42, 180, 0, 62, 17, 0, 156, 42, 180, 0, 253, 104, 27, 96, 42, 180, 0, 59, 27, 46, 79, 132, 1, 1]
abbrev dktX12_image_1 : List UInt8 := dkwX12_image_1 ++ dktX12_image_2
def dkwX12_image_0 : List UInt8 := [42, 3, 181, 0, 1, 42, 180, 0, 253, 6, 160, 0, 5, 2, 172, 3, 60, 27, 17, 0, 156, 162, 0, 30]
abbrev dktX12_image_0 : List UInt8 := dkwX12_image_0 ++ dktX12_image_1
theorem dksX12_image_0 : cX12_image.data.toList.drop 0 = dktX12_image_0 := by decide +kernel
theorem dksX12_image_1 : cX12_image.data.toList.drop 24 = dktX12_image_1 := dk_seg dksX12_image_0 24 rfl rfl
theorem dksX12_image_2 : cX12_image.data.toList.drop 48 = dktX12_image_2 := dk_seg dksX12_image_1 24 rfl rfl
theorem dX12_image_0 : decode cX12_image 0 = .ok (.aload_n 0, 1) := dk_42 (dk_at dksX12_image_0 0 rfl rfl)
theorem dX12_image_1 : decode cX12_image 1 = .ok (.iconst 0, 1) := dk_3 (dk_at dksX12_image_0 1 rfl rfl)
theorem dX12_image_2 : decode cX12_image 2 = .ok (.putfield 1, 3) := dk_181 0 1 (dk_at dksX12_image_0 2 rfl rfl)
theorem dX12_image_5 : decode cX12_image 5 = .ok (.aload_n 0, 1) := dk_42 (dk_at dksX12_image_0 5 rfl rfl)
theorem dX12_image_6 : decode cX12_image 6 = .ok (.getfield 253, 3) := dk_180 0 253 (dk_at dksX12_image_0 6 rfl rfl)
theorem dX12_image_9 : decode cX12_image 9 = .ok (.iconst 3, 1) := dk_6 (dk_at dksX12_image_0 9 rfl rfl)
theorem dX12_image_10 : decode cX12_image 10 = .ok (.if_icmp .ne 5, 3) := dk_160 0 5 (dk_at dksX12_image_0 10 rfl rfl)
theorem dX12_image_13 : decode cX12_image 13 = .ok (.iconst (-1), 1) := dk_2 (dk_at dksX12_image_0 13 rfl rfl)
theorem dX12_image_14 : decode cX12_image 14 = .ok (.ireturn, 1) := dk_172 (dk_at dksX12_image_0 14 rfl rfl)
theorem dX12_image_15 : decode cX12_image 15 = .ok (.iconst 0, 1) := dk_3 (dk_at dksX12_image_0 15 rfl rfl)
theorem dX12_image_16 : decode cX12_image 16 = .ok (.istore_n 1, 1) := dk_60 (dk_at dksX12_image_0 16 rfl rfl)
theorem dX12_image_17 : decode cX12_image 17 = .ok (.iload_n 1, 1) := dk_27 (dk_at dksX12_image_0 17 rfl rfl)
theorem dX12_image_18 : decode cX12_image 18 = .ok (.sipush 156, 3) := dk_17 0 156 (dk_at dksX12_image_0 18 rfl rfl)
theorem dX12_image_21 : decode cX12_image 21 = .ok (.if_icmp .ge 30, 3) := dk_162 0 30 (dk_at dksX12_image_0 21 rfl rfl)
theorem dX12_image_24 : decode cX12_image 24 = .ok (.aload_n 0, 1) := dk_42 (dk_at dksX12_image_1 0 rfl rfl)
theorem dX12_image_25 : decode cX12_image 25 = .ok (.getfield 62, 3) := dk_180 0 62 (dk_at dksX12_image_1 1 rfl rfl)
theorem dX12_image_28 : decode cX12_image 28 = .ok (.sipush 156, 3) := dk_17 0 156 (dk_at dksX12_image_1 4 rfl rfl)
theorem dX12_image_31 : decode cX12_image 31 = .ok (.aload_n 0, 1) := dk_42 (dk_at dksX12_image_1 7 rfl rfl)
theorem dX12_image_32 : decode cX12_image 32 = .ok (.getfield 253, 3) := dk_180 0 253 (dk_at dksX12_image_1 8 rfl rfl)
theorem dX12_image_35 : decode cX12_image 35 = .ok (.imul, 1) := dk_104 (dk_at dksX12_image_1 11 rfl rfl)
theorem dX12_image_36 : decode cX12_image 36 = .ok (.iload_n 1, 1) := dk_27 (dk_at dksX12_image_1 12 rfl rfl)
theorem dX12_image_37 : decode cX12_image 37 = .ok (.iadd, 1) := dk_96 (dk_at dksX12_image_1 13 rfl rfl)
theorem dX12_image_38 : decode cX12_image 38 = .ok (.aload_n 0, 1) := dk_42 (dk_at dksX12_image_1 14 rfl rfl)
theorem dX12_image_39 : decode cX12_image 39 = .ok (.getfield 59, 3) := dk_180 0 59 (dk_at dksX12_image_1 15 rfl rfl)
theorem dX12_image_42 : decode cX12_image 42 = .ok (.iload_n 1, 1) := dk_27 (dk_at dksX12_image_1 18 rfl rfl)
theorem dX12_image_43 : decode cX12_image 43 = .ok (.iaload, 1) := dk_46 (dk_at dksX12_image_1 19 rfl rfl)
theorem dX12_image_44 : decode cX12_image 44 = .ok (.iastore, 1) := dk_79 (dk_at dksX12_image_1 20 rfl rfl)
theorem dX12_image_45 : decode cX12_image 45 = .ok (.iinc 1 1, 3) := dk_132 1 1 (dk_at dksX12_image_1 21 rfl rfl)
theorem dX12_image_48 : decode cX12_image 48 = .ok (.goto (-31), 3) := dk_167 255 225 (dk_at dksX12_image_2 0 rfl rfl)
theorem dX12_image_51 : decode cX12_image 51 = .ok (.aload_n 0, 1) := dk_42 (dk_at dksX12_image_2 3 rfl rfl)
theorem dX12_image_52 : decode cX12_image 52 = .ok (.dup, 1) := dk_89 (dk_at dksX12_image_2 4 rfl rfl)
theorem dX12_image_53 : decode cX12_image 53 = .ok (.getfield 253, 3) := dk_180 0 253 (dk_at dksX12_image_2 5 rfl rfl)
theorem dX12_image_56 : decode cX12_image 56 = .ok (.iconst 1, 1) := dk_4 (dk_at dksX12_image_2 8 rfl rfl)
theorem dX12_image_57 : decode cX12_image 57 = .ok (.iadd, 1) := dk_96 (dk_at dksX12_image_2 9 rfl rfl)
theorem dX12_image_58 : decode cX12_image 58 = .ok (.putfield 253, 3) := dk_181 0 253 (dk_at dksX12_image_2 10 rfl rfl)
theorem dX12_image_61 : decode cX12_image 61 = .ok (.aload_n 0, 1) := dk_42 (dk_at dksX12_image_2 13 rfl rfl)
theorem dX12_image_62 : decode cX12_image 62 = .ok (.getfield 253, 3) := dk_180 0 253 (dk_at dksX12_image_2 14 rfl rfl)
theorem dX12_image_65 : decode cX12_image 65 = .ok (.ireturn, 1) := dk_172 (dk_at dksX12_image_2 17 rfl rfl)
abbrev cX12_on : ByteArray := prog_27_method_131_code
def yX12_on : MethodName := ⟨RX12, "on", "()I"⟩
def dkwX12_on_2 : List UInt8 := [180, 0, 253, 104, 27, 96, 46, 79, 132, 1, 1, 167, 255, 225, 42, 180, 0, 253, 172]
abbrev dktX12_on_2 : List UInt8 := dkwX12_on_2 ++ []
def dkwX12_on_1 : List UInt8 := [3, 60, 27, 17, 0, 156, 162, 0, 30, 42, 180, 0, 59, 27, 42, 180, 0, 62, 17, 0, 156, 42]
abbrev dktX12_on_1 : List UInt8 := dkwX12_on_1 ++ dktX12_on_2
def dkwX12_on_0 : List UInt8 := [42, 3, 181, 0, 1, 42, 180, 0, 253, 154, 0, 5, 2, 172, 42, 89, 180, 0, 253, 4, 100, 181, 0, 253]
abbrev dktX12_on_0 : List UInt8 := dkwX12_on_0 ++ dktX12_on_1
theorem dksX12_on_0 : cX12_on.data.toList.drop 0 = dktX12_on_0 := by decide +kernel
theorem dksX12_on_1 : cX12_on.data.toList.drop 24 = dktX12_on_1 := dk_seg dksX12_on_0 24 rfl rfl
theorem dksX12_on_2 : cX12_on.data.toList.drop 46 = dktX12_on_2 := dk_seg dksX12_on_1 22 rfl rfl
theorem dX12_on_0 : decode cX12_on 0 = .ok (.aload_n 0, 1) := dk_42 (dk_at dksX12_on_0 0 rfl rfl)
theorem dX12_on_1 : decode cX12_on 1 = .ok (.iconst 0, 1) := dk_3 (dk_at dksX12_on_0 1 rfl rfl)
theorem dX12_on_2 : decode cX12_on 2 = .ok (.putfield 1, 3) := dk_181 0 1 (dk_at dksX12_on_0 2 rfl rfl)
theorem dX12_on_5 : decode cX12_on 5 = .ok (.aload_n 0, 1) := dk_42 (dk_at dksX12_on_0 5 rfl rfl)
theorem dX12_on_6 : decode cX12_on 6 = .ok (.getfield 253, 3) := dk_180 0 253 (dk_at dksX12_on_0 6 rfl rfl)
theorem dX12_on_9 : decode cX12_on 9 = .ok (.ifCond .ne 5, 3) := dk_154 0 5 (dk_at dksX12_on_0 9 rfl rfl)
theorem dX12_on_12 : decode cX12_on 12 = .ok (.iconst (-1), 1) := dk_2 (dk_at dksX12_on_0 12 rfl rfl)
theorem dX12_on_13 : decode cX12_on 13 = .ok (.ireturn, 1) := dk_172 (dk_at dksX12_on_0 13 rfl rfl)
theorem dX12_on_14 : decode cX12_on 14 = .ok (.aload_n 0, 1) := dk_42 (dk_at dksX12_on_0 14 rfl rfl)
theorem dX12_on_15 : decode cX12_on 15 = .ok (.dup, 1) := dk_89 (dk_at dksX12_on_0 15 rfl rfl)
theorem dX12_on_16 : decode cX12_on 16 = .ok (.getfield 253, 3) := dk_180 0 253 (dk_at dksX12_on_0 16 rfl rfl)
theorem dX12_on_19 : decode cX12_on 19 = .ok (.iconst 1, 1) := dk_4 (dk_at dksX12_on_0 19 rfl rfl)
theorem dX12_on_20 : decode cX12_on 20 = .ok (.isub, 1) := dk_100 (dk_at dksX12_on_0 20 rfl rfl)
theorem dX12_on_21 : decode cX12_on 21 = .ok (.putfield 253, 3) := dk_181 0 253 (dk_at dksX12_on_0 21 rfl rfl)
theorem dX12_on_24 : decode cX12_on 24 = .ok (.iconst 0, 1) := dk_3 (dk_at dksX12_on_1 0 rfl rfl)
theorem dX12_on_25 : decode cX12_on 25 = .ok (.istore_n 1, 1) := dk_60 (dk_at dksX12_on_1 1 rfl rfl)
theorem dX12_on_26 : decode cX12_on 26 = .ok (.iload_n 1, 1) := dk_27 (dk_at dksX12_on_1 2 rfl rfl)
theorem dX12_on_27 : decode cX12_on 27 = .ok (.sipush 156, 3) := dk_17 0 156 (dk_at dksX12_on_1 3 rfl rfl)
theorem dX12_on_30 : decode cX12_on 30 = .ok (.if_icmp .ge 30, 3) := dk_162 0 30 (dk_at dksX12_on_1 6 rfl rfl)
theorem dX12_on_33 : decode cX12_on 33 = .ok (.aload_n 0, 1) := dk_42 (dk_at dksX12_on_1 9 rfl rfl)
theorem dX12_on_34 : decode cX12_on 34 = .ok (.getfield 59, 3) := dk_180 0 59 (dk_at dksX12_on_1 10 rfl rfl)
theorem dX12_on_37 : decode cX12_on 37 = .ok (.iload_n 1, 1) := dk_27 (dk_at dksX12_on_1 13 rfl rfl)
theorem dX12_on_38 : decode cX12_on 38 = .ok (.aload_n 0, 1) := dk_42 (dk_at dksX12_on_1 14 rfl rfl)
theorem dX12_on_39 : decode cX12_on 39 = .ok (.getfield 62, 3) := dk_180 0 62 (dk_at dksX12_on_1 15 rfl rfl)
theorem dX12_on_42 : decode cX12_on 42 = .ok (.sipush 156, 3) := dk_17 0 156 (dk_at dksX12_on_1 18 rfl rfl)
theorem dX12_on_45 : decode cX12_on 45 = .ok (.aload_n 0, 1) := dk_42 (dk_at dksX12_on_1 21 rfl rfl)
theorem dX12_on_46 : decode cX12_on 46 = .ok (.getfield 253, 3) := dk_180 0 253 (dk_at dksX12_on_2 0 rfl rfl)
theorem dX12_on_49 : decode cX12_on 49 = .ok (.imul, 1) := dk_104 (dk_at dksX12_on_2 3 rfl rfl)
theorem dX12_on_50 : decode cX12_on 50 = .ok (.iload_n 1, 1) := dk_27 (dk_at dksX12_on_2 4 rfl rfl)
theorem dX12_on_51 : decode cX12_on 51 = .ok (.iadd, 1) := dk_96 (dk_at dksX12_on_2 5 rfl rfl)
theorem dX12_on_52 : decode cX12_on 52 = .ok (.iaload, 1) := dk_46 (dk_at dksX12_on_2 6 rfl rfl)
theorem dX12_on_53 : decode cX12_on 53 = .ok (.iastore, 1) := dk_79 (dk_at dksX12_on_2 7 rfl rfl)
theorem dX12_on_54 : decode cX12_on 54 = .ok (.iinc 1 1, 3) := dk_132 1 1 (dk_at dksX12_on_2 8 rfl rfl)
theorem dX12_on_57 : decode cX12_on 57 = .ok (.goto (-31), 3) := dk_167 255 225 (dk_at dksX12_on_2 11 rfl rfl)
theorem dX12_on_60 : decode cX12_on 60 = .ok (.aload_n 0, 1) := dk_42 (dk_at dksX12_on_2 14 rfl rfl)
theorem dX12_on_61 : decode cX12_on 61 = .ok (.getfield 253, 3) := dk_180 0 253 (dk_at dksX12_on_2 15 rfl rfl)
theorem dX12_on_64 : decode cX12_on 64 = .ok (.ireturn, 1) := dk_172 (dk_at dksX12_on_2 18 rfl rfl)
abbrev cX12_status : ByteArray := prog_27_method_132_code
def yX12_status : MethodName := ⟨RX12, "status", "(I)I"⟩
def dkwX12_status_1 : List UInt8 := [172]
abbrev dktX12_status_1 : List UInt8 := dkwX12_status_1 ++ []
def dkwX12_status_0 : List UInt8 := [42, 3, 181, 0, 1, 27, 3, 6, 184, 1, 58, 153, 0, 12, 42, 180, 0, 7, 27, 46, 167, 0, 4, 2]
abbrev dktX12_status_0 : List UInt8 := dkwX12_status_0 ++ dktX12_status_1
theorem dksX12_status_0 : cX12_status.data.toList.drop 0 = dktX12_status_0 := by decide +kernel
theorem dksX12_status_1 : cX12_status.data.toList.drop 24 = dktX12_status_1 := dk_seg dksX12_status_0 24 rfl rfl
theorem dX12_status_0 : decode cX12_status 0 = .ok (.aload_n 0, 1) := dk_42 (dk_at dksX12_status_0 0 rfl rfl)
theorem dX12_status_1 : decode cX12_status 1 = .ok (.iconst 0, 1) := dk_3 (dk_at dksX12_status_0 1 rfl rfl)
theorem dX12_status_2 : decode cX12_status 2 = .ok (.putfield 1, 3) := dk_181 0 1 (dk_at dksX12_status_0 2 rfl rfl)
theorem dX12_status_5 : decode cX12_status 5 = .ok (.iload_n 1, 1) := dk_27 (dk_at dksX12_status_0 5 rfl rfl)
theorem dX12_status_6 : decode cX12_status 6 = .ok (.iconst 0, 1) := dk_3 (dk_at dksX12_status_0 6 rfl rfl)
theorem dX12_status_7 : decode cX12_status 7 = .ok (.iconst 3, 1) := dk_6 (dk_at dksX12_status_0 7 rfl rfl)
theorem dX12_status_8 : decode cX12_status 8 = .ok (.invokestatic 314, 3) := dk_184 1 58 (dk_at dksX12_status_0 8 rfl rfl)
theorem dX12_status_11 : decode cX12_status 11 = .ok (.ifCond .eq 12, 3) := dk_153 0 12 (dk_at dksX12_status_0 11 rfl rfl)
theorem dX12_status_14 : decode cX12_status 14 = .ok (.aload_n 0, 1) := dk_42 (dk_at dksX12_status_0 14 rfl rfl)
theorem dX12_status_15 : decode cX12_status 15 = .ok (.getfield 7, 3) := dk_180 0 7 (dk_at dksX12_status_0 15 rfl rfl)
theorem dX12_status_18 : decode cX12_status 18 = .ok (.iload_n 1, 1) := dk_27 (dk_at dksX12_status_0 18 rfl rfl)
theorem dX12_status_19 : decode cX12_status 19 = .ok (.iaload, 1) := dk_46 (dk_at dksX12_status_0 19 rfl rfl)
theorem dX12_status_20 : decode cX12_status 20 = .ok (.goto 4, 3) := dk_167 0 4 (dk_at dksX12_status_0 20 rfl rfl)
theorem dX12_status_23 : decode cX12_status 23 = .ok (.iconst (-1), 1) := dk_2 (dk_at dksX12_status_0 23 rfl rfl)
theorem dX12_status_24 : decode cX12_status 24 = .ok (.ireturn, 1) := dk_172 (dk_at dksX12_status_1 0 rfl rfl)
abbrev cX12_count : ByteArray := prog_27_method_133_code
def yX12_count : MethodName := ⟨RX12, "count", "(I)I"⟩
def dkwX12_count_4 : List UInt8 := [132, 3, 1, 167, 255, 226, 28, 172, 2, 172]
abbrev dktX12_count_4 : List UInt8 := dkwX12_count_4 ++ []
def dkwX12_count_3 : List UInt8 := [162, 0, 30, 28, 42, 180, 0, 59, 16, 29, 29, 96, 46, 2, 159, 0, 7, 4, 167, 0, 4, 3, 96, 61]
abbrev dktX12_count_3 : List UInt8 := dkwX12_count_3 ++ dktX12_count_4
def dkwX12_count_2 : List UInt8 := [42, 180, 0, 59, 16, 54, 46, 172, 42, 180, 0, 253, 172, 42, 180, 0, 121, 172, 3, 62, 29, 16, 24]
abbrev dktX12_count_2 : List UInt8 := dkwX12_count_2 ++ dktX12_count_3
def dkwX12_count_1 : List UInt8 := [170, 0, 0, 0, 0, 0, 0, 87, 0, 0, 0, 0, 0, 0, 0, 3, 0, 0, 0, 32, 0, 0, 0, 40, 0, 0, 0, 45, 0, 0, 0, 50]
abbrev dktX12_count_1 : List UInt8 := dkwX12_count_1 ++ dktX12_count_2
def dkwX12_count_0 : List UInt8 := [42, 3, 181, 0, 1, 3, 61, 27]
abbrev dktX12_count_0 : List UInt8 := dkwX12_count_0 ++ dktX12_count_1
theorem dksX12_count_0 : cX12_count.data.toList.drop 0 = dktX12_count_0 := by decide +kernel
theorem dksX12_count_1 : cX12_count.data.toList.drop 8 = dktX12_count_1 := dk_seg dksX12_count_0 8 rfl rfl
theorem dksX12_count_2 : cX12_count.data.toList.drop 40 = dktX12_count_2 := dk_seg dksX12_count_1 32 rfl rfl
theorem dksX12_count_3 : cX12_count.data.toList.drop 63 = dktX12_count_3 := dk_seg dksX12_count_2 23 rfl rfl
theorem dksX12_count_4 : cX12_count.data.toList.drop 87 = dktX12_count_4 := dk_seg dksX12_count_3 24 rfl rfl
theorem dX12_count_0 : decode cX12_count 0 = .ok (.aload_n 0, 1) := dk_42 (dk_at dksX12_count_0 0 rfl rfl)
theorem dX12_count_1 : decode cX12_count 1 = .ok (.iconst 0, 1) := dk_3 (dk_at dksX12_count_0 1 rfl rfl)
theorem dX12_count_2 : decode cX12_count 2 = .ok (.putfield 1, 3) := dk_181 0 1 (dk_at dksX12_count_0 2 rfl rfl)
theorem dX12_count_5 : decode cX12_count 5 = .ok (.iconst 0, 1) := dk_3 (dk_at dksX12_count_0 5 rfl rfl)
theorem dX12_count_6 : decode cX12_count 6 = .ok (.istore_n 2, 1) := dk_61 (dk_at dksX12_count_0 6 rfl rfl)
theorem dX12_count_7 : decode cX12_count 7 = .ok (.iload_n 1, 1) := dk_27 (dk_at dksX12_count_0 7 rfl rfl)
theorem dX12_count_8 : decode cX12_count 8 = .ok (.tableswitch 87 0 3 #[32, 40, 45, 50], 32) := by decide +kernel
theorem dX12_count_40 : decode cX12_count 40 = .ok (.aload_n 0, 1) := dk_42 (dk_at dksX12_count_2 0 rfl rfl)
theorem dX12_count_41 : decode cX12_count 41 = .ok (.getfield 59, 3) := dk_180 0 59 (dk_at dksX12_count_2 1 rfl rfl)
theorem dX12_count_44 : decode cX12_count 44 = .ok (.bipush 54, 2) := dk_16 54 (dk_at dksX12_count_2 4 rfl rfl)
theorem dX12_count_46 : decode cX12_count 46 = .ok (.iaload, 1) := dk_46 (dk_at dksX12_count_2 6 rfl rfl)
theorem dX12_count_47 : decode cX12_count 47 = .ok (.ireturn, 1) := dk_172 (dk_at dksX12_count_2 7 rfl rfl)
theorem dX12_count_48 : decode cX12_count 48 = .ok (.aload_n 0, 1) := dk_42 (dk_at dksX12_count_2 8 rfl rfl)
theorem dX12_count_49 : decode cX12_count 49 = .ok (.getfield 253, 3) := dk_180 0 253 (dk_at dksX12_count_2 9 rfl rfl)
theorem dX12_count_52 : decode cX12_count 52 = .ok (.ireturn, 1) := dk_172 (dk_at dksX12_count_2 12 rfl rfl)
theorem dX12_count_53 : decode cX12_count 53 = .ok (.aload_n 0, 1) := dk_42 (dk_at dksX12_count_2 13 rfl rfl)
theorem dX12_count_54 : decode cX12_count 54 = .ok (.getfield 121, 3) := dk_180 0 121 (dk_at dksX12_count_2 14 rfl rfl)
theorem dX12_count_57 : decode cX12_count 57 = .ok (.ireturn, 1) := dk_172 (dk_at dksX12_count_2 17 rfl rfl)
theorem dX12_count_58 : decode cX12_count 58 = .ok (.iconst 0, 1) := dk_3 (dk_at dksX12_count_2 18 rfl rfl)
theorem dX12_count_59 : decode cX12_count 59 = .ok (.istore_n 3, 1) := dk_62 (dk_at dksX12_count_2 19 rfl rfl)
theorem dX12_count_60 : decode cX12_count 60 = .ok (.iload_n 3, 1) := dk_29 (dk_at dksX12_count_2 20 rfl rfl)
theorem dX12_count_61 : decode cX12_count 61 = .ok (.bipush 24, 2) := dk_16 24 (dk_at dksX12_count_2 21 rfl rfl)
theorem dX12_count_63 : decode cX12_count 63 = .ok (.if_icmp .ge 30, 3) := dk_162 0 30 (dk_at dksX12_count_3 0 rfl rfl)
theorem dX12_count_66 : decode cX12_count 66 = .ok (.iload_n 2, 1) := dk_28 (dk_at dksX12_count_3 3 rfl rfl)
theorem dX12_count_67 : decode cX12_count 67 = .ok (.aload_n 0, 1) := dk_42 (dk_at dksX12_count_3 4 rfl rfl)
theorem dX12_count_68 : decode cX12_count 68 = .ok (.getfield 59, 3) := dk_180 0 59 (dk_at dksX12_count_3 5 rfl rfl)
theorem dX12_count_71 : decode cX12_count 71 = .ok (.bipush 29, 2) := dk_16 29 (dk_at dksX12_count_3 8 rfl rfl)
theorem dX12_count_73 : decode cX12_count 73 = .ok (.iload_n 3, 1) := dk_29 (dk_at dksX12_count_3 10 rfl rfl)
theorem dX12_count_74 : decode cX12_count 74 = .ok (.iadd, 1) := dk_96 (dk_at dksX12_count_3 11 rfl rfl)
theorem dX12_count_75 : decode cX12_count 75 = .ok (.iaload, 1) := dk_46 (dk_at dksX12_count_3 12 rfl rfl)
theorem dX12_count_76 : decode cX12_count 76 = .ok (.iconst (-1), 1) := dk_2 (dk_at dksX12_count_3 13 rfl rfl)
theorem dX12_count_77 : decode cX12_count 77 = .ok (.if_icmp .eq 7, 3) := dk_159 0 7 (dk_at dksX12_count_3 14 rfl rfl)
theorem dX12_count_80 : decode cX12_count 80 = .ok (.iconst 1, 1) := dk_4 (dk_at dksX12_count_3 17 rfl rfl)
theorem dX12_count_81 : decode cX12_count 81 = .ok (.goto 4, 3) := dk_167 0 4 (dk_at dksX12_count_3 18 rfl rfl)
theorem dX12_count_84 : decode cX12_count 84 = .ok (.iconst 0, 1) := dk_3 (dk_at dksX12_count_3 21 rfl rfl)
theorem dX12_count_85 : decode cX12_count 85 = .ok (.iadd, 1) := dk_96 (dk_at dksX12_count_3 22 rfl rfl)
theorem dX12_count_86 : decode cX12_count 86 = .ok (.istore_n 2, 1) := dk_61 (dk_at dksX12_count_3 23 rfl rfl)
theorem dX12_count_87 : decode cX12_count 87 = .ok (.iinc 3 1, 3) := dk_132 3 1 (dk_at dksX12_count_4 0 rfl rfl)
theorem dX12_count_90 : decode cX12_count 90 = .ok (.goto (-30), 3) := dk_167 255 226 (dk_at dksX12_count_4 3 rfl rfl)
theorem dX12_count_93 : decode cX12_count 93 = .ok (.iload_n 2, 1) := dk_28 (dk_at dksX12_count_4 6 rfl rfl)
theorem dX12_count_94 : decode cX12_count 94 = .ok (.ireturn, 1) := dk_172 (dk_at dksX12_count_4 7 rfl rfl)
theorem dX12_count_95 : decode cX12_count 95 = .ok (.iconst (-1), 1) := dk_2 (dk_at dksX12_count_4 8 rfl rfl)
theorem dX12_count_96 : decode cX12_count 96 = .ok (.ireturn, 1) := dk_172 (dk_at dksX12_count_4 9 rfl rfl)
theorem q148 : (Jvm.Cond.initialized "GlassLeadersModel") ∈ lw_all := lw_g (lw_at lw_m1 15 rfl) rfl
theorem q651 : (Jvm.Cond.selects "GlassLeadersModel" ({ cls := "java/lang/Object", name := "getClass", desc := "()Ljava/lang/Class;" } : Jvm.MethodName) ({ cls := "java/lang/Object", name := "getClass", desc := "()Ljava/lang/Class;" } : Jvm.MethodName)) ∈ lw_all := lw_g (lw_at lw_m3 38 rfl) rfl
theorem q2126 : (Jvm.Cond.instanceMethod ({ cls := "GlassLeadersModel", name := "thrown", desc := "()I" } : Jvm.MethodName)) ∈ lw_all := lw_g (lw_at lw_m9 73 rfl) rfl
theorem q2127 : (Jvm.Cond.selects "GlassLeadersModel" ({ cls := "GlassLeadersModel", name := "thrown", desc := "()I" } : Jvm.MethodName) ({ cls := "GlassLeadersModel", name := "thrown", desc := "()I" } : Jvm.MethodName)) ∈ lw_all := lw_g (lw_at lw_m9 74 rfl) rfl
theorem q2128 : (Jvm.Cond.code ({ cls := "GlassLeadersModel", name := "thrown", desc := "()I" } : Jvm.MethodName) prog_27_method_1_code (1 : Nat) (Option.some Jvm.ClassFile.FieldType.int)) ∈ lw_all := lw_g (lw_at lw_m9 75 rfl) rfl
theorem q2130 : (Jvm.Cond.instantiable "GlassLeadersModel" (53 : Nat)) ∈ lw_all := lw_g (lw_at lw_m9 77 rfl) rfl
theorem q2132 : (Jvm.Cond.instanceMethod ({ cls := "GlassLeadersModel", name := "<init>", desc := "()V" } : Jvm.MethodName)) ∈ lw_all := lw_g (lw_at lw_m9 79 rfl) rfl
theorem q2133 : (Jvm.Cond.code ({ cls := "GlassLeadersModel", name := "<init>", desc := "()V" } : Jvm.MethodName) prog_27_method_4_code (1 : Nat) (Option.none : Option Jvm.ClassFile.FieldType)) ∈ lw_all := lw_g (lw_at lw_m9 80 rfl) rfl
theorem q2134 : (Jvm.Cond.methodLink "GlassLeadersModel" (11 : Nat) ({ cls := "java/lang/Object", name := "<init>", desc := "()V" } : Jvm.MethodName)) ∈ lw_all := lw_g (lw_at lw_m9 81 rfl) rfl
theorem q2135 : (Jvm.Cond.methodLink "GlassLeadersModel" (118 : Nat) ({ cls := "GlassLeadersModel", name := "anew", desc := "()V" } : Jvm.MethodName)) ∈ lw_all := lw_g (lw_at lw_m9 82 rfl) rfl
theorem q2136 : (Jvm.Cond.privateMethod ({ cls := "GlassLeadersModel", name := "anew", desc := "()V" } : Jvm.MethodName)) ∈ lw_tbl := lw_at lw_m9 83 rfl
theorem q2137 : (Jvm.Cond.instanceMethod ({ cls := "GlassLeadersModel", name := "anew", desc := "()V" } : Jvm.MethodName)) ∈ lw_all := lw_g (lw_at lw_m9 84 rfl) rfl
theorem q2138 : (Jvm.Cond.code ({ cls := "GlassLeadersModel", name := "anew", desc := "()V" } : Jvm.MethodName) prog_27_method_41_code (2 : Nat) (Option.none : Option Jvm.ClassFile.FieldType)) ∈ lw_all := lw_g (lw_at lw_m9 85 rfl) rfl
theorem q2139 : (Jvm.Cond.fieldLink "GlassLeadersModel" (1 : Nat) "GlassLeadersModel" "thrown" "I") ∈ lw_all := lw_g (lw_at lw_m9 86 rfl) rfl
theorem q2140 : (Jvm.Cond.fieldLink "GlassLeadersModel" (7 : Nat) "GlassLeadersModel" "refused" "[I") ∈ lw_all := lw_g (lw_at lw_m9 87 rfl) rfl
theorem q2141 : (Jvm.Cond.fieldLink "GlassLeadersModel" (121 : Nat) "GlassLeadersModel" "taped" "I") ∈ lw_all := lw_g (lw_at lw_m9 88 rfl) rfl
theorem q2142 : (Jvm.Cond.fieldLink "GlassLeadersModel" (133 : Nat) "GlassLeadersModel" "size" "I") ∈ lw_all := lw_g (lw_at lw_m9 89 rfl) rfl
theorem q2143 : (Jvm.Cond.fieldLink "GlassLeadersModel" (130 : Nat) "GlassLeadersModel" "at" "I") ∈ lw_all := lw_g (lw_at lw_m9 90 rfl) rfl
theorem q2144 : (Jvm.Cond.fieldLink "GlassLeadersModel" (124 : Nat) "GlassLeadersModel" "bad" "I") ∈ lw_all := lw_g (lw_at lw_m9 91 rfl) rfl
theorem q2145 : (Jvm.Cond.fieldLink "GlassLeadersModel" (127 : Nat) "GlassLeadersModel" "badKind" "I") ∈ lw_all := lw_g (lw_at lw_m9 92 rfl) rfl
theorem q2146 : (Jvm.Cond.fieldLink "GlassLeadersModel" (164 : Nat) "GlassLeadersModel" "opens" "I") ∈ lw_all := lw_g (lw_at lw_m9 93 rfl) rfl
theorem q2147 : (Jvm.Cond.fieldLink "GlassLeadersModel" (17 : Nat) "GlassLeadersModel" "faultAt" "I") ∈ lw_all := lw_g (lw_at lw_m9 94 rfl) rfl
theorem q2148 : (Jvm.Cond.fieldLink "GlassLeadersModel" (20 : Nat) "GlassLeadersModel" "tape" "[I") ∈ lw_all := lw_g (lw_at lw_m9 95 rfl) rfl
theorem q2149 : (Jvm.Cond.fieldLink "GlassLeadersModel" (23 : Nat) "GlassLeadersModel" "l" "[I") ∈ lw_all := lw_g (lw_at lw_m9 96 rfl) rfl
theorem q2150 : (Jvm.Cond.fieldLink "GlassLeadersModel" (26 : Nat) "GlassLeadersModel" "read" "[I") ∈ lw_all := lw_g (lw_at lw_m9 97 rfl) rfl
theorem q2151 : (Jvm.Cond.fieldLink "GlassLeadersModel" (249 : Nat) "GlassLeadersModel" "isLand" "Z") ∈ lw_all := lw_g (lw_at lw_m9 98 rfl) rfl
theorem q2152 : (Jvm.Cond.fieldLink "GlassLeadersModel" (256 : Nat) "GlassLeadersModel" "rules" "I") ∈ lw_all := lw_g (lw_at lw_m9 99 rfl) rfl
theorem q2153 : (Jvm.Cond.fieldLink "GlassLeadersModel" (259 : Nat) "GlassLeadersModel" "steps" "I") ∈ lw_all := lw_g (lw_at lw_m9 100 rfl) rfl
theorem q2154 : (Jvm.Cond.fieldLink "GlassLeadersModel" (29 : Nat) "GlassLeadersModel" "step" "[I") ∈ lw_all := lw_g (lw_at lw_m9 101 rfl) rfl
theorem q2155 : (Jvm.Cond.fieldLink "GlassLeadersModel" (32 : Nat) "GlassLeadersModel" "stepValue" "[I") ∈ lw_all := lw_g (lw_at lw_m9 102 rfl) rfl
theorem q2156 : (Jvm.Cond.fieldLink "GlassLeadersModel" (35 : Nat) "GlassLeadersModel" "newStep" "[I") ∈ lw_all := lw_g (lw_at lw_m9 103 rfl) rfl
theorem q2157 : (Jvm.Cond.fieldLink "GlassLeadersModel" (38 : Nat) "GlassLeadersModel" "newValue" "[I") ∈ lw_all := lw_g (lw_at lw_m9 104 rfl) rfl
theorem q2158 : (Jvm.Cond.fieldLink "GlassLeadersModel" (41 : Nat) "GlassLeadersModel" "ruleGo" "[I") ∈ lw_all := lw_g (lw_at lw_m9 105 rfl) rfl
theorem q2159 : (Jvm.Cond.fieldLink "GlassLeadersModel" (44 : Nat) "GlassLeadersModel" "ruleTo" "[I") ∈ lw_all := lw_g (lw_at lw_m9 106 rfl) rfl
theorem q2160 : (Jvm.Cond.fieldLink "GlassLeadersModel" (47 : Nat) "GlassLeadersModel" "newGo" "[I") ∈ lw_all := lw_g (lw_at lw_m9 107 rfl) rfl
theorem q2161 : (Jvm.Cond.fieldLink "GlassLeadersModel" (50 : Nat) "GlassLeadersModel" "newTo" "[I") ∈ lw_all := lw_g (lw_at lw_m9 108 rfl) rfl
theorem q2162 : (Jvm.Cond.fieldLink "GlassLeadersModel" (53 : Nat) "GlassLeadersModel" "stack" "[I") ∈ lw_all := lw_g (lw_at lw_m9 109 rfl) rfl
theorem q2163 : (Jvm.Cond.fieldLink "GlassLeadersModel" (56 : Nat) "GlassLeadersModel" "names" "[I") ∈ lw_all := lw_g (lw_at lw_m9 110 rfl) rfl
theorem q2164 : (Jvm.Cond.fieldLink "GlassLeadersModel" (59 : Nat) "GlassLeadersModel" "s" "[I") ∈ lw_all := lw_g (lw_at lw_m9 111 rfl) rfl
theorem q2165 : (Jvm.Cond.fieldLink "GlassLeadersModel" (62 : Nat) "GlassLeadersModel" "image" "[I") ∈ lw_all := lw_g (lw_at lw_m9 112 rfl) rfl
theorem q2166 : (Jvm.Cond.fieldLink "GlassLeadersModel" (253 : Nat) "GlassLeadersModel" "images" "I") ∈ lw_all := lw_g (lw_at lw_m9 113 rfl) rfl
theorem q2167 : (Jvm.Cond.fieldLink "GlassLeadersModel" (311 : Nat) "GlassLeadersModel" "isKnown" "Z") ∈ lw_all := lw_g (lw_at lw_m9 114 rfl) rfl
theorem q2168 : (Jvm.Cond.fieldLink "GlassLeadersModel" (65 : Nat) "GlassLeadersModel" "leads" "[I") ∈ lw_all := lw_g (lw_at lw_m9 115 rfl) rfl
theorem q2169 : (Jvm.Cond.fieldLink "GlassLeadersModel" (68 : Nat) "GlassLeadersModel" "kinds" "[I") ∈ lw_all := lw_g (lw_at lw_m9 116 rfl) rfl
theorem q2170 : (Jvm.Cond.fieldLink "GlassLeadersModel" (348 : Nat) "GlassLeadersModel" "store" "I") ∈ lw_all := lw_g (lw_at lw_m9 117 rfl) rfl
theorem q2171 : (Jvm.Cond.fieldLink "GlassLeadersModel" (71 : Nat) "GlassLeadersModel" "omitted" "I") ∈ lw_all := lw_g (lw_at lw_m9 118 rfl) rfl
theorem q2172 : (Jvm.Cond.fieldLink "GlassLeadersModel" (74 : Nat) "GlassLeadersModel" "pactOne" "I") ∈ lw_all := lw_g (lw_at lw_m9 119 rfl) rfl
theorem q2173 : (Jvm.Cond.fieldLink "GlassLeadersModel" (77 : Nat) "GlassLeadersModel" "pactOther" "I") ∈ lw_all := lw_g (lw_at lw_m9 120 rfl) rfl
theorem q2174 : (Jvm.Cond.fieldLink "GlassLeadersModel" (388 : Nat) "GlassLeadersModel" "isVoted" "Z") ∈ lw_all := lw_g (lw_at lw_m9 121 rfl) rfl
theorem q2175 : (Jvm.Cond.fieldLink "GlassLeadersModel" (80 : Nat) "GlassLeadersModel" "lawful" "[I") ∈ lw_all := lw_g (lw_at lw_m9 122 rfl) rfl
theorem q2176 : (Jvm.Cond.fieldLink "GlassLeadersModel" (83 : Nat) "GlassLeadersModel" "takes" "[I") ∈ lw_all := lw_g (lw_at lw_m9 123 rfl) rfl
theorem q2177 : (Jvm.Cond.fieldLink "GlassLeadersModel" (86 : Nat) "GlassLeadersModel" "scale" "[J") ∈ lw_all := lw_g (lw_at lw_m9 124 rfl) rfl
theorem q2178 : (Jvm.Cond.fieldLink "GlassLeadersModel" (90 : Nat) "GlassLeadersModel" "worth" "[J") ∈ lw_all := lw_g (lw_at lw_m9 125 rfl) rfl
theorem q2179 : (Jvm.Cond.fieldLink "GlassLeadersModel" (93 : Nat) "GlassLeadersModel" "aloneWorth" "[J") ∈ lw_all := lw_g (lw_at lw_m9 126 rfl) rfl
theorem q2180 : (Jvm.Cond.fieldLink "GlassLeadersModel" (96 : Nat) "GlassLeadersModel" "blindWorth" "[J") ∈ lw_all := lw_g (lw_at lw_m9 127 rfl) rfl
theorem q2181 : (Jvm.Cond.fieldLink "GlassLeadersModel" (99 : Nat) "GlassLeadersModel" "snowy" "[Z") ∈ lw_all := lw_g (lw_at lw_m9 128 rfl) rfl
theorem q2182 : (Jvm.Cond.fieldLink "GlassLeadersModel" (103 : Nat) "GlassLeadersModel" "votes" "[I") ∈ lw_all := lw_g (lw_at lw_m9 129 rfl) rfl
theorem q2183 : (Jvm.Cond.fieldLink "GlassLeadersModel" (434 : Nat) "GlassLeadersModel" "atPlace" "I") ∈ lw_all := lw_g (lw_at lw_m9 130 rfl) rfl
theorem q2184 : (Jvm.Cond.fieldLink "GlassLeadersModel" (437 : Nat) "GlassLeadersModel" "atHour" "I") ∈ lw_all := lw_g (lw_at lw_m9 131 rfl) rfl
theorem q2185 : (Jvm.Cond.fieldLink "GlassLeadersModel" (440 : Nat) "GlassLeadersModel" "atStores" "I") ∈ lw_all := lw_g (lw_at lw_m9 132 rfl) rfl
theorem q2186 : (Jvm.Cond.fieldLink "GlassLeadersModel" (106 : Nat) "GlassLeadersModel" "before" "[J") ∈ lw_all := lw_g (lw_at lw_m9 133 rfl) rfl
theorem q2187 : (Jvm.Cond.fieldLink "GlassLeadersModel" (109 : Nat) "GlassLeadersModel" "round" "[I") ∈ lw_all := lw_g (lw_at lw_m9 134 rfl) rfl
theorem q2188 : (Jvm.Cond.fieldLink "GlassLeadersModel" (461 : Nat) "GlassLeadersModel" "bestRound" "I") ∈ lw_all := lw_g (lw_at lw_m9 135 rfl) rfl
theorem q2189 : (Jvm.Cond.fieldLink "GlassLeadersModel" (464 : Nat) "GlassLeadersModel" "bestWorth" "J") ∈ lw_all := lw_g (lw_at lw_m9 136 rfl) rfl
theorem q2190 : (Jvm.Cond.fieldLink "GlassLeadersModel" (112 : Nat) "GlassLeadersModel" "can" "[Z") ∈ lw_all := lw_g (lw_at lw_m9 137 rfl) rfl
theorem q2191 : (Jvm.Cond.fieldLink "GlassLeadersModel" (115 : Nat) "GlassLeadersModel" "mass" "[J") ∈ lw_all := lw_g (lw_at lw_m9 138 rfl) rfl
theorem q2192 : (Jvm.Cond.lays "GlassLeadersModel" "GlassLeadersModel" "thrown" "I") ∈ lw_all := lw_g (lw_at lw_m9 139 rfl) rfl
theorem q2193 : (Jvm.Cond.soleField "GlassLeadersModel" "thrown") ∈ lw_all := lw_g (lw_at lw_m9 140 rfl) rfl
theorem q2194 : (Jvm.Cond.laysFinal "GlassLeadersModel" "GlassLeadersModel" "refused" "[I") ∈ lw_all := lw_g (lw_at lw_m9 141 rfl) rfl
theorem q2195 : (Jvm.Cond.soleField "GlassLeadersModel" "refused") ∈ lw_all := lw_g (lw_at lw_m9 142 rfl) rfl
theorem q2196 : (Jvm.Cond.lays "GlassLeadersModel" "GlassLeadersModel" "taped" "I") ∈ lw_all := lw_g (lw_at lw_m9 143 rfl) rfl
theorem q2197 : (Jvm.Cond.soleField "GlassLeadersModel" "taped") ∈ lw_all := lw_g (lw_at lw_m9 144 rfl) rfl
theorem q2198 : (Jvm.Cond.lays "GlassLeadersModel" "GlassLeadersModel" "size" "I") ∈ lw_all := lw_g (lw_at lw_m9 145 rfl) rfl
theorem q2199 : (Jvm.Cond.soleField "GlassLeadersModel" "size") ∈ lw_all := lw_g (lw_at lw_m9 146 rfl) rfl
theorem q2200 : (Jvm.Cond.lays "GlassLeadersModel" "GlassLeadersModel" "at" "I") ∈ lw_all := lw_g (lw_at lw_m9 147 rfl) rfl
theorem q2201 : (Jvm.Cond.soleField "GlassLeadersModel" "at") ∈ lw_all := lw_g (lw_at lw_m9 148 rfl) rfl
theorem q2202 : (Jvm.Cond.lays "GlassLeadersModel" "GlassLeadersModel" "bad" "I") ∈ lw_all := lw_g (lw_at lw_m9 149 rfl) rfl
theorem q2203 : (Jvm.Cond.soleField "GlassLeadersModel" "bad") ∈ lw_all := lw_g (lw_at lw_m9 150 rfl) rfl
theorem q2204 : (Jvm.Cond.lays "GlassLeadersModel" "GlassLeadersModel" "badKind" "I") ∈ lw_all := lw_g (lw_at lw_m9 151 rfl) rfl
theorem q2205 : (Jvm.Cond.soleField "GlassLeadersModel" "badKind") ∈ lw_all := lw_g (lw_at lw_m9 152 rfl) rfl
theorem q2206 : (Jvm.Cond.lays "GlassLeadersModel" "GlassLeadersModel" "opens" "I") ∈ lw_all := lw_g (lw_at lw_m9 153 rfl) rfl
theorem q2207 : (Jvm.Cond.soleField "GlassLeadersModel" "opens") ∈ lw_all := lw_g (lw_at lw_m9 154 rfl) rfl
theorem q2208 : (Jvm.Cond.lays "GlassLeadersModel" "GlassLeadersModel" "faultAt" "I") ∈ lw_all := lw_g (lw_at lw_m9 155 rfl) rfl
theorem q2209 : (Jvm.Cond.soleField "GlassLeadersModel" "faultAt") ∈ lw_all := lw_g (lw_at lw_m9 156 rfl) rfl
theorem q2210 : (Jvm.Cond.laysFinal "GlassLeadersModel" "GlassLeadersModel" "tape" "[I") ∈ lw_all := lw_g (lw_at lw_m9 157 rfl) rfl
theorem q2211 : (Jvm.Cond.soleField "GlassLeadersModel" "tape") ∈ lw_all := lw_g (lw_at lw_m9 158 rfl) rfl
theorem q2212 : (Jvm.Cond.laysFinal "GlassLeadersModel" "GlassLeadersModel" "l" "[I") ∈ lw_all := lw_g (lw_at lw_m9 159 rfl) rfl
theorem q2213 : (Jvm.Cond.soleField "GlassLeadersModel" "l") ∈ lw_all := lw_g (lw_at lw_m9 160 rfl) rfl
theorem q2214 : (Jvm.Cond.laysFinal "GlassLeadersModel" "GlassLeadersModel" "read" "[I") ∈ lw_all := lw_g (lw_at lw_m9 161 rfl) rfl
theorem q2215 : (Jvm.Cond.soleField "GlassLeadersModel" "read") ∈ lw_all := lw_g (lw_at lw_m9 162 rfl) rfl
theorem q2216 : (Jvm.Cond.lays "GlassLeadersModel" "GlassLeadersModel" "isLand" "Z") ∈ lw_all := lw_g (lw_at lw_m9 163 rfl) rfl
theorem q2217 : (Jvm.Cond.soleField "GlassLeadersModel" "isLand") ∈ lw_all := lw_g (lw_at lw_m9 164 rfl) rfl
theorem q2218 : (Jvm.Cond.lays "GlassLeadersModel" "GlassLeadersModel" "rules" "I") ∈ lw_all := lw_g (lw_at lw_m9 165 rfl) rfl
theorem q2219 : (Jvm.Cond.soleField "GlassLeadersModel" "rules") ∈ lw_all := lw_g (lw_at lw_m9 166 rfl) rfl
theorem q2220 : (Jvm.Cond.lays "GlassLeadersModel" "GlassLeadersModel" "steps" "I") ∈ lw_all := lw_g (lw_at lw_m9 167 rfl) rfl
theorem q2221 : (Jvm.Cond.soleField "GlassLeadersModel" "steps") ∈ lw_all := lw_g (lw_at lw_m9 168 rfl) rfl
theorem q2222 : (Jvm.Cond.laysFinal "GlassLeadersModel" "GlassLeadersModel" "step" "[I") ∈ lw_all := lw_g (lw_at lw_m9 169 rfl) rfl
theorem q2223 : (Jvm.Cond.soleField "GlassLeadersModel" "step") ∈ lw_all := lw_g (lw_at lw_m9 170 rfl) rfl
theorem q2224 : (Jvm.Cond.laysFinal "GlassLeadersModel" "GlassLeadersModel" "stepValue" "[I") ∈ lw_all := lw_g (lw_at lw_m9 171 rfl) rfl
theorem q2225 : (Jvm.Cond.soleField "GlassLeadersModel" "stepValue") ∈ lw_all := lw_g (lw_at lw_m9 172 rfl) rfl
theorem q2226 : (Jvm.Cond.laysFinal "GlassLeadersModel" "GlassLeadersModel" "newStep" "[I") ∈ lw_all := lw_g (lw_at lw_m9 173 rfl) rfl
theorem q2227 : (Jvm.Cond.soleField "GlassLeadersModel" "newStep") ∈ lw_all := lw_g (lw_at lw_m9 174 rfl) rfl
theorem q2228 : (Jvm.Cond.laysFinal "GlassLeadersModel" "GlassLeadersModel" "newValue" "[I") ∈ lw_all := lw_g (lw_at lw_m9 175 rfl) rfl
theorem q2229 : (Jvm.Cond.soleField "GlassLeadersModel" "newValue") ∈ lw_all := lw_g (lw_at lw_m9 176 rfl) rfl
theorem q2230 : (Jvm.Cond.laysFinal "GlassLeadersModel" "GlassLeadersModel" "ruleGo" "[I") ∈ lw_all := lw_g (lw_at lw_m9 177 rfl) rfl
theorem q2231 : (Jvm.Cond.soleField "GlassLeadersModel" "ruleGo") ∈ lw_all := lw_g (lw_at lw_m9 178 rfl) rfl
theorem q2232 : (Jvm.Cond.laysFinal "GlassLeadersModel" "GlassLeadersModel" "ruleTo" "[I") ∈ lw_all := lw_g (lw_at lw_m9 179 rfl) rfl
theorem q2233 : (Jvm.Cond.soleField "GlassLeadersModel" "ruleTo") ∈ lw_all := lw_g (lw_at lw_m9 180 rfl) rfl
theorem q2234 : (Jvm.Cond.laysFinal "GlassLeadersModel" "GlassLeadersModel" "newGo" "[I") ∈ lw_all := lw_g (lw_at lw_m9 181 rfl) rfl
theorem q2235 : (Jvm.Cond.soleField "GlassLeadersModel" "newGo") ∈ lw_all := lw_g (lw_at lw_m9 182 rfl) rfl
theorem q2236 : (Jvm.Cond.laysFinal "GlassLeadersModel" "GlassLeadersModel" "newTo" "[I") ∈ lw_all := lw_g (lw_at lw_m9 183 rfl) rfl
theorem q2237 : (Jvm.Cond.soleField "GlassLeadersModel" "newTo") ∈ lw_all := lw_g (lw_at lw_m9 184 rfl) rfl
theorem q2238 : (Jvm.Cond.laysFinal "GlassLeadersModel" "GlassLeadersModel" "stack" "[I") ∈ lw_all := lw_g (lw_at lw_m9 185 rfl) rfl
theorem q2239 : (Jvm.Cond.soleField "GlassLeadersModel" "stack") ∈ lw_all := lw_g (lw_at lw_m9 186 rfl) rfl
theorem q2240 : (Jvm.Cond.laysFinal "GlassLeadersModel" "GlassLeadersModel" "names" "[I") ∈ lw_all := lw_g (lw_at lw_m9 187 rfl) rfl
theorem q2241 : (Jvm.Cond.soleField "GlassLeadersModel" "names") ∈ lw_all := lw_g (lw_at lw_m9 188 rfl) rfl
theorem q2242 : (Jvm.Cond.laysFinal "GlassLeadersModel" "GlassLeadersModel" "s" "[I") ∈ lw_all := lw_g (lw_at lw_m9 189 rfl) rfl
theorem q2243 : (Jvm.Cond.soleField "GlassLeadersModel" "s") ∈ lw_all := lw_g (lw_at lw_m9 190 rfl) rfl
theorem q2244 : (Jvm.Cond.laysFinal "GlassLeadersModel" "GlassLeadersModel" "image" "[I") ∈ lw_all := lw_g (lw_at lw_m9 191 rfl) rfl
theorem q2245 : (Jvm.Cond.soleField "GlassLeadersModel" "image") ∈ lw_all := lw_g (lw_at lw_m9 192 rfl) rfl
theorem q2246 : (Jvm.Cond.lays "GlassLeadersModel" "GlassLeadersModel" "images" "I") ∈ lw_all := lw_g (lw_at lw_m9 193 rfl) rfl
theorem q2247 : (Jvm.Cond.soleField "GlassLeadersModel" "images") ∈ lw_all := lw_g (lw_at lw_m9 194 rfl) rfl
theorem q2248 : (Jvm.Cond.lays "GlassLeadersModel" "GlassLeadersModel" "isKnown" "Z") ∈ lw_all := lw_g (lw_at lw_m9 195 rfl) rfl
theorem q2249 : (Jvm.Cond.soleField "GlassLeadersModel" "isKnown") ∈ lw_all := lw_g (lw_at lw_m9 196 rfl) rfl
theorem q2250 : (Jvm.Cond.laysFinal "GlassLeadersModel" "GlassLeadersModel" "leads" "[I") ∈ lw_all := lw_g (lw_at lw_m9 197 rfl) rfl
theorem q2251 : (Jvm.Cond.soleField "GlassLeadersModel" "leads") ∈ lw_all := lw_g (lw_at lw_m9 198 rfl) rfl
theorem q2252 : (Jvm.Cond.laysFinal "GlassLeadersModel" "GlassLeadersModel" "kinds" "[I") ∈ lw_all := lw_g (lw_at lw_m9 199 rfl) rfl
theorem q2253 : (Jvm.Cond.soleField "GlassLeadersModel" "kinds") ∈ lw_all := lw_g (lw_at lw_m9 200 rfl) rfl
theorem q2254 : (Jvm.Cond.lays "GlassLeadersModel" "GlassLeadersModel" "store" "I") ∈ lw_all := lw_g (lw_at lw_m9 201 rfl) rfl
theorem q2255 : (Jvm.Cond.soleField "GlassLeadersModel" "store") ∈ lw_all := lw_g (lw_at lw_m9 202 rfl) rfl
theorem q2256 : (Jvm.Cond.lays "GlassLeadersModel" "GlassLeadersModel" "omitted" "I") ∈ lw_all := lw_g (lw_at lw_m9 203 rfl) rfl
theorem q2257 : (Jvm.Cond.soleField "GlassLeadersModel" "omitted") ∈ lw_all := lw_g (lw_at lw_m9 204 rfl) rfl
theorem q2258 : (Jvm.Cond.lays "GlassLeadersModel" "GlassLeadersModel" "pactOne" "I") ∈ lw_all := lw_g (lw_at lw_m9 205 rfl) rfl
theorem q2259 : (Jvm.Cond.soleField "GlassLeadersModel" "pactOne") ∈ lw_all := lw_g (lw_at lw_m9 206 rfl) rfl
theorem q2260 : (Jvm.Cond.lays "GlassLeadersModel" "GlassLeadersModel" "pactOther" "I") ∈ lw_all := lw_g (lw_at lw_m9 207 rfl) rfl
theorem q2261 : (Jvm.Cond.soleField "GlassLeadersModel" "pactOther") ∈ lw_all := lw_g (lw_at lw_m9 208 rfl) rfl
theorem q2262 : (Jvm.Cond.lays "GlassLeadersModel" "GlassLeadersModel" "isVoted" "Z") ∈ lw_all := lw_g (lw_at lw_m9 209 rfl) rfl
theorem q2263 : (Jvm.Cond.soleField "GlassLeadersModel" "isVoted") ∈ lw_all := lw_g (lw_at lw_m9 210 rfl) rfl
theorem q2264 : (Jvm.Cond.laysFinal "GlassLeadersModel" "GlassLeadersModel" "lawful" "[I") ∈ lw_all := lw_g (lw_at lw_m9 211 rfl) rfl
theorem q2265 : (Jvm.Cond.soleField "GlassLeadersModel" "lawful") ∈ lw_all := lw_g (lw_at lw_m9 212 rfl) rfl
theorem q2266 : (Jvm.Cond.laysFinal "GlassLeadersModel" "GlassLeadersModel" "takes" "[I") ∈ lw_all := lw_g (lw_at lw_m9 213 rfl) rfl
theorem q2267 : (Jvm.Cond.soleField "GlassLeadersModel" "takes") ∈ lw_all := lw_g (lw_at lw_m9 214 rfl) rfl
theorem q2268 : (Jvm.Cond.laysFinal "GlassLeadersModel" "GlassLeadersModel" "scale" "[J") ∈ lw_all := lw_g (lw_at lw_m9 215 rfl) rfl
theorem q2269 : (Jvm.Cond.soleField "GlassLeadersModel" "scale") ∈ lw_all := lw_g (lw_at lw_m9 216 rfl) rfl
theorem q2270 : (Jvm.Cond.laysFinal "GlassLeadersModel" "GlassLeadersModel" "worth" "[J") ∈ lw_all := lw_g (lw_at lw_m9 217 rfl) rfl
theorem q2271 : (Jvm.Cond.soleField "GlassLeadersModel" "worth") ∈ lw_all := lw_g (lw_at lw_m9 218 rfl) rfl
theorem q2272 : (Jvm.Cond.laysFinal "GlassLeadersModel" "GlassLeadersModel" "aloneWorth" "[J") ∈ lw_all := lw_g (lw_at lw_m9 219 rfl) rfl
theorem q2273 : (Jvm.Cond.soleField "GlassLeadersModel" "aloneWorth") ∈ lw_all := lw_g (lw_at lw_m9 220 rfl) rfl
theorem q2274 : (Jvm.Cond.laysFinal "GlassLeadersModel" "GlassLeadersModel" "blindWorth" "[J") ∈ lw_all := lw_g (lw_at lw_m9 221 rfl) rfl
theorem q2275 : (Jvm.Cond.soleField "GlassLeadersModel" "blindWorth") ∈ lw_all := lw_g (lw_at lw_m9 222 rfl) rfl
theorem q2276 : (Jvm.Cond.laysFinal "GlassLeadersModel" "GlassLeadersModel" "snowy" "[Z") ∈ lw_all := lw_g (lw_at lw_m9 223 rfl) rfl
theorem q2277 : (Jvm.Cond.soleField "GlassLeadersModel" "snowy") ∈ lw_all := lw_g (lw_at lw_m9 224 rfl) rfl
theorem q2278 : (Jvm.Cond.laysFinal "GlassLeadersModel" "GlassLeadersModel" "votes" "[I") ∈ lw_all := lw_g (lw_at lw_m9 225 rfl) rfl
theorem q2279 : (Jvm.Cond.soleField "GlassLeadersModel" "votes") ∈ lw_all := lw_g (lw_at lw_m9 226 rfl) rfl
theorem q2280 : (Jvm.Cond.lays "GlassLeadersModel" "GlassLeadersModel" "atPlace" "I") ∈ lw_all := lw_g (lw_at lw_m9 227 rfl) rfl
theorem q2281 : (Jvm.Cond.soleField "GlassLeadersModel" "atPlace") ∈ lw_all := lw_g (lw_at lw_m9 228 rfl) rfl
theorem q2282 : (Jvm.Cond.lays "GlassLeadersModel" "GlassLeadersModel" "atHour" "I") ∈ lw_all := lw_g (lw_at lw_m9 229 rfl) rfl
theorem q2283 : (Jvm.Cond.soleField "GlassLeadersModel" "atHour") ∈ lw_all := lw_g (lw_at lw_m9 230 rfl) rfl
theorem q2284 : (Jvm.Cond.lays "GlassLeadersModel" "GlassLeadersModel" "atStores" "I") ∈ lw_all := lw_g (lw_at lw_m9 231 rfl) rfl
theorem q2285 : (Jvm.Cond.soleField "GlassLeadersModel" "atStores") ∈ lw_all := lw_g (lw_at lw_m9 232 rfl) rfl
theorem q2286 : (Jvm.Cond.laysFinal "GlassLeadersModel" "GlassLeadersModel" "before" "[J") ∈ lw_all := lw_g (lw_at lw_m9 233 rfl) rfl
theorem q2287 : (Jvm.Cond.soleField "GlassLeadersModel" "before") ∈ lw_all := lw_g (lw_at lw_m9 234 rfl) rfl
theorem q2288 : (Jvm.Cond.laysFinal "GlassLeadersModel" "GlassLeadersModel" "round" "[I") ∈ lw_all := lw_g (lw_at lw_m9 235 rfl) rfl
theorem q2289 : (Jvm.Cond.soleField "GlassLeadersModel" "round") ∈ lw_all := lw_g (lw_at lw_m9 236 rfl) rfl
theorem q2290 : (Jvm.Cond.lays "GlassLeadersModel" "GlassLeadersModel" "bestRound" "I") ∈ lw_all := lw_g (lw_at lw_m9 237 rfl) rfl
theorem q2291 : (Jvm.Cond.soleField "GlassLeadersModel" "bestRound") ∈ lw_all := lw_g (lw_at lw_m9 238 rfl) rfl
theorem q2292 : (Jvm.Cond.lays "GlassLeadersModel" "GlassLeadersModel" "bestWorth" "J") ∈ lw_all := lw_g (lw_at lw_m9 239 rfl) rfl
theorem q2293 : (Jvm.Cond.soleField "GlassLeadersModel" "bestWorth") ∈ lw_all := lw_g (lw_at lw_m10 0 rfl) rfl
theorem q2294 : (Jvm.Cond.laysFinal "GlassLeadersModel" "GlassLeadersModel" "can" "[Z") ∈ lw_all := lw_g (lw_at lw_m10 1 rfl) rfl
theorem q2295 : (Jvm.Cond.soleField "GlassLeadersModel" "can") ∈ lw_all := lw_g (lw_at lw_m10 2 rfl) rfl
theorem q2296 : (Jvm.Cond.laysFinal "GlassLeadersModel" "GlassLeadersModel" "mass" "[J") ∈ lw_all := lw_g (lw_at lw_m10 3 rfl) rfl
theorem q2297 : (Jvm.Cond.soleField "GlassLeadersModel" "mass") ∈ lw_all := lw_g (lw_at lw_m10 4 rfl) rfl
theorem q2298 : (Jvm.Cond.superclass "GlassLeadersModel" "java/lang/Object") ∈ lw_all := lw_g (lw_at lw_m10 5 rfl) rfl
theorem q2300 : (Jvm.Cond.instanceMethod ({ cls := "GlassLeadersModel", name := "feed", desc := "(IIIII)I" } : Jvm.MethodName)) ∈ lw_all := lw_g (lw_at lw_m10 7 rfl) rfl
theorem q2301 : (Jvm.Cond.selects "GlassLeadersModel" ({ cls := "GlassLeadersModel", name := "feed", desc := "(IIIII)I" } : Jvm.MethodName) ({ cls := "GlassLeadersModel", name := "feed", desc := "(IIIII)I" } : Jvm.MethodName)) ∈ lw_all := lw_g (lw_at lw_m10 8 rfl) rfl
theorem q2302 : (Jvm.Cond.code ({ cls := "GlassLeadersModel", name := "feed", desc := "(IIIII)I" } : Jvm.MethodName) prog_27_method_5_code (8 : Nat) (Option.some Jvm.ClassFile.FieldType.int)) ∈ lw_all := lw_g (lw_at lw_m10 9 rfl) rfl
theorem q2304 : (Jvm.Cond.instanceMethod ({ cls := "GlassLeadersModel", name := "fault", desc := "()I" } : Jvm.MethodName)) ∈ lw_all := lw_g (lw_at lw_m10 11 rfl) rfl
theorem q2305 : (Jvm.Cond.selects "GlassLeadersModel" ({ cls := "GlassLeadersModel", name := "fault", desc := "()I" } : Jvm.MethodName) ({ cls := "GlassLeadersModel", name := "fault", desc := "()I" } : Jvm.MethodName)) ∈ lw_all := lw_g (lw_at lw_m10 12 rfl) rfl
theorem q2306 : (Jvm.Cond.code ({ cls := "GlassLeadersModel", name := "fault", desc := "()I" } : Jvm.MethodName) prog_27_method_18_code (1 : Nat) (Option.some Jvm.ClassFile.FieldType.int)) ∈ lw_all := lw_g (lw_at lw_m10 13 rfl) rfl
theorem q2308 : (Jvm.Cond.instanceMethod ({ cls := "GlassLeadersModel", name := "land", desc := "(I)I" } : Jvm.MethodName)) ∈ lw_all := lw_g (lw_at lw_m10 15 rfl) rfl
theorem q2309 : (Jvm.Cond.selects "GlassLeadersModel" ({ cls := "GlassLeadersModel", name := "land", desc := "(I)I" } : Jvm.MethodName) ({ cls := "GlassLeadersModel", name := "land", desc := "(I)I" } : Jvm.MethodName)) ∈ lw_all := lw_g (lw_at lw_m10 16 rfl) rfl
theorem q2310 : (Jvm.Cond.code ({ cls := "GlassLeadersModel", name := "land", desc := "(I)I" } : Jvm.MethodName) prog_27_method_29_code (4 : Nat) (Option.some Jvm.ClassFile.FieldType.int)) ∈ lw_all := lw_g (lw_at lw_m10 17 rfl) rfl
theorem q2311 : (Jvm.Cond.methodLink "GlassLeadersModel" (226 : Nat) ({ cls := "GlassLeadersModel", name := "may", desc := "(ZII)Z" } : Jvm.MethodName)) ∈ lw_all := lw_g (lw_at lw_m10 18 rfl) rfl
theorem q2312 : (Jvm.Cond.privateMethod ({ cls := "GlassLeadersModel", name := "may", desc := "(ZII)Z" } : Jvm.MethodName)) ∈ lw_tbl := lw_at lw_m10 19 rfl
theorem q2313 : (Jvm.Cond.instanceMethod ({ cls := "GlassLeadersModel", name := "may", desc := "(ZII)Z" } : Jvm.MethodName)) ∈ lw_all := lw_g (lw_at lw_m10 20 rfl) rfl
theorem q2314 : (Jvm.Cond.code ({ cls := "GlassLeadersModel", name := "may", desc := "(ZII)Z" } : Jvm.MethodName) prog_27_method_2_code (4 : Nat) (Option.some Jvm.ClassFile.FieldType.boolean)) ∈ lw_all := lw_g (lw_at lw_m10 21 rfl) rfl
theorem q2315 : (Jvm.Cond.methodLink "GlassLeadersModel" (230 : Nat) ({ cls := "GlassLeadersModel", name := "begins", desc := "(I)V" } : Jvm.MethodName)) ∈ lw_all := lw_g (lw_at lw_m10 22 rfl) rfl
theorem q2316 : (Jvm.Cond.privateMethod ({ cls := "GlassLeadersModel", name := "begins", desc := "(I)V" } : Jvm.MethodName)) ∈ lw_tbl := lw_at lw_m10 23 rfl
theorem q2317 : (Jvm.Cond.instanceMethod ({ cls := "GlassLeadersModel", name := "begins", desc := "(I)V" } : Jvm.MethodName)) ∈ lw_all := lw_g (lw_at lw_m10 24 rfl) rfl
theorem q2318 : (Jvm.Cond.code ({ cls := "GlassLeadersModel", name := "begins", desc := "(I)V" } : Jvm.MethodName) prog_27_method_17_code (2 : Nat) (Option.none : Option Jvm.ClassFile.FieldType)) ∈ lw_all := lw_g (lw_at lw_m10 25 rfl) rfl
theorem q2319 : (Jvm.Cond.methodLink "GlassLeadersModel" (153 : Nat) ({ cls := "GlassLeadersModel", name := "fine", desc := "()Z" } : Jvm.MethodName)) ∈ lw_all := lw_g (lw_at lw_m10 26 rfl) rfl
theorem q2320 : (Jvm.Cond.privateMethod ({ cls := "GlassLeadersModel", name := "fine", desc := "()Z" } : Jvm.MethodName)) ∈ lw_tbl := lw_at lw_m10 27 rfl
theorem q2321 : (Jvm.Cond.instanceMethod ({ cls := "GlassLeadersModel", name := "fine", desc := "()Z" } : Jvm.MethodName)) ∈ lw_all := lw_g (lw_at lw_m10 28 rfl) rfl
theorem q2322 : (Jvm.Cond.code ({ cls := "GlassLeadersModel", name := "fine", desc := "()Z" } : Jvm.MethodName) prog_27_method_6_code (1 : Nat) (Option.some Jvm.ClassFile.FieldType.boolean)) ∈ lw_all := lw_g (lw_at lw_m10 29 rfl) rfl
theorem q2323 : (Jvm.Cond.methodLink "GlassLeadersModel" (234 : Nat) ({ cls := "GlassLeadersModel", name := "isMore", desc := "()Z" } : Jvm.MethodName)) ∈ lw_all := lw_g (lw_at lw_m10 30 rfl) rfl
theorem q2324 : (Jvm.Cond.privateMethod ({ cls := "GlassLeadersModel", name := "isMore", desc := "()Z" } : Jvm.MethodName)) ∈ lw_tbl := lw_at lw_m10 31 rfl
theorem q2325 : (Jvm.Cond.instanceMethod ({ cls := "GlassLeadersModel", name := "isMore", desc := "()Z" } : Jvm.MethodName)) ∈ lw_all := lw_g (lw_at lw_m10 32 rfl) rfl
theorem q2326 : (Jvm.Cond.code ({ cls := "GlassLeadersModel", name := "isMore", desc := "()Z" } : Jvm.MethodName) prog_27_method_16_code (1 : Nat) (Option.some Jvm.ClassFile.FieldType.boolean)) ∈ lw_all := lw_g (lw_at lw_m10 33 rfl) rfl
theorem q2327 : (Jvm.Cond.methodLink "GlassLeadersModel" (136 : Nat) ({ cls := "GlassLeadersModel", name := "here", desc := "()I" } : Jvm.MethodName)) ∈ lw_all := lw_g (lw_at lw_m10 34 rfl) rfl
theorem q2328 : (Jvm.Cond.privateMethod ({ cls := "GlassLeadersModel", name := "here", desc := "()I" } : Jvm.MethodName)) ∈ lw_tbl := lw_at lw_m10 35 rfl
theorem q2329 : (Jvm.Cond.instanceMethod ({ cls := "GlassLeadersModel", name := "here", desc := "()I" } : Jvm.MethodName)) ∈ lw_all := lw_g (lw_at lw_m10 36 rfl) rfl
theorem q2330 : (Jvm.Cond.code ({ cls := "GlassLeadersModel", name := "here", desc := "()I" } : Jvm.MethodName) prog_27_method_8_code (1 : Nat) (Option.some Jvm.ClassFile.FieldType.int)) ∈ lw_all := lw_g (lw_at lw_m10 37 rfl) rfl
theorem q2331 : (Jvm.Cond.methodLink "GlassLeadersModel" (167 : Nat) ({ cls := "GlassLeadersModel", name := "word", desc := "()I" } : Jvm.MethodName)) ∈ lw_all := lw_g (lw_at lw_m10 38 rfl) rfl
theorem q2332 : (Jvm.Cond.privateMethod ({ cls := "GlassLeadersModel", name := "word", desc := "()I" } : Jvm.MethodName)) ∈ lw_tbl := lw_at lw_m10 39 rfl
theorem q2333 : (Jvm.Cond.instanceMethod ({ cls := "GlassLeadersModel", name := "word", desc := "()I" } : Jvm.MethodName)) ∈ lw_all := lw_g (lw_at lw_m10 40 rfl) rfl
theorem q2334 : (Jvm.Cond.code ({ cls := "GlassLeadersModel", name := "word", desc := "()I" } : Jvm.MethodName) prog_27_method_11_code (4 : Nat) (Option.some Jvm.ClassFile.FieldType.int)) ∈ lw_all := lw_g (lw_at lw_m10 41 rfl) rfl
theorem q2335 : (Jvm.Cond.methodLink "GlassLeadersModel" (140 : Nat) ({ cls := "GlassLeadersModel", name := "isSmall", desc := "(I)Z" } : Jvm.MethodName)) ∈ lw_all := lw_g (lw_at lw_m10 42 rfl) rfl
theorem q2336 : (Jvm.Cond.static ({ cls := "GlassLeadersModel", name := "isSmall", desc := "(I)Z" } : Jvm.MethodName)) ∈ lw_all := lw_g (lw_at lw_m10 43 rfl) rfl
theorem q2337 : (Jvm.Cond.code ({ cls := "GlassLeadersModel", name := "isSmall", desc := "(I)Z" } : Jvm.MethodName) prog_27_method_9_code (1 : Nat) (Option.some Jvm.ClassFile.FieldType.boolean)) ∈ lw_all := lw_g (lw_at lw_m10 44 rfl) rfl
theorem q2338 : (Jvm.Cond.methodLink "GlassLeadersModel" (237 : Nat) ({ cls := "GlassLeadersModel", name := "isClause", desc := "(I)Z" } : Jvm.MethodName)) ∈ lw_all := lw_g (lw_at lw_m10 45 rfl) rfl
theorem q2339 : (Jvm.Cond.static ({ cls := "GlassLeadersModel", name := "isClause", desc := "(I)Z" } : Jvm.MethodName)) ∈ lw_all := lw_g (lw_at lw_m10 46 rfl) rfl
theorem q2340 : (Jvm.Cond.code ({ cls := "GlassLeadersModel", name := "isClause", desc := "(I)Z" } : Jvm.MethodName) prog_27_method_26_code (1 : Nat) (Option.some Jvm.ClassFile.FieldType.boolean)) ∈ lw_all := lw_g (lw_at lw_m10 47 rfl) rfl
theorem q2341 : (Jvm.Cond.stringRef "GlassLeadersModel" (192 : Nat) "place") ∈ lw_tbl := lw_at lw_m10 48 rfl
theorem q2342 : (Jvm.Cond.methodLink "GlassLeadersModel" (172 : Nat) ({ cls := "GlassLeadersModel", name := "of", desc := "(Ljava/lang/String;)I" } : Jvm.MethodName)) ∈ lw_all := lw_g (lw_at lw_m10 49 rfl) rfl
theorem q2343 : (Jvm.Cond.static ({ cls := "GlassLeadersModel", name := "of", desc := "(Ljava/lang/String;)I" } : Jvm.MethodName)) ∈ lw_all := lw_g (lw_at lw_m10 50 rfl) rfl
theorem q2344 : (Jvm.Cond.code ({ cls := "GlassLeadersModel", name := "of", desc := "(Ljava/lang/String;)I" } : Jvm.MethodName) prog_27_method_12_code (3 : Nat) (Option.some Jvm.ClassFile.FieldType.int)) ∈ lw_all := lw_g (lw_at lw_m10 51 rfl) rfl
theorem q2345 : (Jvm.Cond.methodLink "GlassLeadersModel" (144 : Nat) ({ cls := "java/lang/String", name := "length", desc := "()I" } : Jvm.MethodName)) ∈ lw_all := lw_g (lw_at lw_m10 52 rfl) rfl
theorem q2346 : (Jvm.Cond.methodLink "GlassLeadersModel" (149 : Nat) ({ cls := "java/lang/String", name := "charAt", desc := "(I)C" } : Jvm.MethodName)) ∈ lw_all := lw_g (lw_at lw_m10 53 rfl) rfl
theorem q2347 : (Jvm.Cond.stringRef "GlassLeadersModel" (194 : Nat) "way") ∈ lw_tbl := lw_at lw_m10 54 rfl
theorem q2348 : (Jvm.Cond.stringRef "GlassLeadersModel" (196 : Nat) "snow") ∈ lw_tbl := lw_at lw_m10 55 rfl
theorem q2349 : (Jvm.Cond.stringRef "GlassLeadersModel" (198 : Nat) "person") ∈ lw_tbl := lw_at lw_m10 56 rfl
theorem q2350 : (Jvm.Cond.stringRef "GlassLeadersModel" (200 : Nat) "wants") ∈ lw_tbl := lw_at lw_m10 57 rfl
theorem q2351 : (Jvm.Cond.stringRef "GlassLeadersModel" (202 : Nat) "hours") ∈ lw_tbl := lw_at lw_m10 58 rfl
theorem q2352 : (Jvm.Cond.stringRef "GlassLeadersModel" (204 : Nat) "store") ∈ lw_tbl := lw_at lw_m10 59 rfl
theorem q2353 : (Jvm.Cond.stringRef "GlassLeadersModel" (206 : Nat) "lost") ∈ lw_tbl := lw_at lw_m10 60 rfl
theorem q2354 : (Jvm.Cond.stringRef "GlassLeadersModel" (208 : Nat) "start") ∈ lw_tbl := lw_at lw_m10 61 rfl
theorem q2355 : (Jvm.Cond.methodLink "GlassLeadersModel" (160 : Nat) ({ cls := "GlassLeadersModel", name := "wrong", desc := "(II)V" } : Jvm.MethodName)) ∈ lw_all := lw_g (lw_at lw_m10 62 rfl) rfl
theorem q2356 : (Jvm.Cond.privateMethod ({ cls := "GlassLeadersModel", name := "wrong", desc := "(II)V" } : Jvm.MethodName)) ∈ lw_tbl := lw_at lw_m10 63 rfl
theorem q2357 : (Jvm.Cond.instanceMethod ({ cls := "GlassLeadersModel", name := "wrong", desc := "(II)V" } : Jvm.MethodName)) ∈ lw_all := lw_g (lw_at lw_m10 64 rfl) rfl
theorem q2358 : (Jvm.Cond.code ({ cls := "GlassLeadersModel", name := "wrong", desc := "(II)V" } : Jvm.MethodName) prog_27_method_7_code (3 : Nat) (Option.none : Option Jvm.ClassFile.FieldType)) ∈ lw_all := lw_g (lw_at lw_m10 65 rfl) rfl
theorem q2359 : (Jvm.Cond.methodLink "GlassLeadersModel" (240 : Nat) ({ cls := "GlassLeadersModel", name := "isFull", desc := "(I)Z" } : Jvm.MethodName)) ∈ lw_all := lw_g (lw_at lw_m10 66 rfl) rfl
theorem q2360 : (Jvm.Cond.privateMethod ({ cls := "GlassLeadersModel", name := "isFull", desc := "(I)Z" } : Jvm.MethodName)) ∈ lw_tbl := lw_at lw_m10 67 rfl
theorem q2361 : (Jvm.Cond.instanceMethod ({ cls := "GlassLeadersModel", name := "isFull", desc := "(I)Z" } : Jvm.MethodName)) ∈ lw_all := lw_g (lw_at lw_m10 68 rfl) rfl
theorem q2362 : (Jvm.Cond.code ({ cls := "GlassLeadersModel", name := "isFull", desc := "(I)Z" } : Jvm.MethodName) prog_27_method_27_code (2 : Nat) (Option.some Jvm.ClassFile.FieldType.boolean)) ∈ lw_all := lw_g (lw_at lw_m10 69 rfl) rfl
theorem q2363 : (Jvm.Cond.methodLink "GlassLeadersModel" (178 : Nat) ({ cls := "GlassLeadersModel", name := "pass", desc := "()V" } : Jvm.MethodName)) ∈ lw_all := lw_g (lw_at lw_m10 70 rfl) rfl
theorem q2364 : (Jvm.Cond.privateMethod ({ cls := "GlassLeadersModel", name := "pass", desc := "()V" } : Jvm.MethodName)) ∈ lw_tbl := lw_at lw_m10 71 rfl
theorem q2365 : (Jvm.Cond.instanceMethod ({ cls := "GlassLeadersModel", name := "pass", desc := "()V" } : Jvm.MethodName)) ∈ lw_all := lw_g (lw_at lw_m10 72 rfl) rfl
theorem q2366 : (Jvm.Cond.code ({ cls := "GlassLeadersModel", name := "pass", desc := "()V" } : Jvm.MethodName) prog_27_method_13_code (1 : Nat) (Option.none : Option Jvm.ClassFile.FieldType)) ∈ lw_all := lw_g (lw_at lw_m10 73 rfl) rfl
theorem q2367 : (Jvm.Cond.methodLink "GlassLeadersModel" (243 : Nat) ({ cls := "GlassLeadersModel", name := "readClause", desc := "(I)V" } : Jvm.MethodName)) ∈ lw_all := lw_g (lw_at lw_m10 74 rfl) rfl
theorem q2368 : (Jvm.Cond.privateMethod ({ cls := "GlassLeadersModel", name := "readClause", desc := "(I)V" } : Jvm.MethodName)) ∈ lw_tbl := lw_at lw_m10 75 rfl
theorem q2369 : (Jvm.Cond.instanceMethod ({ cls := "GlassLeadersModel", name := "readClause", desc := "(I)V" } : Jvm.MethodName)) ∈ lw_all := lw_g (lw_at lw_m10 76 rfl) rfl
theorem q2370 : (Jvm.Cond.code ({ cls := "GlassLeadersModel", name := "readClause", desc := "(I)V" } : Jvm.MethodName) prog_27_method_28_code (3 : Nat) (Option.none : Option Jvm.ClassFile.FieldType)) ∈ lw_all := lw_g (lw_at lw_m10 77 rfl) rfl
theorem q2371 : (Jvm.Cond.methodLink "GlassLeadersModel" (210 : Nat) ({ cls := "GlassLeadersModel", name := "readPlace", desc := "()V" } : Jvm.MethodName)) ∈ lw_all := lw_g (lw_at lw_m10 78 rfl) rfl
theorem q2372 : (Jvm.Cond.privateMethod ({ cls := "GlassLeadersModel", name := "readPlace", desc := "()V" } : Jvm.MethodName)) ∈ lw_tbl := lw_at lw_m10 79 rfl
theorem q2373 : (Jvm.Cond.instanceMethod ({ cls := "GlassLeadersModel", name := "readPlace", desc := "()V" } : Jvm.MethodName)) ∈ lw_all := lw_g (lw_at lw_m10 80 rfl) rfl
theorem q2374 : (Jvm.Cond.code ({ cls := "GlassLeadersModel", name := "readPlace", desc := "()V" } : Jvm.MethodName) prog_27_method_19_code (3 : Nat) (Option.none : Option Jvm.ClassFile.FieldType)) ∈ lw_all := lw_g (lw_at lw_m10 81 rfl) rfl
theorem q2375 : (Jvm.Cond.stringRef "GlassLeadersModel" (170 : Nat) "hut") ∈ lw_tbl := lw_at lw_m10 82 rfl
theorem q2376 : (Jvm.Cond.stringRef "GlassLeadersModel" (176 : Nat) "end") ∈ lw_tbl := lw_at lw_m10 83 rfl
theorem q2377 : (Jvm.Cond.methodLink "GlassLeadersModel" (213 : Nat) ({ cls := "GlassLeadersModel", name := "readWay", desc := "()V" } : Jvm.MethodName)) ∈ lw_all := lw_g (lw_at lw_m10 84 rfl) rfl
theorem q2378 : (Jvm.Cond.privateMethod ({ cls := "GlassLeadersModel", name := "readWay", desc := "()V" } : Jvm.MethodName)) ∈ lw_tbl := lw_at lw_m10 85 rfl
theorem q2379 : (Jvm.Cond.instanceMethod ({ cls := "GlassLeadersModel", name := "readWay", desc := "()V" } : Jvm.MethodName)) ∈ lw_all := lw_g (lw_at lw_m10 86 rfl) rfl
theorem q2380 : (Jvm.Cond.code ({ cls := "GlassLeadersModel", name := "readWay", desc := "()V" } : Jvm.MethodName) prog_27_method_21_code (4 : Nat) (Option.none : Option Jvm.ClassFile.FieldType)) ∈ lw_all := lw_g (lw_at lw_m10 87 rfl) rfl
theorem q2381 : (Jvm.Cond.methodLink "GlassLeadersModel" (185 : Nat) ({ cls := "GlassLeadersModel", name := "readIn", desc := "(I)I" } : Jvm.MethodName)) ∈ lw_all := lw_g (lw_at lw_m10 88 rfl) rfl
theorem q2382 : (Jvm.Cond.privateMethod ({ cls := "GlassLeadersModel", name := "readIn", desc := "(I)I" } : Jvm.MethodName)) ∈ lw_tbl := lw_at lw_m10 89 rfl
theorem q2383 : (Jvm.Cond.instanceMethod ({ cls := "GlassLeadersModel", name := "readIn", desc := "(I)I" } : Jvm.MethodName)) ∈ lw_all := lw_g (lw_at lw_m10 90 rfl) rfl
theorem q2384 : (Jvm.Cond.code ({ cls := "GlassLeadersModel", name := "readIn", desc := "(I)I" } : Jvm.MethodName) prog_27_method_20_code (2 : Nat) (Option.some Jvm.ClassFile.FieldType.int)) ∈ lw_all := lw_g (lw_at lw_m10 91 rfl) rfl
theorem q2385 : (Jvm.Cond.methodLink "GlassLeadersModel" (181 : Nat) ({ cls := "GlassLeadersModel", name := "readNumber", desc := "(II)I" } : Jvm.MethodName)) ∈ lw_all := lw_g (lw_at lw_m10 92 rfl) rfl
theorem q2386 : (Jvm.Cond.privateMethod ({ cls := "GlassLeadersModel", name := "readNumber", desc := "(II)I" } : Jvm.MethodName)) ∈ lw_tbl := lw_at lw_m10 93 rfl
theorem q2387 : (Jvm.Cond.instanceMethod ({ cls := "GlassLeadersModel", name := "readNumber", desc := "(II)I" } : Jvm.MethodName)) ∈ lw_all := lw_g (lw_at lw_m10 94 rfl) rfl
theorem q2388 : (Jvm.Cond.code ({ cls := "GlassLeadersModel", name := "readNumber", desc := "(II)I" } : Jvm.MethodName) prog_27_method_14_code (6 : Nat) (Option.some Jvm.ClassFile.FieldType.int)) ∈ lw_all := lw_g (lw_at lw_m10 95 rfl) rfl
theorem q2389 : (Jvm.Cond.methodLink "GlassLeadersModel" (157 : Nat) ({ cls := "GlassLeadersModel", name := "isDigit", desc := "(I)Z" } : Jvm.MethodName)) ∈ lw_all := lw_g (lw_at lw_m10 96 rfl) rfl
theorem q2390 : (Jvm.Cond.static ({ cls := "GlassLeadersModel", name := "isDigit", desc := "(I)Z" } : Jvm.MethodName)) ∈ lw_all := lw_g (lw_at lw_m10 97 rfl) rfl
theorem q2391 : (Jvm.Cond.code ({ cls := "GlassLeadersModel", name := "isDigit", desc := "(I)Z" } : Jvm.MethodName) prog_27_method_10_code (1 : Nat) (Option.some Jvm.ClassFile.FieldType.boolean)) ∈ lw_all := lw_g (lw_at lw_m10 98 rfl) rfl
theorem q2392 : (Jvm.Cond.methodLink "GlassLeadersModel" (216 : Nat) ({ cls := "GlassLeadersModel", name := "readSnow", desc := "()V" } : Jvm.MethodName)) ∈ lw_all := lw_g (lw_at lw_m10 99 rfl) rfl
theorem q2393 : (Jvm.Cond.privateMethod ({ cls := "GlassLeadersModel", name := "readSnow", desc := "()V" } : Jvm.MethodName)) ∈ lw_tbl := lw_at lw_m10 100 rfl
theorem q2394 : (Jvm.Cond.instanceMethod ({ cls := "GlassLeadersModel", name := "readSnow", desc := "()V" } : Jvm.MethodName)) ∈ lw_all := lw_g (lw_at lw_m10 101 rfl) rfl
theorem q2395 : (Jvm.Cond.code ({ cls := "GlassLeadersModel", name := "readSnow", desc := "()V" } : Jvm.MethodName) prog_27_method_23_code (8 : Nat) (Option.none : Option Jvm.ClassFile.FieldType)) ∈ lw_all := lw_g (lw_at lw_m10 102 rfl) rfl
theorem q2396 : (Jvm.Cond.methodLink "GlassLeadersModel" (189 : Nat) ({ cls := "GlassLeadersModel", name := "isSnowy", desc := "(I)Z" } : Jvm.MethodName)) ∈ lw_all := lw_g (lw_at lw_m10 103 rfl) rfl
theorem q2397 : (Jvm.Cond.privateMethod ({ cls := "GlassLeadersModel", name := "isSnowy", desc := "(I)Z" } : Jvm.MethodName)) ∈ lw_tbl := lw_at lw_m10 104 rfl
theorem q2398 : (Jvm.Cond.instanceMethod ({ cls := "GlassLeadersModel", name := "isSnowy", desc := "(I)Z" } : Jvm.MethodName)) ∈ lw_all := lw_g (lw_at lw_m10 105 rfl) rfl
theorem q2399 : (Jvm.Cond.code ({ cls := "GlassLeadersModel", name := "isSnowy", desc := "(I)Z" } : Jvm.MethodName) prog_27_method_22_code (3 : Nat) (Option.some Jvm.ClassFile.FieldType.boolean)) ∈ lw_all := lw_g (lw_at lw_m10 106 rfl) rfl
theorem q2400 : (Jvm.Cond.methodLink "GlassLeadersModel" (219 : Nat) ({ cls := "GlassLeadersModel", name := "readWants", desc := "()V" } : Jvm.MethodName)) ∈ lw_all := lw_g (lw_at lw_m10 107 rfl) rfl
theorem q2401 : (Jvm.Cond.privateMethod ({ cls := "GlassLeadersModel", name := "readWants", desc := "()V" } : Jvm.MethodName)) ∈ lw_tbl := lw_at lw_m10 108 rfl
theorem q2402 : (Jvm.Cond.instanceMethod ({ cls := "GlassLeadersModel", name := "readWants", desc := "()V" } : Jvm.MethodName)) ∈ lw_all := lw_g (lw_at lw_m10 109 rfl) rfl
theorem q2403 : (Jvm.Cond.code ({ cls := "GlassLeadersModel", name := "readWants", desc := "()V" } : Jvm.MethodName) prog_27_method_24_code (4 : Nat) (Option.none : Option Jvm.ClassFile.FieldType)) ∈ lw_all := lw_g (lw_at lw_m10 110 rfl) rfl
theorem q2404 : (Jvm.Cond.methodLink "GlassLeadersModel" (222 : Nat) ({ cls := "GlassLeadersModel", name := "readOne", desc := "(III)V" } : Jvm.MethodName)) ∈ lw_all := lw_g (lw_at lw_m10 111 rfl) rfl
theorem q2405 : (Jvm.Cond.privateMethod ({ cls := "GlassLeadersModel", name := "readOne", desc := "(III)V" } : Jvm.MethodName)) ∈ lw_tbl := lw_at lw_m10 112 rfl
theorem q2406 : (Jvm.Cond.instanceMethod ({ cls := "GlassLeadersModel", name := "readOne", desc := "(III)V" } : Jvm.MethodName)) ∈ lw_all := lw_g (lw_at lw_m10 113 rfl) rfl
theorem q2407 : (Jvm.Cond.code ({ cls := "GlassLeadersModel", name := "readOne", desc := "(III)V" } : Jvm.MethodName) prog_27_method_25_code (5 : Nat) (Option.none : Option Jvm.ClassFile.FieldType)) ∈ lw_all := lw_g (lw_at lw_m10 114 rfl) rfl
theorem q2408 : (Jvm.Cond.methodLink "GlassLeadersModel" (246 : Nat) ({ cls := "GlassLeadersModel", name := "sign", desc := "(I)V" } : Jvm.MethodName)) ∈ lw_all := lw_g (lw_at lw_m10 115 rfl) rfl
theorem q2409 : (Jvm.Cond.privateMethod ({ cls := "GlassLeadersModel", name := "sign", desc := "(I)V" } : Jvm.MethodName)) ∈ lw_tbl := lw_at lw_m10 116 rfl
theorem q2410 : (Jvm.Cond.instanceMethod ({ cls := "GlassLeadersModel", name := "sign", desc := "(I)V" } : Jvm.MethodName)) ∈ lw_all := lw_g (lw_at lw_m10 117 rfl) rfl
theorem q2411 : (Jvm.Cond.code ({ cls := "GlassLeadersModel", name := "sign", desc := "(I)V" } : Jvm.MethodName) prog_27_method_15_code (2 : Nat) (Option.none : Option Jvm.ClassFile.FieldType)) ∈ lw_all := lw_g (lw_at lw_m10 118 rfl) rfl
theorem q2413 : (Jvm.Cond.instanceMethod ({ cls := "GlassLeadersModel", name := "law", desc := "(I)I" } : Jvm.MethodName)) ∈ lw_all := lw_g (lw_at lw_m10 120 rfl) rfl
theorem q2414 : (Jvm.Cond.selects "GlassLeadersModel" ({ cls := "GlassLeadersModel", name := "law", desc := "(I)I" } : Jvm.MethodName) ({ cls := "GlassLeadersModel", name := "law", desc := "(I)I" } : Jvm.MethodName)) ∈ lw_all := lw_g (lw_at lw_m10 121 rfl) rfl
theorem q2415 : (Jvm.Cond.code ({ cls := "GlassLeadersModel", name := "law", desc := "(I)I" } : Jvm.MethodName) prog_27_method_39_code (4 : Nat) (Option.some Jvm.ClassFile.FieldType.int)) ∈ lw_all := lw_g (lw_at lw_m10 122 rfl) rfl
theorem q2416 : (Jvm.Cond.stringRef "GlassLeadersModel" (305 : Nat) "rest") ∈ lw_tbl := lw_at lw_m10 123 rfl
theorem q2417 : (Jvm.Cond.stringRef "GlassLeadersModel" (307 : Nat) "go") ∈ lw_tbl := lw_at lw_m10 124 rfl
theorem q2418 : (Jvm.Cond.stringRef "GlassLeadersModel" (309 : Nat) "if") ∈ lw_tbl := lw_at lw_m10 125 rfl
theorem q2419 : (Jvm.Cond.methodLink "GlassLeadersModel" (290 : Nat) ({ cls := "GlassLeadersModel", name := "anyOf", desc := "()V" } : Jvm.MethodName)) ∈ lw_all := lw_g (lw_at lw_m10 126 rfl) rfl
theorem q2420 : (Jvm.Cond.privateMethod ({ cls := "GlassLeadersModel", name := "anyOf", desc := "()V" } : Jvm.MethodName)) ∈ lw_tbl := lw_at lw_m10 127 rfl
theorem q2421 : (Jvm.Cond.instanceMethod ({ cls := "GlassLeadersModel", name := "anyOf", desc := "()V" } : Jvm.MethodName)) ∈ lw_all := lw_g (lw_at lw_m10 128 rfl) rfl
theorem q2422 : (Jvm.Cond.code ({ cls := "GlassLeadersModel", name := "anyOf", desc := "()V" } : Jvm.MethodName) prog_27_method_38_code (1 : Nat) (Option.none : Option Jvm.ClassFile.FieldType)) ∈ lw_all := lw_g (lw_at lw_m10 129 rfl) rfl
theorem q2423 : (Jvm.Cond.methodLink "GlassLeadersModel" (300 : Nat) ({ cls := "GlassLeadersModel", name := "allOf", desc := "()V" } : Jvm.MethodName)) ∈ lw_all := lw_g (lw_at lw_m10 130 rfl) rfl
theorem q2424 : (Jvm.Cond.privateMethod ({ cls := "GlassLeadersModel", name := "allOf", desc := "()V" } : Jvm.MethodName)) ∈ lw_tbl := lw_at lw_m10 131 rfl
theorem q2425 : (Jvm.Cond.instanceMethod ({ cls := "GlassLeadersModel", name := "allOf", desc := "()V" } : Jvm.MethodName)) ∈ lw_all := lw_g (lw_at lw_m10 132 rfl) rfl
theorem q2426 : (Jvm.Cond.code ({ cls := "GlassLeadersModel", name := "allOf", desc := "()V" } : Jvm.MethodName) prog_27_method_37_code (1 : Nat) (Option.none : Option Jvm.ClassFile.FieldType)) ∈ lw_all := lw_g (lw_at lw_m10 133 rfl) rfl
theorem q2427 : (Jvm.Cond.methodLink "GlassLeadersModel" (295 : Nat) ({ cls := "GlassLeadersModel", name := "oneOf", desc := "()V" } : Jvm.MethodName)) ∈ lw_all := lw_g (lw_at lw_m10 134 rfl) rfl
theorem q2428 : (Jvm.Cond.privateMethod ({ cls := "GlassLeadersModel", name := "oneOf", desc := "()V" } : Jvm.MethodName)) ∈ lw_tbl := lw_at lw_m10 135 rfl
theorem q2429 : (Jvm.Cond.instanceMethod ({ cls := "GlassLeadersModel", name := "oneOf", desc := "()V" } : Jvm.MethodName)) ∈ lw_all := lw_g (lw_at lw_m10 136 rfl) rfl
theorem q2430 : (Jvm.Cond.code ({ cls := "GlassLeadersModel", name := "oneOf", desc := "()V" } : Jvm.MethodName) prog_27_method_36_code (2 : Nat) (Option.none : Option Jvm.ClassFile.FieldType)) ∈ lw_all := lw_g (lw_at lw_m10 137 rfl) rfl
theorem q2431 : (Jvm.Cond.methodLink "GlassLeadersModel" (275 : Nat) ({ cls := "GlassLeadersModel", name := "opensOne", desc := "(I)V" } : Jvm.MethodName)) ∈ lw_all := lw_g (lw_at lw_m10 138 rfl) rfl
theorem q2432 : (Jvm.Cond.privateMethod ({ cls := "GlassLeadersModel", name := "opensOne", desc := "(I)V" } : Jvm.MethodName)) ∈ lw_tbl := lw_at lw_m10 139 rfl
theorem q2433 : (Jvm.Cond.instanceMethod ({ cls := "GlassLeadersModel", name := "opensOne", desc := "(I)V" } : Jvm.MethodName)) ∈ lw_all := lw_g (lw_at lw_m10 140 rfl) rfl
theorem q2434 : (Jvm.Cond.code ({ cls := "GlassLeadersModel", name := "opensOne", desc := "(I)V" } : Jvm.MethodName) prog_27_method_31_code (2 : Nat) (Option.none : Option Jvm.ClassFile.FieldType)) ∈ lw_all := lw_g (lw_at lw_m10 141 rfl) rfl
theorem q2435 : (Jvm.Cond.stringRef "GlassLeadersModel" (293 : Nat) "not") ∈ lw_tbl := lw_at lw_m10 142 rfl
theorem q2436 : (Jvm.Cond.methodLink "GlassLeadersModel" (272 : Nat) ({ cls := "GlassLeadersModel", name := "emit", desc := "(II)V" } : Jvm.MethodName)) ∈ lw_all := lw_g (lw_at lw_m10 143 rfl) rfl
theorem q2437 : (Jvm.Cond.privateMethod ({ cls := "GlassLeadersModel", name := "emit", desc := "(II)V" } : Jvm.MethodName)) ∈ lw_tbl := lw_at lw_m10 144 rfl
theorem q2438 : (Jvm.Cond.instanceMethod ({ cls := "GlassLeadersModel", name := "emit", desc := "(II)V" } : Jvm.MethodName)) ∈ lw_all := lw_g (lw_at lw_m10 145 rfl) rfl
theorem q2439 : (Jvm.Cond.code ({ cls := "GlassLeadersModel", name := "emit", desc := "(II)V" } : Jvm.MethodName) prog_27_method_30_code (3 : Nat) (Option.none : Option Jvm.ClassFile.FieldType)) ∈ lw_all := lw_g (lw_at lw_m10 146 rfl) rfl
theorem q2440 : (Jvm.Cond.methodLink "GlassLeadersModel" (278 : Nat) ({ cls := "GlassLeadersModel", name := "sum", desc := "()V" } : Jvm.MethodName)) ∈ lw_all := lw_g (lw_at lw_m10 147 rfl) rfl
theorem q2441 : (Jvm.Cond.privateMethod ({ cls := "GlassLeadersModel", name := "sum", desc := "()V" } : Jvm.MethodName)) ∈ lw_tbl := lw_at lw_m10 148 rfl
theorem q2442 : (Jvm.Cond.instanceMethod ({ cls := "GlassLeadersModel", name := "sum", desc := "()V" } : Jvm.MethodName)) ∈ lw_all := lw_g (lw_at lw_m10 149 rfl) rfl
theorem q2443 : (Jvm.Cond.code ({ cls := "GlassLeadersModel", name := "sum", desc := "()V" } : Jvm.MethodName) prog_27_method_35_code (2 : Nat) (Option.none : Option Jvm.ClassFile.FieldType)) ∈ lw_all := lw_g (lw_at lw_m10 150 rfl) rfl
theorem q2444 : (Jvm.Cond.methodLink "GlassLeadersModel" (287 : Nat) ({ cls := "GlassLeadersModel", name := "product", desc := "()V" } : Jvm.MethodName)) ∈ lw_all := lw_g (lw_at lw_m10 151 rfl) rfl
theorem q2445 : (Jvm.Cond.privateMethod ({ cls := "GlassLeadersModel", name := "product", desc := "()V" } : Jvm.MethodName)) ∈ lw_tbl := lw_at lw_m10 152 rfl
theorem q2446 : (Jvm.Cond.instanceMethod ({ cls := "GlassLeadersModel", name := "product", desc := "()V" } : Jvm.MethodName)) ∈ lw_all := lw_g (lw_at lw_m10 153 rfl) rfl
theorem q2447 : (Jvm.Cond.code ({ cls := "GlassLeadersModel", name := "product", desc := "()V" } : Jvm.MethodName) prog_27_method_34_code (2 : Nat) (Option.none : Option Jvm.ClassFile.FieldType)) ∈ lw_all := lw_g (lw_at lw_m10 154 rfl) rfl
theorem q2448 : (Jvm.Cond.methodLink "GlassLeadersModel" (284 : Nat) ({ cls := "GlassLeadersModel", name := "unit", desc := "()V" } : Jvm.MethodName)) ∈ lw_all := lw_g (lw_at lw_m10 155 rfl) rfl
theorem q2449 : (Jvm.Cond.privateMethod ({ cls := "GlassLeadersModel", name := "unit", desc := "()V" } : Jvm.MethodName)) ∈ lw_tbl := lw_at lw_m10 156 rfl
theorem q2450 : (Jvm.Cond.instanceMethod ({ cls := "GlassLeadersModel", name := "unit", desc := "()V" } : Jvm.MethodName)) ∈ lw_all := lw_g (lw_at lw_m10 157 rfl) rfl
theorem q2451 : (Jvm.Cond.code ({ cls := "GlassLeadersModel", name := "unit", desc := "()V" } : Jvm.MethodName) prog_27_method_33_code (3 : Nat) (Option.none : Option Jvm.ClassFile.FieldType)) ∈ lw_all := lw_g (lw_at lw_m10 158 rfl) rfl
theorem q2452 : (Jvm.Cond.methodLink "GlassLeadersModel" (281 : Nat) ({ cls := "GlassLeadersModel", name := "nameOf", desc := "(I)I" } : Jvm.MethodName)) ∈ lw_all := lw_g (lw_at lw_m10 159 rfl) rfl
theorem q2453 : (Jvm.Cond.static ({ cls := "GlassLeadersModel", name := "nameOf", desc := "(I)I" } : Jvm.MethodName)) ∈ lw_all := lw_g (lw_at lw_m10 160 rfl) rfl
theorem q2454 : (Jvm.Cond.code ({ cls := "GlassLeadersModel", name := "nameOf", desc := "(I)I" } : Jvm.MethodName) prog_27_method_32_code (1 : Nat) (Option.some Jvm.ClassFile.FieldType.int)) ∈ lw_all := lw_g (lw_at lw_m10 161 rfl) rfl
theorem q2455 : (Jvm.Cond.stringRef "GlassLeadersModel" (262 : Nat) "hour") ∈ lw_tbl := lw_at lw_m10 162 rfl
theorem q2456 : (Jvm.Cond.stringRef "GlassLeadersModel" (264 : Nat) "left") ∈ lw_tbl := lw_at lw_m10 163 rfl
theorem q2457 : (Jvm.Cond.stringRef "GlassLeadersModel" (266 : Nat) "stores") ∈ lw_tbl := lw_at lw_m10 164 rfl
theorem q2458 : (Jvm.Cond.stringRef "GlassLeadersModel" (268 : Nat) "leader") ∈ lw_tbl := lw_at lw_m10 165 rfl
theorem q2459 : (Jvm.Cond.stringRef "GlassLeadersModel" (270 : Nat) "to") ∈ lw_tbl := lw_at lw_m10 166 rfl
theorem q2460 : (Jvm.Cond.stringRef "GlassLeadersModel" (298 : Nat) "and") ∈ lw_tbl := lw_at lw_m10 167 rfl
theorem q2461 : (Jvm.Cond.stringRef "GlassLeadersModel" (303 : Nat) "or") ∈ lw_tbl := lw_at lw_m10 168 rfl
theorem q2463 : (Jvm.Cond.instanceMethod ({ cls := "GlassLeadersModel", name := "told", desc := "(I)I" } : Jvm.MethodName)) ∈ lw_all := lw_g (lw_at lw_m10 170 rfl) rfl
theorem q2464 : (Jvm.Cond.selects "GlassLeadersModel" ({ cls := "GlassLeadersModel", name := "told", desc := "(I)I" } : Jvm.MethodName) ({ cls := "GlassLeadersModel", name := "told", desc := "(I)I" } : Jvm.MethodName)) ∈ lw_all := lw_g (lw_at lw_m10 171 rfl) rfl
theorem q2465 : (Jvm.Cond.code ({ cls := "GlassLeadersModel", name := "told", desc := "(I)I" } : Jvm.MethodName) prog_27_method_46_code (4 : Nat) (Option.some Jvm.ClassFile.FieldType.int)) ∈ lw_all := lw_g (lw_at lw_m10 172 rfl) rfl
theorem q2466 : (Jvm.Cond.methodLink "GlassLeadersModel" (314 : Nat) ({ cls := "GlassLeadersModel", name := "within", desc := "(III)Z" } : Jvm.MethodName)) ∈ lw_all := lw_g (lw_at lw_m10 173 rfl) rfl
theorem q2467 : (Jvm.Cond.static ({ cls := "GlassLeadersModel", name := "within", desc := "(III)Z" } : Jvm.MethodName)) ∈ lw_all := lw_g (lw_at lw_m10 174 rfl) rfl
theorem q2468 : (Jvm.Cond.code ({ cls := "GlassLeadersModel", name := "within", desc := "(III)Z" } : Jvm.MethodName) prog_27_method_3_code (3 : Nat) (Option.some Jvm.ClassFile.FieldType.boolean)) ∈ lw_all := lw_g (lw_at lw_m10 175 rfl) rfl
theorem q2469 : (Jvm.Cond.methodLink "GlassLeadersModel" (322 : Nat) ({ cls := "GlassLeadersModel", name := "snows", desc := "(I)Z" } : Jvm.MethodName)) ∈ lw_all := lw_g (lw_at lw_m10 176 rfl) rfl
theorem q2470 : (Jvm.Cond.privateMethod ({ cls := "GlassLeadersModel", name := "snows", desc := "(I)Z" } : Jvm.MethodName)) ∈ lw_tbl := lw_at lw_m10 177 rfl
theorem q2471 : (Jvm.Cond.instanceMethod ({ cls := "GlassLeadersModel", name := "snows", desc := "(I)Z" } : Jvm.MethodName)) ∈ lw_all := lw_g (lw_at lw_m10 178 rfl) rfl
theorem q2472 : (Jvm.Cond.code ({ cls := "GlassLeadersModel", name := "snows", desc := "(I)Z" } : Jvm.MethodName) prog_27_method_47_code (3 : Nat) (Option.some Jvm.ClassFile.FieldType.boolean)) ∈ lw_all := lw_g (lw_at lw_m10 179 rfl) rfl
theorem q2474 : (Jvm.Cond.instanceMethod ({ cls := "GlassLeadersModel", name := "snow", desc := "(II)I" } : Jvm.MethodName)) ∈ lw_all := lw_g (lw_at lw_m10 181 rfl) rfl
theorem q2475 : (Jvm.Cond.selects "GlassLeadersModel" ({ cls := "GlassLeadersModel", name := "snow", desc := "(II)I" } : Jvm.MethodName) ({ cls := "GlassLeadersModel", name := "snow", desc := "(II)I" } : Jvm.MethodName)) ∈ lw_all := lw_g (lw_at lw_m10 182 rfl) rfl
theorem q2476 : (Jvm.Cond.code ({ cls := "GlassLeadersModel", name := "snow", desc := "(II)I" } : Jvm.MethodName) prog_27_method_48_code (3 : Nat) (Option.some Jvm.ClassFile.FieldType.int)) ∈ lw_all := lw_g (lw_at lw_m10 183 rfl) rfl
theorem q2477 : (Jvm.Cond.methodLink "GlassLeadersModel" (325 : Nat) ({ cls := "GlassLeadersModel", name := "isHour", desc := "(I)Z" } : Jvm.MethodName)) ∈ lw_all := lw_g (lw_at lw_m10 184 rfl) rfl
theorem q2478 : (Jvm.Cond.static ({ cls := "GlassLeadersModel", name := "isHour", desc := "(I)Z" } : Jvm.MethodName)) ∈ lw_all := lw_g (lw_at lw_m10 185 rfl) rfl
theorem q2479 : (Jvm.Cond.code ({ cls := "GlassLeadersModel", name := "isHour", desc := "(I)Z" } : Jvm.MethodName) prog_27_method_45_code (1 : Nat) (Option.some Jvm.ClassFile.FieldType.boolean)) ∈ lw_all := lw_g (lw_at lw_m10 186 rfl) rfl
theorem q2481 : (Jvm.Cond.instanceMethod ({ cls := "GlassLeadersModel", name := "wants", desc := "(II)I" } : Jvm.MethodName)) ∈ lw_all := lw_g (lw_at lw_m10 188 rfl) rfl
theorem q2482 : (Jvm.Cond.selects "GlassLeadersModel" ({ cls := "GlassLeadersModel", name := "wants", desc := "(II)I" } : Jvm.MethodName) ({ cls := "GlassLeadersModel", name := "wants", desc := "(II)I" } : Jvm.MethodName)) ∈ lw_all := lw_g (lw_at lw_m10 189 rfl) rfl
theorem q2483 : (Jvm.Cond.code ({ cls := "GlassLeadersModel", name := "wants", desc := "(II)I" } : Jvm.MethodName) prog_27_method_49_code (3 : Nat) (Option.some Jvm.ClassFile.FieldType.int)) ∈ lw_all := lw_g (lw_at lw_m10 190 rfl) rfl
theorem q2484 : (Jvm.Cond.methodLink "GlassLeadersModel" (318 : Nat) ({ cls := "GlassLeadersModel", name := "isPerson", desc := "(II)Z" } : Jvm.MethodName)) ∈ lw_all := lw_g (lw_at lw_m10 191 rfl) rfl
theorem q2485 : (Jvm.Cond.privateMethod ({ cls := "GlassLeadersModel", name := "isPerson", desc := "(II)Z" } : Jvm.MethodName)) ∈ lw_tbl := lw_at lw_m10 192 rfl
theorem q2486 : (Jvm.Cond.instanceMethod ({ cls := "GlassLeadersModel", name := "isPerson", desc := "(II)Z" } : Jvm.MethodName)) ∈ lw_all := lw_g (lw_at lw_m10 193 rfl) rfl
theorem q2487 : (Jvm.Cond.code ({ cls := "GlassLeadersModel", name := "isPerson", desc := "(II)Z" } : Jvm.MethodName) prog_27_method_43_code (3 : Nat) (Option.some Jvm.ClassFile.FieldType.boolean)) ∈ lw_all := lw_g (lw_at lw_m10 194 rfl) rfl
theorem q2489 : (Jvm.Cond.instanceMethod ({ cls := "GlassLeadersModel", name := "kind", desc := "(II)I" } : Jvm.MethodName)) ∈ lw_all := lw_g (lw_at lw_m10 196 rfl) rfl
theorem q2490 : (Jvm.Cond.selects "GlassLeadersModel" ({ cls := "GlassLeadersModel", name := "kind", desc := "(II)I" } : Jvm.MethodName) ({ cls := "GlassLeadersModel", name := "kind", desc := "(II)I" } : Jvm.MethodName)) ∈ lw_all := lw_g (lw_at lw_m10 197 rfl) rfl
theorem q2491 : (Jvm.Cond.code ({ cls := "GlassLeadersModel", name := "kind", desc := "(II)I" } : Jvm.MethodName) prog_27_method_50_code (4 : Nat) (Option.some Jvm.ClassFile.FieldType.int)) ∈ lw_all := lw_g (lw_at lw_m10 198 rfl) rfl
theorem q2493 : (Jvm.Cond.instanceMethod ({ cls := "GlassLeadersModel", name := "plan", desc := "(II)I" } : Jvm.MethodName)) ∈ lw_all := lw_g (lw_at lw_m10 200 rfl) rfl
theorem q2494 : (Jvm.Cond.selects "GlassLeadersModel" ({ cls := "GlassLeadersModel", name := "plan", desc := "(II)I" } : Jvm.MethodName) ({ cls := "GlassLeadersModel", name := "plan", desc := "(II)I" } : Jvm.MethodName)) ∈ lw_all := lw_g (lw_at lw_m10 201 rfl) rfl
theorem q2495 : (Jvm.Cond.code ({ cls := "GlassLeadersModel", name := "plan", desc := "(II)I" } : Jvm.MethodName) prog_27_method_51_code (4 : Nat) (Option.some Jvm.ClassFile.FieldType.int)) ∈ lw_all := lw_g (lw_at lw_m10 202 rfl) rfl
theorem q2497 : (Jvm.Cond.instanceMethod ({ cls := "GlassLeadersModel", name := "turn", desc := "(II)I" } : Jvm.MethodName)) ∈ lw_all := lw_g (lw_at lw_m10 204 rfl) rfl
theorem q2498 : (Jvm.Cond.selects "GlassLeadersModel" ({ cls := "GlassLeadersModel", name := "turn", desc := "(II)I" } : Jvm.MethodName) ({ cls := "GlassLeadersModel", name := "turn", desc := "(II)I" } : Jvm.MethodName)) ∈ lw_all := lw_g (lw_at lw_m10 205 rfl) rfl
theorem q2499 : (Jvm.Cond.code ({ cls := "GlassLeadersModel", name := "turn", desc := "(II)I" } : Jvm.MethodName) prog_27_method_52_code (4 : Nat) (Option.some Jvm.ClassFile.FieldType.int)) ∈ lw_all := lw_g (lw_at lw_m10 206 rfl) rfl
theorem q2500 : (Jvm.Cond.methodLink "GlassLeadersModel" (328 : Nat) ({ cls := "GlassLeadersModel", name := "isPersonOrNone", desc := "(II)Z" } : Jvm.MethodName)) ∈ lw_all := lw_g (lw_at lw_m10 207 rfl) rfl
theorem q2501 : (Jvm.Cond.privateMethod ({ cls := "GlassLeadersModel", name := "isPersonOrNone", desc := "(II)Z" } : Jvm.MethodName)) ∈ lw_tbl := lw_at lw_m10 208 rfl
theorem q2502 : (Jvm.Cond.instanceMethod ({ cls := "GlassLeadersModel", name := "isPersonOrNone", desc := "(II)Z" } : Jvm.MethodName)) ∈ lw_all := lw_g (lw_at lw_m10 209 rfl) rfl
theorem q2503 : (Jvm.Cond.code ({ cls := "GlassLeadersModel", name := "isPersonOrNone", desc := "(II)Z" } : Jvm.MethodName) prog_27_method_44_code (3 : Nat) (Option.some Jvm.ClassFile.FieldType.boolean)) ∈ lw_all := lw_g (lw_at lw_m10 210 rfl) rfl
theorem q2505 : (Jvm.Cond.instanceMethod ({ cls := "GlassLeadersModel", name := "days", desc := "(I)I" } : Jvm.MethodName)) ∈ lw_all := lw_g (lw_at lw_m10 212 rfl) rfl
theorem q2506 : (Jvm.Cond.selects "GlassLeadersModel" ({ cls := "GlassLeadersModel", name := "days", desc := "(I)I" } : Jvm.MethodName) ({ cls := "GlassLeadersModel", name := "days", desc := "(I)I" } : Jvm.MethodName)) ∈ lw_all := lw_g (lw_at lw_m10 213 rfl) rfl
theorem q2507 : (Jvm.Cond.code ({ cls := "GlassLeadersModel", name := "days", desc := "(I)I" } : Jvm.MethodName) prog_27_method_53_code (3 : Nat) (Option.some Jvm.ClassFile.FieldType.int)) ∈ lw_all := lw_g (lw_at lw_m10 214 rfl) rfl
theorem q2509 : (Jvm.Cond.instanceMethod ({ cls := "GlassLeadersModel", name := "whose", desc := "(I)I" } : Jvm.MethodName)) ∈ lw_all := lw_g (lw_at lw_m10 216 rfl) rfl
theorem q2510 : (Jvm.Cond.selects "GlassLeadersModel" ({ cls := "GlassLeadersModel", name := "whose", desc := "(I)I" } : Jvm.MethodName) ({ cls := "GlassLeadersModel", name := "whose", desc := "(I)I" } : Jvm.MethodName)) ∈ lw_all := lw_g (lw_at lw_m10 217 rfl) rfl
theorem q2511 : (Jvm.Cond.code ({ cls := "GlassLeadersModel", name := "whose", desc := "(I)I" } : Jvm.MethodName) prog_27_method_55_code (2 : Nat) (Option.some Jvm.ClassFile.FieldType.int)) ∈ lw_all := lw_g (lw_at lw_m10 218 rfl) rfl
theorem q2512 : (Jvm.Cond.methodLink "GlassLeadersModel" (331 : Nat) ({ cls := "GlassLeadersModel", name := "isHere", desc := "(I)Z" } : Jvm.MethodName)) ∈ lw_all := lw_g (lw_at lw_m10 219 rfl) rfl
theorem q2513 : (Jvm.Cond.privateMethod ({ cls := "GlassLeadersModel", name := "isHere", desc := "(I)Z" } : Jvm.MethodName)) ∈ lw_tbl := lw_at lw_m10 220 rfl
theorem q2514 : (Jvm.Cond.instanceMethod ({ cls := "GlassLeadersModel", name := "isHere", desc := "(I)Z" } : Jvm.MethodName)) ∈ lw_all := lw_g (lw_at lw_m10 221 rfl) rfl
theorem q2515 : (Jvm.Cond.code ({ cls := "GlassLeadersModel", name := "isHere", desc := "(I)Z" } : Jvm.MethodName) prog_27_method_42_code (2 : Nat) (Option.some Jvm.ClassFile.FieldType.boolean)) ∈ lw_all := lw_g (lw_at lw_m10 222 rfl) rfl
theorem q2516 : (Jvm.Cond.methodLink "GlassLeadersModel" (334 : Nat) ({ cls := "GlassLeadersModel", name := "leader", desc := "(I)I" } : Jvm.MethodName)) ∈ lw_all := lw_g (lw_at lw_m10 223 rfl) rfl
theorem q2517 : (Jvm.Cond.privateMethod ({ cls := "GlassLeadersModel", name := "leader", desc := "(I)I" } : Jvm.MethodName)) ∈ lw_tbl := lw_at lw_m10 224 rfl
theorem q2518 : (Jvm.Cond.instanceMethod ({ cls := "GlassLeadersModel", name := "leader", desc := "(I)I" } : Jvm.MethodName)) ∈ lw_all := lw_g (lw_at lw_m10 225 rfl) rfl
theorem q2519 : (Jvm.Cond.code ({ cls := "GlassLeadersModel", name := "leader", desc := "(I)I" } : Jvm.MethodName) prog_27_method_54_code (2 : Nat) (Option.some Jvm.ClassFile.FieldType.int)) ∈ lw_all := lw_g (lw_at lw_m10 226 rfl) rfl
theorem q2521 : (Jvm.Cond.instanceMethod ({ cls := "GlassLeadersModel", name := "next", desc := "(III)I" } : Jvm.MethodName)) ∈ lw_all := lw_g (lw_at lw_m10 228 rfl) rfl
theorem q2522 : (Jvm.Cond.selects "GlassLeadersModel" ({ cls := "GlassLeadersModel", name := "next", desc := "(III)I" } : Jvm.MethodName) ({ cls := "GlassLeadersModel", name := "next", desc := "(III)I" } : Jvm.MethodName)) ∈ lw_all := lw_g (lw_at lw_m10 229 rfl) rfl
theorem q2523 : (Jvm.Cond.code ({ cls := "GlassLeadersModel", name := "next", desc := "(III)I" } : Jvm.MethodName) prog_27_method_83_code (4 : Nat) (Option.some Jvm.ClassFile.FieldType.int)) ∈ lw_all := lw_g (lw_at lw_m10 230 rfl) rfl
theorem q2524 : (Jvm.Cond.methodLink "GlassLeadersModel" (427 : Nat) ({ cls := "GlassLeadersModel", name := "isState", desc := "(III)Z" } : Jvm.MethodName)) ∈ lw_all := lw_g (lw_at lw_m10 231 rfl) rfl
theorem q2525 : (Jvm.Cond.privateMethod ({ cls := "GlassLeadersModel", name := "isState", desc := "(III)Z" } : Jvm.MethodName)) ∈ lw_tbl := lw_at lw_m10 232 rfl
theorem q2526 : (Jvm.Cond.instanceMethod ({ cls := "GlassLeadersModel", name := "isState", desc := "(III)Z" } : Jvm.MethodName)) ∈ lw_all := lw_g (lw_at lw_m10 233 rfl) rfl
theorem q2527 : (Jvm.Cond.code ({ cls := "GlassLeadersModel", name := "isState", desc := "(III)Z" } : Jvm.MethodName) prog_27_method_82_code (4 : Nat) (Option.some Jvm.ClassFile.FieldType.boolean)) ∈ lw_all := lw_g (lw_at lw_m10 234 rfl) rfl
theorem q2528 : (Jvm.Cond.methodLink "GlassLeadersModel" (411 : Nat) ({ cls := "GlassLeadersModel", name := "setUp", desc := "()V" } : Jvm.MethodName)) ∈ lw_all := lw_g (lw_at lw_m10 235 rfl) rfl
theorem q2529 : (Jvm.Cond.privateMethod ({ cls := "GlassLeadersModel", name := "setUp", desc := "()V" } : Jvm.MethodName)) ∈ lw_tbl := lw_at lw_m10 236 rfl
theorem q2530 : (Jvm.Cond.instanceMethod ({ cls := "GlassLeadersModel", name := "setUp", desc := "()V" } : Jvm.MethodName)) ∈ lw_all := lw_g (lw_at lw_m10 237 rfl) rfl
theorem q2531 : (Jvm.Cond.code ({ cls := "GlassLeadersModel", name := "setUp", desc := "()V" } : Jvm.MethodName) prog_27_method_76_code (2 : Nat) (Option.none : Option Jvm.ClassFile.FieldType)) ∈ lw_all := lw_g (lw_at lw_m10 238 rfl) rfl
theorem q2532 : (Jvm.Cond.methodLink "GlassLeadersModel" (408 : Nat) ({ cls := "GlassLeadersModel", name := "learns", desc := "()V" } : Jvm.MethodName)) ∈ lw_all := lw_g (lw_at lw_m10 239 rfl) rfl
theorem q2533 : (Jvm.Cond.privateMethod ({ cls := "GlassLeadersModel", name := "learns", desc := "()V" } : Jvm.MethodName)) ∈ lw_tbl := lw_at lw_m11 0 rfl
theorem q2534 : (Jvm.Cond.instanceMethod ({ cls := "GlassLeadersModel", name := "learns", desc := "()V" } : Jvm.MethodName)) ∈ lw_all := lw_g (lw_at lw_m11 1 rfl) rfl
theorem q2535 : (Jvm.Cond.code ({ cls := "GlassLeadersModel", name := "learns", desc := "()V" } : Jvm.MethodName) prog_27_method_62_code (5 : Nat) (Option.none : Option Jvm.ClassFile.FieldType)) ∈ lw_all := lw_g (lw_at lw_m11 2 rfl) rfl
theorem q2536 : (Jvm.Cond.methodLink "GlassLeadersModel" (350 : Nat) ({ cls := "GlassLeadersModel", name := "ended", desc := "(III)I" } : Jvm.MethodName)) ∈ lw_all := lw_g (lw_at lw_m11 3 rfl) rfl
theorem q2537 : (Jvm.Cond.privateMethod ({ cls := "GlassLeadersModel", name := "ended", desc := "(III)I" } : Jvm.MethodName)) ∈ lw_tbl := lw_at lw_m11 4 rfl
theorem q2538 : (Jvm.Cond.instanceMethod ({ cls := "GlassLeadersModel", name := "ended", desc := "(III)I" } : Jvm.MethodName)) ∈ lw_all := lw_g (lw_at lw_m11 5 rfl) rfl
theorem q2539 : (Jvm.Cond.code ({ cls := "GlassLeadersModel", name := "ended", desc := "(III)I" } : Jvm.MethodName) prog_27_method_57_code (4 : Nat) (Option.some Jvm.ClassFile.FieldType.int)) ∈ lw_all := lw_g (lw_at lw_m11 6 rfl) rfl
theorem q2540 : (Jvm.Cond.methodLink "GlassLeadersModel" (354 : Nat) ({ cls := "GlassLeadersModel", name := "state", desc := "(III)I" } : Jvm.MethodName)) ∈ lw_all := lw_g (lw_at lw_m11 7 rfl) rfl
theorem q2541 : (Jvm.Cond.static ({ cls := "GlassLeadersModel", name := "state", desc := "(III)I" } : Jvm.MethodName)) ∈ lw_all := lw_g (lw_at lw_m11 8 rfl) rfl
theorem q2542 : (Jvm.Cond.code ({ cls := "GlassLeadersModel", name := "state", desc := "(III)I" } : Jvm.MethodName) prog_27_method_56_code (3 : Nat) (Option.some Jvm.ClassFile.FieldType.int)) ∈ lw_all := lw_g (lw_at lw_m11 9 rfl) rfl
theorem q2543 : (Jvm.Cond.methodLink "GlassLeadersModel" (357 : Nat) ({ cls := "GlassLeadersModel", name := "lawfulIn", desc := "(IIII)I" } : Jvm.MethodName)) ∈ lw_all := lw_g (lw_at lw_m11 10 rfl) rfl
theorem q2544 : (Jvm.Cond.privateMethod ({ cls := "GlassLeadersModel", name := "lawfulIn", desc := "(IIII)I" } : Jvm.MethodName)) ∈ lw_tbl := lw_at lw_m11 11 rfl
theorem q2545 : (Jvm.Cond.instanceMethod ({ cls := "GlassLeadersModel", name := "lawfulIn", desc := "(IIII)I" } : Jvm.MethodName)) ∈ lw_all := lw_g (lw_at lw_m11 12 rfl) rfl
theorem q2546 : (Jvm.Cond.code ({ cls := "GlassLeadersModel", name := "lawfulIn", desc := "(IIII)I" } : Jvm.MethodName) prog_27_method_61_code (7 : Nat) (Option.some Jvm.ClassFile.FieldType.int)) ∈ lw_all := lw_g (lw_at lw_m11 13 rfl) rfl
theorem q2547 : (Jvm.Cond.methodLink "GlassLeadersModel" (339 : Nat) ({ cls := "GlassLeadersModel", name := "holds", desc := "(I)Z" } : Jvm.MethodName)) ∈ lw_all := lw_g (lw_at lw_m11 14 rfl) rfl
theorem q2548 : (Jvm.Cond.privateMethod ({ cls := "GlassLeadersModel", name := "holds", desc := "(I)Z" } : Jvm.MethodName)) ∈ lw_tbl := lw_at lw_m11 15 rfl
theorem q2549 : (Jvm.Cond.instanceMethod ({ cls := "GlassLeadersModel", name := "holds", desc := "(I)Z" } : Jvm.MethodName)) ∈ lw_all := lw_g (lw_at lw_m11 16 rfl) rfl
theorem q2550 : (Jvm.Cond.code ({ cls := "GlassLeadersModel", name := "holds", desc := "(I)Z" } : Jvm.MethodName) prog_27_method_60_code (3 : Nat) (Option.some Jvm.ClassFile.FieldType.boolean)) ∈ lw_all := lw_g (lw_at lw_m11 17 rfl) rfl
theorem q2551 : (Jvm.Cond.methodLink "GlassLeadersModel" (336 : Nat) ({ cls := "GlassLeadersModel", name := "worked", desc := "(II)I" } : Jvm.MethodName)) ∈ lw_all := lw_g (lw_at lw_m11 18 rfl) rfl
theorem q2552 : (Jvm.Cond.privateMethod ({ cls := "GlassLeadersModel", name := "worked", desc := "(II)I" } : Jvm.MethodName)) ∈ lw_tbl := lw_at lw_m11 19 rfl
theorem q2553 : (Jvm.Cond.instanceMethod ({ cls := "GlassLeadersModel", name := "worked", desc := "(II)I" } : Jvm.MethodName)) ∈ lw_all := lw_g (lw_at lw_m11 20 rfl) rfl
theorem q2554 : (Jvm.Cond.code ({ cls := "GlassLeadersModel", name := "worked", desc := "(II)I" } : Jvm.MethodName) prog_27_method_40_code (9 : Nat) (Option.some Jvm.ClassFile.FieldType.int)) ∈ lw_all := lw_g (lw_at lw_m11 21 rfl) rfl
theorem q2555 : (Jvm.Cond.methodLink "GlassLeadersModel" (342 : Nat) ({ cls := "GlassLeadersModel", name := "isAt", desc := "(II)Z" } : Jvm.MethodName)) ∈ lw_all := lw_g (lw_at lw_m11 22 rfl) rfl
theorem q2556 : (Jvm.Cond.privateMethod ({ cls := "GlassLeadersModel", name := "isAt", desc := "(II)Z" } : Jvm.MethodName)) ∈ lw_tbl := lw_at lw_m11 23 rfl
theorem q2557 : (Jvm.Cond.instanceMethod ({ cls := "GlassLeadersModel", name := "isAt", desc := "(II)Z" } : Jvm.MethodName)) ∈ lw_all := lw_g (lw_at lw_m11 24 rfl) rfl
theorem q2558 : (Jvm.Cond.code ({ cls := "GlassLeadersModel", name := "isAt", desc := "(II)Z" } : Jvm.MethodName) prog_27_method_59_code (3 : Nat) (Option.some Jvm.ClassFile.FieldType.boolean)) ∈ lw_all := lw_g (lw_at lw_m11 25 rfl) rfl
theorem q2559 : (Jvm.Cond.methodLink "GlassLeadersModel" (345 : Nat) ({ cls := "GlassLeadersModel", name := "otherEnd", desc := "(II)I" } : Jvm.MethodName)) ∈ lw_all := lw_g (lw_at lw_m11 26 rfl) rfl
theorem q2560 : (Jvm.Cond.privateMethod ({ cls := "GlassLeadersModel", name := "otherEnd", desc := "(II)I" } : Jvm.MethodName)) ∈ lw_tbl := lw_at lw_m11 27 rfl
theorem q2561 : (Jvm.Cond.instanceMethod ({ cls := "GlassLeadersModel", name := "otherEnd", desc := "(II)I" } : Jvm.MethodName)) ∈ lw_all := lw_g (lw_at lw_m11 28 rfl) rfl
theorem q2562 : (Jvm.Cond.code ({ cls := "GlassLeadersModel", name := "otherEnd", desc := "(II)I" } : Jvm.MethodName) prog_27_method_58_code (3 : Nat) (Option.some Jvm.ClassFile.FieldType.int)) ∈ lw_all := lw_g (lw_at lw_m11 29 rfl) rfl
theorem q2563 : (Jvm.Cond.constantLong "GlassLeadersModel" (361 : Nat) (16 : Int64)) ∈ lw_all := lw_g (lw_at lw_m11 30 rfl) rfl
theorem q2564 : (Jvm.Cond.methodLink "GlassLeadersModel" (363 : Nat) ({ cls := "GlassLeadersModel", name := "findAlone", desc := "(I)V" } : Jvm.MethodName)) ∈ lw_all := lw_g (lw_at lw_m11 31 rfl) rfl
theorem q2565 : (Jvm.Cond.privateMethod ({ cls := "GlassLeadersModel", name := "findAlone", desc := "(I)V" } : Jvm.MethodName)) ∈ lw_tbl := lw_at lw_m11 32 rfl
theorem q2566 : (Jvm.Cond.instanceMethod ({ cls := "GlassLeadersModel", name := "findAlone", desc := "(I)V" } : Jvm.MethodName)) ∈ lw_all := lw_g (lw_at lw_m11 33 rfl) rfl
theorem q2567 : (Jvm.Cond.code ({ cls := "GlassLeadersModel", name := "findAlone", desc := "(I)V" } : Jvm.MethodName) prog_27_method_68_code (8 : Nat) (Option.none : Option Jvm.ClassFile.FieldType)) ∈ lw_all := lw_g (lw_at lw_m11 34 rfl) rfl
theorem q2568 : (Jvm.Cond.methodLink "GlassLeadersModel" (373 : Nat) ({ cls := "GlassLeadersModel", name := "ends", desc := "(IIII)J" } : Jvm.MethodName)) ∈ lw_all := lw_g (lw_at lw_m11 35 rfl) rfl
theorem q2569 : (Jvm.Cond.privateMethod ({ cls := "GlassLeadersModel", name := "ends", desc := "(IIII)J" } : Jvm.MethodName)) ∈ lw_tbl := lw_at lw_m11 36 rfl
theorem q2570 : (Jvm.Cond.instanceMethod ({ cls := "GlassLeadersModel", name := "ends", desc := "(IIII)J" } : Jvm.MethodName)) ∈ lw_all := lw_g (lw_at lw_m11 37 rfl) rfl
theorem q2571 : (Jvm.Cond.code ({ cls := "GlassLeadersModel", name := "ends", desc := "(IIII)J" } : Jvm.MethodName) prog_27_method_66_code (5 : Nat) (Option.some Jvm.ClassFile.FieldType.long)) ∈ lw_all := lw_g (lw_at lw_m11 38 rfl) rfl
theorem q2572 : (Jvm.Cond.methodLink "GlassLeadersModel" (377 : Nat) ({ cls := "GlassLeadersModel", name := "moves", desc := "(II)I" } : Jvm.MethodName)) ∈ lw_all := lw_g (lw_at lw_m11 39 rfl) rfl
theorem q2573 : (Jvm.Cond.privateMethod ({ cls := "GlassLeadersModel", name := "moves", desc := "(II)I" } : Jvm.MethodName)) ∈ lw_tbl := lw_at lw_m11 40 rfl
theorem q2574 : (Jvm.Cond.instanceMethod ({ cls := "GlassLeadersModel", name := "moves", desc := "(II)I" } : Jvm.MethodName)) ∈ lw_all := lw_g (lw_at lw_m11 41 rfl) rfl
theorem q2575 : (Jvm.Cond.code ({ cls := "GlassLeadersModel", name := "moves", desc := "(II)I" } : Jvm.MethodName) prog_27_method_63_code (4 : Nat) (Option.some Jvm.ClassFile.FieldType.int)) ∈ lw_all := lw_g (lw_at lw_m11 42 rfl) rfl
theorem q2576 : (Jvm.Cond.methodLink "GlassLeadersModel" (380 : Nat) ({ cls := "GlassLeadersModel", name := "best", desc := "([JIIIIIZ)I" } : Jvm.MethodName)) ∈ lw_all := lw_g (lw_at lw_m11 43 rfl) rfl
theorem q2577 : (Jvm.Cond.privateMethod ({ cls := "GlassLeadersModel", name := "best", desc := "([JIIIIIZ)I" } : Jvm.MethodName)) ∈ lw_tbl := lw_at lw_m11 44 rfl
theorem q2578 : (Jvm.Cond.instanceMethod ({ cls := "GlassLeadersModel", name := "best", desc := "([JIIIIIZ)I" } : Jvm.MethodName)) ∈ lw_all := lw_g (lw_at lw_m11 45 rfl) rfl
theorem q2579 : (Jvm.Cond.code ({ cls := "GlassLeadersModel", name := "best", desc := "([JIIIIIZ)I" } : Jvm.MethodName) prog_27_method_67_code (14 : Nat) (Option.some Jvm.ClassFile.FieldType.int)) ∈ lw_all := lw_g (lw_at lw_m11 46 rfl) rfl
theorem q2580 : (Jvm.Cond.methodLink "GlassLeadersModel" (369 : Nat) ({ cls := "GlassLeadersModel", name := "brings", desc := "([JIIIII)J" } : Jvm.MethodName)) ∈ lw_all := lw_g (lw_at lw_m11 47 rfl) rfl
theorem q2581 : (Jvm.Cond.privateMethod ({ cls := "GlassLeadersModel", name := "brings", desc := "([JIIIII)J" } : Jvm.MethodName)) ∈ lw_tbl := lw_at lw_m11 48 rfl
theorem q2582 : (Jvm.Cond.instanceMethod ({ cls := "GlassLeadersModel", name := "brings", desc := "([JIIIII)J" } : Jvm.MethodName)) ∈ lw_all := lw_g (lw_at lw_m11 49 rfl) rfl
theorem q2583 : (Jvm.Cond.code ({ cls := "GlassLeadersModel", name := "brings", desc := "([JIIIII)J" } : Jvm.MethodName) prog_27_method_65_code (12 : Nat) (Option.some Jvm.ClassFile.FieldType.long)) ∈ lw_all := lw_g (lw_at lw_m11 50 rfl) rfl
theorem q2584 : (Jvm.Cond.methodLink "GlassLeadersModel" (366 : Nat) ({ cls := "GlassLeadersModel", name := "behind", desc := "(IIII)I" } : Jvm.MethodName)) ∈ lw_all := lw_g (lw_at lw_m11 51 rfl) rfl
theorem q2585 : (Jvm.Cond.privateMethod ({ cls := "GlassLeadersModel", name := "behind", desc := "(IIII)I" } : Jvm.MethodName)) ∈ lw_tbl := lw_at lw_m11 52 rfl
theorem q2586 : (Jvm.Cond.instanceMethod ({ cls := "GlassLeadersModel", name := "behind", desc := "(IIII)I" } : Jvm.MethodName)) ∈ lw_all := lw_g (lw_at lw_m11 53 rfl) rfl
theorem q2587 : (Jvm.Cond.code ({ cls := "GlassLeadersModel", name := "behind", desc := "(IIII)I" } : Jvm.MethodName) prog_27_method_64_code (5 : Nat) (Option.some Jvm.ClassFile.FieldType.int)) ∈ lw_all := lw_g (lw_at lw_m11 54 rfl) rfl
theorem q2589 : (Jvm.Cond.instanceMethod ({ cls := "GlassLeadersModel", name := "takes", desc := "(III)I" } : Jvm.MethodName)) ∈ lw_all := lw_g (lw_at lw_m11 56 rfl) rfl
theorem q2590 : (Jvm.Cond.selects "GlassLeadersModel" ({ cls := "GlassLeadersModel", name := "takes", desc := "(III)I" } : Jvm.MethodName) ({ cls := "GlassLeadersModel", name := "takes", desc := "(III)I" } : Jvm.MethodName)) ∈ lw_all := lw_g (lw_at lw_m11 57 rfl) rfl
theorem q2591 : (Jvm.Cond.code ({ cls := "GlassLeadersModel", name := "takes", desc := "(III)I" } : Jvm.MethodName) prog_27_method_84_code (4 : Nat) (Option.some Jvm.ClassFile.FieldType.int)) ∈ lw_all := lw_g (lw_at lw_m11 58 rfl) rfl
theorem q2592 : (Jvm.Cond.methodLink "GlassLeadersModel" (430 : Nat) ({ cls := "GlassLeadersModel", name := "asItIs", desc := "()V" } : Jvm.MethodName)) ∈ lw_all := lw_g (lw_at lw_m11 59 rfl) rfl
theorem q2593 : (Jvm.Cond.privateMethod ({ cls := "GlassLeadersModel", name := "asItIs", desc := "()V" } : Jvm.MethodName)) ∈ lw_tbl := lw_at lw_m11 60 rfl
theorem q2594 : (Jvm.Cond.instanceMethod ({ cls := "GlassLeadersModel", name := "asItIs", desc := "()V" } : Jvm.MethodName)) ∈ lw_all := lw_g (lw_at lw_m11 61 rfl) rfl
theorem q2595 : (Jvm.Cond.code ({ cls := "GlassLeadersModel", name := "asItIs", desc := "()V" } : Jvm.MethodName) prog_27_method_77_code (1 : Nat) (Option.none : Option Jvm.ClassFile.FieldType)) ∈ lw_all := lw_g (lw_at lw_m11 62 rfl) rfl
theorem q2596 : (Jvm.Cond.methodLink "GlassLeadersModel" (414 : Nat) ({ cls := "GlassLeadersModel", name := "plays", desc := "()V" } : Jvm.MethodName)) ∈ lw_all := lw_g (lw_at lw_m11 63 rfl) rfl
theorem q2597 : (Jvm.Cond.privateMethod ({ cls := "GlassLeadersModel", name := "plays", desc := "()V" } : Jvm.MethodName)) ∈ lw_tbl := lw_at lw_m11 64 rfl
theorem q2598 : (Jvm.Cond.instanceMethod ({ cls := "GlassLeadersModel", name := "plays", desc := "()V" } : Jvm.MethodName)) ∈ lw_all := lw_g (lw_at lw_m11 65 rfl) rfl
theorem q2599 : (Jvm.Cond.code ({ cls := "GlassLeadersModel", name := "plays", desc := "()V" } : Jvm.MethodName) prog_27_method_75_code (7 : Nat) (Option.none : Option Jvm.ClassFile.FieldType)) ∈ lw_all := lw_g (lw_at lw_m11 66 rfl) rfl
theorem q2600 : (Jvm.Cond.methodLink "GlassLeadersModel" (401 : Nat) ({ cls := "GlassLeadersModel", name := "findBlind", desc := "(I)V" } : Jvm.MethodName)) ∈ lw_all := lw_g (lw_at lw_m11 67 rfl) rfl
theorem q2601 : (Jvm.Cond.privateMethod ({ cls := "GlassLeadersModel", name := "findBlind", desc := "(I)V" } : Jvm.MethodName)) ∈ lw_tbl := lw_at lw_m11 68 rfl
theorem q2602 : (Jvm.Cond.instanceMethod ({ cls := "GlassLeadersModel", name := "findBlind", desc := "(I)V" } : Jvm.MethodName)) ∈ lw_all := lw_g (lw_at lw_m11 69 rfl) rfl
theorem q2603 : (Jvm.Cond.code ({ cls := "GlassLeadersModel", name := "findBlind", desc := "(I)V" } : Jvm.MethodName) prog_27_method_69_code (8 : Nat) (Option.none : Option Jvm.ClassFile.FieldType)) ∈ lw_all := lw_g (lw_at lw_m11 70 rfl) rfl
theorem q2604 : (Jvm.Cond.methodLink "GlassLeadersModel" (404 : Nat) ({ cls := "GlassLeadersModel", name := "chosen", desc := "(IIIII)I" } : Jvm.MethodName)) ∈ lw_all := lw_g (lw_at lw_m11 71 rfl) rfl
theorem q2605 : (Jvm.Cond.privateMethod ({ cls := "GlassLeadersModel", name := "chosen", desc := "(IIIII)I" } : Jvm.MethodName)) ∈ lw_tbl := lw_at lw_m11 72 rfl
theorem q2606 : (Jvm.Cond.instanceMethod ({ cls := "GlassLeadersModel", name := "chosen", desc := "(IIIII)I" } : Jvm.MethodName)) ∈ lw_all := lw_g (lw_at lw_m11 73 rfl) rfl
theorem q2607 : (Jvm.Cond.code ({ cls := "GlassLeadersModel", name := "chosen", desc := "(IIIII)I" } : Jvm.MethodName) prog_27_method_74_code (7 : Nat) (Option.some Jvm.ClassFile.FieldType.int)) ∈ lw_all := lw_g (lw_at lw_m11 74 rfl) rfl
theorem q2608 : (Jvm.Cond.methodLink "GlassLeadersModel" (391 : Nat) ({ cls := "GlassLeadersModel", name := "voted", desc := "(IIII)I" } : Jvm.MethodName)) ∈ lw_all := lw_g (lw_at lw_m11 75 rfl) rfl
theorem q2609 : (Jvm.Cond.privateMethod ({ cls := "GlassLeadersModel", name := "voted", desc := "(IIII)I" } : Jvm.MethodName)) ∈ lw_tbl := lw_at lw_m11 76 rfl
theorem q2610 : (Jvm.Cond.instanceMethod ({ cls := "GlassLeadersModel", name := "voted", desc := "(IIII)I" } : Jvm.MethodName)) ∈ lw_all := lw_g (lw_at lw_m11 77 rfl) rfl
theorem q2611 : (Jvm.Cond.code ({ cls := "GlassLeadersModel", name := "voted", desc := "(IIII)I" } : Jvm.MethodName) prog_27_method_72_code (7 : Nat) (Option.some Jvm.ClassFile.FieldType.int)) ∈ lw_all := lw_g (lw_at lw_m11 78 rfl) rfl
theorem q2612 : (Jvm.Cond.methodLink "GlassLeadersModel" (394 : Nat) ({ cls := "GlassLeadersModel", name := "bestOf", desc := "(IIIIII)I" } : Jvm.MethodName)) ∈ lw_all := lw_g (lw_at lw_m11 79 rfl) rfl
theorem q2613 : (Jvm.Cond.privateMethod ({ cls := "GlassLeadersModel", name := "bestOf", desc := "(IIIIII)I" } : Jvm.MethodName)) ∈ lw_tbl := lw_at lw_m11 80 rfl
theorem q2614 : (Jvm.Cond.instanceMethod ({ cls := "GlassLeadersModel", name := "bestOf", desc := "(IIIIII)I" } : Jvm.MethodName)) ∈ lw_all := lw_g (lw_at lw_m11 81 rfl) rfl
theorem q2615 : (Jvm.Cond.code ({ cls := "GlassLeadersModel", name := "bestOf", desc := "(IIIIII)I" } : Jvm.MethodName) prog_27_method_71_code (13 : Nat) (Option.some Jvm.ClassFile.FieldType.int)) ∈ lw_all := lw_g (lw_at lw_m11 82 rfl) rfl
theorem q2616 : (Jvm.Cond.methodLink "GlassLeadersModel" (384 : Nat) ({ cls := "GlassLeadersModel", name := "sums", desc := "(IIIIII)J" } : Jvm.MethodName)) ∈ lw_all := lw_g (lw_at lw_m11 83 rfl) rfl
theorem q2617 : (Jvm.Cond.privateMethod ({ cls := "GlassLeadersModel", name := "sums", desc := "(IIIIII)J" } : Jvm.MethodName)) ∈ lw_tbl := lw_at lw_m11 84 rfl
theorem q2618 : (Jvm.Cond.instanceMethod ({ cls := "GlassLeadersModel", name := "sums", desc := "(IIIIII)J" } : Jvm.MethodName)) ∈ lw_all := lw_g (lw_at lw_m11 85 rfl) rfl
theorem q2619 : (Jvm.Cond.code ({ cls := "GlassLeadersModel", name := "sums", desc := "(IIIIII)J" } : Jvm.MethodName) prog_27_method_70_code (10 : Nat) (Option.some Jvm.ClassFile.FieldType.long)) ∈ lw_all := lw_g (lw_at lw_m11 86 rfl) rfl
theorem q2620 : (Jvm.Cond.methodLink "GlassLeadersModel" (398 : Nat) ({ cls := "GlassLeadersModel", name := "first", desc := "(I)I" } : Jvm.MethodName)) ∈ lw_all := lw_g (lw_at lw_m11 87 rfl) rfl
theorem q2621 : (Jvm.Cond.static ({ cls := "GlassLeadersModel", name := "first", desc := "(I)I" } : Jvm.MethodName)) ∈ lw_all := lw_g (lw_at lw_m11 88 rfl) rfl
theorem q2622 : (Jvm.Cond.code ({ cls := "GlassLeadersModel", name := "first", desc := "(I)I" } : Jvm.MethodName) prog_27_method_73_code (2 : Nat) (Option.some Jvm.ClassFile.FieldType.int)) ∈ lw_all := lw_g (lw_at lw_m11 89 rfl) rfl
theorem q2624 : (Jvm.Cond.instanceMethod ({ cls := "GlassLeadersModel", name := "value", desc := "(IIII)J" } : Jvm.MethodName)) ∈ lw_all := lw_g (lw_at lw_m11 91 rfl) rfl
theorem q2625 : (Jvm.Cond.selects "GlassLeadersModel" ({ cls := "GlassLeadersModel", name := "value", desc := "(IIII)J" } : Jvm.MethodName) ({ cls := "GlassLeadersModel", name := "value", desc := "(IIII)J" } : Jvm.MethodName)) ∈ lw_all := lw_g (lw_at lw_m11 92 rfl) rfl
theorem q2626 : (Jvm.Cond.code ({ cls := "GlassLeadersModel", name := "value", desc := "(IIII)J" } : Jvm.MethodName) prog_27_method_85_code (5 : Nat) (Option.some Jvm.ClassFile.FieldType.long)) ∈ lw_all := lw_g (lw_at lw_m11 93 rfl) rfl
theorem q2628 : (Jvm.Cond.instanceMethod ({ cls := "GlassLeadersModel", name := "scale", desc := "(I)J" } : Jvm.MethodName)) ∈ lw_all := lw_g (lw_at lw_m11 95 rfl) rfl
theorem q2629 : (Jvm.Cond.selects "GlassLeadersModel" ({ cls := "GlassLeadersModel", name := "scale", desc := "(I)J" } : Jvm.MethodName) ({ cls := "GlassLeadersModel", name := "scale", desc := "(I)J" } : Jvm.MethodName)) ∈ lw_all := lw_g (lw_at lw_m11 96 rfl) rfl
theorem q2630 : (Jvm.Cond.code ({ cls := "GlassLeadersModel", name := "scale", desc := "(I)J" } : Jvm.MethodName) prog_27_method_86_code (2 : Nat) (Option.some Jvm.ClassFile.FieldType.long)) ∈ lw_all := lw_g (lw_at lw_m11 97 rfl) rfl
theorem q2632 : (Jvm.Cond.instanceMethod ({ cls := "GlassLeadersModel", name := "all", desc := "()J" } : Jvm.MethodName)) ∈ lw_all := lw_g (lw_at lw_m11 99 rfl) rfl
theorem q2633 : (Jvm.Cond.selects "GlassLeadersModel" ({ cls := "GlassLeadersModel", name := "all", desc := "()J" } : Jvm.MethodName) ({ cls := "GlassLeadersModel", name := "all", desc := "()J" } : Jvm.MethodName)) ∈ lw_all := lw_g (lw_at lw_m11 100 rfl) rfl
theorem q2634 : (Jvm.Cond.code ({ cls := "GlassLeadersModel", name := "all", desc := "()J" } : Jvm.MethodName) prog_27_method_87_code (1 : Nat) (Option.some Jvm.ClassFile.FieldType.long)) ∈ lw_all := lw_g (lw_at lw_m11 101 rfl) rfl
theorem q2635 : (Jvm.Cond.methodLink "GlassLeadersModel" (423 : Nat) ({ cls := "GlassLeadersModel", name := "nowAll", desc := "()J" } : Jvm.MethodName)) ∈ lw_all := lw_g (lw_at lw_m11 102 rfl) rfl
theorem q2636 : (Jvm.Cond.privateMethod ({ cls := "GlassLeadersModel", name := "nowAll", desc := "()J" } : Jvm.MethodName)) ∈ lw_tbl := lw_at lw_m11 103 rfl
theorem q2637 : (Jvm.Cond.instanceMethod ({ cls := "GlassLeadersModel", name := "nowAll", desc := "()J" } : Jvm.MethodName)) ∈ lw_all := lw_g (lw_at lw_m11 104 rfl) rfl
theorem q2638 : (Jvm.Cond.code ({ cls := "GlassLeadersModel", name := "nowAll", desc := "()J" } : Jvm.MethodName) prog_27_method_80_code (4 : Nat) (Option.some Jvm.ClassFile.FieldType.long)) ∈ lw_all := lw_g (lw_at lw_m11 105 rfl) rfl
theorem q2639 : (Jvm.Cond.methodLink "GlassLeadersModel" (419 : Nat) ({ cls := "GlassLeadersModel", name := "now", desc := "(I)J" } : Jvm.MethodName)) ∈ lw_all := lw_g (lw_at lw_m11 106 rfl) rfl
theorem q2640 : (Jvm.Cond.privateMethod ({ cls := "GlassLeadersModel", name := "now", desc := "(I)J" } : Jvm.MethodName)) ∈ lw_tbl := lw_at lw_m11 107 rfl
theorem q2641 : (Jvm.Cond.instanceMethod ({ cls := "GlassLeadersModel", name := "now", desc := "(I)J" } : Jvm.MethodName)) ∈ lw_all := lw_g (lw_at lw_m11 108 rfl) rfl
theorem q2642 : (Jvm.Cond.code ({ cls := "GlassLeadersModel", name := "now", desc := "(I)J" } : Jvm.MethodName) prog_27_method_79_code (2 : Nat) (Option.some Jvm.ClassFile.FieldType.long)) ∈ lw_all := lw_g (lw_at lw_m11 109 rfl) rfl
theorem q2643 : (Jvm.Cond.methodLink "GlassLeadersModel" (417 : Nat) ({ cls := "GlassLeadersModel", name := "start", desc := "()I" } : Jvm.MethodName)) ∈ lw_all := lw_g (lw_at lw_m11 110 rfl) rfl
theorem q2644 : (Jvm.Cond.privateMethod ({ cls := "GlassLeadersModel", name := "start", desc := "()I" } : Jvm.MethodName)) ∈ lw_tbl := lw_at lw_m11 111 rfl
theorem q2645 : (Jvm.Cond.instanceMethod ({ cls := "GlassLeadersModel", name := "start", desc := "()I" } : Jvm.MethodName)) ∈ lw_all := lw_g (lw_at lw_m11 112 rfl) rfl
theorem q2646 : (Jvm.Cond.code ({ cls := "GlassLeadersModel", name := "start", desc := "()I" } : Jvm.MethodName) prog_27_method_78_code (1 : Nat) (Option.some Jvm.ClassFile.FieldType.int)) ∈ lw_all := lw_g (lw_at lw_m11 113 rfl) rfl
theorem q2648 : (Jvm.Cond.instanceMethod ({ cls := "GlassLeadersModel", name := "alone", desc := "(I)J" } : Jvm.MethodName)) ∈ lw_all := lw_g (lw_at lw_m11 115 rfl) rfl
theorem q2649 : (Jvm.Cond.selects "GlassLeadersModel" ({ cls := "GlassLeadersModel", name := "alone", desc := "(I)J" } : Jvm.MethodName) ({ cls := "GlassLeadersModel", name := "alone", desc := "(I)J" } : Jvm.MethodName)) ∈ lw_all := lw_g (lw_at lw_m11 116 rfl) rfl
theorem q2650 : (Jvm.Cond.code ({ cls := "GlassLeadersModel", name := "alone", desc := "(I)J" } : Jvm.MethodName) prog_27_method_88_code (2 : Nat) (Option.some Jvm.ClassFile.FieldType.long)) ∈ lw_all := lw_g (lw_at lw_m11 117 rfl) rfl
theorem q2652 : (Jvm.Cond.instanceMethod ({ cls := "GlassLeadersModel", name := "run", desc := "(I)I" } : Jvm.MethodName)) ∈ lw_all := lw_g (lw_at lw_m11 119 rfl) rfl
theorem q2653 : (Jvm.Cond.selects "GlassLeadersModel" ({ cls := "GlassLeadersModel", name := "run", desc := "(I)I" } : Jvm.MethodName) ({ cls := "GlassLeadersModel", name := "run", desc := "(I)I" } : Jvm.MethodName)) ∈ lw_all := lw_g (lw_at lw_m11 120 rfl) rfl
theorem q2654 : (Jvm.Cond.code ({ cls := "GlassLeadersModel", name := "run", desc := "(I)I" } : Jvm.MethodName) prog_27_method_89_code (10 : Nat) (Option.some Jvm.ClassFile.FieldType.int)) ∈ lw_all := lw_g (lw_at lw_m11 121 rfl) rfl
theorem q2655 : (Jvm.Cond.constant "GlassLeadersModel" (433 : Nat) (1103515245 : Int32)) ∈ lw_all := lw_g (lw_at lw_m11 122 rfl) rfl
theorem q2657 : (Jvm.Cond.instanceMethod ({ cls := "GlassLeadersModel", name := "was", desc := "(II)I" } : Jvm.MethodName)) ∈ lw_all := lw_g (lw_at lw_m11 124 rfl) rfl
theorem q2658 : (Jvm.Cond.selects "GlassLeadersModel" ({ cls := "GlassLeadersModel", name := "was", desc := "(II)I" } : Jvm.MethodName) ({ cls := "GlassLeadersModel", name := "was", desc := "(II)I" } : Jvm.MethodName)) ∈ lw_all := lw_g (lw_at lw_m11 125 rfl) rfl
theorem q2659 : (Jvm.Cond.code ({ cls := "GlassLeadersModel", name := "was", desc := "(II)I" } : Jvm.MethodName) prog_27_method_90_code (3 : Nat) (Option.some Jvm.ClassFile.FieldType.int)) ∈ lw_all := lw_g (lw_at lw_m11 126 rfl) rfl
theorem q2661 : (Jvm.Cond.instanceMethod ({ cls := "GlassLeadersModel", name := "ended", desc := "()I" } : Jvm.MethodName)) ∈ lw_all := lw_g (lw_at lw_m11 128 rfl) rfl
theorem q2662 : (Jvm.Cond.selects "GlassLeadersModel" ({ cls := "GlassLeadersModel", name := "ended", desc := "()I" } : Jvm.MethodName) ({ cls := "GlassLeadersModel", name := "ended", desc := "()I" } : Jvm.MethodName)) ∈ lw_all := lw_g (lw_at lw_m11 129 rfl) rfl
theorem q2663 : (Jvm.Cond.code ({ cls := "GlassLeadersModel", name := "ended", desc := "()I" } : Jvm.MethodName) prog_27_method_91_code (1 : Nat) (Option.some Jvm.ClassFile.FieldType.int)) ∈ lw_all := lw_g (lw_at lw_m11 130 rfl) rfl
theorem q2665 : (Jvm.Cond.instanceMethod ({ cls := "GlassLeadersModel", name := "row", desc := "(I)I" } : Jvm.MethodName)) ∈ lw_all := lw_g (lw_at lw_m11 132 rfl) rfl
theorem q2666 : (Jvm.Cond.selects "GlassLeadersModel" ({ cls := "GlassLeadersModel", name := "row", desc := "(I)I" } : Jvm.MethodName) ({ cls := "GlassLeadersModel", name := "row", desc := "(I)I" } : Jvm.MethodName)) ∈ lw_all := lw_g (lw_at lw_m11 133 rfl) rfl
theorem q2667 : (Jvm.Cond.code ({ cls := "GlassLeadersModel", name := "row", desc := "(I)I" } : Jvm.MethodName) prog_27_method_92_code (2 : Nat) (Option.some Jvm.ClassFile.FieldType.int)) ∈ lw_all := lw_g (lw_at lw_m11 134 rfl) rfl
theorem q2669 : (Jvm.Cond.instanceMethod ({ cls := "GlassLeadersModel", name := "clear", desc := "()I" } : Jvm.MethodName)) ∈ lw_all := lw_g (lw_at lw_m11 136 rfl) rfl
theorem q2670 : (Jvm.Cond.selects "GlassLeadersModel" ({ cls := "GlassLeadersModel", name := "clear", desc := "()I" } : Jvm.MethodName) ({ cls := "GlassLeadersModel", name := "clear", desc := "()I" } : Jvm.MethodName)) ∈ lw_all := lw_g (lw_at lw_m11 137 rfl) rfl
theorem q2671 : (Jvm.Cond.code ({ cls := "GlassLeadersModel", name := "clear", desc := "()I" } : Jvm.MethodName) prog_27_method_93_code (2 : Nat) (Option.some Jvm.ClassFile.FieldType.int)) ∈ lw_all := lw_g (lw_at lw_m11 138 rfl) rfl
theorem q2673 : (Jvm.Cond.instanceMethod ({ cls := "GlassLeadersModel", name := "judge", desc := "()I" } : Jvm.MethodName)) ∈ lw_all := lw_g (lw_at lw_m11 140 rfl) rfl
theorem q2674 : (Jvm.Cond.selects "GlassLeadersModel" ({ cls := "GlassLeadersModel", name := "judge", desc := "()I" } : Jvm.MethodName) ({ cls := "GlassLeadersModel", name := "judge", desc := "()I" } : Jvm.MethodName)) ∈ lw_all := lw_g (lw_at lw_m11 141 rfl) rfl
theorem q2675 : (Jvm.Cond.code ({ cls := "GlassLeadersModel", name := "judge", desc := "()I" } : Jvm.MethodName) prog_27_method_96_code (3 : Nat) (Option.some Jvm.ClassFile.FieldType.int)) ∈ lw_all := lw_g (lw_at lw_m11 142 rfl) rfl
theorem q2676 : (Jvm.Cond.methodLink "GlassLeadersModel" (443 : Nat) ({ cls := "GlassLeadersModel", name := "begin", desc := "()V" } : Jvm.MethodName)) ∈ lw_all := lw_g (lw_at lw_m11 143 rfl) rfl
theorem q2677 : (Jvm.Cond.privateMethod ({ cls := "GlassLeadersModel", name := "begin", desc := "()V" } : Jvm.MethodName)) ∈ lw_tbl := lw_at lw_m11 144 rfl
theorem q2678 : (Jvm.Cond.instanceMethod ({ cls := "GlassLeadersModel", name := "begin", desc := "()V" } : Jvm.MethodName)) ∈ lw_all := lw_g (lw_at lw_m11 145 rfl) rfl
theorem q2679 : (Jvm.Cond.code ({ cls := "GlassLeadersModel", name := "begin", desc := "()V" } : Jvm.MethodName) prog_27_method_94_code (1 : Nat) (Option.none : Option Jvm.ClassFile.FieldType)) ∈ lw_all := lw_g (lw_at lw_m11 146 rfl) rfl
theorem q2680 : (Jvm.Cond.methodLink "GlassLeadersModel" (446 : Nat) ({ cls := "GlassLeadersModel", name := "goes", desc := "(I)V" } : Jvm.MethodName)) ∈ lw_all := lw_g (lw_at lw_m11 147 rfl) rfl
theorem q2681 : (Jvm.Cond.privateMethod ({ cls := "GlassLeadersModel", name := "goes", desc := "(I)V" } : Jvm.MethodName)) ∈ lw_tbl := lw_at lw_m11 148 rfl
theorem q2682 : (Jvm.Cond.instanceMethod ({ cls := "GlassLeadersModel", name := "goes", desc := "(I)V" } : Jvm.MethodName)) ∈ lw_all := lw_g (lw_at lw_m11 149 rfl) rfl
theorem q2683 : (Jvm.Cond.code ({ cls := "GlassLeadersModel", name := "goes", desc := "(I)V" } : Jvm.MethodName) prog_27_method_95_code (2 : Nat) (Option.none : Option Jvm.ClassFile.FieldType)) ∈ lw_all := lw_g (lw_at lw_m11 150 rfl) rfl
theorem q2685 : (Jvm.Cond.instanceMethod ({ cls := "GlassLeadersModel", name := "proof", desc := "(I)I" } : Jvm.MethodName)) ∈ lw_all := lw_g (lw_at lw_m11 152 rfl) rfl
theorem q2686 : (Jvm.Cond.selects "GlassLeadersModel" ({ cls := "GlassLeadersModel", name := "proof", desc := "(I)I" } : Jvm.MethodName) ({ cls := "GlassLeadersModel", name := "proof", desc := "(I)I" } : Jvm.MethodName)) ∈ lw_all := lw_g (lw_at lw_m11 153 rfl) rfl
theorem q2687 : (Jvm.Cond.code ({ cls := "GlassLeadersModel", name := "proof", desc := "(I)I" } : Jvm.MethodName) prog_27_method_97_code (8 : Nat) (Option.some Jvm.ClassFile.FieldType.int)) ∈ lw_all := lw_g (lw_at lw_m11 154 rfl) rfl
theorem q2689 : (Jvm.Cond.instanceMethod ({ cls := "GlassLeadersModel", name := "hour", desc := "(II)J" } : Jvm.MethodName)) ∈ lw_all := lw_g (lw_at lw_m11 156 rfl) rfl
theorem q2690 : (Jvm.Cond.selects "GlassLeadersModel" ({ cls := "GlassLeadersModel", name := "hour", desc := "(II)J" } : Jvm.MethodName) ({ cls := "GlassLeadersModel", name := "hour", desc := "(II)J" } : Jvm.MethodName)) ∈ lw_all := lw_g (lw_at lw_m11 157 rfl) rfl
theorem q2691 : (Jvm.Cond.code ({ cls := "GlassLeadersModel", name := "hour", desc := "(II)J" } : Jvm.MethodName) prog_27_method_101_code (3 : Nat) (Option.some Jvm.ClassFile.FieldType.long)) ∈ lw_all := lw_g (lw_at lw_m11 158 rfl) rfl
theorem q2692 : (Jvm.Cond.methodLink "GlassLeadersModel" (449 : Nat) ({ cls := "GlassLeadersModel", name := "isLed", desc := "(I)Z" } : Jvm.MethodName)) ∈ lw_all := lw_g (lw_at lw_m11 159 rfl) rfl
theorem q2693 : (Jvm.Cond.privateMethod ({ cls := "GlassLeadersModel", name := "isLed", desc := "(I)Z" } : Jvm.MethodName)) ∈ lw_tbl := lw_at lw_m11 160 rfl
theorem q2694 : (Jvm.Cond.instanceMethod ({ cls := "GlassLeadersModel", name := "isLed", desc := "(I)Z" } : Jvm.MethodName)) ∈ lw_all := lw_g (lw_at lw_m11 161 rfl) rfl
theorem q2695 : (Jvm.Cond.code ({ cls := "GlassLeadersModel", name := "isLed", desc := "(I)Z" } : Jvm.MethodName) prog_27_method_98_code (2 : Nat) (Option.some Jvm.ClassFile.FieldType.boolean)) ∈ lw_all := lw_g (lw_at lw_m11 162 rfl) rfl
theorem q2696 : (Jvm.Cond.methodLink "GlassLeadersModel" (452 : Nat) ({ cls := "GlassLeadersModel", name := "keeps", desc := "()V" } : Jvm.MethodName)) ∈ lw_all := lw_g (lw_at lw_m11 163 rfl) rfl
theorem q2697 : (Jvm.Cond.privateMethod ({ cls := "GlassLeadersModel", name := "keeps", desc := "()V" } : Jvm.MethodName)) ∈ lw_tbl := lw_at lw_m11 164 rfl
theorem q2698 : (Jvm.Cond.instanceMethod ({ cls := "GlassLeadersModel", name := "keeps", desc := "()V" } : Jvm.MethodName)) ∈ lw_all := lw_g (lw_at lw_m11 165 rfl) rfl
theorem q2699 : (Jvm.Cond.code ({ cls := "GlassLeadersModel", name := "keeps", desc := "()V" } : Jvm.MethodName) prog_27_method_99_code (2 : Nat) (Option.none : Option Jvm.ClassFile.FieldType)) ∈ lw_all := lw_g (lw_at lw_m11 166 rfl) rfl
theorem q2700 : (Jvm.Cond.methodLink "GlassLeadersModel" (455 : Nat) ({ cls := "GlassLeadersModel", name := "ledBy", desc := "(II)V" } : Jvm.MethodName)) ∈ lw_all := lw_g (lw_at lw_m11 167 rfl) rfl
theorem q2701 : (Jvm.Cond.privateMethod ({ cls := "GlassLeadersModel", name := "ledBy", desc := "(II)V" } : Jvm.MethodName)) ∈ lw_tbl := lw_at lw_m11 168 rfl
theorem q2702 : (Jvm.Cond.instanceMethod ({ cls := "GlassLeadersModel", name := "ledBy", desc := "(II)V" } : Jvm.MethodName)) ∈ lw_all := lw_g (lw_at lw_m11 169 rfl) rfl
theorem q2703 : (Jvm.Cond.code ({ cls := "GlassLeadersModel", name := "ledBy", desc := "(II)V" } : Jvm.MethodName) prog_27_method_100_code (3 : Nat) (Option.none : Option Jvm.ClassFile.FieldType)) ∈ lw_all := lw_g (lw_at lw_m11 170 rfl) rfl
theorem q2705 : (Jvm.Cond.instanceMethod ({ cls := "GlassLeadersModel", name := "give", desc := "()I" } : Jvm.MethodName)) ∈ lw_all := lw_g (lw_at lw_m11 172 rfl) rfl
theorem q2706 : (Jvm.Cond.selects "GlassLeadersModel" ({ cls := "GlassLeadersModel", name := "give", desc := "()I" } : Jvm.MethodName) ({ cls := "GlassLeadersModel", name := "give", desc := "()I" } : Jvm.MethodName)) ∈ lw_all := lw_g (lw_at lw_m11 173 rfl) rfl
theorem q2707 : (Jvm.Cond.code ({ cls := "GlassLeadersModel", name := "give", desc := "()I" } : Jvm.MethodName) prog_27_method_102_code (4 : Nat) (Option.some Jvm.ClassFile.FieldType.int)) ∈ lw_all := lw_g (lw_at lw_m11 174 rfl) rfl
theorem q2709 : (Jvm.Cond.instanceMethod ({ cls := "GlassLeadersModel", name := "price", desc := "(II)J" } : Jvm.MethodName)) ∈ lw_all := lw_g (lw_at lw_m11 176 rfl) rfl
theorem q2710 : (Jvm.Cond.selects "GlassLeadersModel" ({ cls := "GlassLeadersModel", name := "price", desc := "(II)J" } : Jvm.MethodName) ({ cls := "GlassLeadersModel", name := "price", desc := "(II)J" } : Jvm.MethodName)) ∈ lw_all := lw_g (lw_at lw_m11 177 rfl) rfl
theorem q2711 : (Jvm.Cond.code ({ cls := "GlassLeadersModel", name := "price", desc := "(II)J" } : Jvm.MethodName) prog_27_method_103_code (4 : Nat) (Option.some Jvm.ClassFile.FieldType.long)) ∈ lw_all := lw_g (lw_at lw_m11 178 rfl) rfl
theorem q2713 : (Jvm.Cond.instanceMethod ({ cls := "GlassLeadersModel", name := "swap", desc := "(II)I" } : Jvm.MethodName)) ∈ lw_all := lw_g (lw_at lw_m11 180 rfl) rfl
theorem q2714 : (Jvm.Cond.selects "GlassLeadersModel" ({ cls := "GlassLeadersModel", name := "swap", desc := "(II)I" } : Jvm.MethodName) ({ cls := "GlassLeadersModel", name := "swap", desc := "(II)I" } : Jvm.MethodName)) ∈ lw_all := lw_g (lw_at lw_m11 181 rfl) rfl
theorem q2715 : (Jvm.Cond.code ({ cls := "GlassLeadersModel", name := "swap", desc := "(II)I" } : Jvm.MethodName) prog_27_method_104_code (6 : Nat) (Option.some Jvm.ClassFile.FieldType.int)) ∈ lw_all := lw_g (lw_at lw_m11 182 rfl) rfl
theorem q2717 : (Jvm.Cond.instanceMethod ({ cls := "GlassLeadersModel", name := "order", desc := "(I)I" } : Jvm.MethodName)) ∈ lw_all := lw_g (lw_at lw_m11 184 rfl) rfl
theorem q2718 : (Jvm.Cond.selects "GlassLeadersModel" ({ cls := "GlassLeadersModel", name := "order", desc := "(I)I" } : Jvm.MethodName) ({ cls := "GlassLeadersModel", name := "order", desc := "(I)I" } : Jvm.MethodName)) ∈ lw_all := lw_g (lw_at lw_m11 185 rfl) rfl
theorem q2719 : (Jvm.Cond.code ({ cls := "GlassLeadersModel", name := "order", desc := "(I)I" } : Jvm.MethodName) prog_27_method_106_code (2 : Nat) (Option.some Jvm.ClassFile.FieldType.int)) ∈ lw_all := lw_g (lw_at lw_m11 186 rfl) rfl
theorem q2720 : (Jvm.Cond.methodLink "GlassLeadersModel" (468 : Nat) ({ cls := "GlassLeadersModel", name := "orders", desc := "(IIII)V" } : Jvm.MethodName)) ∈ lw_all := lw_g (lw_at lw_m11 187 rfl) rfl
theorem q2721 : (Jvm.Cond.privateMethod ({ cls := "GlassLeadersModel", name := "orders", desc := "(IIII)V" } : Jvm.MethodName)) ∈ lw_tbl := lw_at lw_m11 188 rfl
theorem q2722 : (Jvm.Cond.instanceMethod ({ cls := "GlassLeadersModel", name := "orders", desc := "(IIII)V" } : Jvm.MethodName)) ∈ lw_all := lw_g (lw_at lw_m11 189 rfl) rfl
theorem q2723 : (Jvm.Cond.code ({ cls := "GlassLeadersModel", name := "orders", desc := "(IIII)V" } : Jvm.MethodName) prog_27_method_105_code (8 : Nat) (Option.none : Option Jvm.ClassFile.FieldType)) ∈ lw_all := lw_g (lw_at lw_m11 190 rfl) rfl
theorem q2724 : (Jvm.Cond.methodLink "GlassLeadersModel" (458 : Nat) ({ cls := "GlassLeadersModel", name := "nowTo", desc := "(I)J" } : Jvm.MethodName)) ∈ lw_all := lw_g (lw_at lw_m11 191 rfl) rfl
theorem q2725 : (Jvm.Cond.privateMethod ({ cls := "GlassLeadersModel", name := "nowTo", desc := "(I)J" } : Jvm.MethodName)) ∈ lw_tbl := lw_at lw_m11 192 rfl
theorem q2726 : (Jvm.Cond.instanceMethod ({ cls := "GlassLeadersModel", name := "nowTo", desc := "(I)J" } : Jvm.MethodName)) ∈ lw_all := lw_g (lw_at lw_m11 193 rfl) rfl
theorem q2727 : (Jvm.Cond.code ({ cls := "GlassLeadersModel", name := "nowTo", desc := "(I)J" } : Jvm.MethodName) prog_27_method_81_code (2 : Nat) (Option.some Jvm.ClassFile.FieldType.long)) ∈ lw_all := lw_g (lw_at lw_m11 194 rfl) rfl
theorem q2729 : (Jvm.Cond.instanceMethod ({ cls := "GlassLeadersModel", name := "length", desc := "(I)I" } : Jvm.MethodName)) ∈ lw_all := lw_g (lw_at lw_m11 196 rfl) rfl
theorem q2730 : (Jvm.Cond.selects "GlassLeadersModel" ({ cls := "GlassLeadersModel", name := "length", desc := "(I)I" } : Jvm.MethodName) ({ cls := "GlassLeadersModel", name := "length", desc := "(I)I" } : Jvm.MethodName)) ∈ lw_all := lw_g (lw_at lw_m11 197 rfl) rfl
theorem q2731 : (Jvm.Cond.code ({ cls := "GlassLeadersModel", name := "length", desc := "(I)I" } : Jvm.MethodName) prog_27_method_107_code (8 : Nat) (Option.some Jvm.ClassFile.FieldType.int)) ∈ lw_all := lw_g (lw_at lw_m11 198 rfl) rfl
theorem q2733 : (Jvm.Cond.instanceMethod ({ cls := "GlassLeadersModel", name := "trap", desc := "(III)Z" } : Jvm.MethodName)) ∈ lw_all := lw_g (lw_at lw_m11 200 rfl) rfl
theorem q2734 : (Jvm.Cond.selects "GlassLeadersModel" ({ cls := "GlassLeadersModel", name := "trap", desc := "(III)Z" } : Jvm.MethodName) ({ cls := "GlassLeadersModel", name := "trap", desc := "(III)Z" } : Jvm.MethodName)) ∈ lw_all := lw_g (lw_at lw_m11 201 rfl) rfl
theorem q2735 : (Jvm.Cond.code ({ cls := "GlassLeadersModel", name := "trap", desc := "(III)Z" } : Jvm.MethodName) prog_27_method_109_code (4 : Nat) (Option.some Jvm.ClassFile.FieldType.boolean)) ∈ lw_all := lw_g (lw_at lw_m11 202 rfl) rfl
theorem q2736 : (Jvm.Cond.methodLink "GlassLeadersModel" (472 : Nat) ({ cls := "GlassLeadersModel", name := "isTrap", desc := "(III)Z" } : Jvm.MethodName)) ∈ lw_all := lw_g (lw_at lw_m11 203 rfl) rfl
theorem q2737 : (Jvm.Cond.privateMethod ({ cls := "GlassLeadersModel", name := "isTrap", desc := "(III)Z" } : Jvm.MethodName)) ∈ lw_tbl := lw_at lw_m11 204 rfl
theorem q2738 : (Jvm.Cond.instanceMethod ({ cls := "GlassLeadersModel", name := "isTrap", desc := "(III)Z" } : Jvm.MethodName)) ∈ lw_all := lw_g (lw_at lw_m11 205 rfl) rfl
theorem q2739 : (Jvm.Cond.code ({ cls := "GlassLeadersModel", name := "isTrap", desc := "(III)Z" } : Jvm.MethodName) prog_27_method_108_code (5 : Nat) (Option.some Jvm.ClassFile.FieldType.boolean)) ∈ lw_all := lw_g (lw_at lw_m11 206 rfl) rfl
theorem q2741 : (Jvm.Cond.instanceMethod ({ cls := "GlassLeadersModel", name := "force", desc := "(III)I" } : Jvm.MethodName)) ∈ lw_all := lw_g (lw_at lw_m11 208 rfl) rfl
theorem q2742 : (Jvm.Cond.selects "GlassLeadersModel" ({ cls := "GlassLeadersModel", name := "force", desc := "(III)I" } : Jvm.MethodName) ({ cls := "GlassLeadersModel", name := "force", desc := "(III)I" } : Jvm.MethodName)) ∈ lw_all := lw_g (lw_at lw_m11 209 rfl) rfl
theorem q2743 : (Jvm.Cond.code ({ cls := "GlassLeadersModel", name := "force", desc := "(III)I" } : Jvm.MethodName) prog_27_method_110_code (7 : Nat) (Option.some Jvm.ClassFile.FieldType.int)) ∈ lw_all := lw_g (lw_at lw_m11 210 rfl) rfl
theorem q2745 : (Jvm.Cond.instanceMethod ({ cls := "GlassLeadersModel", name := "ever", desc := "(III)I" } : Jvm.MethodName)) ∈ lw_all := lw_g (lw_at lw_m11 212 rfl) rfl
theorem q2746 : (Jvm.Cond.selects "GlassLeadersModel" ({ cls := "GlassLeadersModel", name := "ever", desc := "(III)I" } : Jvm.MethodName) ({ cls := "GlassLeadersModel", name := "ever", desc := "(III)I" } : Jvm.MethodName)) ∈ lw_all := lw_g (lw_at lw_m11 213 rfl) rfl
theorem q2747 : (Jvm.Cond.code ({ cls := "GlassLeadersModel", name := "ever", desc := "(III)I" } : Jvm.MethodName) prog_27_method_111_code (11 : Nat) (Option.some Jvm.ClassFile.FieldType.int)) ∈ lw_all := lw_g (lw_at lw_m11 214 rfl) rfl
theorem q2749 : (Jvm.Cond.instanceMethod ({ cls := "GlassLeadersModel", name := "there", desc := "(I)J" } : Jvm.MethodName)) ∈ lw_all := lw_g (lw_at lw_m11 216 rfl) rfl
theorem q2750 : (Jvm.Cond.selects "GlassLeadersModel" ({ cls := "GlassLeadersModel", name := "there", desc := "(I)J" } : Jvm.MethodName) ({ cls := "GlassLeadersModel", name := "there", desc := "(I)J" } : Jvm.MethodName)) ∈ lw_all := lw_g (lw_at lw_m11 217 rfl) rfl
theorem q2751 : (Jvm.Cond.code ({ cls := "GlassLeadersModel", name := "there", desc := "(I)J" } : Jvm.MethodName) prog_27_method_115_code (2 : Nat) (Option.some Jvm.ClassFile.FieldType.long)) ∈ lw_all := lw_g (lw_at lw_m11 218 rfl) rfl
theorem q2752 : (Jvm.Cond.methodLink "GlassLeadersModel" (479 : Nat) ({ cls := "GlassLeadersModel", name := "flows", desc := "()V" } : Jvm.MethodName)) ∈ lw_all := lw_g (lw_at lw_m11 219 rfl) rfl
theorem q2753 : (Jvm.Cond.privateMethod ({ cls := "GlassLeadersModel", name := "flows", desc := "()V" } : Jvm.MethodName)) ∈ lw_tbl := lw_at lw_m11 220 rfl
theorem q2754 : (Jvm.Cond.instanceMethod ({ cls := "GlassLeadersModel", name := "flows", desc := "()V" } : Jvm.MethodName)) ∈ lw_all := lw_g (lw_at lw_m11 221 rfl) rfl
theorem q2755 : (Jvm.Cond.code ({ cls := "GlassLeadersModel", name := "flows", desc := "()V" } : Jvm.MethodName) prog_27_method_112_code (9 : Nat) (Option.none : Option Jvm.ClassFile.FieldType)) ∈ lw_all := lw_g (lw_at lw_m11 222 rfl) rfl
theorem q2756 : (Jvm.Cond.methodLink "GlassLeadersModel" (482 : Nat) ({ cls := "GlassLeadersModel", name := "endedAll", desc := "(I)J" } : Jvm.MethodName)) ∈ lw_all := lw_g (lw_at lw_m11 223 rfl) rfl
theorem q2757 : (Jvm.Cond.privateMethod ({ cls := "GlassLeadersModel", name := "endedAll", desc := "(I)J" } : Jvm.MethodName)) ∈ lw_tbl := lw_at lw_m11 224 rfl
theorem q2758 : (Jvm.Cond.instanceMethod ({ cls := "GlassLeadersModel", name := "endedAll", desc := "(I)J" } : Jvm.MethodName)) ∈ lw_all := lw_g (lw_at lw_m11 225 rfl) rfl
theorem q2759 : (Jvm.Cond.code ({ cls := "GlassLeadersModel", name := "endedAll", desc := "(I)J" } : Jvm.MethodName) prog_27_method_114_code (5 : Nat) (Option.some Jvm.ClassFile.FieldType.long)) ∈ lw_all := lw_g (lw_at lw_m11 226 rfl) rfl
theorem q2760 : (Jvm.Cond.methodLink "GlassLeadersModel" (475 : Nat) ({ cls := "GlassLeadersModel", name := "endedAt", desc := "(II)J" } : Jvm.MethodName)) ∈ lw_all := lw_g (lw_at lw_m11 227 rfl) rfl
theorem q2761 : (Jvm.Cond.privateMethod ({ cls := "GlassLeadersModel", name := "endedAt", desc := "(II)J" } : Jvm.MethodName)) ∈ lw_tbl := lw_at lw_m11 228 rfl
theorem q2762 : (Jvm.Cond.instanceMethod ({ cls := "GlassLeadersModel", name := "endedAt", desc := "(II)J" } : Jvm.MethodName)) ∈ lw_all := lw_g (lw_at lw_m11 229 rfl) rfl
theorem q2763 : (Jvm.Cond.code ({ cls := "GlassLeadersModel", name := "endedAt", desc := "(II)J" } : Jvm.MethodName) prog_27_method_113_code (7 : Nat) (Option.some Jvm.ClassFile.FieldType.long)) ∈ lw_all := lw_g (lw_at lw_m11 230 rfl) rfl
theorem q2765 : (Jvm.Cond.instanceMethod ({ cls := "GlassLeadersModel", name := "arrives", desc := "(II)J" } : Jvm.MethodName)) ∈ lw_all := lw_g (lw_at lw_m11 232 rfl) rfl
theorem q2766 : (Jvm.Cond.selects "GlassLeadersModel" ({ cls := "GlassLeadersModel", name := "arrives", desc := "(II)J" } : Jvm.MethodName) ({ cls := "GlassLeadersModel", name := "arrives", desc := "(II)J" } : Jvm.MethodName)) ∈ lw_all := lw_g (lw_at lw_m11 233 rfl) rfl
theorem q2767 : (Jvm.Cond.code ({ cls := "GlassLeadersModel", name := "arrives", desc := "(II)J" } : Jvm.MethodName) prog_27_method_116_code (3 : Nat) (Option.some Jvm.ClassFile.FieldType.long)) ∈ lw_all := lw_g (lw_at lw_m11 234 rfl) rfl
theorem q2769 : (Jvm.Cond.instanceMethod ({ cls := "GlassLeadersModel", name := "visits", desc := "(I)J" } : Jvm.MethodName)) ∈ lw_all := lw_g (lw_at lw_m11 236 rfl) rfl
theorem q2770 : (Jvm.Cond.selects "GlassLeadersModel" ({ cls := "GlassLeadersModel", name := "visits", desc := "(I)J" } : Jvm.MethodName) ({ cls := "GlassLeadersModel", name := "visits", desc := "(I)J" } : Jvm.MethodName)) ∈ lw_all := lw_g (lw_at lw_m11 237 rfl) rfl
theorem q2771 : (Jvm.Cond.code ({ cls := "GlassLeadersModel", name := "visits", desc := "(I)J" } : Jvm.MethodName) prog_27_method_117_code (6 : Nat) (Option.some Jvm.ClassFile.FieldType.long)) ∈ lw_all := lw_g (lw_at lw_m11 238 rfl) rfl
theorem q2773 : (Jvm.Cond.instanceMethod ({ cls := "GlassLeadersModel", name := "needs", desc := "()I" } : Jvm.MethodName)) ∈ lw_all := lw_g (lw_at lw_m12 0 rfl) rfl
theorem q2774 : (Jvm.Cond.selects "GlassLeadersModel" ({ cls := "GlassLeadersModel", name := "needs", desc := "()I" } : Jvm.MethodName) ({ cls := "GlassLeadersModel", name := "needs", desc := "()I" } : Jvm.MethodName)) ∈ lw_all := lw_g (lw_at lw_m12 1 rfl) rfl
theorem q2775 : (Jvm.Cond.code ({ cls := "GlassLeadersModel", name := "needs", desc := "()I" } : Jvm.MethodName) prog_27_method_118_code (3 : Nat) (Option.some Jvm.ClassFile.FieldType.int)) ∈ lw_all := lw_g (lw_at lw_m12 2 rfl) rfl
theorem q2777 : (Jvm.Cond.instanceMethod ({ cls := "GlassLeadersModel", name := "blind", desc := "(I)J" } : Jvm.MethodName)) ∈ lw_all := lw_g (lw_at lw_m12 4 rfl) rfl
theorem q2778 : (Jvm.Cond.selects "GlassLeadersModel" ({ cls := "GlassLeadersModel", name := "blind", desc := "(I)J" } : Jvm.MethodName) ({ cls := "GlassLeadersModel", name := "blind", desc := "(I)J" } : Jvm.MethodName)) ∈ lw_all := lw_g (lw_at lw_m12 5 rfl) rfl
theorem q2779 : (Jvm.Cond.code ({ cls := "GlassLeadersModel", name := "blind", desc := "(I)J" } : Jvm.MethodName) prog_27_method_120_code (2 : Nat) (Option.some Jvm.ClassFile.FieldType.long)) ∈ lw_all := lw_g (lw_at lw_m12 6 rfl) rfl
theorem q2780 : (Jvm.Cond.methodLink "GlassLeadersModel" (485 : Nat) ({ cls := "GlassLeadersModel", name := "asKind", desc := "(II)J" } : Jvm.MethodName)) ∈ lw_all := lw_g (lw_at lw_m12 7 rfl) rfl
theorem q2781 : (Jvm.Cond.privateMethod ({ cls := "GlassLeadersModel", name := "asKind", desc := "(II)J" } : Jvm.MethodName)) ∈ lw_tbl := lw_at lw_m12 8 rfl
theorem q2782 : (Jvm.Cond.instanceMethod ({ cls := "GlassLeadersModel", name := "asKind", desc := "(II)J" } : Jvm.MethodName)) ∈ lw_all := lw_g (lw_at lw_m12 9 rfl) rfl
theorem q2783 : (Jvm.Cond.code ({ cls := "GlassLeadersModel", name := "asKind", desc := "(II)J" } : Jvm.MethodName) prog_27_method_119_code (3 : Nat) (Option.some Jvm.ClassFile.FieldType.long)) ∈ lw_all := lw_g (lw_at lw_m12 10 rfl) rfl
theorem q2785 : (Jvm.Cond.instanceMethod ({ cls := "GlassLeadersModel", name := "asks", desc := "(I)I" } : Jvm.MethodName)) ∈ lw_all := lw_g (lw_at lw_m12 12 rfl) rfl
theorem q2786 : (Jvm.Cond.selects "GlassLeadersModel" ({ cls := "GlassLeadersModel", name := "asks", desc := "(I)I" } : Jvm.MethodName) ({ cls := "GlassLeadersModel", name := "asks", desc := "(I)I" } : Jvm.MethodName)) ∈ lw_all := lw_g (lw_at lw_m12 13 rfl) rfl
theorem q2787 : (Jvm.Cond.code ({ cls := "GlassLeadersModel", name := "asks", desc := "(I)I" } : Jvm.MethodName) prog_27_method_121_code (8 : Nat) (Option.some Jvm.ClassFile.FieldType.int)) ∈ lw_all := lw_g (lw_at lw_m12 14 rfl) rfl
theorem q2789 : (Jvm.Cond.instanceMethod ({ cls := "GlassLeadersModel", name := "beside", desc := "(I)J" } : Jvm.MethodName)) ∈ lw_all := lw_g (lw_at lw_m12 16 rfl) rfl
theorem q2790 : (Jvm.Cond.selects "GlassLeadersModel" ({ cls := "GlassLeadersModel", name := "beside", desc := "(I)J" } : Jvm.MethodName) ({ cls := "GlassLeadersModel", name := "beside", desc := "(I)J" } : Jvm.MethodName)) ∈ lw_all := lw_g (lw_at lw_m12 17 rfl) rfl
theorem q2791 : (Jvm.Cond.code ({ cls := "GlassLeadersModel", name := "beside", desc := "(I)J" } : Jvm.MethodName) prog_27_method_122_code (2 : Nat) (Option.some Jvm.ClassFile.FieldType.long)) ∈ lw_all := lw_g (lw_at lw_m12 18 rfl) rfl
theorem q2793 : (Jvm.Cond.instanceMethod ({ cls := "GlassLeadersModel", name := "pact", desc := "(III)J" } : Jvm.MethodName)) ∈ lw_all := lw_g (lw_at lw_m12 20 rfl) rfl
theorem q2794 : (Jvm.Cond.selects "GlassLeadersModel" ({ cls := "GlassLeadersModel", name := "pact", desc := "(III)J" } : Jvm.MethodName) ({ cls := "GlassLeadersModel", name := "pact", desc := "(III)J" } : Jvm.MethodName)) ∈ lw_all := lw_g (lw_at lw_m12 21 rfl) rfl
theorem q2795 : (Jvm.Cond.code ({ cls := "GlassLeadersModel", name := "pact", desc := "(III)J" } : Jvm.MethodName) prog_27_method_124_code (5 : Nat) (Option.some Jvm.ClassFile.FieldType.long)) ∈ lw_all := lw_g (lw_at lw_m12 22 rfl) rfl
theorem q2796 : (Jvm.Cond.methodLink "GlassLeadersModel" (488 : Nat) ({ cls := "GlassLeadersModel", name := "agree", desc := "(II)V" } : Jvm.MethodName)) ∈ lw_all := lw_g (lw_at lw_m12 23 rfl) rfl
theorem q2797 : (Jvm.Cond.privateMethod ({ cls := "GlassLeadersModel", name := "agree", desc := "(II)V" } : Jvm.MethodName)) ∈ lw_tbl := lw_at lw_m12 24 rfl
theorem q2798 : (Jvm.Cond.instanceMethod ({ cls := "GlassLeadersModel", name := "agree", desc := "(II)V" } : Jvm.MethodName)) ∈ lw_all := lw_g (lw_at lw_m12 25 rfl) rfl
theorem q2799 : (Jvm.Cond.code ({ cls := "GlassLeadersModel", name := "agree", desc := "(II)V" } : Jvm.MethodName) prog_27_method_123_code (3 : Nat) (Option.none : Option Jvm.ClassFile.FieldType)) ∈ lw_all := lw_g (lw_at lw_m12 26 rfl) rfl
theorem q2801 : (Jvm.Cond.instanceMethod ({ cls := "GlassLeadersModel", name := "holds", desc := "()I" } : Jvm.MethodName)) ∈ lw_all := lw_g (lw_at lw_m12 28 rfl) rfl
theorem q2802 : (Jvm.Cond.selects "GlassLeadersModel" ({ cls := "GlassLeadersModel", name := "holds", desc := "()I" } : Jvm.MethodName) ({ cls := "GlassLeadersModel", name := "holds", desc := "()I" } : Jvm.MethodName)) ∈ lw_all := lw_g (lw_at lw_m12 29 rfl) rfl
theorem q2803 : (Jvm.Cond.code ({ cls := "GlassLeadersModel", name := "holds", desc := "()I" } : Jvm.MethodName) prog_27_method_125_code (3 : Nat) (Option.some Jvm.ClassFile.FieldType.int)) ∈ lw_all := lw_g (lw_at lw_m12 30 rfl) rfl
theorem q2805 : (Jvm.Cond.instanceMethod ({ cls := "GlassLeadersModel", name := "vote", desc := "()J" } : Jvm.MethodName)) ∈ lw_all := lw_g (lw_at lw_m12 32 rfl) rfl
theorem q2806 : (Jvm.Cond.selects "GlassLeadersModel" ({ cls := "GlassLeadersModel", name := "vote", desc := "()J" } : Jvm.MethodName) ({ cls := "GlassLeadersModel", name := "vote", desc := "()J" } : Jvm.MethodName)) ∈ lw_all := lw_g (lw_at lw_m12 33 rfl) rfl
theorem q2807 : (Jvm.Cond.code ({ cls := "GlassLeadersModel", name := "vote", desc := "()J" } : Jvm.MethodName) prog_27_method_126_code (1 : Nat) (Option.some Jvm.ClassFile.FieldType.long)) ∈ lw_all := lw_g (lw_at lw_m12 34 rfl) rfl
theorem q2809 : (Jvm.Cond.instanceMethod ({ cls := "GlassLeadersModel", name := "without", desc := "(II)J" } : Jvm.MethodName)) ∈ lw_all := lw_g (lw_at lw_m12 36 rfl) rfl
theorem q2810 : (Jvm.Cond.selects "GlassLeadersModel" ({ cls := "GlassLeadersModel", name := "without", desc := "(II)J" } : Jvm.MethodName) ({ cls := "GlassLeadersModel", name := "without", desc := "(II)J" } : Jvm.MethodName)) ∈ lw_all := lw_g (lw_at lw_m12 37 rfl) rfl
theorem q2811 : (Jvm.Cond.code ({ cls := "GlassLeadersModel", name := "without", desc := "(II)J" } : Jvm.MethodName) prog_27_method_127_code (5 : Nat) (Option.some Jvm.ClassFile.FieldType.long)) ∈ lw_all := lw_g (lw_at lw_m12 38 rfl) rfl
theorem q2813 : (Jvm.Cond.instanceMethod ({ cls := "GlassLeadersModel", name := "mind", desc := "()I" } : Jvm.MethodName)) ∈ lw_all := lw_g (lw_at lw_m12 40 rfl) rfl
theorem q2814 : (Jvm.Cond.selects "GlassLeadersModel" ({ cls := "GlassLeadersModel", name := "mind", desc := "()I" } : Jvm.MethodName) ({ cls := "GlassLeadersModel", name := "mind", desc := "()I" } : Jvm.MethodName)) ∈ lw_all := lw_g (lw_at lw_m12 41 rfl) rfl
theorem q2815 : (Jvm.Cond.code ({ cls := "GlassLeadersModel", name := "mind", desc := "()I" } : Jvm.MethodName) prog_27_method_129_code (8 : Nat) (Option.some Jvm.ClassFile.FieldType.int)) ∈ lw_all := lw_g (lw_at lw_m12 42 rfl) rfl
theorem q2816 : (Jvm.Cond.methodLink "GlassLeadersModel" (491 : Nat) ({ cls := "GlassLeadersModel", name := "isOneMind", desc := "(III)Z" } : Jvm.MethodName)) ∈ lw_all := lw_g (lw_at lw_m12 43 rfl) rfl
theorem q2817 : (Jvm.Cond.privateMethod ({ cls := "GlassLeadersModel", name := "isOneMind", desc := "(III)Z" } : Jvm.MethodName)) ∈ lw_tbl := lw_at lw_m12 44 rfl
theorem q2818 : (Jvm.Cond.instanceMethod ({ cls := "GlassLeadersModel", name := "isOneMind", desc := "(III)Z" } : Jvm.MethodName)) ∈ lw_all := lw_g (lw_at lw_m12 45 rfl) rfl
theorem q2819 : (Jvm.Cond.code ({ cls := "GlassLeadersModel", name := "isOneMind", desc := "(III)Z" } : Jvm.MethodName) prog_27_method_128_code (7 : Nat) (Option.some Jvm.ClassFile.FieldType.boolean)) ∈ lw_all := lw_g (lw_at lw_m12 46 rfl) rfl
theorem q2821 : (Jvm.Cond.instanceMethod ({ cls := "GlassLeadersModel", name := "image", desc := "()I" } : Jvm.MethodName)) ∈ lw_all := lw_g (lw_at lw_m12 48 rfl) rfl
theorem q2822 : (Jvm.Cond.selects "GlassLeadersModel" ({ cls := "GlassLeadersModel", name := "image", desc := "()I" } : Jvm.MethodName) ({ cls := "GlassLeadersModel", name := "image", desc := "()I" } : Jvm.MethodName)) ∈ lw_all := lw_g (lw_at lw_m12 49 rfl) rfl
theorem q2823 : (Jvm.Cond.code ({ cls := "GlassLeadersModel", name := "image", desc := "()I" } : Jvm.MethodName) prog_27_method_130_code (2 : Nat) (Option.some Jvm.ClassFile.FieldType.int)) ∈ lw_all := lw_g (lw_at lw_m12 50 rfl) rfl
theorem q2825 : (Jvm.Cond.instanceMethod ({ cls := "GlassLeadersModel", name := "on", desc := "()I" } : Jvm.MethodName)) ∈ lw_all := lw_g (lw_at lw_m12 52 rfl) rfl
theorem q2826 : (Jvm.Cond.selects "GlassLeadersModel" ({ cls := "GlassLeadersModel", name := "on", desc := "()I" } : Jvm.MethodName) ({ cls := "GlassLeadersModel", name := "on", desc := "()I" } : Jvm.MethodName)) ∈ lw_all := lw_g (lw_at lw_m12 53 rfl) rfl
theorem q2827 : (Jvm.Cond.code ({ cls := "GlassLeadersModel", name := "on", desc := "()I" } : Jvm.MethodName) prog_27_method_131_code (2 : Nat) (Option.some Jvm.ClassFile.FieldType.int)) ∈ lw_all := lw_g (lw_at lw_m12 54 rfl) rfl
theorem q2829 : (Jvm.Cond.instanceMethod ({ cls := "GlassLeadersModel", name := "status", desc := "(I)I" } : Jvm.MethodName)) ∈ lw_all := lw_g (lw_at lw_m12 56 rfl) rfl
theorem q2830 : (Jvm.Cond.selects "GlassLeadersModel" ({ cls := "GlassLeadersModel", name := "status", desc := "(I)I" } : Jvm.MethodName) ({ cls := "GlassLeadersModel", name := "status", desc := "(I)I" } : Jvm.MethodName)) ∈ lw_all := lw_g (lw_at lw_m12 57 rfl) rfl
theorem q2831 : (Jvm.Cond.code ({ cls := "GlassLeadersModel", name := "status", desc := "(I)I" } : Jvm.MethodName) prog_27_method_132_code (2 : Nat) (Option.some Jvm.ClassFile.FieldType.int)) ∈ lw_all := lw_g (lw_at lw_m12 58 rfl) rfl
theorem q2833 : (Jvm.Cond.instanceMethod ({ cls := "GlassLeadersModel", name := "count", desc := "(I)I" } : Jvm.MethodName)) ∈ lw_all := lw_g (lw_at lw_m12 60 rfl) rfl
theorem q2834 : (Jvm.Cond.selects "GlassLeadersModel" ({ cls := "GlassLeadersModel", name := "count", desc := "(I)I" } : Jvm.MethodName) ({ cls := "GlassLeadersModel", name := "count", desc := "(I)I" } : Jvm.MethodName)) ∈ lw_all := lw_g (lw_at lw_m12 61 rfl) rfl
theorem q2835 : (Jvm.Cond.code ({ cls := "GlassLeadersModel", name := "count", desc := "(I)I" } : Jvm.MethodName) prog_27_method_133_code (4 : Nat) (Option.some Jvm.ClassFile.FieldType.int)) ∈ lw_all := lw_g (lw_at lw_m12 62 rfl) rfl
theorem q2870 : (Jvm.Cond.castable "GlassLeadersModel" "java/lang/Object") ∈ lw_tbl := lw_at lw_m12 97 rfl
theorem in_X12 : ∀ w ∈ wsX120, w ∈ lw_all := lw_in wsX120 [2192, 2194, 2196, 2198, 2200, 2202, 2204, 2206, 2208, 2210, 2212, 2214, 2216, 2218, 2220, 2222, 2224, 2226, 2228, 2230, 2232, 2234, 2236, 2238, 2240, 2242, 2244, 2246, 2248, 2250, 2252, 2254, 2256, 2258, 2260, 2262, 2264, 2266, 2268, 2270, 2272, 2274, 2276, 2278, 2280, 2282, 2284, 2286, 2288, 2290, 2292, 2294, 2296] (by decide +kernel) (by decide +kernel)
