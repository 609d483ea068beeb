/-! GlassLeaders -/
set_option maxRecDepth 100000
def RX1 : String := "GlassLeaders"
def TX1 : u_T := fun k => match k with
  | 0 => ("GlassLeaders", "land", "LGlassLeaders$Land;", false)
  | 1 => ("GlassLeaders", "rules", "Ljava/util/ArrayList;", false)
  | 2 => ("GlassLeaders", "hasLand", "Z", false)
  | 3 => ("GlassLeaders", "now", "LGlassLeaders$State;", true)
  | 4 => ("GlassLeaders", "images", "Ljava/util/ArrayList;", true)
  | 5 => ("GlassLeaders", "refused", "[I", true)
  | 6 => ("GlassLeaders", "tape", "[B", true)
  | 7 => ("GlassLeaders", "taped", "I", false)
  | 8 => ("GlassLeaders", "fault", "I", false)
  | 9 => ("GlassLeaders", "seed", "I", false)
  | 10 => ("GlassLeaders", "pactOne", "I", false)
  | 11 => ("GlassLeaders", "pactOther", "I", false)
  | 12 => ("GlassLeaders", "round", "[I", true)
  | 13 => ("GlassLeaders", "names", "[I", true)
  | 14 => ("GlassLeaders", "scales", "[J", true)
  | 15 => ("GlassLeaders", "ahead", "LGlassLeaders$Ahead;", true)
  | 16 => ("GlassLeaders", "own", "LGlassLeaders$Own;", true)
  | 17 => ("GlassLeaders", "fearing", "LGlassLeaders$Fearing;", true)
  | 18 => ("GlassLeaders", "pact", "LGlassLeaders$Pact;", true)
  | 19 => ("GlassLeaders", "leaders", "[LGlassLeaders$Leader;", true)
  | 20 => ("GlassLeaders", "lawful", "[[I", true)
  | 21 => ("GlassLeaders", "values", "[[J", true)
  | 22 => ("GlassLeaders", "alone", "[[J", true)
  | 23 => ("GlassLeaders", "worst", "[[J", true)
  | 24 => ("GlassLeaders", "there", "[J", true)
  | 25 => ("GlassLeaders", "lost", "[J", true)
  | 26 => ("GlassLeaders", "taken", "[B", true)
  | 27 => ("GlassLeaders", "comes", "[Z", true)
  | 28 => ("GlassLeaders", "isLawKnown", "Z", false)
  | 29 => ("GlassLeaders", "isAloneKnown", "Z", false)
  | 30 => ("GlassLeaders", "isWorstKnown", "Z", false)
  | 31 => ("GlassLeaders", "isKnown", "Z", false)
  | 32 => ("GlassLeaders", "isVoted", "Z", false)
  | 33 => ("GlassLeaders", "as", "[J", true)
  | 34 => ("GlassLeaders", "mass", "[J", true)
  | _ => ("GlassLeaders", "votes", "[I", true)
def tyX1 : Nat → FieldType := fun k => match k with
  | 0 => .object "GlassLeaders$Land"
  | 1 => .object "java/util/ArrayList"
  | 2 => .boolean
  | 3 => .object "GlassLeaders$State"
  | 4 => .object "java/util/ArrayList"
  | 5 => .array .int
  | 6 => .array .byte
  | 7 => .int
  | 8 => .int
  | 9 => .int
  | 10 => .int
  | 11 => .int
  | 12 => .array .int
  | 13 => .array .int
  | 14 => .array .long
  | 15 => .object "GlassLeaders$Ahead"
  | 16 => .object "GlassLeaders$Own"
  | 17 => .object "GlassLeaders$Fearing"
  | 18 => .object "GlassLeaders$Pact"
  | 19 => .array (.object "GlassLeaders$Leader")
  | 20 => .array (.array .int)
  | 21 => .array (.array .long)
  | 22 => .array (.array .long)
  | 23 => .array (.array .long)
  | 24 => .array .long
  | 25 => .array .long
  | 26 => .array .byte
  | 27 => .array .boolean
  | 28 => .boolean
  | 29 => .boolean
  | 30 => .boolean
  | 31 => .boolean
  | 32 => .boolean
  | 33 => .array .long
  | 34 => .array .long
  | _ => .array .int
abbrev wsX10 : List Cond := u_ws RX1 TX1 36
set_option maxRecDepth 100000 in
theorem nmX1 : ∀ a, a < 36 → ∀ b, b < 36 → a ≠ b → (TX1 a).2.1 ≠ (TX1 b).2.1 := by decide +kernel
set_option maxRecDepth 100000 in
theorem tyX1_ok : ∀ k, k < 36 → parseFieldDescriptor (TX1 k).2.2.1 = some (tyX1 k) := by decide +kernel
abbrev cX1_init : ByteArray := prog_1_method_1_code
def yX1_init : MethodName := ⟨RX1, "<init>", "()V"⟩
def dkwX1_init_13 : List UInt8 := [42, 17, 15, 60, 188, 11, 181, 0, 138, 42, 16, 25, 188, 10, 181, 0, 141, 42, 182, 0, 144, 177]
abbrev dktX1_init_13 : List UInt8 := dkwX1_init_13 ++ []
def dkwX1_init_12 : List UInt8 := [17, 15, 60, 188, 8, 181, 0, 128, 42, 17, 15, 60, 188, 4, 181, 0, 131, 42, 8, 188, 11, 181, 0, 135]
abbrev dktX1_init_12 : List UInt8 := dkwX1_init_12 ++ dktX1_init_13
def dkwX1_init_11 : List UInt8 := [181, 0, 119, 42, 17, 15, 60, 188, 11, 181, 0, 122, 42, 17, 15, 60, 188, 11, 181, 0, 125, 42]
abbrev dktX1_init_11 : List UInt8 := dkwX1_init_11 ++ dktX1_init_12
def dkwX1_init_10 : List UInt8 := [181, 0, 113, 42, 8, 17, 15, 60, 197, 0, 111, 2, 181, 0, 116, 42, 8, 17, 15, 60, 197, 0, 111, 2]
abbrev dktX1_init_10 : List UInt8 := dkwX1_init_10 ++ dktX1_init_11
def dkwX1_init_9 : List UInt8 := [181, 0, 102, 42, 8, 17, 15, 60, 197, 0, 106, 2, 181, 0, 108, 42, 8, 17, 15, 60, 197, 0, 111, 2]
abbrev dktX1_init_9 : List UInt8 := dkwX1_init_9 ++ dktX1_init_10
def dkwX1_init_8 : List UInt8 := [42, 183, 0, 98, 83, 89, 7, 42, 180, 0, 80, 83, 89, 8, 187, 0, 99, 89, 42, 183, 0, 101, 83]
abbrev dktX1_init_8 : List UInt8 := dkwX1_init_8 ++ dktX1_init_9
def dkwX1_init_7 : List UInt8 := [89, 4, 42, 180, 0, 73, 83, 89, 5, 187, 0, 93, 89, 42, 183, 0, 95, 83, 89, 6, 187, 0, 96, 89]
abbrev dktX1_init_7 : List UInt8 := dkwX1_init_7 ++ dktX1_init_8
def dkwX1_init_6 : List UInt8 := [187, 0, 84, 89, 42, 183, 0, 86, 181, 0, 87, 42, 16, 6, 189, 0, 91, 89, 3, 42, 180, 0, 66, 83]
abbrev dktX1_init_6 : List UInt8 := dkwX1_init_6 ++ dktX1_init_7
def dkwX1_init_5 : List UInt8 := [187, 0, 70, 89, 42, 183, 0, 72, 181, 0, 73, 42, 187, 0, 77, 89, 42, 183, 0, 79, 181, 0, 80, 42]
abbrev dktX1_init_5 : List UInt8 := dkwX1_init_5 ++ dktX1_init_6
def dkwX1_init_4 : List UInt8 := [181, 0, 54, 42, 16, 26, 188, 11, 181, 0, 57, 42, 187, 0, 61, 89, 42, 183, 0, 63, 181, 0, 66, 42]
abbrev dktX1_init_4 : List UInt8 := dkwX1_init_4 ++ dktX1_init_5
def dkwX1_init_3 : List UInt8 := [42, 2, 181, 0, 45, 42, 2, 181, 0, 48, 42, 8, 188, 10, 181, 0, 51, 42, 16, 8, 188, 10]
abbrev dktX1_init_3 : List UInt8 := dkwX1_init_3 ++ dktX1_init_4
def dkwX1_init_2 : List UInt8 := [181, 0, 30, 42, 7, 188, 10, 181, 0, 33, 42, 17, 2, 88, 188, 8, 181, 0, 37, 42, 2, 181, 0, 41]
abbrev dktX1_init_2 : List UInt8 := dkwX1_init_2 ++ dktX1_init_3
def dkwX1_init_1 : List UInt8 := [181, 0, 19, 42, 187, 0, 23, 89, 183, 0, 25, 181, 0, 26, 42, 187, 0, 16, 89, 183, 0, 18]
abbrev dktX1_init_1 : List UInt8 := dkwX1_init_1 ++ dktX1_init_2
def dkwX1_init_0 : List UInt8 := [42, 183, 0, 3, 42, 187, 0, 9, 89, 183, 0, 11, 181, 0, 12, 42, 187, 0, 16, 89, 183, 0, 18]
abbrev dktX1_init_0 : List UInt8 := dkwX1_init_0 ++ dktX1_init_1
theorem dksX1_init_0 : cX1_init.data.toList.drop 0 = dktX1_init_0 := by decide +kernel
theorem dksX1_init_1 : cX1_init.data.toList.drop 23 = dktX1_init_1 := dk_seg dksX1_init_0 23 rfl rfl
theorem dksX1_init_2 : cX1_init.data.toList.drop 45 = dktX1_init_2 := dk_seg dksX1_init_1 22 rfl rfl
theorem dksX1_init_3 : cX1_init.data.toList.drop 69 = dktX1_init_3 := dk_seg dksX1_init_2 24 rfl rfl
theorem dksX1_init_4 : cX1_init.data.toList.drop 91 = dktX1_init_4 := dk_seg dksX1_init_3 22 rfl rfl
theorem dksX1_init_5 : cX1_init.data.toList.drop 115 = dktX1_init_5 := dk_seg dksX1_init_4 24 rfl rfl
theorem dksX1_init_6 : cX1_init.data.toList.drop 139 = dktX1_init_6 := dk_seg dksX1_init_5 24 rfl rfl
theorem dksX1_init_7 : cX1_init.data.toList.drop 163 = dktX1_init_7 := dk_seg dksX1_init_6 24 rfl rfl
theorem dksX1_init_8 : cX1_init.data.toList.drop 187 = dktX1_init_8 := dk_seg dksX1_init_7 24 rfl rfl
theorem dksX1_init_9 : cX1_init.data.toList.drop 210 = dktX1_init_9 := dk_seg dksX1_init_8 23 rfl rfl
theorem dksX1_init_10 : cX1_init.data.toList.drop 234 = dktX1_init_10 := dk_seg dksX1_init_9 24 rfl rfl
theorem dksX1_init_11 : cX1_init.data.toList.drop 258 = dktX1_init_11 := dk_seg dksX1_init_10 24 rfl rfl
theorem dksX1_init_12 : cX1_init.data.toList.drop 280 = dktX1_init_12 := dk_seg dksX1_init_11 22 rfl rfl
theorem dksX1_init_13 : cX1_init.data.toList.drop 304 = dktX1_init_13 := dk_seg dksX1_init_12 24 rfl rfl
theorem dX1_init_0 : decode cX1_init 0 = .ok (.aload_n 0, 1) := dk_42 (dk_at dksX1_init_0 0 rfl rfl)
theorem dX1_init_1 : decode cX1_init 1 = .ok (.invokespecial 3, 3) := dk_183 0 3 (dk_at dksX1_init_0 1 rfl rfl)
theorem dX1_init_4 : decode cX1_init 4 = .ok (.aload_n 0, 1) := dk_42 (dk_at dksX1_init_0 4 rfl rfl)
theorem dX1_init_5 : decode cX1_init 5 = .ok (.new 9, 3) := dk_187 0 9 (dk_at dksX1_init_0 5 rfl rfl)
theorem dX1_init_8 : decode cX1_init 8 = .ok (.dup, 1) := dk_89 (dk_at dksX1_init_0 8 rfl rfl)
theorem dX1_init_9 : decode cX1_init 9 = .ok (.invokespecial 11, 3) := dk_183 0 11 (dk_at dksX1_init_0 9 rfl rfl)
theorem dX1_init_12 : decode cX1_init 12 = .ok (.putfield 12, 3) := dk_181 0 12 (dk_at dksX1_init_0 12 rfl rfl)
theorem dX1_init_15 : decode cX1_init 15 = .ok (.aload_n 0, 1) := dk_42 (dk_at dksX1_init_0 15 rfl rfl)
theorem dX1_init_16 : decode cX1_init 16 = .ok (.new 16, 3) := dk_187 0 16 (dk_at dksX1_init_0 16 rfl rfl)
theorem dX1_init_19 : decode cX1_init 19 = .ok (.dup, 1) := dk_89 (dk_at dksX1_init_0 19 rfl rfl)
theorem dX1_init_20 : decode cX1_init 20 = .ok (.invokespecial 18, 3) := dk_183 0 18 (dk_at dksX1_init_0 20 rfl rfl)
theorem dX1_init_23 : decode cX1_init 23 = .ok (.putfield 19, 3) := dk_181 0 19 (dk_at dksX1_init_1 0 rfl rfl)
theorem dX1_init_26 : decode cX1_init 26 = .ok (.aload_n 0, 1) := dk_42 (dk_at dksX1_init_1 3 rfl rfl)
theorem dX1_init_27 : decode cX1_init 27 = .ok (.new 23, 3) := dk_187 0 23 (dk_at dksX1_init_1 4 rfl rfl)
theorem dX1_init_30 : decode cX1_init 30 = .ok (.dup, 1) := dk_89 (dk_at dksX1_init_1 7 rfl rfl)
theorem dX1_init_31 : decode cX1_init 31 = .ok (.invokespecial 25, 3) := dk_183 0 25 (dk_at dksX1_init_1 8 rfl rfl)
theorem dX1_init_34 : decode cX1_init 34 = .ok (.putfield 26, 3) := dk_181 0 26 (dk_at dksX1_init_1 11 rfl rfl)
theorem dX1_init_37 : decode cX1_init 37 = .ok (.aload_n 0, 1) := dk_42 (dk_at dksX1_init_1 14 rfl rfl)
theorem dX1_init_38 : decode cX1_init 38 = .ok (.new 16, 3) := dk_187 0 16 (dk_at dksX1_init_1 15 rfl rfl)
theorem dX1_init_41 : decode cX1_init 41 = .ok (.dup, 1) := dk_89 (dk_at dksX1_init_1 18 rfl rfl)
theorem dX1_init_42 : decode cX1_init 42 = .ok (.invokespecial 18, 3) := dk_183 0 18 (dk_at dksX1_init_1 19 rfl rfl)
theorem dX1_init_45 : decode cX1_init 45 = .ok (.putfield 30, 3) := dk_181 0 30 (dk_at dksX1_init_2 0 rfl rfl)
theorem dX1_init_48 : decode cX1_init 48 = .ok (.aload_n 0, 1) := dk_42 (dk_at dksX1_init_2 3 rfl rfl)
theorem dX1_init_49 : decode cX1_init 49 = .ok (.iconst 4, 1) := dk_7 (dk_at dksX1_init_2 4 rfl rfl)
theorem dX1_init_50 : decode cX1_init 50 = .ok (.newarray .int, 2) := dk_188_10 (dk_at dksX1_init_2 5 rfl rfl)
theorem dX1_init_52 : decode cX1_init 52 = .ok (.putfield 33, 3) := dk_181 0 33 (dk_at dksX1_init_2 7 rfl rfl)
theorem dX1_init_55 : decode cX1_init 55 = .ok (.aload_n 0, 1) := dk_42 (dk_at dksX1_init_2 10 rfl rfl)
theorem dX1_init_56 : decode cX1_init 56 = .ok (.sipush 600, 3) := dk_17 2 88 (dk_at dksX1_init_2 11 rfl rfl)
theorem dX1_init_59 : decode cX1_init 59 = .ok (.newarray .byte, 2) := dk_188_8 (dk_at dksX1_init_2 14 rfl rfl)
theorem dX1_init_61 : decode cX1_init 61 = .ok (.putfield 37, 3) := dk_181 0 37 (dk_at dksX1_init_2 16 rfl rfl)
theorem dX1_init_64 : decode cX1_init 64 = .ok (.aload_n 0, 1) := dk_42 (dk_at dksX1_init_2 19 rfl rfl)
theorem dX1_init_65 : decode cX1_init 65 = .ok (.iconst (-1), 1) := dk_2 (dk_at dksX1_init_2 20 rfl rfl)
theorem dX1_init_66 : decode cX1_init 66 = .ok (.putfield 41, 3) := dk_181 0 41 (dk_at dksX1_init_2 21 rfl rfl)
theorem dX1_init_69 : decode cX1_init 69 = .ok (.aload_n 0, 1) := dk_42 (dk_at dksX1_init_3 0 rfl rfl)
theorem dX1_init_70 : decode cX1_init 70 = .ok (.iconst (-1), 1) := dk_2 (dk_at dksX1_init_3 1 rfl rfl)
theorem dX1_init_71 : decode cX1_init 71 = .ok (.putfield 45, 3) := dk_181 0 45 (dk_at dksX1_init_3 2 rfl rfl)
theorem dX1_init_74 : decode cX1_init 74 = .ok (.aload_n 0, 1) := dk_42 (dk_at dksX1_init_3 5 rfl rfl)
theorem dX1_init_75 : decode cX1_init 75 = .ok (.iconst (-1), 1) := dk_2 (dk_at dksX1_init_3 6 rfl rfl)
theorem dX1_init_76 : decode cX1_init 76 = .ok (.putfield 48, 3) := dk_181 0 48 (dk_at dksX1_init_3 7 rfl rfl)
theorem dX1_init_79 : decode cX1_init 79 = .ok (.aload_n 0, 1) := dk_42 (dk_at dksX1_init_3 10 rfl rfl)
theorem dX1_init_80 : decode cX1_init 80 = .ok (.iconst 5, 1) := dk_8 (dk_at dksX1_init_3 11 rfl rfl)
theorem dX1_init_81 : decode cX1_init 81 = .ok (.newarray .int, 2) := dk_188_10 (dk_at dksX1_init_3 12 rfl rfl)
theorem dX1_init_83 : decode cX1_init 83 = .ok (.putfield 51, 3) := dk_181 0 51 (dk_at dksX1_init_3 14 rfl rfl)
theorem dX1_init_86 : decode cX1_init 86 = .ok (.aload_n 0, 1) := dk_42 (dk_at dksX1_init_3 17 rfl rfl)
theorem dX1_init_87 : decode cX1_init 87 = .ok (.bipush 8, 2) := dk_16 8 (dk_at dksX1_init_3 18 rfl rfl)
theorem dX1_init_89 : decode cX1_init 89 = .ok (.newarray .int, 2) := dk_188_10 (dk_at dksX1_init_3 20 rfl rfl)
theorem dX1_init_91 : decode cX1_init 91 = .ok (.putfield 54, 3) := dk_181 0 54 (dk_at dksX1_init_4 0 rfl rfl)
theorem dX1_init_94 : decode cX1_init 94 = .ok (.aload_n 0, 1) := dk_42 (dk_at dksX1_init_4 3 rfl rfl)
theorem dX1_init_95 : decode cX1_init 95 = .ok (.bipush 26, 2) := dk_16 26 (dk_at dksX1_init_4 4 rfl rfl)
theorem dX1_init_97 : decode cX1_init 97 = .ok (.newarray .long, 2) := dk_188_11 (dk_at dksX1_init_4 6 rfl rfl)
theorem dX1_init_99 : decode cX1_init 99 = .ok (.putfield 57, 3) := dk_181 0 57 (dk_at dksX1_init_4 8 rfl rfl)
theorem dX1_init_102 : decode cX1_init 102 = .ok (.aload_n 0, 1) := dk_42 (dk_at dksX1_init_4 11 rfl rfl)
theorem dX1_init_103 : decode cX1_init 103 = .ok (.new 61, 3) := dk_187 0 61 (dk_at dksX1_init_4 12 rfl rfl)
theorem dX1_init_106 : decode cX1_init 106 = .ok (.dup, 1) := dk_89 (dk_at dksX1_init_4 15 rfl rfl)
theorem dX1_init_107 : decode cX1_init 107 = .ok (.aload_n 0, 1) := dk_42 (dk_at dksX1_init_4 16 rfl rfl)
theorem dX1_init_108 : decode cX1_init 108 = .ok (.invokespecial 63, 3) := dk_183 0 63 (dk_at dksX1_init_4 17 rfl rfl)
theorem dX1_init_111 : decode cX1_init 111 = .ok (.putfield 66, 3) := dk_181 0 66 (dk_at dksX1_init_4 20 rfl rfl)
theorem dX1_init_114 : decode cX1_init 114 = .ok (.aload_n 0, 1) := dk_42 (dk_at dksX1_init_4 23 rfl rfl)
theorem dX1_init_115 : decode cX1_init 115 = .ok (.new 70, 3) := dk_187 0 70 (dk_at dksX1_init_5 0 rfl rfl)
theorem dX1_init_118 : decode cX1_init 118 = .ok (.dup, 1) := dk_89 (dk_at dksX1_init_5 3 rfl rfl)
theorem dX1_init_119 : decode cX1_init 119 = .ok (.aload_n 0, 1) := dk_42 (dk_at dksX1_init_5 4 rfl rfl)
theorem dX1_init_120 : decode cX1_init 120 = .ok (.invokespecial 72, 3) := dk_183 0 72 (dk_at dksX1_init_5 5 rfl rfl)
theorem dX1_init_123 : decode cX1_init 123 = .ok (.putfield 73, 3) := dk_181 0 73 (dk_at dksX1_init_5 8 rfl rfl)
theorem dX1_init_126 : decode cX1_init 126 = .ok (.aload_n 0, 1) := dk_42 (dk_at dksX1_init_5 11 rfl rfl)
theorem dX1_init_127 : decode cX1_init 127 = .ok (.new 77, 3) := dk_187 0 77 (dk_at dksX1_init_5 12 rfl rfl)
theorem dX1_init_130 : decode cX1_init 130 = .ok (.dup, 1) := dk_89 (dk_at dksX1_init_5 15 rfl rfl)
theorem dX1_init_131 : decode cX1_init 131 = .ok (.aload_n 0, 1) := dk_42 (dk_at dksX1_init_5 16 rfl rfl)
theorem dX1_init_132 : decode cX1_init 132 = .ok (.invokespecial 79, 3) := dk_183 0 79 (dk_at dksX1_init_5 17 rfl rfl)
theorem dX1_init_135 : decode cX1_init 135 = .ok (.putfield 80, 3) := dk_181 0 80 (dk_at dksX1_init_5 20 rfl rfl)
theorem dX1_init_138 : decode cX1_init 138 = .ok (.aload_n 0, 1) := dk_42 (dk_at dksX1_init_5 23 rfl rfl)
theorem dX1_init_139 : decode cX1_init 139 = .ok (.new 84, 3) := dk_187 0 84 (dk_at dksX1_init_6 0 rfl rfl)
theorem dX1_init_142 : decode cX1_init 142 = .ok (.dup, 1) := dk_89 (dk_at dksX1_init_6 3 rfl rfl)
theorem dX1_init_143 : decode cX1_init 143 = .ok (.aload_n 0, 1) := dk_42 (dk_at dksX1_init_6 4 rfl rfl)
theorem dX1_init_144 : decode cX1_init 144 = .ok (.invokespecial 86, 3) := dk_183 0 86 (dk_at dksX1_init_6 5 rfl rfl)
theorem dX1_init_147 : decode cX1_init 147 = .ok (.putfield 87, 3) := dk_181 0 87 (dk_at dksX1_init_6 8 rfl rfl)
theorem dX1_init_150 : decode cX1_init 150 = .ok (.aload_n 0, 1) := dk_42 (dk_at dksX1_init_6 11 rfl rfl)
theorem dX1_init_151 : decode cX1_init 151 = .ok (.bipush 6, 2) := dk_16 6 (dk_at dksX1_init_6 12 rfl rfl)
theorem dX1_init_153 : decode cX1_init 153 = .ok (.anewarray 91, 3) := dk_189 0 91 (dk_at dksX1_init_6 14 rfl rfl)
theorem dX1_init_156 : decode cX1_init 156 = .ok (.dup, 1) := dk_89 (dk_at dksX1_init_6 17 rfl rfl)
theorem dX1_init_157 : decode cX1_init 157 = .ok (.iconst 0, 1) := dk_3 (dk_at dksX1_init_6 18 rfl rfl)
theorem dX1_init_158 : decode cX1_init 158 = .ok (.aload_n 0, 1) := dk_42 (dk_at dksX1_init_6 19 rfl rfl)
theorem dX1_init_159 : decode cX1_init 159 = .ok (.getfield 66, 3) := dk_180 0 66 (dk_at dksX1_init_6 20 rfl rfl)
theorem dX1_init_162 : decode cX1_init 162 = .ok (.aastore, 1) := dk_83 (dk_at dksX1_init_6 23 rfl rfl)
theorem dX1_init_163 : decode cX1_init 163 = .ok (.dup, 1) := dk_89 (dk_at dksX1_init_7 0 rfl rfl)
theorem dX1_init_164 : decode cX1_init 164 = .ok (.iconst 1, 1) := dk_4 (dk_at dksX1_init_7 1 rfl rfl)
theorem dX1_init_165 : decode cX1_init 165 = .ok (.aload_n 0, 1) := dk_42 (dk_at dksX1_init_7 2 rfl rfl)
theorem dX1_init_166 : decode cX1_init 166 = .ok (.getfield 73, 3) := dk_180 0 73 (dk_at dksX1_init_7 3 rfl rfl)
theorem dX1_init_169 : decode cX1_init 169 = .ok (.aastore, 1) := dk_83 (dk_at dksX1_init_7 6 rfl rfl)
theorem dX1_init_170 : decode cX1_init 170 = .ok (.dup, 1) := dk_89 (dk_at dksX1_init_7 7 rfl rfl)
theorem dX1_init_171 : decode cX1_init 171 = .ok (.iconst 2, 1) := dk_5 (dk_at dksX1_init_7 8 rfl rfl)
theorem dX1_init_172 : decode cX1_init 172 = .ok (.new 93, 3) := dk_187 0 93 (dk_at dksX1_init_7 9 rfl rfl)
theorem dX1_init_175 : decode cX1_init 175 = .ok (.dup, 1) := dk_89 (dk_at dksX1_init_7 12 rfl rfl)
theorem dX1_init_176 : decode cX1_init 176 = .ok (.aload_n 0, 1) := dk_42 (dk_at dksX1_init_7 13 rfl rfl)
theorem dX1_init_177 : decode cX1_init 177 = .ok (.invokespecial 95, 3) := dk_183 0 95 (dk_at dksX1_init_7 14 rfl rfl)
theorem dX1_init_180 : decode cX1_init 180 = .ok (.aastore, 1) := dk_83 (dk_at dksX1_init_7 17 rfl rfl)
theorem dX1_init_181 : decode cX1_init 181 = .ok (.dup, 1) := dk_89 (dk_at dksX1_init_7 18 rfl rfl)
theorem dX1_init_182 : decode cX1_init 182 = .ok (.iconst 3, 1) := dk_6 (dk_at dksX1_init_7 19 rfl rfl)
theorem dX1_init_183 : decode cX1_init 183 = .ok (.new 96, 3) := dk_187 0 96 (dk_at dksX1_init_7 20 rfl rfl)
theorem dX1_init_186 : decode cX1_init 186 = .ok (.dup, 1) := dk_89 (dk_at dksX1_init_7 23 rfl rfl)
theorem dX1_init_187 : decode cX1_init 187 = .ok (.aload_n 0, 1) := dk_42 (dk_at dksX1_init_8 0 rfl rfl)
theorem dX1_init_188 : decode cX1_init 188 = .ok (.invokespecial 98, 3) := dk_183 0 98 (dk_at dksX1_init_8 1 rfl rfl)
theorem dX1_init_191 : decode cX1_init 191 = .ok (.aastore, 1) := dk_83 (dk_at dksX1_init_8 4 rfl rfl)
theorem dX1_init_192 : decode cX1_init 192 = .ok (.dup, 1) := dk_89 (dk_at dksX1_init_8 5 rfl rfl)
theorem dX1_init_193 : decode cX1_init 193 = .ok (.iconst 4, 1) := dk_7 (dk_at dksX1_init_8 6 rfl rfl)
theorem dX1_init_194 : decode cX1_init 194 = .ok (.aload_n 0, 1) := dk_42 (dk_at dksX1_init_8 7 rfl rfl)
theorem dX1_init_195 : decode cX1_init 195 = .ok (.getfield 80, 3) := dk_180 0 80 (dk_at dksX1_init_8 8 rfl rfl)
theorem dX1_init_198 : decode cX1_init 198 = .ok (.aastore, 1) := dk_83 (dk_at dksX1_init_8 11 rfl rfl)
theorem dX1_init_199 : decode cX1_init 199 = .ok (.dup, 1) := dk_89 (dk_at dksX1_init_8 12 rfl rfl)
theorem dX1_init_200 : decode cX1_init 200 = .ok (.iconst 5, 1) := dk_8 (dk_at dksX1_init_8 13 rfl rfl)
theorem dX1_init_201 : decode cX1_init 201 = .ok (.new 99, 3) := dk_187 0 99 (dk_at dksX1_init_8 14 rfl rfl)
theorem dX1_init_204 : decode cX1_init 204 = .ok (.dup, 1) := dk_89 (dk_at dksX1_init_8 17 rfl rfl)
theorem dX1_init_205 : decode cX1_init 205 = .ok (.aload_n 0, 1) := dk_42 (dk_at dksX1_init_8 18 rfl rfl)
theorem dX1_init_206 : decode cX1_init 206 = .ok (.invokespecial 101, 3) := dk_183 0 101 (dk_at dksX1_init_8 19 rfl rfl)
theorem dX1_init_209 : decode cX1_init 209 = .ok (.aastore, 1) := dk_83 (dk_at dksX1_init_8 22 rfl rfl)
theorem dX1_init_210 : decode cX1_init 210 = .ok (.putfield 102, 3) := dk_181 0 102 (dk_at dksX1_init_9 0 rfl rfl)
theorem dX1_init_213 : decode cX1_init 213 = .ok (.aload_n 0, 1) := dk_42 (dk_at dksX1_init_9 3 rfl rfl)
theorem dX1_init_214 : decode cX1_init 214 = .ok (.iconst 5, 1) := dk_8 (dk_at dksX1_init_9 4 rfl rfl)
theorem dX1_init_215 : decode cX1_init 215 = .ok (.sipush 3900, 3) := dk_17 15 60 (dk_at dksX1_init_9 5 rfl rfl)
theorem dX1_init_218 : decode cX1_init 218 = .ok (.multianewarray 106 2, 4) := by decide +kernel
theorem dX1_init_222 : decode cX1_init 222 = .ok (.putfield 108, 3) := dk_181 0 108 (dk_at dksX1_init_9 12 rfl rfl)
theorem dX1_init_225 : decode cX1_init 225 = .ok (.aload_n 0, 1) := dk_42 (dk_at dksX1_init_9 15 rfl rfl)
theorem dX1_init_226 : decode cX1_init 226 = .ok (.iconst 5, 1) := dk_8 (dk_at dksX1_init_9 16 rfl rfl)
theorem dX1_init_227 : decode cX1_init 227 = .ok (.sipush 3900, 3) := dk_17 15 60 (dk_at dksX1_init_9 17 rfl rfl)
theorem dX1_init_230 : decode cX1_init 230 = .ok (.multianewarray 111 2, 4) := by decide +kernel
theorem dX1_init_234 : decode cX1_init 234 = .ok (.putfield 113, 3) := dk_181 0 113 (dk_at dksX1_init_10 0 rfl rfl)
theorem dX1_init_237 : decode cX1_init 237 = .ok (.aload_n 0, 1) := dk_42 (dk_at dksX1_init_10 3 rfl rfl)
theorem dX1_init_238 : decode cX1_init 238 = .ok (.iconst 5, 1) := dk_8 (dk_at dksX1_init_10 4 rfl rfl)
theorem dX1_init_239 : decode cX1_init 239 = .ok (.sipush 3900, 3) := dk_17 15 60 (dk_at dksX1_init_10 5 rfl rfl)
theorem dX1_init_242 : decode cX1_init 242 = .ok (.multianewarray 111 2, 4) := by decide +kernel
theorem dX1_init_246 : decode cX1_init 246 = .ok (.putfield 116, 3) := dk_181 0 116 (dk_at dksX1_init_10 12 rfl rfl)
theorem dX1_init_249 : decode cX1_init 249 = .ok (.aload_n 0, 1) := dk_42 (dk_at dksX1_init_10 15 rfl rfl)
theorem dX1_init_250 : decode cX1_init 250 = .ok (.iconst 5, 1) := dk_8 (dk_at dksX1_init_10 16 rfl rfl)
theorem dX1_init_251 : decode cX1_init 251 = .ok (.sipush 3900, 3) := dk_17 15 60 (dk_at dksX1_init_10 17 rfl rfl)
theorem dX1_init_254 : decode cX1_init 254 = .ok (.multianewarray 111 2, 4) := by decide +kernel
theorem dX1_init_258 : decode cX1_init 258 = .ok (.putfield 119, 3) := dk_181 0 119 (dk_at dksX1_init_11 0 rfl rfl)
theorem dX1_init_261 : decode cX1_init 261 = .ok (.aload_n 0, 1) := dk_42 (dk_at dksX1_init_11 3 rfl rfl)
theorem dX1_init_262 : decode cX1_init 262 = .ok (.sipush 3900, 3) := dk_17 15 60 (dk_at dksX1_init_11 4 rfl rfl)
theorem dX1_init_265 : decode cX1_init 265 = .ok (.newarray .long, 2) := dk_188_11 (dk_at dksX1_init_11 7 rfl rfl)
theorem dX1_init_267 : decode cX1_init 267 = .ok (.putfield 122, 3) := dk_181 0 122 (dk_at dksX1_init_11 9 rfl rfl)
theorem dX1_init_270 : decode cX1_init 270 = .ok (.aload_n 0, 1) := dk_42 (dk_at dksX1_init_11 12 rfl rfl)
theorem dX1_init_271 : decode cX1_init 271 = .ok (.sipush 3900, 3) := dk_17 15 60 (dk_at dksX1_init_11 13 rfl rfl)
theorem dX1_init_274 : decode cX1_init 274 = .ok (.newarray .long, 2) := dk_188_11 (dk_at dksX1_init_11 16 rfl rfl)
theorem dX1_init_276 : decode cX1_init 276 = .ok (.putfield 125, 3) := dk_181 0 125 (dk_at dksX1_init_11 18 rfl rfl)
theorem dX1_init_279 : decode cX1_init 279 = .ok (.aload_n 0, 1) := dk_42 (dk_at dksX1_init_11 21 rfl rfl)
theorem dX1_init_280 : decode cX1_init 280 = .ok (.sipush 3900, 3) := dk_17 15 60 (dk_at dksX1_init_12 0 rfl rfl)
theorem dX1_init_283 : decode cX1_init 283 = .ok (.newarray .byte, 2) := dk_188_8 (dk_at dksX1_init_12 3 rfl rfl)
theorem dX1_init_285 : decode cX1_init 285 = .ok (.putfield 128, 3) := dk_181 0 128 (dk_at dksX1_init_12 5 rfl rfl)
theorem dX1_init_288 : decode cX1_init 288 = .ok (.aload_n 0, 1) := dk_42 (dk_at dksX1_init_12 8 rfl rfl)
theorem dX1_init_289 : decode cX1_init 289 = .ok (.sipush 3900, 3) := dk_17 15 60 (dk_at dksX1_init_12 9 rfl rfl)
theorem dX1_init_292 : decode cX1_init 292 = .ok (.newarray .boolean, 2) := dk_188_4 (dk_at dksX1_init_12 12 rfl rfl)
theorem dX1_init_294 : decode cX1_init 294 = .ok (.putfield 131, 3) := dk_181 0 131 (dk_at dksX1_init_12 14 rfl rfl)
theorem dX1_init_297 : decode cX1_init 297 = .ok (.aload_n 0, 1) := dk_42 (dk_at dksX1_init_12 17 rfl rfl)
theorem dX1_init_298 : decode cX1_init 298 = .ok (.iconst 5, 1) := dk_8 (dk_at dksX1_init_12 18 rfl rfl)
theorem dX1_init_299 : decode cX1_init 299 = .ok (.newarray .long, 2) := dk_188_11 (dk_at dksX1_init_12 19 rfl rfl)
theorem dX1_init_301 : decode cX1_init 301 = .ok (.putfield 135, 3) := dk_181 0 135 (dk_at dksX1_init_12 21 rfl rfl)
theorem dX1_init_304 : decode cX1_init 304 = .ok (.aload_n 0, 1) := dk_42 (dk_at dksX1_init_13 0 rfl rfl)
theorem dX1_init_305 : decode cX1_init 305 = .ok (.sipush 3900, 3) := dk_17 15 60 (dk_at dksX1_init_13 1 rfl rfl)
theorem dX1_init_308 : decode cX1_init 308 = .ok (.newarray .long, 2) := dk_188_11 (dk_at dksX1_init_13 4 rfl rfl)
theorem dX1_init_310 : decode cX1_init 310 = .ok (.putfield 138, 3) := dk_181 0 138 (dk_at dksX1_init_13 6 rfl rfl)
theorem dX1_init_313 : decode cX1_init 313 = .ok (.aload_n 0, 1) := dk_42 (dk_at dksX1_init_13 9 rfl rfl)
theorem dX1_init_314 : decode cX1_init 314 = .ok (.bipush 25, 2) := dk_16 25 (dk_at dksX1_init_13 10 rfl rfl)
theorem dX1_init_316 : decode cX1_init 316 = .ok (.newarray .int, 2) := dk_188_10 (dk_at dksX1_init_13 12 rfl rfl)
theorem dX1_init_318 : decode cX1_init 318 = .ok (.putfield 141, 3) := dk_181 0 141 (dk_at dksX1_init_13 14 rfl rfl)
theorem dX1_init_321 : decode cX1_init 321 = .ok (.aload_n 0, 1) := dk_42 (dk_at dksX1_init_13 17 rfl rfl)
theorem dX1_init_322 : decode cX1_init 322 = .ok (.invokevirtual 144, 3) := dk_182 0 144 (dk_at dksX1_init_13 18 rfl rfl)
theorem dX1_init_325 : decode cX1_init 325 = .ok (.return_, 1) := dk_177 (dk_at dksX1_init_13 21 rfl rfl)
abbrev cX1_roundsAnew : ByteArray := prog_1_method_2_code
def yX1_roundsAnew : MethodName := ⟨RX1, "roundsAnew", "()V"⟩
def dkwX1_roundsAnew_0 : List UInt8 := [3, 60, 27, 8, 162, 0, 16, 42, 180, 0, 51, 27, 27, 79, 132, 1, 1, 167, 255, 241, 177]
abbrev dktX1_roundsAnew_0 : List UInt8 := dkwX1_roundsAnew_0 ++ []
theorem dksX1_roundsAnew_0 : cX1_roundsAnew.data.toList.drop 0 = dktX1_roundsAnew_0 := by decide +kernel
theorem dX1_roundsAnew_0 : decode cX1_roundsAnew 0 = .ok (.iconst 0, 1) := dk_3 (dk_at dksX1_roundsAnew_0 0 rfl rfl)
theorem dX1_roundsAnew_1 : decode cX1_roundsAnew 1 = .ok (.istore_n 1, 1) := dk_60 (dk_at dksX1_roundsAnew_0 1 rfl rfl)
theorem dX1_roundsAnew_2 : decode cX1_roundsAnew 2 = .ok (.iload_n 1, 1) := dk_27 (dk_at dksX1_roundsAnew_0 2 rfl rfl)
theorem dX1_roundsAnew_3 : decode cX1_roundsAnew 3 = .ok (.iconst 5, 1) := dk_8 (dk_at dksX1_roundsAnew_0 3 rfl rfl)
theorem dX1_roundsAnew_4 : decode cX1_roundsAnew 4 = .ok (.if_icmp .ge 16, 3) := dk_162 0 16 (dk_at dksX1_roundsAnew_0 4 rfl rfl)
theorem dX1_roundsAnew_7 : decode cX1_roundsAnew 7 = .ok (.aload_n 0, 1) := dk_42 (dk_at dksX1_roundsAnew_0 7 rfl rfl)
theorem dX1_roundsAnew_8 : decode cX1_roundsAnew 8 = .ok (.getfield 51, 3) := dk_180 0 51 (dk_at dksX1_roundsAnew_0 8 rfl rfl)
theorem dX1_roundsAnew_11 : decode cX1_roundsAnew 11 = .ok (.iload_n 1, 1) := dk_27 (dk_at dksX1_roundsAnew_0 11 rfl rfl)
theorem dX1_roundsAnew_12 : decode cX1_roundsAnew 12 = .ok (.iload_n 1, 1) := dk_27 (dk_at dksX1_roundsAnew_0 12 rfl rfl)
theorem dX1_roundsAnew_13 : decode cX1_roundsAnew 13 = .ok (.iastore, 1) := dk_79 (dk_at dksX1_roundsAnew_0 13 rfl rfl)
theorem dX1_roundsAnew_14 : decode cX1_roundsAnew 14 = .ok (.iinc 1 1, 3) := dk_132 1 1 (dk_at dksX1_roundsAnew_0 14 rfl rfl)
theorem dX1_roundsAnew_17 : decode cX1_roundsAnew 17 = .ok (.goto (-15), 3) := dk_167 255 241 (dk_at dksX1_roundsAnew_0 17 rfl rfl)
theorem dX1_roundsAnew_20 : decode cX1_roundsAnew 20 = .ok (.return_, 1) := dk_177 (dk_at dksX1_roundsAnew_0 20 rfl rfl)
abbrev cX1_feed : ByteArray := prog_1_method_8_code
def yX1_feed : MethodName := ⟨RX1, "feed", "(IIIII)I"⟩
def dkwX1_feed_4 : List UInt8 := [167, 255, 207, 42, 180, 0, 170, 172]
abbrev dktX1_feed_4 : List UInt8 := dkwX1_feed_4 ++ []
def dkwX1_feed_3 : List UInt8 := [181, 0, 170, 25, 6, 21, 7, 46, 21, 8, 122, 145, 84, 132, 8, 248, 167, 255, 223, 132, 7, 1]
abbrev dktX1_feed_3 : List UInt8 := dkwX1_feed_3 ++ dktX1_feed_4
def dkwX1_feed_2 : List UInt8 := [162, 0, 49, 16, 24, 54, 8, 21, 8, 155, 0, 34, 42, 180, 0, 37, 42, 89, 180, 0, 170, 90, 4, 96]
abbrev dktX1_feed_2 : List UInt8 := dkwX1_feed_2 ++ dktX1_feed_3
def dkwX1_feed_1 : List UInt8 := [28, 79, 89, 5, 29, 79, 89, 6, 21, 4, 79, 89, 7, 21, 5, 79, 58, 6, 3, 54, 7, 21, 7, 8]
abbrev dktX1_feed_1 : List UInt8 := dkwX1_feed_1 ++ dktX1_feed_2
def dkwX1_feed_0 : List UInt8 := [42, 180, 0, 170, 16, 20, 96, 17, 2, 88, 164, 0, 5, 2, 172, 8, 188, 10, 89, 3, 27, 79, 89, 4]
abbrev dktX1_feed_0 : List UInt8 := dkwX1_feed_0 ++ dktX1_feed_1
theorem dksX1_feed_0 : cX1_feed.data.toList.drop 0 = dktX1_feed_0 := by decide +kernel
theorem dksX1_feed_1 : cX1_feed.data.toList.drop 24 = dktX1_feed_1 := dk_seg dksX1_feed_0 24 rfl rfl
theorem dksX1_feed_2 : cX1_feed.data.toList.drop 48 = dktX1_feed_2 := dk_seg dksX1_feed_1 24 rfl rfl
theorem dksX1_feed_3 : cX1_feed.data.toList.drop 72 = dktX1_feed_3 := dk_seg dksX1_feed_2 24 rfl rfl
theorem dksX1_feed_4 : cX1_feed.data.toList.drop 94 = dktX1_feed_4 := dk_seg dksX1_feed_3 22 rfl rfl
theorem dX1_feed_0 : decode cX1_feed 0 = .ok (.aload_n 0, 1) := dk_42 (dk_at dksX1_feed_0 0 rfl rfl)
theorem dX1_feed_1 : decode cX1_feed 1 = .ok (.getfield 170, 3) := dk_180 0 170 (dk_at dksX1_feed_0 1 rfl rfl)
theorem dX1_feed_4 : decode cX1_feed 4 = .ok (.bipush 20, 2) := dk_16 20 (dk_at dksX1_feed_0 4 rfl rfl)
theorem dX1_feed_6 : decode cX1_feed 6 = .ok (.iadd, 1) := dk_96 (dk_at dksX1_feed_0 6 rfl rfl)
theorem dX1_feed_7 : decode cX1_feed 7 = .ok (.sipush 600, 3) := dk_17 2 88 (dk_at dksX1_feed_0 7 rfl rfl)
theorem dX1_feed_10 : decode cX1_feed 10 = .ok (.if_icmp .le 5, 3) := dk_164 0 5 (dk_at dksX1_feed_0 10 rfl rfl)
theorem dX1_feed_13 : decode cX1_feed 13 = .ok (.iconst (-1), 1) := dk_2 (dk_at dksX1_feed_0 13 rfl rfl)
theorem dX1_feed_14 : decode cX1_feed 14 = .ok (.ireturn, 1) := dk_172 (dk_at dksX1_feed_0 14 rfl rfl)
theorem dX1_feed_15 : decode cX1_feed 15 = .ok (.iconst 5, 1) := dk_8 (dk_at dksX1_feed_0 15 rfl rfl)
theorem dX1_feed_16 : decode cX1_feed 16 = .ok (.newarray .int, 2) := dk_188_10 (dk_at dksX1_feed_0 16 rfl rfl)
theorem dX1_feed_18 : decode cX1_feed 18 = .ok (.dup, 1) := dk_89 (dk_at dksX1_feed_0 18 rfl rfl)
theorem dX1_feed_19 : decode cX1_feed 19 = .ok (.iconst 0, 1) := dk_3 (dk_at dksX1_feed_0 19 rfl rfl)
theorem dX1_feed_20 : decode cX1_feed 20 = .ok (.iload_n 1, 1) := dk_27 (dk_at dksX1_feed_0 20 rfl rfl)
theorem dX1_feed_21 : decode cX1_feed 21 = .ok (.iastore, 1) := dk_79 (dk_at dksX1_feed_0 21 rfl rfl)
theorem dX1_feed_22 : decode cX1_feed 22 = .ok (.dup, 1) := dk_89 (dk_at dksX1_feed_0 22 rfl rfl)
theorem dX1_feed_23 : decode cX1_feed 23 = .ok (.iconst 1, 1) := dk_4 (dk_at dksX1_feed_0 23 rfl rfl)
theorem dX1_feed_24 : decode cX1_feed 24 = .ok (.iload_n 2, 1) := dk_28 (dk_at dksX1_feed_1 0 rfl rfl)
theorem dX1_feed_25 : decode cX1_feed 25 = .ok (.iastore, 1) := dk_79 (dk_at dksX1_feed_1 1 rfl rfl)
theorem dX1_feed_26 : decode cX1_feed 26 = .ok (.dup, 1) := dk_89 (dk_at dksX1_feed_1 2 rfl rfl)
theorem dX1_feed_27 : decode cX1_feed 27 = .ok (.iconst 2, 1) := dk_5 (dk_at dksX1_feed_1 3 rfl rfl)
theorem dX1_feed_28 : decode cX1_feed 28 = .ok (.iload_n 3, 1) := dk_29 (dk_at dksX1_feed_1 4 rfl rfl)
theorem dX1_feed_29 : decode cX1_feed 29 = .ok (.iastore, 1) := dk_79 (dk_at dksX1_feed_1 5 rfl rfl)
theorem dX1_feed_30 : decode cX1_feed 30 = .ok (.dup, 1) := dk_89 (dk_at dksX1_feed_1 6 rfl rfl)
theorem dX1_feed_31 : decode cX1_feed 31 = .ok (.iconst 3, 1) := dk_6 (dk_at dksX1_feed_1 7 rfl rfl)
theorem dX1_feed_32 : decode cX1_feed 32 = .ok (.iload 4, 2) := dk_21 4 (dk_at dksX1_feed_1 8 rfl rfl)
theorem dX1_feed_34 : decode cX1_feed 34 = .ok (.iastore, 1) := dk_79 (dk_at dksX1_feed_1 10 rfl rfl)
theorem dX1_feed_35 : decode cX1_feed 35 = .ok (.dup, 1) := dk_89 (dk_at dksX1_feed_1 11 rfl rfl)
theorem dX1_feed_36 : decode cX1_feed 36 = .ok (.iconst 4, 1) := dk_7 (dk_at dksX1_feed_1 12 rfl rfl)
theorem dX1_feed_37 : decode cX1_feed 37 = .ok (.iload 5, 2) := dk_21 5 (dk_at dksX1_feed_1 13 rfl rfl)
theorem dX1_feed_39 : decode cX1_feed 39 = .ok (.iastore, 1) := dk_79 (dk_at dksX1_feed_1 15 rfl rfl)
theorem dX1_feed_40 : decode cX1_feed 40 = .ok (.astore 6, 2) := dk_58 6 (dk_at dksX1_feed_1 16 rfl rfl)
theorem dX1_feed_42 : decode cX1_feed 42 = .ok (.iconst 0, 1) := dk_3 (dk_at dksX1_feed_1 18 rfl rfl)
theorem dX1_feed_43 : decode cX1_feed 43 = .ok (.istore 7, 2) := dk_54 7 (dk_at dksX1_feed_1 19 rfl rfl)
theorem dX1_feed_45 : decode cX1_feed 45 = .ok (.iload 7, 2) := dk_21 7 (dk_at dksX1_feed_1 21 rfl rfl)
theorem dX1_feed_47 : decode cX1_feed 47 = .ok (.iconst 5, 1) := dk_8 (dk_at dksX1_feed_1 23 rfl rfl)
theorem dX1_feed_48 : decode cX1_feed 48 = .ok (.if_icmp .ge 49, 3) := dk_162 0 49 (dk_at dksX1_feed_2 0 rfl rfl)
theorem dX1_feed_51 : decode cX1_feed 51 = .ok (.bipush 24, 2) := dk_16 24 (dk_at dksX1_feed_2 3 rfl rfl)
theorem dX1_feed_53 : decode cX1_feed 53 = .ok (.istore 8, 2) := dk_54 8 (dk_at dksX1_feed_2 5 rfl rfl)
theorem dX1_feed_55 : decode cX1_feed 55 = .ok (.iload 8, 2) := dk_21 8 (dk_at dksX1_feed_2 7 rfl rfl)
theorem dX1_feed_57 : decode cX1_feed 57 = .ok (.ifCond .lt 34, 3) := dk_155 0 34 (dk_at dksX1_feed_2 9 rfl rfl)
theorem dX1_feed_60 : decode cX1_feed 60 = .ok (.aload_n 0, 1) := dk_42 (dk_at dksX1_feed_2 12 rfl rfl)
theorem dX1_feed_61 : decode cX1_feed 61 = .ok (.getfield 37, 3) := dk_180 0 37 (dk_at dksX1_feed_2 13 rfl rfl)
theorem dX1_feed_64 : decode cX1_feed 64 = .ok (.aload_n 0, 1) := dk_42 (dk_at dksX1_feed_2 16 rfl rfl)
theorem dX1_feed_65 : decode cX1_feed 65 = .ok (.dup, 1) := dk_89 (dk_at dksX1_feed_2 17 rfl rfl)
theorem dX1_feed_66 : decode cX1_feed 66 = .ok (.getfield 170, 3) := dk_180 0 170 (dk_at dksX1_feed_2 18 rfl rfl)
theorem dX1_feed_69 : decode cX1_feed 69 = .ok (.dup_x1, 1) := dk_90 (dk_at dksX1_feed_2 21 rfl rfl)
theorem dX1_feed_70 : decode cX1_feed 70 = .ok (.iconst 1, 1) := dk_4 (dk_at dksX1_feed_2 22 rfl rfl)
theorem dX1_feed_71 : decode cX1_feed 71 = .ok (.iadd, 1) := dk_96 (dk_at dksX1_feed_2 23 rfl rfl)
theorem dX1_feed_72 : decode cX1_feed 72 = .ok (.putfield 170, 3) := dk_181 0 170 (dk_at dksX1_feed_3 0 rfl rfl)
theorem dX1_feed_75 : decode cX1_feed 75 = .ok (.aload 6, 2) := dk_25 6 (dk_at dksX1_feed_3 3 rfl rfl)
theorem dX1_feed_77 : decode cX1_feed 77 = .ok (.iload 7, 2) := dk_21 7 (dk_at dksX1_feed_3 5 rfl rfl)
theorem dX1_feed_79 : decode cX1_feed 79 = .ok (.iaload, 1) := dk_46 (dk_at dksX1_feed_3 7 rfl rfl)
theorem dX1_feed_80 : decode cX1_feed 80 = .ok (.iload 8, 2) := dk_21 8 (dk_at dksX1_feed_3 8 rfl rfl)
theorem dX1_feed_82 : decode cX1_feed 82 = .ok (.ishr, 1) := dk_122 (dk_at dksX1_feed_3 10 rfl rfl)
theorem dX1_feed_83 : decode cX1_feed 83 = .ok (.i2b, 1) := dk_145 (dk_at dksX1_feed_3 11 rfl rfl)
theorem dX1_feed_84 : decode cX1_feed 84 = .ok (.bastore, 1) := dk_84 (dk_at dksX1_feed_3 12 rfl rfl)
theorem dX1_feed_85 : decode cX1_feed 85 = .ok (.iinc 8 (-8), 3) := dk_132 8 248 (dk_at dksX1_feed_3 13 rfl rfl)
theorem dX1_feed_88 : decode cX1_feed 88 = .ok (.goto (-33), 3) := dk_167 255 223 (dk_at dksX1_feed_3 16 rfl rfl)
theorem dX1_feed_91 : decode cX1_feed 91 = .ok (.iinc 7 1, 3) := dk_132 7 1 (dk_at dksX1_feed_3 19 rfl rfl)
theorem dX1_feed_94 : decode cX1_feed 94 = .ok (.goto (-49), 3) := dk_167 255 207 (dk_at dksX1_feed_4 0 rfl rfl)
theorem dX1_feed_97 : decode cX1_feed 97 = .ok (.aload_n 0, 1) := dk_42 (dk_at dksX1_feed_4 3 rfl rfl)
theorem dX1_feed_98 : decode cX1_feed 98 = .ok (.getfield 170, 3) := dk_180 0 170 (dk_at dksX1_feed_4 4 rfl rfl)
theorem dX1_feed_101 : decode cX1_feed 101 = .ok (.ireturn, 1) := dk_172 (dk_at dksX1_feed_4 7 rfl rfl)
abbrev cX1_fault : ByteArray := prog_1_method_15_code
def yX1_fault : MethodName := ⟨RX1, "fault", "()I"⟩
theorem dX1_fault_0 : decode cX1_fault 0 = .ok (.aload_n 0, 1) := by decide +kernel
theorem dX1_fault_1 : decode cX1_fault 1 = .ok (.getfield 41, 3) := by decide +kernel
theorem dX1_fault_4 : decode cX1_fault 4 = .ok (.ireturn, 1) := by decide +kernel
abbrev cX1_ended : ByteArray := prog_1_method_58_code
def yX1_ended : MethodName := ⟨RX1, "ended", "()I"⟩
def dkwX1_ended_0 : List UInt8 := [42, 180, 0, 26, 180, 1, 193, 172]
abbrev dktX1_ended_0 : List UInt8 := dkwX1_ended_0 ++ []
theorem dksX1_ended_0 : cX1_ended.data.toList.drop 0 = dktX1_ended_0 := by decide +kernel
theorem dX1_ended_0 : decode cX1_ended 0 = .ok (.aload_n 0, 1) := dk_42 (dk_at dksX1_ended_0 0 rfl rfl)
theorem dX1_ended_1 : decode cX1_ended 1 = .ok (.getfield 26, 3) := dk_180 0 26 (dk_at dksX1_ended_0 1 rfl rfl)
theorem dX1_ended_4 : decode cX1_ended 4 = .ok (.getfield 449, 3) := dk_180 1 193 (dk_at dksX1_ended_0 4 rfl rfl)
theorem dX1_ended_7 : decode cX1_ended 7 = .ok (.ireturn, 1) := dk_172 (dk_at dksX1_ended_0 7 rfl rfl)
abbrev cX1_clear : ByteArray := prog_1_method_60_code
def yX1_clear : MethodName := ⟨RX1, "clear", "()I"⟩
def dkwX1_clear_0 : List UInt8 := [42, 180, 0, 26, 180, 1, 205, 60, 42, 180, 0, 26, 3, 181, 1, 205, 27, 172]
abbrev dktX1_clear_0 : List UInt8 := dkwX1_clear_0 ++ []
theorem dksX1_clear_0 : cX1_clear.data.toList.drop 0 = dktX1_clear_0 := by decide +kernel
theorem dX1_clear_0 : decode cX1_clear 0 = .ok (.aload_n 0, 1) := dk_42 (dk_at dksX1_clear_0 0 rfl rfl)
theorem dX1_clear_1 : decode cX1_clear 1 = .ok (.getfield 26, 3) := dk_180 0 26 (dk_at dksX1_clear_0 1 rfl rfl)
theorem dX1_clear_4 : decode cX1_clear 4 = .ok (.getfield 461, 3) := dk_180 1 205 (dk_at dksX1_clear_0 4 rfl rfl)
theorem dX1_clear_7 : decode cX1_clear 7 = .ok (.istore_n 1, 1) := dk_60 (dk_at dksX1_clear_0 7 rfl rfl)
theorem dX1_clear_8 : decode cX1_clear 8 = .ok (.aload_n 0, 1) := dk_42 (dk_at dksX1_clear_0 8 rfl rfl)
theorem dX1_clear_9 : decode cX1_clear 9 = .ok (.getfield 26, 3) := dk_180 0 26 (dk_at dksX1_clear_0 9 rfl rfl)
theorem dX1_clear_12 : decode cX1_clear 12 = .ok (.iconst 0, 1) := dk_3 (dk_at dksX1_clear_0 12 rfl rfl)
theorem dX1_clear_13 : decode cX1_clear 13 = .ok (.putfield 461, 3) := dk_181 1 205 (dk_at dksX1_clear_0 13 rfl rfl)
theorem dX1_clear_16 : decode cX1_clear 16 = .ok (.iload_n 1, 1) := dk_27 (dk_at dksX1_clear_0 16 rfl rfl)
theorem dX1_clear_17 : decode cX1_clear 17 = .ok (.ireturn, 1) := dk_172 (dk_at dksX1_clear_0 17 rfl rfl)
abbrev cX1_image : ByteArray := prog_1_method_96_code
def yX1_image : MethodName := ⟨RX1, "image", "()I"⟩
def dkwX1_image_1 : List UInt8 := [42, 180, 0, 26, 182, 2, 0, 182, 2, 4, 87, 42, 180, 0, 30, 182, 0, 233, 172]
abbrev dktX1_image_1 : List UInt8 := dkwX1_image_1 ++ []
def dkwX1_image_0 : List UInt8 := [42, 180, 0, 30, 182, 0, 233, 6, 160, 0, 5, 2, 172, 42, 180, 0, 30, 187, 0, 23, 89, 183, 0, 25]
abbrev dktX1_image_0 : List UInt8 := dkwX1_image_0 ++ dktX1_image_1
theorem dksX1_image_0 : cX1_image.data.toList.drop 0 = dktX1_image_0 := by decide +kernel
theorem dksX1_image_1 : cX1_image.data.toList.drop 24 = dktX1_image_1 := dk_seg dksX1_image_0 24 rfl rfl
theorem dX1_image_0 : decode cX1_image 0 = .ok (.aload_n 0, 1) := dk_42 (dk_at dksX1_image_0 0 rfl rfl)
theorem dX1_image_1 : decode cX1_image 1 = .ok (.getfield 30, 3) := dk_180 0 30 (dk_at dksX1_image_0 1 rfl rfl)
theorem dX1_image_4 : decode cX1_image 4 = .ok (.invokevirtual 233, 3) := dk_182 0 233 (dk_at dksX1_image_0 4 rfl rfl)
theorem dX1_image_7 : decode cX1_image 7 = .ok (.iconst 3, 1) := dk_6 (dk_at dksX1_image_0 7 rfl rfl)
theorem dX1_image_8 : decode cX1_image 8 = .ok (.if_icmp .ne 5, 3) := dk_160 0 5 (dk_at dksX1_image_0 8 rfl rfl)
theorem dX1_image_11 : decode cX1_image 11 = .ok (.iconst (-1), 1) := dk_2 (dk_at dksX1_image_0 11 rfl rfl)
theorem dX1_image_12 : decode cX1_image 12 = .ok (.ireturn, 1) := dk_172 (dk_at dksX1_image_0 12 rfl rfl)
theorem dX1_image_13 : decode cX1_image 13 = .ok (.aload_n 0, 1) := dk_42 (dk_at dksX1_image_0 13 rfl rfl)
theorem dX1_image_14 : decode cX1_image 14 = .ok (.getfield 30, 3) := dk_180 0 30 (dk_at dksX1_image_0 14 rfl rfl)
theorem dX1_image_17 : decode cX1_image 17 = .ok (.new 23, 3) := dk_187 0 23 (dk_at dksX1_image_0 17 rfl rfl)
theorem dX1_image_20 : decode cX1_image 20 = .ok (.dup, 1) := dk_89 (dk_at dksX1_image_0 20 rfl rfl)
theorem dX1_image_21 : decode cX1_image 21 = .ok (.invokespecial 25, 3) := dk_183 0 25 (dk_at dksX1_image_0 21 rfl rfl)
theorem dX1_image_24 : decode cX1_image 24 = .ok (.aload_n 0, 1) := dk_42 (dk_at dksX1_image_1 0 rfl rfl)
theorem dX1_image_25 : decode cX1_image 25 = .ok (.getfield 26, 3) := dk_180 0 26 (dk_at dksX1_image_1 1 rfl rfl)
theorem dX1_image_28 : decode cX1_image 28 = .ok (.invokevirtual 512, 3) := dk_182 2 0 (dk_at dksX1_image_1 4 rfl rfl)
theorem dX1_image_31 : decode cX1_image 31 = .ok (.invokevirtual 516, 3) := dk_182 2 4 (dk_at dksX1_image_1 7 rfl rfl)
theorem dX1_image_34 : decode cX1_image 34 = .ok (.pop, 1) := dk_87 (dk_at dksX1_image_1 10 rfl rfl)
theorem dX1_image_35 : decode cX1_image 35 = .ok (.aload_n 0, 1) := dk_42 (dk_at dksX1_image_1 11 rfl rfl)
theorem dX1_image_36 : decode cX1_image 36 = .ok (.getfield 30, 3) := dk_180 0 30 (dk_at dksX1_image_1 12 rfl rfl)
theorem dX1_image_39 : decode cX1_image 39 = .ok (.invokevirtual 233, 3) := dk_182 0 233 (dk_at dksX1_image_1 15 rfl rfl)
theorem dX1_image_42 : decode cX1_image 42 = .ok (.ireturn, 1) := dk_172 (dk_at dksX1_image_1 18 rfl rfl)
abbrev cX1_on : ByteArray := prog_1_method_97_code
def yX1_on : MethodName := ⟨RX1, "on", "()I"⟩
def dkwX1_on_2 : List UInt8 := [182, 0, 233, 172]
abbrev dktX1_on_2 : List UInt8 := dkwX1_on_2 ++ []
def dkwX1_on_1 : List UInt8 := [182, 0, 233, 4, 100, 182, 1, 249, 192, 0, 23, 182, 2, 0, 87, 42, 182, 0, 217, 42, 180, 0, 30]
abbrev dktX1_on_1 : List UInt8 := dkwX1_on_1 ++ dktX1_on_2
def dkwX1_on_0 : List UInt8 := [42, 180, 0, 30, 182, 2, 7, 153, 0, 5, 2, 172, 42, 180, 0, 26, 42, 180, 0, 30, 42, 180, 0, 30]
abbrev dktX1_on_0 : List UInt8 := dkwX1_on_0 ++ dktX1_on_1
theorem dksX1_on_0 : cX1_on.data.toList.drop 0 = dktX1_on_0 := by decide +kernel
theorem dksX1_on_1 : cX1_on.data.toList.drop 24 = dktX1_on_1 := dk_seg dksX1_on_0 24 rfl rfl
theorem dksX1_on_2 : cX1_on.data.toList.drop 47 = dktX1_on_2 := dk_seg dksX1_on_1 23 rfl rfl
theorem dX1_on_0 : decode cX1_on 0 = .ok (.aload_n 0, 1) := dk_42 (dk_at dksX1_on_0 0 rfl rfl)
theorem dX1_on_1 : decode cX1_on 1 = .ok (.getfield 30, 3) := dk_180 0 30 (dk_at dksX1_on_0 1 rfl rfl)
theorem dX1_on_4 : decode cX1_on 4 = .ok (.invokevirtual 519, 3) := dk_182 2 7 (dk_at dksX1_on_0 4 rfl rfl)
theorem dX1_on_7 : decode cX1_on 7 = .ok (.ifCond .eq 5, 3) := dk_153 0 5 (dk_at dksX1_on_0 7 rfl rfl)
theorem dX1_on_10 : decode cX1_on 10 = .ok (.iconst (-1), 1) := dk_2 (dk_at dksX1_on_0 10 rfl rfl)
theorem dX1_on_11 : decode cX1_on 11 = .ok (.ireturn, 1) := dk_172 (dk_at dksX1_on_0 11 rfl rfl)
theorem dX1_on_12 : decode cX1_on 12 = .ok (.aload_n 0, 1) := dk_42 (dk_at dksX1_on_0 12 rfl rfl)
theorem dX1_on_13 : decode cX1_on 13 = .ok (.getfield 26, 3) := dk_180 0 26 (dk_at dksX1_on_0 13 rfl rfl)
theorem dX1_on_16 : decode cX1_on 16 = .ok (.aload_n 0, 1) := dk_42 (dk_at dksX1_on_0 16 rfl rfl)
theorem dX1_on_17 : decode cX1_on 17 = .ok (.getfield 30, 3) := dk_180 0 30 (dk_at dksX1_on_0 17 rfl rfl)
theorem dX1_on_20 : decode cX1_on 20 = .ok (.aload_n 0, 1) := dk_42 (dk_at dksX1_on_0 20 rfl rfl)
theorem dX1_on_21 : decode cX1_on 21 = .ok (.getfield 30, 3) := dk_180 0 30 (dk_at dksX1_on_0 21 rfl rfl)
theorem dX1_on_24 : decode cX1_on 24 = .ok (.invokevirtual 233, 3) := dk_182 0 233 (dk_at dksX1_on_1 0 rfl rfl)
theorem dX1_on_27 : decode cX1_on 27 = .ok (.iconst 1, 1) := dk_4 (dk_at dksX1_on_1 3 rfl rfl)
theorem dX1_on_28 : decode cX1_on 28 = .ok (.isub, 1) := dk_100 (dk_at dksX1_on_1 4 rfl rfl)
theorem dX1_on_29 : decode cX1_on 29 = .ok (.invokevirtual 505, 3) := dk_182 1 249 (dk_at dksX1_on_1 5 rfl rfl)
theorem dX1_on_32 : decode cX1_on 32 = .ok (.checkcast 23, 3) := dk_192 0 23 (dk_at dksX1_on_1 8 rfl rfl)
theorem dX1_on_35 : decode cX1_on 35 = .ok (.invokevirtual 512, 3) := dk_182 2 0 (dk_at dksX1_on_1 11 rfl rfl)
theorem dX1_on_38 : decode cX1_on 38 = .ok (.pop, 1) := dk_87 (dk_at dksX1_on_1 14 rfl rfl)
theorem dX1_on_39 : decode cX1_on 39 = .ok (.aload_n 0, 1) := dk_42 (dk_at dksX1_on_1 15 rfl rfl)
theorem dX1_on_40 : decode cX1_on 40 = .ok (.invokevirtual 217, 3) := dk_182 0 217 (dk_at dksX1_on_1 16 rfl rfl)
theorem dX1_on_43 : decode cX1_on 43 = .ok (.aload_n 0, 1) := dk_42 (dk_at dksX1_on_1 19 rfl rfl)
theorem dX1_on_44 : decode cX1_on 44 = .ok (.getfield 30, 3) := dk_180 0 30 (dk_at dksX1_on_1 20 rfl rfl)
theorem dX1_on_47 : decode cX1_on 47 = .ok (.invokevirtual 233, 3) := dk_182 0 233 (dk_at dksX1_on_2 0 rfl rfl)
theorem dX1_on_50 : decode cX1_on 50 = .ok (.ireturn, 1) := dk_172 (dk_at dksX1_on_2 3 rfl rfl)
abbrev cX1_leads : ByteArray := prog_1_method_13_code
def yX1_leads : MethodName := ⟨RX1, "leads", "()V"⟩
def dkwX1_leads_0 : List UInt8 := [42, 3, 181, 0, 220, 42, 3, 181, 0, 223, 177]
abbrev dktX1_leads_0 : List UInt8 := dkwX1_leads_0 ++ []
theorem dksX1_leads_0 : cX1_leads.data.toList.drop 0 = dktX1_leads_0 := by decide +kernel
theorem dX1_leads_0 : decode cX1_leads 0 = .ok (.aload_n 0, 1) := dk_42 (dk_at dksX1_leads_0 0 rfl rfl)
theorem dX1_leads_1 : decode cX1_leads 1 = .ok (.iconst 0, 1) := dk_3 (dk_at dksX1_leads_0 1 rfl rfl)
theorem dX1_leads_2 : decode cX1_leads 2 = .ok (.putfield 220, 3) := dk_181 0 220 (dk_at dksX1_leads_0 2 rfl rfl)
theorem dX1_leads_5 : decode cX1_leads 5 = .ok (.aload_n 0, 1) := dk_42 (dk_at dksX1_leads_0 5 rfl rfl)
theorem dX1_leads_6 : decode cX1_leads 6 = .ok (.iconst 0, 1) := dk_3 (dk_at dksX1_leads_0 6 rfl rfl)
theorem dX1_leads_7 : decode cX1_leads 7 = .ok (.putfield 223, 3) := dk_181 0 223 (dk_at dksX1_leads_0 7 rfl rfl)
theorem dX1_leads_10 : decode cX1_leads 10 = .ok (.return_, 1) := dk_177 (dk_at dksX1_leads_0 10 rfl rfl)
abbrev cX1_status : ByteArray := prog_1_method_98_code
def yX1_status : MethodName := ⟨RX1, "status", "(I)I"⟩
def dkwX1_status_0 : List UInt8 := [27, 3, 6, 184, 0, 163, 153, 0, 12, 42, 180, 0, 33, 27, 46, 167, 0, 4, 2, 172]
abbrev dktX1_status_0 : List UInt8 := dkwX1_status_0 ++ []
theorem dksX1_status_0 : cX1_status.data.toList.drop 0 = dktX1_status_0 := by decide +kernel
theorem dX1_status_0 : decode cX1_status 0 = .ok (.iload_n 1, 1) := dk_27 (dk_at dksX1_status_0 0 rfl rfl)
theorem dX1_status_1 : decode cX1_status 1 = .ok (.iconst 0, 1) := dk_3 (dk_at dksX1_status_0 1 rfl rfl)
theorem dX1_status_2 : decode cX1_status 2 = .ok (.iconst 3, 1) := dk_6 (dk_at dksX1_status_0 2 rfl rfl)
theorem dX1_status_3 : decode cX1_status 3 = .ok (.invokestatic 163, 3) := dk_184 0 163 (dk_at dksX1_status_0 3 rfl rfl)
theorem dX1_status_6 : decode cX1_status 6 = .ok (.ifCond .eq 12, 3) := dk_153 0 12 (dk_at dksX1_status_0 6 rfl rfl)
theorem dX1_status_9 : decode cX1_status 9 = .ok (.aload_n 0, 1) := dk_42 (dk_at dksX1_status_0 9 rfl rfl)
theorem dX1_status_10 : decode cX1_status 10 = .ok (.getfield 33, 3) := dk_180 0 33 (dk_at dksX1_status_0 10 rfl rfl)
theorem dX1_status_13 : decode cX1_status 13 = .ok (.iload_n 1, 1) := dk_27 (dk_at dksX1_status_0 13 rfl rfl)
theorem dX1_status_14 : decode cX1_status 14 = .ok (.iaload, 1) := dk_46 (dk_at dksX1_status_0 14 rfl rfl)
theorem dX1_status_15 : decode cX1_status 15 = .ok (.goto 4, 3) := dk_167 0 4 (dk_at dksX1_status_0 15 rfl rfl)
theorem dX1_status_18 : decode cX1_status 18 = .ok (.iconst (-1), 1) := dk_2 (dk_at dksX1_status_0 18 rfl rfl)
theorem dX1_status_19 : decode cX1_status 19 = .ok (.ireturn, 1) := dk_172 (dk_at dksX1_status_0 19 rfl rfl)
abbrev cX1_in : ByteArray := prog_1_method_3_code
def yX1_in : MethodName := ⟨RX1, "in", "(III)Z"⟩
def dkwX1_in_0 : List UInt8 := [26, 27, 161, 0, 12, 26, 28, 163, 0, 7, 4, 167, 0, 4, 3, 172]
abbrev dktX1_in_0 : List UInt8 := dkwX1_in_0 ++ []
theorem dksX1_in_0 : cX1_in.data.toList.drop 0 = dktX1_in_0 := by decide +kernel
theorem dX1_in_0 : decode cX1_in 0 = .ok (.iload_n 0, 1) := dk_26 (dk_at dksX1_in_0 0 rfl rfl)
theorem dX1_in_1 : decode cX1_in 1 = .ok (.iload_n 1, 1) := dk_27 (dk_at dksX1_in_0 1 rfl rfl)
theorem dX1_in_2 : decode cX1_in 2 = .ok (.if_icmp .lt 12, 3) := dk_161 0 12 (dk_at dksX1_in_0 2 rfl rfl)
theorem dX1_in_5 : decode cX1_in 5 = .ok (.iload_n 0, 1) := dk_26 (dk_at dksX1_in_0 5 rfl rfl)
theorem dX1_in_6 : decode cX1_in 6 = .ok (.iload_n 2, 1) := dk_28 (dk_at dksX1_in_0 6 rfl rfl)
theorem dX1_in_7 : decode cX1_in 7 = .ok (.if_icmp .gt 7, 3) := dk_163 0 7 (dk_at dksX1_in_0 7 rfl rfl)
theorem dX1_in_10 : decode cX1_in 10 = .ok (.iconst 1, 1) := dk_4 (dk_at dksX1_in_0 10 rfl rfl)
theorem dX1_in_11 : decode cX1_in 11 = .ok (.goto 4, 3) := dk_167 0 4 (dk_at dksX1_in_0 11 rfl rfl)
theorem dX1_in_14 : decode cX1_in 14 = .ok (.iconst 0, 1) := dk_3 (dk_at dksX1_in_0 14 rfl rfl)
theorem dX1_in_15 : decode cX1_in 15 = .ok (.ireturn, 1) := dk_172 (dk_at dksX1_in_0 15 rfl rfl)
abbrev cX1_count : ByteArray := prog_1_method_99_code
def yX1_count : MethodName := ⟨RX1, "count", "(I)I"⟩
def dkwX1_count_3 : List UInt8 := [180, 0, 170, 167, 0, 13, 27, 6, 160, 0, 7, 28, 167, 0, 4, 2, 172]
abbrev dktX1_count_3 : List UInt8 := dkwX1_count_3 ++ []
def dkwX1_count_2 : List UInt8 := [167, 0, 40, 27, 4, 160, 0, 13, 42, 180, 0, 30, 182, 0, 233, 167, 0, 25, 27, 5, 160, 0, 10, 42]
abbrev dktX1_count_2 : List UInt8 := dkwX1_count_2 ++ dktX1_count_3
def dkwX1_count_1 : List UInt8 := [3, 167, 0, 4, 4, 96, 61, 132, 3, 1, 167, 255, 226, 27, 154, 0, 13, 42, 180, 0, 26, 180, 1, 205]
abbrev dktX1_count_1 : List UInt8 := dkwX1_count_1 ++ dktX1_count_2
def dkwX1_count_0 : List UInt8 := [3, 61, 3, 62, 29, 16, 24, 162, 0, 30, 28, 42, 180, 0, 26, 180, 1, 25, 29, 46, 2, 160, 0, 7]
abbrev dktX1_count_0 : List UInt8 := dkwX1_count_0 ++ dktX1_count_1
theorem dksX1_count_0 : cX1_count.data.toList.drop 0 = dktX1_count_0 := by decide +kernel
theorem dksX1_count_1 : cX1_count.data.toList.drop 24 = dktX1_count_1 := dk_seg dksX1_count_0 24 rfl rfl
theorem dksX1_count_2 : cX1_count.data.toList.drop 48 = dktX1_count_2 := dk_seg dksX1_count_1 24 rfl rfl
theorem dksX1_count_3 : cX1_count.data.toList.drop 72 = dktX1_count_3 := dk_seg dksX1_count_2 24 rfl rfl
theorem dX1_count_0 : decode cX1_count 0 = .ok (.iconst 0, 1) := dk_3 (dk_at dksX1_count_0 0 rfl rfl)
theorem dX1_count_1 : decode cX1_count 1 = .ok (.istore_n 2, 1) := dk_61 (dk_at dksX1_count_0 1 rfl rfl)
theorem dX1_count_2 : decode cX1_count 2 = .ok (.iconst 0, 1) := dk_3 (dk_at dksX1_count_0 2 rfl rfl)
theorem dX1_count_3 : decode cX1_count 3 = .ok (.istore_n 3, 1) := dk_62 (dk_at dksX1_count_0 3 rfl rfl)
theorem dX1_count_4 : decode cX1_count 4 = .ok (.iload_n 3, 1) := dk_29 (dk_at dksX1_count_0 4 rfl rfl)
theorem dX1_count_5 : decode cX1_count 5 = .ok (.bipush 24, 2) := dk_16 24 (dk_at dksX1_count_0 5 rfl rfl)
theorem dX1_count_7 : decode cX1_count 7 = .ok (.if_icmp .ge 30, 3) := dk_162 0 30 (dk_at dksX1_count_0 7 rfl rfl)
theorem dX1_count_10 : decode cX1_count 10 = .ok (.iload_n 2, 1) := dk_28 (dk_at dksX1_count_0 10 rfl rfl)
theorem dX1_count_11 : decode cX1_count 11 = .ok (.aload_n 0, 1) := dk_42 (dk_at dksX1_count_0 11 rfl rfl)
theorem dX1_count_12 : decode cX1_count 12 = .ok (.getfield 26, 3) := dk_180 0 26 (dk_at dksX1_count_0 12 rfl rfl)
theorem dX1_count_15 : decode cX1_count 15 = .ok (.getfield 281, 3) := dk_180 1 25 (dk_at dksX1_count_0 15 rfl rfl)
theorem dX1_count_18 : decode cX1_count 18 = .ok (.iload_n 3, 1) := dk_29 (dk_at dksX1_count_0 18 rfl rfl)
theorem dX1_count_19 : decode cX1_count 19 = .ok (.iaload, 1) := dk_46 (dk_at dksX1_count_0 19 rfl rfl)
theorem dX1_count_20 : decode cX1_count 20 = .ok (.iconst (-1), 1) := dk_2 (dk_at dksX1_count_0 20 rfl rfl)
theorem dX1_count_21 : decode cX1_count 21 = .ok (.if_icmp .ne 7, 3) := dk_160 0 7 (dk_at dksX1_count_0 21 rfl rfl)
theorem dX1_count_24 : decode cX1_count 24 = .ok (.iconst 0, 1) := dk_3 (dk_at dksX1_count_1 0 rfl rfl)
theorem dX1_count_25 : decode cX1_count 25 = .ok (.goto 4, 3) := dk_167 0 4 (dk_at dksX1_count_1 1 rfl rfl)
theorem dX1_count_28 : decode cX1_count 28 = .ok (.iconst 1, 1) := dk_4 (dk_at dksX1_count_1 4 rfl rfl)
theorem dX1_count_29 : decode cX1_count 29 = .ok (.iadd, 1) := dk_96 (dk_at dksX1_count_1 5 rfl rfl)
theorem dX1_count_30 : decode cX1_count 30 = .ok (.istore_n 2, 1) := dk_61 (dk_at dksX1_count_1 6 rfl rfl)
theorem dX1_count_31 : decode cX1_count 31 = .ok (.iinc 3 1, 3) := dk_132 3 1 (dk_at dksX1_count_1 7 rfl rfl)
theorem dX1_count_34 : decode cX1_count 34 = .ok (.goto (-30), 3) := dk_167 255 226 (dk_at dksX1_count_1 10 rfl rfl)
theorem dX1_count_37 : decode cX1_count 37 = .ok (.iload_n 1, 1) := dk_27 (dk_at dksX1_count_1 13 rfl rfl)
theorem dX1_count_38 : decode cX1_count 38 = .ok (.ifCond .ne 13, 3) := dk_154 0 13 (dk_at dksX1_count_1 14 rfl rfl)
theorem dX1_count_41 : decode cX1_count 41 = .ok (.aload_n 0, 1) := dk_42 (dk_at dksX1_count_1 17 rfl rfl)
theorem dX1_count_42 : decode cX1_count 42 = .ok (.getfield 26, 3) := dk_180 0 26 (dk_at dksX1_count_1 18 rfl rfl)
theorem dX1_count_45 : decode cX1_count 45 = .ok (.getfield 461, 3) := dk_180 1 205 (dk_at dksX1_count_1 21 rfl rfl)
theorem dX1_count_48 : decode cX1_count 48 = .ok (.goto 40, 3) := dk_167 0 40 (dk_at dksX1_count_2 0 rfl rfl)
theorem dX1_count_51 : decode cX1_count 51 = .ok (.iload_n 1, 1) := dk_27 (dk_at dksX1_count_2 3 rfl rfl)
theorem dX1_count_52 : decode cX1_count 52 = .ok (.iconst 1, 1) := dk_4 (dk_at dksX1_count_2 4 rfl rfl)
theorem dX1_count_53 : decode cX1_count 53 = .ok (.if_icmp .ne 13, 3) := dk_160 0 13 (dk_at dksX1_count_2 5 rfl rfl)
theorem dX1_count_56 : decode cX1_count 56 = .ok (.aload_n 0, 1) := dk_42 (dk_at dksX1_count_2 8 rfl rfl)
theorem dX1_count_57 : decode cX1_count 57 = .ok (.getfield 30, 3) := dk_180 0 30 (dk_at dksX1_count_2 9 rfl rfl)
theorem dX1_count_60 : decode cX1_count 60 = .ok (.invokevirtual 233, 3) := dk_182 0 233 (dk_at dksX1_count_2 12 rfl rfl)
theorem dX1_count_63 : decode cX1_count 63 = .ok (.goto 25, 3) := dk_167 0 25 (dk_at dksX1_count_2 15 rfl rfl)
theorem dX1_count_66 : decode cX1_count 66 = .ok (.iload_n 1, 1) := dk_27 (dk_at dksX1_count_2 18 rfl rfl)
theorem dX1_count_67 : decode cX1_count 67 = .ok (.iconst 2, 1) := dk_5 (dk_at dksX1_count_2 19 rfl rfl)
theorem dX1_count_68 : decode cX1_count 68 = .ok (.if_icmp .ne 10, 3) := dk_160 0 10 (dk_at dksX1_count_2 20 rfl rfl)
theorem dX1_count_71 : decode cX1_count 71 = .ok (.aload_n 0, 1) := dk_42 (dk_at dksX1_count_2 23 rfl rfl)
theorem dX1_count_72 : decode cX1_count 72 = .ok (.getfield 170, 3) := dk_180 0 170 (dk_at dksX1_count_3 0 rfl rfl)
theorem dX1_count_75 : decode cX1_count 75 = .ok (.goto 13, 3) := dk_167 0 13 (dk_at dksX1_count_3 3 rfl rfl)
theorem dX1_count_78 : decode cX1_count 78 = .ok (.iload_n 1, 1) := dk_27 (dk_at dksX1_count_3 6 rfl rfl)
theorem dX1_count_79 : decode cX1_count 79 = .ok (.iconst 3, 1) := dk_6 (dk_at dksX1_count_3 7 rfl rfl)
theorem dX1_count_80 : decode cX1_count 80 = .ok (.if_icmp .ne 7, 3) := dk_160 0 7 (dk_at dksX1_count_3 8 rfl rfl)
theorem dX1_count_83 : decode cX1_count 83 = .ok (.iload_n 2, 1) := dk_28 (dk_at dksX1_count_3 11 rfl rfl)
theorem dX1_count_84 : decode cX1_count 84 = .ok (.goto 4, 3) := dk_167 0 4 (dk_at dksX1_count_3 12 rfl rfl)
theorem dX1_count_87 : decode cX1_count 87 = .ok (.iconst (-1), 1) := dk_2 (dk_at dksX1_count_3 15 rfl rfl)
theorem dX1_count_88 : decode cX1_count 88 = .ok (.ireturn, 1) := dk_172 (dk_at dksX1_count_3 16 rfl rfl)
abbrev cX1_land : ByteArray := prog_1_method_11_code
def yX1_land : MethodName := ⟨RX1, "land", "(I)I"⟩
def dkwX1_land_3 : List UInt8 := [180, 0, 12, 180, 0, 208, 172]
abbrev dktX1_land_3 : List UInt8 := dkwX1_land_3 ++ []
def dkwX1_land_2 : List UInt8 := [181, 0, 19, 42, 180, 0, 26, 182, 0, 201, 42, 180, 0, 30, 182, 0, 204, 42, 182, 0, 205, 42]
abbrev dktX1_land_2 : List UInt8 := dkwX1_land_2 ++ dktX1_land_3
def dkwX1_land_1 : List UInt8 := [167, 0, 10, 77, 42, 44, 182, 0, 197, 172, 42, 4, 181, 0, 153, 42, 187, 0, 16, 89, 183, 0, 18]
abbrev dktX1_land_1 : List UInt8 := dkwX1_land_1 ++ dktX1_land_2
def dkwX1_land_0 : List UInt8 := [42, 27, 182, 0, 185, 42, 187, 0, 189, 89, 42, 180, 0, 37, 27, 183, 0, 191, 182, 0, 194, 181, 0, 12]
abbrev dktX1_land_0 : List UInt8 := dkwX1_land_0 ++ dktX1_land_1
theorem dksX1_land_0 : cX1_land.data.toList.drop 0 = dktX1_land_0 := by decide +kernel
theorem dksX1_land_1 : cX1_land.data.toList.drop 24 = dktX1_land_1 := dk_seg dksX1_land_0 24 rfl rfl
theorem dksX1_land_2 : cX1_land.data.toList.drop 47 = dktX1_land_2 := dk_seg dksX1_land_1 23 rfl rfl
theorem dksX1_land_3 : cX1_land.data.toList.drop 69 = dktX1_land_3 := dk_seg dksX1_land_2 22 rfl rfl
theorem dX1_land_0 : decode cX1_land 0 = .ok (.aload_n 0, 1) := dk_42 (dk_at dksX1_land_0 0 rfl rfl)
theorem dX1_land_1 : decode cX1_land 1 = .ok (.iload_n 1, 1) := dk_27 (dk_at dksX1_land_0 1 rfl rfl)
theorem dX1_land_2 : decode cX1_land 2 = .ok (.invokevirtual 185, 3) := dk_182 0 185 (dk_at dksX1_land_0 2 rfl rfl)
theorem dX1_land_5 : decode cX1_land 5 = .ok (.aload_n 0, 1) := dk_42 (dk_at dksX1_land_0 5 rfl rfl)
theorem dX1_land_6 : decode cX1_land 6 = .ok (.new 189, 3) := dk_187 0 189 (dk_at dksX1_land_0 6 rfl rfl)
theorem dX1_land_9 : decode cX1_land 9 = .ok (.dup, 1) := dk_89 (dk_at dksX1_land_0 9 rfl rfl)
theorem dX1_land_10 : decode cX1_land 10 = .ok (.aload_n 0, 1) := dk_42 (dk_at dksX1_land_0 10 rfl rfl)
theorem dX1_land_11 : decode cX1_land 11 = .ok (.getfield 37, 3) := dk_180 0 37 (dk_at dksX1_land_0 11 rfl rfl)
theorem dX1_land_14 : decode cX1_land 14 = .ok (.iload_n 1, 1) := dk_27 (dk_at dksX1_land_0 14 rfl rfl)
theorem dX1_land_15 : decode cX1_land 15 = .ok (.invokespecial 191, 3) := dk_183 0 191 (dk_at dksX1_land_0 15 rfl rfl)
theorem dX1_land_18 : decode cX1_land 18 = .ok (.invokevirtual 194, 3) := dk_182 0 194 (dk_at dksX1_land_0 18 rfl rfl)
theorem dX1_land_21 : decode cX1_land 21 = .ok (.putfield 12, 3) := dk_181 0 12 (dk_at dksX1_land_0 21 rfl rfl)
theorem dX1_land_24 : decode cX1_land 24 = .ok (.goto 10, 3) := dk_167 0 10 (dk_at dksX1_land_1 0 rfl rfl)
theorem dX1_land_27 : decode cX1_land 27 = .ok (.astore_n 2, 1) := dk_77 (dk_at dksX1_land_1 3 rfl rfl)
theorem dX1_land_28 : decode cX1_land 28 = .ok (.aload_n 0, 1) := dk_42 (dk_at dksX1_land_1 4 rfl rfl)
theorem dX1_land_29 : decode cX1_land 29 = .ok (.aload_n 2, 1) := dk_44 (dk_at dksX1_land_1 5 rfl rfl)
theorem dX1_land_30 : decode cX1_land 30 = .ok (.invokevirtual 197, 3) := dk_182 0 197 (dk_at dksX1_land_1 6 rfl rfl)
theorem dX1_land_33 : decode cX1_land 33 = .ok (.ireturn, 1) := dk_172 (dk_at dksX1_land_1 9 rfl rfl)
theorem dX1_land_34 : decode cX1_land 34 = .ok (.aload_n 0, 1) := dk_42 (dk_at dksX1_land_1 10 rfl rfl)
theorem dX1_land_35 : decode cX1_land 35 = .ok (.iconst 1, 1) := dk_4 (dk_at dksX1_land_1 11 rfl rfl)
theorem dX1_land_36 : decode cX1_land 36 = .ok (.putfield 153, 3) := dk_181 0 153 (dk_at dksX1_land_1 12 rfl rfl)
theorem dX1_land_39 : decode cX1_land 39 = .ok (.aload_n 0, 1) := dk_42 (dk_at dksX1_land_1 15 rfl rfl)
theorem dX1_land_40 : decode cX1_land 40 = .ok (.new 16, 3) := dk_187 0 16 (dk_at dksX1_land_1 16 rfl rfl)
theorem dX1_land_43 : decode cX1_land 43 = .ok (.dup, 1) := dk_89 (dk_at dksX1_land_1 19 rfl rfl)
theorem dX1_land_44 : decode cX1_land 44 = .ok (.invokespecial 18, 3) := dk_183 0 18 (dk_at dksX1_land_1 20 rfl rfl)
theorem dX1_land_47 : decode cX1_land 47 = .ok (.putfield 19, 3) := dk_181 0 19 (dk_at dksX1_land_2 0 rfl rfl)
theorem dX1_land_50 : decode cX1_land 50 = .ok (.aload_n 0, 1) := dk_42 (dk_at dksX1_land_2 3 rfl rfl)
theorem dX1_land_51 : decode cX1_land 51 = .ok (.getfield 26, 3) := dk_180 0 26 (dk_at dksX1_land_2 4 rfl rfl)
theorem dX1_land_54 : decode cX1_land 54 = .ok (.invokevirtual 201, 3) := dk_182 0 201 (dk_at dksX1_land_2 7 rfl rfl)
theorem dX1_land_57 : decode cX1_land 57 = .ok (.aload_n 0, 1) := dk_42 (dk_at dksX1_land_2 10 rfl rfl)
theorem dX1_land_58 : decode cX1_land 58 = .ok (.getfield 30, 3) := dk_180 0 30 (dk_at dksX1_land_2 11 rfl rfl)
theorem dX1_land_61 : decode cX1_land 61 = .ok (.invokevirtual 204, 3) := dk_182 0 204 (dk_at dksX1_land_2 14 rfl rfl)
theorem dX1_land_64 : decode cX1_land 64 = .ok (.aload_n 0, 1) := dk_42 (dk_at dksX1_land_2 17 rfl rfl)
theorem dX1_land_65 : decode cX1_land 65 = .ok (.invokevirtual 205, 3) := dk_182 0 205 (dk_at dksX1_land_2 18 rfl rfl)
theorem dX1_land_68 : decode cX1_land 68 = .ok (.aload_n 0, 1) := dk_42 (dk_at dksX1_land_2 21 rfl rfl)
theorem dX1_land_69 : decode cX1_land 69 = .ok (.getfield 12, 3) := dk_180 0 12 (dk_at dksX1_land_3 0 rfl rfl)
theorem dX1_land_72 : decode cX1_land 72 = .ok (.getfield 208, 3) := dk_180 0 208 (dk_at dksX1_land_3 3 rfl rfl)
theorem dX1_land_75 : decode cX1_land 75 = .ok (.ireturn, 1) := dk_172 (dk_at dksX1_land_3 6 rfl rfl)
abbrev cX1_reads : ByteArray := prog_1_method_9_code
def yX1_reads : MethodName := ⟨RX1, "reads", "(I)V"⟩
def dkwX1_reads_1 : List UInt8 := [181, 0, 170, 42, 2, 181, 0, 41, 177]
abbrev dktX1_reads_1 : List UInt8 := dkwX1_reads_1 ++ []
def dkwX1_reads_0 : List UInt8 := [42, 27, 3, 42, 180, 0, 170, 184, 0, 163, 154, 0, 7, 4, 167, 0, 4, 3, 182, 0, 173, 42, 3]
abbrev dktX1_reads_0 : List UInt8 := dkwX1_reads_0 ++ dktX1_reads_1
theorem dksX1_reads_0 : cX1_reads.data.toList.drop 0 = dktX1_reads_0 := by decide +kernel
theorem dksX1_reads_1 : cX1_reads.data.toList.drop 23 = dktX1_reads_1 := dk_seg dksX1_reads_0 23 rfl rfl
theorem dX1_reads_0 : decode cX1_reads 0 = .ok (.aload_n 0, 1) := dk_42 (dk_at dksX1_reads_0 0 rfl rfl)
theorem dX1_reads_1 : decode cX1_reads 1 = .ok (.iload_n 1, 1) := dk_27 (dk_at dksX1_reads_0 1 rfl rfl)
theorem dX1_reads_2 : decode cX1_reads 2 = .ok (.iconst 0, 1) := dk_3 (dk_at dksX1_reads_0 2 rfl rfl)
theorem dX1_reads_3 : decode cX1_reads 3 = .ok (.aload_n 0, 1) := dk_42 (dk_at dksX1_reads_0 3 rfl rfl)
theorem dX1_reads_4 : decode cX1_reads 4 = .ok (.getfield 170, 3) := dk_180 0 170 (dk_at dksX1_reads_0 4 rfl rfl)
theorem dX1_reads_7 : decode cX1_reads 7 = .ok (.invokestatic 163, 3) := dk_184 0 163 (dk_at dksX1_reads_0 7 rfl rfl)
theorem dX1_reads_10 : decode cX1_reads 10 = .ok (.ifCond .ne 7, 3) := dk_154 0 7 (dk_at dksX1_reads_0 10 rfl rfl)
theorem dX1_reads_13 : decode cX1_reads 13 = .ok (.iconst 1, 1) := dk_4 (dk_at dksX1_reads_0 13 rfl rfl)
theorem dX1_reads_14 : decode cX1_reads 14 = .ok (.goto 4, 3) := dk_167 0 4 (dk_at dksX1_reads_0 14 rfl rfl)
theorem dX1_reads_17 : decode cX1_reads 17 = .ok (.iconst 0, 1) := dk_3 (dk_at dksX1_reads_0 17 rfl rfl)
theorem dX1_reads_18 : decode cX1_reads 18 = .ok (.invokevirtual 173, 3) := dk_182 0 173 (dk_at dksX1_reads_0 18 rfl rfl)
theorem dX1_reads_21 : decode cX1_reads 21 = .ok (.aload_n 0, 1) := dk_42 (dk_at dksX1_reads_0 21 rfl rfl)
theorem dX1_reads_22 : decode cX1_reads 22 = .ok (.iconst 0, 1) := dk_3 (dk_at dksX1_reads_0 22 rfl rfl)
theorem dX1_reads_23 : decode cX1_reads 23 = .ok (.putfield 170, 3) := dk_181 0 170 (dk_at dksX1_reads_1 0 rfl rfl)
theorem dX1_reads_26 : decode cX1_reads 26 = .ok (.aload_n 0, 1) := dk_42 (dk_at dksX1_reads_1 3 rfl rfl)
theorem dX1_reads_27 : decode cX1_reads 27 = .ok (.iconst (-1), 1) := dk_2 (dk_at dksX1_reads_1 4 rfl rfl)
theorem dX1_reads_28 : decode cX1_reads 28 = .ok (.putfield 41, 3) := dk_181 0 41 (dk_at dksX1_reads_1 5 rfl rfl)
theorem dX1_reads_31 : decode cX1_reads 31 = .ok (.return_, 1) := dk_177 (dk_at dksX1_reads_1 8 rfl rfl)
abbrev cX1_wrong : ByteArray := prog_1_method_4_code
def yX1_wrong : MethodName := ⟨RX1, "wrong", "(Z)V"⟩
def dkwX1_wrong_0 : List UInt8 := [27, 154, 0, 4, 177, 42, 180, 0, 33, 5, 92, 46, 4, 96, 79, 187, 0, 147, 89, 183, 0, 149, 191]
abbrev dktX1_wrong_0 : List UInt8 := dkwX1_wrong_0 ++ []
theorem dksX1_wrong_0 : cX1_wrong.data.toList.drop 0 = dktX1_wrong_0 := by decide +kernel
theorem dX1_wrong_0 : decode cX1_wrong 0 = .ok (.iload_n 1, 1) := dk_27 (dk_at dksX1_wrong_0 0 rfl rfl)
theorem dX1_wrong_1 : decode cX1_wrong 1 = .ok (.ifCond .ne 4, 3) := dk_154 0 4 (dk_at dksX1_wrong_0 1 rfl rfl)
theorem dX1_wrong_4 : decode cX1_wrong 4 = .ok (.return_, 1) := dk_177 (dk_at dksX1_wrong_0 4 rfl rfl)
theorem dX1_wrong_5 : decode cX1_wrong 5 = .ok (.aload_n 0, 1) := dk_42 (dk_at dksX1_wrong_0 5 rfl rfl)
theorem dX1_wrong_6 : decode cX1_wrong 6 = .ok (.getfield 33, 3) := dk_180 0 33 (dk_at dksX1_wrong_0 6 rfl rfl)
theorem dX1_wrong_9 : decode cX1_wrong 9 = .ok (.iconst 2, 1) := dk_5 (dk_at dksX1_wrong_0 9 rfl rfl)
theorem dX1_wrong_10 : decode cX1_wrong 10 = .ok (.dup2, 1) := dk_92 (dk_at dksX1_wrong_0 10 rfl rfl)
theorem dX1_wrong_11 : decode cX1_wrong 11 = .ok (.iaload, 1) := dk_46 (dk_at dksX1_wrong_0 11 rfl rfl)
theorem dX1_wrong_12 : decode cX1_wrong 12 = .ok (.iconst 1, 1) := dk_4 (dk_at dksX1_wrong_0 12 rfl rfl)
theorem dX1_wrong_13 : decode cX1_wrong 13 = .ok (.iadd, 1) := dk_96 (dk_at dksX1_wrong_0 13 rfl rfl)
theorem dX1_wrong_14 : decode cX1_wrong 14 = .ok (.iastore, 1) := dk_79 (dk_at dksX1_wrong_0 14 rfl rfl)
theorem dX1_wrong_15 : decode cX1_wrong 15 = .ok (.new 147, 3) := dk_187 0 147 (dk_at dksX1_wrong_0 15 rfl rfl)
theorem dX1_wrong_18 : decode cX1_wrong 18 = .ok (.dup, 1) := dk_89 (dk_at dksX1_wrong_0 18 rfl rfl)
theorem dX1_wrong_19 : decode cX1_wrong 19 = .ok (.invokespecial 149, 3) := dk_183 0 149 (dk_at dksX1_wrong_0 19 rfl rfl)
theorem dX1_wrong_22 : decode cX1_wrong 22 = .ok (.athrow, 1) := dk_191 (dk_at dksX1_wrong_0 22 rfl rfl)
abbrev cX1_wrongAt : ByteArray := prog_1_method_10_code
def yX1_wrongAt : MethodName := ⟨RX1, "wrongAt", "(LGlassLeaders$Wrong;)I"⟩
def dkwX1_wrongAt_0 : List UInt8 := [42, 43, 180, 0, 177, 181, 0, 41, 43, 180, 0, 182, 16, 10, 100, 172]
abbrev dktX1_wrongAt_0 : List UInt8 := dkwX1_wrongAt_0 ++ []
theorem dksX1_wrongAt_0 : cX1_wrongAt.data.toList.drop 0 = dktX1_wrongAt_0 := by decide +kernel
theorem dX1_wrongAt_0 : decode cX1_wrongAt 0 = .ok (.aload_n 0, 1) := dk_42 (dk_at dksX1_wrongAt_0 0 rfl rfl)
theorem dX1_wrongAt_1 : decode cX1_wrongAt 1 = .ok (.aload_n 1, 1) := dk_43 (dk_at dksX1_wrongAt_0 1 rfl rfl)
theorem dX1_wrongAt_2 : decode cX1_wrongAt 2 = .ok (.getfield 177, 3) := dk_180 0 177 (dk_at dksX1_wrongAt_0 2 rfl rfl)
theorem dX1_wrongAt_5 : decode cX1_wrongAt 5 = .ok (.putfield 41, 3) := dk_181 0 41 (dk_at dksX1_wrongAt_0 5 rfl rfl)
theorem dX1_wrongAt_8 : decode cX1_wrongAt 8 = .ok (.aload_n 1, 1) := dk_43 (dk_at dksX1_wrongAt_0 8 rfl rfl)
theorem dX1_wrongAt_9 : decode cX1_wrongAt 9 = .ok (.getfield 182, 3) := dk_180 0 182 (dk_at dksX1_wrongAt_0 9 rfl rfl)
theorem dX1_wrongAt_12 : decode cX1_wrongAt 12 = .ok (.bipush 10, 2) := dk_16 10 (dk_at dksX1_wrongAt_0 12 rfl rfl)
theorem dX1_wrongAt_14 : decode cX1_wrongAt 14 = .ok (.isub, 1) := dk_100 (dk_at dksX1_wrongAt_0 14 rfl rfl)
theorem dX1_wrongAt_15 : decode cX1_wrongAt 15 = .ok (.ireturn, 1) := dk_172 (dk_at dksX1_wrongAt_0 15 rfl rfl)
abbrev cX1_changes : ByteArray := prog_1_method_12_code
def yX1_changes : MethodName := ⟨RX1, "changes", "()V"⟩
def dkwX1_changes_0 : List UInt8 := [42, 3, 181, 0, 211, 42, 3, 181, 0, 214, 42, 182, 0, 217, 177]
abbrev dktX1_changes_0 : List UInt8 := dkwX1_changes_0 ++ []
theorem dksX1_changes_0 : cX1_changes.data.toList.drop 0 = dktX1_changes_0 := by decide +kernel
theorem dX1_changes_0 : decode cX1_changes 0 = .ok (.aload_n 0, 1) := dk_42 (dk_at dksX1_changes_0 0 rfl rfl)
theorem dX1_changes_1 : decode cX1_changes 1 = .ok (.iconst 0, 1) := dk_3 (dk_at dksX1_changes_0 1 rfl rfl)
theorem dX1_changes_2 : decode cX1_changes 2 = .ok (.putfield 211, 3) := dk_181 0 211 (dk_at dksX1_changes_0 2 rfl rfl)
theorem dX1_changes_5 : decode cX1_changes 5 = .ok (.aload_n 0, 1) := dk_42 (dk_at dksX1_changes_0 5 rfl rfl)
theorem dX1_changes_6 : decode cX1_changes 6 = .ok (.iconst 0, 1) := dk_3 (dk_at dksX1_changes_0 6 rfl rfl)
theorem dX1_changes_7 : decode cX1_changes 7 = .ok (.putfield 214, 3) := dk_181 0 214 (dk_at dksX1_changes_0 7 rfl rfl)
theorem dX1_changes_10 : decode cX1_changes 10 = .ok (.aload_n 0, 1) := dk_42 (dk_at dksX1_changes_0 10 rfl rfl)
theorem dX1_changes_11 : decode cX1_changes 11 = .ok (.invokevirtual 217, 3) := dk_182 0 217 (dk_at dksX1_changes_0 11 rfl rfl)
theorem dX1_changes_14 : decode cX1_changes 14 = .ok (.return_, 1) := dk_177 (dk_at dksX1_changes_0 14 rfl rfl)
abbrev cX1_law : ByteArray := prog_1_method_14_code
def yX1_law : MethodName := ⟨RX1, "law", "(I)I"⟩
def dkwX1_law_1 : List UInt8 := [167, 0, 10, 77, 42, 44, 182, 0, 197, 172, 42, 182, 0, 205, 42, 180, 0, 19, 182, 0, 233, 172]
abbrev dktX1_law_1 : List UInt8 := dkwX1_law_1 ++ []
def dkwX1_law_0 : List UInt8 := [42, 27, 182, 0, 185, 42, 187, 0, 226, 89, 42, 180, 0, 37, 27, 183, 0, 228, 182, 0, 229, 181, 0, 19]
abbrev dktX1_law_0 : List UInt8 := dkwX1_law_0 ++ dktX1_law_1
theorem dksX1_law_0 : cX1_law.data.toList.drop 0 = dktX1_law_0 := by decide +kernel
theorem dksX1_law_1 : cX1_law.data.toList.drop 24 = dktX1_law_1 := dk_seg dksX1_law_0 24 rfl rfl
theorem dX1_law_0 : decode cX1_law 0 = .ok (.aload_n 0, 1) := dk_42 (dk_at dksX1_law_0 0 rfl rfl)
theorem dX1_law_1 : decode cX1_law 1 = .ok (.iload_n 1, 1) := dk_27 (dk_at dksX1_law_0 1 rfl rfl)
theorem dX1_law_2 : decode cX1_law 2 = .ok (.invokevirtual 185, 3) := dk_182 0 185 (dk_at dksX1_law_0 2 rfl rfl)
theorem dX1_law_5 : decode cX1_law 5 = .ok (.aload_n 0, 1) := dk_42 (dk_at dksX1_law_0 5 rfl rfl)
theorem dX1_law_6 : decode cX1_law 6 = .ok (.new 226, 3) := dk_187 0 226 (dk_at dksX1_law_0 6 rfl rfl)
theorem dX1_law_9 : decode cX1_law 9 = .ok (.dup, 1) := dk_89 (dk_at dksX1_law_0 9 rfl rfl)
theorem dX1_law_10 : decode cX1_law 10 = .ok (.aload_n 0, 1) := dk_42 (dk_at dksX1_law_0 10 rfl rfl)
theorem dX1_law_11 : decode cX1_law 11 = .ok (.getfield 37, 3) := dk_180 0 37 (dk_at dksX1_law_0 11 rfl rfl)
theorem dX1_law_14 : decode cX1_law 14 = .ok (.iload_n 1, 1) := dk_27 (dk_at dksX1_law_0 14 rfl rfl)
theorem dX1_law_15 : decode cX1_law 15 = .ok (.invokespecial 228, 3) := dk_183 0 228 (dk_at dksX1_law_0 15 rfl rfl)
theorem dX1_law_18 : decode cX1_law 18 = .ok (.invokevirtual 229, 3) := dk_182 0 229 (dk_at dksX1_law_0 18 rfl rfl)
theorem dX1_law_21 : decode cX1_law 21 = .ok (.putfield 19, 3) := dk_181 0 19 (dk_at dksX1_law_0 21 rfl rfl)
theorem dX1_law_24 : decode cX1_law 24 = .ok (.goto 10, 3) := dk_167 0 10 (dk_at dksX1_law_1 0 rfl rfl)
theorem dX1_law_27 : decode cX1_law 27 = .ok (.astore_n 2, 1) := dk_77 (dk_at dksX1_law_1 3 rfl rfl)
theorem dX1_law_28 : decode cX1_law 28 = .ok (.aload_n 0, 1) := dk_42 (dk_at dksX1_law_1 4 rfl rfl)
theorem dX1_law_29 : decode cX1_law 29 = .ok (.aload_n 2, 1) := dk_44 (dk_at dksX1_law_1 5 rfl rfl)
theorem dX1_law_30 : decode cX1_law 30 = .ok (.invokevirtual 197, 3) := dk_182 0 197 (dk_at dksX1_law_1 6 rfl rfl)
theorem dX1_law_33 : decode cX1_law 33 = .ok (.ireturn, 1) := dk_172 (dk_at dksX1_law_1 9 rfl rfl)
theorem dX1_law_34 : decode cX1_law 34 = .ok (.aload_n 0, 1) := dk_42 (dk_at dksX1_law_1 10 rfl rfl)
theorem dX1_law_35 : decode cX1_law 35 = .ok (.invokevirtual 205, 3) := dk_182 0 205 (dk_at dksX1_law_1 11 rfl rfl)
theorem dX1_law_38 : decode cX1_law 38 = .ok (.aload_n 0, 1) := dk_42 (dk_at dksX1_law_1 14 rfl rfl)
theorem dX1_law_39 : decode cX1_law 39 = .ok (.getfield 19, 3) := dk_180 0 19 (dk_at dksX1_law_1 15 rfl rfl)
theorem dX1_law_42 : decode cX1_law 42 = .ok (.invokevirtual 233, 3) := dk_182 0 233 (dk_at dksX1_law_1 18 rfl rfl)
theorem dX1_law_45 : decode cX1_law 45 = .ok (.ireturn, 1) := dk_172 (dk_at dksX1_law_1 21 rfl rfl)
abbrev cX1_told : ByteArray := prog_1_method_17_code
def yX1_told : MethodName := ⟨RX1, "told", "(I)I"⟩
def dkwX1_told_6 : List UInt8 := [4, 100, 126, 184, 0, 254, 172]
abbrev dktX1_told_6 : List UInt8 := dkwX1_told_6 ++ []
def dkwX1_told_5 : List UInt8 := [42, 180, 0, 12, 180, 0, 251, 172, 42, 180, 0, 12, 180, 0, 240, 4, 42, 180, 0, 12, 180, 0, 237, 120]
abbrev dktX1_told_5 : List UInt8 := dkwX1_told_5 ++ dktX1_told_6
def dkwX1_told_4 : List UInt8 := [42, 180, 0, 12, 180, 0, 237, 172, 42, 180, 0, 12, 180, 0, 246, 172, 42, 180, 0, 12, 180, 0, 249, 172]
abbrev dktX1_told_4 : List UInt8 := dkwX1_told_4 ++ dktX1_told_5
def dkwX1_told_3 : List UInt8 := [42, 180, 0, 12, 180, 0, 208, 172, 42, 180, 0, 12, 180, 0, 243, 172, 42, 180, 0, 12, 180, 0, 160, 172]
abbrev dktX1_told_3 : List UInt8 := dkwX1_told_3 ++ dktX1_told_4
def dkwX1_told_2 : List UInt8 := [170, 0, 0, 0, 97, 0, 0, 0, 0, 0, 0, 0, 6, 0, 0, 0, 41, 0, 0, 0, 49, 0, 0, 0, 57, 0, 0, 0, 65, 0, 0, 0, 73, 0, 0, 0, 81, 0, 0, 0, 89]
abbrev dktX1_told_2 : List UInt8 := dkwX1_told_2 ++ dktX1_told_3
def dkwX1_told_1 : List UInt8 := [160, 0, 11, 42, 180, 0, 19, 182, 0, 233, 172, 42, 180, 0, 153, 154, 0, 5, 3, 172, 27]
abbrev dktX1_told_1 : List UInt8 := dkwX1_told_1 ++ dktX1_told_2
def dkwX1_told_0 : List UInt8 := [42, 27, 3, 16, 8, 184, 0, 163, 154, 0, 7, 4, 167, 0, 4, 3, 182, 0, 173, 27, 16, 8]
abbrev dktX1_told_0 : List UInt8 := dkwX1_told_0 ++ dktX1_told_1
theorem dksX1_told_0 : cX1_told.data.toList.drop 0 = dktX1_told_0 := by decide +kernel
theorem dksX1_told_1 : cX1_told.data.toList.drop 22 = dktX1_told_1 := dk_seg dksX1_told_0 22 rfl rfl
theorem dksX1_told_2 : cX1_told.data.toList.drop 43 = dktX1_told_2 := dk_seg dksX1_told_1 21 rfl rfl
theorem dksX1_told_3 : cX1_told.data.toList.drop 84 = dktX1_told_3 := dk_seg dksX1_told_2 41 rfl rfl
theorem dksX1_told_4 : cX1_told.data.toList.drop 108 = dktX1_told_4 := dk_seg dksX1_told_3 24 rfl rfl
theorem dksX1_told_5 : cX1_told.data.toList.drop 132 = dktX1_told_5 := dk_seg dksX1_told_4 24 rfl rfl
theorem dksX1_told_6 : cX1_told.data.toList.drop 156 = dktX1_told_6 := dk_seg dksX1_told_5 24 rfl rfl
theorem dX1_told_0 : decode cX1_told 0 = .ok (.aload_n 0, 1) := dk_42 (dk_at dksX1_told_0 0 rfl rfl)
theorem dX1_told_1 : decode cX1_told 1 = .ok (.iload_n 1, 1) := dk_27 (dk_at dksX1_told_0 1 rfl rfl)
theorem dX1_told_2 : decode cX1_told 2 = .ok (.iconst 0, 1) := dk_3 (dk_at dksX1_told_0 2 rfl rfl)
theorem dX1_told_3 : decode cX1_told 3 = .ok (.bipush 8, 2) := dk_16 8 (dk_at dksX1_told_0 3 rfl rfl)
theorem dX1_told_5 : decode cX1_told 5 = .ok (.invokestatic 163, 3) := dk_184 0 163 (dk_at dksX1_told_0 5 rfl rfl)
theorem dX1_told_8 : decode cX1_told 8 = .ok (.ifCond .ne 7, 3) := dk_154 0 7 (dk_at dksX1_told_0 8 rfl rfl)
theorem dX1_told_11 : decode cX1_told 11 = .ok (.iconst 1, 1) := dk_4 (dk_at dksX1_told_0 11 rfl rfl)
theorem dX1_told_12 : decode cX1_told 12 = .ok (.goto 4, 3) := dk_167 0 4 (dk_at dksX1_told_0 12 rfl rfl)
theorem dX1_told_15 : decode cX1_told 15 = .ok (.iconst 0, 1) := dk_3 (dk_at dksX1_told_0 15 rfl rfl)
theorem dX1_told_16 : decode cX1_told 16 = .ok (.invokevirtual 173, 3) := dk_182 0 173 (dk_at dksX1_told_0 16 rfl rfl)
theorem dX1_told_19 : decode cX1_told 19 = .ok (.iload_n 1, 1) := dk_27 (dk_at dksX1_told_0 19 rfl rfl)
theorem dX1_told_20 : decode cX1_told 20 = .ok (.bipush 8, 2) := dk_16 8 (dk_at dksX1_told_0 20 rfl rfl)
theorem dX1_told_22 : decode cX1_told 22 = .ok (.if_icmp .ne 11, 3) := dk_160 0 11 (dk_at dksX1_told_1 0 rfl rfl)
theorem dX1_told_25 : decode cX1_told 25 = .ok (.aload_n 0, 1) := dk_42 (dk_at dksX1_told_1 3 rfl rfl)
theorem dX1_told_26 : decode cX1_told 26 = .ok (.getfield 19, 3) := dk_180 0 19 (dk_at dksX1_told_1 4 rfl rfl)
theorem dX1_told_29 : decode cX1_told 29 = .ok (.invokevirtual 233, 3) := dk_182 0 233 (dk_at dksX1_told_1 7 rfl rfl)
theorem dX1_told_32 : decode cX1_told 32 = .ok (.ireturn, 1) := dk_172 (dk_at dksX1_told_1 10 rfl rfl)
theorem dX1_told_33 : decode cX1_told 33 = .ok (.aload_n 0, 1) := dk_42 (dk_at dksX1_told_1 11 rfl rfl)
theorem dX1_told_34 : decode cX1_told 34 = .ok (.getfield 153, 3) := dk_180 0 153 (dk_at dksX1_told_1 12 rfl rfl)
theorem dX1_told_37 : decode cX1_told 37 = .ok (.ifCond .ne 5, 3) := dk_154 0 5 (dk_at dksX1_told_1 15 rfl rfl)
theorem dX1_told_40 : decode cX1_told 40 = .ok (.iconst 0, 1) := dk_3 (dk_at dksX1_told_1 18 rfl rfl)
theorem dX1_told_41 : decode cX1_told 41 = .ok (.ireturn, 1) := dk_172 (dk_at dksX1_told_1 19 rfl rfl)
theorem dX1_told_42 : decode cX1_told 42 = .ok (.iload_n 1, 1) := dk_27 (dk_at dksX1_told_1 20 rfl rfl)
theorem dX1_told_43 : decode cX1_told 43 = .ok (.tableswitch 97 0 6 #[41, 49, 57, 65, 73, 81, 89], 41) := by decide +kernel
theorem dX1_told_84 : decode cX1_told 84 = .ok (.aload_n 0, 1) := dk_42 (dk_at dksX1_told_3 0 rfl rfl)
theorem dX1_told_85 : decode cX1_told 85 = .ok (.getfield 12, 3) := dk_180 0 12 (dk_at dksX1_told_3 1 rfl rfl)
theorem dX1_told_88 : decode cX1_told 88 = .ok (.getfield 208, 3) := dk_180 0 208 (dk_at dksX1_told_3 4 rfl rfl)
theorem dX1_told_91 : decode cX1_told 91 = .ok (.ireturn, 1) := dk_172 (dk_at dksX1_told_3 7 rfl rfl)
theorem dX1_told_92 : decode cX1_told 92 = .ok (.aload_n 0, 1) := dk_42 (dk_at dksX1_told_3 8 rfl rfl)
theorem dX1_told_93 : decode cX1_told 93 = .ok (.getfield 12, 3) := dk_180 0 12 (dk_at dksX1_told_3 9 rfl rfl)
theorem dX1_told_96 : decode cX1_told 96 = .ok (.getfield 243, 3) := dk_180 0 243 (dk_at dksX1_told_3 12 rfl rfl)
theorem dX1_told_99 : decode cX1_told 99 = .ok (.ireturn, 1) := dk_172 (dk_at dksX1_told_3 15 rfl rfl)
theorem dX1_told_100 : decode cX1_told 100 = .ok (.aload_n 0, 1) := dk_42 (dk_at dksX1_told_3 16 rfl rfl)
theorem dX1_told_101 : decode cX1_told 101 = .ok (.getfield 12, 3) := dk_180 0 12 (dk_at dksX1_told_3 17 rfl rfl)
theorem dX1_told_104 : decode cX1_told 104 = .ok (.getfield 160, 3) := dk_180 0 160 (dk_at dksX1_told_3 20 rfl rfl)
theorem dX1_told_107 : decode cX1_told 107 = .ok (.ireturn, 1) := dk_172 (dk_at dksX1_told_3 23 rfl rfl)
theorem dX1_told_108 : decode cX1_told 108 = .ok (.aload_n 0, 1) := dk_42 (dk_at dksX1_told_4 0 rfl rfl)
theorem dX1_told_109 : decode cX1_told 109 = .ok (.getfield 12, 3) := dk_180 0 12 (dk_at dksX1_told_4 1 rfl rfl)
theorem dX1_told_112 : decode cX1_told 112 = .ok (.getfield 237, 3) := dk_180 0 237 (dk_at dksX1_told_4 4 rfl rfl)
theorem dX1_told_115 : decode cX1_told 115 = .ok (.ireturn, 1) := dk_172 (dk_at dksX1_told_4 7 rfl rfl)
theorem dX1_told_116 : decode cX1_told 116 = .ok (.aload_n 0, 1) := dk_42 (dk_at dksX1_told_4 8 rfl rfl)
theorem dX1_told_117 : decode cX1_told 117 = .ok (.getfield 12, 3) := dk_180 0 12 (dk_at dksX1_told_4 9 rfl rfl)
theorem dX1_told_120 : decode cX1_told 120 = .ok (.getfield 246, 3) := dk_180 0 246 (dk_at dksX1_told_4 12 rfl rfl)
theorem dX1_told_123 : decode cX1_told 123 = .ok (.ireturn, 1) := dk_172 (dk_at dksX1_told_4 15 rfl rfl)
theorem dX1_told_124 : decode cX1_told 124 = .ok (.aload_n 0, 1) := dk_42 (dk_at dksX1_told_4 16 rfl rfl)
theorem dX1_told_125 : decode cX1_told 125 = .ok (.getfield 12, 3) := dk_180 0 12 (dk_at dksX1_told_4 17 rfl rfl)
theorem dX1_told_128 : decode cX1_told 128 = .ok (.getfield 249, 3) := dk_180 0 249 (dk_at dksX1_told_4 20 rfl rfl)
theorem dX1_told_131 : decode cX1_told 131 = .ok (.ireturn, 1) := dk_172 (dk_at dksX1_told_4 23 rfl rfl)
theorem dX1_told_132 : decode cX1_told 132 = .ok (.aload_n 0, 1) := dk_42 (dk_at dksX1_told_5 0 rfl rfl)
theorem dX1_told_133 : decode cX1_told 133 = .ok (.getfield 12, 3) := dk_180 0 12 (dk_at dksX1_told_5 1 rfl rfl)
theorem dX1_told_136 : decode cX1_told 136 = .ok (.getfield 251, 3) := dk_180 0 251 (dk_at dksX1_told_5 4 rfl rfl)
theorem dX1_told_139 : decode cX1_told 139 = .ok (.ireturn, 1) := dk_172 (dk_at dksX1_told_5 7 rfl rfl)
theorem dX1_told_140 : decode cX1_told 140 = .ok (.aload_n 0, 1) := dk_42 (dk_at dksX1_told_5 8 rfl rfl)
theorem dX1_told_141 : decode cX1_told 141 = .ok (.getfield 12, 3) := dk_180 0 12 (dk_at dksX1_told_5 9 rfl rfl)
theorem dX1_told_144 : decode cX1_told 144 = .ok (.getfield 240, 3) := dk_180 0 240 (dk_at dksX1_told_5 12 rfl rfl)
theorem dX1_told_147 : decode cX1_told 147 = .ok (.iconst 1, 1) := dk_4 (dk_at dksX1_told_5 15 rfl rfl)
theorem dX1_told_148 : decode cX1_told 148 = .ok (.aload_n 0, 1) := dk_42 (dk_at dksX1_told_5 16 rfl rfl)
theorem dX1_told_149 : decode cX1_told 149 = .ok (.getfield 12, 3) := dk_180 0 12 (dk_at dksX1_told_5 17 rfl rfl)
theorem dX1_told_152 : decode cX1_told 152 = .ok (.getfield 237, 3) := dk_180 0 237 (dk_at dksX1_told_5 20 rfl rfl)
theorem dX1_told_155 : decode cX1_told 155 = .ok (.ishl, 1) := dk_120 (dk_at dksX1_told_5 23 rfl rfl)
theorem dX1_told_156 : decode cX1_told 156 = .ok (.iconst 1, 1) := dk_4 (dk_at dksX1_told_6 0 rfl rfl)
theorem dX1_told_157 : decode cX1_told 157 = .ok (.isub, 1) := dk_100 (dk_at dksX1_told_6 1 rfl rfl)
theorem dX1_told_158 : decode cX1_told 158 = .ok (.iand, 1) := dk_126 (dk_at dksX1_told_6 2 rfl rfl)
theorem dX1_told_159 : decode cX1_told 159 = .ok (.invokestatic 254, 3) := dk_184 0 254 (dk_at dksX1_told_6 3 rfl rfl)
theorem dX1_told_162 : decode cX1_told 162 = .ok (.ireturn, 1) := dk_172 (dk_at dksX1_told_6 6 rfl rfl)
abbrev cX1_snow : ByteArray := prog_1_method_18_code
def yX1_snow : MethodName := ⟨RX1, "snow", "(II)I"⟩
def dkwX1_snow_2 : List UInt8 := [180, 0, 12, 180, 1, 7, 27, 50, 28, 46, 172]
abbrev dktX1_snow_2 : List UInt8 := dkwX1_snow_2 ++ []
def dkwX1_snow_1 : List UInt8 := [182, 1, 4, 42, 28, 3, 16, 23, 184, 0, 163, 154, 0, 7, 4, 167, 0, 4, 3, 182, 0, 173, 42]
abbrev dktX1_snow_1 : List UInt8 := dkwX1_snow_1 ++ dktX1_snow_2
def dkwX1_snow_0 : List UInt8 := [42, 27, 3, 42, 180, 0, 12, 180, 0, 243, 4, 100, 184, 0, 163, 154, 0, 7, 4, 167, 0, 4, 3]
abbrev dktX1_snow_0 : List UInt8 := dkwX1_snow_0 ++ dktX1_snow_1
theorem dksX1_snow_0 : cX1_snow.data.toList.drop 0 = dktX1_snow_0 := by decide +kernel
theorem dksX1_snow_1 : cX1_snow.data.toList.drop 23 = dktX1_snow_1 := dk_seg dksX1_snow_0 23 rfl rfl
theorem dksX1_snow_2 : cX1_snow.data.toList.drop 46 = dktX1_snow_2 := dk_seg dksX1_snow_1 23 rfl rfl
theorem dX1_snow_0 : decode cX1_snow 0 = .ok (.aload_n 0, 1) := dk_42 (dk_at dksX1_snow_0 0 rfl rfl)
theorem dX1_snow_1 : decode cX1_snow 1 = .ok (.iload_n 1, 1) := dk_27 (dk_at dksX1_snow_0 1 rfl rfl)
theorem dX1_snow_2 : decode cX1_snow 2 = .ok (.iconst 0, 1) := dk_3 (dk_at dksX1_snow_0 2 rfl rfl)
theorem dX1_snow_3 : decode cX1_snow 3 = .ok (.aload_n 0, 1) := dk_42 (dk_at dksX1_snow_0 3 rfl rfl)
theorem dX1_snow_4 : decode cX1_snow 4 = .ok (.getfield 12, 3) := dk_180 0 12 (dk_at dksX1_snow_0 4 rfl rfl)
theorem dX1_snow_7 : decode cX1_snow 7 = .ok (.getfield 243, 3) := dk_180 0 243 (dk_at dksX1_snow_0 7 rfl rfl)
theorem dX1_snow_10 : decode cX1_snow 10 = .ok (.iconst 1, 1) := dk_4 (dk_at dksX1_snow_0 10 rfl rfl)
theorem dX1_snow_11 : decode cX1_snow 11 = .ok (.isub, 1) := dk_100 (dk_at dksX1_snow_0 11 rfl rfl)
theorem dX1_snow_12 : decode cX1_snow 12 = .ok (.invokestatic 163, 3) := dk_184 0 163 (dk_at dksX1_snow_0 12 rfl rfl)
theorem dX1_snow_15 : decode cX1_snow 15 = .ok (.ifCond .ne 7, 3) := dk_154 0 7 (dk_at dksX1_snow_0 15 rfl rfl)
theorem dX1_snow_18 : decode cX1_snow 18 = .ok (.iconst 1, 1) := dk_4 (dk_at dksX1_snow_0 18 rfl rfl)
theorem dX1_snow_19 : decode cX1_snow 19 = .ok (.goto 4, 3) := dk_167 0 4 (dk_at dksX1_snow_0 19 rfl rfl)
theorem dX1_snow_22 : decode cX1_snow 22 = .ok (.iconst 0, 1) := dk_3 (dk_at dksX1_snow_0 22 rfl rfl)
theorem dX1_snow_23 : decode cX1_snow 23 = .ok (.invokevirtual 260, 3) := dk_182 1 4 (dk_at dksX1_snow_1 0 rfl rfl)
theorem dX1_snow_26 : decode cX1_snow 26 = .ok (.aload_n 0, 1) := dk_42 (dk_at dksX1_snow_1 3 rfl rfl)
theorem dX1_snow_27 : decode cX1_snow 27 = .ok (.iload_n 2, 1) := dk_28 (dk_at dksX1_snow_1 4 rfl rfl)
theorem dX1_snow_28 : decode cX1_snow 28 = .ok (.iconst 0, 1) := dk_3 (dk_at dksX1_snow_1 5 rfl rfl)
theorem dX1_snow_29 : decode cX1_snow 29 = .ok (.bipush 23, 2) := dk_16 23 (dk_at dksX1_snow_1 6 rfl rfl)
theorem dX1_snow_31 : decode cX1_snow 31 = .ok (.invokestatic 163, 3) := dk_184 0 163 (dk_at dksX1_snow_1 8 rfl rfl)
theorem dX1_snow_34 : decode cX1_snow 34 = .ok (.ifCond .ne 7, 3) := dk_154 0 7 (dk_at dksX1_snow_1 11 rfl rfl)
theorem dX1_snow_37 : decode cX1_snow 37 = .ok (.iconst 1, 1) := dk_4 (dk_at dksX1_snow_1 14 rfl rfl)
theorem dX1_snow_38 : decode cX1_snow 38 = .ok (.goto 4, 3) := dk_167 0 4 (dk_at dksX1_snow_1 15 rfl rfl)
theorem dX1_snow_41 : decode cX1_snow 41 = .ok (.iconst 0, 1) := dk_3 (dk_at dksX1_snow_1 18 rfl rfl)
theorem dX1_snow_42 : decode cX1_snow 42 = .ok (.invokevirtual 173, 3) := dk_182 0 173 (dk_at dksX1_snow_1 19 rfl rfl)
theorem dX1_snow_45 : decode cX1_snow 45 = .ok (.aload_n 0, 1) := dk_42 (dk_at dksX1_snow_1 22 rfl rfl)
theorem dX1_snow_46 : decode cX1_snow 46 = .ok (.getfield 12, 3) := dk_180 0 12 (dk_at dksX1_snow_2 0 rfl rfl)
theorem dX1_snow_49 : decode cX1_snow 49 = .ok (.getfield 263, 3) := dk_180 1 7 (dk_at dksX1_snow_2 3 rfl rfl)
theorem dX1_snow_52 : decode cX1_snow 52 = .ok (.iload_n 1, 1) := dk_27 (dk_at dksX1_snow_2 6 rfl rfl)
theorem dX1_snow_53 : decode cX1_snow 53 = .ok (.aaload, 1) := dk_50 (dk_at dksX1_snow_2 7 rfl rfl)
theorem dX1_snow_54 : decode cX1_snow 54 = .ok (.iload_n 2, 1) := dk_28 (dk_at dksX1_snow_2 8 rfl rfl)
theorem dX1_snow_55 : decode cX1_snow 55 = .ok (.iaload, 1) := dk_46 (dk_at dksX1_snow_2 9 rfl rfl)
theorem dX1_snow_56 : decode cX1_snow 56 = .ok (.ireturn, 1) := dk_172 (dk_at dksX1_snow_2 10 rfl rfl)
abbrev cX1_missing : ByteArray := prog_1_method_5_code
def yX1_missing : MethodName := ⟨RX1, "missing", "(Z)V"⟩
def dkwX1_missing_0 : List UInt8 := [27, 154, 0, 4, 177, 42, 180, 0, 33, 4, 92, 46, 4, 96, 79, 187, 0, 150, 89, 183, 0, 152, 191]
abbrev dktX1_missing_0 : List UInt8 := dkwX1_missing_0 ++ []
theorem dksX1_missing_0 : cX1_missing.data.toList.drop 0 = dktX1_missing_0 := by decide +kernel
theorem dX1_missing_0 : decode cX1_missing 0 = .ok (.iload_n 1, 1) := dk_27 (dk_at dksX1_missing_0 0 rfl rfl)
theorem dX1_missing_1 : decode cX1_missing 1 = .ok (.ifCond .ne 4, 3) := dk_154 0 4 (dk_at dksX1_missing_0 1 rfl rfl)
theorem dX1_missing_4 : decode cX1_missing 4 = .ok (.return_, 1) := dk_177 (dk_at dksX1_missing_0 4 rfl rfl)
theorem dX1_missing_5 : decode cX1_missing 5 = .ok (.aload_n 0, 1) := dk_42 (dk_at dksX1_missing_0 5 rfl rfl)
theorem dX1_missing_6 : decode cX1_missing 6 = .ok (.getfield 33, 3) := dk_180 0 33 (dk_at dksX1_missing_0 6 rfl rfl)
theorem dX1_missing_9 : decode cX1_missing 9 = .ok (.iconst 1, 1) := dk_4 (dk_at dksX1_missing_0 9 rfl rfl)
theorem dX1_missing_10 : decode cX1_missing 10 = .ok (.dup2, 1) := dk_92 (dk_at dksX1_missing_0 10 rfl rfl)
theorem dX1_missing_11 : decode cX1_missing 11 = .ok (.iaload, 1) := dk_46 (dk_at dksX1_missing_0 11 rfl rfl)
theorem dX1_missing_12 : decode cX1_missing 12 = .ok (.iconst 1, 1) := dk_4 (dk_at dksX1_missing_0 12 rfl rfl)
theorem dX1_missing_13 : decode cX1_missing 13 = .ok (.iadd, 1) := dk_96 (dk_at dksX1_missing_0 13 rfl rfl)
theorem dX1_missing_14 : decode cX1_missing 14 = .ok (.iastore, 1) := dk_79 (dk_at dksX1_missing_0 14 rfl rfl)
theorem dX1_missing_15 : decode cX1_missing 15 = .ok (.new 150, 3) := dk_187 0 150 (dk_at dksX1_missing_0 15 rfl rfl)
theorem dX1_missing_18 : decode cX1_missing 18 = .ok (.dup, 1) := dk_89 (dk_at dksX1_missing_0 18 rfl rfl)
theorem dX1_missing_19 : decode cX1_missing 19 = .ok (.invokespecial 152, 3) := dk_183 0 152 (dk_at dksX1_missing_0 19 rfl rfl)
theorem dX1_missing_22 : decode cX1_missing 22 = .ok (.athrow, 1) := dk_191 (dk_at dksX1_missing_0 22 rfl rfl)
abbrev cX1_wants : ByteArray := prog_1_method_19_code
def yX1_wants : MethodName := ⟨RX1, "wants", "(II)I"⟩
def dkwX1_wants_2 : List UInt8 := [42, 180, 0, 12, 180, 1, 16, 27, 50, 28, 46, 172]
abbrev dktX1_wants_2 : List UInt8 := dkwX1_wants_2 ++ []
def dkwX1_wants_1 : List UInt8 := [167, 0, 4, 3, 182, 0, 173, 28, 2, 160, 0, 15, 42, 180, 0, 12, 180, 1, 13, 27, 46, 167, 0, 14]
abbrev dktX1_wants_1 : List UInt8 := dkwX1_wants_1 ++ dktX1_wants_2
def dkwX1_wants_0 : List UInt8 := [42, 27, 182, 1, 10, 42, 28, 2, 42, 180, 0, 12, 180, 0, 208, 4, 100, 184, 0, 163, 154, 0, 7, 4]
abbrev dktX1_wants_0 : List UInt8 := dkwX1_wants_0 ++ dktX1_wants_1
theorem dksX1_wants_0 : cX1_wants.data.toList.drop 0 = dktX1_wants_0 := by decide +kernel
theorem dksX1_wants_1 : cX1_wants.data.toList.drop 24 = dktX1_wants_1 := dk_seg dksX1_wants_0 24 rfl rfl
theorem dksX1_wants_2 : cX1_wants.data.toList.drop 48 = dktX1_wants_2 := dk_seg dksX1_wants_1 24 rfl rfl
theorem dX1_wants_0 : decode cX1_wants 0 = .ok (.aload_n 0, 1) := dk_42 (dk_at dksX1_wants_0 0 rfl rfl)
theorem dX1_wants_1 : decode cX1_wants 1 = .ok (.iload_n 1, 1) := dk_27 (dk_at dksX1_wants_0 1 rfl rfl)
theorem dX1_wants_2 : decode cX1_wants 2 = .ok (.invokevirtual 266, 3) := dk_182 1 10 (dk_at dksX1_wants_0 2 rfl rfl)
theorem dX1_wants_5 : decode cX1_wants 5 = .ok (.aload_n 0, 1) := dk_42 (dk_at dksX1_wants_0 5 rfl rfl)
theorem dX1_wants_6 : decode cX1_wants 6 = .ok (.iload_n 2, 1) := dk_28 (dk_at dksX1_wants_0 6 rfl rfl)
theorem dX1_wants_7 : decode cX1_wants 7 = .ok (.iconst (-1), 1) := dk_2 (dk_at dksX1_wants_0 7 rfl rfl)
theorem dX1_wants_8 : decode cX1_wants 8 = .ok (.aload_n 0, 1) := dk_42 (dk_at dksX1_wants_0 8 rfl rfl)
theorem dX1_wants_9 : decode cX1_wants 9 = .ok (.getfield 12, 3) := dk_180 0 12 (dk_at dksX1_wants_0 9 rfl rfl)
theorem dX1_wants_12 : decode cX1_wants 12 = .ok (.getfield 208, 3) := dk_180 0 208 (dk_at dksX1_wants_0 12 rfl rfl)
theorem dX1_wants_15 : decode cX1_wants 15 = .ok (.iconst 1, 1) := dk_4 (dk_at dksX1_wants_0 15 rfl rfl)
theorem dX1_wants_16 : decode cX1_wants 16 = .ok (.isub, 1) := dk_100 (dk_at dksX1_wants_0 16 rfl rfl)
theorem dX1_wants_17 : decode cX1_wants 17 = .ok (.invokestatic 163, 3) := dk_184 0 163 (dk_at dksX1_wants_0 17 rfl rfl)
theorem dX1_wants_20 : decode cX1_wants 20 = .ok (.ifCond .ne 7, 3) := dk_154 0 7 (dk_at dksX1_wants_0 20 rfl rfl)
theorem dX1_wants_23 : decode cX1_wants 23 = .ok (.iconst 1, 1) := dk_4 (dk_at dksX1_wants_0 23 rfl rfl)
theorem dX1_wants_24 : decode cX1_wants 24 = .ok (.goto 4, 3) := dk_167 0 4 (dk_at dksX1_wants_1 0 rfl rfl)
theorem dX1_wants_27 : decode cX1_wants 27 = .ok (.iconst 0, 1) := dk_3 (dk_at dksX1_wants_1 3 rfl rfl)
theorem dX1_wants_28 : decode cX1_wants 28 = .ok (.invokevirtual 173, 3) := dk_182 0 173 (dk_at dksX1_wants_1 4 rfl rfl)
theorem dX1_wants_31 : decode cX1_wants 31 = .ok (.iload_n 2, 1) := dk_28 (dk_at dksX1_wants_1 7 rfl rfl)
theorem dX1_wants_32 : decode cX1_wants 32 = .ok (.iconst (-1), 1) := dk_2 (dk_at dksX1_wants_1 8 rfl rfl)
theorem dX1_wants_33 : decode cX1_wants 33 = .ok (.if_icmp .ne 15, 3) := dk_160 0 15 (dk_at dksX1_wants_1 9 rfl rfl)
theorem dX1_wants_36 : decode cX1_wants 36 = .ok (.aload_n 0, 1) := dk_42 (dk_at dksX1_wants_1 12 rfl rfl)
theorem dX1_wants_37 : decode cX1_wants 37 = .ok (.getfield 12, 3) := dk_180 0 12 (dk_at dksX1_wants_1 13 rfl rfl)
theorem dX1_wants_40 : decode cX1_wants 40 = .ok (.getfield 269, 3) := dk_180 1 13 (dk_at dksX1_wants_1 16 rfl rfl)
theorem dX1_wants_43 : decode cX1_wants 43 = .ok (.iload_n 1, 1) := dk_27 (dk_at dksX1_wants_1 19 rfl rfl)
theorem dX1_wants_44 : decode cX1_wants 44 = .ok (.iaload, 1) := dk_46 (dk_at dksX1_wants_1 20 rfl rfl)
theorem dX1_wants_45 : decode cX1_wants 45 = .ok (.goto 14, 3) := dk_167 0 14 (dk_at dksX1_wants_1 21 rfl rfl)
theorem dX1_wants_48 : decode cX1_wants 48 = .ok (.aload_n 0, 1) := dk_42 (dk_at dksX1_wants_2 0 rfl rfl)
theorem dX1_wants_49 : decode cX1_wants 49 = .ok (.getfield 12, 3) := dk_180 0 12 (dk_at dksX1_wants_2 1 rfl rfl)
theorem dX1_wants_52 : decode cX1_wants 52 = .ok (.getfield 272, 3) := dk_180 1 16 (dk_at dksX1_wants_2 4 rfl rfl)
theorem dX1_wants_55 : decode cX1_wants 55 = .ok (.iload_n 1, 1) := dk_27 (dk_at dksX1_wants_2 7 rfl rfl)
theorem dX1_wants_56 : decode cX1_wants 56 = .ok (.aaload, 1) := dk_50 (dk_at dksX1_wants_2 8 rfl rfl)
theorem dX1_wants_57 : decode cX1_wants 57 = .ok (.iload_n 2, 1) := dk_28 (dk_at dksX1_wants_2 9 rfl rfl)
theorem dX1_wants_58 : decode cX1_wants 58 = .ok (.iaload, 1) := dk_46 (dk_at dksX1_wants_2 10 rfl rfl)
theorem dX1_wants_59 : decode cX1_wants 59 = .ok (.ireturn, 1) := dk_172 (dk_at dksX1_wants_2 11 rfl rfl)
abbrev cX1_mustPerson : ByteArray := prog_1_method_7_code
def yX1_mustPerson : MethodName := ⟨RX1, "mustPerson", "(I)V"⟩
def dkwX1_mustPerson_1 : List UInt8 := [46, 4, 96, 79, 187, 0, 167, 89, 183, 0, 169, 191]
abbrev dktX1_mustPerson_1 : List UInt8 := dkwX1_mustPerson_1 ++ []
def dkwX1_mustPerson_0 : List UInt8 := [27, 3, 42, 180, 0, 12, 180, 0, 160, 4, 100, 184, 0, 163, 153, 0, 4, 177, 42, 180, 0, 33, 3, 92]
abbrev dktX1_mustPerson_0 : List UInt8 := dkwX1_mustPerson_0 ++ dktX1_mustPerson_1
theorem dksX1_mustPerson_0 : cX1_mustPerson.data.toList.drop 0 = dktX1_mustPerson_0 := by decide +kernel
theorem dksX1_mustPerson_1 : cX1_mustPerson.data.toList.drop 24 = dktX1_mustPerson_1 := dk_seg dksX1_mustPerson_0 24 rfl rfl
theorem dX1_mustPerson_0 : decode cX1_mustPerson 0 = .ok (.iload_n 1, 1) := dk_27 (dk_at dksX1_mustPerson_0 0 rfl rfl)
theorem dX1_mustPerson_1 : decode cX1_mustPerson 1 = .ok (.iconst 0, 1) := dk_3 (dk_at dksX1_mustPerson_0 1 rfl rfl)
theorem dX1_mustPerson_2 : decode cX1_mustPerson 2 = .ok (.aload_n 0, 1) := dk_42 (dk_at dksX1_mustPerson_0 2 rfl rfl)
theorem dX1_mustPerson_3 : decode cX1_mustPerson 3 = .ok (.getfield 12, 3) := dk_180 0 12 (dk_at dksX1_mustPerson_0 3 rfl rfl)
theorem dX1_mustPerson_6 : decode cX1_mustPerson 6 = .ok (.getfield 160, 3) := dk_180 0 160 (dk_at dksX1_mustPerson_0 6 rfl rfl)
theorem dX1_mustPerson_9 : decode cX1_mustPerson 9 = .ok (.iconst 1, 1) := dk_4 (dk_at dksX1_mustPerson_0 9 rfl rfl)
theorem dX1_mustPerson_10 : decode cX1_mustPerson 10 = .ok (.isub, 1) := dk_100 (dk_at dksX1_mustPerson_0 10 rfl rfl)
theorem dX1_mustPerson_11 : decode cX1_mustPerson 11 = .ok (.invokestatic 163, 3) := dk_184 0 163 (dk_at dksX1_mustPerson_0 11 rfl rfl)
theorem dX1_mustPerson_14 : decode cX1_mustPerson 14 = .ok (.ifCond .eq 4, 3) := dk_153 0 4 (dk_at dksX1_mustPerson_0 14 rfl rfl)
theorem dX1_mustPerson_17 : decode cX1_mustPerson 17 = .ok (.return_, 1) := dk_177 (dk_at dksX1_mustPerson_0 17 rfl rfl)
theorem dX1_mustPerson_18 : decode cX1_mustPerson 18 = .ok (.aload_n 0, 1) := dk_42 (dk_at dksX1_mustPerson_0 18 rfl rfl)
theorem dX1_mustPerson_19 : decode cX1_mustPerson 19 = .ok (.getfield 33, 3) := dk_180 0 33 (dk_at dksX1_mustPerson_0 19 rfl rfl)
theorem dX1_mustPerson_22 : decode cX1_mustPerson 22 = .ok (.iconst 0, 1) := dk_3 (dk_at dksX1_mustPerson_0 22 rfl rfl)
theorem dX1_mustPerson_23 : decode cX1_mustPerson 23 = .ok (.dup2, 1) := dk_92 (dk_at dksX1_mustPerson_0 23 rfl rfl)
theorem dX1_mustPerson_24 : decode cX1_mustPerson 24 = .ok (.iaload, 1) := dk_46 (dk_at dksX1_mustPerson_1 0 rfl rfl)
theorem dX1_mustPerson_25 : decode cX1_mustPerson 25 = .ok (.iconst 1, 1) := dk_4 (dk_at dksX1_mustPerson_1 1 rfl rfl)
theorem dX1_mustPerson_26 : decode cX1_mustPerson 26 = .ok (.iadd, 1) := dk_96 (dk_at dksX1_mustPerson_1 2 rfl rfl)
theorem dX1_mustPerson_27 : decode cX1_mustPerson 27 = .ok (.iastore, 1) := dk_79 (dk_at dksX1_mustPerson_1 3 rfl rfl)
theorem dX1_mustPerson_28 : decode cX1_mustPerson 28 = .ok (.new 167, 3) := dk_187 0 167 (dk_at dksX1_mustPerson_1 4 rfl rfl)
theorem dX1_mustPerson_31 : decode cX1_mustPerson 31 = .ok (.dup, 1) := dk_89 (dk_at dksX1_mustPerson_1 7 rfl rfl)
theorem dX1_mustPerson_32 : decode cX1_mustPerson 32 = .ok (.invokespecial 169, 3) := dk_183 0 169 (dk_at dksX1_mustPerson_1 8 rfl rfl)
theorem dX1_mustPerson_35 : decode cX1_mustPerson 35 = .ok (.athrow, 1) := dk_191 (dk_at dksX1_mustPerson_1 11 rfl rfl)
abbrev cX1_kind : ByteArray := prog_1_method_20_code
def yX1_kind : MethodName := ⟨RX1, "kind", "(II)I"⟩
def dkwX1_kind_2 : List UInt8 := [29, 172]
abbrev dktX1_kind_2 : List UInt8 := dkwX1_kind_2 ++ []
def dkwX1_kind_1 : List UInt8 := [180, 0, 26, 180, 1, 19, 27, 46, 62, 42, 180, 0, 26, 180, 1, 19, 27, 28, 79, 42, 3, 181, 0, 223]
abbrev dktX1_kind_1 : List UInt8 := dkwX1_kind_1 ++ dktX1_kind_2
def dkwX1_kind_0 : List UInt8 := [42, 27, 182, 1, 10, 42, 28, 3, 8, 184, 0, 163, 154, 0, 7, 4, 167, 0, 4, 3, 182, 0, 173, 42]
abbrev dktX1_kind_0 : List UInt8 := dkwX1_kind_0 ++ dktX1_kind_1
theorem dksX1_kind_0 : cX1_kind.data.toList.drop 0 = dktX1_kind_0 := by decide +kernel
theorem dksX1_kind_1 : cX1_kind.data.toList.drop 24 = dktX1_kind_1 := dk_seg dksX1_kind_0 24 rfl rfl
theorem dksX1_kind_2 : cX1_kind.data.toList.drop 48 = dktX1_kind_2 := dk_seg dksX1_kind_1 24 rfl rfl
theorem dX1_kind_0 : decode cX1_kind 0 = .ok (.aload_n 0, 1) := dk_42 (dk_at dksX1_kind_0 0 rfl rfl)
theorem dX1_kind_1 : decode cX1_kind 1 = .ok (.iload_n 1, 1) := dk_27 (dk_at dksX1_kind_0 1 rfl rfl)
theorem dX1_kind_2 : decode cX1_kind 2 = .ok (.invokevirtual 266, 3) := dk_182 1 10 (dk_at dksX1_kind_0 2 rfl rfl)
theorem dX1_kind_5 : decode cX1_kind 5 = .ok (.aload_n 0, 1) := dk_42 (dk_at dksX1_kind_0 5 rfl rfl)
theorem dX1_kind_6 : decode cX1_kind 6 = .ok (.iload_n 2, 1) := dk_28 (dk_at dksX1_kind_0 6 rfl rfl)
theorem dX1_kind_7 : decode cX1_kind 7 = .ok (.iconst 0, 1) := dk_3 (dk_at dksX1_kind_0 7 rfl rfl)
theorem dX1_kind_8 : decode cX1_kind 8 = .ok (.iconst 5, 1) := dk_8 (dk_at dksX1_kind_0 8 rfl rfl)
theorem dX1_kind_9 : decode cX1_kind 9 = .ok (.invokestatic 163, 3) := dk_184 0 163 (dk_at dksX1_kind_0 9 rfl rfl)
theorem dX1_kind_12 : decode cX1_kind 12 = .ok (.ifCond .ne 7, 3) := dk_154 0 7 (dk_at dksX1_kind_0 12 rfl rfl)
theorem dX1_kind_15 : decode cX1_kind 15 = .ok (.iconst 1, 1) := dk_4 (dk_at dksX1_kind_0 15 rfl rfl)
theorem dX1_kind_16 : decode cX1_kind 16 = .ok (.goto 4, 3) := dk_167 0 4 (dk_at dksX1_kind_0 16 rfl rfl)
theorem dX1_kind_19 : decode cX1_kind 19 = .ok (.iconst 0, 1) := dk_3 (dk_at dksX1_kind_0 19 rfl rfl)
theorem dX1_kind_20 : decode cX1_kind 20 = .ok (.invokevirtual 173, 3) := dk_182 0 173 (dk_at dksX1_kind_0 20 rfl rfl)
theorem dX1_kind_23 : decode cX1_kind 23 = .ok (.aload_n 0, 1) := dk_42 (dk_at dksX1_kind_0 23 rfl rfl)
theorem dX1_kind_24 : decode cX1_kind 24 = .ok (.getfield 26, 3) := dk_180 0 26 (dk_at dksX1_kind_1 0 rfl rfl)
theorem dX1_kind_27 : decode cX1_kind 27 = .ok (.getfield 275, 3) := dk_180 1 19 (dk_at dksX1_kind_1 3 rfl rfl)
theorem dX1_kind_30 : decode cX1_kind 30 = .ok (.iload_n 1, 1) := dk_27 (dk_at dksX1_kind_1 6 rfl rfl)
theorem dX1_kind_31 : decode cX1_kind 31 = .ok (.iaload, 1) := dk_46 (dk_at dksX1_kind_1 7 rfl rfl)
theorem dX1_kind_32 : decode cX1_kind 32 = .ok (.istore_n 3, 1) := dk_62 (dk_at dksX1_kind_1 8 rfl rfl)
theorem dX1_kind_33 : decode cX1_kind 33 = .ok (.aload_n 0, 1) := dk_42 (dk_at dksX1_kind_1 9 rfl rfl)
theorem dX1_kind_34 : decode cX1_kind 34 = .ok (.getfield 26, 3) := dk_180 0 26 (dk_at dksX1_kind_1 10 rfl rfl)
theorem dX1_kind_37 : decode cX1_kind 37 = .ok (.getfield 275, 3) := dk_180 1 19 (dk_at dksX1_kind_1 13 rfl rfl)
theorem dX1_kind_40 : decode cX1_kind 40 = .ok (.iload_n 1, 1) := dk_27 (dk_at dksX1_kind_1 16 rfl rfl)
theorem dX1_kind_41 : decode cX1_kind 41 = .ok (.iload_n 2, 1) := dk_28 (dk_at dksX1_kind_1 17 rfl rfl)
theorem dX1_kind_42 : decode cX1_kind 42 = .ok (.iastore, 1) := dk_79 (dk_at dksX1_kind_1 18 rfl rfl)
theorem dX1_kind_43 : decode cX1_kind 43 = .ok (.aload_n 0, 1) := dk_42 (dk_at dksX1_kind_1 19 rfl rfl)
theorem dX1_kind_44 : decode cX1_kind 44 = .ok (.iconst 0, 1) := dk_3 (dk_at dksX1_kind_1 20 rfl rfl)
theorem dX1_kind_45 : decode cX1_kind 45 = .ok (.putfield 223, 3) := dk_181 0 223 (dk_at dksX1_kind_1 21 rfl rfl)
theorem dX1_kind_48 : decode cX1_kind 48 = .ok (.iload_n 3, 1) := dk_29 (dk_at dksX1_kind_2 0 rfl rfl)
theorem dX1_kind_49 : decode cX1_kind 49 = .ok (.ireturn, 1) := dk_172 (dk_at dksX1_kind_2 1 rfl rfl)
abbrev cX1_plan : ByteArray := prog_1_method_21_code
def yX1_plan : MethodName := ⟨RX1, "plan", "(II)I"⟩
def dkwX1_plan_2 : List UInt8 := [180, 0, 26, 180, 1, 22, 27, 28, 79, 42, 3, 181, 0, 223, 29, 172]
abbrev dktX1_plan_2 : List UInt8 := dkwX1_plan_2 ++ []
def dkwX1_plan_1 : List UInt8 := [154, 0, 7, 4, 167, 0, 4, 3, 182, 0, 173, 42, 180, 0, 26, 180, 1, 22, 27, 46, 62, 42]
abbrev dktX1_plan_1 : List UInt8 := dkwX1_plan_1 ++ dktX1_plan_2
def dkwX1_plan_0 : List UInt8 := [42, 27, 3, 16, 23, 184, 0, 163, 153, 0, 18, 28, 3, 42, 180, 0, 12, 180, 0, 243, 184, 0, 163]
abbrev dktX1_plan_0 : List UInt8 := dkwX1_plan_0 ++ dktX1_plan_1
theorem dksX1_plan_0 : cX1_plan.data.toList.drop 0 = dktX1_plan_0 := by decide +kernel
theorem dksX1_plan_1 : cX1_plan.data.toList.drop 23 = dktX1_plan_1 := dk_seg dksX1_plan_0 23 rfl rfl
theorem dksX1_plan_2 : cX1_plan.data.toList.drop 45 = dktX1_plan_2 := dk_seg dksX1_plan_1 22 rfl rfl
theorem dX1_plan_0 : decode cX1_plan 0 = .ok (.aload_n 0, 1) := dk_42 (dk_at dksX1_plan_0 0 rfl rfl)
theorem dX1_plan_1 : decode cX1_plan 1 = .ok (.iload_n 1, 1) := dk_27 (dk_at dksX1_plan_0 1 rfl rfl)
theorem dX1_plan_2 : decode cX1_plan 2 = .ok (.iconst 0, 1) := dk_3 (dk_at dksX1_plan_0 2 rfl rfl)
theorem dX1_plan_3 : decode cX1_plan 3 = .ok (.bipush 23, 2) := dk_16 23 (dk_at dksX1_plan_0 3 rfl rfl)
theorem dX1_plan_5 : decode cX1_plan 5 = .ok (.invokestatic 163, 3) := dk_184 0 163 (dk_at dksX1_plan_0 5 rfl rfl)
theorem dX1_plan_8 : decode cX1_plan 8 = .ok (.ifCond .eq 18, 3) := dk_153 0 18 (dk_at dksX1_plan_0 8 rfl rfl)
theorem dX1_plan_11 : decode cX1_plan 11 = .ok (.iload_n 2, 1) := dk_28 (dk_at dksX1_plan_0 11 rfl rfl)
theorem dX1_plan_12 : decode cX1_plan 12 = .ok (.iconst 0, 1) := dk_3 (dk_at dksX1_plan_0 12 rfl rfl)
theorem dX1_plan_13 : decode cX1_plan 13 = .ok (.aload_n 0, 1) := dk_42 (dk_at dksX1_plan_0 13 rfl rfl)
theorem dX1_plan_14 : decode cX1_plan 14 = .ok (.getfield 12, 3) := dk_180 0 12 (dk_at dksX1_plan_0 14 rfl rfl)
theorem dX1_plan_17 : decode cX1_plan 17 = .ok (.getfield 243, 3) := dk_180 0 243 (dk_at dksX1_plan_0 17 rfl rfl)
theorem dX1_plan_20 : decode cX1_plan 20 = .ok (.invokestatic 163, 3) := dk_184 0 163 (dk_at dksX1_plan_0 20 rfl rfl)
theorem dX1_plan_23 : decode cX1_plan 23 = .ok (.ifCond .ne 7, 3) := dk_154 0 7 (dk_at dksX1_plan_1 0 rfl rfl)
theorem dX1_plan_26 : decode cX1_plan 26 = .ok (.iconst 1, 1) := dk_4 (dk_at dksX1_plan_1 3 rfl rfl)
theorem dX1_plan_27 : decode cX1_plan 27 = .ok (.goto 4, 3) := dk_167 0 4 (dk_at dksX1_plan_1 4 rfl rfl)
theorem dX1_plan_30 : decode cX1_plan 30 = .ok (.iconst 0, 1) := dk_3 (dk_at dksX1_plan_1 7 rfl rfl)
theorem dX1_plan_31 : decode cX1_plan 31 = .ok (.invokevirtual 173, 3) := dk_182 0 173 (dk_at dksX1_plan_1 8 rfl rfl)
theorem dX1_plan_34 : decode cX1_plan 34 = .ok (.aload_n 0, 1) := dk_42 (dk_at dksX1_plan_1 11 rfl rfl)
theorem dX1_plan_35 : decode cX1_plan 35 = .ok (.getfield 26, 3) := dk_180 0 26 (dk_at dksX1_plan_1 12 rfl rfl)
theorem dX1_plan_38 : decode cX1_plan 38 = .ok (.getfield 278, 3) := dk_180 1 22 (dk_at dksX1_plan_1 15 rfl rfl)
theorem dX1_plan_41 : decode cX1_plan 41 = .ok (.iload_n 1, 1) := dk_27 (dk_at dksX1_plan_1 18 rfl rfl)
theorem dX1_plan_42 : decode cX1_plan 42 = .ok (.iaload, 1) := dk_46 (dk_at dksX1_plan_1 19 rfl rfl)
theorem dX1_plan_43 : decode cX1_plan 43 = .ok (.istore_n 3, 1) := dk_62 (dk_at dksX1_plan_1 20 rfl rfl)
theorem dX1_plan_44 : decode cX1_plan 44 = .ok (.aload_n 0, 1) := dk_42 (dk_at dksX1_plan_1 21 rfl rfl)
theorem dX1_plan_45 : decode cX1_plan 45 = .ok (.getfield 26, 3) := dk_180 0 26 (dk_at dksX1_plan_2 0 rfl rfl)
theorem dX1_plan_48 : decode cX1_plan 48 = .ok (.getfield 278, 3) := dk_180 1 22 (dk_at dksX1_plan_2 3 rfl rfl)
theorem dX1_plan_51 : decode cX1_plan 51 = .ok (.iload_n 1, 1) := dk_27 (dk_at dksX1_plan_2 6 rfl rfl)
theorem dX1_plan_52 : decode cX1_plan 52 = .ok (.iload_n 2, 1) := dk_28 (dk_at dksX1_plan_2 7 rfl rfl)
theorem dX1_plan_53 : decode cX1_plan 53 = .ok (.iastore, 1) := dk_79 (dk_at dksX1_plan_2 8 rfl rfl)
theorem dX1_plan_54 : decode cX1_plan 54 = .ok (.aload_n 0, 1) := dk_42 (dk_at dksX1_plan_2 9 rfl rfl)
theorem dX1_plan_55 : decode cX1_plan 55 = .ok (.iconst 0, 1) := dk_3 (dk_at dksX1_plan_2 10 rfl rfl)
theorem dX1_plan_56 : decode cX1_plan 56 = .ok (.putfield 223, 3) := dk_181 0 223 (dk_at dksX1_plan_2 11 rfl rfl)
theorem dX1_plan_59 : decode cX1_plan 59 = .ok (.iload_n 3, 1) := dk_29 (dk_at dksX1_plan_2 14 rfl rfl)
theorem dX1_plan_60 : decode cX1_plan 60 = .ok (.ireturn, 1) := dk_172 (dk_at dksX1_plan_2 15 rfl rfl)
abbrev cX1_turn : ByteArray := prog_1_method_22_code
def yX1_turn : MethodName := ⟨RX1, "turn", "(II)I"⟩
def dkwX1_turn_2 : List UInt8 := [27, 28, 79, 42, 182, 0, 217, 29, 172]
abbrev dktX1_turn_2 : List UInt8 := dkwX1_turn_2 ++ []
def dkwX1_turn_1 : List UInt8 := [167, 0, 4, 3, 182, 0, 173, 42, 180, 0, 26, 180, 1, 25, 27, 46, 62, 42, 180, 0, 26, 180, 1, 25]
abbrev dktX1_turn_1 : List UInt8 := dkwX1_turn_1 ++ dktX1_turn_2
def dkwX1_turn_0 : List UInt8 := [28, 2, 159, 0, 8, 42, 28, 182, 1, 10, 42, 27, 3, 16, 23, 184, 0, 163, 154, 0, 7, 4]
abbrev dktX1_turn_0 : List UInt8 := dkwX1_turn_0 ++ dktX1_turn_1
theorem dksX1_turn_0 : cX1_turn.data.toList.drop 0 = dktX1_turn_0 := by decide +kernel
theorem dksX1_turn_1 : cX1_turn.data.toList.drop 22 = dktX1_turn_1 := dk_seg dksX1_turn_0 22 rfl rfl
theorem dksX1_turn_2 : cX1_turn.data.toList.drop 46 = dktX1_turn_2 := dk_seg dksX1_turn_1 24 rfl rfl
theorem dX1_turn_0 : decode cX1_turn 0 = .ok (.iload_n 2, 1) := dk_28 (dk_at dksX1_turn_0 0 rfl rfl)
theorem dX1_turn_1 : decode cX1_turn 1 = .ok (.iconst (-1), 1) := dk_2 (dk_at dksX1_turn_0 1 rfl rfl)
theorem dX1_turn_2 : decode cX1_turn 2 = .ok (.if_icmp .eq 8, 3) := dk_159 0 8 (dk_at dksX1_turn_0 2 rfl rfl)
theorem dX1_turn_5 : decode cX1_turn 5 = .ok (.aload_n 0, 1) := dk_42 (dk_at dksX1_turn_0 5 rfl rfl)
theorem dX1_turn_6 : decode cX1_turn 6 = .ok (.iload_n 2, 1) := dk_28 (dk_at dksX1_turn_0 6 rfl rfl)
theorem dX1_turn_7 : decode cX1_turn 7 = .ok (.invokevirtual 266, 3) := dk_182 1 10 (dk_at dksX1_turn_0 7 rfl rfl)
theorem dX1_turn_10 : decode cX1_turn 10 = .ok (.aload_n 0, 1) := dk_42 (dk_at dksX1_turn_0 10 rfl rfl)
theorem dX1_turn_11 : decode cX1_turn 11 = .ok (.iload_n 1, 1) := dk_27 (dk_at dksX1_turn_0 11 rfl rfl)
theorem dX1_turn_12 : decode cX1_turn 12 = .ok (.iconst 0, 1) := dk_3 (dk_at dksX1_turn_0 12 rfl rfl)
theorem dX1_turn_13 : decode cX1_turn 13 = .ok (.bipush 23, 2) := dk_16 23 (dk_at dksX1_turn_0 13 rfl rfl)
theorem dX1_turn_15 : decode cX1_turn 15 = .ok (.invokestatic 163, 3) := dk_184 0 163 (dk_at dksX1_turn_0 15 rfl rfl)
theorem dX1_turn_18 : decode cX1_turn 18 = .ok (.ifCond .ne 7, 3) := dk_154 0 7 (dk_at dksX1_turn_0 18 rfl rfl)
theorem dX1_turn_21 : decode cX1_turn 21 = .ok (.iconst 1, 1) := dk_4 (dk_at dksX1_turn_0 21 rfl rfl)
theorem dX1_turn_22 : decode cX1_turn 22 = .ok (.goto 4, 3) := dk_167 0 4 (dk_at dksX1_turn_1 0 rfl rfl)
theorem dX1_turn_25 : decode cX1_turn 25 = .ok (.iconst 0, 1) := dk_3 (dk_at dksX1_turn_1 3 rfl rfl)
theorem dX1_turn_26 : decode cX1_turn 26 = .ok (.invokevirtual 173, 3) := dk_182 0 173 (dk_at dksX1_turn_1 4 rfl rfl)
theorem dX1_turn_29 : decode cX1_turn 29 = .ok (.aload_n 0, 1) := dk_42 (dk_at dksX1_turn_1 7 rfl rfl)
theorem dX1_turn_30 : decode cX1_turn 30 = .ok (.getfield 26, 3) := dk_180 0 26 (dk_at dksX1_turn_1 8 rfl rfl)
theorem dX1_turn_33 : decode cX1_turn 33 = .ok (.getfield 281, 3) := dk_180 1 25 (dk_at dksX1_turn_1 11 rfl rfl)
theorem dX1_turn_36 : decode cX1_turn 36 = .ok (.iload_n 1, 1) := dk_27 (dk_at dksX1_turn_1 14 rfl rfl)
theorem dX1_turn_37 : decode cX1_turn 37 = .ok (.iaload, 1) := dk_46 (dk_at dksX1_turn_1 15 rfl rfl)
theorem dX1_turn_38 : decode cX1_turn 38 = .ok (.istore_n 3, 1) := dk_62 (dk_at dksX1_turn_1 16 rfl rfl)
theorem dX1_turn_39 : decode cX1_turn 39 = .ok (.aload_n 0, 1) := dk_42 (dk_at dksX1_turn_1 17 rfl rfl)
theorem dX1_turn_40 : decode cX1_turn 40 = .ok (.getfield 26, 3) := dk_180 0 26 (dk_at dksX1_turn_1 18 rfl rfl)
theorem dX1_turn_43 : decode cX1_turn 43 = .ok (.getfield 281, 3) := dk_180 1 25 (dk_at dksX1_turn_1 21 rfl rfl)
theorem dX1_turn_46 : decode cX1_turn 46 = .ok (.iload_n 1, 1) := dk_27 (dk_at dksX1_turn_2 0 rfl rfl)
theorem dX1_turn_47 : decode cX1_turn 47 = .ok (.iload_n 2, 1) := dk_28 (dk_at dksX1_turn_2 1 rfl rfl)
theorem dX1_turn_48 : decode cX1_turn 48 = .ok (.iastore, 1) := dk_79 (dk_at dksX1_turn_2 2 rfl rfl)
theorem dX1_turn_49 : decode cX1_turn 49 = .ok (.aload_n 0, 1) := dk_42 (dk_at dksX1_turn_2 3 rfl rfl)
theorem dX1_turn_50 : decode cX1_turn 50 = .ok (.invokevirtual 217, 3) := dk_182 0 217 (dk_at dksX1_turn_2 4 rfl rfl)
theorem dX1_turn_53 : decode cX1_turn 53 = .ok (.iload_n 3, 1) := dk_29 (dk_at dksX1_turn_2 7 rfl rfl)
theorem dX1_turn_54 : decode cX1_turn 54 = .ok (.ireturn, 1) := dk_172 (dk_at dksX1_turn_2 8 rfl rfl)
abbrev cX1_days : ByteArray := prog_1_method_23_code
def yX1_days : MethodName := ⟨RX1, "days", "(I)I"⟩
def dkwX1_days_1 : List UInt8 := [180, 1, 28, 61, 42, 180, 0, 26, 27, 181, 1, 28, 42, 182, 0, 217, 28, 172]
abbrev dktX1_days_1 : List UInt8 := dkwX1_days_1 ++ []
def dkwX1_days_0 : List UInt8 := [42, 27, 4, 16, 12, 184, 0, 163, 154, 0, 7, 4, 167, 0, 4, 3, 182, 0, 173, 42, 180, 0, 26]
abbrev dktX1_days_0 : List UInt8 := dkwX1_days_0 ++ dktX1_days_1
theorem dksX1_days_0 : cX1_days.data.toList.drop 0 = dktX1_days_0 := by decide +kernel
theorem dksX1_days_1 : cX1_days.data.toList.drop 23 = dktX1_days_1 := dk_seg dksX1_days_0 23 rfl rfl
theorem dX1_days_0 : decode cX1_days 0 = .ok (.aload_n 0, 1) := dk_42 (dk_at dksX1_days_0 0 rfl rfl)
theorem dX1_days_1 : decode cX1_days 1 = .ok (.iload_n 1, 1) := dk_27 (dk_at dksX1_days_0 1 rfl rfl)
theorem dX1_days_2 : decode cX1_days 2 = .ok (.iconst 1, 1) := dk_4 (dk_at dksX1_days_0 2 rfl rfl)
theorem dX1_days_3 : decode cX1_days 3 = .ok (.bipush 12, 2) := dk_16 12 (dk_at dksX1_days_0 3 rfl rfl)
theorem dX1_days_5 : decode cX1_days 5 = .ok (.invokestatic 163, 3) := dk_184 0 163 (dk_at dksX1_days_0 5 rfl rfl)
theorem dX1_days_8 : decode cX1_days 8 = .ok (.ifCond .ne 7, 3) := dk_154 0 7 (dk_at dksX1_days_0 8 rfl rfl)
theorem dX1_days_11 : decode cX1_days 11 = .ok (.iconst 1, 1) := dk_4 (dk_at dksX1_days_0 11 rfl rfl)
theorem dX1_days_12 : decode cX1_days 12 = .ok (.goto 4, 3) := dk_167 0 4 (dk_at dksX1_days_0 12 rfl rfl)
theorem dX1_days_15 : decode cX1_days 15 = .ok (.iconst 0, 1) := dk_3 (dk_at dksX1_days_0 15 rfl rfl)
theorem dX1_days_16 : decode cX1_days 16 = .ok (.invokevirtual 173, 3) := dk_182 0 173 (dk_at dksX1_days_0 16 rfl rfl)
theorem dX1_days_19 : decode cX1_days 19 = .ok (.aload_n 0, 1) := dk_42 (dk_at dksX1_days_0 19 rfl rfl)
theorem dX1_days_20 : decode cX1_days 20 = .ok (.getfield 26, 3) := dk_180 0 26 (dk_at dksX1_days_0 20 rfl rfl)
theorem dX1_days_23 : decode cX1_days 23 = .ok (.getfield 284, 3) := dk_180 1 28 (dk_at dksX1_days_1 0 rfl rfl)
theorem dX1_days_26 : decode cX1_days 26 = .ok (.istore_n 2, 1) := dk_61 (dk_at dksX1_days_1 3 rfl rfl)
theorem dX1_days_27 : decode cX1_days 27 = .ok (.aload_n 0, 1) := dk_42 (dk_at dksX1_days_1 4 rfl rfl)
theorem dX1_days_28 : decode cX1_days 28 = .ok (.getfield 26, 3) := dk_180 0 26 (dk_at dksX1_days_1 5 rfl rfl)
theorem dX1_days_31 : decode cX1_days 31 = .ok (.iload_n 1, 1) := dk_27 (dk_at dksX1_days_1 8 rfl rfl)
theorem dX1_days_32 : decode cX1_days 32 = .ok (.putfield 284, 3) := dk_181 1 28 (dk_at dksX1_days_1 9 rfl rfl)
theorem dX1_days_35 : decode cX1_days 35 = .ok (.aload_n 0, 1) := dk_42 (dk_at dksX1_days_1 12 rfl rfl)
theorem dX1_days_36 : decode cX1_days 36 = .ok (.invokevirtual 217, 3) := dk_182 0 217 (dk_at dksX1_days_1 13 rfl rfl)
theorem dX1_days_39 : decode cX1_days 39 = .ok (.iload_n 2, 1) := dk_28 (dk_at dksX1_days_1 16 rfl rfl)
theorem dX1_days_40 : decode cX1_days 40 = .ok (.ireturn, 1) := dk_172 (dk_at dksX1_days_1 17 rfl rfl)
abbrev cX1_whose : ByteArray := prog_1_method_25_code
def yX1_whose : MethodName := ⟨RX1, "whose", "(I)I"⟩
def dkwX1_whose_1 : List UInt8 := [27, 182, 1, 34, 172]
abbrev dktX1_whose_1 : List UInt8 := dkwX1_whose_1 ++ []
def dkwX1_whose_0 : List UInt8 := [42, 182, 1, 31, 42, 27, 3, 16, 23, 184, 0, 163, 154, 0, 7, 4, 167, 0, 4, 3, 182, 0, 173, 42]
abbrev dktX1_whose_0 : List UInt8 := dkwX1_whose_0 ++ dktX1_whose_1
theorem dksX1_whose_0 : cX1_whose.data.toList.drop 0 = dktX1_whose_0 := by decide +kernel
theorem dksX1_whose_1 : cX1_whose.data.toList.drop 24 = dktX1_whose_1 := dk_seg dksX1_whose_0 24 rfl rfl
theorem dX1_whose_0 : decode cX1_whose 0 = .ok (.aload_n 0, 1) := dk_42 (dk_at dksX1_whose_0 0 rfl rfl)
theorem dX1_whose_1 : decode cX1_whose 1 = .ok (.invokevirtual 287, 3) := dk_182 1 31 (dk_at dksX1_whose_0 1 rfl rfl)
theorem dX1_whose_4 : decode cX1_whose 4 = .ok (.aload_n 0, 1) := dk_42 (dk_at dksX1_whose_0 4 rfl rfl)
theorem dX1_whose_5 : decode cX1_whose 5 = .ok (.iload_n 1, 1) := dk_27 (dk_at dksX1_whose_0 5 rfl rfl)
theorem dX1_whose_6 : decode cX1_whose 6 = .ok (.iconst 0, 1) := dk_3 (dk_at dksX1_whose_0 6 rfl rfl)
theorem dX1_whose_7 : decode cX1_whose 7 = .ok (.bipush 23, 2) := dk_16 23 (dk_at dksX1_whose_0 7 rfl rfl)
theorem dX1_whose_9 : decode cX1_whose 9 = .ok (.invokestatic 163, 3) := dk_184 0 163 (dk_at dksX1_whose_0 9 rfl rfl)
theorem dX1_whose_12 : decode cX1_whose 12 = .ok (.ifCond .ne 7, 3) := dk_154 0 7 (dk_at dksX1_whose_0 12 rfl rfl)
theorem dX1_whose_15 : decode cX1_whose 15 = .ok (.iconst 1, 1) := dk_4 (dk_at dksX1_whose_0 15 rfl rfl)
theorem dX1_whose_16 : decode cX1_whose 16 = .ok (.goto 4, 3) := dk_167 0 4 (dk_at dksX1_whose_0 16 rfl rfl)
theorem dX1_whose_19 : decode cX1_whose 19 = .ok (.iconst 0, 1) := dk_3 (dk_at dksX1_whose_0 19 rfl rfl)
theorem dX1_whose_20 : decode cX1_whose 20 = .ok (.invokevirtual 173, 3) := dk_182 0 173 (dk_at dksX1_whose_0 20 rfl rfl)
theorem dX1_whose_23 : decode cX1_whose 23 = .ok (.aload_n 0, 1) := dk_42 (dk_at dksX1_whose_0 23 rfl rfl)
theorem dX1_whose_24 : decode cX1_whose 24 = .ok (.iload_n 1, 1) := dk_27 (dk_at dksX1_whose_1 0 rfl rfl)
theorem dX1_whose_25 : decode cX1_whose 25 = .ok (.invokevirtual 290, 3) := dk_182 1 34 (dk_at dksX1_whose_1 1 rfl rfl)
theorem dX1_whose_28 : decode cX1_whose 28 = .ok (.ireturn, 1) := dk_172 (dk_at dksX1_whose_1 4 rfl rfl)
abbrev cX1_mustLand : ByteArray := prog_1_method_6_code
def yX1_mustLand : MethodName := ⟨RX1, "mustLand", "()V"⟩
def dkwX1_mustLand_1 : List UInt8 := [183, 0, 159, 191]
abbrev dktX1_mustLand_1 : List UInt8 := dkwX1_mustLand_1 ++ []
def dkwX1_mustLand_0 : List UInt8 := [42, 180, 0, 153, 153, 0, 4, 177, 42, 180, 0, 33, 6, 92, 46, 4, 96, 79, 187, 0, 157, 89]
abbrev dktX1_mustLand_0 : List UInt8 := dkwX1_mustLand_0 ++ dktX1_mustLand_1
theorem dksX1_mustLand_0 : cX1_mustLand.data.toList.drop 0 = dktX1_mustLand_0 := by decide +kernel
theorem dksX1_mustLand_1 : cX1_mustLand.data.toList.drop 22 = dktX1_mustLand_1 := dk_seg dksX1_mustLand_0 22 rfl rfl
theorem dX1_mustLand_0 : decode cX1_mustLand 0 = .ok (.aload_n 0, 1) := dk_42 (dk_at dksX1_mustLand_0 0 rfl rfl)
theorem dX1_mustLand_1 : decode cX1_mustLand 1 = .ok (.getfield 153, 3) := dk_180 0 153 (dk_at dksX1_mustLand_0 1 rfl rfl)
theorem dX1_mustLand_4 : decode cX1_mustLand 4 = .ok (.ifCond .eq 4, 3) := dk_153 0 4 (dk_at dksX1_mustLand_0 4 rfl rfl)
theorem dX1_mustLand_7 : decode cX1_mustLand 7 = .ok (.return_, 1) := dk_177 (dk_at dksX1_mustLand_0 7 rfl rfl)
theorem dX1_mustLand_8 : decode cX1_mustLand 8 = .ok (.aload_n 0, 1) := dk_42 (dk_at dksX1_mustLand_0 8 rfl rfl)
theorem dX1_mustLand_9 : decode cX1_mustLand 9 = .ok (.getfield 33, 3) := dk_180 0 33 (dk_at dksX1_mustLand_0 9 rfl rfl)
theorem dX1_mustLand_12 : decode cX1_mustLand 12 = .ok (.iconst 3, 1) := dk_6 (dk_at dksX1_mustLand_0 12 rfl rfl)
theorem dX1_mustLand_13 : decode cX1_mustLand 13 = .ok (.dup2, 1) := dk_92 (dk_at dksX1_mustLand_0 13 rfl rfl)
theorem dX1_mustLand_14 : decode cX1_mustLand 14 = .ok (.iaload, 1) := dk_46 (dk_at dksX1_mustLand_0 14 rfl rfl)
theorem dX1_mustLand_15 : decode cX1_mustLand 15 = .ok (.iconst 1, 1) := dk_4 (dk_at dksX1_mustLand_0 15 rfl rfl)
theorem dX1_mustLand_16 : decode cX1_mustLand 16 = .ok (.iadd, 1) := dk_96 (dk_at dksX1_mustLand_0 16 rfl rfl)
theorem dX1_mustLand_17 : decode cX1_mustLand 17 = .ok (.iastore, 1) := dk_79 (dk_at dksX1_mustLand_0 17 rfl rfl)
theorem dX1_mustLand_18 : decode cX1_mustLand 18 = .ok (.new 157, 3) := dk_187 0 157 (dk_at dksX1_mustLand_0 18 rfl rfl)
theorem dX1_mustLand_21 : decode cX1_mustLand 21 = .ok (.dup, 1) := dk_89 (dk_at dksX1_mustLand_0 21 rfl rfl)
theorem dX1_mustLand_22 : decode cX1_mustLand 22 = .ok (.invokespecial 159, 3) := dk_183 0 159 (dk_at dksX1_mustLand_1 0 rfl rfl)
theorem dX1_mustLand_25 : decode cX1_mustLand 25 = .ok (.athrow, 1) := dk_191 (dk_at dksX1_mustLand_1 3 rfl rfl)
abbrev cX1_leaderOf : ByteArray := prog_1_method_24_code
def yX1_leaderOf : MethodName := ⟨RX1, "leaderOf", "(I)I"⟩
def dkwX1_leaderOf_2 : List UInt8 := [46, 172]
abbrev dktX1_leaderOf_2 : List UInt8 := dkwX1_leaderOf_2 ++ []
def dkwX1_leaderOf_1 : List UInt8 := [167, 0, 25, 42, 180, 0, 51, 27, 42, 180, 0, 26, 180, 1, 28, 108, 42, 180, 0, 12, 180, 0, 160, 112]
abbrev dktX1_leaderOf_1 : List UInt8 := dkwX1_leaderOf_1 ++ dktX1_leaderOf_2
def dkwX1_leaderOf_0 : List UInt8 := [42, 180, 0, 26, 180, 1, 25, 27, 46, 2, 159, 0, 15, 42, 180, 0, 26, 180, 1, 25, 27, 46]
abbrev dktX1_leaderOf_0 : List UInt8 := dkwX1_leaderOf_0 ++ dktX1_leaderOf_1
theorem dksX1_leaderOf_0 : cX1_leaderOf.data.toList.drop 0 = dktX1_leaderOf_0 := by decide +kernel
theorem dksX1_leaderOf_1 : cX1_leaderOf.data.toList.drop 22 = dktX1_leaderOf_1 := dk_seg dksX1_leaderOf_0 22 rfl rfl
theorem dksX1_leaderOf_2 : cX1_leaderOf.data.toList.drop 46 = dktX1_leaderOf_2 := dk_seg dksX1_leaderOf_1 24 rfl rfl
theorem dX1_leaderOf_0 : decode cX1_leaderOf 0 = .ok (.aload_n 0, 1) := dk_42 (dk_at dksX1_leaderOf_0 0 rfl rfl)
theorem dX1_leaderOf_1 : decode cX1_leaderOf 1 = .ok (.getfield 26, 3) := dk_180 0 26 (dk_at dksX1_leaderOf_0 1 rfl rfl)
theorem dX1_leaderOf_4 : decode cX1_leaderOf 4 = .ok (.getfield 281, 3) := dk_180 1 25 (dk_at dksX1_leaderOf_0 4 rfl rfl)
theorem dX1_leaderOf_7 : decode cX1_leaderOf 7 = .ok (.iload_n 1, 1) := dk_27 (dk_at dksX1_leaderOf_0 7 rfl rfl)
theorem dX1_leaderOf_8 : decode cX1_leaderOf 8 = .ok (.iaload, 1) := dk_46 (dk_at dksX1_leaderOf_0 8 rfl rfl)
theorem dX1_leaderOf_9 : decode cX1_leaderOf 9 = .ok (.iconst (-1), 1) := dk_2 (dk_at dksX1_leaderOf_0 9 rfl rfl)
theorem dX1_leaderOf_10 : decode cX1_leaderOf 10 = .ok (.if_icmp .eq 15, 3) := dk_159 0 15 (dk_at dksX1_leaderOf_0 10 rfl rfl)
theorem dX1_leaderOf_13 : decode cX1_leaderOf 13 = .ok (.aload_n 0, 1) := dk_42 (dk_at dksX1_leaderOf_0 13 rfl rfl)
theorem dX1_leaderOf_14 : decode cX1_leaderOf 14 = .ok (.getfield 26, 3) := dk_180 0 26 (dk_at dksX1_leaderOf_0 14 rfl rfl)
theorem dX1_leaderOf_17 : decode cX1_leaderOf 17 = .ok (.getfield 281, 3) := dk_180 1 25 (dk_at dksX1_leaderOf_0 17 rfl rfl)
theorem dX1_leaderOf_20 : decode cX1_leaderOf 20 = .ok (.iload_n 1, 1) := dk_27 (dk_at dksX1_leaderOf_0 20 rfl rfl)
theorem dX1_leaderOf_21 : decode cX1_leaderOf 21 = .ok (.iaload, 1) := dk_46 (dk_at dksX1_leaderOf_0 21 rfl rfl)
theorem dX1_leaderOf_22 : decode cX1_leaderOf 22 = .ok (.goto 25, 3) := dk_167 0 25 (dk_at dksX1_leaderOf_1 0 rfl rfl)
theorem dX1_leaderOf_25 : decode cX1_leaderOf 25 = .ok (.aload_n 0, 1) := dk_42 (dk_at dksX1_leaderOf_1 3 rfl rfl)
theorem dX1_leaderOf_26 : decode cX1_leaderOf 26 = .ok (.getfield 51, 3) := dk_180 0 51 (dk_at dksX1_leaderOf_1 4 rfl rfl)
theorem dX1_leaderOf_29 : decode cX1_leaderOf 29 = .ok (.iload_n 1, 1) := dk_27 (dk_at dksX1_leaderOf_1 7 rfl rfl)
theorem dX1_leaderOf_30 : decode cX1_leaderOf 30 = .ok (.aload_n 0, 1) := dk_42 (dk_at dksX1_leaderOf_1 8 rfl rfl)
theorem dX1_leaderOf_31 : decode cX1_leaderOf 31 = .ok (.getfield 26, 3) := dk_180 0 26 (dk_at dksX1_leaderOf_1 9 rfl rfl)
theorem dX1_leaderOf_34 : decode cX1_leaderOf 34 = .ok (.getfield 284, 3) := dk_180 1 28 (dk_at dksX1_leaderOf_1 12 rfl rfl)
theorem dX1_leaderOf_37 : decode cX1_leaderOf 37 = .ok (.idiv, 1) := dk_108 (dk_at dksX1_leaderOf_1 15 rfl rfl)
theorem dX1_leaderOf_38 : decode cX1_leaderOf 38 = .ok (.aload_n 0, 1) := dk_42 (dk_at dksX1_leaderOf_1 16 rfl rfl)
theorem dX1_leaderOf_39 : decode cX1_leaderOf 39 = .ok (.getfield 12, 3) := dk_180 0 12 (dk_at dksX1_leaderOf_1 17 rfl rfl)
theorem dX1_leaderOf_42 : decode cX1_leaderOf 42 = .ok (.getfield 160, 3) := dk_180 0 160 (dk_at dksX1_leaderOf_1 20 rfl rfl)
theorem dX1_leaderOf_45 : decode cX1_leaderOf 45 = .ok (.irem, 1) := dk_112 (dk_at dksX1_leaderOf_1 23 rfl rfl)
theorem dX1_leaderOf_46 : decode cX1_leaderOf 46 = .ok (.iaload, 1) := dk_46 (dk_at dksX1_leaderOf_2 0 rfl rfl)
theorem dX1_leaderOf_47 : decode cX1_leaderOf 47 = .ok (.ireturn, 1) := dk_172 (dk_at dksX1_leaderOf_2 1 rfl rfl)
abbrev cX1_next : ByteArray := prog_1_method_38_code
def yX1_next : MethodName := ⟨RX1, "next", "(III)I"⟩
def dkwX1_next_1 : List UInt8 := [28, 182, 1, 34, 21, 4, 182, 1, 111, 167, 0, 4, 3, 172]
abbrev dktX1_next_1 : List UInt8 := dkwX1_next_1 ++ []
def dkwX1_next_0 : List UInt8 := [42, 27, 28, 29, 182, 1, 105, 54, 4, 42, 182, 1, 108, 42, 21, 4, 182, 1, 93, 154, 0, 17, 42, 42]
abbrev dktX1_next_0 : List UInt8 := dkwX1_next_0 ++ dktX1_next_1
theorem dksX1_next_0 : cX1_next.data.toList.drop 0 = dktX1_next_0 := by decide +kernel
theorem dksX1_next_1 : cX1_next.data.toList.drop 24 = dktX1_next_1 := dk_seg dksX1_next_0 24 rfl rfl
theorem dX1_next_0 : decode cX1_next 0 = .ok (.aload_n 0, 1) := dk_42 (dk_at dksX1_next_0 0 rfl rfl)
theorem dX1_next_1 : decode cX1_next 1 = .ok (.iload_n 1, 1) := dk_27 (dk_at dksX1_next_0 1 rfl rfl)
theorem dX1_next_2 : decode cX1_next 2 = .ok (.iload_n 2, 1) := dk_28 (dk_at dksX1_next_0 2 rfl rfl)
theorem dX1_next_3 : decode cX1_next 3 = .ok (.iload_n 3, 1) := dk_29 (dk_at dksX1_next_0 3 rfl rfl)
theorem dX1_next_4 : decode cX1_next 4 = .ok (.invokevirtual 361, 3) := dk_182 1 105 (dk_at dksX1_next_0 4 rfl rfl)
theorem dX1_next_7 : decode cX1_next 7 = .ok (.istore 4, 2) := dk_54 4 (dk_at dksX1_next_0 7 rfl rfl)
theorem dX1_next_9 : decode cX1_next 9 = .ok (.aload_n 0, 1) := dk_42 (dk_at dksX1_next_0 9 rfl rfl)
theorem dX1_next_10 : decode cX1_next 10 = .ok (.invokevirtual 364, 3) := dk_182 1 108 (dk_at dksX1_next_0 10 rfl rfl)
theorem dX1_next_13 : decode cX1_next 13 = .ok (.aload_n 0, 1) := dk_42 (dk_at dksX1_next_0 13 rfl rfl)
theorem dX1_next_14 : decode cX1_next 14 = .ok (.iload 4, 2) := dk_21 4 (dk_at dksX1_next_0 14 rfl rfl)
theorem dX1_next_16 : decode cX1_next 16 = .ok (.invokevirtual 349, 3) := dk_182 1 93 (dk_at dksX1_next_0 16 rfl rfl)
theorem dX1_next_19 : decode cX1_next 19 = .ok (.ifCond .ne 17, 3) := dk_154 0 17 (dk_at dksX1_next_0 19 rfl rfl)
theorem dX1_next_22 : decode cX1_next 22 = .ok (.aload_n 0, 1) := dk_42 (dk_at dksX1_next_0 22 rfl rfl)
theorem dX1_next_23 : decode cX1_next 23 = .ok (.aload_n 0, 1) := dk_42 (dk_at dksX1_next_0 23 rfl rfl)
theorem dX1_next_24 : decode cX1_next 24 = .ok (.iload_n 2, 1) := dk_28 (dk_at dksX1_next_1 0 rfl rfl)
theorem dX1_next_25 : decode cX1_next 25 = .ok (.invokevirtual 290, 3) := dk_182 1 34 (dk_at dksX1_next_1 1 rfl rfl)
theorem dX1_next_28 : decode cX1_next 28 = .ok (.iload 4, 2) := dk_21 4 (dk_at dksX1_next_1 4 rfl rfl)
theorem dX1_next_30 : decode cX1_next 30 = .ok (.invokevirtual 367, 3) := dk_182 1 111 (dk_at dksX1_next_1 6 rfl rfl)
theorem dX1_next_33 : decode cX1_next 33 = .ok (.goto 4, 3) := dk_167 0 4 (dk_at dksX1_next_1 9 rfl rfl)
theorem dX1_next_36 : decode cX1_next 36 = .ok (.iconst 0, 1) := dk_3 (dk_at dksX1_next_1 12 rfl rfl)
theorem dX1_next_37 : decode cX1_next 37 = .ok (.ireturn, 1) := dk_172 (dk_at dksX1_next_1 13 rfl rfl)
abbrev cX1_stateAt : ByteArray := prog_1_method_33_code
def yX1_stateAt : MethodName := ⟨RX1, "stateAt", "(III)I"⟩
def dkwX1_stateAt_2 : List UInt8 := [184, 0, 163, 154, 0, 7, 4, 167, 0, 4, 3, 182, 0, 173, 27, 28, 29, 184, 1, 37, 172]
abbrev dktX1_stateAt_2 : List UInt8 := dkwX1_stateAt_2 ++ []
def dkwX1_stateAt_1 : List UInt8 := [42, 180, 0, 12, 180, 0, 237, 184, 0, 163, 153, 0, 18, 29, 3, 42, 180, 0, 12, 180, 0, 246]
abbrev dktX1_stateAt_1 : List UInt8 := dkwX1_stateAt_1 ++ dktX1_stateAt_2
def dkwX1_stateAt_0 : List UInt8 := [42, 182, 1, 31, 42, 27, 3, 42, 180, 0, 12, 180, 0, 208, 4, 100, 184, 0, 163, 153, 0, 33, 28, 3]
abbrev dktX1_stateAt_0 : List UInt8 := dkwX1_stateAt_0 ++ dktX1_stateAt_1
theorem dksX1_stateAt_0 : cX1_stateAt.data.toList.drop 0 = dktX1_stateAt_0 := by decide +kernel
theorem dksX1_stateAt_1 : cX1_stateAt.data.toList.drop 24 = dktX1_stateAt_1 := dk_seg dksX1_stateAt_0 24 rfl rfl
theorem dksX1_stateAt_2 : cX1_stateAt.data.toList.drop 46 = dktX1_stateAt_2 := dk_seg dksX1_stateAt_1 22 rfl rfl
theorem dX1_stateAt_0 : decode cX1_stateAt 0 = .ok (.aload_n 0, 1) := dk_42 (dk_at dksX1_stateAt_0 0 rfl rfl)
theorem dX1_stateAt_1 : decode cX1_stateAt 1 = .ok (.invokevirtual 287, 3) := dk_182 1 31 (dk_at dksX1_stateAt_0 1 rfl rfl)
theorem dX1_stateAt_4 : decode cX1_stateAt 4 = .ok (.aload_n 0, 1) := dk_42 (dk_at dksX1_stateAt_0 4 rfl rfl)
theorem dX1_stateAt_5 : decode cX1_stateAt 5 = .ok (.iload_n 1, 1) := dk_27 (dk_at dksX1_stateAt_0 5 rfl rfl)
theorem dX1_stateAt_6 : decode cX1_stateAt 6 = .ok (.iconst 0, 1) := dk_3 (dk_at dksX1_stateAt_0 6 rfl rfl)
theorem dX1_stateAt_7 : decode cX1_stateAt 7 = .ok (.aload_n 0, 1) := dk_42 (dk_at dksX1_stateAt_0 7 rfl rfl)
theorem dX1_stateAt_8 : decode cX1_stateAt 8 = .ok (.getfield 12, 3) := dk_180 0 12 (dk_at dksX1_stateAt_0 8 rfl rfl)
theorem dX1_stateAt_11 : decode cX1_stateAt 11 = .ok (.getfield 208, 3) := dk_180 0 208 (dk_at dksX1_stateAt_0 11 rfl rfl)
theorem dX1_stateAt_14 : decode cX1_stateAt 14 = .ok (.iconst 1, 1) := dk_4 (dk_at dksX1_stateAt_0 14 rfl rfl)
theorem dX1_stateAt_15 : decode cX1_stateAt 15 = .ok (.isub, 1) := dk_100 (dk_at dksX1_stateAt_0 15 rfl rfl)
theorem dX1_stateAt_16 : decode cX1_stateAt 16 = .ok (.invokestatic 163, 3) := dk_184 0 163 (dk_at dksX1_stateAt_0 16 rfl rfl)
theorem dX1_stateAt_19 : decode cX1_stateAt 19 = .ok (.ifCond .eq 33, 3) := dk_153 0 33 (dk_at dksX1_stateAt_0 19 rfl rfl)
theorem dX1_stateAt_22 : decode cX1_stateAt 22 = .ok (.iload_n 2, 1) := dk_28 (dk_at dksX1_stateAt_0 22 rfl rfl)
theorem dX1_stateAt_23 : decode cX1_stateAt 23 = .ok (.iconst 0, 1) := dk_3 (dk_at dksX1_stateAt_0 23 rfl rfl)
theorem dX1_stateAt_24 : decode cX1_stateAt 24 = .ok (.aload_n 0, 1) := dk_42 (dk_at dksX1_stateAt_1 0 rfl rfl)
theorem dX1_stateAt_25 : decode cX1_stateAt 25 = .ok (.getfield 12, 3) := dk_180 0 12 (dk_at dksX1_stateAt_1 1 rfl rfl)
theorem dX1_stateAt_28 : decode cX1_stateAt 28 = .ok (.getfield 237, 3) := dk_180 0 237 (dk_at dksX1_stateAt_1 4 rfl rfl)
theorem dX1_stateAt_31 : decode cX1_stateAt 31 = .ok (.invokestatic 163, 3) := dk_184 0 163 (dk_at dksX1_stateAt_1 7 rfl rfl)
theorem dX1_stateAt_34 : decode cX1_stateAt 34 = .ok (.ifCond .eq 18, 3) := dk_153 0 18 (dk_at dksX1_stateAt_1 10 rfl rfl)
theorem dX1_stateAt_37 : decode cX1_stateAt 37 = .ok (.iload_n 3, 1) := dk_29 (dk_at dksX1_stateAt_1 13 rfl rfl)
theorem dX1_stateAt_38 : decode cX1_stateAt 38 = .ok (.iconst 0, 1) := dk_3 (dk_at dksX1_stateAt_1 14 rfl rfl)
theorem dX1_stateAt_39 : decode cX1_stateAt 39 = .ok (.aload_n 0, 1) := dk_42 (dk_at dksX1_stateAt_1 15 rfl rfl)
theorem dX1_stateAt_40 : decode cX1_stateAt 40 = .ok (.getfield 12, 3) := dk_180 0 12 (dk_at dksX1_stateAt_1 16 rfl rfl)
theorem dX1_stateAt_43 : decode cX1_stateAt 43 = .ok (.getfield 246, 3) := dk_180 0 246 (dk_at dksX1_stateAt_1 19 rfl rfl)
theorem dX1_stateAt_46 : decode cX1_stateAt 46 = .ok (.invokestatic 163, 3) := dk_184 0 163 (dk_at dksX1_stateAt_2 0 rfl rfl)
theorem dX1_stateAt_49 : decode cX1_stateAt 49 = .ok (.ifCond .ne 7, 3) := dk_154 0 7 (dk_at dksX1_stateAt_2 3 rfl rfl)
theorem dX1_stateAt_52 : decode cX1_stateAt 52 = .ok (.iconst 1, 1) := dk_4 (dk_at dksX1_stateAt_2 6 rfl rfl)
theorem dX1_stateAt_53 : decode cX1_stateAt 53 = .ok (.goto 4, 3) := dk_167 0 4 (dk_at dksX1_stateAt_2 7 rfl rfl)
theorem dX1_stateAt_56 : decode cX1_stateAt 56 = .ok (.iconst 0, 1) := dk_3 (dk_at dksX1_stateAt_2 10 rfl rfl)
theorem dX1_stateAt_57 : decode cX1_stateAt 57 = .ok (.invokevirtual 173, 3) := dk_182 0 173 (dk_at dksX1_stateAt_2 11 rfl rfl)
theorem dX1_stateAt_60 : decode cX1_stateAt 60 = .ok (.iload_n 1, 1) := dk_27 (dk_at dksX1_stateAt_2 14 rfl rfl)
theorem dX1_stateAt_61 : decode cX1_stateAt 61 = .ok (.iload_n 2, 1) := dk_28 (dk_at dksX1_stateAt_2 15 rfl rfl)
theorem dX1_stateAt_62 : decode cX1_stateAt 62 = .ok (.iload_n 3, 1) := dk_29 (dk_at dksX1_stateAt_2 16 rfl rfl)
theorem dX1_stateAt_63 : decode cX1_stateAt 63 = .ok (.invokestatic 293, 3) := dk_184 1 37 (dk_at dksX1_stateAt_2 17 rfl rfl)
theorem dX1_stateAt_66 : decode cX1_stateAt 66 = .ok (.ireturn, 1) := dk_172 (dk_at dksX1_stateAt_2 20 rfl rfl)
abbrev cX1_state : ByteArray := prog_1_method_26_code
def yX1_state : MethodName := ⟨RX1, "state", "(III)I"⟩
def dkwX1_state_0 : List UInt8 := [27, 16, 13, 104, 28, 96, 16, 12, 104, 26, 96, 172]
abbrev dktX1_state_0 : List UInt8 := dkwX1_state_0 ++ []
theorem dksX1_state_0 : cX1_state.data.toList.drop 0 = dktX1_state_0 := by decide +kernel
theorem dX1_state_0 : decode cX1_state 0 = .ok (.iload_n 1, 1) := dk_27 (dk_at dksX1_state_0 0 rfl rfl)
theorem dX1_state_1 : decode cX1_state 1 = .ok (.bipush 13, 2) := dk_16 13 (dk_at dksX1_state_0 1 rfl rfl)
theorem dX1_state_3 : decode cX1_state 3 = .ok (.imul, 1) := dk_104 (dk_at dksX1_state_0 3 rfl rfl)
theorem dX1_state_4 : decode cX1_state 4 = .ok (.iload_n 2, 1) := dk_28 (dk_at dksX1_state_0 4 rfl rfl)
theorem dX1_state_5 : decode cX1_state 5 = .ok (.iadd, 1) := dk_96 (dk_at dksX1_state_0 5 rfl rfl)
theorem dX1_state_6 : decode cX1_state 6 = .ok (.bipush 12, 2) := dk_16 12 (dk_at dksX1_state_0 6 rfl rfl)
theorem dX1_state_8 : decode cX1_state 8 = .ok (.imul, 1) := dk_104 (dk_at dksX1_state_0 8 rfl rfl)
theorem dX1_state_9 : decode cX1_state 9 = .ok (.iload_n 0, 1) := dk_26 (dk_at dksX1_state_0 9 rfl rfl)
theorem dX1_state_10 : decode cX1_state 10 = .ok (.iadd, 1) := dk_96 (dk_at dksX1_state_0 10 rfl rfl)
theorem dX1_state_11 : decode cX1_state 11 = .ok (.ireturn, 1) := dk_172 (dk_at dksX1_state_0 11 rfl rfl)
abbrev cX1_findLaw : ByteArray := prog_1_method_36_code
def yX1_findLaw : MethodName := ⟨RX1, "findLaw", "()V"⟩
def dkwX1_findLaw_7 : List UInt8 := [167, 255, 166, 132, 1, 255, 167, 255, 102, 42, 4, 181, 0, 211, 177]
abbrev dktX1_findLaw_7 : List UInt8 := dkwX1_findLaw_7 ++ []
def dkwX1_findLaw_6 : List UInt8 := [21, 4, 21, 5, 182, 1, 96, 132, 5, 1, 167, 255, 213, 132, 3, 1, 167, 255, 185, 132, 2, 1]
abbrev dktX1_findLaw_6 : List UInt8 := dkwX1_findLaw_6 ++ dktX1_findLaw_7
def dkwX1_findLaw_5 : List UInt8 := [162, 0, 37, 42, 180, 0, 108, 21, 5, 50, 21, 4, 3, 79, 42, 21, 4, 182, 1, 93, 154, 0, 11, 42]
abbrev dktX1_findLaw_5 : List UInt8 := dkwX1_findLaw_5 ++ dktX1_findLaw_6
def dkwX1_findLaw_4 : List UInt8 := [162, 0, 66, 29, 27, 28, 184, 1, 37, 54, 4, 3, 54, 5, 21, 5, 42, 180, 0, 12, 180, 0, 160]
abbrev dktX1_findLaw_4 : List UInt8 := dkwX1_findLaw_4 ++ dktX1_findLaw_5
def dkwX1_findLaw_3 : List UInt8 := [3, 61, 28, 42, 180, 0, 12, 180, 0, 246, 163, 0, 85, 3, 62, 29, 42, 180, 0, 12, 180, 0, 208]
abbrev dktX1_findLaw_3 : List UInt8 := dkwX1_findLaw_3 ++ dktX1_findLaw_4
def dkwX1_findLaw_2 : List UInt8 := [20, 1, 91, 42, 180, 0, 57, 27, 4, 96, 47, 105, 167, 0, 11, 42, 180, 0, 57, 27, 4, 96, 47, 80]
abbrev dktX1_findLaw_2 : List UInt8 := dkwX1_findLaw_2 ++ dktX1_findLaw_3
def dkwX1_findLaw_1 : List UInt8 := [27, 27, 42, 180, 0, 12, 180, 0, 237, 160, 0, 7, 10, 167, 0, 34, 42, 27, 182, 1, 87, 153, 0, 18]
abbrev dktX1_findLaw_1 : List UInt8 := dkwX1_findLaw_1 ++ dktX1_findLaw_2
def dkwX1_findLaw_0 : List UInt8 := [42, 180, 0, 211, 153, 0, 4, 177, 42, 180, 0, 12, 180, 0, 237, 60, 27, 155, 0, 156, 42, 180, 0, 57]
abbrev dktX1_findLaw_0 : List UInt8 := dkwX1_findLaw_0 ++ dktX1_findLaw_1
theorem dksX1_findLaw_0 : cX1_findLaw.data.toList.drop 0 = dktX1_findLaw_0 := by decide +kernel
theorem dksX1_findLaw_1 : cX1_findLaw.data.toList.drop 24 = dktX1_findLaw_1 := dk_seg dksX1_findLaw_0 24 rfl rfl
theorem dksX1_findLaw_2 : cX1_findLaw.data.toList.drop 48 = dktX1_findLaw_2 := dk_seg dksX1_findLaw_1 24 rfl rfl
theorem dksX1_findLaw_3 : cX1_findLaw.data.toList.drop 72 = dktX1_findLaw_3 := dk_seg dksX1_findLaw_2 24 rfl rfl
theorem dksX1_findLaw_4 : cX1_findLaw.data.toList.drop 95 = dktX1_findLaw_4 := dk_seg dksX1_findLaw_3 23 rfl rfl
theorem dksX1_findLaw_5 : cX1_findLaw.data.toList.drop 118 = dktX1_findLaw_5 := dk_seg dksX1_findLaw_4 23 rfl rfl
theorem dksX1_findLaw_6 : cX1_findLaw.data.toList.drop 142 = dktX1_findLaw_6 := dk_seg dksX1_findLaw_5 24 rfl rfl
theorem dksX1_findLaw_7 : cX1_findLaw.data.toList.drop 164 = dktX1_findLaw_7 := dk_seg dksX1_findLaw_6 22 rfl rfl
theorem dX1_findLaw_0 : decode cX1_findLaw 0 = .ok (.aload_n 0, 1) := dk_42 (dk_at dksX1_findLaw_0 0 rfl rfl)
theorem dX1_findLaw_1 : decode cX1_findLaw 1 = .ok (.getfield 211, 3) := dk_180 0 211 (dk_at dksX1_findLaw_0 1 rfl rfl)
theorem dX1_findLaw_4 : decode cX1_findLaw 4 = .ok (.ifCond .eq 4, 3) := dk_153 0 4 (dk_at dksX1_findLaw_0 4 rfl rfl)
theorem dX1_findLaw_7 : decode cX1_findLaw 7 = .ok (.return_, 1) := dk_177 (dk_at dksX1_findLaw_0 7 rfl rfl)
theorem dX1_findLaw_8 : decode cX1_findLaw 8 = .ok (.aload_n 0, 1) := dk_42 (dk_at dksX1_findLaw_0 8 rfl rfl)
theorem dX1_findLaw_9 : decode cX1_findLaw 9 = .ok (.getfield 12, 3) := dk_180 0 12 (dk_at dksX1_findLaw_0 9 rfl rfl)
theorem dX1_findLaw_12 : decode cX1_findLaw 12 = .ok (.getfield 237, 3) := dk_180 0 237 (dk_at dksX1_findLaw_0 12 rfl rfl)
theorem dX1_findLaw_15 : decode cX1_findLaw 15 = .ok (.istore_n 1, 1) := dk_60 (dk_at dksX1_findLaw_0 15 rfl rfl)
theorem dX1_findLaw_16 : decode cX1_findLaw 16 = .ok (.iload_n 1, 1) := dk_27 (dk_at dksX1_findLaw_0 16 rfl rfl)
theorem dX1_findLaw_17 : decode cX1_findLaw 17 = .ok (.ifCond .lt 156, 3) := dk_155 0 156 (dk_at dksX1_findLaw_0 17 rfl rfl)
theorem dX1_findLaw_20 : decode cX1_findLaw 20 = .ok (.aload_n 0, 1) := dk_42 (dk_at dksX1_findLaw_0 20 rfl rfl)
theorem dX1_findLaw_21 : decode cX1_findLaw 21 = .ok (.getfield 57, 3) := dk_180 0 57 (dk_at dksX1_findLaw_0 21 rfl rfl)
theorem dX1_findLaw_24 : decode cX1_findLaw 24 = .ok (.iload_n 1, 1) := dk_27 (dk_at dksX1_findLaw_1 0 rfl rfl)
theorem dX1_findLaw_25 : decode cX1_findLaw 25 = .ok (.iload_n 1, 1) := dk_27 (dk_at dksX1_findLaw_1 1 rfl rfl)
theorem dX1_findLaw_26 : decode cX1_findLaw 26 = .ok (.aload_n 0, 1) := dk_42 (dk_at dksX1_findLaw_1 2 rfl rfl)
theorem dX1_findLaw_27 : decode cX1_findLaw 27 = .ok (.getfield 12, 3) := dk_180 0 12 (dk_at dksX1_findLaw_1 3 rfl rfl)
theorem dX1_findLaw_30 : decode cX1_findLaw 30 = .ok (.getfield 237, 3) := dk_180 0 237 (dk_at dksX1_findLaw_1 6 rfl rfl)
theorem dX1_findLaw_33 : decode cX1_findLaw 33 = .ok (.if_icmp .ne 7, 3) := dk_160 0 7 (dk_at dksX1_findLaw_1 9 rfl rfl)
theorem dX1_findLaw_36 : decode cX1_findLaw 36 = .ok (.lconst 1, 1) := dk_10 (dk_at dksX1_findLaw_1 12 rfl rfl)
theorem dX1_findLaw_37 : decode cX1_findLaw 37 = .ok (.goto 34, 3) := dk_167 0 34 (dk_at dksX1_findLaw_1 13 rfl rfl)
theorem dX1_findLaw_40 : decode cX1_findLaw 40 = .ok (.aload_n 0, 1) := dk_42 (dk_at dksX1_findLaw_1 16 rfl rfl)
theorem dX1_findLaw_41 : decode cX1_findLaw 41 = .ok (.iload_n 1, 1) := dk_27 (dk_at dksX1_findLaw_1 17 rfl rfl)
theorem dX1_findLaw_42 : decode cX1_findLaw 42 = .ok (.invokevirtual 343, 3) := dk_182 1 87 (dk_at dksX1_findLaw_1 18 rfl rfl)
theorem dX1_findLaw_45 : decode cX1_findLaw 45 = .ok (.ifCond .eq 18, 3) := dk_153 0 18 (dk_at dksX1_findLaw_1 21 rfl rfl)
theorem dX1_findLaw_48 : decode cX1_findLaw 48 = .ok (.ldc2_w 347, 3) := dk_20 1 91 (dk_at dksX1_findLaw_2 0 rfl rfl)
theorem dX1_findLaw_51 : decode cX1_findLaw 51 = .ok (.aload_n 0, 1) := dk_42 (dk_at dksX1_findLaw_2 3 rfl rfl)
theorem dX1_findLaw_52 : decode cX1_findLaw 52 = .ok (.getfield 57, 3) := dk_180 0 57 (dk_at dksX1_findLaw_2 4 rfl rfl)
theorem dX1_findLaw_55 : decode cX1_findLaw 55 = .ok (.iload_n 1, 1) := dk_27 (dk_at dksX1_findLaw_2 7 rfl rfl)
theorem dX1_findLaw_56 : decode cX1_findLaw 56 = .ok (.iconst 1, 1) := dk_4 (dk_at dksX1_findLaw_2 8 rfl rfl)
theorem dX1_findLaw_57 : decode cX1_findLaw 57 = .ok (.iadd, 1) := dk_96 (dk_at dksX1_findLaw_2 9 rfl rfl)
theorem dX1_findLaw_58 : decode cX1_findLaw 58 = .ok (.laload, 1) := dk_47 (dk_at dksX1_findLaw_2 10 rfl rfl)
theorem dX1_findLaw_59 : decode cX1_findLaw 59 = .ok (.lmul, 1) := dk_105 (dk_at dksX1_findLaw_2 11 rfl rfl)
theorem dX1_findLaw_60 : decode cX1_findLaw 60 = .ok (.goto 11, 3) := dk_167 0 11 (dk_at dksX1_findLaw_2 12 rfl rfl)
theorem dX1_findLaw_63 : decode cX1_findLaw 63 = .ok (.aload_n 0, 1) := dk_42 (dk_at dksX1_findLaw_2 15 rfl rfl)
theorem dX1_findLaw_64 : decode cX1_findLaw 64 = .ok (.getfield 57, 3) := dk_180 0 57 (dk_at dksX1_findLaw_2 16 rfl rfl)
theorem dX1_findLaw_67 : decode cX1_findLaw 67 = .ok (.iload_n 1, 1) := dk_27 (dk_at dksX1_findLaw_2 19 rfl rfl)
theorem dX1_findLaw_68 : decode cX1_findLaw 68 = .ok (.iconst 1, 1) := dk_4 (dk_at dksX1_findLaw_2 20 rfl rfl)
theorem dX1_findLaw_69 : decode cX1_findLaw 69 = .ok (.iadd, 1) := dk_96 (dk_at dksX1_findLaw_2 21 rfl rfl)
theorem dX1_findLaw_70 : decode cX1_findLaw 70 = .ok (.laload, 1) := dk_47 (dk_at dksX1_findLaw_2 22 rfl rfl)
theorem dX1_findLaw_71 : decode cX1_findLaw 71 = .ok (.lastore, 1) := dk_80 (dk_at dksX1_findLaw_2 23 rfl rfl)
theorem dX1_findLaw_72 : decode cX1_findLaw 72 = .ok (.iconst 0, 1) := dk_3 (dk_at dksX1_findLaw_3 0 rfl rfl)
theorem dX1_findLaw_73 : decode cX1_findLaw 73 = .ok (.istore_n 2, 1) := dk_61 (dk_at dksX1_findLaw_3 1 rfl rfl)
theorem dX1_findLaw_74 : decode cX1_findLaw 74 = .ok (.iload_n 2, 1) := dk_28 (dk_at dksX1_findLaw_3 2 rfl rfl)
theorem dX1_findLaw_75 : decode cX1_findLaw 75 = .ok (.aload_n 0, 1) := dk_42 (dk_at dksX1_findLaw_3 3 rfl rfl)
theorem dX1_findLaw_76 : decode cX1_findLaw 76 = .ok (.getfield 12, 3) := dk_180 0 12 (dk_at dksX1_findLaw_3 4 rfl rfl)
theorem dX1_findLaw_79 : decode cX1_findLaw 79 = .ok (.getfield 246, 3) := dk_180 0 246 (dk_at dksX1_findLaw_3 7 rfl rfl)
theorem dX1_findLaw_82 : decode cX1_findLaw 82 = .ok (.if_icmp .gt 85, 3) := dk_163 0 85 (dk_at dksX1_findLaw_3 10 rfl rfl)
theorem dX1_findLaw_85 : decode cX1_findLaw 85 = .ok (.iconst 0, 1) := dk_3 (dk_at dksX1_findLaw_3 13 rfl rfl)
theorem dX1_findLaw_86 : decode cX1_findLaw 86 = .ok (.istore_n 3, 1) := dk_62 (dk_at dksX1_findLaw_3 14 rfl rfl)
theorem dX1_findLaw_87 : decode cX1_findLaw 87 = .ok (.iload_n 3, 1) := dk_29 (dk_at dksX1_findLaw_3 15 rfl rfl)
theorem dX1_findLaw_88 : decode cX1_findLaw 88 = .ok (.aload_n 0, 1) := dk_42 (dk_at dksX1_findLaw_3 16 rfl rfl)
theorem dX1_findLaw_89 : decode cX1_findLaw 89 = .ok (.getfield 12, 3) := dk_180 0 12 (dk_at dksX1_findLaw_3 17 rfl rfl)
theorem dX1_findLaw_92 : decode cX1_findLaw 92 = .ok (.getfield 208, 3) := dk_180 0 208 (dk_at dksX1_findLaw_3 20 rfl rfl)
theorem dX1_findLaw_95 : decode cX1_findLaw 95 = .ok (.if_icmp .ge 66, 3) := dk_162 0 66 (dk_at dksX1_findLaw_4 0 rfl rfl)
theorem dX1_findLaw_98 : decode cX1_findLaw 98 = .ok (.iload_n 3, 1) := dk_29 (dk_at dksX1_findLaw_4 3 rfl rfl)
theorem dX1_findLaw_99 : decode cX1_findLaw 99 = .ok (.iload_n 1, 1) := dk_27 (dk_at dksX1_findLaw_4 4 rfl rfl)
theorem dX1_findLaw_100 : decode cX1_findLaw 100 = .ok (.iload_n 2, 1) := dk_28 (dk_at dksX1_findLaw_4 5 rfl rfl)
theorem dX1_findLaw_101 : decode cX1_findLaw 101 = .ok (.invokestatic 293, 3) := dk_184 1 37 (dk_at dksX1_findLaw_4 6 rfl rfl)
theorem dX1_findLaw_104 : decode cX1_findLaw 104 = .ok (.istore 4, 2) := dk_54 4 (dk_at dksX1_findLaw_4 9 rfl rfl)
theorem dX1_findLaw_106 : decode cX1_findLaw 106 = .ok (.iconst 0, 1) := dk_3 (dk_at dksX1_findLaw_4 11 rfl rfl)
theorem dX1_findLaw_107 : decode cX1_findLaw 107 = .ok (.istore 5, 2) := dk_54 5 (dk_at dksX1_findLaw_4 12 rfl rfl)
theorem dX1_findLaw_109 : decode cX1_findLaw 109 = .ok (.iload 5, 2) := dk_21 5 (dk_at dksX1_findLaw_4 14 rfl rfl)
theorem dX1_findLaw_111 : decode cX1_findLaw 111 = .ok (.aload_n 0, 1) := dk_42 (dk_at dksX1_findLaw_4 16 rfl rfl)
theorem dX1_findLaw_112 : decode cX1_findLaw 112 = .ok (.getfield 12, 3) := dk_180 0 12 (dk_at dksX1_findLaw_4 17 rfl rfl)
theorem dX1_findLaw_115 : decode cX1_findLaw 115 = .ok (.getfield 160, 3) := dk_180 0 160 (dk_at dksX1_findLaw_4 20 rfl rfl)
theorem dX1_findLaw_118 : decode cX1_findLaw 118 = .ok (.if_icmp .ge 37, 3) := dk_162 0 37 (dk_at dksX1_findLaw_5 0 rfl rfl)
theorem dX1_findLaw_121 : decode cX1_findLaw 121 = .ok (.aload_n 0, 1) := dk_42 (dk_at dksX1_findLaw_5 3 rfl rfl)
theorem dX1_findLaw_122 : decode cX1_findLaw 122 = .ok (.getfield 108, 3) := dk_180 0 108 (dk_at dksX1_findLaw_5 4 rfl rfl)
theorem dX1_findLaw_125 : decode cX1_findLaw 125 = .ok (.iload 5, 2) := dk_21 5 (dk_at dksX1_findLaw_5 7 rfl rfl)
theorem dX1_findLaw_127 : decode cX1_findLaw 127 = .ok (.aaload, 1) := dk_50 (dk_at dksX1_findLaw_5 9 rfl rfl)
theorem dX1_findLaw_128 : decode cX1_findLaw 128 = .ok (.iload 4, 2) := dk_21 4 (dk_at dksX1_findLaw_5 10 rfl rfl)
theorem dX1_findLaw_130 : decode cX1_findLaw 130 = .ok (.iconst 0, 1) := dk_3 (dk_at dksX1_findLaw_5 12 rfl rfl)
theorem dX1_findLaw_131 : decode cX1_findLaw 131 = .ok (.iastore, 1) := dk_79 (dk_at dksX1_findLaw_5 13 rfl rfl)
theorem dX1_findLaw_132 : decode cX1_findLaw 132 = .ok (.aload_n 0, 1) := dk_42 (dk_at dksX1_findLaw_5 14 rfl rfl)
theorem dX1_findLaw_133 : decode cX1_findLaw 133 = .ok (.iload 4, 2) := dk_21 4 (dk_at dksX1_findLaw_5 15 rfl rfl)
theorem dX1_findLaw_135 : decode cX1_findLaw 135 = .ok (.invokevirtual 349, 3) := dk_182 1 93 (dk_at dksX1_findLaw_5 17 rfl rfl)
theorem dX1_findLaw_138 : decode cX1_findLaw 138 = .ok (.ifCond .ne 11, 3) := dk_154 0 11 (dk_at dksX1_findLaw_5 20 rfl rfl)
theorem dX1_findLaw_141 : decode cX1_findLaw 141 = .ok (.aload_n 0, 1) := dk_42 (dk_at dksX1_findLaw_5 23 rfl rfl)
theorem dX1_findLaw_142 : decode cX1_findLaw 142 = .ok (.iload 4, 2) := dk_21 4 (dk_at dksX1_findLaw_6 0 rfl rfl)
theorem dX1_findLaw_144 : decode cX1_findLaw 144 = .ok (.iload 5, 2) := dk_21 5 (dk_at dksX1_findLaw_6 2 rfl rfl)
theorem dX1_findLaw_146 : decode cX1_findLaw 146 = .ok (.invokevirtual 352, 3) := dk_182 1 96 (dk_at dksX1_findLaw_6 4 rfl rfl)
theorem dX1_findLaw_149 : decode cX1_findLaw 149 = .ok (.iinc 5 1, 3) := dk_132 5 1 (dk_at dksX1_findLaw_6 7 rfl rfl)
theorem dX1_findLaw_152 : decode cX1_findLaw 152 = .ok (.goto (-43), 3) := dk_167 255 213 (dk_at dksX1_findLaw_6 10 rfl rfl)
theorem dX1_findLaw_155 : decode cX1_findLaw 155 = .ok (.iinc 3 1, 3) := dk_132 3 1 (dk_at dksX1_findLaw_6 13 rfl rfl)
theorem dX1_findLaw_158 : decode cX1_findLaw 158 = .ok (.goto (-71), 3) := dk_167 255 185 (dk_at dksX1_findLaw_6 16 rfl rfl)
theorem dX1_findLaw_161 : decode cX1_findLaw 161 = .ok (.iinc 2 1, 3) := dk_132 2 1 (dk_at dksX1_findLaw_6 19 rfl rfl)
theorem dX1_findLaw_164 : decode cX1_findLaw 164 = .ok (.goto (-90), 3) := dk_167 255 166 (dk_at dksX1_findLaw_7 0 rfl rfl)
theorem dX1_findLaw_167 : decode cX1_findLaw 167 = .ok (.iinc 1 (-1), 3) := dk_132 1 255 (dk_at dksX1_findLaw_7 3 rfl rfl)
theorem dX1_findLaw_170 : decode cX1_findLaw 170 = .ok (.goto (-154), 3) := dk_167 255 102 (dk_at dksX1_findLaw_7 6 rfl rfl)
theorem dX1_findLaw_173 : decode cX1_findLaw 173 = .ok (.aload_n 0, 1) := dk_42 (dk_at dksX1_findLaw_7 9 rfl rfl)
theorem dX1_findLaw_174 : decode cX1_findLaw 174 = .ok (.iconst 1, 1) := dk_4 (dk_at dksX1_findLaw_7 10 rfl rfl)
theorem dX1_findLaw_175 : decode cX1_findLaw 175 = .ok (.putfield 211, 3) := dk_181 0 211 (dk_at dksX1_findLaw_7 11 rfl rfl)
theorem dX1_findLaw_178 : decode cX1_findLaw 178 = .ok (.return_, 1) := dk_177 (dk_at dksX1_findLaw_7 14 rfl rfl)
abbrev cX1_isSnowy : ByteArray := prog_1_method_16_code
def yX1_isSnowy : MethodName := ⟨RX1, "isSnowy", "(I)Z"⟩
def dkwX1_isSnowy_1 : List UInt8 := [160, 0, 7, 4, 167, 0, 4, 3, 172]
abbrev dktX1_isSnowy_1 : List UInt8 := dkwX1_isSnowy_1 ++ []
def dkwX1_isSnowy_0 : List UInt8 := [27, 42, 180, 0, 12, 180, 0, 237, 162, 0, 22, 42, 180, 0, 12, 180, 0, 240, 27, 122, 4, 126, 4]
abbrev dktX1_isSnowy_0 : List UInt8 := dkwX1_isSnowy_0 ++ dktX1_isSnowy_1
theorem dksX1_isSnowy_0 : cX1_isSnowy.data.toList.drop 0 = dktX1_isSnowy_0 := by decide +kernel
theorem dksX1_isSnowy_1 : cX1_isSnowy.data.toList.drop 23 = dktX1_isSnowy_1 := dk_seg dksX1_isSnowy_0 23 rfl rfl
theorem dX1_isSnowy_0 : decode cX1_isSnowy 0 = .ok (.iload_n 1, 1) := dk_27 (dk_at dksX1_isSnowy_0 0 rfl rfl)
theorem dX1_isSnowy_1 : decode cX1_isSnowy 1 = .ok (.aload_n 0, 1) := dk_42 (dk_at dksX1_isSnowy_0 1 rfl rfl)
theorem dX1_isSnowy_2 : decode cX1_isSnowy 2 = .ok (.getfield 12, 3) := dk_180 0 12 (dk_at dksX1_isSnowy_0 2 rfl rfl)
theorem dX1_isSnowy_5 : decode cX1_isSnowy 5 = .ok (.getfield 237, 3) := dk_180 0 237 (dk_at dksX1_isSnowy_0 5 rfl rfl)
theorem dX1_isSnowy_8 : decode cX1_isSnowy 8 = .ok (.if_icmp .ge 22, 3) := dk_162 0 22 (dk_at dksX1_isSnowy_0 8 rfl rfl)
theorem dX1_isSnowy_11 : decode cX1_isSnowy 11 = .ok (.aload_n 0, 1) := dk_42 (dk_at dksX1_isSnowy_0 11 rfl rfl)
theorem dX1_isSnowy_12 : decode cX1_isSnowy 12 = .ok (.getfield 12, 3) := dk_180 0 12 (dk_at dksX1_isSnowy_0 12 rfl rfl)
theorem dX1_isSnowy_15 : decode cX1_isSnowy 15 = .ok (.getfield 240, 3) := dk_180 0 240 (dk_at dksX1_isSnowy_0 15 rfl rfl)
theorem dX1_isSnowy_18 : decode cX1_isSnowy 18 = .ok (.iload_n 1, 1) := dk_27 (dk_at dksX1_isSnowy_0 18 rfl rfl)
theorem dX1_isSnowy_19 : decode cX1_isSnowy 19 = .ok (.ishr, 1) := dk_122 (dk_at dksX1_isSnowy_0 19 rfl rfl)
theorem dX1_isSnowy_20 : decode cX1_isSnowy 20 = .ok (.iconst 1, 1) := dk_4 (dk_at dksX1_isSnowy_0 20 rfl rfl)
theorem dX1_isSnowy_21 : decode cX1_isSnowy 21 = .ok (.iand, 1) := dk_126 (dk_at dksX1_isSnowy_0 21 rfl rfl)
theorem dX1_isSnowy_22 : decode cX1_isSnowy 22 = .ok (.iconst 1, 1) := dk_4 (dk_at dksX1_isSnowy_0 22 rfl rfl)
theorem dX1_isSnowy_23 : decode cX1_isSnowy 23 = .ok (.if_icmp .ne 7, 3) := dk_160 0 7 (dk_at dksX1_isSnowy_1 0 rfl rfl)
theorem dX1_isSnowy_26 : decode cX1_isSnowy 26 = .ok (.iconst 1, 1) := dk_4 (dk_at dksX1_isSnowy_1 3 rfl rfl)
theorem dX1_isSnowy_27 : decode cX1_isSnowy 27 = .ok (.goto 4, 3) := dk_167 0 4 (dk_at dksX1_isSnowy_1 4 rfl rfl)
theorem dX1_isSnowy_30 : decode cX1_isSnowy 30 = .ok (.iconst 0, 1) := dk_3 (dk_at dksX1_isSnowy_1 7 rfl rfl)
theorem dX1_isSnowy_31 : decode cX1_isSnowy 31 = .ok (.ireturn, 1) := dk_172 (dk_at dksX1_isSnowy_1 8 rfl rfl)
abbrev cX1_endedOf : ByteArray := prog_1_method_31_code
def yX1_endedOf : MethodName := ⟨RX1, "endedOf", "(I)I"⟩
def dkwX1_endedOf_2 : List UInt8 := [167, 0, 4, 3, 172]
abbrev dktX1_endedOf_2 : List UInt8 := dkwX1_endedOf_2 ++ []
def dkwX1_endedOf_1 : List UInt8 := [154, 0, 7, 5, 167, 0, 22, 27, 184, 1, 50, 42, 180, 0, 12, 180, 0, 237, 160, 0, 7, 6]
abbrev dktX1_endedOf_1 : List UInt8 := dkwX1_endedOf_1 ++ dktX1_endedOf_2
def dkwX1_endedOf_0 : List UInt8 := [42, 180, 0, 12, 180, 1, 41, 27, 184, 1, 44, 51, 153, 0, 7, 4, 167, 0, 33, 27, 184, 1, 47]
abbrev dktX1_endedOf_0 : List UInt8 := dkwX1_endedOf_0 ++ dktX1_endedOf_1
theorem dksX1_endedOf_0 : cX1_endedOf.data.toList.drop 0 = dktX1_endedOf_0 := by decide +kernel
theorem dksX1_endedOf_1 : cX1_endedOf.data.toList.drop 23 = dktX1_endedOf_1 := dk_seg dksX1_endedOf_0 23 rfl rfl
theorem dksX1_endedOf_2 : cX1_endedOf.data.toList.drop 45 = dktX1_endedOf_2 := dk_seg dksX1_endedOf_1 22 rfl rfl
theorem dX1_endedOf_0 : decode cX1_endedOf 0 = .ok (.aload_n 0, 1) := dk_42 (dk_at dksX1_endedOf_0 0 rfl rfl)
theorem dX1_endedOf_1 : decode cX1_endedOf 1 = .ok (.getfield 12, 3) := dk_180 0 12 (dk_at dksX1_endedOf_0 1 rfl rfl)
theorem dX1_endedOf_4 : decode cX1_endedOf 4 = .ok (.getfield 297, 3) := dk_180 1 41 (dk_at dksX1_endedOf_0 4 rfl rfl)
theorem dX1_endedOf_7 : decode cX1_endedOf 7 = .ok (.iload_n 1, 1) := dk_27 (dk_at dksX1_endedOf_0 7 rfl rfl)
theorem dX1_endedOf_8 : decode cX1_endedOf 8 = .ok (.invokestatic 300, 3) := dk_184 1 44 (dk_at dksX1_endedOf_0 8 rfl rfl)
theorem dX1_endedOf_11 : decode cX1_endedOf 11 = .ok (.baload, 1) := dk_51 (dk_at dksX1_endedOf_0 11 rfl rfl)
theorem dX1_endedOf_12 : decode cX1_endedOf 12 = .ok (.ifCond .eq 7, 3) := dk_153 0 7 (dk_at dksX1_endedOf_0 12 rfl rfl)
theorem dX1_endedOf_15 : decode cX1_endedOf 15 = .ok (.iconst 1, 1) := dk_4 (dk_at dksX1_endedOf_0 15 rfl rfl)
theorem dX1_endedOf_16 : decode cX1_endedOf 16 = .ok (.goto 33, 3) := dk_167 0 33 (dk_at dksX1_endedOf_0 16 rfl rfl)
theorem dX1_endedOf_19 : decode cX1_endedOf 19 = .ok (.iload_n 1, 1) := dk_27 (dk_at dksX1_endedOf_0 19 rfl rfl)
theorem dX1_endedOf_20 : decode cX1_endedOf 20 = .ok (.invokestatic 303, 3) := dk_184 1 47 (dk_at dksX1_endedOf_0 20 rfl rfl)
theorem dX1_endedOf_23 : decode cX1_endedOf 23 = .ok (.ifCond .ne 7, 3) := dk_154 0 7 (dk_at dksX1_endedOf_1 0 rfl rfl)
theorem dX1_endedOf_26 : decode cX1_endedOf 26 = .ok (.iconst 2, 1) := dk_5 (dk_at dksX1_endedOf_1 3 rfl rfl)
theorem dX1_endedOf_27 : decode cX1_endedOf 27 = .ok (.goto 22, 3) := dk_167 0 22 (dk_at dksX1_endedOf_1 4 rfl rfl)
theorem dX1_endedOf_30 : decode cX1_endedOf 30 = .ok (.iload_n 1, 1) := dk_27 (dk_at dksX1_endedOf_1 7 rfl rfl)
theorem dX1_endedOf_31 : decode cX1_endedOf 31 = .ok (.invokestatic 306, 3) := dk_184 1 50 (dk_at dksX1_endedOf_1 8 rfl rfl)
theorem dX1_endedOf_34 : decode cX1_endedOf 34 = .ok (.aload_n 0, 1) := dk_42 (dk_at dksX1_endedOf_1 11 rfl rfl)
theorem dX1_endedOf_35 : decode cX1_endedOf 35 = .ok (.getfield 12, 3) := dk_180 0 12 (dk_at dksX1_endedOf_1 12 rfl rfl)
theorem dX1_endedOf_38 : decode cX1_endedOf 38 = .ok (.getfield 237, 3) := dk_180 0 237 (dk_at dksX1_endedOf_1 15 rfl rfl)
theorem dX1_endedOf_41 : decode cX1_endedOf 41 = .ok (.if_icmp .ne 7, 3) := dk_160 0 7 (dk_at dksX1_endedOf_1 18 rfl rfl)
theorem dX1_endedOf_44 : decode cX1_endedOf 44 = .ok (.iconst 3, 1) := dk_6 (dk_at dksX1_endedOf_1 21 rfl rfl)
theorem dX1_endedOf_45 : decode cX1_endedOf 45 = .ok (.goto 4, 3) := dk_167 0 4 (dk_at dksX1_endedOf_2 0 rfl rfl)
theorem dX1_endedOf_48 : decode cX1_endedOf 48 = .ok (.iconst 0, 1) := dk_3 (dk_at dksX1_endedOf_2 3 rfl rfl)
theorem dX1_endedOf_49 : decode cX1_endedOf 49 = .ok (.ireturn, 1) := dk_172 (dk_at dksX1_endedOf_2 4 rfl rfl)
abbrev cX1_placeOf : ByteArray := prog_1_method_27_code
def yX1_placeOf : MethodName := ⟨RX1, "placeOf", "(I)I"⟩
def dkwX1_placeOf_0 : List UInt8 := [26, 16, 12, 112, 172]
abbrev dktX1_placeOf_0 : List UInt8 := dkwX1_placeOf_0 ++ []
theorem dksX1_placeOf_0 : cX1_placeOf.data.toList.drop 0 = dktX1_placeOf_0 := by decide +kernel
theorem dX1_placeOf_0 : decode cX1_placeOf 0 = .ok (.iload_n 0, 1) := dk_26 (dk_at dksX1_placeOf_0 0 rfl rfl)
theorem dX1_placeOf_1 : decode cX1_placeOf 1 = .ok (.bipush 12, 2) := dk_16 12 (dk_at dksX1_placeOf_0 1 rfl rfl)
theorem dX1_placeOf_3 : decode cX1_placeOf 3 = .ok (.irem, 1) := dk_112 (dk_at dksX1_placeOf_0 3 rfl rfl)
theorem dX1_placeOf_4 : decode cX1_placeOf 4 = .ok (.ireturn, 1) := dk_172 (dk_at dksX1_placeOf_0 4 rfl rfl)
abbrev cX1_storesOf : ByteArray := prog_1_method_28_code
def yX1_storesOf : MethodName := ⟨RX1, "storesOf", "(I)I"⟩
def dkwX1_storesOf_0 : List UInt8 := [26, 16, 12, 108, 16, 13, 112, 172]
abbrev dktX1_storesOf_0 : List UInt8 := dkwX1_storesOf_0 ++ []
theorem dksX1_storesOf_0 : cX1_storesOf.data.toList.drop 0 = dktX1_storesOf_0 := by decide +kernel
theorem dX1_storesOf_0 : decode cX1_storesOf 0 = .ok (.iload_n 0, 1) := dk_26 (dk_at dksX1_storesOf_0 0 rfl rfl)
theorem dX1_storesOf_1 : decode cX1_storesOf 1 = .ok (.bipush 12, 2) := dk_16 12 (dk_at dksX1_storesOf_0 1 rfl rfl)
theorem dX1_storesOf_3 : decode cX1_storesOf 3 = .ok (.idiv, 1) := dk_108 (dk_at dksX1_storesOf_0 3 rfl rfl)
theorem dX1_storesOf_4 : decode cX1_storesOf 4 = .ok (.bipush 13, 2) := dk_16 13 (dk_at dksX1_storesOf_0 4 rfl rfl)
theorem dX1_storesOf_6 : decode cX1_storesOf 6 = .ok (.irem, 1) := dk_112 (dk_at dksX1_storesOf_0 6 rfl rfl)
theorem dX1_storesOf_7 : decode cX1_storesOf 7 = .ok (.ireturn, 1) := dk_172 (dk_at dksX1_storesOf_0 7 rfl rfl)
abbrev cX1_hourOf : ByteArray := prog_1_method_29_code
def yX1_hourOf : MethodName := ⟨RX1, "hourOf", "(I)I"⟩
def dkwX1_hourOf_0 : List UInt8 := [26, 16, 12, 108, 16, 13, 108, 172]
abbrev dktX1_hourOf_0 : List UInt8 := dkwX1_hourOf_0 ++ []
theorem dksX1_hourOf_0 : cX1_hourOf.data.toList.drop 0 = dktX1_hourOf_0 := by decide +kernel
theorem dX1_hourOf_0 : decode cX1_hourOf 0 = .ok (.iload_n 0, 1) := dk_26 (dk_at dksX1_hourOf_0 0 rfl rfl)
theorem dX1_hourOf_1 : decode cX1_hourOf 1 = .ok (.bipush 12, 2) := dk_16 12 (dk_at dksX1_hourOf_0 1 rfl rfl)
theorem dX1_hourOf_3 : decode cX1_hourOf 3 = .ok (.idiv, 1) := dk_108 (dk_at dksX1_hourOf_0 3 rfl rfl)
theorem dX1_hourOf_4 : decode cX1_hourOf 4 = .ok (.bipush 13, 2) := dk_16 13 (dk_at dksX1_hourOf_0 4 rfl rfl)
theorem dX1_hourOf_6 : decode cX1_hourOf 6 = .ok (.idiv, 1) := dk_108 (dk_at dksX1_hourOf_0 6 rfl rfl)
theorem dX1_hourOf_7 : decode cX1_hourOf 7 = .ok (.ireturn, 1) := dk_172 (dk_at dksX1_hourOf_0 7 rfl rfl)
abbrev cX1_lawAt : ByteArray := prog_1_method_35_code
def yX1_lawAt : MethodName := ⟨RX1, "lawAt", "(II)V"⟩
def dkwX1_lawAt_9 : List UInt8 := [79, 177]
abbrev dktX1_lawAt_9 : List UInt8 := dkwX1_lawAt_9 ++ []
def dkwX1_lawAt_8 : List UInt8 := [21, 5, 5, 21, 6, 120, 128, 54, 5, 132, 6, 1, 167, 255, 171, 42, 180, 0, 108, 28, 50, 27, 21, 5]
abbrev dktX1_lawAt_8 : List UInt8 := dkwX1_lawAt_8 ++ dktX1_lawAt_9
def dkwX1_lawAt_7 : List UInt8 := [16, 7, 42, 180, 0, 12, 180, 1, 7, 21, 6, 50, 21, 4, 46, 79, 42, 3, 182, 1, 79, 153, 0, 12]
abbrev dktX1_lawAt_7 : List UInt8 := dkwX1_lawAt_7 ++ dktX1_lawAt_8
def dkwX1_lawAt_6 : List UInt8 := [167, 0, 57, 42, 180, 0, 54, 16, 6, 42, 180, 0, 12, 21, 6, 29, 182, 1, 53, 79, 42, 180, 0, 54]
abbrev dktX1_lawAt_6 : List UInt8 := dkwX1_lawAt_6 ++ dktX1_lawAt_7
def dkwX1_lawAt_5 : List UInt8 := [180, 0, 12, 180, 0, 243, 162, 0, 79, 42, 180, 0, 12, 21, 6, 29, 182, 1, 83, 154, 0, 6]
abbrev dktX1_lawAt_5 : List UInt8 := dkwX1_lawAt_5 ++ dktX1_lawAt_6
def dkwX1_lawAt_4 : List UInt8 := [180, 0, 54, 16, 7, 3, 79, 42, 4, 182, 1, 79, 153, 0, 6, 4, 54, 5, 3, 54, 6, 21, 6, 42]
abbrev dktX1_lawAt_4 : List UInt8 := dkwX1_lawAt_4 ++ dktX1_lawAt_5
def dkwX1_lawAt_3 : List UInt8 := [42, 180, 0, 54, 7, 28, 79, 42, 180, 0, 54, 8, 29, 79, 42, 180, 0, 54, 16, 6, 29, 79, 42]
abbrev dktX1_lawAt_3 : List UInt8 := dkwX1_lawAt_3 ++ dktX1_lawAt_4
def dkwX1_lawAt_2 : List UInt8 := [79, 42, 180, 0, 54, 6, 42, 180, 0, 12, 180, 1, 57, 29, 51, 153, 0, 7, 4, 167, 0, 4, 3, 79]
abbrev dktX1_lawAt_2 : List UInt8 := dkwX1_lawAt_2 ++ dktX1_lawAt_3
def dkwX1_lawAt_1 : List UInt8 := [180, 0, 54, 4, 42, 180, 0, 12, 180, 0, 237, 21, 4, 100, 79, 42, 180, 0, 54, 5, 27, 184, 1, 47]
abbrev dktX1_lawAt_1 : List UInt8 := dkwX1_lawAt_1 ++ dktX1_lawAt_2
def dkwX1_lawAt_0 : List UInt8 := [27, 184, 1, 44, 62, 27, 184, 1, 50, 54, 4, 3, 54, 5, 42, 180, 0, 54, 3, 21, 4, 79, 42]
abbrev dktX1_lawAt_0 : List UInt8 := dkwX1_lawAt_0 ++ dktX1_lawAt_1
theorem dksX1_lawAt_0 : cX1_lawAt.data.toList.drop 0 = dktX1_lawAt_0 := by decide +kernel
theorem dksX1_lawAt_1 : cX1_lawAt.data.toList.drop 23 = dktX1_lawAt_1 := dk_seg dksX1_lawAt_0 23 rfl rfl
theorem dksX1_lawAt_2 : cX1_lawAt.data.toList.drop 47 = dktX1_lawAt_2 := dk_seg dksX1_lawAt_1 24 rfl rfl
theorem dksX1_lawAt_3 : cX1_lawAt.data.toList.drop 71 = dktX1_lawAt_3 := dk_seg dksX1_lawAt_2 24 rfl rfl
theorem dksX1_lawAt_4 : cX1_lawAt.data.toList.drop 94 = dktX1_lawAt_4 := dk_seg dksX1_lawAt_3 23 rfl rfl
theorem dksX1_lawAt_5 : cX1_lawAt.data.toList.drop 118 = dktX1_lawAt_5 := dk_seg dksX1_lawAt_4 24 rfl rfl
theorem dksX1_lawAt_6 : cX1_lawAt.data.toList.drop 140 = dktX1_lawAt_6 := dk_seg dksX1_lawAt_5 22 rfl rfl
theorem dksX1_lawAt_7 : cX1_lawAt.data.toList.drop 164 = dktX1_lawAt_7 := dk_seg dksX1_lawAt_6 24 rfl rfl
theorem dksX1_lawAt_8 : cX1_lawAt.data.toList.drop 188 = dktX1_lawAt_8 := dk_seg dksX1_lawAt_7 24 rfl rfl
theorem dksX1_lawAt_9 : cX1_lawAt.data.toList.drop 212 = dktX1_lawAt_9 := dk_seg dksX1_lawAt_8 24 rfl rfl
theorem dX1_lawAt_0 : decode cX1_lawAt 0 = .ok (.iload_n 1, 1) := dk_27 (dk_at dksX1_lawAt_0 0 rfl rfl)
theorem dX1_lawAt_1 : decode cX1_lawAt 1 = .ok (.invokestatic 300, 3) := dk_184 1 44 (dk_at dksX1_lawAt_0 1 rfl rfl)
theorem dX1_lawAt_4 : decode cX1_lawAt 4 = .ok (.istore_n 3, 1) := dk_62 (dk_at dksX1_lawAt_0 4 rfl rfl)
theorem dX1_lawAt_5 : decode cX1_lawAt 5 = .ok (.iload_n 1, 1) := dk_27 (dk_at dksX1_lawAt_0 5 rfl rfl)
theorem dX1_lawAt_6 : decode cX1_lawAt 6 = .ok (.invokestatic 306, 3) := dk_184 1 50 (dk_at dksX1_lawAt_0 6 rfl rfl)
theorem dX1_lawAt_9 : decode cX1_lawAt 9 = .ok (.istore 4, 2) := dk_54 4 (dk_at dksX1_lawAt_0 9 rfl rfl)
theorem dX1_lawAt_11 : decode cX1_lawAt 11 = .ok (.iconst 0, 1) := dk_3 (dk_at dksX1_lawAt_0 11 rfl rfl)
theorem dX1_lawAt_12 : decode cX1_lawAt 12 = .ok (.istore 5, 2) := dk_54 5 (dk_at dksX1_lawAt_0 12 rfl rfl)
theorem dX1_lawAt_14 : decode cX1_lawAt 14 = .ok (.aload_n 0, 1) := dk_42 (dk_at dksX1_lawAt_0 14 rfl rfl)
theorem dX1_lawAt_15 : decode cX1_lawAt 15 = .ok (.getfield 54, 3) := dk_180 0 54 (dk_at dksX1_lawAt_0 15 rfl rfl)
theorem dX1_lawAt_18 : decode cX1_lawAt 18 = .ok (.iconst 0, 1) := dk_3 (dk_at dksX1_lawAt_0 18 rfl rfl)
theorem dX1_lawAt_19 : decode cX1_lawAt 19 = .ok (.iload 4, 2) := dk_21 4 (dk_at dksX1_lawAt_0 19 rfl rfl)
theorem dX1_lawAt_21 : decode cX1_lawAt 21 = .ok (.iastore, 1) := dk_79 (dk_at dksX1_lawAt_0 21 rfl rfl)
theorem dX1_lawAt_22 : decode cX1_lawAt 22 = .ok (.aload_n 0, 1) := dk_42 (dk_at dksX1_lawAt_0 22 rfl rfl)
theorem dX1_lawAt_23 : decode cX1_lawAt 23 = .ok (.getfield 54, 3) := dk_180 0 54 (dk_at dksX1_lawAt_1 0 rfl rfl)
theorem dX1_lawAt_26 : decode cX1_lawAt 26 = .ok (.iconst 1, 1) := dk_4 (dk_at dksX1_lawAt_1 3 rfl rfl)
theorem dX1_lawAt_27 : decode cX1_lawAt 27 = .ok (.aload_n 0, 1) := dk_42 (dk_at dksX1_lawAt_1 4 rfl rfl)
theorem dX1_lawAt_28 : decode cX1_lawAt 28 = .ok (.getfield 12, 3) := dk_180 0 12 (dk_at dksX1_lawAt_1 5 rfl rfl)
theorem dX1_lawAt_31 : decode cX1_lawAt 31 = .ok (.getfield 237, 3) := dk_180 0 237 (dk_at dksX1_lawAt_1 8 rfl rfl)
theorem dX1_lawAt_34 : decode cX1_lawAt 34 = .ok (.iload 4, 2) := dk_21 4 (dk_at dksX1_lawAt_1 11 rfl rfl)
theorem dX1_lawAt_36 : decode cX1_lawAt 36 = .ok (.isub, 1) := dk_100 (dk_at dksX1_lawAt_1 13 rfl rfl)
theorem dX1_lawAt_37 : decode cX1_lawAt 37 = .ok (.iastore, 1) := dk_79 (dk_at dksX1_lawAt_1 14 rfl rfl)
theorem dX1_lawAt_38 : decode cX1_lawAt 38 = .ok (.aload_n 0, 1) := dk_42 (dk_at dksX1_lawAt_1 15 rfl rfl)
theorem dX1_lawAt_39 : decode cX1_lawAt 39 = .ok (.getfield 54, 3) := dk_180 0 54 (dk_at dksX1_lawAt_1 16 rfl rfl)
theorem dX1_lawAt_42 : decode cX1_lawAt 42 = .ok (.iconst 2, 1) := dk_5 (dk_at dksX1_lawAt_1 19 rfl rfl)
theorem dX1_lawAt_43 : decode cX1_lawAt 43 = .ok (.iload_n 1, 1) := dk_27 (dk_at dksX1_lawAt_1 20 rfl rfl)
theorem dX1_lawAt_44 : decode cX1_lawAt 44 = .ok (.invokestatic 303, 3) := dk_184 1 47 (dk_at dksX1_lawAt_1 21 rfl rfl)
theorem dX1_lawAt_47 : decode cX1_lawAt 47 = .ok (.iastore, 1) := dk_79 (dk_at dksX1_lawAt_2 0 rfl rfl)
theorem dX1_lawAt_48 : decode cX1_lawAt 48 = .ok (.aload_n 0, 1) := dk_42 (dk_at dksX1_lawAt_2 1 rfl rfl)
theorem dX1_lawAt_49 : decode cX1_lawAt 49 = .ok (.getfield 54, 3) := dk_180 0 54 (dk_at dksX1_lawAt_2 2 rfl rfl)
theorem dX1_lawAt_52 : decode cX1_lawAt 52 = .ok (.iconst 3, 1) := dk_6 (dk_at dksX1_lawAt_2 5 rfl rfl)
theorem dX1_lawAt_53 : decode cX1_lawAt 53 = .ok (.aload_n 0, 1) := dk_42 (dk_at dksX1_lawAt_2 6 rfl rfl)
theorem dX1_lawAt_54 : decode cX1_lawAt 54 = .ok (.getfield 12, 3) := dk_180 0 12 (dk_at dksX1_lawAt_2 7 rfl rfl)
theorem dX1_lawAt_57 : decode cX1_lawAt 57 = .ok (.getfield 313, 3) := dk_180 1 57 (dk_at dksX1_lawAt_2 10 rfl rfl)
theorem dX1_lawAt_60 : decode cX1_lawAt 60 = .ok (.iload_n 3, 1) := dk_29 (dk_at dksX1_lawAt_2 13 rfl rfl)
theorem dX1_lawAt_61 : decode cX1_lawAt 61 = .ok (.baload, 1) := dk_51 (dk_at dksX1_lawAt_2 14 rfl rfl)
theorem dX1_lawAt_62 : decode cX1_lawAt 62 = .ok (.ifCond .eq 7, 3) := dk_153 0 7 (dk_at dksX1_lawAt_2 15 rfl rfl)
theorem dX1_lawAt_65 : decode cX1_lawAt 65 = .ok (.iconst 1, 1) := dk_4 (dk_at dksX1_lawAt_2 18 rfl rfl)
theorem dX1_lawAt_66 : decode cX1_lawAt 66 = .ok (.goto 4, 3) := dk_167 0 4 (dk_at dksX1_lawAt_2 19 rfl rfl)
theorem dX1_lawAt_69 : decode cX1_lawAt 69 = .ok (.iconst 0, 1) := dk_3 (dk_at dksX1_lawAt_2 22 rfl rfl)
theorem dX1_lawAt_70 : decode cX1_lawAt 70 = .ok (.iastore, 1) := dk_79 (dk_at dksX1_lawAt_2 23 rfl rfl)
theorem dX1_lawAt_71 : decode cX1_lawAt 71 = .ok (.aload_n 0, 1) := dk_42 (dk_at dksX1_lawAt_3 0 rfl rfl)
theorem dX1_lawAt_72 : decode cX1_lawAt 72 = .ok (.getfield 54, 3) := dk_180 0 54 (dk_at dksX1_lawAt_3 1 rfl rfl)
theorem dX1_lawAt_75 : decode cX1_lawAt 75 = .ok (.iconst 4, 1) := dk_7 (dk_at dksX1_lawAt_3 4 rfl rfl)
theorem dX1_lawAt_76 : decode cX1_lawAt 76 = .ok (.iload_n 2, 1) := dk_28 (dk_at dksX1_lawAt_3 5 rfl rfl)
theorem dX1_lawAt_77 : decode cX1_lawAt 77 = .ok (.iastore, 1) := dk_79 (dk_at dksX1_lawAt_3 6 rfl rfl)
theorem dX1_lawAt_78 : decode cX1_lawAt 78 = .ok (.aload_n 0, 1) := dk_42 (dk_at dksX1_lawAt_3 7 rfl rfl)
theorem dX1_lawAt_79 : decode cX1_lawAt 79 = .ok (.getfield 54, 3) := dk_180 0 54 (dk_at dksX1_lawAt_3 8 rfl rfl)
theorem dX1_lawAt_82 : decode cX1_lawAt 82 = .ok (.iconst 5, 1) := dk_8 (dk_at dksX1_lawAt_3 11 rfl rfl)
theorem dX1_lawAt_83 : decode cX1_lawAt 83 = .ok (.iload_n 3, 1) := dk_29 (dk_at dksX1_lawAt_3 12 rfl rfl)
theorem dX1_lawAt_84 : decode cX1_lawAt 84 = .ok (.iastore, 1) := dk_79 (dk_at dksX1_lawAt_3 13 rfl rfl)
theorem dX1_lawAt_85 : decode cX1_lawAt 85 = .ok (.aload_n 0, 1) := dk_42 (dk_at dksX1_lawAt_3 14 rfl rfl)
theorem dX1_lawAt_86 : decode cX1_lawAt 86 = .ok (.getfield 54, 3) := dk_180 0 54 (dk_at dksX1_lawAt_3 15 rfl rfl)
theorem dX1_lawAt_89 : decode cX1_lawAt 89 = .ok (.bipush 6, 2) := dk_16 6 (dk_at dksX1_lawAt_3 18 rfl rfl)
theorem dX1_lawAt_91 : decode cX1_lawAt 91 = .ok (.iload_n 3, 1) := dk_29 (dk_at dksX1_lawAt_3 20 rfl rfl)
theorem dX1_lawAt_92 : decode cX1_lawAt 92 = .ok (.iastore, 1) := dk_79 (dk_at dksX1_lawAt_3 21 rfl rfl)
theorem dX1_lawAt_93 : decode cX1_lawAt 93 = .ok (.aload_n 0, 1) := dk_42 (dk_at dksX1_lawAt_3 22 rfl rfl)
theorem dX1_lawAt_94 : decode cX1_lawAt 94 = .ok (.getfield 54, 3) := dk_180 0 54 (dk_at dksX1_lawAt_4 0 rfl rfl)
theorem dX1_lawAt_97 : decode cX1_lawAt 97 = .ok (.bipush 7, 2) := dk_16 7 (dk_at dksX1_lawAt_4 3 rfl rfl)
theorem dX1_lawAt_99 : decode cX1_lawAt 99 = .ok (.iconst 0, 1) := dk_3 (dk_at dksX1_lawAt_4 5 rfl rfl)
theorem dX1_lawAt_100 : decode cX1_lawAt 100 = .ok (.iastore, 1) := dk_79 (dk_at dksX1_lawAt_4 6 rfl rfl)
theorem dX1_lawAt_101 : decode cX1_lawAt 101 = .ok (.aload_n 0, 1) := dk_42 (dk_at dksX1_lawAt_4 7 rfl rfl)
theorem dX1_lawAt_102 : decode cX1_lawAt 102 = .ok (.iconst 1, 1) := dk_4 (dk_at dksX1_lawAt_4 8 rfl rfl)
theorem dX1_lawAt_103 : decode cX1_lawAt 103 = .ok (.invokevirtual 335, 3) := dk_182 1 79 (dk_at dksX1_lawAt_4 9 rfl rfl)
theorem dX1_lawAt_106 : decode cX1_lawAt 106 = .ok (.ifCond .eq 6, 3) := dk_153 0 6 (dk_at dksX1_lawAt_4 12 rfl rfl)
theorem dX1_lawAt_109 : decode cX1_lawAt 109 = .ok (.iconst 1, 1) := dk_4 (dk_at dksX1_lawAt_4 15 rfl rfl)
theorem dX1_lawAt_110 : decode cX1_lawAt 110 = .ok (.istore 5, 2) := dk_54 5 (dk_at dksX1_lawAt_4 16 rfl rfl)
theorem dX1_lawAt_112 : decode cX1_lawAt 112 = .ok (.iconst 0, 1) := dk_3 (dk_at dksX1_lawAt_4 18 rfl rfl)
theorem dX1_lawAt_113 : decode cX1_lawAt 113 = .ok (.istore 6, 2) := dk_54 6 (dk_at dksX1_lawAt_4 19 rfl rfl)
theorem dX1_lawAt_115 : decode cX1_lawAt 115 = .ok (.iload 6, 2) := dk_21 6 (dk_at dksX1_lawAt_4 21 rfl rfl)
theorem dX1_lawAt_117 : decode cX1_lawAt 117 = .ok (.aload_n 0, 1) := dk_42 (dk_at dksX1_lawAt_4 23 rfl rfl)
theorem dX1_lawAt_118 : decode cX1_lawAt 118 = .ok (.getfield 12, 3) := dk_180 0 12 (dk_at dksX1_lawAt_5 0 rfl rfl)
theorem dX1_lawAt_121 : decode cX1_lawAt 121 = .ok (.getfield 243, 3) := dk_180 0 243 (dk_at dksX1_lawAt_5 3 rfl rfl)
theorem dX1_lawAt_124 : decode cX1_lawAt 124 = .ok (.if_icmp .ge 79, 3) := dk_162 0 79 (dk_at dksX1_lawAt_5 6 rfl rfl)
theorem dX1_lawAt_127 : decode cX1_lawAt 127 = .ok (.aload_n 0, 1) := dk_42 (dk_at dksX1_lawAt_5 9 rfl rfl)
theorem dX1_lawAt_128 : decode cX1_lawAt 128 = .ok (.getfield 12, 3) := dk_180 0 12 (dk_at dksX1_lawAt_5 10 rfl rfl)
theorem dX1_lawAt_131 : decode cX1_lawAt 131 = .ok (.iload 6, 2) := dk_21 6 (dk_at dksX1_lawAt_5 13 rfl rfl)
theorem dX1_lawAt_133 : decode cX1_lawAt 133 = .ok (.iload_n 3, 1) := dk_29 (dk_at dksX1_lawAt_5 15 rfl rfl)
theorem dX1_lawAt_134 : decode cX1_lawAt 134 = .ok (.invokevirtual 339, 3) := dk_182 1 83 (dk_at dksX1_lawAt_5 16 rfl rfl)
theorem dX1_lawAt_137 : decode cX1_lawAt 137 = .ok (.ifCond .ne 6, 3) := dk_154 0 6 (dk_at dksX1_lawAt_5 19 rfl rfl)
theorem dX1_lawAt_140 : decode cX1_lawAt 140 = .ok (.goto 57, 3) := dk_167 0 57 (dk_at dksX1_lawAt_6 0 rfl rfl)
theorem dX1_lawAt_143 : decode cX1_lawAt 143 = .ok (.aload_n 0, 1) := dk_42 (dk_at dksX1_lawAt_6 3 rfl rfl)
theorem dX1_lawAt_144 : decode cX1_lawAt 144 = .ok (.getfield 54, 3) := dk_180 0 54 (dk_at dksX1_lawAt_6 4 rfl rfl)
theorem dX1_lawAt_147 : decode cX1_lawAt 147 = .ok (.bipush 6, 2) := dk_16 6 (dk_at dksX1_lawAt_6 7 rfl rfl)
theorem dX1_lawAt_149 : decode cX1_lawAt 149 = .ok (.aload_n 0, 1) := dk_42 (dk_at dksX1_lawAt_6 9 rfl rfl)
theorem dX1_lawAt_150 : decode cX1_lawAt 150 = .ok (.getfield 12, 3) := dk_180 0 12 (dk_at dksX1_lawAt_6 10 rfl rfl)
theorem dX1_lawAt_153 : decode cX1_lawAt 153 = .ok (.iload 6, 2) := dk_21 6 (dk_at dksX1_lawAt_6 13 rfl rfl)
theorem dX1_lawAt_155 : decode cX1_lawAt 155 = .ok (.iload_n 3, 1) := dk_29 (dk_at dksX1_lawAt_6 15 rfl rfl)
theorem dX1_lawAt_156 : decode cX1_lawAt 156 = .ok (.invokevirtual 309, 3) := dk_182 1 53 (dk_at dksX1_lawAt_6 16 rfl rfl)
theorem dX1_lawAt_159 : decode cX1_lawAt 159 = .ok (.iastore, 1) := dk_79 (dk_at dksX1_lawAt_6 19 rfl rfl)
theorem dX1_lawAt_160 : decode cX1_lawAt 160 = .ok (.aload_n 0, 1) := dk_42 (dk_at dksX1_lawAt_6 20 rfl rfl)
theorem dX1_lawAt_161 : decode cX1_lawAt 161 = .ok (.getfield 54, 3) := dk_180 0 54 (dk_at dksX1_lawAt_6 21 rfl rfl)
theorem dX1_lawAt_164 : decode cX1_lawAt 164 = .ok (.bipush 7, 2) := dk_16 7 (dk_at dksX1_lawAt_7 0 rfl rfl)
theorem dX1_lawAt_166 : decode cX1_lawAt 166 = .ok (.aload_n 0, 1) := dk_42 (dk_at dksX1_lawAt_7 2 rfl rfl)
theorem dX1_lawAt_167 : decode cX1_lawAt 167 = .ok (.getfield 12, 3) := dk_180 0 12 (dk_at dksX1_lawAt_7 3 rfl rfl)
theorem dX1_lawAt_170 : decode cX1_lawAt 170 = .ok (.getfield 263, 3) := dk_180 1 7 (dk_at dksX1_lawAt_7 6 rfl rfl)
theorem dX1_lawAt_173 : decode cX1_lawAt 173 = .ok (.iload 6, 2) := dk_21 6 (dk_at dksX1_lawAt_7 9 rfl rfl)
theorem dX1_lawAt_175 : decode cX1_lawAt 175 = .ok (.aaload, 1) := dk_50 (dk_at dksX1_lawAt_7 11 rfl rfl)
theorem dX1_lawAt_176 : decode cX1_lawAt 176 = .ok (.iload 4, 2) := dk_21 4 (dk_at dksX1_lawAt_7 12 rfl rfl)
theorem dX1_lawAt_178 : decode cX1_lawAt 178 = .ok (.iaload, 1) := dk_46 (dk_at dksX1_lawAt_7 14 rfl rfl)
theorem dX1_lawAt_179 : decode cX1_lawAt 179 = .ok (.iastore, 1) := dk_79 (dk_at dksX1_lawAt_7 15 rfl rfl)
theorem dX1_lawAt_180 : decode cX1_lawAt 180 = .ok (.aload_n 0, 1) := dk_42 (dk_at dksX1_lawAt_7 16 rfl rfl)
theorem dX1_lawAt_181 : decode cX1_lawAt 181 = .ok (.iconst 0, 1) := dk_3 (dk_at dksX1_lawAt_7 17 rfl rfl)
theorem dX1_lawAt_182 : decode cX1_lawAt 182 = .ok (.invokevirtual 335, 3) := dk_182 1 79 (dk_at dksX1_lawAt_7 18 rfl rfl)
theorem dX1_lawAt_185 : decode cX1_lawAt 185 = .ok (.ifCond .eq 12, 3) := dk_153 0 12 (dk_at dksX1_lawAt_7 21 rfl rfl)
theorem dX1_lawAt_188 : decode cX1_lawAt 188 = .ok (.iload 5, 2) := dk_21 5 (dk_at dksX1_lawAt_8 0 rfl rfl)
theorem dX1_lawAt_190 : decode cX1_lawAt 190 = .ok (.iconst 2, 1) := dk_5 (dk_at dksX1_lawAt_8 2 rfl rfl)
theorem dX1_lawAt_191 : decode cX1_lawAt 191 = .ok (.iload 6, 2) := dk_21 6 (dk_at dksX1_lawAt_8 3 rfl rfl)
theorem dX1_lawAt_193 : decode cX1_lawAt 193 = .ok (.ishl, 1) := dk_120 (dk_at dksX1_lawAt_8 5 rfl rfl)
theorem dX1_lawAt_194 : decode cX1_lawAt 194 = .ok (.ior, 1) := dk_128 (dk_at dksX1_lawAt_8 6 rfl rfl)
theorem dX1_lawAt_195 : decode cX1_lawAt 195 = .ok (.istore 5, 2) := dk_54 5 (dk_at dksX1_lawAt_8 7 rfl rfl)
theorem dX1_lawAt_197 : decode cX1_lawAt 197 = .ok (.iinc 6 1, 3) := dk_132 6 1 (dk_at dksX1_lawAt_8 9 rfl rfl)
theorem dX1_lawAt_200 : decode cX1_lawAt 200 = .ok (.goto (-85), 3) := dk_167 255 171 (dk_at dksX1_lawAt_8 12 rfl rfl)
theorem dX1_lawAt_203 : decode cX1_lawAt 203 = .ok (.aload_n 0, 1) := dk_42 (dk_at dksX1_lawAt_8 15 rfl rfl)
theorem dX1_lawAt_204 : decode cX1_lawAt 204 = .ok (.getfield 108, 3) := dk_180 0 108 (dk_at dksX1_lawAt_8 16 rfl rfl)
theorem dX1_lawAt_207 : decode cX1_lawAt 207 = .ok (.iload_n 2, 1) := dk_28 (dk_at dksX1_lawAt_8 19 rfl rfl)
theorem dX1_lawAt_208 : decode cX1_lawAt 208 = .ok (.aaload, 1) := dk_50 (dk_at dksX1_lawAt_8 20 rfl rfl)
theorem dX1_lawAt_209 : decode cX1_lawAt 209 = .ok (.iload_n 1, 1) := dk_27 (dk_at dksX1_lawAt_8 21 rfl rfl)
theorem dX1_lawAt_210 : decode cX1_lawAt 210 = .ok (.iload 5, 2) := dk_21 5 (dk_at dksX1_lawAt_8 22 rfl rfl)
theorem dX1_lawAt_212 : decode cX1_lawAt 212 = .ok (.iastore, 1) := dk_79 (dk_at dksX1_lawAt_9 0 rfl rfl)
theorem dX1_lawAt_213 : decode cX1_lawAt 213 = .ok (.return_, 1) := dk_177 (dk_at dksX1_lawAt_9 1 rfl rfl)
abbrev cX1_holdsAll : ByteArray := prog_1_method_34_code
def yX1_holdsAll : MethodName := ⟨RX1, "holdsAll", "(Z)Z"⟩
def dkwX1_holdsAll_3 : List UInt8 := [167, 255, 190, 28, 172]
abbrev dktX1_holdsAll_3 : List UInt8 := dkwX1_holdsAll_3 ++ []
def dkwX1_holdsAll_2 : List UInt8 := [180, 1, 69, 42, 180, 0, 54, 182, 1, 73, 153, 0, 7, 4, 167, 0, 4, 3, 61, 132, 3, 1]
abbrev dktX1_holdsAll_2 : List UInt8 := dkwX1_holdsAll_2 ++ dktX1_holdsAll_3
def dkwX1_holdsAll_1 : List UInt8 := [182, 1, 60, 192, 1, 64, 180, 1, 66, 27, 160, 0, 27, 42, 180, 0, 19, 29, 182, 1, 60, 192, 1, 64]
abbrev dktX1_holdsAll_1 : List UInt8 := dkwX1_holdsAll_1 ++ dktX1_holdsAll_2
def dkwX1_holdsAll_0 : List UInt8 := [4, 61, 3, 62, 29, 42, 180, 0, 19, 182, 0, 233, 162, 0, 61, 28, 153, 0, 57, 42, 180, 0, 19, 29]
abbrev dktX1_holdsAll_0 : List UInt8 := dkwX1_holdsAll_0 ++ dktX1_holdsAll_1
theorem dksX1_holdsAll_0 : cX1_holdsAll.data.toList.drop 0 = dktX1_holdsAll_0 := by decide +kernel
theorem dksX1_holdsAll_1 : cX1_holdsAll.data.toList.drop 24 = dktX1_holdsAll_1 := dk_seg dksX1_holdsAll_0 24 rfl rfl
theorem dksX1_holdsAll_2 : cX1_holdsAll.data.toList.drop 48 = dktX1_holdsAll_2 := dk_seg dksX1_holdsAll_1 24 rfl rfl
theorem dksX1_holdsAll_3 : cX1_holdsAll.data.toList.drop 70 = dktX1_holdsAll_3 := dk_seg dksX1_holdsAll_2 22 rfl rfl
theorem dX1_holdsAll_0 : decode cX1_holdsAll 0 = .ok (.iconst 1, 1) := dk_4 (dk_at dksX1_holdsAll_0 0 rfl rfl)
theorem dX1_holdsAll_1 : decode cX1_holdsAll 1 = .ok (.istore_n 2, 1) := dk_61 (dk_at dksX1_holdsAll_0 1 rfl rfl)
theorem dX1_holdsAll_2 : decode cX1_holdsAll 2 = .ok (.iconst 0, 1) := dk_3 (dk_at dksX1_holdsAll_0 2 rfl rfl)
theorem dX1_holdsAll_3 : decode cX1_holdsAll 3 = .ok (.istore_n 3, 1) := dk_62 (dk_at dksX1_holdsAll_0 3 rfl rfl)
theorem dX1_holdsAll_4 : decode cX1_holdsAll 4 = .ok (.iload_n 3, 1) := dk_29 (dk_at dksX1_holdsAll_0 4 rfl rfl)
theorem dX1_holdsAll_5 : decode cX1_holdsAll 5 = .ok (.aload_n 0, 1) := dk_42 (dk_at dksX1_holdsAll_0 5 rfl rfl)
theorem dX1_holdsAll_6 : decode cX1_holdsAll 6 = .ok (.getfield 19, 3) := dk_180 0 19 (dk_at dksX1_holdsAll_0 6 rfl rfl)
theorem dX1_holdsAll_9 : decode cX1_holdsAll 9 = .ok (.invokevirtual 233, 3) := dk_182 0 233 (dk_at dksX1_holdsAll_0 9 rfl rfl)
theorem dX1_holdsAll_12 : decode cX1_holdsAll 12 = .ok (.if_icmp .ge 61, 3) := dk_162 0 61 (dk_at dksX1_holdsAll_0 12 rfl rfl)
theorem dX1_holdsAll_15 : decode cX1_holdsAll 15 = .ok (.iload_n 2, 1) := dk_28 (dk_at dksX1_holdsAll_0 15 rfl rfl)
theorem dX1_holdsAll_16 : decode cX1_holdsAll 16 = .ok (.ifCond .eq 57, 3) := dk_153 0 57 (dk_at dksX1_holdsAll_0 16 rfl rfl)
theorem dX1_holdsAll_19 : decode cX1_holdsAll 19 = .ok (.aload_n 0, 1) := dk_42 (dk_at dksX1_holdsAll_0 19 rfl rfl)
theorem dX1_holdsAll_20 : decode cX1_holdsAll 20 = .ok (.getfield 19, 3) := dk_180 0 19 (dk_at dksX1_holdsAll_0 20 rfl rfl)
theorem dX1_holdsAll_23 : decode cX1_holdsAll 23 = .ok (.iload_n 3, 1) := dk_29 (dk_at dksX1_holdsAll_0 23 rfl rfl)
theorem dX1_holdsAll_24 : decode cX1_holdsAll 24 = .ok (.invokevirtual 316, 3) := dk_182 1 60 (dk_at dksX1_holdsAll_1 0 rfl rfl)
theorem dX1_holdsAll_27 : decode cX1_holdsAll 27 = .ok (.checkcast 320, 3) := dk_192 1 64 (dk_at dksX1_holdsAll_1 3 rfl rfl)
theorem dX1_holdsAll_30 : decode cX1_holdsAll 30 = .ok (.getfield 322, 3) := dk_180 1 66 (dk_at dksX1_holdsAll_1 6 rfl rfl)
theorem dX1_holdsAll_33 : decode cX1_holdsAll 33 = .ok (.iload_n 1, 1) := dk_27 (dk_at dksX1_holdsAll_1 9 rfl rfl)
theorem dX1_holdsAll_34 : decode cX1_holdsAll 34 = .ok (.if_icmp .ne 27, 3) := dk_160 0 27 (dk_at dksX1_holdsAll_1 10 rfl rfl)
theorem dX1_holdsAll_37 : decode cX1_holdsAll 37 = .ok (.aload_n 0, 1) := dk_42 (dk_at dksX1_holdsAll_1 13 rfl rfl)
theorem dX1_holdsAll_38 : decode cX1_holdsAll 38 = .ok (.getfield 19, 3) := dk_180 0 19 (dk_at dksX1_holdsAll_1 14 rfl rfl)
theorem dX1_holdsAll_41 : decode cX1_holdsAll 41 = .ok (.iload_n 3, 1) := dk_29 (dk_at dksX1_holdsAll_1 17 rfl rfl)
theorem dX1_holdsAll_42 : decode cX1_holdsAll 42 = .ok (.invokevirtual 316, 3) := dk_182 1 60 (dk_at dksX1_holdsAll_1 18 rfl rfl)
theorem dX1_holdsAll_45 : decode cX1_holdsAll 45 = .ok (.checkcast 320, 3) := dk_192 1 64 (dk_at dksX1_holdsAll_1 21 rfl rfl)
theorem dX1_holdsAll_48 : decode cX1_holdsAll 48 = .ok (.getfield 325, 3) := dk_180 1 69 (dk_at dksX1_holdsAll_2 0 rfl rfl)
theorem dX1_holdsAll_51 : decode cX1_holdsAll 51 = .ok (.aload_n 0, 1) := dk_42 (dk_at dksX1_holdsAll_2 3 rfl rfl)
theorem dX1_holdsAll_52 : decode cX1_holdsAll 52 = .ok (.getfield 54, 3) := dk_180 0 54 (dk_at dksX1_holdsAll_2 4 rfl rfl)
theorem dX1_holdsAll_55 : decode cX1_holdsAll 55 = .ok (.invokevirtual 329, 3) := dk_182 1 73 (dk_at dksX1_holdsAll_2 7 rfl rfl)
theorem dX1_holdsAll_58 : decode cX1_holdsAll 58 = .ok (.ifCond .eq 7, 3) := dk_153 0 7 (dk_at dksX1_holdsAll_2 10 rfl rfl)
theorem dX1_holdsAll_61 : decode cX1_holdsAll 61 = .ok (.iconst 1, 1) := dk_4 (dk_at dksX1_holdsAll_2 13 rfl rfl)
theorem dX1_holdsAll_62 : decode cX1_holdsAll 62 = .ok (.goto 4, 3) := dk_167 0 4 (dk_at dksX1_holdsAll_2 14 rfl rfl)
theorem dX1_holdsAll_65 : decode cX1_holdsAll 65 = .ok (.iconst 0, 1) := dk_3 (dk_at dksX1_holdsAll_2 17 rfl rfl)
theorem dX1_holdsAll_66 : decode cX1_holdsAll 66 = .ok (.istore_n 2, 1) := dk_61 (dk_at dksX1_holdsAll_2 18 rfl rfl)
theorem dX1_holdsAll_67 : decode cX1_holdsAll 67 = .ok (.iinc 3 1, 3) := dk_132 3 1 (dk_at dksX1_holdsAll_2 19 rfl rfl)
theorem dX1_holdsAll_70 : decode cX1_holdsAll 70 = .ok (.goto (-66), 3) := dk_167 255 190 (dk_at dksX1_holdsAll_3 0 rfl rfl)
theorem dX1_holdsAll_73 : decode cX1_holdsAll 73 = .ok (.iload_n 2, 1) := dk_28 (dk_at dksX1_holdsAll_3 3 rfl rfl)
theorem dX1_holdsAll_74 : decode cX1_holdsAll 74 = .ok (.ireturn, 1) := dk_172 (dk_at dksX1_holdsAll_3 4 rfl rfl)
abbrev cX1_mayOf : ByteArray := prog_1_method_37_code
def yX1_mayOf : MethodName := ⟨RX1, "mayOf", "(II)I"⟩
def dkwX1_mayOf_0 : List UInt8 := [4, 42, 180, 0, 108, 27, 50, 28, 46, 184, 1, 100, 172]
abbrev dktX1_mayOf_0 : List UInt8 := dkwX1_mayOf_0 ++ []
theorem dksX1_mayOf_0 : cX1_mayOf.data.toList.drop 0 = dktX1_mayOf_0 := by decide +kernel
theorem dX1_mayOf_0 : decode cX1_mayOf 0 = .ok (.iconst 1, 1) := dk_4 (dk_at dksX1_mayOf_0 0 rfl rfl)
theorem dX1_mayOf_1 : decode cX1_mayOf 1 = .ok (.aload_n 0, 1) := dk_42 (dk_at dksX1_mayOf_0 1 rfl rfl)
theorem dX1_mayOf_2 : decode cX1_mayOf 2 = .ok (.getfield 108, 3) := dk_180 0 108 (dk_at dksX1_mayOf_0 2 rfl rfl)
theorem dX1_mayOf_5 : decode cX1_mayOf 5 = .ok (.iload_n 1, 1) := dk_27 (dk_at dksX1_mayOf_0 5 rfl rfl)
theorem dX1_mayOf_6 : decode cX1_mayOf 6 = .ok (.aaload, 1) := dk_50 (dk_at dksX1_mayOf_0 6 rfl rfl)
theorem dX1_mayOf_7 : decode cX1_mayOf 7 = .ok (.iload_n 2, 1) := dk_28 (dk_at dksX1_mayOf_0 7 rfl rfl)
theorem dX1_mayOf_8 : decode cX1_mayOf 8 = .ok (.iaload, 1) := dk_46 (dk_at dksX1_mayOf_0 8 rfl rfl)
theorem dX1_mayOf_9 : decode cX1_mayOf 9 = .ok (.invokestatic 356, 3) := dk_184 1 100 (dk_at dksX1_mayOf_0 9 rfl rfl)
theorem dX1_mayOf_12 : decode cX1_mayOf 12 = .ok (.ireturn, 1) := dk_172 (dk_at dksX1_mayOf_0 12 rfl rfl)
abbrev cX1_takes : ByteArray := prog_1_method_48_code
def yX1_takes : MethodName := ⟨RX1, "takes", "(III)I"⟩
def dkwX1_takes_0 : List UInt8 := [42, 27, 28, 29, 182, 1, 105, 54, 4, 42, 182, 1, 170, 42, 180, 0, 128, 21, 4, 51, 172]
abbrev dktX1_takes_0 : List UInt8 := dkwX1_takes_0 ++ []
theorem dksX1_takes_0 : cX1_takes.data.toList.drop 0 = dktX1_takes_0 := by decide +kernel
theorem dX1_takes_0 : decode cX1_takes 0 = .ok (.aload_n 0, 1) := dk_42 (dk_at dksX1_takes_0 0 rfl rfl)
theorem dX1_takes_1 : decode cX1_takes 1 = .ok (.iload_n 1, 1) := dk_27 (dk_at dksX1_takes_0 1 rfl rfl)
theorem dX1_takes_2 : decode cX1_takes 2 = .ok (.iload_n 2, 1) := dk_28 (dk_at dksX1_takes_0 2 rfl rfl)
theorem dX1_takes_3 : decode cX1_takes 3 = .ok (.iload_n 3, 1) := dk_29 (dk_at dksX1_takes_0 3 rfl rfl)
theorem dX1_takes_4 : decode cX1_takes 4 = .ok (.invokevirtual 361, 3) := dk_182 1 105 (dk_at dksX1_takes_0 4 rfl rfl)
theorem dX1_takes_7 : decode cX1_takes 7 = .ok (.istore 4, 2) := dk_54 4 (dk_at dksX1_takes_0 7 rfl rfl)
theorem dX1_takes_9 : decode cX1_takes 9 = .ok (.aload_n 0, 1) := dk_42 (dk_at dksX1_takes_0 9 rfl rfl)
theorem dX1_takes_10 : decode cX1_takes 10 = .ok (.invokevirtual 426, 3) := dk_182 1 170 (dk_at dksX1_takes_0 10 rfl rfl)
theorem dX1_takes_13 : decode cX1_takes 13 = .ok (.aload_n 0, 1) := dk_42 (dk_at dksX1_takes_0 13 rfl rfl)
theorem dX1_takes_14 : decode cX1_takes 14 = .ok (.getfield 128, 3) := dk_180 0 128 (dk_at dksX1_takes_0 14 rfl rfl)
theorem dX1_takes_17 : decode cX1_takes 17 = .ok (.iload 4, 2) := dk_21 4 (dk_at dksX1_takes_0 17 rfl rfl)
theorem dX1_takes_19 : decode cX1_takes 19 = .ok (.baload, 1) := dk_51 (dk_at dksX1_takes_0 19 rfl rfl)
theorem dX1_takes_20 : decode cX1_takes 20 = .ok (.ireturn, 1) := dk_172 (dk_at dksX1_takes_0 20 rfl rfl)
abbrev cX1_find : ByteArray := prog_1_method_45_code
def yX1_find : MethodName := ⟨RX1, "find", "()V"⟩
def dkwX1_find_3 : List UInt8 := [132, 3, 1, 167, 255, 232, 132, 2, 1, 167, 255, 213, 132, 1, 255, 167, 255, 201, 42, 4, 181, 0, 223, 177]
abbrev dktX1_find_3 : List UInt8 := dkwX1_find_3 ++ []
def dkwX1_find_2 : List UInt8 := [3, 62, 29, 42, 180, 0, 12, 180, 0, 208, 162, 0, 19, 42, 29, 27, 28, 184, 1, 37, 182, 1, 148]
abbrev dktX1_find_2 : List UInt8 := dkwX1_find_2 ++ dktX1_find_3
def dkwX1_find_1 : List UInt8 := [180, 0, 12, 180, 0, 237, 60, 27, 155, 0, 57, 3, 61, 28, 42, 180, 0, 12, 180, 0, 246, 163, 0, 38]
abbrev dktX1_find_1 : List UInt8 := dkwX1_find_1 ++ dktX1_find_2
def dkwX1_find_0 : List UInt8 := [42, 180, 0, 223, 153, 0, 4, 177, 42, 182, 1, 143, 42, 3, 181, 0, 220, 42, 182, 1, 145, 42]
abbrev dktX1_find_0 : List UInt8 := dkwX1_find_0 ++ dktX1_find_1
theorem dksX1_find_0 : cX1_find.data.toList.drop 0 = dktX1_find_0 := by decide +kernel
theorem dksX1_find_1 : cX1_find.data.toList.drop 22 = dktX1_find_1 := dk_seg dksX1_find_0 22 rfl rfl
theorem dksX1_find_2 : cX1_find.data.toList.drop 46 = dktX1_find_2 := dk_seg dksX1_find_1 24 rfl rfl
theorem dksX1_find_3 : cX1_find.data.toList.drop 69 = dktX1_find_3 := dk_seg dksX1_find_2 23 rfl rfl
theorem dX1_find_0 : decode cX1_find 0 = .ok (.aload_n 0, 1) := dk_42 (dk_at dksX1_find_0 0 rfl rfl)
theorem dX1_find_1 : decode cX1_find 1 = .ok (.getfield 223, 3) := dk_180 0 223 (dk_at dksX1_find_0 1 rfl rfl)
theorem dX1_find_4 : decode cX1_find 4 = .ok (.ifCond .eq 4, 3) := dk_153 0 4 (dk_at dksX1_find_0 4 rfl rfl)
theorem dX1_find_7 : decode cX1_find 7 = .ok (.return_, 1) := dk_177 (dk_at dksX1_find_0 7 rfl rfl)
theorem dX1_find_8 : decode cX1_find 8 = .ok (.aload_n 0, 1) := dk_42 (dk_at dksX1_find_0 8 rfl rfl)
theorem dX1_find_9 : decode cX1_find 9 = .ok (.invokevirtual 399, 3) := dk_182 1 143 (dk_at dksX1_find_0 9 rfl rfl)
theorem dX1_find_12 : decode cX1_find 12 = .ok (.aload_n 0, 1) := dk_42 (dk_at dksX1_find_0 12 rfl rfl)
theorem dX1_find_13 : decode cX1_find 13 = .ok (.iconst 0, 1) := dk_3 (dk_at dksX1_find_0 13 rfl rfl)
theorem dX1_find_14 : decode cX1_find 14 = .ok (.putfield 220, 3) := dk_181 0 220 (dk_at dksX1_find_0 14 rfl rfl)
theorem dX1_find_17 : decode cX1_find 17 = .ok (.aload_n 0, 1) := dk_42 (dk_at dksX1_find_0 17 rfl rfl)
theorem dX1_find_18 : decode cX1_find 18 = .ok (.invokevirtual 401, 3) := dk_182 1 145 (dk_at dksX1_find_0 18 rfl rfl)
theorem dX1_find_21 : decode cX1_find 21 = .ok (.aload_n 0, 1) := dk_42 (dk_at dksX1_find_0 21 rfl rfl)
theorem dX1_find_22 : decode cX1_find 22 = .ok (.getfield 12, 3) := dk_180 0 12 (dk_at dksX1_find_1 0 rfl rfl)
theorem dX1_find_25 : decode cX1_find 25 = .ok (.getfield 237, 3) := dk_180 0 237 (dk_at dksX1_find_1 3 rfl rfl)
theorem dX1_find_28 : decode cX1_find 28 = .ok (.istore_n 1, 1) := dk_60 (dk_at dksX1_find_1 6 rfl rfl)
theorem dX1_find_29 : decode cX1_find 29 = .ok (.iload_n 1, 1) := dk_27 (dk_at dksX1_find_1 7 rfl rfl)
theorem dX1_find_30 : decode cX1_find 30 = .ok (.ifCond .lt 57, 3) := dk_155 0 57 (dk_at dksX1_find_1 8 rfl rfl)
theorem dX1_find_33 : decode cX1_find 33 = .ok (.iconst 0, 1) := dk_3 (dk_at dksX1_find_1 11 rfl rfl)
theorem dX1_find_34 : decode cX1_find 34 = .ok (.istore_n 2, 1) := dk_61 (dk_at dksX1_find_1 12 rfl rfl)
theorem dX1_find_35 : decode cX1_find 35 = .ok (.iload_n 2, 1) := dk_28 (dk_at dksX1_find_1 13 rfl rfl)
theorem dX1_find_36 : decode cX1_find 36 = .ok (.aload_n 0, 1) := dk_42 (dk_at dksX1_find_1 14 rfl rfl)
theorem dX1_find_37 : decode cX1_find 37 = .ok (.getfield 12, 3) := dk_180 0 12 (dk_at dksX1_find_1 15 rfl rfl)
theorem dX1_find_40 : decode cX1_find 40 = .ok (.getfield 246, 3) := dk_180 0 246 (dk_at dksX1_find_1 18 rfl rfl)
theorem dX1_find_43 : decode cX1_find 43 = .ok (.if_icmp .gt 38, 3) := dk_163 0 38 (dk_at dksX1_find_1 21 rfl rfl)
theorem dX1_find_46 : decode cX1_find 46 = .ok (.iconst 0, 1) := dk_3 (dk_at dksX1_find_2 0 rfl rfl)
theorem dX1_find_47 : decode cX1_find 47 = .ok (.istore_n 3, 1) := dk_62 (dk_at dksX1_find_2 1 rfl rfl)
theorem dX1_find_48 : decode cX1_find 48 = .ok (.iload_n 3, 1) := dk_29 (dk_at dksX1_find_2 2 rfl rfl)
theorem dX1_find_49 : decode cX1_find 49 = .ok (.aload_n 0, 1) := dk_42 (dk_at dksX1_find_2 3 rfl rfl)
theorem dX1_find_50 : decode cX1_find 50 = .ok (.getfield 12, 3) := dk_180 0 12 (dk_at dksX1_find_2 4 rfl rfl)
theorem dX1_find_53 : decode cX1_find 53 = .ok (.getfield 208, 3) := dk_180 0 208 (dk_at dksX1_find_2 7 rfl rfl)
theorem dX1_find_56 : decode cX1_find 56 = .ok (.if_icmp .ge 19, 3) := dk_162 0 19 (dk_at dksX1_find_2 10 rfl rfl)
theorem dX1_find_59 : decode cX1_find 59 = .ok (.aload_n 0, 1) := dk_42 (dk_at dksX1_find_2 13 rfl rfl)
theorem dX1_find_60 : decode cX1_find 60 = .ok (.iload_n 3, 1) := dk_29 (dk_at dksX1_find_2 14 rfl rfl)
theorem dX1_find_61 : decode cX1_find 61 = .ok (.iload_n 1, 1) := dk_27 (dk_at dksX1_find_2 15 rfl rfl)
theorem dX1_find_62 : decode cX1_find 62 = .ok (.iload_n 2, 1) := dk_28 (dk_at dksX1_find_2 16 rfl rfl)
theorem dX1_find_63 : decode cX1_find 63 = .ok (.invokestatic 293, 3) := dk_184 1 37 (dk_at dksX1_find_2 17 rfl rfl)
theorem dX1_find_66 : decode cX1_find 66 = .ok (.invokevirtual 404, 3) := dk_182 1 148 (dk_at dksX1_find_2 20 rfl rfl)
theorem dX1_find_69 : decode cX1_find 69 = .ok (.iinc 3 1, 3) := dk_132 3 1 (dk_at dksX1_find_3 0 rfl rfl)
theorem dX1_find_72 : decode cX1_find 72 = .ok (.goto (-24), 3) := dk_167 255 232 (dk_at dksX1_find_3 3 rfl rfl)
theorem dX1_find_75 : decode cX1_find 75 = .ok (.iinc 2 1, 3) := dk_132 2 1 (dk_at dksX1_find_3 6 rfl rfl)
theorem dX1_find_78 : decode cX1_find 78 = .ok (.goto (-43), 3) := dk_167 255 213 (dk_at dksX1_find_3 9 rfl rfl)
theorem dX1_find_81 : decode cX1_find 81 = .ok (.iinc 1 (-1), 3) := dk_132 1 255 (dk_at dksX1_find_3 12 rfl rfl)
theorem dX1_find_84 : decode cX1_find 84 = .ok (.goto (-55), 3) := dk_167 255 201 (dk_at dksX1_find_3 15 rfl rfl)
theorem dX1_find_87 : decode cX1_find 87 = .ok (.aload_n 0, 1) := dk_42 (dk_at dksX1_find_3 18 rfl rfl)
theorem dX1_find_88 : decode cX1_find 88 = .ok (.iconst 1, 1) := dk_4 (dk_at dksX1_find_3 19 rfl rfl)
theorem dX1_find_89 : decode cX1_find 89 = .ok (.putfield 223, 3) := dk_181 0 223 (dk_at dksX1_find_3 20 rfl rfl)
theorem dX1_find_92 : decode cX1_find 92 = .ok (.return_, 1) := dk_177 (dk_at dksX1_find_3 23 rfl rfl)
abbrev cX1_findAlone : ByteArray := prog_1_method_42_code
def yX1_findAlone : MethodName := ⟨RX1, "findAlone", "()V"⟩
def dkwX1_findAlone_1 : List UInt8 := [162, 0, 15, 42, 27, 3, 182, 1, 139, 132, 1, 1, 167, 255, 236, 42, 4, 181, 0, 214, 177]
abbrev dktX1_findAlone_1 : List UInt8 := dkwX1_findAlone_1 ++ []
def dkwX1_findAlone_0 : List UInt8 := [42, 182, 1, 108, 42, 180, 0, 214, 153, 0, 4, 177, 3, 60, 27, 42, 180, 0, 12, 180, 0, 160]
abbrev dktX1_findAlone_0 : List UInt8 := dkwX1_findAlone_0 ++ dktX1_findAlone_1
theorem dksX1_findAlone_0 : cX1_findAlone.data.toList.drop 0 = dktX1_findAlone_0 := by decide +kernel
theorem dksX1_findAlone_1 : cX1_findAlone.data.toList.drop 22 = dktX1_findAlone_1 := dk_seg dksX1_findAlone_0 22 rfl rfl
theorem dX1_findAlone_0 : decode cX1_findAlone 0 = .ok (.aload_n 0, 1) := dk_42 (dk_at dksX1_findAlone_0 0 rfl rfl)
theorem dX1_findAlone_1 : decode cX1_findAlone 1 = .ok (.invokevirtual 364, 3) := dk_182 1 108 (dk_at dksX1_findAlone_0 1 rfl rfl)
theorem dX1_findAlone_4 : decode cX1_findAlone 4 = .ok (.aload_n 0, 1) := dk_42 (dk_at dksX1_findAlone_0 4 rfl rfl)
theorem dX1_findAlone_5 : decode cX1_findAlone 5 = .ok (.getfield 214, 3) := dk_180 0 214 (dk_at dksX1_findAlone_0 5 rfl rfl)
theorem dX1_findAlone_8 : decode cX1_findAlone 8 = .ok (.ifCond .eq 4, 3) := dk_153 0 4 (dk_at dksX1_findAlone_0 8 rfl rfl)
theorem dX1_findAlone_11 : decode cX1_findAlone 11 = .ok (.return_, 1) := dk_177 (dk_at dksX1_findAlone_0 11 rfl rfl)
theorem dX1_findAlone_12 : decode cX1_findAlone 12 = .ok (.iconst 0, 1) := dk_3 (dk_at dksX1_findAlone_0 12 rfl rfl)
theorem dX1_findAlone_13 : decode cX1_findAlone 13 = .ok (.istore_n 1, 1) := dk_60 (dk_at dksX1_findAlone_0 13 rfl rfl)
theorem dX1_findAlone_14 : decode cX1_findAlone 14 = .ok (.iload_n 1, 1) := dk_27 (dk_at dksX1_findAlone_0 14 rfl rfl)
theorem dX1_findAlone_15 : decode cX1_findAlone 15 = .ok (.aload_n 0, 1) := dk_42 (dk_at dksX1_findAlone_0 15 rfl rfl)
theorem dX1_findAlone_16 : decode cX1_findAlone 16 = .ok (.getfield 12, 3) := dk_180 0 12 (dk_at dksX1_findAlone_0 16 rfl rfl)
theorem dX1_findAlone_19 : decode cX1_findAlone 19 = .ok (.getfield 160, 3) := dk_180 0 160 (dk_at dksX1_findAlone_0 19 rfl rfl)
theorem dX1_findAlone_22 : decode cX1_findAlone 22 = .ok (.if_icmp .ge 15, 3) := dk_162 0 15 (dk_at dksX1_findAlone_1 0 rfl rfl)
theorem dX1_findAlone_25 : decode cX1_findAlone 25 = .ok (.aload_n 0, 1) := dk_42 (dk_at dksX1_findAlone_1 3 rfl rfl)
theorem dX1_findAlone_26 : decode cX1_findAlone 26 = .ok (.iload_n 1, 1) := dk_27 (dk_at dksX1_findAlone_1 4 rfl rfl)
theorem dX1_findAlone_27 : decode cX1_findAlone 27 = .ok (.iconst 0, 1) := dk_3 (dk_at dksX1_findAlone_1 5 rfl rfl)
theorem dX1_findAlone_28 : decode cX1_findAlone 28 = .ok (.invokevirtual 395, 3) := dk_182 1 139 (dk_at dksX1_findAlone_1 6 rfl rfl)
theorem dX1_findAlone_31 : decode cX1_findAlone 31 = .ok (.iinc 1 1, 3) := dk_132 1 1 (dk_at dksX1_findAlone_1 9 rfl rfl)
theorem dX1_findAlone_34 : decode cX1_findAlone 34 = .ok (.goto (-20), 3) := dk_167 255 236 (dk_at dksX1_findAlone_1 12 rfl rfl)
theorem dX1_findAlone_37 : decode cX1_findAlone 37 = .ok (.aload_n 0, 1) := dk_42 (dk_at dksX1_findAlone_1 15 rfl rfl)
theorem dX1_findAlone_38 : decode cX1_findAlone 38 = .ok (.iconst 1, 1) := dk_4 (dk_at dksX1_findAlone_1 16 rfl rfl)
theorem dX1_findAlone_39 : decode cX1_findAlone 39 = .ok (.putfield 214, 3) := dk_181 0 214 (dk_at dksX1_findAlone_1 17 rfl rfl)
theorem dX1_findAlone_42 : decode cX1_findAlone 42 = .ok (.return_, 1) := dk_177 (dk_at dksX1_findAlone_1 20 rfl rfl)
abbrev cX1_findAlone_2 : ByteArray := prog_1_method_40_code
def yX1_findAlone_2 : MethodName := ⟨RX1, "findAlone", "(IZ)V"⟩
def dkwX1_findAlone_2_8 : List UInt8 := [182, 1, 127, 80, 132, 8, 1, 167, 255, 158, 132, 7, 1, 167, 255, 137, 132, 5, 255, 167, 255, 95, 177]
abbrev dktX1_findAlone_2_8 : List UInt8 := dkwX1_findAlone_2_8 ++ []
def dkwX1_findAlone_2_7 : List UInt8 := [182, 1, 118, 27, 182, 1, 123, 167, 0, 20, 42, 25, 4, 21, 9, 27, 42, 21, 6, 21, 9, 182, 1, 111]
abbrev dktX1_findAlone_2_7 : List UInt8 := dkwX1_findAlone_2_7 ++ dktX1_findAlone_2_8
def dkwX1_findAlone_2_6 : List UInt8 := [21, 6, 27, 160, 0, 29, 25, 4, 21, 9, 25, 4, 21, 9, 27, 42, 27, 21, 9, 182, 1, 111]
abbrev dktX1_findAlone_2_6 : List UInt8 := dkwX1_findAlone_2_6 ++ dktX1_findAlone_2_7
def dkwX1_findAlone_2_5 : List UInt8 := [54, 9, 45, 21, 9, 42, 21, 9, 182, 1, 93, 153, 0, 13, 42, 27, 21, 9, 182, 1, 114, 167, 0, 52]
abbrev dktX1_findAlone_2_5 : List UInt8 := dkwX1_findAlone_2_5 ++ dktX1_findAlone_2_6
def dkwX1_findAlone_2_4 : List UInt8 := [3, 54, 8, 21, 8, 42, 180, 0, 12, 180, 0, 208, 162, 0, 92, 21, 8, 21, 5, 21, 7, 184, 1, 37]
abbrev dktX1_findAlone_2_4 : List UInt8 := dkwX1_findAlone_2_4 ++ dktX1_findAlone_2_5
def dkwX1_findAlone_2_3 : List UInt8 := [182, 1, 34, 167, 0, 4, 27, 54, 6, 3, 54, 7, 21, 7, 42, 180, 0, 12, 180, 0, 246, 163, 0, 113]
abbrev dktX1_findAlone_2_3 : List UInt8 := dkwX1_findAlone_2_3 ++ dktX1_findAlone_2_4
def dkwX1_findAlone_2_2 : List UInt8 := [155, 0, 162, 28, 153, 0, 24, 21, 5, 42, 180, 0, 12, 180, 0, 237, 162, 0, 12, 42, 21, 5]
abbrev dktX1_findAlone_2_2 : List UInt8 := dkwX1_findAlone_2_2 ++ dktX1_findAlone_2_3
def dkwX1_findAlone_2_1 : List UInt8 := [42, 180, 0, 80, 167, 0, 7, 42, 180, 0, 73, 58, 4, 42, 180, 0, 12, 180, 0, 237, 54, 5, 21, 5]
abbrev dktX1_findAlone_2_1 : List UInt8 := dkwX1_findAlone_2_1 ++ dktX1_findAlone_2_2
def dkwX1_findAlone_2_0 : List UInt8 := [28, 153, 0, 12, 42, 180, 0, 119, 27, 50, 167, 0, 9, 42, 180, 0, 116, 27, 50, 78, 28, 153, 0, 10]
abbrev dktX1_findAlone_2_0 : List UInt8 := dkwX1_findAlone_2_0 ++ dktX1_findAlone_2_1
theorem dksX1_findAlone_2_0 : cX1_findAlone_2.data.toList.drop 0 = dktX1_findAlone_2_0 := by decide +kernel
theorem dksX1_findAlone_2_1 : cX1_findAlone_2.data.toList.drop 24 = dktX1_findAlone_2_1 := dk_seg dksX1_findAlone_2_0 24 rfl rfl
theorem dksX1_findAlone_2_2 : cX1_findAlone_2.data.toList.drop 48 = dktX1_findAlone_2_2 := dk_seg dksX1_findAlone_2_1 24 rfl rfl
theorem dksX1_findAlone_2_3 : cX1_findAlone_2.data.toList.drop 70 = dktX1_findAlone_2_3 := dk_seg dksX1_findAlone_2_2 22 rfl rfl
theorem dksX1_findAlone_2_4 : cX1_findAlone_2.data.toList.drop 94 = dktX1_findAlone_2_4 := dk_seg dksX1_findAlone_2_3 24 rfl rfl
theorem dksX1_findAlone_2_5 : cX1_findAlone_2.data.toList.drop 118 = dktX1_findAlone_2_5 := dk_seg dksX1_findAlone_2_4 24 rfl rfl
theorem dksX1_findAlone_2_6 : cX1_findAlone_2.data.toList.drop 142 = dktX1_findAlone_2_6 := dk_seg dksX1_findAlone_2_5 24 rfl rfl
theorem dksX1_findAlone_2_7 : cX1_findAlone_2.data.toList.drop 164 = dktX1_findAlone_2_7 := dk_seg dksX1_findAlone_2_6 22 rfl rfl
theorem dksX1_findAlone_2_8 : cX1_findAlone_2.data.toList.drop 188 = dktX1_findAlone_2_8 := dk_seg dksX1_findAlone_2_7 24 rfl rfl
theorem dX1_findAlone_2_0 : decode cX1_findAlone_2 0 = .ok (.iload_n 2, 1) := dk_28 (dk_at dksX1_findAlone_2_0 0 rfl rfl)
theorem dX1_findAlone_2_1 : decode cX1_findAlone_2 1 = .ok (.ifCond .eq 12, 3) := dk_153 0 12 (dk_at dksX1_findAlone_2_0 1 rfl rfl)
theorem dX1_findAlone_2_4 : decode cX1_findAlone_2 4 = .ok (.aload_n 0, 1) := dk_42 (dk_at dksX1_findAlone_2_0 4 rfl rfl)
theorem dX1_findAlone_2_5 : decode cX1_findAlone_2 5 = .ok (.getfield 119, 3) := dk_180 0 119 (dk_at dksX1_findAlone_2_0 5 rfl rfl)
theorem dX1_findAlone_2_8 : decode cX1_findAlone_2 8 = .ok (.iload_n 1, 1) := dk_27 (dk_at dksX1_findAlone_2_0 8 rfl rfl)
theorem dX1_findAlone_2_9 : decode cX1_findAlone_2 9 = .ok (.aaload, 1) := dk_50 (dk_at dksX1_findAlone_2_0 9 rfl rfl)
theorem dX1_findAlone_2_10 : decode cX1_findAlone_2 10 = .ok (.goto 9, 3) := dk_167 0 9 (dk_at dksX1_findAlone_2_0 10 rfl rfl)
theorem dX1_findAlone_2_13 : decode cX1_findAlone_2 13 = .ok (.aload_n 0, 1) := dk_42 (dk_at dksX1_findAlone_2_0 13 rfl rfl)
theorem dX1_findAlone_2_14 : decode cX1_findAlone_2 14 = .ok (.getfield 116, 3) := dk_180 0 116 (dk_at dksX1_findAlone_2_0 14 rfl rfl)
theorem dX1_findAlone_2_17 : decode cX1_findAlone_2 17 = .ok (.iload_n 1, 1) := dk_27 (dk_at dksX1_findAlone_2_0 17 rfl rfl)
theorem dX1_findAlone_2_18 : decode cX1_findAlone_2 18 = .ok (.aaload, 1) := dk_50 (dk_at dksX1_findAlone_2_0 18 rfl rfl)
theorem dX1_findAlone_2_19 : decode cX1_findAlone_2 19 = .ok (.astore_n 3, 1) := dk_78 (dk_at dksX1_findAlone_2_0 19 rfl rfl)
theorem dX1_findAlone_2_20 : decode cX1_findAlone_2 20 = .ok (.iload_n 2, 1) := dk_28 (dk_at dksX1_findAlone_2_0 20 rfl rfl)
theorem dX1_findAlone_2_21 : decode cX1_findAlone_2 21 = .ok (.ifCond .eq 10, 3) := dk_153 0 10 (dk_at dksX1_findAlone_2_0 21 rfl rfl)
theorem dX1_findAlone_2_24 : decode cX1_findAlone_2 24 = .ok (.aload_n 0, 1) := dk_42 (dk_at dksX1_findAlone_2_1 0 rfl rfl)
theorem dX1_findAlone_2_25 : decode cX1_findAlone_2 25 = .ok (.getfield 80, 3) := dk_180 0 80 (dk_at dksX1_findAlone_2_1 1 rfl rfl)
theorem dX1_findAlone_2_28 : decode cX1_findAlone_2 28 = .ok (.goto 7, 3) := dk_167 0 7 (dk_at dksX1_findAlone_2_1 4 rfl rfl)
theorem dX1_findAlone_2_31 : decode cX1_findAlone_2 31 = .ok (.aload_n 0, 1) := dk_42 (dk_at dksX1_findAlone_2_1 7 rfl rfl)
theorem dX1_findAlone_2_32 : decode cX1_findAlone_2 32 = .ok (.getfield 73, 3) := dk_180 0 73 (dk_at dksX1_findAlone_2_1 8 rfl rfl)
theorem dX1_findAlone_2_35 : decode cX1_findAlone_2 35 = .ok (.astore 4, 2) := dk_58 4 (dk_at dksX1_findAlone_2_1 11 rfl rfl)
theorem dX1_findAlone_2_37 : decode cX1_findAlone_2 37 = .ok (.aload_n 0, 1) := dk_42 (dk_at dksX1_findAlone_2_1 13 rfl rfl)
theorem dX1_findAlone_2_38 : decode cX1_findAlone_2 38 = .ok (.getfield 12, 3) := dk_180 0 12 (dk_at dksX1_findAlone_2_1 14 rfl rfl)
theorem dX1_findAlone_2_41 : decode cX1_findAlone_2 41 = .ok (.getfield 237, 3) := dk_180 0 237 (dk_at dksX1_findAlone_2_1 17 rfl rfl)
theorem dX1_findAlone_2_44 : decode cX1_findAlone_2 44 = .ok (.istore 5, 2) := dk_54 5 (dk_at dksX1_findAlone_2_1 20 rfl rfl)
theorem dX1_findAlone_2_46 : decode cX1_findAlone_2 46 = .ok (.iload 5, 2) := dk_21 5 (dk_at dksX1_findAlone_2_1 22 rfl rfl)
theorem dX1_findAlone_2_48 : decode cX1_findAlone_2 48 = .ok (.ifCond .lt 162, 3) := dk_155 0 162 (dk_at dksX1_findAlone_2_2 0 rfl rfl)
theorem dX1_findAlone_2_51 : decode cX1_findAlone_2 51 = .ok (.iload_n 2, 1) := dk_28 (dk_at dksX1_findAlone_2_2 3 rfl rfl)
theorem dX1_findAlone_2_52 : decode cX1_findAlone_2 52 = .ok (.ifCond .eq 24, 3) := dk_153 0 24 (dk_at dksX1_findAlone_2_2 4 rfl rfl)
theorem dX1_findAlone_2_55 : decode cX1_findAlone_2 55 = .ok (.iload 5, 2) := dk_21 5 (dk_at dksX1_findAlone_2_2 7 rfl rfl)
theorem dX1_findAlone_2_57 : decode cX1_findAlone_2 57 = .ok (.aload_n 0, 1) := dk_42 (dk_at dksX1_findAlone_2_2 9 rfl rfl)
theorem dX1_findAlone_2_58 : decode cX1_findAlone_2 58 = .ok (.getfield 12, 3) := dk_180 0 12 (dk_at dksX1_findAlone_2_2 10 rfl rfl)
theorem dX1_findAlone_2_61 : decode cX1_findAlone_2 61 = .ok (.getfield 237, 3) := dk_180 0 237 (dk_at dksX1_findAlone_2_2 13 rfl rfl)
theorem dX1_findAlone_2_64 : decode cX1_findAlone_2 64 = .ok (.if_icmp .ge 12, 3) := dk_162 0 12 (dk_at dksX1_findAlone_2_2 16 rfl rfl)
theorem dX1_findAlone_2_67 : decode cX1_findAlone_2 67 = .ok (.aload_n 0, 1) := dk_42 (dk_at dksX1_findAlone_2_2 19 rfl rfl)
theorem dX1_findAlone_2_68 : decode cX1_findAlone_2 68 = .ok (.iload 5, 2) := dk_21 5 (dk_at dksX1_findAlone_2_2 20 rfl rfl)
theorem dX1_findAlone_2_70 : decode cX1_findAlone_2 70 = .ok (.invokevirtual 290, 3) := dk_182 1 34 (dk_at dksX1_findAlone_2_3 0 rfl rfl)
theorem dX1_findAlone_2_73 : decode cX1_findAlone_2 73 = .ok (.goto 4, 3) := dk_167 0 4 (dk_at dksX1_findAlone_2_3 3 rfl rfl)
theorem dX1_findAlone_2_76 : decode cX1_findAlone_2 76 = .ok (.iload_n 1, 1) := dk_27 (dk_at dksX1_findAlone_2_3 6 rfl rfl)
theorem dX1_findAlone_2_77 : decode cX1_findAlone_2 77 = .ok (.istore 6, 2) := dk_54 6 (dk_at dksX1_findAlone_2_3 7 rfl rfl)
theorem dX1_findAlone_2_79 : decode cX1_findAlone_2 79 = .ok (.iconst 0, 1) := dk_3 (dk_at dksX1_findAlone_2_3 9 rfl rfl)
theorem dX1_findAlone_2_80 : decode cX1_findAlone_2 80 = .ok (.istore 7, 2) := dk_54 7 (dk_at dksX1_findAlone_2_3 10 rfl rfl)
theorem dX1_findAlone_2_82 : decode cX1_findAlone_2 82 = .ok (.iload 7, 2) := dk_21 7 (dk_at dksX1_findAlone_2_3 12 rfl rfl)
theorem dX1_findAlone_2_84 : decode cX1_findAlone_2 84 = .ok (.aload_n 0, 1) := dk_42 (dk_at dksX1_findAlone_2_3 14 rfl rfl)
theorem dX1_findAlone_2_85 : decode cX1_findAlone_2 85 = .ok (.getfield 12, 3) := dk_180 0 12 (dk_at dksX1_findAlone_2_3 15 rfl rfl)
theorem dX1_findAlone_2_88 : decode cX1_findAlone_2 88 = .ok (.getfield 246, 3) := dk_180 0 246 (dk_at dksX1_findAlone_2_3 18 rfl rfl)
theorem dX1_findAlone_2_91 : decode cX1_findAlone_2 91 = .ok (.if_icmp .gt 113, 3) := dk_163 0 113 (dk_at dksX1_findAlone_2_3 21 rfl rfl)
theorem dX1_findAlone_2_94 : decode cX1_findAlone_2 94 = .ok (.iconst 0, 1) := dk_3 (dk_at dksX1_findAlone_2_4 0 rfl rfl)
theorem dX1_findAlone_2_95 : decode cX1_findAlone_2 95 = .ok (.istore 8, 2) := dk_54 8 (dk_at dksX1_findAlone_2_4 1 rfl rfl)
theorem dX1_findAlone_2_97 : decode cX1_findAlone_2 97 = .ok (.iload 8, 2) := dk_21 8 (dk_at dksX1_findAlone_2_4 3 rfl rfl)
theorem dX1_findAlone_2_99 : decode cX1_findAlone_2 99 = .ok (.aload_n 0, 1) := dk_42 (dk_at dksX1_findAlone_2_4 5 rfl rfl)
theorem dX1_findAlone_2_100 : decode cX1_findAlone_2 100 = .ok (.getfield 12, 3) := dk_180 0 12 (dk_at dksX1_findAlone_2_4 6 rfl rfl)
theorem dX1_findAlone_2_103 : decode cX1_findAlone_2 103 = .ok (.getfield 208, 3) := dk_180 0 208 (dk_at dksX1_findAlone_2_4 9 rfl rfl)
theorem dX1_findAlone_2_106 : decode cX1_findAlone_2 106 = .ok (.if_icmp .ge 92, 3) := dk_162 0 92 (dk_at dksX1_findAlone_2_4 12 rfl rfl)
theorem dX1_findAlone_2_109 : decode cX1_findAlone_2 109 = .ok (.iload 8, 2) := dk_21 8 (dk_at dksX1_findAlone_2_4 15 rfl rfl)
theorem dX1_findAlone_2_111 : decode cX1_findAlone_2 111 = .ok (.iload 5, 2) := dk_21 5 (dk_at dksX1_findAlone_2_4 17 rfl rfl)
theorem dX1_findAlone_2_113 : decode cX1_findAlone_2 113 = .ok (.iload 7, 2) := dk_21 7 (dk_at dksX1_findAlone_2_4 19 rfl rfl)
theorem dX1_findAlone_2_115 : decode cX1_findAlone_2 115 = .ok (.invokestatic 293, 3) := dk_184 1 37 (dk_at dksX1_findAlone_2_4 21 rfl rfl)
theorem dX1_findAlone_2_118 : decode cX1_findAlone_2 118 = .ok (.istore 9, 2) := dk_54 9 (dk_at dksX1_findAlone_2_5 0 rfl rfl)
theorem dX1_findAlone_2_120 : decode cX1_findAlone_2 120 = .ok (.aload_n 3, 1) := dk_45 (dk_at dksX1_findAlone_2_5 2 rfl rfl)
theorem dX1_findAlone_2_121 : decode cX1_findAlone_2 121 = .ok (.iload 9, 2) := dk_21 9 (dk_at dksX1_findAlone_2_5 3 rfl rfl)
theorem dX1_findAlone_2_123 : decode cX1_findAlone_2 123 = .ok (.aload_n 0, 1) := dk_42 (dk_at dksX1_findAlone_2_5 5 rfl rfl)
theorem dX1_findAlone_2_124 : decode cX1_findAlone_2 124 = .ok (.iload 9, 2) := dk_21 9 (dk_at dksX1_findAlone_2_5 6 rfl rfl)
theorem dX1_findAlone_2_126 : decode cX1_findAlone_2 126 = .ok (.invokevirtual 349, 3) := dk_182 1 93 (dk_at dksX1_findAlone_2_5 8 rfl rfl)
theorem dX1_findAlone_2_129 : decode cX1_findAlone_2 129 = .ok (.ifCond .eq 13, 3) := dk_153 0 13 (dk_at dksX1_findAlone_2_5 11 rfl rfl)
theorem dX1_findAlone_2_132 : decode cX1_findAlone_2 132 = .ok (.aload_n 0, 1) := dk_42 (dk_at dksX1_findAlone_2_5 14 rfl rfl)
theorem dX1_findAlone_2_133 : decode cX1_findAlone_2 133 = .ok (.iload_n 1, 1) := dk_27 (dk_at dksX1_findAlone_2_5 15 rfl rfl)
theorem dX1_findAlone_2_134 : decode cX1_findAlone_2 134 = .ok (.iload 9, 2) := dk_21 9 (dk_at dksX1_findAlone_2_5 16 rfl rfl)
theorem dX1_findAlone_2_136 : decode cX1_findAlone_2 136 = .ok (.invokevirtual 370, 3) := dk_182 1 114 (dk_at dksX1_findAlone_2_5 18 rfl rfl)
theorem dX1_findAlone_2_139 : decode cX1_findAlone_2 139 = .ok (.goto 52, 3) := dk_167 0 52 (dk_at dksX1_findAlone_2_5 21 rfl rfl)
theorem dX1_findAlone_2_142 : decode cX1_findAlone_2 142 = .ok (.iload 6, 2) := dk_21 6 (dk_at dksX1_findAlone_2_6 0 rfl rfl)
theorem dX1_findAlone_2_144 : decode cX1_findAlone_2 144 = .ok (.iload_n 1, 1) := dk_27 (dk_at dksX1_findAlone_2_6 2 rfl rfl)
theorem dX1_findAlone_2_145 : decode cX1_findAlone_2 145 = .ok (.if_icmp .ne 29, 3) := dk_160 0 29 (dk_at dksX1_findAlone_2_6 3 rfl rfl)
theorem dX1_findAlone_2_148 : decode cX1_findAlone_2 148 = .ok (.aload 4, 2) := dk_25 4 (dk_at dksX1_findAlone_2_6 6 rfl rfl)
theorem dX1_findAlone_2_150 : decode cX1_findAlone_2 150 = .ok (.iload 9, 2) := dk_21 9 (dk_at dksX1_findAlone_2_6 8 rfl rfl)
theorem dX1_findAlone_2_152 : decode cX1_findAlone_2 152 = .ok (.aload 4, 2) := dk_25 4 (dk_at dksX1_findAlone_2_6 10 rfl rfl)
theorem dX1_findAlone_2_154 : decode cX1_findAlone_2 154 = .ok (.iload 9, 2) := dk_21 9 (dk_at dksX1_findAlone_2_6 12 rfl rfl)
theorem dX1_findAlone_2_156 : decode cX1_findAlone_2 156 = .ok (.iload_n 1, 1) := dk_27 (dk_at dksX1_findAlone_2_6 14 rfl rfl)
theorem dX1_findAlone_2_157 : decode cX1_findAlone_2 157 = .ok (.aload_n 0, 1) := dk_42 (dk_at dksX1_findAlone_2_6 15 rfl rfl)
theorem dX1_findAlone_2_158 : decode cX1_findAlone_2 158 = .ok (.iload_n 1, 1) := dk_27 (dk_at dksX1_findAlone_2_6 16 rfl rfl)
theorem dX1_findAlone_2_159 : decode cX1_findAlone_2 159 = .ok (.iload 9, 2) := dk_21 9 (dk_at dksX1_findAlone_2_6 17 rfl rfl)
theorem dX1_findAlone_2_161 : decode cX1_findAlone_2 161 = .ok (.invokevirtual 367, 3) := dk_182 1 111 (dk_at dksX1_findAlone_2_6 19 rfl rfl)
theorem dX1_findAlone_2_164 : decode cX1_findAlone_2 164 = .ok (.invokevirtual 374, 3) := dk_182 1 118 (dk_at dksX1_findAlone_2_7 0 rfl rfl)
theorem dX1_findAlone_2_167 : decode cX1_findAlone_2 167 = .ok (.iload_n 1, 1) := dk_27 (dk_at dksX1_findAlone_2_7 3 rfl rfl)
theorem dX1_findAlone_2_168 : decode cX1_findAlone_2 168 = .ok (.invokevirtual 379, 3) := dk_182 1 123 (dk_at dksX1_findAlone_2_7 4 rfl rfl)
theorem dX1_findAlone_2_171 : decode cX1_findAlone_2 171 = .ok (.goto 20, 3) := dk_167 0 20 (dk_at dksX1_findAlone_2_7 7 rfl rfl)
theorem dX1_findAlone_2_174 : decode cX1_findAlone_2 174 = .ok (.aload_n 0, 1) := dk_42 (dk_at dksX1_findAlone_2_7 10 rfl rfl)
theorem dX1_findAlone_2_175 : decode cX1_findAlone_2 175 = .ok (.aload 4, 2) := dk_25 4 (dk_at dksX1_findAlone_2_7 11 rfl rfl)
theorem dX1_findAlone_2_177 : decode cX1_findAlone_2 177 = .ok (.iload 9, 2) := dk_21 9 (dk_at dksX1_findAlone_2_7 13 rfl rfl)
theorem dX1_findAlone_2_179 : decode cX1_findAlone_2 179 = .ok (.iload_n 1, 1) := dk_27 (dk_at dksX1_findAlone_2_7 15 rfl rfl)
theorem dX1_findAlone_2_180 : decode cX1_findAlone_2 180 = .ok (.aload_n 0, 1) := dk_42 (dk_at dksX1_findAlone_2_7 16 rfl rfl)
theorem dX1_findAlone_2_181 : decode cX1_findAlone_2 181 = .ok (.iload 6, 2) := dk_21 6 (dk_at dksX1_findAlone_2_7 17 rfl rfl)
theorem dX1_findAlone_2_183 : decode cX1_findAlone_2 183 = .ok (.iload 9, 2) := dk_21 9 (dk_at dksX1_findAlone_2_7 19 rfl rfl)
theorem dX1_findAlone_2_185 : decode cX1_findAlone_2 185 = .ok (.invokevirtual 367, 3) := dk_182 1 111 (dk_at dksX1_findAlone_2_7 21 rfl rfl)
theorem dX1_findAlone_2_188 : decode cX1_findAlone_2 188 = .ok (.invokevirtual 383, 3) := dk_182 1 127 (dk_at dksX1_findAlone_2_8 0 rfl rfl)
theorem dX1_findAlone_2_191 : decode cX1_findAlone_2 191 = .ok (.lastore, 1) := dk_80 (dk_at dksX1_findAlone_2_8 3 rfl rfl)
theorem dX1_findAlone_2_192 : decode cX1_findAlone_2 192 = .ok (.iinc 8 1, 3) := dk_132 8 1 (dk_at dksX1_findAlone_2_8 4 rfl rfl)
theorem dX1_findAlone_2_195 : decode cX1_findAlone_2 195 = .ok (.goto (-98), 3) := dk_167 255 158 (dk_at dksX1_findAlone_2_8 7 rfl rfl)
theorem dX1_findAlone_2_198 : decode cX1_findAlone_2 198 = .ok (.iinc 7 1, 3) := dk_132 7 1 (dk_at dksX1_findAlone_2_8 10 rfl rfl)
theorem dX1_findAlone_2_201 : decode cX1_findAlone_2 201 = .ok (.goto (-119), 3) := dk_167 255 137 (dk_at dksX1_findAlone_2_8 13 rfl rfl)
theorem dX1_findAlone_2_204 : decode cX1_findAlone_2 204 = .ok (.iinc 5 (-1), 3) := dk_132 5 255 (dk_at dksX1_findAlone_2_8 16 rfl rfl)
theorem dX1_findAlone_2_207 : decode cX1_findAlone_2 207 = .ok (.goto (-161), 3) := dk_167 255 95 (dk_at dksX1_findAlone_2_8 19 rfl rfl)
theorem dX1_findAlone_2_210 : decode cX1_findAlone_2 210 = .ok (.return_, 1) := dk_177 (dk_at dksX1_findAlone_2_8 22 rfl rfl)
abbrev cX1_endsWith : ByteArray := prog_1_method_39_code
def yX1_endsWith : MethodName := ⟨RX1, "endsWith", "(II)J"⟩
def dkwX1_endsWith_2 : List UInt8 := [184, 1, 50, 104, 100, 133, 42, 180, 0, 57, 28, 184, 1, 50, 47, 105, 173]
abbrev dktX1_endsWith_2 : List UInt8 := dkwX1_endsWith_2 ++ []
def dkwX1_endsWith_1 : List UInt8 := [180, 1, 16, 27, 50, 28, 184, 1, 44, 46, 62, 29, 42, 180, 0, 12, 180, 1, 13, 27, 46, 28]
abbrev dktX1_endsWith_1 : List UInt8 := dkwX1_endsWith_1 ++ dktX1_endsWith_2
def dkwX1_endsWith_0 : List UInt8 := [42, 28, 182, 1, 93, 5, 160, 0, 14, 42, 180, 0, 12, 180, 0, 249, 116, 167, 0, 17, 42, 180, 0, 12]
abbrev dktX1_endsWith_0 : List UInt8 := dkwX1_endsWith_0 ++ dktX1_endsWith_1
theorem dksX1_endsWith_0 : cX1_endsWith.data.toList.drop 0 = dktX1_endsWith_0 := by decide +kernel
theorem dksX1_endsWith_1 : cX1_endsWith.data.toList.drop 24 = dktX1_endsWith_1 := dk_seg dksX1_endsWith_0 24 rfl rfl
theorem dksX1_endsWith_2 : cX1_endsWith.data.toList.drop 46 = dktX1_endsWith_2 := dk_seg dksX1_endsWith_1 22 rfl rfl
theorem dX1_endsWith_0 : decode cX1_endsWith 0 = .ok (.aload_n 0, 1) := dk_42 (dk_at dksX1_endsWith_0 0 rfl rfl)
theorem dX1_endsWith_1 : decode cX1_endsWith 1 = .ok (.iload_n 2, 1) := dk_28 (dk_at dksX1_endsWith_0 1 rfl rfl)
theorem dX1_endsWith_2 : decode cX1_endsWith 2 = .ok (.invokevirtual 349, 3) := dk_182 1 93 (dk_at dksX1_endsWith_0 2 rfl rfl)
theorem dX1_endsWith_5 : decode cX1_endsWith 5 = .ok (.iconst 2, 1) := dk_5 (dk_at dksX1_endsWith_0 5 rfl rfl)
theorem dX1_endsWith_6 : decode cX1_endsWith 6 = .ok (.if_icmp .ne 14, 3) := dk_160 0 14 (dk_at dksX1_endsWith_0 6 rfl rfl)
theorem dX1_endsWith_9 : decode cX1_endsWith 9 = .ok (.aload_n 0, 1) := dk_42 (dk_at dksX1_endsWith_0 9 rfl rfl)
theorem dX1_endsWith_10 : decode cX1_endsWith 10 = .ok (.getfield 12, 3) := dk_180 0 12 (dk_at dksX1_endsWith_0 10 rfl rfl)
theorem dX1_endsWith_13 : decode cX1_endsWith 13 = .ok (.getfield 249, 3) := dk_180 0 249 (dk_at dksX1_endsWith_0 13 rfl rfl)
theorem dX1_endsWith_16 : decode cX1_endsWith 16 = .ok (.ineg, 1) := dk_116 (dk_at dksX1_endsWith_0 16 rfl rfl)
theorem dX1_endsWith_17 : decode cX1_endsWith 17 = .ok (.goto 17, 3) := dk_167 0 17 (dk_at dksX1_endsWith_0 17 rfl rfl)
theorem dX1_endsWith_20 : decode cX1_endsWith 20 = .ok (.aload_n 0, 1) := dk_42 (dk_at dksX1_endsWith_0 20 rfl rfl)
theorem dX1_endsWith_21 : decode cX1_endsWith 21 = .ok (.getfield 12, 3) := dk_180 0 12 (dk_at dksX1_endsWith_0 21 rfl rfl)
theorem dX1_endsWith_24 : decode cX1_endsWith 24 = .ok (.getfield 272, 3) := dk_180 1 16 (dk_at dksX1_endsWith_1 0 rfl rfl)
theorem dX1_endsWith_27 : decode cX1_endsWith 27 = .ok (.iload_n 1, 1) := dk_27 (dk_at dksX1_endsWith_1 3 rfl rfl)
theorem dX1_endsWith_28 : decode cX1_endsWith 28 = .ok (.aaload, 1) := dk_50 (dk_at dksX1_endsWith_1 4 rfl rfl)
theorem dX1_endsWith_29 : decode cX1_endsWith 29 = .ok (.iload_n 2, 1) := dk_28 (dk_at dksX1_endsWith_1 5 rfl rfl)
theorem dX1_endsWith_30 : decode cX1_endsWith 30 = .ok (.invokestatic 300, 3) := dk_184 1 44 (dk_at dksX1_endsWith_1 6 rfl rfl)
theorem dX1_endsWith_33 : decode cX1_endsWith 33 = .ok (.iaload, 1) := dk_46 (dk_at dksX1_endsWith_1 9 rfl rfl)
theorem dX1_endsWith_34 : decode cX1_endsWith 34 = .ok (.istore_n 3, 1) := dk_62 (dk_at dksX1_endsWith_1 10 rfl rfl)
theorem dX1_endsWith_35 : decode cX1_endsWith 35 = .ok (.iload_n 3, 1) := dk_29 (dk_at dksX1_endsWith_1 11 rfl rfl)
theorem dX1_endsWith_36 : decode cX1_endsWith 36 = .ok (.aload_n 0, 1) := dk_42 (dk_at dksX1_endsWith_1 12 rfl rfl)
theorem dX1_endsWith_37 : decode cX1_endsWith 37 = .ok (.getfield 12, 3) := dk_180 0 12 (dk_at dksX1_endsWith_1 13 rfl rfl)
theorem dX1_endsWith_40 : decode cX1_endsWith 40 = .ok (.getfield 269, 3) := dk_180 1 13 (dk_at dksX1_endsWith_1 16 rfl rfl)
theorem dX1_endsWith_43 : decode cX1_endsWith 43 = .ok (.iload_n 1, 1) := dk_27 (dk_at dksX1_endsWith_1 19 rfl rfl)
theorem dX1_endsWith_44 : decode cX1_endsWith 44 = .ok (.iaload, 1) := dk_46 (dk_at dksX1_endsWith_1 20 rfl rfl)
theorem dX1_endsWith_45 : decode cX1_endsWith 45 = .ok (.iload_n 2, 1) := dk_28 (dk_at dksX1_endsWith_1 21 rfl rfl)
theorem dX1_endsWith_46 : decode cX1_endsWith 46 = .ok (.invokestatic 306, 3) := dk_184 1 50 (dk_at dksX1_endsWith_2 0 rfl rfl)
theorem dX1_endsWith_49 : decode cX1_endsWith 49 = .ok (.imul, 1) := dk_104 (dk_at dksX1_endsWith_2 3 rfl rfl)
theorem dX1_endsWith_50 : decode cX1_endsWith 50 = .ok (.isub, 1) := dk_100 (dk_at dksX1_endsWith_2 4 rfl rfl)
theorem dX1_endsWith_51 : decode cX1_endsWith 51 = .ok (.i2l, 1) := dk_133 (dk_at dksX1_endsWith_2 5 rfl rfl)
theorem dX1_endsWith_52 : decode cX1_endsWith 52 = .ok (.aload_n 0, 1) := dk_42 (dk_at dksX1_endsWith_2 6 rfl rfl)
theorem dX1_endsWith_53 : decode cX1_endsWith 53 = .ok (.getfield 57, 3) := dk_180 0 57 (dk_at dksX1_endsWith_2 7 rfl rfl)
theorem dX1_endsWith_56 : decode cX1_endsWith 56 = .ok (.iload_n 2, 1) := dk_28 (dk_at dksX1_endsWith_2 10 rfl rfl)
theorem dX1_endsWith_57 : decode cX1_endsWith 57 = .ok (.invokestatic 306, 3) := dk_184 1 50 (dk_at dksX1_endsWith_2 11 rfl rfl)
theorem dX1_endsWith_60 : decode cX1_endsWith 60 = .ok (.laload, 1) := dk_47 (dk_at dksX1_endsWith_2 14 rfl rfl)
theorem dX1_endsWith_61 : decode cX1_endsWith 61 = .ok (.lmul, 1) := dk_105 (dk_at dksX1_endsWith_2 15 rfl rfl)
theorem dX1_endsWith_62 : decode cX1_endsWith 62 = .ok (.lreturn, 1) := dk_173 (dk_at dksX1_endsWith_2 16 rfl rfl)
abbrev cX1_behind : ByteArray := prog_1_method_32_code
def yX1_behind : MethodName := ⟨RX1, "behind", "(II)I"⟩
def dkwX1_behind_2 : List UInt8 := [180, 0, 12, 180, 0, 246, 167, 0, 9, 27, 184, 1, 47, 4, 100, 184, 1, 37, 172]
abbrev dktX1_behind_2 : List UInt8 := dkwX1_behind_2 ++ []
def dkwX1_behind_1 : List UInt8 := [54, 4, 21, 4, 27, 184, 1, 50, 4, 96, 42, 180, 0, 12, 180, 1, 57, 21, 4, 51, 153, 0, 13, 42]
abbrev dktX1_behind_1 : List UInt8 := dkwX1_behind_1 ++ dktX1_behind_2
def dkwX1_behind_0 : List UInt8 := [27, 184, 1, 44, 62, 28, 154, 0, 7, 29, 167, 0, 14, 42, 180, 0, 12, 28, 4, 100, 29, 182, 1, 53]
abbrev dktX1_behind_0 : List UInt8 := dkwX1_behind_0 ++ dktX1_behind_1
theorem dksX1_behind_0 : cX1_behind.data.toList.drop 0 = dktX1_behind_0 := by decide +kernel
theorem dksX1_behind_1 : cX1_behind.data.toList.drop 24 = dktX1_behind_1 := dk_seg dksX1_behind_0 24 rfl rfl
theorem dksX1_behind_2 : cX1_behind.data.toList.drop 48 = dktX1_behind_2 := dk_seg dksX1_behind_1 24 rfl rfl
theorem dX1_behind_0 : decode cX1_behind 0 = .ok (.iload_n 1, 1) := dk_27 (dk_at dksX1_behind_0 0 rfl rfl)
theorem dX1_behind_1 : decode cX1_behind 1 = .ok (.invokestatic 300, 3) := dk_184 1 44 (dk_at dksX1_behind_0 1 rfl rfl)
theorem dX1_behind_4 : decode cX1_behind 4 = .ok (.istore_n 3, 1) := dk_62 (dk_at dksX1_behind_0 4 rfl rfl)
theorem dX1_behind_5 : decode cX1_behind 5 = .ok (.iload_n 2, 1) := dk_28 (dk_at dksX1_behind_0 5 rfl rfl)
theorem dX1_behind_6 : decode cX1_behind 6 = .ok (.ifCond .ne 7, 3) := dk_154 0 7 (dk_at dksX1_behind_0 6 rfl rfl)
theorem dX1_behind_9 : decode cX1_behind 9 = .ok (.iload_n 3, 1) := dk_29 (dk_at dksX1_behind_0 9 rfl rfl)
theorem dX1_behind_10 : decode cX1_behind 10 = .ok (.goto 14, 3) := dk_167 0 14 (dk_at dksX1_behind_0 10 rfl rfl)
theorem dX1_behind_13 : decode cX1_behind 13 = .ok (.aload_n 0, 1) := dk_42 (dk_at dksX1_behind_0 13 rfl rfl)
theorem dX1_behind_14 : decode cX1_behind 14 = .ok (.getfield 12, 3) := dk_180 0 12 (dk_at dksX1_behind_0 14 rfl rfl)
theorem dX1_behind_17 : decode cX1_behind 17 = .ok (.iload_n 2, 1) := dk_28 (dk_at dksX1_behind_0 17 rfl rfl)
theorem dX1_behind_18 : decode cX1_behind 18 = .ok (.iconst 1, 1) := dk_4 (dk_at dksX1_behind_0 18 rfl rfl)
theorem dX1_behind_19 : decode cX1_behind 19 = .ok (.isub, 1) := dk_100 (dk_at dksX1_behind_0 19 rfl rfl)
theorem dX1_behind_20 : decode cX1_behind 20 = .ok (.iload_n 3, 1) := dk_29 (dk_at dksX1_behind_0 20 rfl rfl)
theorem dX1_behind_21 : decode cX1_behind 21 = .ok (.invokevirtual 309, 3) := dk_182 1 53 (dk_at dksX1_behind_0 21 rfl rfl)
theorem dX1_behind_24 : decode cX1_behind 24 = .ok (.istore 4, 2) := dk_54 4 (dk_at dksX1_behind_1 0 rfl rfl)
theorem dX1_behind_26 : decode cX1_behind 26 = .ok (.iload 4, 2) := dk_21 4 (dk_at dksX1_behind_1 2 rfl rfl)
theorem dX1_behind_28 : decode cX1_behind 28 = .ok (.iload_n 1, 1) := dk_27 (dk_at dksX1_behind_1 4 rfl rfl)
theorem dX1_behind_29 : decode cX1_behind 29 = .ok (.invokestatic 306, 3) := dk_184 1 50 (dk_at dksX1_behind_1 5 rfl rfl)
theorem dX1_behind_32 : decode cX1_behind 32 = .ok (.iconst 1, 1) := dk_4 (dk_at dksX1_behind_1 8 rfl rfl)
theorem dX1_behind_33 : decode cX1_behind 33 = .ok (.iadd, 1) := dk_96 (dk_at dksX1_behind_1 9 rfl rfl)
theorem dX1_behind_34 : decode cX1_behind 34 = .ok (.aload_n 0, 1) := dk_42 (dk_at dksX1_behind_1 10 rfl rfl)
theorem dX1_behind_35 : decode cX1_behind 35 = .ok (.getfield 12, 3) := dk_180 0 12 (dk_at dksX1_behind_1 11 rfl rfl)
theorem dX1_behind_38 : decode cX1_behind 38 = .ok (.getfield 313, 3) := dk_180 1 57 (dk_at dksX1_behind_1 14 rfl rfl)
theorem dX1_behind_41 : decode cX1_behind 41 = .ok (.iload 4, 2) := dk_21 4 (dk_at dksX1_behind_1 17 rfl rfl)
theorem dX1_behind_43 : decode cX1_behind 43 = .ok (.baload, 1) := dk_51 (dk_at dksX1_behind_1 19 rfl rfl)
theorem dX1_behind_44 : decode cX1_behind 44 = .ok (.ifCond .eq 13, 3) := dk_153 0 13 (dk_at dksX1_behind_1 20 rfl rfl)
theorem dX1_behind_47 : decode cX1_behind 47 = .ok (.aload_n 0, 1) := dk_42 (dk_at dksX1_behind_1 23 rfl rfl)
theorem dX1_behind_48 : decode cX1_behind 48 = .ok (.getfield 12, 3) := dk_180 0 12 (dk_at dksX1_behind_2 0 rfl rfl)
theorem dX1_behind_51 : decode cX1_behind 51 = .ok (.getfield 246, 3) := dk_180 0 246 (dk_at dksX1_behind_2 3 rfl rfl)
theorem dX1_behind_54 : decode cX1_behind 54 = .ok (.goto 9, 3) := dk_167 0 9 (dk_at dksX1_behind_2 6 rfl rfl)
theorem dX1_behind_57 : decode cX1_behind 57 = .ok (.iload_n 1, 1) := dk_27 (dk_at dksX1_behind_2 9 rfl rfl)
theorem dX1_behind_58 : decode cX1_behind 58 = .ok (.invokestatic 303, 3) := dk_184 1 47 (dk_at dksX1_behind_2 10 rfl rfl)
theorem dX1_behind_61 : decode cX1_behind 61 = .ok (.iconst 1, 1) := dk_4 (dk_at dksX1_behind_2 13 rfl rfl)
theorem dX1_behind_62 : decode cX1_behind 62 = .ok (.isub, 1) := dk_100 (dk_at dksX1_behind_2 14 rfl rfl)
theorem dX1_behind_63 : decode cX1_behind 63 = .ok (.invokestatic 293, 3) := dk_184 1 37 (dk_at dksX1_behind_2 15 rfl rfl)
theorem dX1_behind_66 : decode cX1_behind 66 = .ok (.ireturn, 1) := dk_172 (dk_at dksX1_behind_2 18 rfl rfl)
abbrev cX1_worstOf : ByteArray := prog_1_method_41_code
def yX1_worstOf : MethodName := ⟨RX1, "worstOf", "(LGlassLeaders$Weighing;III)J"⟩
def dkwX1_worstOf_2 : List UInt8 := [132, 7, 1, 167, 255, 215, 22, 5, 173]
abbrev dktX1_worstOf_2 : List UInt8 := dkwX1_worstOf_2 ++ []
def dkwX1_worstOf_1 : List UInt8 := [122, 4, 126, 4, 160, 0, 18, 22, 5, 43, 28, 21, 7, 29, 182, 1, 123, 184, 1, 135, 55, 5]
abbrev dktX1_worstOf_1 : List UInt8 := dkwX1_worstOf_1 ++ dktX1_worstOf_2
def dkwX1_worstOf_0 : List UInt8 := [20, 1, 133, 55, 5, 3, 54, 7, 21, 7, 42, 180, 0, 12, 180, 0, 243, 163, 0, 35, 21, 4, 21, 7]
abbrev dktX1_worstOf_0 : List UInt8 := dkwX1_worstOf_0 ++ dktX1_worstOf_1
theorem dksX1_worstOf_0 : cX1_worstOf.data.toList.drop 0 = dktX1_worstOf_0 := by decide +kernel
theorem dksX1_worstOf_1 : cX1_worstOf.data.toList.drop 24 = dktX1_worstOf_1 := dk_seg dksX1_worstOf_0 24 rfl rfl
theorem dksX1_worstOf_2 : cX1_worstOf.data.toList.drop 46 = dktX1_worstOf_2 := dk_seg dksX1_worstOf_1 22 rfl rfl
theorem dX1_worstOf_0 : decode cX1_worstOf 0 = .ok (.ldc2_w 389, 3) := dk_20 1 133 (dk_at dksX1_worstOf_0 0 rfl rfl)
theorem dX1_worstOf_3 : decode cX1_worstOf 3 = .ok (.lstore 5, 2) := dk_55 5 (dk_at dksX1_worstOf_0 3 rfl rfl)
theorem dX1_worstOf_5 : decode cX1_worstOf 5 = .ok (.iconst 0, 1) := dk_3 (dk_at dksX1_worstOf_0 5 rfl rfl)
theorem dX1_worstOf_6 : decode cX1_worstOf 6 = .ok (.istore 7, 2) := dk_54 7 (dk_at dksX1_worstOf_0 6 rfl rfl)
theorem dX1_worstOf_8 : decode cX1_worstOf 8 = .ok (.iload 7, 2) := dk_21 7 (dk_at dksX1_worstOf_0 8 rfl rfl)
theorem dX1_worstOf_10 : decode cX1_worstOf 10 = .ok (.aload_n 0, 1) := dk_42 (dk_at dksX1_worstOf_0 10 rfl rfl)
theorem dX1_worstOf_11 : decode cX1_worstOf 11 = .ok (.getfield 12, 3) := dk_180 0 12 (dk_at dksX1_worstOf_0 11 rfl rfl)
theorem dX1_worstOf_14 : decode cX1_worstOf 14 = .ok (.getfield 243, 3) := dk_180 0 243 (dk_at dksX1_worstOf_0 14 rfl rfl)
theorem dX1_worstOf_17 : decode cX1_worstOf 17 = .ok (.if_icmp .gt 35, 3) := dk_163 0 35 (dk_at dksX1_worstOf_0 17 rfl rfl)
theorem dX1_worstOf_20 : decode cX1_worstOf 20 = .ok (.iload 4, 2) := dk_21 4 (dk_at dksX1_worstOf_0 20 rfl rfl)
theorem dX1_worstOf_22 : decode cX1_worstOf 22 = .ok (.iload 7, 2) := dk_21 7 (dk_at dksX1_worstOf_0 22 rfl rfl)
theorem dX1_worstOf_24 : decode cX1_worstOf 24 = .ok (.ishr, 1) := dk_122 (dk_at dksX1_worstOf_1 0 rfl rfl)
theorem dX1_worstOf_25 : decode cX1_worstOf 25 = .ok (.iconst 1, 1) := dk_4 (dk_at dksX1_worstOf_1 1 rfl rfl)
theorem dX1_worstOf_26 : decode cX1_worstOf 26 = .ok (.iand, 1) := dk_126 (dk_at dksX1_worstOf_1 2 rfl rfl)
theorem dX1_worstOf_27 : decode cX1_worstOf 27 = .ok (.iconst 1, 1) := dk_4 (dk_at dksX1_worstOf_1 3 rfl rfl)
theorem dX1_worstOf_28 : decode cX1_worstOf 28 = .ok (.if_icmp .ne 18, 3) := dk_160 0 18 (dk_at dksX1_worstOf_1 4 rfl rfl)
theorem dX1_worstOf_31 : decode cX1_worstOf 31 = .ok (.lload 5, 2) := dk_22 5 (dk_at dksX1_worstOf_1 7 rfl rfl)
theorem dX1_worstOf_33 : decode cX1_worstOf 33 = .ok (.aload_n 1, 1) := dk_43 (dk_at dksX1_worstOf_1 9 rfl rfl)
theorem dX1_worstOf_34 : decode cX1_worstOf 34 = .ok (.iload_n 2, 1) := dk_28 (dk_at dksX1_worstOf_1 10 rfl rfl)
theorem dX1_worstOf_35 : decode cX1_worstOf 35 = .ok (.iload 7, 2) := dk_21 7 (dk_at dksX1_worstOf_1 11 rfl rfl)
theorem dX1_worstOf_37 : decode cX1_worstOf 37 = .ok (.iload_n 3, 1) := dk_29 (dk_at dksX1_worstOf_1 13 rfl rfl)
theorem dX1_worstOf_38 : decode cX1_worstOf 38 = .ok (.invokevirtual 379, 3) := dk_182 1 123 (dk_at dksX1_worstOf_1 14 rfl rfl)
theorem dX1_worstOf_41 : decode cX1_worstOf 41 = .ok (.invokestatic 391, 3) := dk_184 1 135 (dk_at dksX1_worstOf_1 17 rfl rfl)
theorem dX1_worstOf_44 : decode cX1_worstOf 44 = .ok (.lstore 5, 2) := dk_55 5 (dk_at dksX1_worstOf_1 20 rfl rfl)
theorem dX1_worstOf_46 : decode cX1_worstOf 46 = .ok (.iinc 7 1, 3) := dk_132 7 1 (dk_at dksX1_worstOf_2 0 rfl rfl)
theorem dX1_worstOf_49 : decode cX1_worstOf 49 = .ok (.goto (-41), 3) := dk_167 255 215 (dk_at dksX1_worstOf_2 3 rfl rfl)
theorem dX1_worstOf_52 : decode cX1_worstOf 52 = .ok (.lload 5, 2) := dk_22 5 (dk_at dksX1_worstOf_2 6 rfl rfl)
theorem dX1_worstOf_54 : decode cX1_worstOf 54 = .ok (.lreturn, 1) := dk_173 (dk_at dksX1_worstOf_2 8 rfl rfl)
abbrev cX1_findWorst : ByteArray := prog_1_method_43_code
def yX1_findWorst : MethodName := ⟨RX1, "findWorst", "()V"⟩
def dkwX1_findWorst_2 : List UInt8 := [42, 4, 181, 0, 220, 177]
abbrev dktX1_findWorst_2 : List UInt8 := dkwX1_findWorst_2 ++ []
def dkwX1_findWorst_1 : List UInt8 := [180, 0, 26, 180, 1, 19, 27, 46, 7, 160, 0, 9, 42, 27, 4, 182, 1, 139, 132, 1, 1, 167, 255, 223]
abbrev dktX1_findWorst_1 : List UInt8 := dkwX1_findWorst_1 ++ dktX1_findWorst_2
def dkwX1_findWorst_0 : List UInt8 := [42, 180, 0, 220, 153, 0, 4, 177, 3, 60, 27, 42, 180, 0, 12, 180, 0, 160, 162, 0, 28, 42]
abbrev dktX1_findWorst_0 : List UInt8 := dkwX1_findWorst_0 ++ dktX1_findWorst_1
theorem dksX1_findWorst_0 : cX1_findWorst.data.toList.drop 0 = dktX1_findWorst_0 := by decide +kernel
theorem dksX1_findWorst_1 : cX1_findWorst.data.toList.drop 22 = dktX1_findWorst_1 := dk_seg dksX1_findWorst_0 22 rfl rfl
theorem dksX1_findWorst_2 : cX1_findWorst.data.toList.drop 46 = dktX1_findWorst_2 := dk_seg dksX1_findWorst_1 24 rfl rfl
theorem dX1_findWorst_0 : decode cX1_findWorst 0 = .ok (.aload_n 0, 1) := dk_42 (dk_at dksX1_findWorst_0 0 rfl rfl)
theorem dX1_findWorst_1 : decode cX1_findWorst 1 = .ok (.getfield 220, 3) := dk_180 0 220 (dk_at dksX1_findWorst_0 1 rfl rfl)
theorem dX1_findWorst_4 : decode cX1_findWorst 4 = .ok (.ifCond .eq 4, 3) := dk_153 0 4 (dk_at dksX1_findWorst_0 4 rfl rfl)
theorem dX1_findWorst_7 : decode cX1_findWorst 7 = .ok (.return_, 1) := dk_177 (dk_at dksX1_findWorst_0 7 rfl rfl)
theorem dX1_findWorst_8 : decode cX1_findWorst 8 = .ok (.iconst 0, 1) := dk_3 (dk_at dksX1_findWorst_0 8 rfl rfl)
theorem dX1_findWorst_9 : decode cX1_findWorst 9 = .ok (.istore_n 1, 1) := dk_60 (dk_at dksX1_findWorst_0 9 rfl rfl)
theorem dX1_findWorst_10 : decode cX1_findWorst 10 = .ok (.iload_n 1, 1) := dk_27 (dk_at dksX1_findWorst_0 10 rfl rfl)
theorem dX1_findWorst_11 : decode cX1_findWorst 11 = .ok (.aload_n 0, 1) := dk_42 (dk_at dksX1_findWorst_0 11 rfl rfl)
theorem dX1_findWorst_12 : decode cX1_findWorst 12 = .ok (.getfield 12, 3) := dk_180 0 12 (dk_at dksX1_findWorst_0 12 rfl rfl)
theorem dX1_findWorst_15 : decode cX1_findWorst 15 = .ok (.getfield 160, 3) := dk_180 0 160 (dk_at dksX1_findWorst_0 15 rfl rfl)
theorem dX1_findWorst_18 : decode cX1_findWorst 18 = .ok (.if_icmp .ge 28, 3) := dk_162 0 28 (dk_at dksX1_findWorst_0 18 rfl rfl)
theorem dX1_findWorst_21 : decode cX1_findWorst 21 = .ok (.aload_n 0, 1) := dk_42 (dk_at dksX1_findWorst_0 21 rfl rfl)
theorem dX1_findWorst_22 : decode cX1_findWorst 22 = .ok (.getfield 26, 3) := dk_180 0 26 (dk_at dksX1_findWorst_1 0 rfl rfl)
theorem dX1_findWorst_25 : decode cX1_findWorst 25 = .ok (.getfield 275, 3) := dk_180 1 19 (dk_at dksX1_findWorst_1 3 rfl rfl)
theorem dX1_findWorst_28 : decode cX1_findWorst 28 = .ok (.iload_n 1, 1) := dk_27 (dk_at dksX1_findWorst_1 6 rfl rfl)
theorem dX1_findWorst_29 : decode cX1_findWorst 29 = .ok (.iaload, 1) := dk_46 (dk_at dksX1_findWorst_1 7 rfl rfl)
theorem dX1_findWorst_30 : decode cX1_findWorst 30 = .ok (.iconst 4, 1) := dk_7 (dk_at dksX1_findWorst_1 8 rfl rfl)
theorem dX1_findWorst_31 : decode cX1_findWorst 31 = .ok (.if_icmp .ne 9, 3) := dk_160 0 9 (dk_at dksX1_findWorst_1 9 rfl rfl)
theorem dX1_findWorst_34 : decode cX1_findWorst 34 = .ok (.aload_n 0, 1) := dk_42 (dk_at dksX1_findWorst_1 12 rfl rfl)
theorem dX1_findWorst_35 : decode cX1_findWorst 35 = .ok (.iload_n 1, 1) := dk_27 (dk_at dksX1_findWorst_1 13 rfl rfl)
theorem dX1_findWorst_36 : decode cX1_findWorst 36 = .ok (.iconst 1, 1) := dk_4 (dk_at dksX1_findWorst_1 14 rfl rfl)
theorem dX1_findWorst_37 : decode cX1_findWorst 37 = .ok (.invokevirtual 395, 3) := dk_182 1 139 (dk_at dksX1_findWorst_1 15 rfl rfl)
theorem dX1_findWorst_40 : decode cX1_findWorst 40 = .ok (.iinc 1 1, 3) := dk_132 1 1 (dk_at dksX1_findWorst_1 18 rfl rfl)
theorem dX1_findWorst_43 : decode cX1_findWorst 43 = .ok (.goto (-33), 3) := dk_167 255 223 (dk_at dksX1_findWorst_1 21 rfl rfl)
theorem dX1_findWorst_46 : decode cX1_findWorst 46 = .ok (.aload_n 0, 1) := dk_42 (dk_at dksX1_findWorst_2 0 rfl rfl)
theorem dX1_findWorst_47 : decode cX1_findWorst 47 = .ok (.iconst 1, 1) := dk_4 (dk_at dksX1_findWorst_2 1 rfl rfl)
theorem dX1_findWorst_48 : decode cX1_findWorst 48 = .ok (.putfield 220, 3) := dk_181 0 220 (dk_at dksX1_findWorst_2 2 rfl rfl)
theorem dX1_findWorst_51 : decode cX1_findWorst 51 = .ok (.return_, 1) := dk_177 (dk_at dksX1_findWorst_2 5 rfl rfl)
abbrev cX1_finds : ByteArray := prog_1_method_46_code
def yX1_finds : MethodName := ⟨RX1, "finds", "(I)V"⟩
def dkwX1_finds_10 : List UInt8 := [182, 1, 163, 80, 177]
abbrev dktX1_finds_10 : List UInt8 := dkwX1_finds_10 ++ []
def dkwX1_finds_9 : List UInt8 := [42, 180, 0, 122, 27, 21, 5, 182, 1, 163, 80, 42, 180, 0, 125, 27, 42, 42, 180, 0, 125, 27, 21, 5]
abbrev dktX1_finds_9 : List UInt8 := dkwX1_finds_9 ++ dktX1_finds_10
def dkwX1_finds_8 : List UInt8 := [180, 0, 66, 27, 21, 5, 21, 6, 182, 1, 162, 80, 132, 6, 1, 167, 255, 220, 42, 180, 0, 122, 27, 42]
abbrev dktX1_finds_8 : List UInt8 := dkwX1_finds_8 ++ dktX1_finds_9
def dkwX1_finds_7 : List UInt8 := [54, 6, 21, 6, 42, 180, 0, 12, 180, 0, 160, 162, 0, 30, 42, 180, 0, 113, 21, 6, 50, 27, 42]
abbrev dktX1_finds_7 : List UInt8 := dkwX1_finds_7 ++ dktX1_finds_8
def dkwX1_finds_6 : List UInt8 := [21, 4, 27, 182, 1, 111, 185, 1, 161, 4, 0, 54, 5, 42, 180, 0, 128, 27, 21, 5, 145, 84, 3]
abbrev dktX1_finds_6 : List UInt8 := dkwX1_finds_6 ++ dktX1_finds_7
def dkwX1_finds_5 : List UInt8 := [42, 21, 4, 27, 182, 1, 111, 182, 1, 154, 167, 0, 24, 42, 21, 4, 182, 1, 157, 27, 21, 4, 42]
abbrev dktX1_finds_5 : List UInt8 := dkwX1_finds_5 ++ dktX1_finds_6
def dkwX1_finds_4 : List UInt8 := [28, 47, 167, 0, 4, 9, 80, 177, 42, 28, 182, 1, 34, 54, 4, 42, 180, 1, 151, 153, 0, 18, 42, 27]
abbrev dktX1_finds_4 : List UInt8 := dkwX1_finds_4 ++ dktX1_finds_5
def dkwX1_finds_3 : List UInt8 := [180, 0, 57, 28, 47, 167, 0, 4, 9, 80, 42, 180, 0, 125, 27, 29, 5, 160, 0, 12, 42, 180, 0, 57]
abbrev dktX1_finds_3 : List UInt8 := dkwX1_finds_3 ++ dktX1_finds_4
def dkwX1_finds_2 : List UInt8 := [21, 4, 27, 182, 1, 114, 80, 132, 4, 1, 167, 255, 225, 42, 180, 0, 122, 27, 29, 4, 160, 0, 12, 42]
abbrev dktX1_finds_2 : List UInt8 := dkwX1_finds_2 ++ dktX1_finds_3
def dkwX1_finds_1 : List UInt8 := [54, 4, 21, 4, 42, 180, 0, 12, 180, 0, 160, 162, 0, 25, 42, 180, 0, 113, 21, 4, 50, 27, 42]
abbrev dktX1_finds_1 : List UInt8 := dkwX1_finds_1 ++ dktX1_finds_2
def dkwX1_finds_0 : List UInt8 := [27, 184, 1, 50, 61, 42, 27, 182, 1, 93, 62, 29, 153, 0, 90, 42, 180, 0, 128, 27, 2, 84, 3]
abbrev dktX1_finds_0 : List UInt8 := dkwX1_finds_0 ++ dktX1_finds_1
theorem dksX1_finds_0 : cX1_finds.data.toList.drop 0 = dktX1_finds_0 := by decide +kernel
theorem dksX1_finds_1 : cX1_finds.data.toList.drop 23 = dktX1_finds_1 := dk_seg dksX1_finds_0 23 rfl rfl
theorem dksX1_finds_2 : cX1_finds.data.toList.drop 46 = dktX1_finds_2 := dk_seg dksX1_finds_1 23 rfl rfl
theorem dksX1_finds_3 : cX1_finds.data.toList.drop 70 = dktX1_finds_3 := dk_seg dksX1_finds_2 24 rfl rfl
theorem dksX1_finds_4 : cX1_finds.data.toList.drop 94 = dktX1_finds_4 := dk_seg dksX1_finds_3 24 rfl rfl
theorem dksX1_finds_5 : cX1_finds.data.toList.drop 118 = dktX1_finds_5 := dk_seg dksX1_finds_4 24 rfl rfl
theorem dksX1_finds_6 : cX1_finds.data.toList.drop 141 = dktX1_finds_6 := dk_seg dksX1_finds_5 23 rfl rfl
theorem dksX1_finds_7 : cX1_finds.data.toList.drop 164 = dktX1_finds_7 := dk_seg dksX1_finds_6 23 rfl rfl
theorem dksX1_finds_8 : cX1_finds.data.toList.drop 187 = dktX1_finds_8 := dk_seg dksX1_finds_7 23 rfl rfl
theorem dksX1_finds_9 : cX1_finds.data.toList.drop 211 = dktX1_finds_9 := dk_seg dksX1_finds_8 24 rfl rfl
theorem dksX1_finds_10 : cX1_finds.data.toList.drop 235 = dktX1_finds_10 := dk_seg dksX1_finds_9 24 rfl rfl
theorem dX1_finds_0 : decode cX1_finds 0 = .ok (.iload_n 1, 1) := dk_27 (dk_at dksX1_finds_0 0 rfl rfl)
theorem dX1_finds_1 : decode cX1_finds 1 = .ok (.invokestatic 306, 3) := dk_184 1 50 (dk_at dksX1_finds_0 1 rfl rfl)
theorem dX1_finds_4 : decode cX1_finds 4 = .ok (.istore_n 2, 1) := dk_61 (dk_at dksX1_finds_0 4 rfl rfl)
theorem dX1_finds_5 : decode cX1_finds 5 = .ok (.aload_n 0, 1) := dk_42 (dk_at dksX1_finds_0 5 rfl rfl)
theorem dX1_finds_6 : decode cX1_finds 6 = .ok (.iload_n 1, 1) := dk_27 (dk_at dksX1_finds_0 6 rfl rfl)
theorem dX1_finds_7 : decode cX1_finds 7 = .ok (.invokevirtual 349, 3) := dk_182 1 93 (dk_at dksX1_finds_0 7 rfl rfl)
theorem dX1_finds_10 : decode cX1_finds 10 = .ok (.istore_n 3, 1) := dk_62 (dk_at dksX1_finds_0 10 rfl rfl)
theorem dX1_finds_11 : decode cX1_finds 11 = .ok (.iload_n 3, 1) := dk_29 (dk_at dksX1_finds_0 11 rfl rfl)
theorem dX1_finds_12 : decode cX1_finds 12 = .ok (.ifCond .eq 90, 3) := dk_153 0 90 (dk_at dksX1_finds_0 12 rfl rfl)
theorem dX1_finds_15 : decode cX1_finds 15 = .ok (.aload_n 0, 1) := dk_42 (dk_at dksX1_finds_0 15 rfl rfl)
theorem dX1_finds_16 : decode cX1_finds 16 = .ok (.getfield 128, 3) := dk_180 0 128 (dk_at dksX1_finds_0 16 rfl rfl)
theorem dX1_finds_19 : decode cX1_finds 19 = .ok (.iload_n 1, 1) := dk_27 (dk_at dksX1_finds_0 19 rfl rfl)
theorem dX1_finds_20 : decode cX1_finds 20 = .ok (.iconst (-1), 1) := dk_2 (dk_at dksX1_finds_0 20 rfl rfl)
theorem dX1_finds_21 : decode cX1_finds 21 = .ok (.bastore, 1) := dk_84 (dk_at dksX1_finds_0 21 rfl rfl)
theorem dX1_finds_22 : decode cX1_finds 22 = .ok (.iconst 0, 1) := dk_3 (dk_at dksX1_finds_0 22 rfl rfl)
theorem dX1_finds_23 : decode cX1_finds 23 = .ok (.istore 4, 2) := dk_54 4 (dk_at dksX1_finds_1 0 rfl rfl)
theorem dX1_finds_25 : decode cX1_finds 25 = .ok (.iload 4, 2) := dk_21 4 (dk_at dksX1_finds_1 2 rfl rfl)
theorem dX1_finds_27 : decode cX1_finds 27 = .ok (.aload_n 0, 1) := dk_42 (dk_at dksX1_finds_1 4 rfl rfl)
theorem dX1_finds_28 : decode cX1_finds 28 = .ok (.getfield 12, 3) := dk_180 0 12 (dk_at dksX1_finds_1 5 rfl rfl)
theorem dX1_finds_31 : decode cX1_finds 31 = .ok (.getfield 160, 3) := dk_180 0 160 (dk_at dksX1_finds_1 8 rfl rfl)
theorem dX1_finds_34 : decode cX1_finds 34 = .ok (.if_icmp .ge 25, 3) := dk_162 0 25 (dk_at dksX1_finds_1 11 rfl rfl)
theorem dX1_finds_37 : decode cX1_finds 37 = .ok (.aload_n 0, 1) := dk_42 (dk_at dksX1_finds_1 14 rfl rfl)
theorem dX1_finds_38 : decode cX1_finds 38 = .ok (.getfield 113, 3) := dk_180 0 113 (dk_at dksX1_finds_1 15 rfl rfl)
theorem dX1_finds_41 : decode cX1_finds 41 = .ok (.iload 4, 2) := dk_21 4 (dk_at dksX1_finds_1 18 rfl rfl)
theorem dX1_finds_43 : decode cX1_finds 43 = .ok (.aaload, 1) := dk_50 (dk_at dksX1_finds_1 20 rfl rfl)
theorem dX1_finds_44 : decode cX1_finds 44 = .ok (.iload_n 1, 1) := dk_27 (dk_at dksX1_finds_1 21 rfl rfl)
theorem dX1_finds_45 : decode cX1_finds 45 = .ok (.aload_n 0, 1) := dk_42 (dk_at dksX1_finds_1 22 rfl rfl)
theorem dX1_finds_46 : decode cX1_finds 46 = .ok (.iload 4, 2) := dk_21 4 (dk_at dksX1_finds_2 0 rfl rfl)
theorem dX1_finds_48 : decode cX1_finds 48 = .ok (.iload_n 1, 1) := dk_27 (dk_at dksX1_finds_2 2 rfl rfl)
theorem dX1_finds_49 : decode cX1_finds 49 = .ok (.invokevirtual 370, 3) := dk_182 1 114 (dk_at dksX1_finds_2 3 rfl rfl)
theorem dX1_finds_52 : decode cX1_finds 52 = .ok (.lastore, 1) := dk_80 (dk_at dksX1_finds_2 6 rfl rfl)
theorem dX1_finds_53 : decode cX1_finds 53 = .ok (.iinc 4 1, 3) := dk_132 4 1 (dk_at dksX1_finds_2 7 rfl rfl)
theorem dX1_finds_56 : decode cX1_finds 56 = .ok (.goto (-31), 3) := dk_167 255 225 (dk_at dksX1_finds_2 10 rfl rfl)
theorem dX1_finds_59 : decode cX1_finds 59 = .ok (.aload_n 0, 1) := dk_42 (dk_at dksX1_finds_2 13 rfl rfl)
theorem dX1_finds_60 : decode cX1_finds 60 = .ok (.getfield 122, 3) := dk_180 0 122 (dk_at dksX1_finds_2 14 rfl rfl)
theorem dX1_finds_63 : decode cX1_finds 63 = .ok (.iload_n 1, 1) := dk_27 (dk_at dksX1_finds_2 17 rfl rfl)
theorem dX1_finds_64 : decode cX1_finds 64 = .ok (.iload_n 3, 1) := dk_29 (dk_at dksX1_finds_2 18 rfl rfl)
theorem dX1_finds_65 : decode cX1_finds 65 = .ok (.iconst 1, 1) := dk_4 (dk_at dksX1_finds_2 19 rfl rfl)
theorem dX1_finds_66 : decode cX1_finds 66 = .ok (.if_icmp .ne 12, 3) := dk_160 0 12 (dk_at dksX1_finds_2 20 rfl rfl)
theorem dX1_finds_69 : decode cX1_finds 69 = .ok (.aload_n 0, 1) := dk_42 (dk_at dksX1_finds_2 23 rfl rfl)
theorem dX1_finds_70 : decode cX1_finds 70 = .ok (.getfield 57, 3) := dk_180 0 57 (dk_at dksX1_finds_3 0 rfl rfl)
theorem dX1_finds_73 : decode cX1_finds 73 = .ok (.iload_n 2, 1) := dk_28 (dk_at dksX1_finds_3 3 rfl rfl)
theorem dX1_finds_74 : decode cX1_finds 74 = .ok (.laload, 1) := dk_47 (dk_at dksX1_finds_3 4 rfl rfl)
theorem dX1_finds_75 : decode cX1_finds 75 = .ok (.goto 4, 3) := dk_167 0 4 (dk_at dksX1_finds_3 5 rfl rfl)
theorem dX1_finds_78 : decode cX1_finds 78 = .ok (.lconst 0, 1) := dk_9 (dk_at dksX1_finds_3 8 rfl rfl)
theorem dX1_finds_79 : decode cX1_finds 79 = .ok (.lastore, 1) := dk_80 (dk_at dksX1_finds_3 9 rfl rfl)
theorem dX1_finds_80 : decode cX1_finds 80 = .ok (.aload_n 0, 1) := dk_42 (dk_at dksX1_finds_3 10 rfl rfl)
theorem dX1_finds_81 : decode cX1_finds 81 = .ok (.getfield 125, 3) := dk_180 0 125 (dk_at dksX1_finds_3 11 rfl rfl)
theorem dX1_finds_84 : decode cX1_finds 84 = .ok (.iload_n 1, 1) := dk_27 (dk_at dksX1_finds_3 14 rfl rfl)
theorem dX1_finds_85 : decode cX1_finds 85 = .ok (.iload_n 3, 1) := dk_29 (dk_at dksX1_finds_3 15 rfl rfl)
theorem dX1_finds_86 : decode cX1_finds 86 = .ok (.iconst 2, 1) := dk_5 (dk_at dksX1_finds_3 16 rfl rfl)
theorem dX1_finds_87 : decode cX1_finds 87 = .ok (.if_icmp .ne 12, 3) := dk_160 0 12 (dk_at dksX1_finds_3 17 rfl rfl)
theorem dX1_finds_90 : decode cX1_finds 90 = .ok (.aload_n 0, 1) := dk_42 (dk_at dksX1_finds_3 20 rfl rfl)
theorem dX1_finds_91 : decode cX1_finds 91 = .ok (.getfield 57, 3) := dk_180 0 57 (dk_at dksX1_finds_3 21 rfl rfl)
theorem dX1_finds_94 : decode cX1_finds 94 = .ok (.iload_n 2, 1) := dk_28 (dk_at dksX1_finds_4 0 rfl rfl)
theorem dX1_finds_95 : decode cX1_finds 95 = .ok (.laload, 1) := dk_47 (dk_at dksX1_finds_4 1 rfl rfl)
theorem dX1_finds_96 : decode cX1_finds 96 = .ok (.goto 4, 3) := dk_167 0 4 (dk_at dksX1_finds_4 2 rfl rfl)
theorem dX1_finds_99 : decode cX1_finds 99 = .ok (.lconst 0, 1) := dk_9 (dk_at dksX1_finds_4 5 rfl rfl)
theorem dX1_finds_100 : decode cX1_finds 100 = .ok (.lastore, 1) := dk_80 (dk_at dksX1_finds_4 6 rfl rfl)
theorem dX1_finds_101 : decode cX1_finds 101 = .ok (.return_, 1) := dk_177 (dk_at dksX1_finds_4 7 rfl rfl)
theorem dX1_finds_102 : decode cX1_finds 102 = .ok (.aload_n 0, 1) := dk_42 (dk_at dksX1_finds_4 8 rfl rfl)
theorem dX1_finds_103 : decode cX1_finds 103 = .ok (.iload_n 2, 1) := dk_28 (dk_at dksX1_finds_4 9 rfl rfl)
theorem dX1_finds_104 : decode cX1_finds 104 = .ok (.invokevirtual 290, 3) := dk_182 1 34 (dk_at dksX1_finds_4 10 rfl rfl)
theorem dX1_finds_107 : decode cX1_finds 107 = .ok (.istore 4, 2) := dk_54 4 (dk_at dksX1_finds_4 13 rfl rfl)
theorem dX1_finds_109 : decode cX1_finds 109 = .ok (.aload_n 0, 1) := dk_42 (dk_at dksX1_finds_4 15 rfl rfl)
theorem dX1_finds_110 : decode cX1_finds 110 = .ok (.getfield 407, 3) := dk_180 1 151 (dk_at dksX1_finds_4 16 rfl rfl)
theorem dX1_finds_113 : decode cX1_finds 113 = .ok (.ifCond .eq 18, 3) := dk_153 0 18 (dk_at dksX1_finds_4 19 rfl rfl)
theorem dX1_finds_116 : decode cX1_finds 116 = .ok (.aload_n 0, 1) := dk_42 (dk_at dksX1_finds_4 22 rfl rfl)
theorem dX1_finds_117 : decode cX1_finds 117 = .ok (.iload_n 1, 1) := dk_27 (dk_at dksX1_finds_4 23 rfl rfl)
theorem dX1_finds_118 : decode cX1_finds 118 = .ok (.aload_n 0, 1) := dk_42 (dk_at dksX1_finds_5 0 rfl rfl)
theorem dX1_finds_119 : decode cX1_finds 119 = .ok (.iload 4, 2) := dk_21 4 (dk_at dksX1_finds_5 1 rfl rfl)
theorem dX1_finds_121 : decode cX1_finds 121 = .ok (.iload_n 1, 1) := dk_27 (dk_at dksX1_finds_5 3 rfl rfl)
theorem dX1_finds_122 : decode cX1_finds 122 = .ok (.invokevirtual 367, 3) := dk_182 1 111 (dk_at dksX1_finds_5 4 rfl rfl)
theorem dX1_finds_125 : decode cX1_finds 125 = .ok (.invokevirtual 410, 3) := dk_182 1 154 (dk_at dksX1_finds_5 7 rfl rfl)
theorem dX1_finds_128 : decode cX1_finds 128 = .ok (.goto 24, 3) := dk_167 0 24 (dk_at dksX1_finds_5 10 rfl rfl)
theorem dX1_finds_131 : decode cX1_finds 131 = .ok (.aload_n 0, 1) := dk_42 (dk_at dksX1_finds_5 13 rfl rfl)
theorem dX1_finds_132 : decode cX1_finds 132 = .ok (.iload 4, 2) := dk_21 4 (dk_at dksX1_finds_5 14 rfl rfl)
theorem dX1_finds_134 : decode cX1_finds 134 = .ok (.invokevirtual 413, 3) := dk_182 1 157 (dk_at dksX1_finds_5 16 rfl rfl)
theorem dX1_finds_137 : decode cX1_finds 137 = .ok (.iload_n 1, 1) := dk_27 (dk_at dksX1_finds_5 19 rfl rfl)
theorem dX1_finds_138 : decode cX1_finds 138 = .ok (.iload 4, 2) := dk_21 4 (dk_at dksX1_finds_5 20 rfl rfl)
theorem dX1_finds_140 : decode cX1_finds 140 = .ok (.aload_n 0, 1) := dk_42 (dk_at dksX1_finds_5 22 rfl rfl)
theorem dX1_finds_141 : decode cX1_finds 141 = .ok (.iload 4, 2) := dk_21 4 (dk_at dksX1_finds_6 0 rfl rfl)
theorem dX1_finds_143 : decode cX1_finds 143 = .ok (.iload_n 1, 1) := dk_27 (dk_at dksX1_finds_6 2 rfl rfl)
theorem dX1_finds_144 : decode cX1_finds 144 = .ok (.invokevirtual 367, 3) := dk_182 1 111 (dk_at dksX1_finds_6 3 rfl rfl)
theorem dX1_finds_147 : decode cX1_finds 147 = .ok (.invokeinterface 417 4, 5) := by decide +kernel
theorem dX1_finds_152 : decode cX1_finds 152 = .ok (.istore 5, 2) := dk_54 5 (dk_at dksX1_finds_6 11 rfl rfl)
theorem dX1_finds_154 : decode cX1_finds 154 = .ok (.aload_n 0, 1) := dk_42 (dk_at dksX1_finds_6 13 rfl rfl)
theorem dX1_finds_155 : decode cX1_finds 155 = .ok (.getfield 128, 3) := dk_180 0 128 (dk_at dksX1_finds_6 14 rfl rfl)
theorem dX1_finds_158 : decode cX1_finds 158 = .ok (.iload_n 1, 1) := dk_27 (dk_at dksX1_finds_6 17 rfl rfl)
theorem dX1_finds_159 : decode cX1_finds 159 = .ok (.iload 5, 2) := dk_21 5 (dk_at dksX1_finds_6 18 rfl rfl)
theorem dX1_finds_161 : decode cX1_finds 161 = .ok (.i2b, 1) := dk_145 (dk_at dksX1_finds_6 20 rfl rfl)
theorem dX1_finds_162 : decode cX1_finds 162 = .ok (.bastore, 1) := dk_84 (dk_at dksX1_finds_6 21 rfl rfl)
theorem dX1_finds_163 : decode cX1_finds 163 = .ok (.iconst 0, 1) := dk_3 (dk_at dksX1_finds_6 22 rfl rfl)
theorem dX1_finds_164 : decode cX1_finds 164 = .ok (.istore 6, 2) := dk_54 6 (dk_at dksX1_finds_7 0 rfl rfl)
theorem dX1_finds_166 : decode cX1_finds 166 = .ok (.iload 6, 2) := dk_21 6 (dk_at dksX1_finds_7 2 rfl rfl)
theorem dX1_finds_168 : decode cX1_finds 168 = .ok (.aload_n 0, 1) := dk_42 (dk_at dksX1_finds_7 4 rfl rfl)
theorem dX1_finds_169 : decode cX1_finds 169 = .ok (.getfield 12, 3) := dk_180 0 12 (dk_at dksX1_finds_7 5 rfl rfl)
theorem dX1_finds_172 : decode cX1_finds 172 = .ok (.getfield 160, 3) := dk_180 0 160 (dk_at dksX1_finds_7 8 rfl rfl)
theorem dX1_finds_175 : decode cX1_finds 175 = .ok (.if_icmp .ge 30, 3) := dk_162 0 30 (dk_at dksX1_finds_7 11 rfl rfl)
theorem dX1_finds_178 : decode cX1_finds 178 = .ok (.aload_n 0, 1) := dk_42 (dk_at dksX1_finds_7 14 rfl rfl)
theorem dX1_finds_179 : decode cX1_finds 179 = .ok (.getfield 113, 3) := dk_180 0 113 (dk_at dksX1_finds_7 15 rfl rfl)
theorem dX1_finds_182 : decode cX1_finds 182 = .ok (.iload 6, 2) := dk_21 6 (dk_at dksX1_finds_7 18 rfl rfl)
theorem dX1_finds_184 : decode cX1_finds 184 = .ok (.aaload, 1) := dk_50 (dk_at dksX1_finds_7 20 rfl rfl)
theorem dX1_finds_185 : decode cX1_finds 185 = .ok (.iload_n 1, 1) := dk_27 (dk_at dksX1_finds_7 21 rfl rfl)
theorem dX1_finds_186 : decode cX1_finds 186 = .ok (.aload_n 0, 1) := dk_42 (dk_at dksX1_finds_7 22 rfl rfl)
theorem dX1_finds_187 : decode cX1_finds 187 = .ok (.getfield 66, 3) := dk_180 0 66 (dk_at dksX1_finds_8 0 rfl rfl)
theorem dX1_finds_190 : decode cX1_finds 190 = .ok (.iload_n 1, 1) := dk_27 (dk_at dksX1_finds_8 3 rfl rfl)
theorem dX1_finds_191 : decode cX1_finds 191 = .ok (.iload 5, 2) := dk_21 5 (dk_at dksX1_finds_8 4 rfl rfl)
theorem dX1_finds_193 : decode cX1_finds 193 = .ok (.iload 6, 2) := dk_21 6 (dk_at dksX1_finds_8 6 rfl rfl)
theorem dX1_finds_195 : decode cX1_finds 195 = .ok (.invokevirtual 418, 3) := dk_182 1 162 (dk_at dksX1_finds_8 8 rfl rfl)
theorem dX1_finds_198 : decode cX1_finds 198 = .ok (.lastore, 1) := dk_80 (dk_at dksX1_finds_8 11 rfl rfl)
theorem dX1_finds_199 : decode cX1_finds 199 = .ok (.iinc 6 1, 3) := dk_132 6 1 (dk_at dksX1_finds_8 12 rfl rfl)
theorem dX1_finds_202 : decode cX1_finds 202 = .ok (.goto (-36), 3) := dk_167 255 220 (dk_at dksX1_finds_8 15 rfl rfl)
theorem dX1_finds_205 : decode cX1_finds 205 = .ok (.aload_n 0, 1) := dk_42 (dk_at dksX1_finds_8 18 rfl rfl)
theorem dX1_finds_206 : decode cX1_finds 206 = .ok (.getfield 122, 3) := dk_180 0 122 (dk_at dksX1_finds_8 19 rfl rfl)
theorem dX1_finds_209 : decode cX1_finds 209 = .ok (.iload_n 1, 1) := dk_27 (dk_at dksX1_finds_8 22 rfl rfl)
theorem dX1_finds_210 : decode cX1_finds 210 = .ok (.aload_n 0, 1) := dk_42 (dk_at dksX1_finds_8 23 rfl rfl)
theorem dX1_finds_211 : decode cX1_finds 211 = .ok (.aload_n 0, 1) := dk_42 (dk_at dksX1_finds_9 0 rfl rfl)
theorem dX1_finds_212 : decode cX1_finds 212 = .ok (.getfield 122, 3) := dk_180 0 122 (dk_at dksX1_finds_9 1 rfl rfl)
theorem dX1_finds_215 : decode cX1_finds 215 = .ok (.iload_n 1, 1) := dk_27 (dk_at dksX1_finds_9 4 rfl rfl)
theorem dX1_finds_216 : decode cX1_finds 216 = .ok (.iload 5, 2) := dk_21 5 (dk_at dksX1_finds_9 5 rfl rfl)
theorem dX1_finds_218 : decode cX1_finds 218 = .ok (.invokevirtual 419, 3) := dk_182 1 163 (dk_at dksX1_finds_9 7 rfl rfl)
theorem dX1_finds_221 : decode cX1_finds 221 = .ok (.lastore, 1) := dk_80 (dk_at dksX1_finds_9 10 rfl rfl)
theorem dX1_finds_222 : decode cX1_finds 222 = .ok (.aload_n 0, 1) := dk_42 (dk_at dksX1_finds_9 11 rfl rfl)
theorem dX1_finds_223 : decode cX1_finds 223 = .ok (.getfield 125, 3) := dk_180 0 125 (dk_at dksX1_finds_9 12 rfl rfl)
theorem dX1_finds_226 : decode cX1_finds 226 = .ok (.iload_n 1, 1) := dk_27 (dk_at dksX1_finds_9 15 rfl rfl)
theorem dX1_finds_227 : decode cX1_finds 227 = .ok (.aload_n 0, 1) := dk_42 (dk_at dksX1_finds_9 16 rfl rfl)
theorem dX1_finds_228 : decode cX1_finds 228 = .ok (.aload_n 0, 1) := dk_42 (dk_at dksX1_finds_9 17 rfl rfl)
theorem dX1_finds_229 : decode cX1_finds 229 = .ok (.getfield 125, 3) := dk_180 0 125 (dk_at dksX1_finds_9 18 rfl rfl)
theorem dX1_finds_232 : decode cX1_finds 232 = .ok (.iload_n 1, 1) := dk_27 (dk_at dksX1_finds_9 21 rfl rfl)
theorem dX1_finds_233 : decode cX1_finds 233 = .ok (.iload 5, 2) := dk_21 5 (dk_at dksX1_finds_9 22 rfl rfl)
theorem dX1_finds_235 : decode cX1_finds 235 = .ok (.invokevirtual 419, 3) := dk_182 1 163 (dk_at dksX1_finds_10 0 rfl rfl)
theorem dX1_finds_238 : decode cX1_finds 238 = .ok (.lastore, 1) := dk_80 (dk_at dksX1_finds_10 3 rfl rfl)
theorem dX1_finds_239 : decode cX1_finds 239 = .ok (.return_, 1) := dk_177 (dk_at dksX1_finds_10 4 rfl rfl)
abbrev cX1_votedOn : ByteArray := prog_1_method_93_code
def yX1_votedOn : MethodName := ⟨RX1, "votedOn", "(II)I"⟩
def dkwX1_votedOn_4 : List UInt8 := [164, 0, 8, 21, 4, 167, 0, 4, 29, 62, 132, 4, 1, 167, 255, 218, 29, 172]
abbrev dktX1_votedOn_4 : List UInt8 := dkwX1_votedOn_4 ++ []
def dkwX1_votedOn_3 : List UInt8 := [42, 180, 0, 12, 180, 0, 243, 163, 0, 32, 42, 180, 0, 141, 21, 4, 46, 42, 180, 0, 141, 29, 46]
abbrev dktX1_votedOn_3 : List UInt8 := dkwX1_votedOn_3 ++ dktX1_votedOn_4
def dkwX1_votedOn_2 : List UInt8 := [27, 29, 28, 182, 1, 242, 92, 46, 4, 96, 79, 132, 3, 1, 167, 255, 223, 3, 62, 4, 54, 4, 21, 4]
abbrev dktX1_votedOn_2 : List UInt8 := dkwX1_votedOn_2 ++ dktX1_votedOn_3
def dkwX1_votedOn_1 : List UInt8 := [167, 255, 235, 3, 62, 29, 42, 180, 0, 12, 180, 0, 160, 162, 0, 28, 42, 180, 0, 141, 42, 180, 0, 66]
abbrev dktX1_votedOn_1 : List UInt8 := dkwX1_votedOn_1 ++ dktX1_votedOn_2
def dkwX1_votedOn_0 : List UInt8 := [3, 62, 29, 42, 180, 0, 12, 180, 0, 243, 163, 0, 16, 42, 180, 0, 141, 29, 3, 79, 132, 3, 1]
abbrev dktX1_votedOn_0 : List UInt8 := dkwX1_votedOn_0 ++ dktX1_votedOn_1
theorem dksX1_votedOn_0 : cX1_votedOn.data.toList.drop 0 = dktX1_votedOn_0 := by decide +kernel
theorem dksX1_votedOn_1 : cX1_votedOn.data.toList.drop 23 = dktX1_votedOn_1 := dk_seg dksX1_votedOn_0 23 rfl rfl
theorem dksX1_votedOn_2 : cX1_votedOn.data.toList.drop 47 = dktX1_votedOn_2 := dk_seg dksX1_votedOn_1 24 rfl rfl
theorem dksX1_votedOn_3 : cX1_votedOn.data.toList.drop 71 = dktX1_votedOn_3 := dk_seg dksX1_votedOn_2 24 rfl rfl
theorem dksX1_votedOn_4 : cX1_votedOn.data.toList.drop 94 = dktX1_votedOn_4 := dk_seg dksX1_votedOn_3 23 rfl rfl
theorem dX1_votedOn_0 : decode cX1_votedOn 0 = .ok (.iconst 0, 1) := dk_3 (dk_at dksX1_votedOn_0 0 rfl rfl)
theorem dX1_votedOn_1 : decode cX1_votedOn 1 = .ok (.istore_n 3, 1) := dk_62 (dk_at dksX1_votedOn_0 1 rfl rfl)
theorem dX1_votedOn_2 : decode cX1_votedOn 2 = .ok (.iload_n 3, 1) := dk_29 (dk_at dksX1_votedOn_0 2 rfl rfl)
theorem dX1_votedOn_3 : decode cX1_votedOn 3 = .ok (.aload_n 0, 1) := dk_42 (dk_at dksX1_votedOn_0 3 rfl rfl)
theorem dX1_votedOn_4 : decode cX1_votedOn 4 = .ok (.getfield 12, 3) := dk_180 0 12 (dk_at dksX1_votedOn_0 4 rfl rfl)
theorem dX1_votedOn_7 : decode cX1_votedOn 7 = .ok (.getfield 243, 3) := dk_180 0 243 (dk_at dksX1_votedOn_0 7 rfl rfl)
theorem dX1_votedOn_10 : decode cX1_votedOn 10 = .ok (.if_icmp .gt 16, 3) := dk_163 0 16 (dk_at dksX1_votedOn_0 10 rfl rfl)
theorem dX1_votedOn_13 : decode cX1_votedOn 13 = .ok (.aload_n 0, 1) := dk_42 (dk_at dksX1_votedOn_0 13 rfl rfl)
theorem dX1_votedOn_14 : decode cX1_votedOn 14 = .ok (.getfield 141, 3) := dk_180 0 141 (dk_at dksX1_votedOn_0 14 rfl rfl)
theorem dX1_votedOn_17 : decode cX1_votedOn 17 = .ok (.iload_n 3, 1) := dk_29 (dk_at dksX1_votedOn_0 17 rfl rfl)
theorem dX1_votedOn_18 : decode cX1_votedOn 18 = .ok (.iconst 0, 1) := dk_3 (dk_at dksX1_votedOn_0 18 rfl rfl)
theorem dX1_votedOn_19 : decode cX1_votedOn 19 = .ok (.iastore, 1) := dk_79 (dk_at dksX1_votedOn_0 19 rfl rfl)
theorem dX1_votedOn_20 : decode cX1_votedOn 20 = .ok (.iinc 3 1, 3) := dk_132 3 1 (dk_at dksX1_votedOn_0 20 rfl rfl)
theorem dX1_votedOn_23 : decode cX1_votedOn 23 = .ok (.goto (-21), 3) := dk_167 255 235 (dk_at dksX1_votedOn_1 0 rfl rfl)
theorem dX1_votedOn_26 : decode cX1_votedOn 26 = .ok (.iconst 0, 1) := dk_3 (dk_at dksX1_votedOn_1 3 rfl rfl)
theorem dX1_votedOn_27 : decode cX1_votedOn 27 = .ok (.istore_n 3, 1) := dk_62 (dk_at dksX1_votedOn_1 4 rfl rfl)
theorem dX1_votedOn_28 : decode cX1_votedOn 28 = .ok (.iload_n 3, 1) := dk_29 (dk_at dksX1_votedOn_1 5 rfl rfl)
theorem dX1_votedOn_29 : decode cX1_votedOn 29 = .ok (.aload_n 0, 1) := dk_42 (dk_at dksX1_votedOn_1 6 rfl rfl)
theorem dX1_votedOn_30 : decode cX1_votedOn 30 = .ok (.getfield 12, 3) := dk_180 0 12 (dk_at dksX1_votedOn_1 7 rfl rfl)
theorem dX1_votedOn_33 : decode cX1_votedOn 33 = .ok (.getfield 160, 3) := dk_180 0 160 (dk_at dksX1_votedOn_1 10 rfl rfl)
theorem dX1_votedOn_36 : decode cX1_votedOn 36 = .ok (.if_icmp .ge 28, 3) := dk_162 0 28 (dk_at dksX1_votedOn_1 13 rfl rfl)
theorem dX1_votedOn_39 : decode cX1_votedOn 39 = .ok (.aload_n 0, 1) := dk_42 (dk_at dksX1_votedOn_1 16 rfl rfl)
theorem dX1_votedOn_40 : decode cX1_votedOn 40 = .ok (.getfield 141, 3) := dk_180 0 141 (dk_at dksX1_votedOn_1 17 rfl rfl)
theorem dX1_votedOn_43 : decode cX1_votedOn 43 = .ok (.aload_n 0, 1) := dk_42 (dk_at dksX1_votedOn_1 20 rfl rfl)
theorem dX1_votedOn_44 : decode cX1_votedOn 44 = .ok (.getfield 66, 3) := dk_180 0 66 (dk_at dksX1_votedOn_1 21 rfl rfl)
theorem dX1_votedOn_47 : decode cX1_votedOn 47 = .ok (.iload_n 1, 1) := dk_27 (dk_at dksX1_votedOn_2 0 rfl rfl)
theorem dX1_votedOn_48 : decode cX1_votedOn 48 = .ok (.iload_n 3, 1) := dk_29 (dk_at dksX1_votedOn_2 1 rfl rfl)
theorem dX1_votedOn_49 : decode cX1_votedOn 49 = .ok (.iload_n 2, 1) := dk_28 (dk_at dksX1_votedOn_2 2 rfl rfl)
theorem dX1_votedOn_50 : decode cX1_votedOn 50 = .ok (.invokevirtual 498, 3) := dk_182 1 242 (dk_at dksX1_votedOn_2 3 rfl rfl)
theorem dX1_votedOn_53 : decode cX1_votedOn 53 = .ok (.dup2, 1) := dk_92 (dk_at dksX1_votedOn_2 6 rfl rfl)
theorem dX1_votedOn_54 : decode cX1_votedOn 54 = .ok (.iaload, 1) := dk_46 (dk_at dksX1_votedOn_2 7 rfl rfl)
theorem dX1_votedOn_55 : decode cX1_votedOn 55 = .ok (.iconst 1, 1) := dk_4 (dk_at dksX1_votedOn_2 8 rfl rfl)
theorem dX1_votedOn_56 : decode cX1_votedOn 56 = .ok (.iadd, 1) := dk_96 (dk_at dksX1_votedOn_2 9 rfl rfl)
theorem dX1_votedOn_57 : decode cX1_votedOn 57 = .ok (.iastore, 1) := dk_79 (dk_at dksX1_votedOn_2 10 rfl rfl)
theorem dX1_votedOn_58 : decode cX1_votedOn 58 = .ok (.iinc 3 1, 3) := dk_132 3 1 (dk_at dksX1_votedOn_2 11 rfl rfl)
theorem dX1_votedOn_61 : decode cX1_votedOn 61 = .ok (.goto (-33), 3) := dk_167 255 223 (dk_at dksX1_votedOn_2 14 rfl rfl)
theorem dX1_votedOn_64 : decode cX1_votedOn 64 = .ok (.iconst 0, 1) := dk_3 (dk_at dksX1_votedOn_2 17 rfl rfl)
theorem dX1_votedOn_65 : decode cX1_votedOn 65 = .ok (.istore_n 3, 1) := dk_62 (dk_at dksX1_votedOn_2 18 rfl rfl)
theorem dX1_votedOn_66 : decode cX1_votedOn 66 = .ok (.iconst 1, 1) := dk_4 (dk_at dksX1_votedOn_2 19 rfl rfl)
theorem dX1_votedOn_67 : decode cX1_votedOn 67 = .ok (.istore 4, 2) := dk_54 4 (dk_at dksX1_votedOn_2 20 rfl rfl)
theorem dX1_votedOn_69 : decode cX1_votedOn 69 = .ok (.iload 4, 2) := dk_21 4 (dk_at dksX1_votedOn_2 22 rfl rfl)
theorem dX1_votedOn_71 : decode cX1_votedOn 71 = .ok (.aload_n 0, 1) := dk_42 (dk_at dksX1_votedOn_3 0 rfl rfl)
theorem dX1_votedOn_72 : decode cX1_votedOn 72 = .ok (.getfield 12, 3) := dk_180 0 12 (dk_at dksX1_votedOn_3 1 rfl rfl)
theorem dX1_votedOn_75 : decode cX1_votedOn 75 = .ok (.getfield 243, 3) := dk_180 0 243 (dk_at dksX1_votedOn_3 4 rfl rfl)
theorem dX1_votedOn_78 : decode cX1_votedOn 78 = .ok (.if_icmp .gt 32, 3) := dk_163 0 32 (dk_at dksX1_votedOn_3 7 rfl rfl)
theorem dX1_votedOn_81 : decode cX1_votedOn 81 = .ok (.aload_n 0, 1) := dk_42 (dk_at dksX1_votedOn_3 10 rfl rfl)
theorem dX1_votedOn_82 : decode cX1_votedOn 82 = .ok (.getfield 141, 3) := dk_180 0 141 (dk_at dksX1_votedOn_3 11 rfl rfl)
theorem dX1_votedOn_85 : decode cX1_votedOn 85 = .ok (.iload 4, 2) := dk_21 4 (dk_at dksX1_votedOn_3 14 rfl rfl)
theorem dX1_votedOn_87 : decode cX1_votedOn 87 = .ok (.iaload, 1) := dk_46 (dk_at dksX1_votedOn_3 16 rfl rfl)
theorem dX1_votedOn_88 : decode cX1_votedOn 88 = .ok (.aload_n 0, 1) := dk_42 (dk_at dksX1_votedOn_3 17 rfl rfl)
theorem dX1_votedOn_89 : decode cX1_votedOn 89 = .ok (.getfield 141, 3) := dk_180 0 141 (dk_at dksX1_votedOn_3 18 rfl rfl)
theorem dX1_votedOn_92 : decode cX1_votedOn 92 = .ok (.iload_n 3, 1) := dk_29 (dk_at dksX1_votedOn_3 21 rfl rfl)
theorem dX1_votedOn_93 : decode cX1_votedOn 93 = .ok (.iaload, 1) := dk_46 (dk_at dksX1_votedOn_3 22 rfl rfl)
theorem dX1_votedOn_94 : decode cX1_votedOn 94 = .ok (.if_icmp .le 8, 3) := dk_164 0 8 (dk_at dksX1_votedOn_4 0 rfl rfl)
theorem dX1_votedOn_97 : decode cX1_votedOn 97 = .ok (.iload 4, 2) := dk_21 4 (dk_at dksX1_votedOn_4 3 rfl rfl)
theorem dX1_votedOn_99 : decode cX1_votedOn 99 = .ok (.goto 4, 3) := dk_167 0 4 (dk_at dksX1_votedOn_4 5 rfl rfl)
theorem dX1_votedOn_102 : decode cX1_votedOn 102 = .ok (.iload_n 3, 1) := dk_29 (dk_at dksX1_votedOn_4 8 rfl rfl)
theorem dX1_votedOn_103 : decode cX1_votedOn 103 = .ok (.istore_n 3, 1) := dk_62 (dk_at dksX1_votedOn_4 9 rfl rfl)
theorem dX1_votedOn_104 : decode cX1_votedOn 104 = .ok (.iinc 4 1, 3) := dk_132 4 1 (dk_at dksX1_votedOn_4 10 rfl rfl)
theorem dX1_votedOn_107 : decode cX1_votedOn 107 = .ok (.goto (-38), 3) := dk_167 255 218 (dk_at dksX1_votedOn_4 13 rfl rfl)
theorem dX1_votedOn_110 : decode cX1_votedOn 110 = .ok (.iload_n 3, 1) := dk_29 (dk_at dksX1_votedOn_4 16 rfl rfl)
theorem dX1_votedOn_111 : decode cX1_votedOn 111 = .ok (.ireturn, 1) := dk_172 (dk_at dksX1_votedOn_4 17 rfl rfl)
abbrev cX1_leaderBy : ByteArray := prog_1_method_44_code
def yX1_leaderBy : MethodName := ⟨RX1, "leaderBy", "(I)LGlassLeaders$Leader;"⟩
def dkwX1_leaderBy_1 : List UInt8 := [42, 180, 0, 87, 167, 0, 17, 42, 180, 0, 102, 42, 180, 0, 26, 180, 1, 19, 27, 46, 50, 176]
abbrev dktX1_leaderBy_1 : List UInt8 := dkwX1_leaderBy_1 ++ []
def dkwX1_leaderBy_0 : List UInt8 := [42, 180, 0, 45, 2, 159, 0, 26, 27, 42, 180, 0, 45, 159, 0, 11, 27, 42, 180, 0, 48, 160, 0, 10]
abbrev dktX1_leaderBy_0 : List UInt8 := dkwX1_leaderBy_0 ++ dktX1_leaderBy_1
theorem dksX1_leaderBy_0 : cX1_leaderBy.data.toList.drop 0 = dktX1_leaderBy_0 := by decide +kernel
theorem dksX1_leaderBy_1 : cX1_leaderBy.data.toList.drop 24 = dktX1_leaderBy_1 := dk_seg dksX1_leaderBy_0 24 rfl rfl
theorem dX1_leaderBy_0 : decode cX1_leaderBy 0 = .ok (.aload_n 0, 1) := dk_42 (dk_at dksX1_leaderBy_0 0 rfl rfl)
theorem dX1_leaderBy_1 : decode cX1_leaderBy 1 = .ok (.getfield 45, 3) := dk_180 0 45 (dk_at dksX1_leaderBy_0 1 rfl rfl)
theorem dX1_leaderBy_4 : decode cX1_leaderBy 4 = .ok (.iconst (-1), 1) := dk_2 (dk_at dksX1_leaderBy_0 4 rfl rfl)
theorem dX1_leaderBy_5 : decode cX1_leaderBy 5 = .ok (.if_icmp .eq 26, 3) := dk_159 0 26 (dk_at dksX1_leaderBy_0 5 rfl rfl)
theorem dX1_leaderBy_8 : decode cX1_leaderBy 8 = .ok (.iload_n 1, 1) := dk_27 (dk_at dksX1_leaderBy_0 8 rfl rfl)
theorem dX1_leaderBy_9 : decode cX1_leaderBy 9 = .ok (.aload_n 0, 1) := dk_42 (dk_at dksX1_leaderBy_0 9 rfl rfl)
theorem dX1_leaderBy_10 : decode cX1_leaderBy 10 = .ok (.getfield 45, 3) := dk_180 0 45 (dk_at dksX1_leaderBy_0 10 rfl rfl)
theorem dX1_leaderBy_13 : decode cX1_leaderBy 13 = .ok (.if_icmp .eq 11, 3) := dk_159 0 11 (dk_at dksX1_leaderBy_0 13 rfl rfl)
theorem dX1_leaderBy_16 : decode cX1_leaderBy 16 = .ok (.iload_n 1, 1) := dk_27 (dk_at dksX1_leaderBy_0 16 rfl rfl)
theorem dX1_leaderBy_17 : decode cX1_leaderBy 17 = .ok (.aload_n 0, 1) := dk_42 (dk_at dksX1_leaderBy_0 17 rfl rfl)
theorem dX1_leaderBy_18 : decode cX1_leaderBy 18 = .ok (.getfield 48, 3) := dk_180 0 48 (dk_at dksX1_leaderBy_0 18 rfl rfl)
theorem dX1_leaderBy_21 : decode cX1_leaderBy 21 = .ok (.if_icmp .ne 10, 3) := dk_160 0 10 (dk_at dksX1_leaderBy_0 21 rfl rfl)
theorem dX1_leaderBy_24 : decode cX1_leaderBy 24 = .ok (.aload_n 0, 1) := dk_42 (dk_at dksX1_leaderBy_1 0 rfl rfl)
theorem dX1_leaderBy_25 : decode cX1_leaderBy 25 = .ok (.getfield 87, 3) := dk_180 0 87 (dk_at dksX1_leaderBy_1 1 rfl rfl)
theorem dX1_leaderBy_28 : decode cX1_leaderBy 28 = .ok (.goto 17, 3) := dk_167 0 17 (dk_at dksX1_leaderBy_1 4 rfl rfl)
theorem dX1_leaderBy_31 : decode cX1_leaderBy 31 = .ok (.aload_n 0, 1) := dk_42 (dk_at dksX1_leaderBy_1 7 rfl rfl)
theorem dX1_leaderBy_32 : decode cX1_leaderBy 32 = .ok (.getfield 102, 3) := dk_180 0 102 (dk_at dksX1_leaderBy_1 8 rfl rfl)
theorem dX1_leaderBy_35 : decode cX1_leaderBy 35 = .ok (.aload_n 0, 1) := dk_42 (dk_at dksX1_leaderBy_1 11 rfl rfl)
theorem dX1_leaderBy_36 : decode cX1_leaderBy 36 = .ok (.getfield 26, 3) := dk_180 0 26 (dk_at dksX1_leaderBy_1 12 rfl rfl)
theorem dX1_leaderBy_39 : decode cX1_leaderBy 39 = .ok (.getfield 275, 3) := dk_180 1 19 (dk_at dksX1_leaderBy_1 15 rfl rfl)
theorem dX1_leaderBy_42 : decode cX1_leaderBy 42 = .ok (.iload_n 1, 1) := dk_27 (dk_at dksX1_leaderBy_1 18 rfl rfl)
theorem dX1_leaderBy_43 : decode cX1_leaderBy 43 = .ok (.iaload, 1) := dk_46 (dk_at dksX1_leaderBy_1 19 rfl rfl)
theorem dX1_leaderBy_44 : decode cX1_leaderBy 44 = .ok (.aaload, 1) := dk_50 (dk_at dksX1_leaderBy_1 20 rfl rfl)
theorem dX1_leaderBy_45 : decode cX1_leaderBy 45 = .ok (.areturn, 1) := dk_176 (dk_at dksX1_leaderBy_1 21 rfl rfl)
abbrev cX1_mixes : ByteArray := prog_1_method_47_code
def yX1_mixes : MethodName := ⟨RX1, "mixes", "([JII)J"⟩
def dkwX1_mixes_3 : List UInt8 := [28, 3, 182, 1, 167, 47, 105, 22, 6, 21, 5, 133, 101, 43, 42, 28, 29, 182, 1, 167, 47, 105, 97, 173]
abbrev dktX1_mixes_3 : List UInt8 := dkwX1_mixes_3 ++ []
def dkwX1_mixes_2 : List UInt8 := [21, 5, 154, 0, 17, 22, 6, 43, 42, 28, 29, 182, 1, 167, 47, 105, 167, 0, 31, 21, 5, 133, 43, 42]
abbrev dktX1_mixes_2 : List UInt8 := dkwX1_mixes_2 ++ dktX1_mixes_3
def dkwX1_mixes_1 : List UInt8 := [50, 21, 4, 46, 54, 5, 42, 21, 4, 182, 1, 87, 153, 0, 9, 20, 1, 91, 167, 0, 4, 10, 55, 6]
abbrev dktX1_mixes_1 : List UInt8 := dkwX1_mixes_1 ++ dktX1_mixes_2
def dkwX1_mixes_0 : List UInt8 := [28, 184, 1, 50, 54, 4, 29, 154, 0, 7, 3, 167, 0, 17, 42, 180, 0, 12, 180, 1, 7, 29, 4, 100]
abbrev dktX1_mixes_0 : List UInt8 := dkwX1_mixes_0 ++ dktX1_mixes_1
theorem dksX1_mixes_0 : cX1_mixes.data.toList.drop 0 = dktX1_mixes_0 := by decide +kernel
theorem dksX1_mixes_1 : cX1_mixes.data.toList.drop 24 = dktX1_mixes_1 := dk_seg dksX1_mixes_0 24 rfl rfl
theorem dksX1_mixes_2 : cX1_mixes.data.toList.drop 48 = dktX1_mixes_2 := dk_seg dksX1_mixes_1 24 rfl rfl
theorem dksX1_mixes_3 : cX1_mixes.data.toList.drop 72 = dktX1_mixes_3 := dk_seg dksX1_mixes_2 24 rfl rfl
theorem dX1_mixes_0 : decode cX1_mixes 0 = .ok (.iload_n 2, 1) := dk_28 (dk_at dksX1_mixes_0 0 rfl rfl)
theorem dX1_mixes_1 : decode cX1_mixes 1 = .ok (.invokestatic 306, 3) := dk_184 1 50 (dk_at dksX1_mixes_0 1 rfl rfl)
theorem dX1_mixes_4 : decode cX1_mixes 4 = .ok (.istore 4, 2) := dk_54 4 (dk_at dksX1_mixes_0 4 rfl rfl)
theorem dX1_mixes_6 : decode cX1_mixes 6 = .ok (.iload_n 3, 1) := dk_29 (dk_at dksX1_mixes_0 6 rfl rfl)
theorem dX1_mixes_7 : decode cX1_mixes 7 = .ok (.ifCond .ne 7, 3) := dk_154 0 7 (dk_at dksX1_mixes_0 7 rfl rfl)
theorem dX1_mixes_10 : decode cX1_mixes 10 = .ok (.iconst 0, 1) := dk_3 (dk_at dksX1_mixes_0 10 rfl rfl)
theorem dX1_mixes_11 : decode cX1_mixes 11 = .ok (.goto 17, 3) := dk_167 0 17 (dk_at dksX1_mixes_0 11 rfl rfl)
theorem dX1_mixes_14 : decode cX1_mixes 14 = .ok (.aload_n 0, 1) := dk_42 (dk_at dksX1_mixes_0 14 rfl rfl)
theorem dX1_mixes_15 : decode cX1_mixes 15 = .ok (.getfield 12, 3) := dk_180 0 12 (dk_at dksX1_mixes_0 15 rfl rfl)
theorem dX1_mixes_18 : decode cX1_mixes 18 = .ok (.getfield 263, 3) := dk_180 1 7 (dk_at dksX1_mixes_0 18 rfl rfl)
theorem dX1_mixes_21 : decode cX1_mixes 21 = .ok (.iload_n 3, 1) := dk_29 (dk_at dksX1_mixes_0 21 rfl rfl)
theorem dX1_mixes_22 : decode cX1_mixes 22 = .ok (.iconst 1, 1) := dk_4 (dk_at dksX1_mixes_0 22 rfl rfl)
theorem dX1_mixes_23 : decode cX1_mixes 23 = .ok (.isub, 1) := dk_100 (dk_at dksX1_mixes_0 23 rfl rfl)
theorem dX1_mixes_24 : decode cX1_mixes 24 = .ok (.aaload, 1) := dk_50 (dk_at dksX1_mixes_1 0 rfl rfl)
theorem dX1_mixes_25 : decode cX1_mixes 25 = .ok (.iload 4, 2) := dk_21 4 (dk_at dksX1_mixes_1 1 rfl rfl)
theorem dX1_mixes_27 : decode cX1_mixes 27 = .ok (.iaload, 1) := dk_46 (dk_at dksX1_mixes_1 3 rfl rfl)
theorem dX1_mixes_28 : decode cX1_mixes 28 = .ok (.istore 5, 2) := dk_54 5 (dk_at dksX1_mixes_1 4 rfl rfl)
theorem dX1_mixes_30 : decode cX1_mixes 30 = .ok (.aload_n 0, 1) := dk_42 (dk_at dksX1_mixes_1 6 rfl rfl)
theorem dX1_mixes_31 : decode cX1_mixes 31 = .ok (.iload 4, 2) := dk_21 4 (dk_at dksX1_mixes_1 7 rfl rfl)
theorem dX1_mixes_33 : decode cX1_mixes 33 = .ok (.invokevirtual 343, 3) := dk_182 1 87 (dk_at dksX1_mixes_1 9 rfl rfl)
theorem dX1_mixes_36 : decode cX1_mixes 36 = .ok (.ifCond .eq 9, 3) := dk_153 0 9 (dk_at dksX1_mixes_1 12 rfl rfl)
theorem dX1_mixes_39 : decode cX1_mixes 39 = .ok (.ldc2_w 347, 3) := dk_20 1 91 (dk_at dksX1_mixes_1 15 rfl rfl)
theorem dX1_mixes_42 : decode cX1_mixes 42 = .ok (.goto 4, 3) := dk_167 0 4 (dk_at dksX1_mixes_1 18 rfl rfl)
theorem dX1_mixes_45 : decode cX1_mixes 45 = .ok (.lconst 1, 1) := dk_10 (dk_at dksX1_mixes_1 21 rfl rfl)
theorem dX1_mixes_46 : decode cX1_mixes 46 = .ok (.lstore 6, 2) := dk_55 6 (dk_at dksX1_mixes_1 22 rfl rfl)
theorem dX1_mixes_48 : decode cX1_mixes 48 = .ok (.iload 5, 2) := dk_21 5 (dk_at dksX1_mixes_2 0 rfl rfl)
theorem dX1_mixes_50 : decode cX1_mixes 50 = .ok (.ifCond .ne 17, 3) := dk_154 0 17 (dk_at dksX1_mixes_2 2 rfl rfl)
theorem dX1_mixes_53 : decode cX1_mixes 53 = .ok (.lload 6, 2) := dk_22 6 (dk_at dksX1_mixes_2 5 rfl rfl)
theorem dX1_mixes_55 : decode cX1_mixes 55 = .ok (.aload_n 1, 1) := dk_43 (dk_at dksX1_mixes_2 7 rfl rfl)
theorem dX1_mixes_56 : decode cX1_mixes 56 = .ok (.aload_n 0, 1) := dk_42 (dk_at dksX1_mixes_2 8 rfl rfl)
theorem dX1_mixes_57 : decode cX1_mixes 57 = .ok (.iload_n 2, 1) := dk_28 (dk_at dksX1_mixes_2 9 rfl rfl)
theorem dX1_mixes_58 : decode cX1_mixes 58 = .ok (.iload_n 3, 1) := dk_29 (dk_at dksX1_mixes_2 10 rfl rfl)
theorem dX1_mixes_59 : decode cX1_mixes 59 = .ok (.invokevirtual 423, 3) := dk_182 1 167 (dk_at dksX1_mixes_2 11 rfl rfl)
theorem dX1_mixes_62 : decode cX1_mixes 62 = .ok (.laload, 1) := dk_47 (dk_at dksX1_mixes_2 14 rfl rfl)
theorem dX1_mixes_63 : decode cX1_mixes 63 = .ok (.lmul, 1) := dk_105 (dk_at dksX1_mixes_2 15 rfl rfl)
theorem dX1_mixes_64 : decode cX1_mixes 64 = .ok (.goto 31, 3) := dk_167 0 31 (dk_at dksX1_mixes_2 16 rfl rfl)
theorem dX1_mixes_67 : decode cX1_mixes 67 = .ok (.iload 5, 2) := dk_21 5 (dk_at dksX1_mixes_2 19 rfl rfl)
theorem dX1_mixes_69 : decode cX1_mixes 69 = .ok (.i2l, 1) := dk_133 (dk_at dksX1_mixes_2 21 rfl rfl)
theorem dX1_mixes_70 : decode cX1_mixes 70 = .ok (.aload_n 1, 1) := dk_43 (dk_at dksX1_mixes_2 22 rfl rfl)
theorem dX1_mixes_71 : decode cX1_mixes 71 = .ok (.aload_n 0, 1) := dk_42 (dk_at dksX1_mixes_2 23 rfl rfl)
theorem dX1_mixes_72 : decode cX1_mixes 72 = .ok (.iload_n 2, 1) := dk_28 (dk_at dksX1_mixes_3 0 rfl rfl)
theorem dX1_mixes_73 : decode cX1_mixes 73 = .ok (.iconst 0, 1) := dk_3 (dk_at dksX1_mixes_3 1 rfl rfl)
theorem dX1_mixes_74 : decode cX1_mixes 74 = .ok (.invokevirtual 423, 3) := dk_182 1 167 (dk_at dksX1_mixes_3 2 rfl rfl)
theorem dX1_mixes_77 : decode cX1_mixes 77 = .ok (.laload, 1) := dk_47 (dk_at dksX1_mixes_3 5 rfl rfl)
theorem dX1_mixes_78 : decode cX1_mixes 78 = .ok (.lmul, 1) := dk_105 (dk_at dksX1_mixes_3 6 rfl rfl)
theorem dX1_mixes_79 : decode cX1_mixes 79 = .ok (.lload 6, 2) := dk_22 6 (dk_at dksX1_mixes_3 7 rfl rfl)
theorem dX1_mixes_81 : decode cX1_mixes 81 = .ok (.iload 5, 2) := dk_21 5 (dk_at dksX1_mixes_3 9 rfl rfl)
theorem dX1_mixes_83 : decode cX1_mixes 83 = .ok (.i2l, 1) := dk_133 (dk_at dksX1_mixes_3 11 rfl rfl)
theorem dX1_mixes_84 : decode cX1_mixes 84 = .ok (.lsub, 1) := dk_101 (dk_at dksX1_mixes_3 12 rfl rfl)
theorem dX1_mixes_85 : decode cX1_mixes 85 = .ok (.aload_n 1, 1) := dk_43 (dk_at dksX1_mixes_3 13 rfl rfl)
theorem dX1_mixes_86 : decode cX1_mixes 86 = .ok (.aload_n 0, 1) := dk_42 (dk_at dksX1_mixes_3 14 rfl rfl)
theorem dX1_mixes_87 : decode cX1_mixes 87 = .ok (.iload_n 2, 1) := dk_28 (dk_at dksX1_mixes_3 15 rfl rfl)
theorem dX1_mixes_88 : decode cX1_mixes 88 = .ok (.iload_n 3, 1) := dk_29 (dk_at dksX1_mixes_3 16 rfl rfl)
theorem dX1_mixes_89 : decode cX1_mixes 89 = .ok (.invokevirtual 423, 3) := dk_182 1 167 (dk_at dksX1_mixes_3 17 rfl rfl)
theorem dX1_mixes_92 : decode cX1_mixes 92 = .ok (.laload, 1) := dk_47 (dk_at dksX1_mixes_3 20 rfl rfl)
theorem dX1_mixes_93 : decode cX1_mixes 93 = .ok (.lmul, 1) := dk_105 (dk_at dksX1_mixes_3 21 rfl rfl)
theorem dX1_mixes_94 : decode cX1_mixes 94 = .ok (.ladd, 1) := dk_97 (dk_at dksX1_mixes_3 22 rfl rfl)
theorem dX1_mixes_95 : decode cX1_mixes 95 = .ok (.lreturn, 1) := dk_173 (dk_at dksX1_mixes_3 23 rfl rfl)
abbrev cX1_value : ByteArray := prog_1_method_49_code
def yX1_value : MethodName := ⟨RX1, "value", "(IIII)J"⟩
def dkwX1_value_1 : List UInt8 := [180, 0, 113, 27, 50, 21, 5, 47, 173]
abbrev dktX1_value_1 : List UInt8 := dkwX1_value_1 ++ []
def dkwX1_value_0 : List UInt8 := [42, 182, 1, 31, 42, 27, 182, 1, 10, 42, 28, 29, 21, 4, 182, 1, 105, 54, 5, 42, 182, 1, 170, 42]
abbrev dktX1_value_0 : List UInt8 := dkwX1_value_0 ++ dktX1_value_1
theorem dksX1_value_0 : cX1_value.data.toList.drop 0 = dktX1_value_0 := by decide +kernel
theorem dksX1_value_1 : cX1_value.data.toList.drop 24 = dktX1_value_1 := dk_seg dksX1_value_0 24 rfl rfl
theorem dX1_value_0 : decode cX1_value 0 = .ok (.aload_n 0, 1) := dk_42 (dk_at dksX1_value_0 0 rfl rfl)
theorem dX1_value_1 : decode cX1_value 1 = .ok (.invokevirtual 287, 3) := dk_182 1 31 (dk_at dksX1_value_0 1 rfl rfl)
theorem dX1_value_4 : decode cX1_value 4 = .ok (.aload_n 0, 1) := dk_42 (dk_at dksX1_value_0 4 rfl rfl)
theorem dX1_value_5 : decode cX1_value 5 = .ok (.iload_n 1, 1) := dk_27 (dk_at dksX1_value_0 5 rfl rfl)
theorem dX1_value_6 : decode cX1_value 6 = .ok (.invokevirtual 266, 3) := dk_182 1 10 (dk_at dksX1_value_0 6 rfl rfl)
theorem dX1_value_9 : decode cX1_value 9 = .ok (.aload_n 0, 1) := dk_42 (dk_at dksX1_value_0 9 rfl rfl)
theorem dX1_value_10 : decode cX1_value 10 = .ok (.iload_n 2, 1) := dk_28 (dk_at dksX1_value_0 10 rfl rfl)
theorem dX1_value_11 : decode cX1_value 11 = .ok (.iload_n 3, 1) := dk_29 (dk_at dksX1_value_0 11 rfl rfl)
theorem dX1_value_12 : decode cX1_value 12 = .ok (.iload 4, 2) := dk_21 4 (dk_at dksX1_value_0 12 rfl rfl)
theorem dX1_value_14 : decode cX1_value 14 = .ok (.invokevirtual 361, 3) := dk_182 1 105 (dk_at dksX1_value_0 14 rfl rfl)
theorem dX1_value_17 : decode cX1_value 17 = .ok (.istore 5, 2) := dk_54 5 (dk_at dksX1_value_0 17 rfl rfl)
theorem dX1_value_19 : decode cX1_value 19 = .ok (.aload_n 0, 1) := dk_42 (dk_at dksX1_value_0 19 rfl rfl)
theorem dX1_value_20 : decode cX1_value 20 = .ok (.invokevirtual 426, 3) := dk_182 1 170 (dk_at dksX1_value_0 20 rfl rfl)
theorem dX1_value_23 : decode cX1_value 23 = .ok (.aload_n 0, 1) := dk_42 (dk_at dksX1_value_0 23 rfl rfl)
theorem dX1_value_24 : decode cX1_value 24 = .ok (.getfield 113, 3) := dk_180 0 113 (dk_at dksX1_value_1 0 rfl rfl)
theorem dX1_value_27 : decode cX1_value 27 = .ok (.iload_n 1, 1) := dk_27 (dk_at dksX1_value_1 3 rfl rfl)
theorem dX1_value_28 : decode cX1_value 28 = .ok (.aaload, 1) := dk_50 (dk_at dksX1_value_1 4 rfl rfl)
theorem dX1_value_29 : decode cX1_value 29 = .ok (.iload 5, 2) := dk_21 5 (dk_at dksX1_value_1 5 rfl rfl)
theorem dX1_value_31 : decode cX1_value 31 = .ok (.laload, 1) := dk_47 (dk_at dksX1_value_1 7 rfl rfl)
theorem dX1_value_32 : decode cX1_value 32 = .ok (.lreturn, 1) := dk_173 (dk_at dksX1_value_1 8 rfl rfl)
abbrev cX1_scale : ByteArray := prog_1_method_50_code
def yX1_scale : MethodName := ⟨RX1, "scale", "(I)J"⟩
def dkwX1_scale_1 : List UInt8 := [3, 182, 0, 173, 42, 182, 1, 108, 42, 180, 0, 57, 27, 47, 173]
abbrev dktX1_scale_1 : List UInt8 := dkwX1_scale_1 ++ []
def dkwX1_scale_0 : List UInt8 := [42, 182, 1, 31, 42, 27, 3, 42, 180, 0, 12, 180, 0, 237, 184, 0, 163, 154, 0, 7, 4, 167, 0, 4]
abbrev dktX1_scale_0 : List UInt8 := dkwX1_scale_0 ++ dktX1_scale_1
theorem dksX1_scale_0 : cX1_scale.data.toList.drop 0 = dktX1_scale_0 := by decide +kernel
theorem dksX1_scale_1 : cX1_scale.data.toList.drop 24 = dktX1_scale_1 := dk_seg dksX1_scale_0 24 rfl rfl
theorem dX1_scale_0 : decode cX1_scale 0 = .ok (.aload_n 0, 1) := dk_42 (dk_at dksX1_scale_0 0 rfl rfl)
theorem dX1_scale_1 : decode cX1_scale 1 = .ok (.invokevirtual 287, 3) := dk_182 1 31 (dk_at dksX1_scale_0 1 rfl rfl)
theorem dX1_scale_4 : decode cX1_scale 4 = .ok (.aload_n 0, 1) := dk_42 (dk_at dksX1_scale_0 4 rfl rfl)
theorem dX1_scale_5 : decode cX1_scale 5 = .ok (.iload_n 1, 1) := dk_27 (dk_at dksX1_scale_0 5 rfl rfl)
theorem dX1_scale_6 : decode cX1_scale 6 = .ok (.iconst 0, 1) := dk_3 (dk_at dksX1_scale_0 6 rfl rfl)
theorem dX1_scale_7 : decode cX1_scale 7 = .ok (.aload_n 0, 1) := dk_42 (dk_at dksX1_scale_0 7 rfl rfl)
theorem dX1_scale_8 : decode cX1_scale 8 = .ok (.getfield 12, 3) := dk_180 0 12 (dk_at dksX1_scale_0 8 rfl rfl)
theorem dX1_scale_11 : decode cX1_scale 11 = .ok (.getfield 237, 3) := dk_180 0 237 (dk_at dksX1_scale_0 11 rfl rfl)
theorem dX1_scale_14 : decode cX1_scale 14 = .ok (.invokestatic 163, 3) := dk_184 0 163 (dk_at dksX1_scale_0 14 rfl rfl)
theorem dX1_scale_17 : decode cX1_scale 17 = .ok (.ifCond .ne 7, 3) := dk_154 0 7 (dk_at dksX1_scale_0 17 rfl rfl)
theorem dX1_scale_20 : decode cX1_scale 20 = .ok (.iconst 1, 1) := dk_4 (dk_at dksX1_scale_0 20 rfl rfl)
theorem dX1_scale_21 : decode cX1_scale 21 = .ok (.goto 4, 3) := dk_167 0 4 (dk_at dksX1_scale_0 21 rfl rfl)
theorem dX1_scale_24 : decode cX1_scale 24 = .ok (.iconst 0, 1) := dk_3 (dk_at dksX1_scale_1 0 rfl rfl)
theorem dX1_scale_25 : decode cX1_scale 25 = .ok (.invokevirtual 173, 3) := dk_182 0 173 (dk_at dksX1_scale_1 1 rfl rfl)
theorem dX1_scale_28 : decode cX1_scale 28 = .ok (.aload_n 0, 1) := dk_42 (dk_at dksX1_scale_1 4 rfl rfl)
theorem dX1_scale_29 : decode cX1_scale 29 = .ok (.invokevirtual 364, 3) := dk_182 1 108 (dk_at dksX1_scale_1 5 rfl rfl)
theorem dX1_scale_32 : decode cX1_scale 32 = .ok (.aload_n 0, 1) := dk_42 (dk_at dksX1_scale_1 8 rfl rfl)
theorem dX1_scale_33 : decode cX1_scale 33 = .ok (.getfield 57, 3) := dk_180 0 57 (dk_at dksX1_scale_1 9 rfl rfl)
theorem dX1_scale_36 : decode cX1_scale 36 = .ok (.iload_n 1, 1) := dk_27 (dk_at dksX1_scale_1 12 rfl rfl)
theorem dX1_scale_37 : decode cX1_scale 37 = .ok (.laload, 1) := dk_47 (dk_at dksX1_scale_1 13 rfl rfl)
theorem dX1_scale_38 : decode cX1_scale 38 = .ok (.lreturn, 1) := dk_173 (dk_at dksX1_scale_1 14 rfl rfl)
abbrev cX1_all : ByteArray := prog_1_method_52_code
def yX1_all : MethodName := ⟨RX1, "all", "()J"⟩
def dkwX1_all_0 : List UInt8 := [42, 182, 1, 31, 42, 2, 182, 1, 176, 173]
abbrev dktX1_all_0 : List UInt8 := dkwX1_all_0 ++ []
theorem dksX1_all_0 : cX1_all.data.toList.drop 0 = dktX1_all_0 := by decide +kernel
theorem dX1_all_0 : decode cX1_all 0 = .ok (.aload_n 0, 1) := dk_42 (dk_at dksX1_all_0 0 rfl rfl)
theorem dX1_all_1 : decode cX1_all 1 = .ok (.invokevirtual 287, 3) := dk_182 1 31 (dk_at dksX1_all_0 1 rfl rfl)
theorem dX1_all_4 : decode cX1_all 4 = .ok (.aload_n 0, 1) := dk_42 (dk_at dksX1_all_0 4 rfl rfl)
theorem dX1_all_5 : decode cX1_all 5 = .ok (.iconst (-1), 1) := dk_2 (dk_at dksX1_all_0 5 rfl rfl)
theorem dX1_all_6 : decode cX1_all 6 = .ok (.invokevirtual 432, 3) := dk_182 1 176 (dk_at dksX1_all_0 6 rfl rfl)
theorem dX1_all_9 : decode cX1_all 9 = .ok (.lreturn, 1) := dk_173 (dk_at dksX1_all_0 9 rfl rfl)
abbrev cX1_worthOf : ByteArray := prog_1_method_51_code
def yX1_worthOf : MethodName := ⟨RX1, "worthOf", "(I)J"⟩
def dkwX1_worthOf_2 : List UInt8 := [182, 1, 173, 47, 97, 65, 132, 4, 1, 167, 255, 226, 32, 173]
abbrev dktX1_worthOf_2 : List UInt8 := dkwX1_worthOf_2 ++ []
def dkwX1_worthOf_1 : List UInt8 := [54, 4, 21, 4, 42, 180, 0, 12, 180, 0, 160, 162, 0, 24, 32, 42, 180, 0, 113, 21, 4, 50, 42]
abbrev dktX1_worthOf_1 : List UInt8 := dkwX1_worthOf_1 ++ dktX1_worthOf_2
def dkwX1_worthOf_0 : List UInt8 := [42, 182, 1, 170, 27, 2, 159, 0, 15, 42, 180, 0, 113, 27, 50, 42, 182, 1, 173, 47, 173, 9, 65, 3]
abbrev dktX1_worthOf_0 : List UInt8 := dkwX1_worthOf_0 ++ dktX1_worthOf_1
theorem dksX1_worthOf_0 : cX1_worthOf.data.toList.drop 0 = dktX1_worthOf_0 := by decide +kernel
theorem dksX1_worthOf_1 : cX1_worthOf.data.toList.drop 24 = dktX1_worthOf_1 := dk_seg dksX1_worthOf_0 24 rfl rfl
theorem dksX1_worthOf_2 : cX1_worthOf.data.toList.drop 47 = dktX1_worthOf_2 := dk_seg dksX1_worthOf_1 23 rfl rfl
theorem dX1_worthOf_0 : decode cX1_worthOf 0 = .ok (.aload_n 0, 1) := dk_42 (dk_at dksX1_worthOf_0 0 rfl rfl)
theorem dX1_worthOf_1 : decode cX1_worthOf 1 = .ok (.invokevirtual 426, 3) := dk_182 1 170 (dk_at dksX1_worthOf_0 1 rfl rfl)
theorem dX1_worthOf_4 : decode cX1_worthOf 4 = .ok (.iload_n 1, 1) := dk_27 (dk_at dksX1_worthOf_0 4 rfl rfl)
theorem dX1_worthOf_5 : decode cX1_worthOf 5 = .ok (.iconst (-1), 1) := dk_2 (dk_at dksX1_worthOf_0 5 rfl rfl)
theorem dX1_worthOf_6 : decode cX1_worthOf 6 = .ok (.if_icmp .eq 15, 3) := dk_159 0 15 (dk_at dksX1_worthOf_0 6 rfl rfl)
theorem dX1_worthOf_9 : decode cX1_worthOf 9 = .ok (.aload_n 0, 1) := dk_42 (dk_at dksX1_worthOf_0 9 rfl rfl)
theorem dX1_worthOf_10 : decode cX1_worthOf 10 = .ok (.getfield 113, 3) := dk_180 0 113 (dk_at dksX1_worthOf_0 10 rfl rfl)
theorem dX1_worthOf_13 : decode cX1_worthOf 13 = .ok (.iload_n 1, 1) := dk_27 (dk_at dksX1_worthOf_0 13 rfl rfl)
theorem dX1_worthOf_14 : decode cX1_worthOf 14 = .ok (.aaload, 1) := dk_50 (dk_at dksX1_worthOf_0 14 rfl rfl)
theorem dX1_worthOf_15 : decode cX1_worthOf 15 = .ok (.aload_n 0, 1) := dk_42 (dk_at dksX1_worthOf_0 15 rfl rfl)
theorem dX1_worthOf_16 : decode cX1_worthOf 16 = .ok (.invokevirtual 429, 3) := dk_182 1 173 (dk_at dksX1_worthOf_0 16 rfl rfl)
theorem dX1_worthOf_19 : decode cX1_worthOf 19 = .ok (.laload, 1) := dk_47 (dk_at dksX1_worthOf_0 19 rfl rfl)
theorem dX1_worthOf_20 : decode cX1_worthOf 20 = .ok (.lreturn, 1) := dk_173 (dk_at dksX1_worthOf_0 20 rfl rfl)
theorem dX1_worthOf_21 : decode cX1_worthOf 21 = .ok (.lconst 0, 1) := dk_9 (dk_at dksX1_worthOf_0 21 rfl rfl)
theorem dX1_worthOf_22 : decode cX1_worthOf 22 = .ok (.lstore_n 2, 1) := dk_65 (dk_at dksX1_worthOf_0 22 rfl rfl)
theorem dX1_worthOf_23 : decode cX1_worthOf 23 = .ok (.iconst 0, 1) := dk_3 (dk_at dksX1_worthOf_0 23 rfl rfl)
theorem dX1_worthOf_24 : decode cX1_worthOf 24 = .ok (.istore 4, 2) := dk_54 4 (dk_at dksX1_worthOf_1 0 rfl rfl)
theorem dX1_worthOf_26 : decode cX1_worthOf 26 = .ok (.iload 4, 2) := dk_21 4 (dk_at dksX1_worthOf_1 2 rfl rfl)
theorem dX1_worthOf_28 : decode cX1_worthOf 28 = .ok (.aload_n 0, 1) := dk_42 (dk_at dksX1_worthOf_1 4 rfl rfl)
theorem dX1_worthOf_29 : decode cX1_worthOf 29 = .ok (.getfield 12, 3) := dk_180 0 12 (dk_at dksX1_worthOf_1 5 rfl rfl)
theorem dX1_worthOf_32 : decode cX1_worthOf 32 = .ok (.getfield 160, 3) := dk_180 0 160 (dk_at dksX1_worthOf_1 8 rfl rfl)
theorem dX1_worthOf_35 : decode cX1_worthOf 35 = .ok (.if_icmp .ge 24, 3) := dk_162 0 24 (dk_at dksX1_worthOf_1 11 rfl rfl)
theorem dX1_worthOf_38 : decode cX1_worthOf 38 = .ok (.lload_n 2, 1) := dk_32 (dk_at dksX1_worthOf_1 14 rfl rfl)
theorem dX1_worthOf_39 : decode cX1_worthOf 39 = .ok (.aload_n 0, 1) := dk_42 (dk_at dksX1_worthOf_1 15 rfl rfl)
theorem dX1_worthOf_40 : decode cX1_worthOf 40 = .ok (.getfield 113, 3) := dk_180 0 113 (dk_at dksX1_worthOf_1 16 rfl rfl)
theorem dX1_worthOf_43 : decode cX1_worthOf 43 = .ok (.iload 4, 2) := dk_21 4 (dk_at dksX1_worthOf_1 19 rfl rfl)
theorem dX1_worthOf_45 : decode cX1_worthOf 45 = .ok (.aaload, 1) := dk_50 (dk_at dksX1_worthOf_1 21 rfl rfl)
theorem dX1_worthOf_46 : decode cX1_worthOf 46 = .ok (.aload_n 0, 1) := dk_42 (dk_at dksX1_worthOf_1 22 rfl rfl)
theorem dX1_worthOf_47 : decode cX1_worthOf 47 = .ok (.invokevirtual 429, 3) := dk_182 1 173 (dk_at dksX1_worthOf_2 0 rfl rfl)
theorem dX1_worthOf_50 : decode cX1_worthOf 50 = .ok (.laload, 1) := dk_47 (dk_at dksX1_worthOf_2 3 rfl rfl)
theorem dX1_worthOf_51 : decode cX1_worthOf 51 = .ok (.ladd, 1) := dk_97 (dk_at dksX1_worthOf_2 4 rfl rfl)
theorem dX1_worthOf_52 : decode cX1_worthOf 52 = .ok (.lstore_n 2, 1) := dk_65 (dk_at dksX1_worthOf_2 5 rfl rfl)
theorem dX1_worthOf_53 : decode cX1_worthOf 53 = .ok (.iinc 4 1, 3) := dk_132 4 1 (dk_at dksX1_worthOf_2 6 rfl rfl)
theorem dX1_worthOf_56 : decode cX1_worthOf 56 = .ok (.goto (-30), 3) := dk_167 255 226 (dk_at dksX1_worthOf_2 9 rfl rfl)
theorem dX1_worthOf_59 : decode cX1_worthOf 59 = .ok (.lload_n 2, 1) := dk_32 (dk_at dksX1_worthOf_2 12 rfl rfl)
theorem dX1_worthOf_60 : decode cX1_worthOf 60 = .ok (.lreturn, 1) := dk_173 (dk_at dksX1_worthOf_2 13 rfl rfl)
abbrev cX1_begin : ByteArray := prog_1_method_30_code
def yX1_begin : MethodName := ⟨RX1, "begin", "()I"⟩
def dkwX1_begin_0 : List UInt8 := [42, 180, 0, 12, 180, 0, 251, 3, 42, 180, 0, 12, 180, 0, 246, 184, 1, 37, 172]
abbrev dktX1_begin_0 : List UInt8 := dkwX1_begin_0 ++ []
theorem dksX1_begin_0 : cX1_begin.data.toList.drop 0 = dktX1_begin_0 := by decide +kernel
theorem dX1_begin_0 : decode cX1_begin 0 = .ok (.aload_n 0, 1) := dk_42 (dk_at dksX1_begin_0 0 rfl rfl)
theorem dX1_begin_1 : decode cX1_begin 1 = .ok (.getfield 12, 3) := dk_180 0 12 (dk_at dksX1_begin_0 1 rfl rfl)
theorem dX1_begin_4 : decode cX1_begin 4 = .ok (.getfield 251, 3) := dk_180 0 251 (dk_at dksX1_begin_0 4 rfl rfl)
theorem dX1_begin_7 : decode cX1_begin 7 = .ok (.iconst 0, 1) := dk_3 (dk_at dksX1_begin_0 7 rfl rfl)
theorem dX1_begin_8 : decode cX1_begin 8 = .ok (.aload_n 0, 1) := dk_42 (dk_at dksX1_begin_0 8 rfl rfl)
theorem dX1_begin_9 : decode cX1_begin 9 = .ok (.getfield 12, 3) := dk_180 0 12 (dk_at dksX1_begin_0 9 rfl rfl)
theorem dX1_begin_12 : decode cX1_begin 12 = .ok (.getfield 246, 3) := dk_180 0 246 (dk_at dksX1_begin_0 12 rfl rfl)
theorem dX1_begin_15 : decode cX1_begin 15 = .ok (.invokestatic 293, 3) := dk_184 1 37 (dk_at dksX1_begin_0 15 rfl rfl)
theorem dX1_begin_18 : decode cX1_begin 18 = .ok (.ireturn, 1) := dk_172 (dk_at dksX1_begin_0 18 rfl rfl)
abbrev cX1_alone : ByteArray := prog_1_method_53_code
def yX1_alone : MethodName := ⟨RX1, "alone", "(I)J"⟩
def dkwX1_alone_1 : List UInt8 := [173]
abbrev dktX1_alone_1 : List UInt8 := dkwX1_alone_1 ++ []
def dkwX1_alone_0 : List UInt8 := [42, 182, 1, 31, 42, 27, 182, 1, 10, 42, 182, 1, 143, 42, 180, 0, 116, 27, 50, 42, 182, 1, 173, 47]
abbrev dktX1_alone_0 : List UInt8 := dkwX1_alone_0 ++ dktX1_alone_1
theorem dksX1_alone_0 : cX1_alone.data.toList.drop 0 = dktX1_alone_0 := by decide +kernel
theorem dksX1_alone_1 : cX1_alone.data.toList.drop 24 = dktX1_alone_1 := dk_seg dksX1_alone_0 24 rfl rfl
theorem dX1_alone_0 : decode cX1_alone 0 = .ok (.aload_n 0, 1) := dk_42 (dk_at dksX1_alone_0 0 rfl rfl)
theorem dX1_alone_1 : decode cX1_alone 1 = .ok (.invokevirtual 287, 3) := dk_182 1 31 (dk_at dksX1_alone_0 1 rfl rfl)
theorem dX1_alone_4 : decode cX1_alone 4 = .ok (.aload_n 0, 1) := dk_42 (dk_at dksX1_alone_0 4 rfl rfl)
theorem dX1_alone_5 : decode cX1_alone 5 = .ok (.iload_n 1, 1) := dk_27 (dk_at dksX1_alone_0 5 rfl rfl)
theorem dX1_alone_6 : decode cX1_alone 6 = .ok (.invokevirtual 266, 3) := dk_182 1 10 (dk_at dksX1_alone_0 6 rfl rfl)
theorem dX1_alone_9 : decode cX1_alone 9 = .ok (.aload_n 0, 1) := dk_42 (dk_at dksX1_alone_0 9 rfl rfl)
theorem dX1_alone_10 : decode cX1_alone 10 = .ok (.invokevirtual 399, 3) := dk_182 1 143 (dk_at dksX1_alone_0 10 rfl rfl)
theorem dX1_alone_13 : decode cX1_alone 13 = .ok (.aload_n 0, 1) := dk_42 (dk_at dksX1_alone_0 13 rfl rfl)
theorem dX1_alone_14 : decode cX1_alone 14 = .ok (.getfield 116, 3) := dk_180 0 116 (dk_at dksX1_alone_0 14 rfl rfl)
theorem dX1_alone_17 : decode cX1_alone 17 = .ok (.iload_n 1, 1) := dk_27 (dk_at dksX1_alone_0 17 rfl rfl)
theorem dX1_alone_18 : decode cX1_alone 18 = .ok (.aaload, 1) := dk_50 (dk_at dksX1_alone_0 18 rfl rfl)
theorem dX1_alone_19 : decode cX1_alone 19 = .ok (.aload_n 0, 1) := dk_42 (dk_at dksX1_alone_0 19 rfl rfl)
theorem dX1_alone_20 : decode cX1_alone 20 = .ok (.invokevirtual 429, 3) := dk_182 1 173 (dk_at dksX1_alone_0 20 rfl rfl)
theorem dX1_alone_23 : decode cX1_alone 23 = .ok (.laload, 1) := dk_47 (dk_at dksX1_alone_0 23 rfl rfl)
theorem dX1_alone_24 : decode cX1_alone 24 = .ok (.lreturn, 1) := dk_173 (dk_at dksX1_alone_1 0 rfl rfl)
abbrev cX1_run : ByteArray := prog_1_method_55_code
def yX1_run : MethodName := ⟨RX1, "run", "(I)I"⟩
def dkwX1_run_6 : List UInt8 := [181, 1, 193, 29, 172]
abbrev dktX1_run_6 : List UInt8 := dkwX1_run_6 ++ []
def dkwX1_run_5 : List UInt8 := [42, 180, 0, 26, 42, 28, 182, 1, 93, 6, 160, 0, 7, 3, 167, 0, 8, 42, 28, 182, 1, 93]
abbrev dktX1_run_5 : List UInt8 := dkwX1_run_5 ++ dktX1_run_6
def dkwX1_run_4 : List UInt8 := [182, 1, 167, 61, 132, 3, 1, 167, 255, 177, 42, 28, 2, 182, 1, 184, 42, 180, 0, 26, 29, 181, 1, 190]
abbrev dktX1_run_4 : List UInt8 := dkwX1_run_4 ++ dktX1_run_5
def dkwX1_run_3 : List UInt8 := [21, 5, 158, 0, 18, 42, 16, 16, 182, 1, 187, 21, 5, 162, 0, 7, 3, 167, 0, 5, 21, 4]
abbrev dktX1_run_3 : List UInt8 := dkwX1_run_3 ++ dktX1_run_4
def dkwX1_run_2 : List UInt8 := [180, 0, 12, 180, 1, 7, 21, 4, 4, 100, 50, 29, 46, 54, 5, 42, 28, 21, 4, 182, 1, 184, 42, 28]
abbrev dktX1_run_2 : List UInt8 := dkwX1_run_2 ++ dktX1_run_3
def dkwX1_run_1 : List UInt8 := [182, 1, 93, 154, 0, 77, 42, 180, 0, 128, 28, 51, 54, 4, 21, 4, 154, 0, 7, 3, 167, 0, 17, 42]
abbrev dktX1_run_1 : List UInt8 := dkwX1_run_1 ++ dktX1_run_2
def dkwX1_run_0 : List UInt8 := [42, 182, 1, 31, 42, 182, 1, 170, 42, 27, 181, 1, 180, 42, 182, 1, 173, 61, 3, 62, 42, 28]
abbrev dktX1_run_0 : List UInt8 := dkwX1_run_0 ++ dktX1_run_1
theorem dksX1_run_0 : cX1_run.data.toList.drop 0 = dktX1_run_0 := by decide +kernel
theorem dksX1_run_1 : cX1_run.data.toList.drop 22 = dktX1_run_1 := dk_seg dksX1_run_0 22 rfl rfl
theorem dksX1_run_2 : cX1_run.data.toList.drop 46 = dktX1_run_2 := dk_seg dksX1_run_1 24 rfl rfl
theorem dksX1_run_3 : cX1_run.data.toList.drop 70 = dktX1_run_3 := dk_seg dksX1_run_2 24 rfl rfl
theorem dksX1_run_4 : cX1_run.data.toList.drop 92 = dktX1_run_4 := dk_seg dksX1_run_3 22 rfl rfl
theorem dksX1_run_5 : cX1_run.data.toList.drop 116 = dktX1_run_5 := dk_seg dksX1_run_4 24 rfl rfl
theorem dksX1_run_6 : cX1_run.data.toList.drop 138 = dktX1_run_6 := dk_seg dksX1_run_5 22 rfl rfl
theorem dX1_run_0 : decode cX1_run 0 = .ok (.aload_n 0, 1) := dk_42 (dk_at dksX1_run_0 0 rfl rfl)
theorem dX1_run_1 : decode cX1_run 1 = .ok (.invokevirtual 287, 3) := dk_182 1 31 (dk_at dksX1_run_0 1 rfl rfl)
theorem dX1_run_4 : decode cX1_run 4 = .ok (.aload_n 0, 1) := dk_42 (dk_at dksX1_run_0 4 rfl rfl)
theorem dX1_run_5 : decode cX1_run 5 = .ok (.invokevirtual 426, 3) := dk_182 1 170 (dk_at dksX1_run_0 5 rfl rfl)
theorem dX1_run_8 : decode cX1_run 8 = .ok (.aload_n 0, 1) := dk_42 (dk_at dksX1_run_0 8 rfl rfl)
theorem dX1_run_9 : decode cX1_run 9 = .ok (.iload_n 1, 1) := dk_27 (dk_at dksX1_run_0 9 rfl rfl)
theorem dX1_run_10 : decode cX1_run 10 = .ok (.putfield 436, 3) := dk_181 1 180 (dk_at dksX1_run_0 10 rfl rfl)
theorem dX1_run_13 : decode cX1_run 13 = .ok (.aload_n 0, 1) := dk_42 (dk_at dksX1_run_0 13 rfl rfl)
theorem dX1_run_14 : decode cX1_run 14 = .ok (.invokevirtual 429, 3) := dk_182 1 173 (dk_at dksX1_run_0 14 rfl rfl)
theorem dX1_run_17 : decode cX1_run 17 = .ok (.istore_n 2, 1) := dk_61 (dk_at dksX1_run_0 17 rfl rfl)
theorem dX1_run_18 : decode cX1_run 18 = .ok (.iconst 0, 1) := dk_3 (dk_at dksX1_run_0 18 rfl rfl)
theorem dX1_run_19 : decode cX1_run 19 = .ok (.istore_n 3, 1) := dk_62 (dk_at dksX1_run_0 19 rfl rfl)
theorem dX1_run_20 : decode cX1_run 20 = .ok (.aload_n 0, 1) := dk_42 (dk_at dksX1_run_0 20 rfl rfl)
theorem dX1_run_21 : decode cX1_run 21 = .ok (.iload_n 2, 1) := dk_28 (dk_at dksX1_run_0 21 rfl rfl)
theorem dX1_run_22 : decode cX1_run 22 = .ok (.invokevirtual 349, 3) := dk_182 1 93 (dk_at dksX1_run_1 0 rfl rfl)
theorem dX1_run_25 : decode cX1_run 25 = .ok (.ifCond .ne 77, 3) := dk_154 0 77 (dk_at dksX1_run_1 3 rfl rfl)
theorem dX1_run_28 : decode cX1_run 28 = .ok (.aload_n 0, 1) := dk_42 (dk_at dksX1_run_1 6 rfl rfl)
theorem dX1_run_29 : decode cX1_run 29 = .ok (.getfield 128, 3) := dk_180 0 128 (dk_at dksX1_run_1 7 rfl rfl)
theorem dX1_run_32 : decode cX1_run 32 = .ok (.iload_n 2, 1) := dk_28 (dk_at dksX1_run_1 10 rfl rfl)
theorem dX1_run_33 : decode cX1_run 33 = .ok (.baload, 1) := dk_51 (dk_at dksX1_run_1 11 rfl rfl)
theorem dX1_run_34 : decode cX1_run 34 = .ok (.istore 4, 2) := dk_54 4 (dk_at dksX1_run_1 12 rfl rfl)
theorem dX1_run_36 : decode cX1_run 36 = .ok (.iload 4, 2) := dk_21 4 (dk_at dksX1_run_1 14 rfl rfl)
theorem dX1_run_38 : decode cX1_run 38 = .ok (.ifCond .ne 7, 3) := dk_154 0 7 (dk_at dksX1_run_1 16 rfl rfl)
theorem dX1_run_41 : decode cX1_run 41 = .ok (.iconst 0, 1) := dk_3 (dk_at dksX1_run_1 19 rfl rfl)
theorem dX1_run_42 : decode cX1_run 42 = .ok (.goto 17, 3) := dk_167 0 17 (dk_at dksX1_run_1 20 rfl rfl)
theorem dX1_run_45 : decode cX1_run 45 = .ok (.aload_n 0, 1) := dk_42 (dk_at dksX1_run_1 23 rfl rfl)
theorem dX1_run_46 : decode cX1_run 46 = .ok (.getfield 12, 3) := dk_180 0 12 (dk_at dksX1_run_2 0 rfl rfl)
theorem dX1_run_49 : decode cX1_run 49 = .ok (.getfield 263, 3) := dk_180 1 7 (dk_at dksX1_run_2 3 rfl rfl)
theorem dX1_run_52 : decode cX1_run 52 = .ok (.iload 4, 2) := dk_21 4 (dk_at dksX1_run_2 6 rfl rfl)
theorem dX1_run_54 : decode cX1_run 54 = .ok (.iconst 1, 1) := dk_4 (dk_at dksX1_run_2 8 rfl rfl)
theorem dX1_run_55 : decode cX1_run 55 = .ok (.isub, 1) := dk_100 (dk_at dksX1_run_2 9 rfl rfl)
theorem dX1_run_56 : decode cX1_run 56 = .ok (.aaload, 1) := dk_50 (dk_at dksX1_run_2 10 rfl rfl)
theorem dX1_run_57 : decode cX1_run 57 = .ok (.iload_n 3, 1) := dk_29 (dk_at dksX1_run_2 11 rfl rfl)
theorem dX1_run_58 : decode cX1_run 58 = .ok (.iaload, 1) := dk_46 (dk_at dksX1_run_2 12 rfl rfl)
theorem dX1_run_59 : decode cX1_run 59 = .ok (.istore 5, 2) := dk_54 5 (dk_at dksX1_run_2 13 rfl rfl)
theorem dX1_run_61 : decode cX1_run 61 = .ok (.aload_n 0, 1) := dk_42 (dk_at dksX1_run_2 15 rfl rfl)
theorem dX1_run_62 : decode cX1_run 62 = .ok (.iload_n 2, 1) := dk_28 (dk_at dksX1_run_2 16 rfl rfl)
theorem dX1_run_63 : decode cX1_run 63 = .ok (.iload 4, 2) := dk_21 4 (dk_at dksX1_run_2 17 rfl rfl)
theorem dX1_run_65 : decode cX1_run 65 = .ok (.invokevirtual 440, 3) := dk_182 1 184 (dk_at dksX1_run_2 19 rfl rfl)
theorem dX1_run_68 : decode cX1_run 68 = .ok (.aload_n 0, 1) := dk_42 (dk_at dksX1_run_2 22 rfl rfl)
theorem dX1_run_69 : decode cX1_run 69 = .ok (.iload_n 2, 1) := dk_28 (dk_at dksX1_run_2 23 rfl rfl)
theorem dX1_run_70 : decode cX1_run 70 = .ok (.iload 5, 2) := dk_21 5 (dk_at dksX1_run_3 0 rfl rfl)
theorem dX1_run_72 : decode cX1_run 72 = .ok (.ifCond .le 18, 3) := dk_158 0 18 (dk_at dksX1_run_3 2 rfl rfl)
theorem dX1_run_75 : decode cX1_run 75 = .ok (.aload_n 0, 1) := dk_42 (dk_at dksX1_run_3 5 rfl rfl)
theorem dX1_run_76 : decode cX1_run 76 = .ok (.bipush 16, 2) := dk_16 16 (dk_at dksX1_run_3 6 rfl rfl)
theorem dX1_run_78 : decode cX1_run 78 = .ok (.invokevirtual 443, 3) := dk_182 1 187 (dk_at dksX1_run_3 8 rfl rfl)
theorem dX1_run_81 : decode cX1_run 81 = .ok (.iload 5, 2) := dk_21 5 (dk_at dksX1_run_3 11 rfl rfl)
theorem dX1_run_83 : decode cX1_run 83 = .ok (.if_icmp .ge 7, 3) := dk_162 0 7 (dk_at dksX1_run_3 13 rfl rfl)
theorem dX1_run_86 : decode cX1_run 86 = .ok (.iconst 0, 1) := dk_3 (dk_at dksX1_run_3 16 rfl rfl)
theorem dX1_run_87 : decode cX1_run 87 = .ok (.goto 5, 3) := dk_167 0 5 (dk_at dksX1_run_3 17 rfl rfl)
theorem dX1_run_90 : decode cX1_run 90 = .ok (.iload 4, 2) := dk_21 4 (dk_at dksX1_run_3 20 rfl rfl)
theorem dX1_run_92 : decode cX1_run 92 = .ok (.invokevirtual 423, 3) := dk_182 1 167 (dk_at dksX1_run_4 0 rfl rfl)
theorem dX1_run_95 : decode cX1_run 95 = .ok (.istore_n 2, 1) := dk_61 (dk_at dksX1_run_4 3 rfl rfl)
theorem dX1_run_96 : decode cX1_run 96 = .ok (.iinc 3 1, 3) := dk_132 3 1 (dk_at dksX1_run_4 4 rfl rfl)
theorem dX1_run_99 : decode cX1_run 99 = .ok (.goto (-79), 3) := dk_167 255 177 (dk_at dksX1_run_4 7 rfl rfl)
theorem dX1_run_102 : decode cX1_run 102 = .ok (.aload_n 0, 1) := dk_42 (dk_at dksX1_run_4 10 rfl rfl)
theorem dX1_run_103 : decode cX1_run 103 = .ok (.iload_n 2, 1) := dk_28 (dk_at dksX1_run_4 11 rfl rfl)
theorem dX1_run_104 : decode cX1_run 104 = .ok (.iconst (-1), 1) := dk_2 (dk_at dksX1_run_4 12 rfl rfl)
theorem dX1_run_105 : decode cX1_run 105 = .ok (.invokevirtual 440, 3) := dk_182 1 184 (dk_at dksX1_run_4 13 rfl rfl)
theorem dX1_run_108 : decode cX1_run 108 = .ok (.aload_n 0, 1) := dk_42 (dk_at dksX1_run_4 16 rfl rfl)
theorem dX1_run_109 : decode cX1_run 109 = .ok (.getfield 26, 3) := dk_180 0 26 (dk_at dksX1_run_4 17 rfl rfl)
theorem dX1_run_112 : decode cX1_run 112 = .ok (.iload_n 3, 1) := dk_29 (dk_at dksX1_run_4 20 rfl rfl)
theorem dX1_run_113 : decode cX1_run 113 = .ok (.putfield 446, 3) := dk_181 1 190 (dk_at dksX1_run_4 21 rfl rfl)
theorem dX1_run_116 : decode cX1_run 116 = .ok (.aload_n 0, 1) := dk_42 (dk_at dksX1_run_5 0 rfl rfl)
theorem dX1_run_117 : decode cX1_run 117 = .ok (.getfield 26, 3) := dk_180 0 26 (dk_at dksX1_run_5 1 rfl rfl)
theorem dX1_run_120 : decode cX1_run 120 = .ok (.aload_n 0, 1) := dk_42 (dk_at dksX1_run_5 4 rfl rfl)
theorem dX1_run_121 : decode cX1_run 121 = .ok (.iload_n 2, 1) := dk_28 (dk_at dksX1_run_5 5 rfl rfl)
theorem dX1_run_122 : decode cX1_run 122 = .ok (.invokevirtual 349, 3) := dk_182 1 93 (dk_at dksX1_run_5 6 rfl rfl)
theorem dX1_run_125 : decode cX1_run 125 = .ok (.iconst 3, 1) := dk_6 (dk_at dksX1_run_5 9 rfl rfl)
theorem dX1_run_126 : decode cX1_run 126 = .ok (.if_icmp .ne 7, 3) := dk_160 0 7 (dk_at dksX1_run_5 10 rfl rfl)
theorem dX1_run_129 : decode cX1_run 129 = .ok (.iconst 0, 1) := dk_3 (dk_at dksX1_run_5 13 rfl rfl)
theorem dX1_run_130 : decode cX1_run 130 = .ok (.goto 8, 3) := dk_167 0 8 (dk_at dksX1_run_5 14 rfl rfl)
theorem dX1_run_133 : decode cX1_run 133 = .ok (.aload_n 0, 1) := dk_42 (dk_at dksX1_run_5 17 rfl rfl)
theorem dX1_run_134 : decode cX1_run 134 = .ok (.iload_n 2, 1) := dk_28 (dk_at dksX1_run_5 18 rfl rfl)
theorem dX1_run_135 : decode cX1_run 135 = .ok (.invokevirtual 349, 3) := dk_182 1 93 (dk_at dksX1_run_5 19 rfl rfl)
theorem dX1_run_138 : decode cX1_run 138 = .ok (.putfield 449, 3) := dk_181 1 193 (dk_at dksX1_run_6 0 rfl rfl)
theorem dX1_run_141 : decode cX1_run 141 = .ok (.iload_n 3, 1) := dk_29 (dk_at dksX1_run_6 3 rfl rfl)
theorem dX1_run_142 : decode cX1_run 142 = .ok (.ireturn, 1) := dk_172 (dk_at dksX1_run_6 4 rfl rfl)
abbrev cX1_notes : ByteArray := prog_1_method_56_code
def yX1_notes : MethodName := ⟨RX1, "notes", "(II)V"⟩
def dkwX1_notes_1 : List UInt8 := [180, 1, 199, 29, 27, 184, 1, 47, 79, 42, 180, 0, 26, 180, 1, 202, 29, 28, 79, 177]
abbrev dktX1_notes_1 : List UInt8 := dkwX1_notes_1 ++ []
def dkwX1_notes_0 : List UInt8 := [27, 184, 1, 50, 62, 42, 180, 0, 26, 180, 1, 196, 29, 27, 184, 1, 44, 79, 42, 180, 0, 26]
abbrev dktX1_notes_0 : List UInt8 := dkwX1_notes_0 ++ dktX1_notes_1
theorem dksX1_notes_0 : cX1_notes.data.toList.drop 0 = dktX1_notes_0 := by decide +kernel
theorem dksX1_notes_1 : cX1_notes.data.toList.drop 22 = dktX1_notes_1 := dk_seg dksX1_notes_0 22 rfl rfl
theorem dX1_notes_0 : decode cX1_notes 0 = .ok (.iload_n 1, 1) := dk_27 (dk_at dksX1_notes_0 0 rfl rfl)
theorem dX1_notes_1 : decode cX1_notes 1 = .ok (.invokestatic 306, 3) := dk_184 1 50 (dk_at dksX1_notes_0 1 rfl rfl)
theorem dX1_notes_4 : decode cX1_notes 4 = .ok (.istore_n 3, 1) := dk_62 (dk_at dksX1_notes_0 4 rfl rfl)
theorem dX1_notes_5 : decode cX1_notes 5 = .ok (.aload_n 0, 1) := dk_42 (dk_at dksX1_notes_0 5 rfl rfl)
theorem dX1_notes_6 : decode cX1_notes 6 = .ok (.getfield 26, 3) := dk_180 0 26 (dk_at dksX1_notes_0 6 rfl rfl)
theorem dX1_notes_9 : decode cX1_notes 9 = .ok (.getfield 452, 3) := dk_180 1 196 (dk_at dksX1_notes_0 9 rfl rfl)
theorem dX1_notes_12 : decode cX1_notes 12 = .ok (.iload_n 3, 1) := dk_29 (dk_at dksX1_notes_0 12 rfl rfl)
theorem dX1_notes_13 : decode cX1_notes 13 = .ok (.iload_n 1, 1) := dk_27 (dk_at dksX1_notes_0 13 rfl rfl)
theorem dX1_notes_14 : decode cX1_notes 14 = .ok (.invokestatic 300, 3) := dk_184 1 44 (dk_at dksX1_notes_0 14 rfl rfl)
theorem dX1_notes_17 : decode cX1_notes 17 = .ok (.iastore, 1) := dk_79 (dk_at dksX1_notes_0 17 rfl rfl)
theorem dX1_notes_18 : decode cX1_notes 18 = .ok (.aload_n 0, 1) := dk_42 (dk_at dksX1_notes_0 18 rfl rfl)
theorem dX1_notes_19 : decode cX1_notes 19 = .ok (.getfield 26, 3) := dk_180 0 26 (dk_at dksX1_notes_0 19 rfl rfl)
theorem dX1_notes_22 : decode cX1_notes 22 = .ok (.getfield 455, 3) := dk_180 1 199 (dk_at dksX1_notes_1 0 rfl rfl)
theorem dX1_notes_25 : decode cX1_notes 25 = .ok (.iload_n 3, 1) := dk_29 (dk_at dksX1_notes_1 3 rfl rfl)
theorem dX1_notes_26 : decode cX1_notes 26 = .ok (.iload_n 1, 1) := dk_27 (dk_at dksX1_notes_1 4 rfl rfl)
theorem dX1_notes_27 : decode cX1_notes 27 = .ok (.invokestatic 303, 3) := dk_184 1 47 (dk_at dksX1_notes_1 5 rfl rfl)
theorem dX1_notes_30 : decode cX1_notes 30 = .ok (.iastore, 1) := dk_79 (dk_at dksX1_notes_1 8 rfl rfl)
theorem dX1_notes_31 : decode cX1_notes 31 = .ok (.aload_n 0, 1) := dk_42 (dk_at dksX1_notes_1 9 rfl rfl)
theorem dX1_notes_32 : decode cX1_notes 32 = .ok (.getfield 26, 3) := dk_180 0 26 (dk_at dksX1_notes_1 10 rfl rfl)
theorem dX1_notes_35 : decode cX1_notes 35 = .ok (.getfield 458, 3) := dk_180 1 202 (dk_at dksX1_notes_1 13 rfl rfl)
theorem dX1_notes_38 : decode cX1_notes 38 = .ok (.iload_n 3, 1) := dk_29 (dk_at dksX1_notes_1 16 rfl rfl)
theorem dX1_notes_39 : decode cX1_notes 39 = .ok (.iload_n 2, 1) := dk_28 (dk_at dksX1_notes_1 17 rfl rfl)
theorem dX1_notes_40 : decode cX1_notes 40 = .ok (.iastore, 1) := dk_79 (dk_at dksX1_notes_1 18 rfl rfl)
theorem dX1_notes_41 : decode cX1_notes 41 = .ok (.return_, 1) := dk_177 (dk_at dksX1_notes_1 19 rfl rfl)
abbrev cX1_draw : ByteArray := prog_1_method_54_code
def yX1_draw : MethodName := ⟨RX1, "draw", "(I)I"⟩
def dkwX1_draw_1 : List UInt8 := [17, 127, 255, 126, 27, 112, 172]
abbrev dktX1_draw_1 : List UInt8 := dkwX1_draw_1 ++ []
def dkwX1_draw_0 : List UInt8 := [42, 42, 180, 1, 180, 19, 1, 183, 104, 17, 48, 57, 96, 181, 1, 180, 42, 180, 1, 180, 16, 16, 122]
abbrev dktX1_draw_0 : List UInt8 := dkwX1_draw_0 ++ dktX1_draw_1
theorem dksX1_draw_0 : cX1_draw.data.toList.drop 0 = dktX1_draw_0 := by decide +kernel
theorem dksX1_draw_1 : cX1_draw.data.toList.drop 23 = dktX1_draw_1 := dk_seg dksX1_draw_0 23 rfl rfl
theorem dX1_draw_0 : decode cX1_draw 0 = .ok (.aload_n 0, 1) := dk_42 (dk_at dksX1_draw_0 0 rfl rfl)
theorem dX1_draw_1 : decode cX1_draw 1 = .ok (.aload_n 0, 1) := dk_42 (dk_at dksX1_draw_0 1 rfl rfl)
theorem dX1_draw_2 : decode cX1_draw 2 = .ok (.getfield 436, 3) := dk_180 1 180 (dk_at dksX1_draw_0 2 rfl rfl)
theorem dX1_draw_5 : decode cX1_draw 5 = .ok (.ldc_w 439, 3) := dk_19 1 183 (dk_at dksX1_draw_0 5 rfl rfl)
theorem dX1_draw_8 : decode cX1_draw 8 = .ok (.imul, 1) := dk_104 (dk_at dksX1_draw_0 8 rfl rfl)
theorem dX1_draw_9 : decode cX1_draw 9 = .ok (.sipush 12345, 3) := dk_17 48 57 (dk_at dksX1_draw_0 9 rfl rfl)
theorem dX1_draw_12 : decode cX1_draw 12 = .ok (.iadd, 1) := dk_96 (dk_at dksX1_draw_0 12 rfl rfl)
theorem dX1_draw_13 : decode cX1_draw 13 = .ok (.putfield 436, 3) := dk_181 1 180 (dk_at dksX1_draw_0 13 rfl rfl)
theorem dX1_draw_16 : decode cX1_draw 16 = .ok (.aload_n 0, 1) := dk_42 (dk_at dksX1_draw_0 16 rfl rfl)
theorem dX1_draw_17 : decode cX1_draw 17 = .ok (.getfield 436, 3) := dk_180 1 180 (dk_at dksX1_draw_0 17 rfl rfl)
theorem dX1_draw_20 : decode cX1_draw 20 = .ok (.bipush 16, 2) := dk_16 16 (dk_at dksX1_draw_0 20 rfl rfl)
theorem dX1_draw_22 : decode cX1_draw 22 = .ok (.ishr, 1) := dk_122 (dk_at dksX1_draw_0 22 rfl rfl)
theorem dX1_draw_23 : decode cX1_draw 23 = .ok (.sipush 32767, 3) := dk_17 127 255 (dk_at dksX1_draw_1 0 rfl rfl)
theorem dX1_draw_26 : decode cX1_draw 26 = .ok (.iand, 1) := dk_126 (dk_at dksX1_draw_1 3 rfl rfl)
theorem dX1_draw_27 : decode cX1_draw 27 = .ok (.iload_n 1, 1) := dk_27 (dk_at dksX1_draw_1 4 rfl rfl)
theorem dX1_draw_28 : decode cX1_draw 28 = .ok (.irem, 1) := dk_112 (dk_at dksX1_draw_1 5 rfl rfl)
theorem dX1_draw_29 : decode cX1_draw 29 = .ok (.ireturn, 1) := dk_172 (dk_at dksX1_draw_1 6 rfl rfl)
abbrev cX1_was : ByteArray := prog_1_method_57_code
def yX1_was : MethodName := ⟨RX1, "was", "(II)I"⟩
def dkwX1_was_3 : List UInt8 := [46, 167, 0, 12, 42, 180, 0, 26, 180, 1, 202, 27, 46, 172]
abbrev dktX1_was_3 : List UInt8 := dkwX1_was_3 ++ []
def dkwX1_was_2 : List UInt8 := [180, 0, 26, 180, 1, 196, 27, 46, 167, 0, 29, 28, 4, 160, 0, 15, 42, 180, 0, 26, 180, 1, 199, 27]
abbrev dktX1_was_2 : List UInt8 := dkwX1_was_2 ++ dktX1_was_3
def dkwX1_was_1 : List UInt8 := [3, 182, 0, 173, 42, 180, 0, 26, 180, 1, 190, 27, 162, 0, 5, 2, 172, 28, 154, 0, 15, 42]
abbrev dktX1_was_1 : List UInt8 := dkwX1_was_1 ++ dktX1_was_2
def dkwX1_was_0 : List UInt8 := [42, 27, 3, 16, 24, 184, 0, 163, 153, 0, 12, 28, 3, 5, 184, 0, 163, 154, 0, 7, 4, 167, 0, 4]
abbrev dktX1_was_0 : List UInt8 := dkwX1_was_0 ++ dktX1_was_1
theorem dksX1_was_0 : cX1_was.data.toList.drop 0 = dktX1_was_0 := by decide +kernel
theorem dksX1_was_1 : cX1_was.data.toList.drop 24 = dktX1_was_1 := dk_seg dksX1_was_0 24 rfl rfl
theorem dksX1_was_2 : cX1_was.data.toList.drop 46 = dktX1_was_2 := dk_seg dksX1_was_1 22 rfl rfl
theorem dksX1_was_3 : cX1_was.data.toList.drop 70 = dktX1_was_3 := dk_seg dksX1_was_2 24 rfl rfl
theorem dX1_was_0 : decode cX1_was 0 = .ok (.aload_n 0, 1) := dk_42 (dk_at dksX1_was_0 0 rfl rfl)
theorem dX1_was_1 : decode cX1_was 1 = .ok (.iload_n 1, 1) := dk_27 (dk_at dksX1_was_0 1 rfl rfl)
theorem dX1_was_2 : decode cX1_was 2 = .ok (.iconst 0, 1) := dk_3 (dk_at dksX1_was_0 2 rfl rfl)
theorem dX1_was_3 : decode cX1_was 3 = .ok (.bipush 24, 2) := dk_16 24 (dk_at dksX1_was_0 3 rfl rfl)
theorem dX1_was_5 : decode cX1_was 5 = .ok (.invokestatic 163, 3) := dk_184 0 163 (dk_at dksX1_was_0 5 rfl rfl)
theorem dX1_was_8 : decode cX1_was 8 = .ok (.ifCond .eq 12, 3) := dk_153 0 12 (dk_at dksX1_was_0 8 rfl rfl)
theorem dX1_was_11 : decode cX1_was 11 = .ok (.iload_n 2, 1) := dk_28 (dk_at dksX1_was_0 11 rfl rfl)
theorem dX1_was_12 : decode cX1_was 12 = .ok (.iconst 0, 1) := dk_3 (dk_at dksX1_was_0 12 rfl rfl)
theorem dX1_was_13 : decode cX1_was 13 = .ok (.iconst 2, 1) := dk_5 (dk_at dksX1_was_0 13 rfl rfl)
theorem dX1_was_14 : decode cX1_was 14 = .ok (.invokestatic 163, 3) := dk_184 0 163 (dk_at dksX1_was_0 14 rfl rfl)
theorem dX1_was_17 : decode cX1_was 17 = .ok (.ifCond .ne 7, 3) := dk_154 0 7 (dk_at dksX1_was_0 17 rfl rfl)
theorem dX1_was_20 : decode cX1_was 20 = .ok (.iconst 1, 1) := dk_4 (dk_at dksX1_was_0 20 rfl rfl)
theorem dX1_was_21 : decode cX1_was 21 = .ok (.goto 4, 3) := dk_167 0 4 (dk_at dksX1_was_0 21 rfl rfl)
theorem dX1_was_24 : decode cX1_was 24 = .ok (.iconst 0, 1) := dk_3 (dk_at dksX1_was_1 0 rfl rfl)
theorem dX1_was_25 : decode cX1_was 25 = .ok (.invokevirtual 173, 3) := dk_182 0 173 (dk_at dksX1_was_1 1 rfl rfl)
theorem dX1_was_28 : decode cX1_was 28 = .ok (.aload_n 0, 1) := dk_42 (dk_at dksX1_was_1 4 rfl rfl)
theorem dX1_was_29 : decode cX1_was 29 = .ok (.getfield 26, 3) := dk_180 0 26 (dk_at dksX1_was_1 5 rfl rfl)
theorem dX1_was_32 : decode cX1_was 32 = .ok (.getfield 446, 3) := dk_180 1 190 (dk_at dksX1_was_1 8 rfl rfl)
theorem dX1_was_35 : decode cX1_was 35 = .ok (.iload_n 1, 1) := dk_27 (dk_at dksX1_was_1 11 rfl rfl)
theorem dX1_was_36 : decode cX1_was 36 = .ok (.if_icmp .ge 5, 3) := dk_162 0 5 (dk_at dksX1_was_1 12 rfl rfl)
theorem dX1_was_39 : decode cX1_was 39 = .ok (.iconst (-1), 1) := dk_2 (dk_at dksX1_was_1 15 rfl rfl)
theorem dX1_was_40 : decode cX1_was 40 = .ok (.ireturn, 1) := dk_172 (dk_at dksX1_was_1 16 rfl rfl)
theorem dX1_was_41 : decode cX1_was 41 = .ok (.iload_n 2, 1) := dk_28 (dk_at dksX1_was_1 17 rfl rfl)
theorem dX1_was_42 : decode cX1_was 42 = .ok (.ifCond .ne 15, 3) := dk_154 0 15 (dk_at dksX1_was_1 18 rfl rfl)
theorem dX1_was_45 : decode cX1_was 45 = .ok (.aload_n 0, 1) := dk_42 (dk_at dksX1_was_1 21 rfl rfl)
theorem dX1_was_46 : decode cX1_was 46 = .ok (.getfield 26, 3) := dk_180 0 26 (dk_at dksX1_was_2 0 rfl rfl)
theorem dX1_was_49 : decode cX1_was 49 = .ok (.getfield 452, 3) := dk_180 1 196 (dk_at dksX1_was_2 3 rfl rfl)
theorem dX1_was_52 : decode cX1_was 52 = .ok (.iload_n 1, 1) := dk_27 (dk_at dksX1_was_2 6 rfl rfl)
theorem dX1_was_53 : decode cX1_was 53 = .ok (.iaload, 1) := dk_46 (dk_at dksX1_was_2 7 rfl rfl)
theorem dX1_was_54 : decode cX1_was 54 = .ok (.goto 29, 3) := dk_167 0 29 (dk_at dksX1_was_2 8 rfl rfl)
theorem dX1_was_57 : decode cX1_was 57 = .ok (.iload_n 2, 1) := dk_28 (dk_at dksX1_was_2 11 rfl rfl)
theorem dX1_was_58 : decode cX1_was 58 = .ok (.iconst 1, 1) := dk_4 (dk_at dksX1_was_2 12 rfl rfl)
theorem dX1_was_59 : decode cX1_was 59 = .ok (.if_icmp .ne 15, 3) := dk_160 0 15 (dk_at dksX1_was_2 13 rfl rfl)
theorem dX1_was_62 : decode cX1_was 62 = .ok (.aload_n 0, 1) := dk_42 (dk_at dksX1_was_2 16 rfl rfl)
theorem dX1_was_63 : decode cX1_was 63 = .ok (.getfield 26, 3) := dk_180 0 26 (dk_at dksX1_was_2 17 rfl rfl)
theorem dX1_was_66 : decode cX1_was 66 = .ok (.getfield 455, 3) := dk_180 1 199 (dk_at dksX1_was_2 20 rfl rfl)
theorem dX1_was_69 : decode cX1_was 69 = .ok (.iload_n 1, 1) := dk_27 (dk_at dksX1_was_2 23 rfl rfl)
theorem dX1_was_70 : decode cX1_was 70 = .ok (.iaload, 1) := dk_46 (dk_at dksX1_was_3 0 rfl rfl)
theorem dX1_was_71 : decode cX1_was 71 = .ok (.goto 12, 3) := dk_167 0 12 (dk_at dksX1_was_3 1 rfl rfl)
theorem dX1_was_74 : decode cX1_was 74 = .ok (.aload_n 0, 1) := dk_42 (dk_at dksX1_was_3 4 rfl rfl)
theorem dX1_was_75 : decode cX1_was 75 = .ok (.getfield 26, 3) := dk_180 0 26 (dk_at dksX1_was_3 5 rfl rfl)
theorem dX1_was_78 : decode cX1_was 78 = .ok (.getfield 458, 3) := dk_180 1 202 (dk_at dksX1_was_3 8 rfl rfl)
theorem dX1_was_81 : decode cX1_was 81 = .ok (.iload_n 1, 1) := dk_27 (dk_at dksX1_was_3 11 rfl rfl)
theorem dX1_was_82 : decode cX1_was 82 = .ok (.iaload, 1) := dk_46 (dk_at dksX1_was_3 12 rfl rfl)
theorem dX1_was_83 : decode cX1_was 83 = .ok (.ireturn, 1) := dk_172 (dk_at dksX1_was_3 13 rfl rfl)
abbrev cX1_row : ByteArray := prog_1_method_59_code
def yX1_row : MethodName := ⟨RX1, "row", "(I)I"⟩
def dkwX1_row_3 : List UInt8 := [180, 0, 26, 180, 1, 205, 172]
abbrev dktX1_row_3 : List UInt8 := dkwX1_row_3 ++ []
def dkwX1_row_2 : List UInt8 := [180, 0, 26, 180, 1, 205, 27, 79, 42, 180, 0, 26, 89, 180, 1, 205, 4, 96, 181, 1, 205, 42]
abbrev dktX1_row_2 : List UInt8 := dkwX1_row_2 ++ dktX1_row_3
def dkwX1_row_1 : List UInt8 := [42, 180, 0, 26, 180, 1, 205, 16, 24, 160, 0, 5, 2, 172, 42, 180, 0, 26, 180, 1, 208, 42]
abbrev dktX1_row_1 : List UInt8 := dkwX1_row_1 ++ dktX1_row_2
def dkwX1_row_0 : List UInt8 := [42, 27, 3, 42, 180, 0, 12, 180, 0, 243, 184, 0, 163, 154, 0, 7, 4, 167, 0, 4, 3, 182, 0, 173]
abbrev dktX1_row_0 : List UInt8 := dkwX1_row_0 ++ dktX1_row_1
theorem dksX1_row_0 : cX1_row.data.toList.drop 0 = dktX1_row_0 := by decide +kernel
theorem dksX1_row_1 : cX1_row.data.toList.drop 24 = dktX1_row_1 := dk_seg dksX1_row_0 24 rfl rfl
theorem dksX1_row_2 : cX1_row.data.toList.drop 46 = dktX1_row_2 := dk_seg dksX1_row_1 22 rfl rfl
theorem dksX1_row_3 : cX1_row.data.toList.drop 68 = dktX1_row_3 := dk_seg dksX1_row_2 22 rfl rfl
theorem dX1_row_0 : decode cX1_row 0 = .ok (.aload_n 0, 1) := dk_42 (dk_at dksX1_row_0 0 rfl rfl)
theorem dX1_row_1 : decode cX1_row 1 = .ok (.iload_n 1, 1) := dk_27 (dk_at dksX1_row_0 1 rfl rfl)
theorem dX1_row_2 : decode cX1_row 2 = .ok (.iconst 0, 1) := dk_3 (dk_at dksX1_row_0 2 rfl rfl)
theorem dX1_row_3 : decode cX1_row 3 = .ok (.aload_n 0, 1) := dk_42 (dk_at dksX1_row_0 3 rfl rfl)
theorem dX1_row_4 : decode cX1_row 4 = .ok (.getfield 12, 3) := dk_180 0 12 (dk_at dksX1_row_0 4 rfl rfl)
theorem dX1_row_7 : decode cX1_row 7 = .ok (.getfield 243, 3) := dk_180 0 243 (dk_at dksX1_row_0 7 rfl rfl)
theorem dX1_row_10 : decode cX1_row 10 = .ok (.invokestatic 163, 3) := dk_184 0 163 (dk_at dksX1_row_0 10 rfl rfl)
theorem dX1_row_13 : decode cX1_row 13 = .ok (.ifCond .ne 7, 3) := dk_154 0 7 (dk_at dksX1_row_0 13 rfl rfl)
theorem dX1_row_16 : decode cX1_row 16 = .ok (.iconst 1, 1) := dk_4 (dk_at dksX1_row_0 16 rfl rfl)
theorem dX1_row_17 : decode cX1_row 17 = .ok (.goto 4, 3) := dk_167 0 4 (dk_at dksX1_row_0 17 rfl rfl)
theorem dX1_row_20 : decode cX1_row 20 = .ok (.iconst 0, 1) := dk_3 (dk_at dksX1_row_0 20 rfl rfl)
theorem dX1_row_21 : decode cX1_row 21 = .ok (.invokevirtual 173, 3) := dk_182 0 173 (dk_at dksX1_row_0 21 rfl rfl)
theorem dX1_row_24 : decode cX1_row 24 = .ok (.aload_n 0, 1) := dk_42 (dk_at dksX1_row_1 0 rfl rfl)
theorem dX1_row_25 : decode cX1_row 25 = .ok (.getfield 26, 3) := dk_180 0 26 (dk_at dksX1_row_1 1 rfl rfl)
theorem dX1_row_28 : decode cX1_row 28 = .ok (.getfield 461, 3) := dk_180 1 205 (dk_at dksX1_row_1 4 rfl rfl)
theorem dX1_row_31 : decode cX1_row 31 = .ok (.bipush 24, 2) := dk_16 24 (dk_at dksX1_row_1 7 rfl rfl)
theorem dX1_row_33 : decode cX1_row 33 = .ok (.if_icmp .ne 5, 3) := dk_160 0 5 (dk_at dksX1_row_1 9 rfl rfl)
theorem dX1_row_36 : decode cX1_row 36 = .ok (.iconst (-1), 1) := dk_2 (dk_at dksX1_row_1 12 rfl rfl)
theorem dX1_row_37 : decode cX1_row 37 = .ok (.ireturn, 1) := dk_172 (dk_at dksX1_row_1 13 rfl rfl)
theorem dX1_row_38 : decode cX1_row 38 = .ok (.aload_n 0, 1) := dk_42 (dk_at dksX1_row_1 14 rfl rfl)
theorem dX1_row_39 : decode cX1_row 39 = .ok (.getfield 26, 3) := dk_180 0 26 (dk_at dksX1_row_1 15 rfl rfl)
theorem dX1_row_42 : decode cX1_row 42 = .ok (.getfield 464, 3) := dk_180 1 208 (dk_at dksX1_row_1 18 rfl rfl)
theorem dX1_row_45 : decode cX1_row 45 = .ok (.aload_n 0, 1) := dk_42 (dk_at dksX1_row_1 21 rfl rfl)
theorem dX1_row_46 : decode cX1_row 46 = .ok (.getfield 26, 3) := dk_180 0 26 (dk_at dksX1_row_2 0 rfl rfl)
theorem dX1_row_49 : decode cX1_row 49 = .ok (.getfield 461, 3) := dk_180 1 205 (dk_at dksX1_row_2 3 rfl rfl)
theorem dX1_row_52 : decode cX1_row 52 = .ok (.iload_n 1, 1) := dk_27 (dk_at dksX1_row_2 6 rfl rfl)
theorem dX1_row_53 : decode cX1_row 53 = .ok (.iastore, 1) := dk_79 (dk_at dksX1_row_2 7 rfl rfl)
theorem dX1_row_54 : decode cX1_row 54 = .ok (.aload_n 0, 1) := dk_42 (dk_at dksX1_row_2 8 rfl rfl)
theorem dX1_row_55 : decode cX1_row 55 = .ok (.getfield 26, 3) := dk_180 0 26 (dk_at dksX1_row_2 9 rfl rfl)
theorem dX1_row_58 : decode cX1_row 58 = .ok (.dup, 1) := dk_89 (dk_at dksX1_row_2 12 rfl rfl)
theorem dX1_row_59 : decode cX1_row 59 = .ok (.getfield 461, 3) := dk_180 1 205 (dk_at dksX1_row_2 13 rfl rfl)
theorem dX1_row_62 : decode cX1_row 62 = .ok (.iconst 1, 1) := dk_4 (dk_at dksX1_row_2 16 rfl rfl)
theorem dX1_row_63 : decode cX1_row 63 = .ok (.iadd, 1) := dk_96 (dk_at dksX1_row_2 17 rfl rfl)
theorem dX1_row_64 : decode cX1_row 64 = .ok (.putfield 461, 3) := dk_181 1 205 (dk_at dksX1_row_2 18 rfl rfl)
theorem dX1_row_67 : decode cX1_row 67 = .ok (.aload_n 0, 1) := dk_42 (dk_at dksX1_row_2 21 rfl rfl)
theorem dX1_row_68 : decode cX1_row 68 = .ok (.getfield 26, 3) := dk_180 0 26 (dk_at dksX1_row_3 0 rfl rfl)
theorem dX1_row_71 : decode cX1_row 71 = .ok (.getfield 461, 3) := dk_180 1 205 (dk_at dksX1_row_3 3 rfl rfl)
theorem dX1_row_74 : decode cX1_row 74 = .ok (.ireturn, 1) := dk_172 (dk_at dksX1_row_3 6 rfl rfl)
abbrev cX1_judge : ByteArray := prog_1_method_61_code
def yX1_judge : MethodName := ⟨RX1, "judge", "()I"⟩
def dkwX1_judge_4 : List UInt8 := [167, 255, 177, 2, 172]
abbrev dktX1_judge_4 : List UInt8 := dkwX1_judge_4 ++ []
def dkwX1_judge_3 : List UInt8 := [28, 104, 4, 96, 172, 42, 27, 42, 180, 0, 26, 180, 1, 208, 28, 46, 182, 1, 167, 60, 132, 2, 1]
abbrev dktX1_judge_3 : List UInt8 := dkwX1_judge_3 ++ dktX1_judge_4
def dkwX1_judge_2 : List UInt8 := [182, 1, 34, 27, 182, 1, 111, 42, 180, 0, 26, 180, 1, 208, 28, 46, 122, 4, 126, 154, 0, 10, 16, 10]
abbrev dktX1_judge_2 : List UInt8 := dkwX1_judge_2 ++ dktX1_judge_3
def dkwX1_judge_1 : List UInt8 := [162, 0, 74, 42, 27, 182, 1, 93, 153, 0, 10, 16, 10, 28, 104, 5, 96, 172, 42, 42, 27, 184, 1, 50]
abbrev dktX1_judge_1 : List UInt8 := dkwX1_judge_1 ++ dktX1_judge_2
def dkwX1_judge_0 : List UInt8 := [42, 182, 1, 31, 42, 182, 1, 108, 42, 182, 1, 173, 60, 3, 61, 28, 42, 180, 0, 26, 180, 1, 205]
abbrev dktX1_judge_0 : List UInt8 := dkwX1_judge_0 ++ dktX1_judge_1
theorem dksX1_judge_0 : cX1_judge.data.toList.drop 0 = dktX1_judge_0 := by decide +kernel
theorem dksX1_judge_1 : cX1_judge.data.toList.drop 23 = dktX1_judge_1 := dk_seg dksX1_judge_0 23 rfl rfl
theorem dksX1_judge_2 : cX1_judge.data.toList.drop 47 = dktX1_judge_2 := dk_seg dksX1_judge_1 24 rfl rfl
theorem dksX1_judge_3 : cX1_judge.data.toList.drop 71 = dktX1_judge_3 := dk_seg dksX1_judge_2 24 rfl rfl
theorem dksX1_judge_4 : cX1_judge.data.toList.drop 94 = dktX1_judge_4 := dk_seg dksX1_judge_3 23 rfl rfl
theorem dX1_judge_0 : decode cX1_judge 0 = .ok (.aload_n 0, 1) := dk_42 (dk_at dksX1_judge_0 0 rfl rfl)
theorem dX1_judge_1 : decode cX1_judge 1 = .ok (.invokevirtual 287, 3) := dk_182 1 31 (dk_at dksX1_judge_0 1 rfl rfl)
theorem dX1_judge_4 : decode cX1_judge 4 = .ok (.aload_n 0, 1) := dk_42 (dk_at dksX1_judge_0 4 rfl rfl)
theorem dX1_judge_5 : decode cX1_judge 5 = .ok (.invokevirtual 364, 3) := dk_182 1 108 (dk_at dksX1_judge_0 5 rfl rfl)
theorem dX1_judge_8 : decode cX1_judge 8 = .ok (.aload_n 0, 1) := dk_42 (dk_at dksX1_judge_0 8 rfl rfl)
theorem dX1_judge_9 : decode cX1_judge 9 = .ok (.invokevirtual 429, 3) := dk_182 1 173 (dk_at dksX1_judge_0 9 rfl rfl)
theorem dX1_judge_12 : decode cX1_judge 12 = .ok (.istore_n 1, 1) := dk_60 (dk_at dksX1_judge_0 12 rfl rfl)
theorem dX1_judge_13 : decode cX1_judge 13 = .ok (.iconst 0, 1) := dk_3 (dk_at dksX1_judge_0 13 rfl rfl)
theorem dX1_judge_14 : decode cX1_judge 14 = .ok (.istore_n 2, 1) := dk_61 (dk_at dksX1_judge_0 14 rfl rfl)
theorem dX1_judge_15 : decode cX1_judge 15 = .ok (.iload_n 2, 1) := dk_28 (dk_at dksX1_judge_0 15 rfl rfl)
theorem dX1_judge_16 : decode cX1_judge 16 = .ok (.aload_n 0, 1) := dk_42 (dk_at dksX1_judge_0 16 rfl rfl)
theorem dX1_judge_17 : decode cX1_judge 17 = .ok (.getfield 26, 3) := dk_180 0 26 (dk_at dksX1_judge_0 17 rfl rfl)
theorem dX1_judge_20 : decode cX1_judge 20 = .ok (.getfield 461, 3) := dk_180 1 205 (dk_at dksX1_judge_0 20 rfl rfl)
theorem dX1_judge_23 : decode cX1_judge 23 = .ok (.if_icmp .ge 74, 3) := dk_162 0 74 (dk_at dksX1_judge_1 0 rfl rfl)
theorem dX1_judge_26 : decode cX1_judge 26 = .ok (.aload_n 0, 1) := dk_42 (dk_at dksX1_judge_1 3 rfl rfl)
theorem dX1_judge_27 : decode cX1_judge 27 = .ok (.iload_n 1, 1) := dk_27 (dk_at dksX1_judge_1 4 rfl rfl)
theorem dX1_judge_28 : decode cX1_judge 28 = .ok (.invokevirtual 349, 3) := dk_182 1 93 (dk_at dksX1_judge_1 5 rfl rfl)
theorem dX1_judge_31 : decode cX1_judge 31 = .ok (.ifCond .eq 10, 3) := dk_153 0 10 (dk_at dksX1_judge_1 8 rfl rfl)
theorem dX1_judge_34 : decode cX1_judge 34 = .ok (.bipush 10, 2) := dk_16 10 (dk_at dksX1_judge_1 11 rfl rfl)
theorem dX1_judge_36 : decode cX1_judge 36 = .ok (.iload_n 2, 1) := dk_28 (dk_at dksX1_judge_1 13 rfl rfl)
theorem dX1_judge_37 : decode cX1_judge 37 = .ok (.imul, 1) := dk_104 (dk_at dksX1_judge_1 14 rfl rfl)
theorem dX1_judge_38 : decode cX1_judge 38 = .ok (.iconst 2, 1) := dk_5 (dk_at dksX1_judge_1 15 rfl rfl)
theorem dX1_judge_39 : decode cX1_judge 39 = .ok (.iadd, 1) := dk_96 (dk_at dksX1_judge_1 16 rfl rfl)
theorem dX1_judge_40 : decode cX1_judge 40 = .ok (.ireturn, 1) := dk_172 (dk_at dksX1_judge_1 17 rfl rfl)
theorem dX1_judge_41 : decode cX1_judge 41 = .ok (.aload_n 0, 1) := dk_42 (dk_at dksX1_judge_1 18 rfl rfl)
theorem dX1_judge_42 : decode cX1_judge 42 = .ok (.aload_n 0, 1) := dk_42 (dk_at dksX1_judge_1 19 rfl rfl)
theorem dX1_judge_43 : decode cX1_judge 43 = .ok (.iload_n 1, 1) := dk_27 (dk_at dksX1_judge_1 20 rfl rfl)
theorem dX1_judge_44 : decode cX1_judge 44 = .ok (.invokestatic 306, 3) := dk_184 1 50 (dk_at dksX1_judge_1 21 rfl rfl)
theorem dX1_judge_47 : decode cX1_judge 47 = .ok (.invokevirtual 290, 3) := dk_182 1 34 (dk_at dksX1_judge_2 0 rfl rfl)
theorem dX1_judge_50 : decode cX1_judge 50 = .ok (.iload_n 1, 1) := dk_27 (dk_at dksX1_judge_2 3 rfl rfl)
theorem dX1_judge_51 : decode cX1_judge 51 = .ok (.invokevirtual 367, 3) := dk_182 1 111 (dk_at dksX1_judge_2 4 rfl rfl)
theorem dX1_judge_54 : decode cX1_judge 54 = .ok (.aload_n 0, 1) := dk_42 (dk_at dksX1_judge_2 7 rfl rfl)
theorem dX1_judge_55 : decode cX1_judge 55 = .ok (.getfield 26, 3) := dk_180 0 26 (dk_at dksX1_judge_2 8 rfl rfl)
theorem dX1_judge_58 : decode cX1_judge 58 = .ok (.getfield 464, 3) := dk_180 1 208 (dk_at dksX1_judge_2 11 rfl rfl)
theorem dX1_judge_61 : decode cX1_judge 61 = .ok (.iload_n 2, 1) := dk_28 (dk_at dksX1_judge_2 14 rfl rfl)
theorem dX1_judge_62 : decode cX1_judge 62 = .ok (.iaload, 1) := dk_46 (dk_at dksX1_judge_2 15 rfl rfl)
theorem dX1_judge_63 : decode cX1_judge 63 = .ok (.ishr, 1) := dk_122 (dk_at dksX1_judge_2 16 rfl rfl)
theorem dX1_judge_64 : decode cX1_judge 64 = .ok (.iconst 1, 1) := dk_4 (dk_at dksX1_judge_2 17 rfl rfl)
theorem dX1_judge_65 : decode cX1_judge 65 = .ok (.iand, 1) := dk_126 (dk_at dksX1_judge_2 18 rfl rfl)
theorem dX1_judge_66 : decode cX1_judge 66 = .ok (.ifCond .ne 10, 3) := dk_154 0 10 (dk_at dksX1_judge_2 19 rfl rfl)
theorem dX1_judge_69 : decode cX1_judge 69 = .ok (.bipush 10, 2) := dk_16 10 (dk_at dksX1_judge_2 22 rfl rfl)
theorem dX1_judge_71 : decode cX1_judge 71 = .ok (.iload_n 2, 1) := dk_28 (dk_at dksX1_judge_3 0 rfl rfl)
theorem dX1_judge_72 : decode cX1_judge 72 = .ok (.imul, 1) := dk_104 (dk_at dksX1_judge_3 1 rfl rfl)
theorem dX1_judge_73 : decode cX1_judge 73 = .ok (.iconst 1, 1) := dk_4 (dk_at dksX1_judge_3 2 rfl rfl)
theorem dX1_judge_74 : decode cX1_judge 74 = .ok (.iadd, 1) := dk_96 (dk_at dksX1_judge_3 3 rfl rfl)
theorem dX1_judge_75 : decode cX1_judge 75 = .ok (.ireturn, 1) := dk_172 (dk_at dksX1_judge_3 4 rfl rfl)
theorem dX1_judge_76 : decode cX1_judge 76 = .ok (.aload_n 0, 1) := dk_42 (dk_at dksX1_judge_3 5 rfl rfl)
theorem dX1_judge_77 : decode cX1_judge 77 = .ok (.iload_n 1, 1) := dk_27 (dk_at dksX1_judge_3 6 rfl rfl)
theorem dX1_judge_78 : decode cX1_judge 78 = .ok (.aload_n 0, 1) := dk_42 (dk_at dksX1_judge_3 7 rfl rfl)
theorem dX1_judge_79 : decode cX1_judge 79 = .ok (.getfield 26, 3) := dk_180 0 26 (dk_at dksX1_judge_3 8 rfl rfl)
theorem dX1_judge_82 : decode cX1_judge 82 = .ok (.getfield 464, 3) := dk_180 1 208 (dk_at dksX1_judge_3 11 rfl rfl)
theorem dX1_judge_85 : decode cX1_judge 85 = .ok (.iload_n 2, 1) := dk_28 (dk_at dksX1_judge_3 14 rfl rfl)
theorem dX1_judge_86 : decode cX1_judge 86 = .ok (.iaload, 1) := dk_46 (dk_at dksX1_judge_3 15 rfl rfl)
theorem dX1_judge_87 : decode cX1_judge 87 = .ok (.invokevirtual 423, 3) := dk_182 1 167 (dk_at dksX1_judge_3 16 rfl rfl)
theorem dX1_judge_90 : decode cX1_judge 90 = .ok (.istore_n 1, 1) := dk_60 (dk_at dksX1_judge_3 19 rfl rfl)
theorem dX1_judge_91 : decode cX1_judge 91 = .ok (.iinc 2 1, 3) := dk_132 2 1 (dk_at dksX1_judge_3 20 rfl rfl)
theorem dX1_judge_94 : decode cX1_judge 94 = .ok (.goto (-79), 3) := dk_167 255 177 (dk_at dksX1_judge_4 0 rfl rfl)
theorem dX1_judge_97 : decode cX1_judge 97 = .ok (.iconst (-1), 1) := dk_2 (dk_at dksX1_judge_4 3 rfl rfl)
theorem dX1_judge_98 : decode cX1_judge 98 = .ok (.ireturn, 1) := dk_172 (dk_at dksX1_judge_4 4 rfl rfl)
abbrev cX1_proof : ByteArray := prog_1_method_62_code
def yX1_proof : MethodName := ⟨RX1, "proof", "(I)I"⟩
def dkwX1_proof_5 : List UInt8 := [158, 0, 5, 29, 172, 42, 28, 21, 5, 182, 1, 167, 61, 132, 3, 1, 167, 255, 148, 2, 172]
abbrev dktX1_proof_5 : List UInt8 := dkwX1_proof_5 ++ []
def dkwX1_proof_4 : List UInt8 := [27, 21, 4, 182, 1, 211, 27, 182, 1, 212, 42, 180, 0, 73, 28, 21, 5, 27, 182, 1, 212, 148]
abbrev dktX1_proof_4 : List UInt8 := dkwX1_proof_4 ++ dktX1_proof_5
def dkwX1_proof_3 : List UInt8 := [180, 0, 26, 180, 1, 208, 29, 46, 167, 0, 4, 3, 54, 5, 42, 180, 0, 73, 28, 42, 180, 0, 73, 28]
abbrev dktX1_proof_3 : List UInt8 := dkwX1_proof_3 ++ dktX1_proof_4
def dkwX1_proof_2 : List UInt8 := [162, 0, 33, 21, 4, 42, 180, 0, 26, 180, 1, 208, 29, 46, 122, 4, 126, 4, 160, 0, 15, 42]
abbrev dktX1_proof_2 : List UInt8 := dkwX1_proof_2 ++ dktX1_proof_3
def dkwX1_proof_1 : List UInt8 := [182, 1, 93, 154, 0, 106, 42, 27, 28, 182, 1, 111, 54, 4, 29, 42, 180, 0, 26, 180, 1, 205]
abbrev dktX1_proof_1 : List UInt8 := dkwX1_proof_1 ++ dktX1_proof_2
def dkwX1_proof_0 : List UInt8 := [42, 182, 1, 31, 42, 27, 182, 1, 10, 42, 182, 1, 143, 42, 182, 1, 173, 61, 3, 62, 42, 28]
abbrev dktX1_proof_0 : List UInt8 := dkwX1_proof_0 ++ dktX1_proof_1
theorem dksX1_proof_0 : cX1_proof.data.toList.drop 0 = dktX1_proof_0 := by decide +kernel
theorem dksX1_proof_1 : cX1_proof.data.toList.drop 22 = dktX1_proof_1 := dk_seg dksX1_proof_0 22 rfl rfl
theorem dksX1_proof_2 : cX1_proof.data.toList.drop 44 = dktX1_proof_2 := dk_seg dksX1_proof_1 22 rfl rfl
theorem dksX1_proof_3 : cX1_proof.data.toList.drop 66 = dktX1_proof_3 := dk_seg dksX1_proof_2 22 rfl rfl
theorem dksX1_proof_4 : cX1_proof.data.toList.drop 90 = dktX1_proof_4 := dk_seg dksX1_proof_3 24 rfl rfl
theorem dksX1_proof_5 : cX1_proof.data.toList.drop 112 = dktX1_proof_5 := dk_seg dksX1_proof_4 22 rfl rfl
theorem dX1_proof_0 : decode cX1_proof 0 = .ok (.aload_n 0, 1) := dk_42 (dk_at dksX1_proof_0 0 rfl rfl)
theorem dX1_proof_1 : decode cX1_proof 1 = .ok (.invokevirtual 287, 3) := dk_182 1 31 (dk_at dksX1_proof_0 1 rfl rfl)
theorem dX1_proof_4 : decode cX1_proof 4 = .ok (.aload_n 0, 1) := dk_42 (dk_at dksX1_proof_0 4 rfl rfl)
theorem dX1_proof_5 : decode cX1_proof 5 = .ok (.iload_n 1, 1) := dk_27 (dk_at dksX1_proof_0 5 rfl rfl)
theorem dX1_proof_6 : decode cX1_proof 6 = .ok (.invokevirtual 266, 3) := dk_182 1 10 (dk_at dksX1_proof_0 6 rfl rfl)
theorem dX1_proof_9 : decode cX1_proof 9 = .ok (.aload_n 0, 1) := dk_42 (dk_at dksX1_proof_0 9 rfl rfl)
theorem dX1_proof_10 : decode cX1_proof 10 = .ok (.invokevirtual 399, 3) := dk_182 1 143 (dk_at dksX1_proof_0 10 rfl rfl)
theorem dX1_proof_13 : decode cX1_proof 13 = .ok (.aload_n 0, 1) := dk_42 (dk_at dksX1_proof_0 13 rfl rfl)
theorem dX1_proof_14 : decode cX1_proof 14 = .ok (.invokevirtual 429, 3) := dk_182 1 173 (dk_at dksX1_proof_0 14 rfl rfl)
theorem dX1_proof_17 : decode cX1_proof 17 = .ok (.istore_n 2, 1) := dk_61 (dk_at dksX1_proof_0 17 rfl rfl)
theorem dX1_proof_18 : decode cX1_proof 18 = .ok (.iconst 0, 1) := dk_3 (dk_at dksX1_proof_0 18 rfl rfl)
theorem dX1_proof_19 : decode cX1_proof 19 = .ok (.istore_n 3, 1) := dk_62 (dk_at dksX1_proof_0 19 rfl rfl)
theorem dX1_proof_20 : decode cX1_proof 20 = .ok (.aload_n 0, 1) := dk_42 (dk_at dksX1_proof_0 20 rfl rfl)
theorem dX1_proof_21 : decode cX1_proof 21 = .ok (.iload_n 2, 1) := dk_28 (dk_at dksX1_proof_0 21 rfl rfl)
theorem dX1_proof_22 : decode cX1_proof 22 = .ok (.invokevirtual 349, 3) := dk_182 1 93 (dk_at dksX1_proof_1 0 rfl rfl)
theorem dX1_proof_25 : decode cX1_proof 25 = .ok (.ifCond .ne 106, 3) := dk_154 0 106 (dk_at dksX1_proof_1 3 rfl rfl)
theorem dX1_proof_28 : decode cX1_proof 28 = .ok (.aload_n 0, 1) := dk_42 (dk_at dksX1_proof_1 6 rfl rfl)
theorem dX1_proof_29 : decode cX1_proof 29 = .ok (.iload_n 1, 1) := dk_27 (dk_at dksX1_proof_1 7 rfl rfl)
theorem dX1_proof_30 : decode cX1_proof 30 = .ok (.iload_n 2, 1) := dk_28 (dk_at dksX1_proof_1 8 rfl rfl)
theorem dX1_proof_31 : decode cX1_proof 31 = .ok (.invokevirtual 367, 3) := dk_182 1 111 (dk_at dksX1_proof_1 9 rfl rfl)
theorem dX1_proof_34 : decode cX1_proof 34 = .ok (.istore 4, 2) := dk_54 4 (dk_at dksX1_proof_1 12 rfl rfl)
theorem dX1_proof_36 : decode cX1_proof 36 = .ok (.iload_n 3, 1) := dk_29 (dk_at dksX1_proof_1 14 rfl rfl)
theorem dX1_proof_37 : decode cX1_proof 37 = .ok (.aload_n 0, 1) := dk_42 (dk_at dksX1_proof_1 15 rfl rfl)
theorem dX1_proof_38 : decode cX1_proof 38 = .ok (.getfield 26, 3) := dk_180 0 26 (dk_at dksX1_proof_1 16 rfl rfl)
theorem dX1_proof_41 : decode cX1_proof 41 = .ok (.getfield 461, 3) := dk_180 1 205 (dk_at dksX1_proof_1 19 rfl rfl)
theorem dX1_proof_44 : decode cX1_proof 44 = .ok (.if_icmp .ge 33, 3) := dk_162 0 33 (dk_at dksX1_proof_2 0 rfl rfl)
theorem dX1_proof_47 : decode cX1_proof 47 = .ok (.iload 4, 2) := dk_21 4 (dk_at dksX1_proof_2 3 rfl rfl)
theorem dX1_proof_49 : decode cX1_proof 49 = .ok (.aload_n 0, 1) := dk_42 (dk_at dksX1_proof_2 5 rfl rfl)
theorem dX1_proof_50 : decode cX1_proof 50 = .ok (.getfield 26, 3) := dk_180 0 26 (dk_at dksX1_proof_2 6 rfl rfl)
theorem dX1_proof_53 : decode cX1_proof 53 = .ok (.getfield 464, 3) := dk_180 1 208 (dk_at dksX1_proof_2 9 rfl rfl)
theorem dX1_proof_56 : decode cX1_proof 56 = .ok (.iload_n 3, 1) := dk_29 (dk_at dksX1_proof_2 12 rfl rfl)
theorem dX1_proof_57 : decode cX1_proof 57 = .ok (.iaload, 1) := dk_46 (dk_at dksX1_proof_2 13 rfl rfl)
theorem dX1_proof_58 : decode cX1_proof 58 = .ok (.ishr, 1) := dk_122 (dk_at dksX1_proof_2 14 rfl rfl)
theorem dX1_proof_59 : decode cX1_proof 59 = .ok (.iconst 1, 1) := dk_4 (dk_at dksX1_proof_2 15 rfl rfl)
theorem dX1_proof_60 : decode cX1_proof 60 = .ok (.iand, 1) := dk_126 (dk_at dksX1_proof_2 16 rfl rfl)
theorem dX1_proof_61 : decode cX1_proof 61 = .ok (.iconst 1, 1) := dk_4 (dk_at dksX1_proof_2 17 rfl rfl)
theorem dX1_proof_62 : decode cX1_proof 62 = .ok (.if_icmp .ne 15, 3) := dk_160 0 15 (dk_at dksX1_proof_2 18 rfl rfl)
theorem dX1_proof_65 : decode cX1_proof 65 = .ok (.aload_n 0, 1) := dk_42 (dk_at dksX1_proof_2 21 rfl rfl)
theorem dX1_proof_66 : decode cX1_proof 66 = .ok (.getfield 26, 3) := dk_180 0 26 (dk_at dksX1_proof_3 0 rfl rfl)
theorem dX1_proof_69 : decode cX1_proof 69 = .ok (.getfield 464, 3) := dk_180 1 208 (dk_at dksX1_proof_3 3 rfl rfl)
theorem dX1_proof_72 : decode cX1_proof 72 = .ok (.iload_n 3, 1) := dk_29 (dk_at dksX1_proof_3 6 rfl rfl)
theorem dX1_proof_73 : decode cX1_proof 73 = .ok (.iaload, 1) := dk_46 (dk_at dksX1_proof_3 7 rfl rfl)
theorem dX1_proof_74 : decode cX1_proof 74 = .ok (.goto 4, 3) := dk_167 0 4 (dk_at dksX1_proof_3 8 rfl rfl)
theorem dX1_proof_77 : decode cX1_proof 77 = .ok (.iconst 0, 1) := dk_3 (dk_at dksX1_proof_3 11 rfl rfl)
theorem dX1_proof_78 : decode cX1_proof 78 = .ok (.istore 5, 2) := dk_54 5 (dk_at dksX1_proof_3 12 rfl rfl)
theorem dX1_proof_80 : decode cX1_proof 80 = .ok (.aload_n 0, 1) := dk_42 (dk_at dksX1_proof_3 14 rfl rfl)
theorem dX1_proof_81 : decode cX1_proof 81 = .ok (.getfield 73, 3) := dk_180 0 73 (dk_at dksX1_proof_3 15 rfl rfl)
theorem dX1_proof_84 : decode cX1_proof 84 = .ok (.iload_n 2, 1) := dk_28 (dk_at dksX1_proof_3 18 rfl rfl)
theorem dX1_proof_85 : decode cX1_proof 85 = .ok (.aload_n 0, 1) := dk_42 (dk_at dksX1_proof_3 19 rfl rfl)
theorem dX1_proof_86 : decode cX1_proof 86 = .ok (.getfield 73, 3) := dk_180 0 73 (dk_at dksX1_proof_3 20 rfl rfl)
theorem dX1_proof_89 : decode cX1_proof 89 = .ok (.iload_n 2, 1) := dk_28 (dk_at dksX1_proof_3 23 rfl rfl)
theorem dX1_proof_90 : decode cX1_proof 90 = .ok (.iload_n 1, 1) := dk_27 (dk_at dksX1_proof_4 0 rfl rfl)
theorem dX1_proof_91 : decode cX1_proof 91 = .ok (.iload 4, 2) := dk_21 4 (dk_at dksX1_proof_4 1 rfl rfl)
theorem dX1_proof_93 : decode cX1_proof 93 = .ok (.invokevirtual 467, 3) := dk_182 1 211 (dk_at dksX1_proof_4 3 rfl rfl)
theorem dX1_proof_96 : decode cX1_proof 96 = .ok (.iload_n 1, 1) := dk_27 (dk_at dksX1_proof_4 6 rfl rfl)
theorem dX1_proof_97 : decode cX1_proof 97 = .ok (.invokevirtual 468, 3) := dk_182 1 212 (dk_at dksX1_proof_4 7 rfl rfl)
theorem dX1_proof_100 : decode cX1_proof 100 = .ok (.aload_n 0, 1) := dk_42 (dk_at dksX1_proof_4 10 rfl rfl)
theorem dX1_proof_101 : decode cX1_proof 101 = .ok (.getfield 73, 3) := dk_180 0 73 (dk_at dksX1_proof_4 11 rfl rfl)
theorem dX1_proof_104 : decode cX1_proof 104 = .ok (.iload_n 2, 1) := dk_28 (dk_at dksX1_proof_4 14 rfl rfl)
theorem dX1_proof_105 : decode cX1_proof 105 = .ok (.iload 5, 2) := dk_21 5 (dk_at dksX1_proof_4 15 rfl rfl)
theorem dX1_proof_107 : decode cX1_proof 107 = .ok (.iload_n 1, 1) := dk_27 (dk_at dksX1_proof_4 17 rfl rfl)
theorem dX1_proof_108 : decode cX1_proof 108 = .ok (.invokevirtual 468, 3) := dk_182 1 212 (dk_at dksX1_proof_4 18 rfl rfl)
theorem dX1_proof_111 : decode cX1_proof 111 = .ok (.lcmp, 1) := dk_148 (dk_at dksX1_proof_4 21 rfl rfl)
theorem dX1_proof_112 : decode cX1_proof 112 = .ok (.ifCond .le 5, 3) := dk_158 0 5 (dk_at dksX1_proof_5 0 rfl rfl)
theorem dX1_proof_115 : decode cX1_proof 115 = .ok (.iload_n 3, 1) := dk_29 (dk_at dksX1_proof_5 3 rfl rfl)
theorem dX1_proof_116 : decode cX1_proof 116 = .ok (.ireturn, 1) := dk_172 (dk_at dksX1_proof_5 4 rfl rfl)
theorem dX1_proof_117 : decode cX1_proof 117 = .ok (.aload_n 0, 1) := dk_42 (dk_at dksX1_proof_5 5 rfl rfl)
theorem dX1_proof_118 : decode cX1_proof 118 = .ok (.iload_n 2, 1) := dk_28 (dk_at dksX1_proof_5 6 rfl rfl)
theorem dX1_proof_119 : decode cX1_proof 119 = .ok (.iload 5, 2) := dk_21 5 (dk_at dksX1_proof_5 7 rfl rfl)
theorem dX1_proof_121 : decode cX1_proof 121 = .ok (.invokevirtual 423, 3) := dk_182 1 167 (dk_at dksX1_proof_5 9 rfl rfl)
theorem dX1_proof_124 : decode cX1_proof 124 = .ok (.istore_n 2, 1) := dk_61 (dk_at dksX1_proof_5 12 rfl rfl)
theorem dX1_proof_125 : decode cX1_proof 125 = .ok (.iinc 3 1, 3) := dk_132 3 1 (dk_at dksX1_proof_5 13 rfl rfl)
theorem dX1_proof_128 : decode cX1_proof 128 = .ok (.goto (-108), 3) := dk_167 255 148 (dk_at dksX1_proof_5 16 rfl rfl)
theorem dX1_proof_131 : decode cX1_proof 131 = .ok (.iconst (-1), 1) := dk_2 (dk_at dksX1_proof_5 19 rfl rfl)
theorem dX1_proof_132 : decode cX1_proof 132 = .ok (.ireturn, 1) := dk_172 (dk_at dksX1_proof_5 20 rfl rfl)
abbrev cX1_hour : ByteArray := prog_1_method_64_code
def yX1_hour : MethodName := ⟨RX1, "hour", "(II)J"⟩
def dkwX1_hour_2 : List UInt8 := [33, 101, 173]
abbrev dktX1_hour_2 : List UInt8 := dkwX1_hour_2 ++ []
def dkwX1_hour_1 : List UInt8 := [154, 0, 7, 4, 167, 0, 4, 3, 182, 0, 173, 42, 27, 182, 1, 176, 66, 42, 28, 27, 27, 182, 1, 213]
abbrev dktX1_hour_1 : List UInt8 := dkwX1_hour_1 ++ dktX1_hour_2
def dkwX1_hour_0 : List UInt8 := [42, 182, 1, 31, 42, 27, 182, 1, 10, 42, 28, 3, 42, 180, 0, 12, 180, 0, 237, 4, 100, 184, 0, 163]
abbrev dktX1_hour_0 : List UInt8 := dkwX1_hour_0 ++ dktX1_hour_1
theorem dksX1_hour_0 : cX1_hour.data.toList.drop 0 = dktX1_hour_0 := by decide +kernel
theorem dksX1_hour_1 : cX1_hour.data.toList.drop 24 = dktX1_hour_1 := dk_seg dksX1_hour_0 24 rfl rfl
theorem dksX1_hour_2 : cX1_hour.data.toList.drop 48 = dktX1_hour_2 := dk_seg dksX1_hour_1 24 rfl rfl
theorem dX1_hour_0 : decode cX1_hour 0 = .ok (.aload_n 0, 1) := dk_42 (dk_at dksX1_hour_0 0 rfl rfl)
theorem dX1_hour_1 : decode cX1_hour 1 = .ok (.invokevirtual 287, 3) := dk_182 1 31 (dk_at dksX1_hour_0 1 rfl rfl)
theorem dX1_hour_4 : decode cX1_hour 4 = .ok (.aload_n 0, 1) := dk_42 (dk_at dksX1_hour_0 4 rfl rfl)
theorem dX1_hour_5 : decode cX1_hour 5 = .ok (.iload_n 1, 1) := dk_27 (dk_at dksX1_hour_0 5 rfl rfl)
theorem dX1_hour_6 : decode cX1_hour 6 = .ok (.invokevirtual 266, 3) := dk_182 1 10 (dk_at dksX1_hour_0 6 rfl rfl)
theorem dX1_hour_9 : decode cX1_hour 9 = .ok (.aload_n 0, 1) := dk_42 (dk_at dksX1_hour_0 9 rfl rfl)
theorem dX1_hour_10 : decode cX1_hour 10 = .ok (.iload_n 2, 1) := dk_28 (dk_at dksX1_hour_0 10 rfl rfl)
theorem dX1_hour_11 : decode cX1_hour 11 = .ok (.iconst 0, 1) := dk_3 (dk_at dksX1_hour_0 11 rfl rfl)
theorem dX1_hour_12 : decode cX1_hour 12 = .ok (.aload_n 0, 1) := dk_42 (dk_at dksX1_hour_0 12 rfl rfl)
theorem dX1_hour_13 : decode cX1_hour 13 = .ok (.getfield 12, 3) := dk_180 0 12 (dk_at dksX1_hour_0 13 rfl rfl)
theorem dX1_hour_16 : decode cX1_hour 16 = .ok (.getfield 237, 3) := dk_180 0 237 (dk_at dksX1_hour_0 16 rfl rfl)
theorem dX1_hour_19 : decode cX1_hour 19 = .ok (.iconst 1, 1) := dk_4 (dk_at dksX1_hour_0 19 rfl rfl)
theorem dX1_hour_20 : decode cX1_hour 20 = .ok (.isub, 1) := dk_100 (dk_at dksX1_hour_0 20 rfl rfl)
theorem dX1_hour_21 : decode cX1_hour 21 = .ok (.invokestatic 163, 3) := dk_184 0 163 (dk_at dksX1_hour_0 21 rfl rfl)
theorem dX1_hour_24 : decode cX1_hour 24 = .ok (.ifCond .ne 7, 3) := dk_154 0 7 (dk_at dksX1_hour_1 0 rfl rfl)
theorem dX1_hour_27 : decode cX1_hour 27 = .ok (.iconst 1, 1) := dk_4 (dk_at dksX1_hour_1 3 rfl rfl)
theorem dX1_hour_28 : decode cX1_hour 28 = .ok (.goto 4, 3) := dk_167 0 4 (dk_at dksX1_hour_1 4 rfl rfl)
theorem dX1_hour_31 : decode cX1_hour 31 = .ok (.iconst 0, 1) := dk_3 (dk_at dksX1_hour_1 7 rfl rfl)
theorem dX1_hour_32 : decode cX1_hour 32 = .ok (.invokevirtual 173, 3) := dk_182 0 173 (dk_at dksX1_hour_1 8 rfl rfl)
theorem dX1_hour_35 : decode cX1_hour 35 = .ok (.aload_n 0, 1) := dk_42 (dk_at dksX1_hour_1 11 rfl rfl)
theorem dX1_hour_36 : decode cX1_hour 36 = .ok (.iload_n 1, 1) := dk_27 (dk_at dksX1_hour_1 12 rfl rfl)
theorem dX1_hour_37 : decode cX1_hour 37 = .ok (.invokevirtual 432, 3) := dk_182 1 176 (dk_at dksX1_hour_1 13 rfl rfl)
theorem dX1_hour_40 : decode cX1_hour 40 = .ok (.lstore_n 3, 1) := dk_66 (dk_at dksX1_hour_1 16 rfl rfl)
theorem dX1_hour_41 : decode cX1_hour 41 = .ok (.aload_n 0, 1) := dk_42 (dk_at dksX1_hour_1 17 rfl rfl)
theorem dX1_hour_42 : decode cX1_hour 42 = .ok (.iload_n 2, 1) := dk_28 (dk_at dksX1_hour_1 18 rfl rfl)
theorem dX1_hour_43 : decode cX1_hour 43 = .ok (.iload_n 1, 1) := dk_27 (dk_at dksX1_hour_1 19 rfl rfl)
theorem dX1_hour_44 : decode cX1_hour 44 = .ok (.iload_n 1, 1) := dk_27 (dk_at dksX1_hour_1 20 rfl rfl)
theorem dX1_hour_45 : decode cX1_hour 45 = .ok (.invokevirtual 469, 3) := dk_182 1 213 (dk_at dksX1_hour_1 21 rfl rfl)
theorem dX1_hour_48 : decode cX1_hour 48 = .ok (.lload_n 3, 1) := dk_33 (dk_at dksX1_hour_2 0 rfl rfl)
theorem dX1_hour_49 : decode cX1_hour 49 = .ok (.lsub, 1) := dk_101 (dk_at dksX1_hour_2 1 rfl rfl)
theorem dX1_hour_50 : decode cX1_hour 50 = .ok (.lreturn, 1) := dk_173 (dk_at dksX1_hour_2 2 rfl rfl)
abbrev cX1_withHour : ByteArray := prog_1_method_63_code
def yX1_withHour : MethodName := ⟨RX1, "withHour", "(III)J"⟩
def dkwX1_withHour_2 : List UInt8 := [182, 0, 217, 22, 5, 173]
abbrev dktX1_withHour_2 : List UInt8 := dkwX1_withHour_2 ++ []
def dkwX1_withHour_1 : List UInt8 := [182, 0, 217, 42, 29, 182, 1, 176, 55, 5, 42, 180, 0, 26, 180, 1, 25, 27, 21, 4, 79, 42]
abbrev dktX1_withHour_1 : List UInt8 := dkwX1_withHour_1 ++ dktX1_withHour_2
def dkwX1_withHour_0 : List UInt8 := [42, 180, 0, 26, 180, 1, 25, 27, 46, 54, 4, 42, 180, 0, 26, 180, 1, 25, 27, 28, 79, 42]
abbrev dktX1_withHour_0 : List UInt8 := dkwX1_withHour_0 ++ dktX1_withHour_1
theorem dksX1_withHour_0 : cX1_withHour.data.toList.drop 0 = dktX1_withHour_0 := by decide +kernel
theorem dksX1_withHour_1 : cX1_withHour.data.toList.drop 22 = dktX1_withHour_1 := dk_seg dksX1_withHour_0 22 rfl rfl
theorem dksX1_withHour_2 : cX1_withHour.data.toList.drop 44 = dktX1_withHour_2 := dk_seg dksX1_withHour_1 22 rfl rfl
theorem dX1_withHour_0 : decode cX1_withHour 0 = .ok (.aload_n 0, 1) := dk_42 (dk_at dksX1_withHour_0 0 rfl rfl)
theorem dX1_withHour_1 : decode cX1_withHour 1 = .ok (.getfield 26, 3) := dk_180 0 26 (dk_at dksX1_withHour_0 1 rfl rfl)
theorem dX1_withHour_4 : decode cX1_withHour 4 = .ok (.getfield 281, 3) := dk_180 1 25 (dk_at dksX1_withHour_0 4 rfl rfl)
theorem dX1_withHour_7 : decode cX1_withHour 7 = .ok (.iload_n 1, 1) := dk_27 (dk_at dksX1_withHour_0 7 rfl rfl)
theorem dX1_withHour_8 : decode cX1_withHour 8 = .ok (.iaload, 1) := dk_46 (dk_at dksX1_withHour_0 8 rfl rfl)
theorem dX1_withHour_9 : decode cX1_withHour 9 = .ok (.istore 4, 2) := dk_54 4 (dk_at dksX1_withHour_0 9 rfl rfl)
theorem dX1_withHour_11 : decode cX1_withHour 11 = .ok (.aload_n 0, 1) := dk_42 (dk_at dksX1_withHour_0 11 rfl rfl)
theorem dX1_withHour_12 : decode cX1_withHour 12 = .ok (.getfield 26, 3) := dk_180 0 26 (dk_at dksX1_withHour_0 12 rfl rfl)
theorem dX1_withHour_15 : decode cX1_withHour 15 = .ok (.getfield 281, 3) := dk_180 1 25 (dk_at dksX1_withHour_0 15 rfl rfl)
theorem dX1_withHour_18 : decode cX1_withHour 18 = .ok (.iload_n 1, 1) := dk_27 (dk_at dksX1_withHour_0 18 rfl rfl)
theorem dX1_withHour_19 : decode cX1_withHour 19 = .ok (.iload_n 2, 1) := dk_28 (dk_at dksX1_withHour_0 19 rfl rfl)
theorem dX1_withHour_20 : decode cX1_withHour 20 = .ok (.iastore, 1) := dk_79 (dk_at dksX1_withHour_0 20 rfl rfl)
theorem dX1_withHour_21 : decode cX1_withHour 21 = .ok (.aload_n 0, 1) := dk_42 (dk_at dksX1_withHour_0 21 rfl rfl)
theorem dX1_withHour_22 : decode cX1_withHour 22 = .ok (.invokevirtual 217, 3) := dk_182 0 217 (dk_at dksX1_withHour_1 0 rfl rfl)
theorem dX1_withHour_25 : decode cX1_withHour 25 = .ok (.aload_n 0, 1) := dk_42 (dk_at dksX1_withHour_1 3 rfl rfl)
theorem dX1_withHour_26 : decode cX1_withHour 26 = .ok (.iload_n 3, 1) := dk_29 (dk_at dksX1_withHour_1 4 rfl rfl)
theorem dX1_withHour_27 : decode cX1_withHour 27 = .ok (.invokevirtual 432, 3) := dk_182 1 176 (dk_at dksX1_withHour_1 5 rfl rfl)
theorem dX1_withHour_30 : decode cX1_withHour 30 = .ok (.lstore 5, 2) := dk_55 5 (dk_at dksX1_withHour_1 8 rfl rfl)
theorem dX1_withHour_32 : decode cX1_withHour 32 = .ok (.aload_n 0, 1) := dk_42 (dk_at dksX1_withHour_1 10 rfl rfl)
theorem dX1_withHour_33 : decode cX1_withHour 33 = .ok (.getfield 26, 3) := dk_180 0 26 (dk_at dksX1_withHour_1 11 rfl rfl)
theorem dX1_withHour_36 : decode cX1_withHour 36 = .ok (.getfield 281, 3) := dk_180 1 25 (dk_at dksX1_withHour_1 14 rfl rfl)
theorem dX1_withHour_39 : decode cX1_withHour 39 = .ok (.iload_n 1, 1) := dk_27 (dk_at dksX1_withHour_1 17 rfl rfl)
theorem dX1_withHour_40 : decode cX1_withHour 40 = .ok (.iload 4, 2) := dk_21 4 (dk_at dksX1_withHour_1 18 rfl rfl)
theorem dX1_withHour_42 : decode cX1_withHour 42 = .ok (.iastore, 1) := dk_79 (dk_at dksX1_withHour_1 20 rfl rfl)
theorem dX1_withHour_43 : decode cX1_withHour 43 = .ok (.aload_n 0, 1) := dk_42 (dk_at dksX1_withHour_1 21 rfl rfl)
theorem dX1_withHour_44 : decode cX1_withHour 44 = .ok (.invokevirtual 217, 3) := dk_182 0 217 (dk_at dksX1_withHour_2 0 rfl rfl)
theorem dX1_withHour_47 : decode cX1_withHour 47 = .ok (.lload 5, 2) := dk_22 5 (dk_at dksX1_withHour_2 3 rfl rfl)
theorem dX1_withHour_49 : decode cX1_withHour 49 = .ok (.lreturn, 1) := dk_173 (dk_at dksX1_withHour_2 5 rfl rfl)
abbrev cX1_give : ByteArray := prog_1_method_65_code
def yX1_give : MethodName := ⟨RX1, "give", "()I"⟩
def dkwX1_give_4 : List UInt8 := [167, 255, 196, 2, 172]
abbrev dktX1_give_4 : List UInt8 := dkwX1_give_4 ++ []
def dkwX1_give_3 : List UInt8 := [27, 28, 182, 1, 216, 153, 0, 10, 16, 10, 27, 104, 28, 96, 172, 132, 2, 1, 167, 255, 215, 132, 1, 1]
abbrev dktX1_give_3 : List UInt8 := dkwX1_give_3 ++ dktX1_give_4
def dkwX1_give_2 : List UInt8 := [61, 28, 42, 180, 0, 12, 180, 0, 160, 162, 0, 36, 28, 42, 27, 182, 1, 34, 159, 0, 21, 42, 27, 28]
abbrev dktX1_give_2 : List UInt8 := dkwX1_give_2 ++ dktX1_give_3
def dkwX1_give_1 : List UInt8 := [182, 1, 176, 80, 132, 1, 1, 167, 255, 231, 3, 60, 27, 42, 180, 0, 12, 180, 0, 237, 162, 0, 55, 3]
abbrev dktX1_give_1 : List UInt8 := dkwX1_give_1 ++ dktX1_give_2
def dkwX1_give_0 : List UInt8 := [42, 182, 1, 31, 3, 60, 27, 42, 180, 0, 12, 180, 0, 160, 162, 0, 20, 42, 180, 0, 135, 27, 42, 27]
abbrev dktX1_give_0 : List UInt8 := dkwX1_give_0 ++ dktX1_give_1
theorem dksX1_give_0 : cX1_give.data.toList.drop 0 = dktX1_give_0 := by decide +kernel
theorem dksX1_give_1 : cX1_give.data.toList.drop 24 = dktX1_give_1 := dk_seg dksX1_give_0 24 rfl rfl
theorem dksX1_give_2 : cX1_give.data.toList.drop 48 = dktX1_give_2 := dk_seg dksX1_give_1 24 rfl rfl
theorem dksX1_give_3 : cX1_give.data.toList.drop 72 = dktX1_give_3 := dk_seg dksX1_give_2 24 rfl rfl
theorem dksX1_give_4 : cX1_give.data.toList.drop 96 = dktX1_give_4 := dk_seg dksX1_give_3 24 rfl rfl
theorem dX1_give_0 : decode cX1_give 0 = .ok (.aload_n 0, 1) := dk_42 (dk_at dksX1_give_0 0 rfl rfl)
theorem dX1_give_1 : decode cX1_give 1 = .ok (.invokevirtual 287, 3) := dk_182 1 31 (dk_at dksX1_give_0 1 rfl rfl)
theorem dX1_give_4 : decode cX1_give 4 = .ok (.iconst 0, 1) := dk_3 (dk_at dksX1_give_0 4 rfl rfl)
theorem dX1_give_5 : decode cX1_give 5 = .ok (.istore_n 1, 1) := dk_60 (dk_at dksX1_give_0 5 rfl rfl)
theorem dX1_give_6 : decode cX1_give 6 = .ok (.iload_n 1, 1) := dk_27 (dk_at dksX1_give_0 6 rfl rfl)
theorem dX1_give_7 : decode cX1_give 7 = .ok (.aload_n 0, 1) := dk_42 (dk_at dksX1_give_0 7 rfl rfl)
theorem dX1_give_8 : decode cX1_give 8 = .ok (.getfield 12, 3) := dk_180 0 12 (dk_at dksX1_give_0 8 rfl rfl)
theorem dX1_give_11 : decode cX1_give 11 = .ok (.getfield 160, 3) := dk_180 0 160 (dk_at dksX1_give_0 11 rfl rfl)
theorem dX1_give_14 : decode cX1_give 14 = .ok (.if_icmp .ge 20, 3) := dk_162 0 20 (dk_at dksX1_give_0 14 rfl rfl)
theorem dX1_give_17 : decode cX1_give 17 = .ok (.aload_n 0, 1) := dk_42 (dk_at dksX1_give_0 17 rfl rfl)
theorem dX1_give_18 : decode cX1_give 18 = .ok (.getfield 135, 3) := dk_180 0 135 (dk_at dksX1_give_0 18 rfl rfl)
theorem dX1_give_21 : decode cX1_give 21 = .ok (.iload_n 1, 1) := dk_27 (dk_at dksX1_give_0 21 rfl rfl)
theorem dX1_give_22 : decode cX1_give 22 = .ok (.aload_n 0, 1) := dk_42 (dk_at dksX1_give_0 22 rfl rfl)
theorem dX1_give_23 : decode cX1_give 23 = .ok (.iload_n 1, 1) := dk_27 (dk_at dksX1_give_0 23 rfl rfl)
theorem dX1_give_24 : decode cX1_give 24 = .ok (.invokevirtual 432, 3) := dk_182 1 176 (dk_at dksX1_give_1 0 rfl rfl)
theorem dX1_give_27 : decode cX1_give 27 = .ok (.lastore, 1) := dk_80 (dk_at dksX1_give_1 3 rfl rfl)
theorem dX1_give_28 : decode cX1_give 28 = .ok (.iinc 1 1, 3) := dk_132 1 1 (dk_at dksX1_give_1 4 rfl rfl)
theorem dX1_give_31 : decode cX1_give 31 = .ok (.goto (-25), 3) := dk_167 255 231 (dk_at dksX1_give_1 7 rfl rfl)
theorem dX1_give_34 : decode cX1_give 34 = .ok (.iconst 0, 1) := dk_3 (dk_at dksX1_give_1 10 rfl rfl)
theorem dX1_give_35 : decode cX1_give 35 = .ok (.istore_n 1, 1) := dk_60 (dk_at dksX1_give_1 11 rfl rfl)
theorem dX1_give_36 : decode cX1_give 36 = .ok (.iload_n 1, 1) := dk_27 (dk_at dksX1_give_1 12 rfl rfl)
theorem dX1_give_37 : decode cX1_give 37 = .ok (.aload_n 0, 1) := dk_42 (dk_at dksX1_give_1 13 rfl rfl)
theorem dX1_give_38 : decode cX1_give 38 = .ok (.getfield 12, 3) := dk_180 0 12 (dk_at dksX1_give_1 14 rfl rfl)
theorem dX1_give_41 : decode cX1_give 41 = .ok (.getfield 237, 3) := dk_180 0 237 (dk_at dksX1_give_1 17 rfl rfl)
theorem dX1_give_44 : decode cX1_give 44 = .ok (.if_icmp .ge 55, 3) := dk_162 0 55 (dk_at dksX1_give_1 20 rfl rfl)
theorem dX1_give_47 : decode cX1_give 47 = .ok (.iconst 0, 1) := dk_3 (dk_at dksX1_give_1 23 rfl rfl)
theorem dX1_give_48 : decode cX1_give 48 = .ok (.istore_n 2, 1) := dk_61 (dk_at dksX1_give_2 0 rfl rfl)
theorem dX1_give_49 : decode cX1_give 49 = .ok (.iload_n 2, 1) := dk_28 (dk_at dksX1_give_2 1 rfl rfl)
theorem dX1_give_50 : decode cX1_give 50 = .ok (.aload_n 0, 1) := dk_42 (dk_at dksX1_give_2 2 rfl rfl)
theorem dX1_give_51 : decode cX1_give 51 = .ok (.getfield 12, 3) := dk_180 0 12 (dk_at dksX1_give_2 3 rfl rfl)
theorem dX1_give_54 : decode cX1_give 54 = .ok (.getfield 160, 3) := dk_180 0 160 (dk_at dksX1_give_2 6 rfl rfl)
theorem dX1_give_57 : decode cX1_give 57 = .ok (.if_icmp .ge 36, 3) := dk_162 0 36 (dk_at dksX1_give_2 9 rfl rfl)
theorem dX1_give_60 : decode cX1_give 60 = .ok (.iload_n 2, 1) := dk_28 (dk_at dksX1_give_2 12 rfl rfl)
theorem dX1_give_61 : decode cX1_give 61 = .ok (.aload_n 0, 1) := dk_42 (dk_at dksX1_give_2 13 rfl rfl)
theorem dX1_give_62 : decode cX1_give 62 = .ok (.iload_n 1, 1) := dk_27 (dk_at dksX1_give_2 14 rfl rfl)
theorem dX1_give_63 : decode cX1_give 63 = .ok (.invokevirtual 290, 3) := dk_182 1 34 (dk_at dksX1_give_2 15 rfl rfl)
theorem dX1_give_66 : decode cX1_give 66 = .ok (.if_icmp .eq 21, 3) := dk_159 0 21 (dk_at dksX1_give_2 18 rfl rfl)
theorem dX1_give_69 : decode cX1_give 69 = .ok (.aload_n 0, 1) := dk_42 (dk_at dksX1_give_2 21 rfl rfl)
theorem dX1_give_70 : decode cX1_give 70 = .ok (.iload_n 1, 1) := dk_27 (dk_at dksX1_give_2 22 rfl rfl)
theorem dX1_give_71 : decode cX1_give 71 = .ok (.iload_n 2, 1) := dk_28 (dk_at dksX1_give_2 23 rfl rfl)
theorem dX1_give_72 : decode cX1_give 72 = .ok (.iload_n 1, 1) := dk_27 (dk_at dksX1_give_3 0 rfl rfl)
theorem dX1_give_73 : decode cX1_give 73 = .ok (.iload_n 2, 1) := dk_28 (dk_at dksX1_give_3 1 rfl rfl)
theorem dX1_give_74 : decode cX1_give 74 = .ok (.invokevirtual 472, 3) := dk_182 1 216 (dk_at dksX1_give_3 2 rfl rfl)
theorem dX1_give_77 : decode cX1_give 77 = .ok (.ifCond .eq 10, 3) := dk_153 0 10 (dk_at dksX1_give_3 5 rfl rfl)
theorem dX1_give_80 : decode cX1_give 80 = .ok (.bipush 10, 2) := dk_16 10 (dk_at dksX1_give_3 8 rfl rfl)
theorem dX1_give_82 : decode cX1_give 82 = .ok (.iload_n 1, 1) := dk_27 (dk_at dksX1_give_3 10 rfl rfl)
theorem dX1_give_83 : decode cX1_give 83 = .ok (.imul, 1) := dk_104 (dk_at dksX1_give_3 11 rfl rfl)
theorem dX1_give_84 : decode cX1_give 84 = .ok (.iload_n 2, 1) := dk_28 (dk_at dksX1_give_3 12 rfl rfl)
theorem dX1_give_85 : decode cX1_give 85 = .ok (.iadd, 1) := dk_96 (dk_at dksX1_give_3 13 rfl rfl)
theorem dX1_give_86 : decode cX1_give 86 = .ok (.ireturn, 1) := dk_172 (dk_at dksX1_give_3 14 rfl rfl)
theorem dX1_give_87 : decode cX1_give 87 = .ok (.iinc 2 1, 3) := dk_132 2 1 (dk_at dksX1_give_3 15 rfl rfl)
theorem dX1_give_90 : decode cX1_give 90 = .ok (.goto (-41), 3) := dk_167 255 215 (dk_at dksX1_give_3 18 rfl rfl)
theorem dX1_give_93 : decode cX1_give 93 = .ok (.iinc 1 1, 3) := dk_132 1 1 (dk_at dksX1_give_3 21 rfl rfl)
theorem dX1_give_96 : decode cX1_give 96 = .ok (.goto (-60), 3) := dk_167 255 196 (dk_at dksX1_give_4 0 rfl rfl)
theorem dX1_give_99 : decode cX1_give 99 = .ok (.iconst (-1), 1) := dk_2 (dk_at dksX1_give_4 3 rfl rfl)
theorem dX1_give_100 : decode cX1_give 100 = .ok (.ireturn, 1) := dk_172 (dk_at dksX1_give_4 4 rfl rfl)
abbrev cX1_gainBoth : ByteArray := prog_1_method_66_code
def yX1_gainBoth : MethodName := ⟨RX1, "gainBoth", "(IIII)Z"⟩
def dkwX1_gainBoth_5 : List UInt8 := [27, 21, 6, 79, 42, 182, 0, 217, 21, 8, 172]
abbrev dktX1_gainBoth_5 : List UInt8 := dkwX1_gainBoth_5 ++ []
def dkwX1_gainBoth_4 : List UInt8 := [167, 0, 4, 3, 54, 8, 42, 180, 0, 26, 180, 1, 25, 29, 21, 7, 79, 42, 180, 0, 26, 180, 1, 25]
abbrev dktX1_gainBoth_4 : List UInt8 := dkwX1_gainBoth_4 ++ dktX1_gainBoth_5
def dkwX1_gainBoth_3 : List UInt8 := [47, 148, 158, 0, 24, 42, 21, 5, 182, 1, 176, 42, 180, 0, 135, 21, 5, 47, 148, 158, 0, 7, 4]
abbrev dktX1_gainBoth_3 : List UInt8 := dkwX1_gainBoth_3 ++ dktX1_gainBoth_4
def dkwX1_gainBoth_2 : List UInt8 := [180, 0, 26, 180, 1, 25, 29, 21, 4, 79, 42, 182, 0, 217, 42, 28, 182, 1, 176, 42, 180, 0, 135, 28]
abbrev dktX1_gainBoth_2 : List UInt8 := dkwX1_gainBoth_2 ++ dktX1_gainBoth_3
def dkwX1_gainBoth_1 : List UInt8 := [180, 1, 25, 29, 46, 54, 7, 42, 180, 0, 26, 180, 1, 25, 27, 28, 79, 29, 27, 159, 0, 14, 42]
abbrev dktX1_gainBoth_1 : List UInt8 := dkwX1_gainBoth_1 ++ dktX1_gainBoth_2
def dkwX1_gainBoth_0 : List UInt8 := [42, 27, 182, 1, 34, 54, 5, 42, 180, 0, 26, 180, 1, 25, 27, 46, 54, 6, 42, 180, 0, 26]
abbrev dktX1_gainBoth_0 : List UInt8 := dkwX1_gainBoth_0 ++ dktX1_gainBoth_1
theorem dksX1_gainBoth_0 : cX1_gainBoth.data.toList.drop 0 = dktX1_gainBoth_0 := by decide +kernel
theorem dksX1_gainBoth_1 : cX1_gainBoth.data.toList.drop 22 = dktX1_gainBoth_1 := dk_seg dksX1_gainBoth_0 22 rfl rfl
theorem dksX1_gainBoth_2 : cX1_gainBoth.data.toList.drop 45 = dktX1_gainBoth_2 := dk_seg dksX1_gainBoth_1 23 rfl rfl
theorem dksX1_gainBoth_3 : cX1_gainBoth.data.toList.drop 69 = dktX1_gainBoth_3 := dk_seg dksX1_gainBoth_2 24 rfl rfl
theorem dksX1_gainBoth_4 : cX1_gainBoth.data.toList.drop 92 = dktX1_gainBoth_4 := dk_seg dksX1_gainBoth_3 23 rfl rfl
theorem dksX1_gainBoth_5 : cX1_gainBoth.data.toList.drop 116 = dktX1_gainBoth_5 := dk_seg dksX1_gainBoth_4 24 rfl rfl
theorem dX1_gainBoth_0 : decode cX1_gainBoth 0 = .ok (.aload_n 0, 1) := dk_42 (dk_at dksX1_gainBoth_0 0 rfl rfl)
theorem dX1_gainBoth_1 : decode cX1_gainBoth 1 = .ok (.iload_n 1, 1) := dk_27 (dk_at dksX1_gainBoth_0 1 rfl rfl)
theorem dX1_gainBoth_2 : decode cX1_gainBoth 2 = .ok (.invokevirtual 290, 3) := dk_182 1 34 (dk_at dksX1_gainBoth_0 2 rfl rfl)
theorem dX1_gainBoth_5 : decode cX1_gainBoth 5 = .ok (.istore 5, 2) := dk_54 5 (dk_at dksX1_gainBoth_0 5 rfl rfl)
theorem dX1_gainBoth_7 : decode cX1_gainBoth 7 = .ok (.aload_n 0, 1) := dk_42 (dk_at dksX1_gainBoth_0 7 rfl rfl)
theorem dX1_gainBoth_8 : decode cX1_gainBoth 8 = .ok (.getfield 26, 3) := dk_180 0 26 (dk_at dksX1_gainBoth_0 8 rfl rfl)
theorem dX1_gainBoth_11 : decode cX1_gainBoth 11 = .ok (.getfield 281, 3) := dk_180 1 25 (dk_at dksX1_gainBoth_0 11 rfl rfl)
theorem dX1_gainBoth_14 : decode cX1_gainBoth 14 = .ok (.iload_n 1, 1) := dk_27 (dk_at dksX1_gainBoth_0 14 rfl rfl)
theorem dX1_gainBoth_15 : decode cX1_gainBoth 15 = .ok (.iaload, 1) := dk_46 (dk_at dksX1_gainBoth_0 15 rfl rfl)
theorem dX1_gainBoth_16 : decode cX1_gainBoth 16 = .ok (.istore 6, 2) := dk_54 6 (dk_at dksX1_gainBoth_0 16 rfl rfl)
theorem dX1_gainBoth_18 : decode cX1_gainBoth 18 = .ok (.aload_n 0, 1) := dk_42 (dk_at dksX1_gainBoth_0 18 rfl rfl)
theorem dX1_gainBoth_19 : decode cX1_gainBoth 19 = .ok (.getfield 26, 3) := dk_180 0 26 (dk_at dksX1_gainBoth_0 19 rfl rfl)
theorem dX1_gainBoth_22 : decode cX1_gainBoth 22 = .ok (.getfield 281, 3) := dk_180 1 25 (dk_at dksX1_gainBoth_1 0 rfl rfl)
theorem dX1_gainBoth_25 : decode cX1_gainBoth 25 = .ok (.iload_n 3, 1) := dk_29 (dk_at dksX1_gainBoth_1 3 rfl rfl)
theorem dX1_gainBoth_26 : decode cX1_gainBoth 26 = .ok (.iaload, 1) := dk_46 (dk_at dksX1_gainBoth_1 4 rfl rfl)
theorem dX1_gainBoth_27 : decode cX1_gainBoth 27 = .ok (.istore 7, 2) := dk_54 7 (dk_at dksX1_gainBoth_1 5 rfl rfl)
theorem dX1_gainBoth_29 : decode cX1_gainBoth 29 = .ok (.aload_n 0, 1) := dk_42 (dk_at dksX1_gainBoth_1 7 rfl rfl)
theorem dX1_gainBoth_30 : decode cX1_gainBoth 30 = .ok (.getfield 26, 3) := dk_180 0 26 (dk_at dksX1_gainBoth_1 8 rfl rfl)
theorem dX1_gainBoth_33 : decode cX1_gainBoth 33 = .ok (.getfield 281, 3) := dk_180 1 25 (dk_at dksX1_gainBoth_1 11 rfl rfl)
theorem dX1_gainBoth_36 : decode cX1_gainBoth 36 = .ok (.iload_n 1, 1) := dk_27 (dk_at dksX1_gainBoth_1 14 rfl rfl)
theorem dX1_gainBoth_37 : decode cX1_gainBoth 37 = .ok (.iload_n 2, 1) := dk_28 (dk_at dksX1_gainBoth_1 15 rfl rfl)
theorem dX1_gainBoth_38 : decode cX1_gainBoth 38 = .ok (.iastore, 1) := dk_79 (dk_at dksX1_gainBoth_1 16 rfl rfl)
theorem dX1_gainBoth_39 : decode cX1_gainBoth 39 = .ok (.iload_n 3, 1) := dk_29 (dk_at dksX1_gainBoth_1 17 rfl rfl)
theorem dX1_gainBoth_40 : decode cX1_gainBoth 40 = .ok (.iload_n 1, 1) := dk_27 (dk_at dksX1_gainBoth_1 18 rfl rfl)
theorem dX1_gainBoth_41 : decode cX1_gainBoth 41 = .ok (.if_icmp .eq 14, 3) := dk_159 0 14 (dk_at dksX1_gainBoth_1 19 rfl rfl)
theorem dX1_gainBoth_44 : decode cX1_gainBoth 44 = .ok (.aload_n 0, 1) := dk_42 (dk_at dksX1_gainBoth_1 22 rfl rfl)
theorem dX1_gainBoth_45 : decode cX1_gainBoth 45 = .ok (.getfield 26, 3) := dk_180 0 26 (dk_at dksX1_gainBoth_2 0 rfl rfl)
theorem dX1_gainBoth_48 : decode cX1_gainBoth 48 = .ok (.getfield 281, 3) := dk_180 1 25 (dk_at dksX1_gainBoth_2 3 rfl rfl)
theorem dX1_gainBoth_51 : decode cX1_gainBoth 51 = .ok (.iload_n 3, 1) := dk_29 (dk_at dksX1_gainBoth_2 6 rfl rfl)
theorem dX1_gainBoth_52 : decode cX1_gainBoth 52 = .ok (.iload 4, 2) := dk_21 4 (dk_at dksX1_gainBoth_2 7 rfl rfl)
theorem dX1_gainBoth_54 : decode cX1_gainBoth 54 = .ok (.iastore, 1) := dk_79 (dk_at dksX1_gainBoth_2 9 rfl rfl)
theorem dX1_gainBoth_55 : decode cX1_gainBoth 55 = .ok (.aload_n 0, 1) := dk_42 (dk_at dksX1_gainBoth_2 10 rfl rfl)
theorem dX1_gainBoth_56 : decode cX1_gainBoth 56 = .ok (.invokevirtual 217, 3) := dk_182 0 217 (dk_at dksX1_gainBoth_2 11 rfl rfl)
theorem dX1_gainBoth_59 : decode cX1_gainBoth 59 = .ok (.aload_n 0, 1) := dk_42 (dk_at dksX1_gainBoth_2 14 rfl rfl)
theorem dX1_gainBoth_60 : decode cX1_gainBoth 60 = .ok (.iload_n 2, 1) := dk_28 (dk_at dksX1_gainBoth_2 15 rfl rfl)
theorem dX1_gainBoth_61 : decode cX1_gainBoth 61 = .ok (.invokevirtual 432, 3) := dk_182 1 176 (dk_at dksX1_gainBoth_2 16 rfl rfl)
theorem dX1_gainBoth_64 : decode cX1_gainBoth 64 = .ok (.aload_n 0, 1) := dk_42 (dk_at dksX1_gainBoth_2 19 rfl rfl)
theorem dX1_gainBoth_65 : decode cX1_gainBoth 65 = .ok (.getfield 135, 3) := dk_180 0 135 (dk_at dksX1_gainBoth_2 20 rfl rfl)
theorem dX1_gainBoth_68 : decode cX1_gainBoth 68 = .ok (.iload_n 2, 1) := dk_28 (dk_at dksX1_gainBoth_2 23 rfl rfl)
theorem dX1_gainBoth_69 : decode cX1_gainBoth 69 = .ok (.laload, 1) := dk_47 (dk_at dksX1_gainBoth_3 0 rfl rfl)
theorem dX1_gainBoth_70 : decode cX1_gainBoth 70 = .ok (.lcmp, 1) := dk_148 (dk_at dksX1_gainBoth_3 1 rfl rfl)
theorem dX1_gainBoth_71 : decode cX1_gainBoth 71 = .ok (.ifCond .le 24, 3) := dk_158 0 24 (dk_at dksX1_gainBoth_3 2 rfl rfl)
theorem dX1_gainBoth_74 : decode cX1_gainBoth 74 = .ok (.aload_n 0, 1) := dk_42 (dk_at dksX1_gainBoth_3 5 rfl rfl)
theorem dX1_gainBoth_75 : decode cX1_gainBoth 75 = .ok (.iload 5, 2) := dk_21 5 (dk_at dksX1_gainBoth_3 6 rfl rfl)
theorem dX1_gainBoth_77 : decode cX1_gainBoth 77 = .ok (.invokevirtual 432, 3) := dk_182 1 176 (dk_at dksX1_gainBoth_3 8 rfl rfl)
theorem dX1_gainBoth_80 : decode cX1_gainBoth 80 = .ok (.aload_n 0, 1) := dk_42 (dk_at dksX1_gainBoth_3 11 rfl rfl)
theorem dX1_gainBoth_81 : decode cX1_gainBoth 81 = .ok (.getfield 135, 3) := dk_180 0 135 (dk_at dksX1_gainBoth_3 12 rfl rfl)
theorem dX1_gainBoth_84 : decode cX1_gainBoth 84 = .ok (.iload 5, 2) := dk_21 5 (dk_at dksX1_gainBoth_3 15 rfl rfl)
theorem dX1_gainBoth_86 : decode cX1_gainBoth 86 = .ok (.laload, 1) := dk_47 (dk_at dksX1_gainBoth_3 17 rfl rfl)
theorem dX1_gainBoth_87 : decode cX1_gainBoth 87 = .ok (.lcmp, 1) := dk_148 (dk_at dksX1_gainBoth_3 18 rfl rfl)
theorem dX1_gainBoth_88 : decode cX1_gainBoth 88 = .ok (.ifCond .le 7, 3) := dk_158 0 7 (dk_at dksX1_gainBoth_3 19 rfl rfl)
theorem dX1_gainBoth_91 : decode cX1_gainBoth 91 = .ok (.iconst 1, 1) := dk_4 (dk_at dksX1_gainBoth_3 22 rfl rfl)
theorem dX1_gainBoth_92 : decode cX1_gainBoth 92 = .ok (.goto 4, 3) := dk_167 0 4 (dk_at dksX1_gainBoth_4 0 rfl rfl)
theorem dX1_gainBoth_95 : decode cX1_gainBoth 95 = .ok (.iconst 0, 1) := dk_3 (dk_at dksX1_gainBoth_4 3 rfl rfl)
theorem dX1_gainBoth_96 : decode cX1_gainBoth 96 = .ok (.istore 8, 2) := dk_54 8 (dk_at dksX1_gainBoth_4 4 rfl rfl)
theorem dX1_gainBoth_98 : decode cX1_gainBoth 98 = .ok (.aload_n 0, 1) := dk_42 (dk_at dksX1_gainBoth_4 6 rfl rfl)
theorem dX1_gainBoth_99 : decode cX1_gainBoth 99 = .ok (.getfield 26, 3) := dk_180 0 26 (dk_at dksX1_gainBoth_4 7 rfl rfl)
theorem dX1_gainBoth_102 : decode cX1_gainBoth 102 = .ok (.getfield 281, 3) := dk_180 1 25 (dk_at dksX1_gainBoth_4 10 rfl rfl)
theorem dX1_gainBoth_105 : decode cX1_gainBoth 105 = .ok (.iload_n 3, 1) := dk_29 (dk_at dksX1_gainBoth_4 13 rfl rfl)
theorem dX1_gainBoth_106 : decode cX1_gainBoth 106 = .ok (.iload 7, 2) := dk_21 7 (dk_at dksX1_gainBoth_4 14 rfl rfl)
theorem dX1_gainBoth_108 : decode cX1_gainBoth 108 = .ok (.iastore, 1) := dk_79 (dk_at dksX1_gainBoth_4 16 rfl rfl)
theorem dX1_gainBoth_109 : decode cX1_gainBoth 109 = .ok (.aload_n 0, 1) := dk_42 (dk_at dksX1_gainBoth_4 17 rfl rfl)
theorem dX1_gainBoth_110 : decode cX1_gainBoth 110 = .ok (.getfield 26, 3) := dk_180 0 26 (dk_at dksX1_gainBoth_4 18 rfl rfl)
theorem dX1_gainBoth_113 : decode cX1_gainBoth 113 = .ok (.getfield 281, 3) := dk_180 1 25 (dk_at dksX1_gainBoth_4 21 rfl rfl)
theorem dX1_gainBoth_116 : decode cX1_gainBoth 116 = .ok (.iload_n 1, 1) := dk_27 (dk_at dksX1_gainBoth_5 0 rfl rfl)
theorem dX1_gainBoth_117 : decode cX1_gainBoth 117 = .ok (.iload 6, 2) := dk_21 6 (dk_at dksX1_gainBoth_5 1 rfl rfl)
theorem dX1_gainBoth_119 : decode cX1_gainBoth 119 = .ok (.iastore, 1) := dk_79 (dk_at dksX1_gainBoth_5 3 rfl rfl)
theorem dX1_gainBoth_120 : decode cX1_gainBoth 120 = .ok (.aload_n 0, 1) := dk_42 (dk_at dksX1_gainBoth_5 4 rfl rfl)
theorem dX1_gainBoth_121 : decode cX1_gainBoth 121 = .ok (.invokevirtual 217, 3) := dk_182 0 217 (dk_at dksX1_gainBoth_5 5 rfl rfl)
theorem dX1_gainBoth_124 : decode cX1_gainBoth 124 = .ok (.iload 8, 2) := dk_21 8 (dk_at dksX1_gainBoth_5 8 rfl rfl)
theorem dX1_gainBoth_126 : decode cX1_gainBoth 126 = .ok (.ireturn, 1) := dk_172 (dk_at dksX1_gainBoth_5 10 rfl rfl)
abbrev cX1_price : ByteArray := prog_1_method_67_code
def yX1_price : MethodName := ⟨RX1, "price", "(II)J"⟩
def dkwX1_price_3 : List UInt8 := [22, 6, 42, 27, 28, 29, 182, 1, 213, 101, 101, 173]
abbrev dktX1_price_3 : List UInt8 := dkwX1_price_3 ++ []
def dkwX1_price_2 : List UInt8 := [42, 28, 182, 1, 176, 55, 4, 42, 29, 182, 1, 176, 55, 6, 42, 27, 28, 28, 182, 1, 213, 22, 4, 101]
abbrev dktX1_price_2 : List UInt8 := dkwX1_price_2 ++ dktX1_price_3
def dkwX1_price_1 : List UInt8 := [154, 0, 7, 4, 167, 0, 4, 3, 182, 0, 173, 42, 27, 182, 1, 34, 62, 29, 28, 160, 0, 5, 9, 173]
abbrev dktX1_price_1 : List UInt8 := dkwX1_price_1 ++ dktX1_price_2
def dkwX1_price_0 : List UInt8 := [42, 182, 1, 31, 42, 28, 182, 1, 10, 42, 27, 3, 42, 180, 0, 12, 180, 0, 237, 4, 100, 184, 0, 163]
abbrev dktX1_price_0 : List UInt8 := dkwX1_price_0 ++ dktX1_price_1
theorem dksX1_price_0 : cX1_price.data.toList.drop 0 = dktX1_price_0 := by decide +kernel
theorem dksX1_price_1 : cX1_price.data.toList.drop 24 = dktX1_price_1 := dk_seg dksX1_price_0 24 rfl rfl
theorem dksX1_price_2 : cX1_price.data.toList.drop 48 = dktX1_price_2 := dk_seg dksX1_price_1 24 rfl rfl
theorem dksX1_price_3 : cX1_price.data.toList.drop 72 = dktX1_price_3 := dk_seg dksX1_price_2 24 rfl rfl
theorem dX1_price_0 : decode cX1_price 0 = .ok (.aload_n 0, 1) := dk_42 (dk_at dksX1_price_0 0 rfl rfl)
theorem dX1_price_1 : decode cX1_price 1 = .ok (.invokevirtual 287, 3) := dk_182 1 31 (dk_at dksX1_price_0 1 rfl rfl)
theorem dX1_price_4 : decode cX1_price 4 = .ok (.aload_n 0, 1) := dk_42 (dk_at dksX1_price_0 4 rfl rfl)
theorem dX1_price_5 : decode cX1_price 5 = .ok (.iload_n 2, 1) := dk_28 (dk_at dksX1_price_0 5 rfl rfl)
theorem dX1_price_6 : decode cX1_price 6 = .ok (.invokevirtual 266, 3) := dk_182 1 10 (dk_at dksX1_price_0 6 rfl rfl)
theorem dX1_price_9 : decode cX1_price 9 = .ok (.aload_n 0, 1) := dk_42 (dk_at dksX1_price_0 9 rfl rfl)
theorem dX1_price_10 : decode cX1_price 10 = .ok (.iload_n 1, 1) := dk_27 (dk_at dksX1_price_0 10 rfl rfl)
theorem dX1_price_11 : decode cX1_price 11 = .ok (.iconst 0, 1) := dk_3 (dk_at dksX1_price_0 11 rfl rfl)
theorem dX1_price_12 : decode cX1_price 12 = .ok (.aload_n 0, 1) := dk_42 (dk_at dksX1_price_0 12 rfl rfl)
theorem dX1_price_13 : decode cX1_price 13 = .ok (.getfield 12, 3) := dk_180 0 12 (dk_at dksX1_price_0 13 rfl rfl)
theorem dX1_price_16 : decode cX1_price 16 = .ok (.getfield 237, 3) := dk_180 0 237 (dk_at dksX1_price_0 16 rfl rfl)
theorem dX1_price_19 : decode cX1_price 19 = .ok (.iconst 1, 1) := dk_4 (dk_at dksX1_price_0 19 rfl rfl)
theorem dX1_price_20 : decode cX1_price 20 = .ok (.isub, 1) := dk_100 (dk_at dksX1_price_0 20 rfl rfl)
theorem dX1_price_21 : decode cX1_price 21 = .ok (.invokestatic 163, 3) := dk_184 0 163 (dk_at dksX1_price_0 21 rfl rfl)
theorem dX1_price_24 : decode cX1_price 24 = .ok (.ifCond .ne 7, 3) := dk_154 0 7 (dk_at dksX1_price_1 0 rfl rfl)
theorem dX1_price_27 : decode cX1_price 27 = .ok (.iconst 1, 1) := dk_4 (dk_at dksX1_price_1 3 rfl rfl)
theorem dX1_price_28 : decode cX1_price 28 = .ok (.goto 4, 3) := dk_167 0 4 (dk_at dksX1_price_1 4 rfl rfl)
theorem dX1_price_31 : decode cX1_price 31 = .ok (.iconst 0, 1) := dk_3 (dk_at dksX1_price_1 7 rfl rfl)
theorem dX1_price_32 : decode cX1_price 32 = .ok (.invokevirtual 173, 3) := dk_182 0 173 (dk_at dksX1_price_1 8 rfl rfl)
theorem dX1_price_35 : decode cX1_price 35 = .ok (.aload_n 0, 1) := dk_42 (dk_at dksX1_price_1 11 rfl rfl)
theorem dX1_price_36 : decode cX1_price 36 = .ok (.iload_n 1, 1) := dk_27 (dk_at dksX1_price_1 12 rfl rfl)
theorem dX1_price_37 : decode cX1_price 37 = .ok (.invokevirtual 290, 3) := dk_182 1 34 (dk_at dksX1_price_1 13 rfl rfl)
theorem dX1_price_40 : decode cX1_price 40 = .ok (.istore_n 3, 1) := dk_62 (dk_at dksX1_price_1 16 rfl rfl)
theorem dX1_price_41 : decode cX1_price 41 = .ok (.iload_n 3, 1) := dk_29 (dk_at dksX1_price_1 17 rfl rfl)
theorem dX1_price_42 : decode cX1_price 42 = .ok (.iload_n 2, 1) := dk_28 (dk_at dksX1_price_1 18 rfl rfl)
theorem dX1_price_43 : decode cX1_price 43 = .ok (.if_icmp .ne 5, 3) := dk_160 0 5 (dk_at dksX1_price_1 19 rfl rfl)
theorem dX1_price_46 : decode cX1_price 46 = .ok (.lconst 0, 1) := dk_9 (dk_at dksX1_price_1 22 rfl rfl)
theorem dX1_price_47 : decode cX1_price 47 = .ok (.lreturn, 1) := dk_173 (dk_at dksX1_price_1 23 rfl rfl)
theorem dX1_price_48 : decode cX1_price 48 = .ok (.aload_n 0, 1) := dk_42 (dk_at dksX1_price_2 0 rfl rfl)
theorem dX1_price_49 : decode cX1_price 49 = .ok (.iload_n 2, 1) := dk_28 (dk_at dksX1_price_2 1 rfl rfl)
theorem dX1_price_50 : decode cX1_price 50 = .ok (.invokevirtual 432, 3) := dk_182 1 176 (dk_at dksX1_price_2 2 rfl rfl)
theorem dX1_price_53 : decode cX1_price 53 = .ok (.lstore 4, 2) := dk_55 4 (dk_at dksX1_price_2 5 rfl rfl)
theorem dX1_price_55 : decode cX1_price 55 = .ok (.aload_n 0, 1) := dk_42 (dk_at dksX1_price_2 7 rfl rfl)
theorem dX1_price_56 : decode cX1_price 56 = .ok (.iload_n 3, 1) := dk_29 (dk_at dksX1_price_2 8 rfl rfl)
theorem dX1_price_57 : decode cX1_price 57 = .ok (.invokevirtual 432, 3) := dk_182 1 176 (dk_at dksX1_price_2 9 rfl rfl)
theorem dX1_price_60 : decode cX1_price 60 = .ok (.lstore 6, 2) := dk_55 6 (dk_at dksX1_price_2 12 rfl rfl)
theorem dX1_price_62 : decode cX1_price 62 = .ok (.aload_n 0, 1) := dk_42 (dk_at dksX1_price_2 14 rfl rfl)
theorem dX1_price_63 : decode cX1_price 63 = .ok (.iload_n 1, 1) := dk_27 (dk_at dksX1_price_2 15 rfl rfl)
theorem dX1_price_64 : decode cX1_price 64 = .ok (.iload_n 2, 1) := dk_28 (dk_at dksX1_price_2 16 rfl rfl)
theorem dX1_price_65 : decode cX1_price 65 = .ok (.iload_n 2, 1) := dk_28 (dk_at dksX1_price_2 17 rfl rfl)
theorem dX1_price_66 : decode cX1_price 66 = .ok (.invokevirtual 469, 3) := dk_182 1 213 (dk_at dksX1_price_2 18 rfl rfl)
theorem dX1_price_69 : decode cX1_price 69 = .ok (.lload 4, 2) := dk_22 4 (dk_at dksX1_price_2 21 rfl rfl)
theorem dX1_price_71 : decode cX1_price 71 = .ok (.lsub, 1) := dk_101 (dk_at dksX1_price_2 23 rfl rfl)
theorem dX1_price_72 : decode cX1_price 72 = .ok (.lload 6, 2) := dk_22 6 (dk_at dksX1_price_3 0 rfl rfl)
theorem dX1_price_74 : decode cX1_price 74 = .ok (.aload_n 0, 1) := dk_42 (dk_at dksX1_price_3 2 rfl rfl)
theorem dX1_price_75 : decode cX1_price 75 = .ok (.iload_n 1, 1) := dk_27 (dk_at dksX1_price_3 3 rfl rfl)
theorem dX1_price_76 : decode cX1_price 76 = .ok (.iload_n 2, 1) := dk_28 (dk_at dksX1_price_3 4 rfl rfl)
theorem dX1_price_77 : decode cX1_price 77 = .ok (.iload_n 3, 1) := dk_29 (dk_at dksX1_price_3 5 rfl rfl)
theorem dX1_price_78 : decode cX1_price 78 = .ok (.invokevirtual 469, 3) := dk_182 1 213 (dk_at dksX1_price_3 6 rfl rfl)
theorem dX1_price_81 : decode cX1_price 81 = .ok (.lsub, 1) := dk_101 (dk_at dksX1_price_3 9 rfl rfl)
theorem dX1_price_82 : decode cX1_price 82 = .ok (.lsub, 1) := dk_101 (dk_at dksX1_price_3 10 rfl rfl)
theorem dX1_price_83 : decode cX1_price 83 = .ok (.lreturn, 1) := dk_173 (dk_at dksX1_price_3 11 rfl rfl)
abbrev cX1_order : ByteArray := prog_1_method_71_code
def yX1_order : MethodName := ⟨RX1, "order", "(I)I"⟩
def dkwX1_order_4 : List UInt8 := [182, 0, 144, 42, 182, 0, 217, 28, 172]
abbrev dktX1_order_4 : List UInt8 := dkwX1_order_4 ++ []
def dkwX1_order_3 : List UInt8 := [21, 8, 46, 96, 61, 132, 8, 1, 167, 255, 228, 22, 6, 66, 42, 182, 1, 226, 54, 5, 167, 255, 183, 42]
abbrev dktX1_order_3 : List UInt8 := dkwX1_order_3 ++ dktX1_order_4
def dkwX1_order_2 : List UInt8 := [3, 54, 8, 21, 8, 42, 180, 0, 12, 180, 0, 160, 162, 0, 22, 16, 10, 28, 104, 42, 180, 0, 51]
abbrev dktX1_order_2 : List UInt8 := dkwX1_order_2 ++ dktX1_order_3
def dkwX1_order_1 : List UInt8 := [182, 0, 217, 42, 27, 182, 1, 176, 55, 6, 28, 2, 159, 0, 10, 22, 6, 33, 148, 158, 0, 42, 3, 61]
abbrev dktX1_order_1 : List UInt8 := dkwX1_order_1 ++ dktX1_order_2
def dkwX1_order_0 : List UInt8 := [42, 182, 1, 31, 42, 27, 182, 1, 223, 2, 61, 9, 66, 4, 54, 5, 21, 5, 153, 0, 74, 42]
abbrev dktX1_order_0 : List UInt8 := dkwX1_order_0 ++ dktX1_order_1
theorem dksX1_order_0 : cX1_order.data.toList.drop 0 = dktX1_order_0 := by decide +kernel
theorem dksX1_order_1 : cX1_order.data.toList.drop 22 = dktX1_order_1 := dk_seg dksX1_order_0 22 rfl rfl
theorem dksX1_order_2 : cX1_order.data.toList.drop 46 = dktX1_order_2 := dk_seg dksX1_order_1 24 rfl rfl
theorem dksX1_order_3 : cX1_order.data.toList.drop 69 = dktX1_order_3 := dk_seg dksX1_order_2 23 rfl rfl
theorem dksX1_order_4 : cX1_order.data.toList.drop 93 = dktX1_order_4 := dk_seg dksX1_order_3 24 rfl rfl
theorem dX1_order_0 : decode cX1_order 0 = .ok (.aload_n 0, 1) := dk_42 (dk_at dksX1_order_0 0 rfl rfl)
theorem dX1_order_1 : decode cX1_order 1 = .ok (.invokevirtual 287, 3) := dk_182 1 31 (dk_at dksX1_order_0 1 rfl rfl)
theorem dX1_order_4 : decode cX1_order 4 = .ok (.aload_n 0, 1) := dk_42 (dk_at dksX1_order_0 4 rfl rfl)
theorem dX1_order_5 : decode cX1_order 5 = .ok (.iload_n 1, 1) := dk_27 (dk_at dksX1_order_0 5 rfl rfl)
theorem dX1_order_6 : decode cX1_order 6 = .ok (.invokevirtual 479, 3) := dk_182 1 223 (dk_at dksX1_order_0 6 rfl rfl)
theorem dX1_order_9 : decode cX1_order 9 = .ok (.iconst (-1), 1) := dk_2 (dk_at dksX1_order_0 9 rfl rfl)
theorem dX1_order_10 : decode cX1_order 10 = .ok (.istore_n 2, 1) := dk_61 (dk_at dksX1_order_0 10 rfl rfl)
theorem dX1_order_11 : decode cX1_order 11 = .ok (.lconst 0, 1) := dk_9 (dk_at dksX1_order_0 11 rfl rfl)
theorem dX1_order_12 : decode cX1_order 12 = .ok (.lstore_n 3, 1) := dk_66 (dk_at dksX1_order_0 12 rfl rfl)
theorem dX1_order_13 : decode cX1_order 13 = .ok (.iconst 1, 1) := dk_4 (dk_at dksX1_order_0 13 rfl rfl)
theorem dX1_order_14 : decode cX1_order 14 = .ok (.istore 5, 2) := dk_54 5 (dk_at dksX1_order_0 14 rfl rfl)
theorem dX1_order_16 : decode cX1_order 16 = .ok (.iload 5, 2) := dk_21 5 (dk_at dksX1_order_0 16 rfl rfl)
theorem dX1_order_18 : decode cX1_order 18 = .ok (.ifCond .eq 74, 3) := dk_153 0 74 (dk_at dksX1_order_0 18 rfl rfl)
theorem dX1_order_21 : decode cX1_order 21 = .ok (.aload_n 0, 1) := dk_42 (dk_at dksX1_order_0 21 rfl rfl)
theorem dX1_order_22 : decode cX1_order 22 = .ok (.invokevirtual 217, 3) := dk_182 0 217 (dk_at dksX1_order_1 0 rfl rfl)
theorem dX1_order_25 : decode cX1_order 25 = .ok (.aload_n 0, 1) := dk_42 (dk_at dksX1_order_1 3 rfl rfl)
theorem dX1_order_26 : decode cX1_order 26 = .ok (.iload_n 1, 1) := dk_27 (dk_at dksX1_order_1 4 rfl rfl)
theorem dX1_order_27 : decode cX1_order 27 = .ok (.invokevirtual 432, 3) := dk_182 1 176 (dk_at dksX1_order_1 5 rfl rfl)
theorem dX1_order_30 : decode cX1_order 30 = .ok (.lstore 6, 2) := dk_55 6 (dk_at dksX1_order_1 8 rfl rfl)
theorem dX1_order_32 : decode cX1_order 32 = .ok (.iload_n 2, 1) := dk_28 (dk_at dksX1_order_1 10 rfl rfl)
theorem dX1_order_33 : decode cX1_order 33 = .ok (.iconst (-1), 1) := dk_2 (dk_at dksX1_order_1 11 rfl rfl)
theorem dX1_order_34 : decode cX1_order 34 = .ok (.if_icmp .eq 10, 3) := dk_159 0 10 (dk_at dksX1_order_1 12 rfl rfl)
theorem dX1_order_37 : decode cX1_order 37 = .ok (.lload 6, 2) := dk_22 6 (dk_at dksX1_order_1 15 rfl rfl)
theorem dX1_order_39 : decode cX1_order 39 = .ok (.lload_n 3, 1) := dk_33 (dk_at dksX1_order_1 17 rfl rfl)
theorem dX1_order_40 : decode cX1_order 40 = .ok (.lcmp, 1) := dk_148 (dk_at dksX1_order_1 18 rfl rfl)
theorem dX1_order_41 : decode cX1_order 41 = .ok (.ifCond .le 42, 3) := dk_158 0 42 (dk_at dksX1_order_1 19 rfl rfl)
theorem dX1_order_44 : decode cX1_order 44 = .ok (.iconst 0, 1) := dk_3 (dk_at dksX1_order_1 22 rfl rfl)
theorem dX1_order_45 : decode cX1_order 45 = .ok (.istore_n 2, 1) := dk_61 (dk_at dksX1_order_1 23 rfl rfl)
theorem dX1_order_46 : decode cX1_order 46 = .ok (.iconst 0, 1) := dk_3 (dk_at dksX1_order_2 0 rfl rfl)
theorem dX1_order_47 : decode cX1_order 47 = .ok (.istore 8, 2) := dk_54 8 (dk_at dksX1_order_2 1 rfl rfl)
theorem dX1_order_49 : decode cX1_order 49 = .ok (.iload 8, 2) := dk_21 8 (dk_at dksX1_order_2 3 rfl rfl)
theorem dX1_order_51 : decode cX1_order 51 = .ok (.aload_n 0, 1) := dk_42 (dk_at dksX1_order_2 5 rfl rfl)
theorem dX1_order_52 : decode cX1_order 52 = .ok (.getfield 12, 3) := dk_180 0 12 (dk_at dksX1_order_2 6 rfl rfl)
theorem dX1_order_55 : decode cX1_order 55 = .ok (.getfield 160, 3) := dk_180 0 160 (dk_at dksX1_order_2 9 rfl rfl)
theorem dX1_order_58 : decode cX1_order 58 = .ok (.if_icmp .ge 22, 3) := dk_162 0 22 (dk_at dksX1_order_2 12 rfl rfl)
theorem dX1_order_61 : decode cX1_order 61 = .ok (.bipush 10, 2) := dk_16 10 (dk_at dksX1_order_2 15 rfl rfl)
theorem dX1_order_63 : decode cX1_order 63 = .ok (.iload_n 2, 1) := dk_28 (dk_at dksX1_order_2 17 rfl rfl)
theorem dX1_order_64 : decode cX1_order 64 = .ok (.imul, 1) := dk_104 (dk_at dksX1_order_2 18 rfl rfl)
theorem dX1_order_65 : decode cX1_order 65 = .ok (.aload_n 0, 1) := dk_42 (dk_at dksX1_order_2 19 rfl rfl)
theorem dX1_order_66 : decode cX1_order 66 = .ok (.getfield 51, 3) := dk_180 0 51 (dk_at dksX1_order_2 20 rfl rfl)
theorem dX1_order_69 : decode cX1_order 69 = .ok (.iload 8, 2) := dk_21 8 (dk_at dksX1_order_3 0 rfl rfl)
theorem dX1_order_71 : decode cX1_order 71 = .ok (.iaload, 1) := dk_46 (dk_at dksX1_order_3 2 rfl rfl)
theorem dX1_order_72 : decode cX1_order 72 = .ok (.iadd, 1) := dk_96 (dk_at dksX1_order_3 3 rfl rfl)
theorem dX1_order_73 : decode cX1_order 73 = .ok (.istore_n 2, 1) := dk_61 (dk_at dksX1_order_3 4 rfl rfl)
theorem dX1_order_74 : decode cX1_order 74 = .ok (.iinc 8 1, 3) := dk_132 8 1 (dk_at dksX1_order_3 5 rfl rfl)
theorem dX1_order_77 : decode cX1_order 77 = .ok (.goto (-28), 3) := dk_167 255 228 (dk_at dksX1_order_3 8 rfl rfl)
theorem dX1_order_80 : decode cX1_order 80 = .ok (.lload 6, 2) := dk_22 6 (dk_at dksX1_order_3 11 rfl rfl)
theorem dX1_order_82 : decode cX1_order 82 = .ok (.lstore_n 3, 1) := dk_66 (dk_at dksX1_order_3 13 rfl rfl)
theorem dX1_order_83 : decode cX1_order 83 = .ok (.aload_n 0, 1) := dk_42 (dk_at dksX1_order_3 14 rfl rfl)
theorem dX1_order_84 : decode cX1_order 84 = .ok (.invokevirtual 482, 3) := dk_182 1 226 (dk_at dksX1_order_3 15 rfl rfl)
theorem dX1_order_87 : decode cX1_order 87 = .ok (.istore 5, 2) := dk_54 5 (dk_at dksX1_order_3 18 rfl rfl)
theorem dX1_order_89 : decode cX1_order 89 = .ok (.goto (-73), 3) := dk_167 255 183 (dk_at dksX1_order_3 20 rfl rfl)
theorem dX1_order_92 : decode cX1_order 92 = .ok (.aload_n 0, 1) := dk_42 (dk_at dksX1_order_3 23 rfl rfl)
theorem dX1_order_93 : decode cX1_order 93 = .ok (.invokevirtual 144, 3) := dk_182 0 144 (dk_at dksX1_order_4 0 rfl rfl)
theorem dX1_order_96 : decode cX1_order 96 = .ok (.aload_n 0, 1) := dk_42 (dk_at dksX1_order_4 3 rfl rfl)
theorem dX1_order_97 : decode cX1_order 97 = .ok (.invokevirtual 217, 3) := dk_182 0 217 (dk_at dksX1_order_4 4 rfl rfl)
theorem dX1_order_100 : decode cX1_order 100 = .ok (.iload_n 2, 1) := dk_28 (dk_at dksX1_order_4 7 rfl rfl)
theorem dX1_order_101 : decode cX1_order 101 = .ok (.ireturn, 1) := dk_172 (dk_at dksX1_order_4 8 rfl rfl)
abbrev cX1_mustOne : ByteArray := prog_1_method_68_code
def yX1_mustOne : MethodName := ⟨RX1, "mustOne", "(I)V"⟩
def dkwX1_mustOne_0 : List UInt8 := [27, 2, 159, 0, 8, 42, 27, 182, 1, 10, 177]
abbrev dktX1_mustOne_0 : List UInt8 := dkwX1_mustOne_0 ++ []
theorem dksX1_mustOne_0 : cX1_mustOne.data.toList.drop 0 = dktX1_mustOne_0 := by decide +kernel
theorem dX1_mustOne_0 : decode cX1_mustOne 0 = .ok (.iload_n 1, 1) := dk_27 (dk_at dksX1_mustOne_0 0 rfl rfl)
theorem dX1_mustOne_1 : decode cX1_mustOne 1 = .ok (.iconst (-1), 1) := dk_2 (dk_at dksX1_mustOne_0 1 rfl rfl)
theorem dX1_mustOne_2 : decode cX1_mustOne 2 = .ok (.if_icmp .eq 8, 3) := dk_159 0 8 (dk_at dksX1_mustOne_0 2 rfl rfl)
theorem dX1_mustOne_5 : decode cX1_mustOne 5 = .ok (.aload_n 0, 1) := dk_42 (dk_at dksX1_mustOne_0 5 rfl rfl)
theorem dX1_mustOne_6 : decode cX1_mustOne 6 = .ok (.iload_n 1, 1) := dk_27 (dk_at dksX1_mustOne_0 6 rfl rfl)
theorem dX1_mustOne_7 : decode cX1_mustOne 7 = .ok (.invokevirtual 266, 3) := dk_182 1 10 (dk_at dksX1_mustOne_0 7 rfl rfl)
theorem dX1_mustOne_10 : decode cX1_mustOne 10 = .ok (.return_, 1) := dk_177 (dk_at dksX1_mustOne_0 10 rfl rfl)
abbrev cX1_turnsRound : ByteArray := prog_1_method_69_code
def yX1_turnsRound : MethodName := ⟨RX1, "turnsRound", "()Z"⟩
def dkwX1_turnsRound_4 : List UInt8 := [21, 4, 21, 5, 182, 1, 220, 132, 4, 1, 132, 5, 255, 167, 255, 235, 4, 172]
abbrev dktX1_turnsRound_4 : List UInt8 := dkwX1_turnsRound_4 ++ []
def dkwX1_turnsRound_3 : List UInt8 := [28, 29, 182, 1, 220, 28, 4, 96, 54, 4, 27, 4, 100, 54, 5, 21, 4, 21, 5, 162, 0, 20, 42]
abbrev dktX1_turnsRound_3 : List UInt8 := dkwX1_turnsRound_3 ++ dktX1_turnsRound_4
def dkwX1_turnsRound_2 : List UInt8 := [100, 62, 42, 180, 0, 51, 29, 46, 42, 180, 0, 51, 28, 46, 162, 0, 9, 132, 3, 255, 167, 255, 238, 42]
abbrev dktX1_turnsRound_2 : List UInt8 := dkwX1_turnsRound_2 ++ dktX1_turnsRound_3
def dkwX1_turnsRound_1 : List UInt8 := [180, 0, 51, 28, 4, 96, 46, 164, 0, 9, 132, 2, 255, 167, 255, 232, 28, 156, 0, 5, 3, 172, 27, 4]
abbrev dktX1_turnsRound_1 : List UInt8 := dkwX1_turnsRound_1 ++ dktX1_turnsRound_2
def dkwX1_turnsRound_0 : List UInt8 := [42, 180, 0, 12, 180, 0, 160, 60, 27, 5, 100, 61, 28, 155, 0, 26, 42, 180, 0, 51, 28, 46, 42]
abbrev dktX1_turnsRound_0 : List UInt8 := dkwX1_turnsRound_0 ++ dktX1_turnsRound_1
theorem dksX1_turnsRound_0 : cX1_turnsRound.data.toList.drop 0 = dktX1_turnsRound_0 := by decide +kernel
theorem dksX1_turnsRound_1 : cX1_turnsRound.data.toList.drop 23 = dktX1_turnsRound_1 := dk_seg dksX1_turnsRound_0 23 rfl rfl
theorem dksX1_turnsRound_2 : cX1_turnsRound.data.toList.drop 47 = dktX1_turnsRound_2 := dk_seg dksX1_turnsRound_1 24 rfl rfl
theorem dksX1_turnsRound_3 : cX1_turnsRound.data.toList.drop 71 = dktX1_turnsRound_3 := dk_seg dksX1_turnsRound_2 24 rfl rfl
theorem dksX1_turnsRound_4 : cX1_turnsRound.data.toList.drop 94 = dktX1_turnsRound_4 := dk_seg dksX1_turnsRound_3 23 rfl rfl
theorem dX1_turnsRound_0 : decode cX1_turnsRound 0 = .ok (.aload_n 0, 1) := dk_42 (dk_at dksX1_turnsRound_0 0 rfl rfl)
theorem dX1_turnsRound_1 : decode cX1_turnsRound 1 = .ok (.getfield 12, 3) := dk_180 0 12 (dk_at dksX1_turnsRound_0 1 rfl rfl)
theorem dX1_turnsRound_4 : decode cX1_turnsRound 4 = .ok (.getfield 160, 3) := dk_180 0 160 (dk_at dksX1_turnsRound_0 4 rfl rfl)
theorem dX1_turnsRound_7 : decode cX1_turnsRound 7 = .ok (.istore_n 1, 1) := dk_60 (dk_at dksX1_turnsRound_0 7 rfl rfl)
theorem dX1_turnsRound_8 : decode cX1_turnsRound 8 = .ok (.iload_n 1, 1) := dk_27 (dk_at dksX1_turnsRound_0 8 rfl rfl)
theorem dX1_turnsRound_9 : decode cX1_turnsRound 9 = .ok (.iconst 2, 1) := dk_5 (dk_at dksX1_turnsRound_0 9 rfl rfl)
theorem dX1_turnsRound_10 : decode cX1_turnsRound 10 = .ok (.isub, 1) := dk_100 (dk_at dksX1_turnsRound_0 10 rfl rfl)
theorem dX1_turnsRound_11 : decode cX1_turnsRound 11 = .ok (.istore_n 2, 1) := dk_61 (dk_at dksX1_turnsRound_0 11 rfl rfl)
theorem dX1_turnsRound_12 : decode cX1_turnsRound 12 = .ok (.iload_n 2, 1) := dk_28 (dk_at dksX1_turnsRound_0 12 rfl rfl)
theorem dX1_turnsRound_13 : decode cX1_turnsRound 13 = .ok (.ifCond .lt 26, 3) := dk_155 0 26 (dk_at dksX1_turnsRound_0 13 rfl rfl)
theorem dX1_turnsRound_16 : decode cX1_turnsRound 16 = .ok (.aload_n 0, 1) := dk_42 (dk_at dksX1_turnsRound_0 16 rfl rfl)
theorem dX1_turnsRound_17 : decode cX1_turnsRound 17 = .ok (.getfield 51, 3) := dk_180 0 51 (dk_at dksX1_turnsRound_0 17 rfl rfl)
theorem dX1_turnsRound_20 : decode cX1_turnsRound 20 = .ok (.iload_n 2, 1) := dk_28 (dk_at dksX1_turnsRound_0 20 rfl rfl)
theorem dX1_turnsRound_21 : decode cX1_turnsRound 21 = .ok (.iaload, 1) := dk_46 (dk_at dksX1_turnsRound_0 21 rfl rfl)
theorem dX1_turnsRound_22 : decode cX1_turnsRound 22 = .ok (.aload_n 0, 1) := dk_42 (dk_at dksX1_turnsRound_0 22 rfl rfl)
theorem dX1_turnsRound_23 : decode cX1_turnsRound 23 = .ok (.getfield 51, 3) := dk_180 0 51 (dk_at dksX1_turnsRound_1 0 rfl rfl)
theorem dX1_turnsRound_26 : decode cX1_turnsRound 26 = .ok (.iload_n 2, 1) := dk_28 (dk_at dksX1_turnsRound_1 3 rfl rfl)
theorem dX1_turnsRound_27 : decode cX1_turnsRound 27 = .ok (.iconst 1, 1) := dk_4 (dk_at dksX1_turnsRound_1 4 rfl rfl)
theorem dX1_turnsRound_28 : decode cX1_turnsRound 28 = .ok (.iadd, 1) := dk_96 (dk_at dksX1_turnsRound_1 5 rfl rfl)
theorem dX1_turnsRound_29 : decode cX1_turnsRound 29 = .ok (.iaload, 1) := dk_46 (dk_at dksX1_turnsRound_1 6 rfl rfl)
theorem dX1_turnsRound_30 : decode cX1_turnsRound 30 = .ok (.if_icmp .le 9, 3) := dk_164 0 9 (dk_at dksX1_turnsRound_1 7 rfl rfl)
theorem dX1_turnsRound_33 : decode cX1_turnsRound 33 = .ok (.iinc 2 (-1), 3) := dk_132 2 255 (dk_at dksX1_turnsRound_1 10 rfl rfl)
theorem dX1_turnsRound_36 : decode cX1_turnsRound 36 = .ok (.goto (-24), 3) := dk_167 255 232 (dk_at dksX1_turnsRound_1 13 rfl rfl)
theorem dX1_turnsRound_39 : decode cX1_turnsRound 39 = .ok (.iload_n 2, 1) := dk_28 (dk_at dksX1_turnsRound_1 16 rfl rfl)
theorem dX1_turnsRound_40 : decode cX1_turnsRound 40 = .ok (.ifCond .ge 5, 3) := dk_156 0 5 (dk_at dksX1_turnsRound_1 17 rfl rfl)
theorem dX1_turnsRound_43 : decode cX1_turnsRound 43 = .ok (.iconst 0, 1) := dk_3 (dk_at dksX1_turnsRound_1 20 rfl rfl)
theorem dX1_turnsRound_44 : decode cX1_turnsRound 44 = .ok (.ireturn, 1) := dk_172 (dk_at dksX1_turnsRound_1 21 rfl rfl)
theorem dX1_turnsRound_45 : decode cX1_turnsRound 45 = .ok (.iload_n 1, 1) := dk_27 (dk_at dksX1_turnsRound_1 22 rfl rfl)
theorem dX1_turnsRound_46 : decode cX1_turnsRound 46 = .ok (.iconst 1, 1) := dk_4 (dk_at dksX1_turnsRound_1 23 rfl rfl)
theorem dX1_turnsRound_47 : decode cX1_turnsRound 47 = .ok (.isub, 1) := dk_100 (dk_at dksX1_turnsRound_2 0 rfl rfl)
theorem dX1_turnsRound_48 : decode cX1_turnsRound 48 = .ok (.istore_n 3, 1) := dk_62 (dk_at dksX1_turnsRound_2 1 rfl rfl)
theorem dX1_turnsRound_49 : decode cX1_turnsRound 49 = .ok (.aload_n 0, 1) := dk_42 (dk_at dksX1_turnsRound_2 2 rfl rfl)
theorem dX1_turnsRound_50 : decode cX1_turnsRound 50 = .ok (.getfield 51, 3) := dk_180 0 51 (dk_at dksX1_turnsRound_2 3 rfl rfl)
theorem dX1_turnsRound_53 : decode cX1_turnsRound 53 = .ok (.iload_n 3, 1) := dk_29 (dk_at dksX1_turnsRound_2 6 rfl rfl)
theorem dX1_turnsRound_54 : decode cX1_turnsRound 54 = .ok (.iaload, 1) := dk_46 (dk_at dksX1_turnsRound_2 7 rfl rfl)
theorem dX1_turnsRound_55 : decode cX1_turnsRound 55 = .ok (.aload_n 0, 1) := dk_42 (dk_at dksX1_turnsRound_2 8 rfl rfl)
theorem dX1_turnsRound_56 : decode cX1_turnsRound 56 = .ok (.getfield 51, 3) := dk_180 0 51 (dk_at dksX1_turnsRound_2 9 rfl rfl)
theorem dX1_turnsRound_59 : decode cX1_turnsRound 59 = .ok (.iload_n 2, 1) := dk_28 (dk_at dksX1_turnsRound_2 12 rfl rfl)
theorem dX1_turnsRound_60 : decode cX1_turnsRound 60 = .ok (.iaload, 1) := dk_46 (dk_at dksX1_turnsRound_2 13 rfl rfl)
theorem dX1_turnsRound_61 : decode cX1_turnsRound 61 = .ok (.if_icmp .ge 9, 3) := dk_162 0 9 (dk_at dksX1_turnsRound_2 14 rfl rfl)
theorem dX1_turnsRound_64 : decode cX1_turnsRound 64 = .ok (.iinc 3 (-1), 3) := dk_132 3 255 (dk_at dksX1_turnsRound_2 17 rfl rfl)
theorem dX1_turnsRound_67 : decode cX1_turnsRound 67 = .ok (.goto (-18), 3) := dk_167 255 238 (dk_at dksX1_turnsRound_2 20 rfl rfl)
theorem dX1_turnsRound_70 : decode cX1_turnsRound 70 = .ok (.aload_n 0, 1) := dk_42 (dk_at dksX1_turnsRound_2 23 rfl rfl)
theorem dX1_turnsRound_71 : decode cX1_turnsRound 71 = .ok (.iload_n 2, 1) := dk_28 (dk_at dksX1_turnsRound_3 0 rfl rfl)
theorem dX1_turnsRound_72 : decode cX1_turnsRound 72 = .ok (.iload_n 3, 1) := dk_29 (dk_at dksX1_turnsRound_3 1 rfl rfl)
theorem dX1_turnsRound_73 : decode cX1_turnsRound 73 = .ok (.invokevirtual 476, 3) := dk_182 1 220 (dk_at dksX1_turnsRound_3 2 rfl rfl)
theorem dX1_turnsRound_76 : decode cX1_turnsRound 76 = .ok (.iload_n 2, 1) := dk_28 (dk_at dksX1_turnsRound_3 5 rfl rfl)
theorem dX1_turnsRound_77 : decode cX1_turnsRound 77 = .ok (.iconst 1, 1) := dk_4 (dk_at dksX1_turnsRound_3 6 rfl rfl)
theorem dX1_turnsRound_78 : decode cX1_turnsRound 78 = .ok (.iadd, 1) := dk_96 (dk_at dksX1_turnsRound_3 7 rfl rfl)
theorem dX1_turnsRound_79 : decode cX1_turnsRound 79 = .ok (.istore 4, 2) := dk_54 4 (dk_at dksX1_turnsRound_3 8 rfl rfl)
theorem dX1_turnsRound_81 : decode cX1_turnsRound 81 = .ok (.iload_n 1, 1) := dk_27 (dk_at dksX1_turnsRound_3 10 rfl rfl)
theorem dX1_turnsRound_82 : decode cX1_turnsRound 82 = .ok (.iconst 1, 1) := dk_4 (dk_at dksX1_turnsRound_3 11 rfl rfl)
theorem dX1_turnsRound_83 : decode cX1_turnsRound 83 = .ok (.isub, 1) := dk_100 (dk_at dksX1_turnsRound_3 12 rfl rfl)
theorem dX1_turnsRound_84 : decode cX1_turnsRound 84 = .ok (.istore 5, 2) := dk_54 5 (dk_at dksX1_turnsRound_3 13 rfl rfl)
theorem dX1_turnsRound_86 : decode cX1_turnsRound 86 = .ok (.iload 4, 2) := dk_21 4 (dk_at dksX1_turnsRound_3 15 rfl rfl)
theorem dX1_turnsRound_88 : decode cX1_turnsRound 88 = .ok (.iload 5, 2) := dk_21 5 (dk_at dksX1_turnsRound_3 17 rfl rfl)
theorem dX1_turnsRound_90 : decode cX1_turnsRound 90 = .ok (.if_icmp .ge 20, 3) := dk_162 0 20 (dk_at dksX1_turnsRound_3 19 rfl rfl)
theorem dX1_turnsRound_93 : decode cX1_turnsRound 93 = .ok (.aload_n 0, 1) := dk_42 (dk_at dksX1_turnsRound_3 22 rfl rfl)
theorem dX1_turnsRound_94 : decode cX1_turnsRound 94 = .ok (.iload 4, 2) := dk_21 4 (dk_at dksX1_turnsRound_4 0 rfl rfl)
theorem dX1_turnsRound_96 : decode cX1_turnsRound 96 = .ok (.iload 5, 2) := dk_21 5 (dk_at dksX1_turnsRound_4 2 rfl rfl)
theorem dX1_turnsRound_98 : decode cX1_turnsRound 98 = .ok (.invokevirtual 476, 3) := dk_182 1 220 (dk_at dksX1_turnsRound_4 4 rfl rfl)
theorem dX1_turnsRound_101 : decode cX1_turnsRound 101 = .ok (.iinc 4 1, 3) := dk_132 4 1 (dk_at dksX1_turnsRound_4 7 rfl rfl)
theorem dX1_turnsRound_104 : decode cX1_turnsRound 104 = .ok (.iinc 5 (-1), 3) := dk_132 5 255 (dk_at dksX1_turnsRound_4 10 rfl rfl)
theorem dX1_turnsRound_107 : decode cX1_turnsRound 107 = .ok (.goto (-21), 3) := dk_167 255 235 (dk_at dksX1_turnsRound_4 13 rfl rfl)
theorem dX1_turnsRound_110 : decode cX1_turnsRound 110 = .ok (.iconst 1, 1) := dk_4 (dk_at dksX1_turnsRound_4 16 rfl rfl)
theorem dX1_turnsRound_111 : decode cX1_turnsRound 111 = .ok (.ireturn, 1) := dk_172 (dk_at dksX1_turnsRound_4 17 rfl rfl)
abbrev cX1_swaps : ByteArray := prog_1_method_70_code
def yX1_swaps : MethodName := ⟨RX1, "swaps", "(II)V"⟩
def dkwX1_swaps_1 : List UInt8 := [29, 79, 177]
abbrev dktX1_swaps_1 : List UInt8 := dkwX1_swaps_1 ++ []
def dkwX1_swaps_0 : List UInt8 := [42, 180, 0, 51, 27, 46, 62, 42, 180, 0, 51, 27, 42, 180, 0, 51, 28, 46, 79, 42, 180, 0, 51, 28]
abbrev dktX1_swaps_0 : List UInt8 := dkwX1_swaps_0 ++ dktX1_swaps_1
theorem dksX1_swaps_0 : cX1_swaps.data.toList.drop 0 = dktX1_swaps_0 := by decide +kernel
theorem dksX1_swaps_1 : cX1_swaps.data.toList.drop 24 = dktX1_swaps_1 := dk_seg dksX1_swaps_0 24 rfl rfl
theorem dX1_swaps_0 : decode cX1_swaps 0 = .ok (.aload_n 0, 1) := dk_42 (dk_at dksX1_swaps_0 0 rfl rfl)
theorem dX1_swaps_1 : decode cX1_swaps 1 = .ok (.getfield 51, 3) := dk_180 0 51 (dk_at dksX1_swaps_0 1 rfl rfl)
theorem dX1_swaps_4 : decode cX1_swaps 4 = .ok (.iload_n 1, 1) := dk_27 (dk_at dksX1_swaps_0 4 rfl rfl)
theorem dX1_swaps_5 : decode cX1_swaps 5 = .ok (.iaload, 1) := dk_46 (dk_at dksX1_swaps_0 5 rfl rfl)
theorem dX1_swaps_6 : decode cX1_swaps 6 = .ok (.istore_n 3, 1) := dk_62 (dk_at dksX1_swaps_0 6 rfl rfl)
theorem dX1_swaps_7 : decode cX1_swaps 7 = .ok (.aload_n 0, 1) := dk_42 (dk_at dksX1_swaps_0 7 rfl rfl)
theorem dX1_swaps_8 : decode cX1_swaps 8 = .ok (.getfield 51, 3) := dk_180 0 51 (dk_at dksX1_swaps_0 8 rfl rfl)
theorem dX1_swaps_11 : decode cX1_swaps 11 = .ok (.iload_n 1, 1) := dk_27 (dk_at dksX1_swaps_0 11 rfl rfl)
theorem dX1_swaps_12 : decode cX1_swaps 12 = .ok (.aload_n 0, 1) := dk_42 (dk_at dksX1_swaps_0 12 rfl rfl)
theorem dX1_swaps_13 : decode cX1_swaps 13 = .ok (.getfield 51, 3) := dk_180 0 51 (dk_at dksX1_swaps_0 13 rfl rfl)
theorem dX1_swaps_16 : decode cX1_swaps 16 = .ok (.iload_n 2, 1) := dk_28 (dk_at dksX1_swaps_0 16 rfl rfl)
theorem dX1_swaps_17 : decode cX1_swaps 17 = .ok (.iaload, 1) := dk_46 (dk_at dksX1_swaps_0 17 rfl rfl)
theorem dX1_swaps_18 : decode cX1_swaps 18 = .ok (.iastore, 1) := dk_79 (dk_at dksX1_swaps_0 18 rfl rfl)
theorem dX1_swaps_19 : decode cX1_swaps 19 = .ok (.aload_n 0, 1) := dk_42 (dk_at dksX1_swaps_0 19 rfl rfl)
theorem dX1_swaps_20 : decode cX1_swaps 20 = .ok (.getfield 51, 3) := dk_180 0 51 (dk_at dksX1_swaps_0 20 rfl rfl)
theorem dX1_swaps_23 : decode cX1_swaps 23 = .ok (.iload_n 2, 1) := dk_28 (dk_at dksX1_swaps_0 23 rfl rfl)
theorem dX1_swaps_24 : decode cX1_swaps 24 = .ok (.iload_n 3, 1) := dk_29 (dk_at dksX1_swaps_1 0 rfl rfl)
theorem dX1_swaps_25 : decode cX1_swaps 25 = .ok (.iastore, 1) := dk_79 (dk_at dksX1_swaps_1 1 rfl rfl)
theorem dX1_swaps_26 : decode cX1_swaps 26 = .ok (.return_, 1) := dk_177 (dk_at dksX1_swaps_1 2 rfl rfl)
abbrev cX1_length : ByteArray := prog_1_method_72_code
def yX1_length : MethodName := ⟨RX1, "length", "(I)I"⟩
def dkwX1_length_3 : List UInt8 := [22, 7, 55, 4, 132, 6, 1, 167, 255, 204, 42, 180, 0, 26, 28, 181, 1, 28, 42, 182, 0, 217, 29, 172]
abbrev dktX1_length_3 : List UInt8 := dkwX1_length_3 ++ []
def dkwX1_length_2 : List UInt8 := [182, 1, 176, 55, 7, 29, 158, 0, 14, 22, 7, 22, 4, 148, 157, 0, 6, 167, 0, 10, 21, 6, 62]
abbrev dktX1_length_2 : List UInt8 := dkwX1_length_2 ++ dktX1_length_3
def dkwX1_length_1 : List UInt8 := [54, 6, 21, 6, 16, 12, 163, 0, 51, 42, 180, 0, 26, 21, 6, 181, 1, 28, 42, 182, 0, 217, 42, 27]
abbrev dktX1_length_1 : List UInt8 := dkwX1_length_1 ++ dktX1_length_2
def dkwX1_length_0 : List UInt8 := [42, 182, 1, 31, 42, 27, 182, 1, 223, 42, 180, 0, 26, 180, 1, 28, 61, 3, 62, 9, 55, 4, 4]
abbrev dktX1_length_0 : List UInt8 := dkwX1_length_0 ++ dktX1_length_1
theorem dksX1_length_0 : cX1_length.data.toList.drop 0 = dktX1_length_0 := by decide +kernel
theorem dksX1_length_1 : cX1_length.data.toList.drop 23 = dktX1_length_1 := dk_seg dksX1_length_0 23 rfl rfl
theorem dksX1_length_2 : cX1_length.data.toList.drop 47 = dktX1_length_2 := dk_seg dksX1_length_1 24 rfl rfl
theorem dksX1_length_3 : cX1_length.data.toList.drop 70 = dktX1_length_3 := dk_seg dksX1_length_2 23 rfl rfl
theorem dX1_length_0 : decode cX1_length 0 = .ok (.aload_n 0, 1) := dk_42 (dk_at dksX1_length_0 0 rfl rfl)
theorem dX1_length_1 : decode cX1_length 1 = .ok (.invokevirtual 287, 3) := dk_182 1 31 (dk_at dksX1_length_0 1 rfl rfl)
theorem dX1_length_4 : decode cX1_length 4 = .ok (.aload_n 0, 1) := dk_42 (dk_at dksX1_length_0 4 rfl rfl)
theorem dX1_length_5 : decode cX1_length 5 = .ok (.iload_n 1, 1) := dk_27 (dk_at dksX1_length_0 5 rfl rfl)
theorem dX1_length_6 : decode cX1_length 6 = .ok (.invokevirtual 479, 3) := dk_182 1 223 (dk_at dksX1_length_0 6 rfl rfl)
theorem dX1_length_9 : decode cX1_length 9 = .ok (.aload_n 0, 1) := dk_42 (dk_at dksX1_length_0 9 rfl rfl)
theorem dX1_length_10 : decode cX1_length 10 = .ok (.getfield 26, 3) := dk_180 0 26 (dk_at dksX1_length_0 10 rfl rfl)
theorem dX1_length_13 : decode cX1_length 13 = .ok (.getfield 284, 3) := dk_180 1 28 (dk_at dksX1_length_0 13 rfl rfl)
theorem dX1_length_16 : decode cX1_length 16 = .ok (.istore_n 2, 1) := dk_61 (dk_at dksX1_length_0 16 rfl rfl)
theorem dX1_length_17 : decode cX1_length 17 = .ok (.iconst 0, 1) := dk_3 (dk_at dksX1_length_0 17 rfl rfl)
theorem dX1_length_18 : decode cX1_length 18 = .ok (.istore_n 3, 1) := dk_62 (dk_at dksX1_length_0 18 rfl rfl)
theorem dX1_length_19 : decode cX1_length 19 = .ok (.lconst 0, 1) := dk_9 (dk_at dksX1_length_0 19 rfl rfl)
theorem dX1_length_20 : decode cX1_length 20 = .ok (.lstore 4, 2) := dk_55 4 (dk_at dksX1_length_0 20 rfl rfl)
theorem dX1_length_22 : decode cX1_length 22 = .ok (.iconst 1, 1) := dk_4 (dk_at dksX1_length_0 22 rfl rfl)
theorem dX1_length_23 : decode cX1_length 23 = .ok (.istore 6, 2) := dk_54 6 (dk_at dksX1_length_1 0 rfl rfl)
theorem dX1_length_25 : decode cX1_length 25 = .ok (.iload 6, 2) := dk_21 6 (dk_at dksX1_length_1 2 rfl rfl)
theorem dX1_length_27 : decode cX1_length 27 = .ok (.bipush 12, 2) := dk_16 12 (dk_at dksX1_length_1 4 rfl rfl)
theorem dX1_length_29 : decode cX1_length 29 = .ok (.if_icmp .gt 51, 3) := dk_163 0 51 (dk_at dksX1_length_1 6 rfl rfl)
theorem dX1_length_32 : decode cX1_length 32 = .ok (.aload_n 0, 1) := dk_42 (dk_at dksX1_length_1 9 rfl rfl)
theorem dX1_length_33 : decode cX1_length 33 = .ok (.getfield 26, 3) := dk_180 0 26 (dk_at dksX1_length_1 10 rfl rfl)
theorem dX1_length_36 : decode cX1_length 36 = .ok (.iload 6, 2) := dk_21 6 (dk_at dksX1_length_1 13 rfl rfl)
theorem dX1_length_38 : decode cX1_length 38 = .ok (.putfield 284, 3) := dk_181 1 28 (dk_at dksX1_length_1 15 rfl rfl)
theorem dX1_length_41 : decode cX1_length 41 = .ok (.aload_n 0, 1) := dk_42 (dk_at dksX1_length_1 18 rfl rfl)
theorem dX1_length_42 : decode cX1_length 42 = .ok (.invokevirtual 217, 3) := dk_182 0 217 (dk_at dksX1_length_1 19 rfl rfl)
theorem dX1_length_45 : decode cX1_length 45 = .ok (.aload_n 0, 1) := dk_42 (dk_at dksX1_length_1 22 rfl rfl)
theorem dX1_length_46 : decode cX1_length 46 = .ok (.iload_n 1, 1) := dk_27 (dk_at dksX1_length_1 23 rfl rfl)
theorem dX1_length_47 : decode cX1_length 47 = .ok (.invokevirtual 432, 3) := dk_182 1 176 (dk_at dksX1_length_2 0 rfl rfl)
theorem dX1_length_50 : decode cX1_length 50 = .ok (.lstore 7, 2) := dk_55 7 (dk_at dksX1_length_2 3 rfl rfl)
theorem dX1_length_52 : decode cX1_length 52 = .ok (.iload_n 3, 1) := dk_29 (dk_at dksX1_length_2 5 rfl rfl)
theorem dX1_length_53 : decode cX1_length 53 = .ok (.ifCond .le 14, 3) := dk_158 0 14 (dk_at dksX1_length_2 6 rfl rfl)
theorem dX1_length_56 : decode cX1_length 56 = .ok (.lload 7, 2) := dk_22 7 (dk_at dksX1_length_2 9 rfl rfl)
theorem dX1_length_58 : decode cX1_length 58 = .ok (.lload 4, 2) := dk_22 4 (dk_at dksX1_length_2 11 rfl rfl)
theorem dX1_length_60 : decode cX1_length 60 = .ok (.lcmp, 1) := dk_148 (dk_at dksX1_length_2 13 rfl rfl)
theorem dX1_length_61 : decode cX1_length 61 = .ok (.ifCond .gt 6, 3) := dk_157 0 6 (dk_at dksX1_length_2 14 rfl rfl)
theorem dX1_length_64 : decode cX1_length 64 = .ok (.goto 10, 3) := dk_167 0 10 (dk_at dksX1_length_2 17 rfl rfl)
theorem dX1_length_67 : decode cX1_length 67 = .ok (.iload 6, 2) := dk_21 6 (dk_at dksX1_length_2 20 rfl rfl)
theorem dX1_length_69 : decode cX1_length 69 = .ok (.istore_n 3, 1) := dk_62 (dk_at dksX1_length_2 22 rfl rfl)
theorem dX1_length_70 : decode cX1_length 70 = .ok (.lload 7, 2) := dk_22 7 (dk_at dksX1_length_3 0 rfl rfl)
theorem dX1_length_72 : decode cX1_length 72 = .ok (.lstore 4, 2) := dk_55 4 (dk_at dksX1_length_3 2 rfl rfl)
theorem dX1_length_74 : decode cX1_length 74 = .ok (.iinc 6 1, 3) := dk_132 6 1 (dk_at dksX1_length_3 4 rfl rfl)
theorem dX1_length_77 : decode cX1_length 77 = .ok (.goto (-52), 3) := dk_167 255 204 (dk_at dksX1_length_3 7 rfl rfl)
theorem dX1_length_80 : decode cX1_length 80 = .ok (.aload_n 0, 1) := dk_42 (dk_at dksX1_length_3 10 rfl rfl)
theorem dX1_length_81 : decode cX1_length 81 = .ok (.getfield 26, 3) := dk_180 0 26 (dk_at dksX1_length_3 11 rfl rfl)
theorem dX1_length_84 : decode cX1_length 84 = .ok (.iload_n 2, 1) := dk_28 (dk_at dksX1_length_3 14 rfl rfl)
theorem dX1_length_85 : decode cX1_length 85 = .ok (.putfield 284, 3) := dk_181 1 28 (dk_at dksX1_length_3 15 rfl rfl)
theorem dX1_length_88 : decode cX1_length 88 = .ok (.aload_n 0, 1) := dk_42 (dk_at dksX1_length_3 18 rfl rfl)
theorem dX1_length_89 : decode cX1_length 89 = .ok (.invokevirtual 217, 3) := dk_182 0 217 (dk_at dksX1_length_3 19 rfl rfl)
theorem dX1_length_92 : decode cX1_length 92 = .ok (.iload_n 3, 1) := dk_29 (dk_at dksX1_length_3 22 rfl rfl)
theorem dX1_length_93 : decode cX1_length 93 = .ok (.ireturn, 1) := dk_172 (dk_at dksX1_length_3 23 rfl rfl)
abbrev cX1_trap : ByteArray := prog_1_method_74_code
def yX1_trap : MethodName := ⟨RX1, "trap", "(III)Z"⟩
def dkwX1_trap_0 : List UInt8 := [42, 27, 28, 29, 182, 1, 105, 54, 4, 42, 182, 1, 108, 42, 21, 4, 182, 1, 230, 172]
abbrev dktX1_trap_0 : List UInt8 := dkwX1_trap_0 ++ []
theorem dksX1_trap_0 : cX1_trap.data.toList.drop 0 = dktX1_trap_0 := by decide +kernel
theorem dX1_trap_0 : decode cX1_trap 0 = .ok (.aload_n 0, 1) := dk_42 (dk_at dksX1_trap_0 0 rfl rfl)
theorem dX1_trap_1 : decode cX1_trap 1 = .ok (.iload_n 1, 1) := dk_27 (dk_at dksX1_trap_0 1 rfl rfl)
theorem dX1_trap_2 : decode cX1_trap 2 = .ok (.iload_n 2, 1) := dk_28 (dk_at dksX1_trap_0 2 rfl rfl)
theorem dX1_trap_3 : decode cX1_trap 3 = .ok (.iload_n 3, 1) := dk_29 (dk_at dksX1_trap_0 3 rfl rfl)
theorem dX1_trap_4 : decode cX1_trap 4 = .ok (.invokevirtual 361, 3) := dk_182 1 105 (dk_at dksX1_trap_0 4 rfl rfl)
theorem dX1_trap_7 : decode cX1_trap 7 = .ok (.istore 4, 2) := dk_54 4 (dk_at dksX1_trap_0 7 rfl rfl)
theorem dX1_trap_9 : decode cX1_trap 9 = .ok (.aload_n 0, 1) := dk_42 (dk_at dksX1_trap_0 9 rfl rfl)
theorem dX1_trap_10 : decode cX1_trap 10 = .ok (.invokevirtual 364, 3) := dk_182 1 108 (dk_at dksX1_trap_0 10 rfl rfl)
theorem dX1_trap_13 : decode cX1_trap 13 = .ok (.aload_n 0, 1) := dk_42 (dk_at dksX1_trap_0 13 rfl rfl)
theorem dX1_trap_14 : decode cX1_trap 14 = .ok (.iload 4, 2) := dk_21 4 (dk_at dksX1_trap_0 14 rfl rfl)
theorem dX1_trap_16 : decode cX1_trap 16 = .ok (.invokevirtual 486, 3) := dk_182 1 230 (dk_at dksX1_trap_0 16 rfl rfl)
theorem dX1_trap_19 : decode cX1_trap 19 = .ok (.ireturn, 1) := dk_172 (dk_at dksX1_trap_0 19 rfl rfl)
abbrev cX1_isTrap : ByteArray := prog_1_method_73_code
def yX1_isTrap : MethodName := ⟨RX1, "isTrap", "(I)Z"⟩
def dkwX1_isTrap_1 : List UInt8 := [184, 0, 254, 5, 162, 0, 7, 4, 167, 0, 4, 3, 172]
abbrev dktX1_isTrap_1 : List UInt8 := dkwX1_isTrap_1 ++ []
def dkwX1_isTrap_0 : List UInt8 := [42, 27, 182, 1, 93, 154, 0, 29, 42, 180, 0, 108, 42, 27, 184, 1, 50, 182, 1, 34, 50, 27, 46]
abbrev dktX1_isTrap_0 : List UInt8 := dkwX1_isTrap_0 ++ dktX1_isTrap_1
theorem dksX1_isTrap_0 : cX1_isTrap.data.toList.drop 0 = dktX1_isTrap_0 := by decide +kernel
theorem dksX1_isTrap_1 : cX1_isTrap.data.toList.drop 23 = dktX1_isTrap_1 := dk_seg dksX1_isTrap_0 23 rfl rfl
theorem dX1_isTrap_0 : decode cX1_isTrap 0 = .ok (.aload_n 0, 1) := dk_42 (dk_at dksX1_isTrap_0 0 rfl rfl)
theorem dX1_isTrap_1 : decode cX1_isTrap 1 = .ok (.iload_n 1, 1) := dk_27 (dk_at dksX1_isTrap_0 1 rfl rfl)
theorem dX1_isTrap_2 : decode cX1_isTrap 2 = .ok (.invokevirtual 349, 3) := dk_182 1 93 (dk_at dksX1_isTrap_0 2 rfl rfl)
theorem dX1_isTrap_5 : decode cX1_isTrap 5 = .ok (.ifCond .ne 29, 3) := dk_154 0 29 (dk_at dksX1_isTrap_0 5 rfl rfl)
theorem dX1_isTrap_8 : decode cX1_isTrap 8 = .ok (.aload_n 0, 1) := dk_42 (dk_at dksX1_isTrap_0 8 rfl rfl)
theorem dX1_isTrap_9 : decode cX1_isTrap 9 = .ok (.getfield 108, 3) := dk_180 0 108 (dk_at dksX1_isTrap_0 9 rfl rfl)
theorem dX1_isTrap_12 : decode cX1_isTrap 12 = .ok (.aload_n 0, 1) := dk_42 (dk_at dksX1_isTrap_0 12 rfl rfl)
theorem dX1_isTrap_13 : decode cX1_isTrap 13 = .ok (.iload_n 1, 1) := dk_27 (dk_at dksX1_isTrap_0 13 rfl rfl)
theorem dX1_isTrap_14 : decode cX1_isTrap 14 = .ok (.invokestatic 306, 3) := dk_184 1 50 (dk_at dksX1_isTrap_0 14 rfl rfl)
theorem dX1_isTrap_17 : decode cX1_isTrap 17 = .ok (.invokevirtual 290, 3) := dk_182 1 34 (dk_at dksX1_isTrap_0 17 rfl rfl)
theorem dX1_isTrap_20 : decode cX1_isTrap 20 = .ok (.aaload, 1) := dk_50 (dk_at dksX1_isTrap_0 20 rfl rfl)
theorem dX1_isTrap_21 : decode cX1_isTrap 21 = .ok (.iload_n 1, 1) := dk_27 (dk_at dksX1_isTrap_0 21 rfl rfl)
theorem dX1_isTrap_22 : decode cX1_isTrap 22 = .ok (.iaload, 1) := dk_46 (dk_at dksX1_isTrap_0 22 rfl rfl)
theorem dX1_isTrap_23 : decode cX1_isTrap 23 = .ok (.invokestatic 254, 3) := dk_184 0 254 (dk_at dksX1_isTrap_1 0 rfl rfl)
theorem dX1_isTrap_26 : decode cX1_isTrap 26 = .ok (.iconst 2, 1) := dk_5 (dk_at dksX1_isTrap_1 3 rfl rfl)
theorem dX1_isTrap_27 : decode cX1_isTrap 27 = .ok (.if_icmp .ge 7, 3) := dk_162 0 7 (dk_at dksX1_isTrap_1 4 rfl rfl)
theorem dX1_isTrap_30 : decode cX1_isTrap 30 = .ok (.iconst 1, 1) := dk_4 (dk_at dksX1_isTrap_1 7 rfl rfl)
theorem dX1_isTrap_31 : decode cX1_isTrap 31 = .ok (.goto 4, 3) := dk_167 0 4 (dk_at dksX1_isTrap_1 8 rfl rfl)
theorem dX1_isTrap_34 : decode cX1_isTrap 34 = .ok (.iconst 0, 1) := dk_3 (dk_at dksX1_isTrap_1 11 rfl rfl)
theorem dX1_isTrap_35 : decode cX1_isTrap 35 = .ok (.ireturn, 1) := dk_172 (dk_at dksX1_isTrap_1 12 rfl rfl)
abbrev cX1_force : ByteArray := prog_1_method_75_code
def yX1_force : MethodName := ⟨RX1, "force", "(III)I"⟩
def dkwX1_force_3 : List UInt8 := [182, 1, 167, 182, 1, 230, 153, 0, 6, 21, 6, 172, 132, 6, 1, 167, 255, 212, 2, 172]
abbrev dktX1_force_3 : List UInt8 := dkwX1_force_3 ++ []
def dkwX1_force_2 : List UInt8 := [180, 0, 243, 163, 0, 38, 21, 5, 21, 6, 122, 4, 126, 4, 160, 0, 21, 42, 42, 21, 4, 21, 6]
abbrev dktX1_force_2 : List UInt8 := dkwX1_force_2 ++ dktX1_force_3
def dkwX1_force_1 : List UInt8 := [42, 42, 28, 182, 1, 34, 21, 4, 182, 1, 111, 54, 5, 3, 54, 6, 21, 6, 42, 180, 0, 12]
abbrev dktX1_force_1 : List UInt8 := dkwX1_force_1 ++ dktX1_force_2
def dkwX1_force_0 : List UInt8 := [42, 27, 28, 29, 182, 1, 105, 54, 4, 42, 182, 1, 108, 42, 21, 4, 182, 1, 93, 153, 0, 5, 2, 172]
abbrev dktX1_force_0 : List UInt8 := dkwX1_force_0 ++ dktX1_force_1
theorem dksX1_force_0 : cX1_force.data.toList.drop 0 = dktX1_force_0 := by decide +kernel
theorem dksX1_force_1 : cX1_force.data.toList.drop 24 = dktX1_force_1 := dk_seg dksX1_force_0 24 rfl rfl
theorem dksX1_force_2 : cX1_force.data.toList.drop 46 = dktX1_force_2 := dk_seg dksX1_force_1 22 rfl rfl
theorem dksX1_force_3 : cX1_force.data.toList.drop 69 = dktX1_force_3 := dk_seg dksX1_force_2 23 rfl rfl
theorem dX1_force_0 : decode cX1_force 0 = .ok (.aload_n 0, 1) := dk_42 (dk_at dksX1_force_0 0 rfl rfl)
theorem dX1_force_1 : decode cX1_force 1 = .ok (.iload_n 1, 1) := dk_27 (dk_at dksX1_force_0 1 rfl rfl)
theorem dX1_force_2 : decode cX1_force 2 = .ok (.iload_n 2, 1) := dk_28 (dk_at dksX1_force_0 2 rfl rfl)
theorem dX1_force_3 : decode cX1_force 3 = .ok (.iload_n 3, 1) := dk_29 (dk_at dksX1_force_0 3 rfl rfl)
theorem dX1_force_4 : decode cX1_force 4 = .ok (.invokevirtual 361, 3) := dk_182 1 105 (dk_at dksX1_force_0 4 rfl rfl)
theorem dX1_force_7 : decode cX1_force 7 = .ok (.istore 4, 2) := dk_54 4 (dk_at dksX1_force_0 7 rfl rfl)
theorem dX1_force_9 : decode cX1_force 9 = .ok (.aload_n 0, 1) := dk_42 (dk_at dksX1_force_0 9 rfl rfl)
theorem dX1_force_10 : decode cX1_force 10 = .ok (.invokevirtual 364, 3) := dk_182 1 108 (dk_at dksX1_force_0 10 rfl rfl)
theorem dX1_force_13 : decode cX1_force 13 = .ok (.aload_n 0, 1) := dk_42 (dk_at dksX1_force_0 13 rfl rfl)
theorem dX1_force_14 : decode cX1_force 14 = .ok (.iload 4, 2) := dk_21 4 (dk_at dksX1_force_0 14 rfl rfl)
theorem dX1_force_16 : decode cX1_force 16 = .ok (.invokevirtual 349, 3) := dk_182 1 93 (dk_at dksX1_force_0 16 rfl rfl)
theorem dX1_force_19 : decode cX1_force 19 = .ok (.ifCond .eq 5, 3) := dk_153 0 5 (dk_at dksX1_force_0 19 rfl rfl)
theorem dX1_force_22 : decode cX1_force 22 = .ok (.iconst (-1), 1) := dk_2 (dk_at dksX1_force_0 22 rfl rfl)
theorem dX1_force_23 : decode cX1_force 23 = .ok (.ireturn, 1) := dk_172 (dk_at dksX1_force_0 23 rfl rfl)
theorem dX1_force_24 : decode cX1_force 24 = .ok (.aload_n 0, 1) := dk_42 (dk_at dksX1_force_1 0 rfl rfl)
theorem dX1_force_25 : decode cX1_force 25 = .ok (.aload_n 0, 1) := dk_42 (dk_at dksX1_force_1 1 rfl rfl)
theorem dX1_force_26 : decode cX1_force 26 = .ok (.iload_n 2, 1) := dk_28 (dk_at dksX1_force_1 2 rfl rfl)
theorem dX1_force_27 : decode cX1_force 27 = .ok (.invokevirtual 290, 3) := dk_182 1 34 (dk_at dksX1_force_1 3 rfl rfl)
theorem dX1_force_30 : decode cX1_force 30 = .ok (.iload 4, 2) := dk_21 4 (dk_at dksX1_force_1 6 rfl rfl)
theorem dX1_force_32 : decode cX1_force 32 = .ok (.invokevirtual 367, 3) := dk_182 1 111 (dk_at dksX1_force_1 8 rfl rfl)
theorem dX1_force_35 : decode cX1_force 35 = .ok (.istore 5, 2) := dk_54 5 (dk_at dksX1_force_1 11 rfl rfl)
theorem dX1_force_37 : decode cX1_force 37 = .ok (.iconst 0, 1) := dk_3 (dk_at dksX1_force_1 13 rfl rfl)
theorem dX1_force_38 : decode cX1_force 38 = .ok (.istore 6, 2) := dk_54 6 (dk_at dksX1_force_1 14 rfl rfl)
theorem dX1_force_40 : decode cX1_force 40 = .ok (.iload 6, 2) := dk_21 6 (dk_at dksX1_force_1 16 rfl rfl)
theorem dX1_force_42 : decode cX1_force 42 = .ok (.aload_n 0, 1) := dk_42 (dk_at dksX1_force_1 18 rfl rfl)
theorem dX1_force_43 : decode cX1_force 43 = .ok (.getfield 12, 3) := dk_180 0 12 (dk_at dksX1_force_1 19 rfl rfl)
theorem dX1_force_46 : decode cX1_force 46 = .ok (.getfield 243, 3) := dk_180 0 243 (dk_at dksX1_force_2 0 rfl rfl)
theorem dX1_force_49 : decode cX1_force 49 = .ok (.if_icmp .gt 38, 3) := dk_163 0 38 (dk_at dksX1_force_2 3 rfl rfl)
theorem dX1_force_52 : decode cX1_force 52 = .ok (.iload 5, 2) := dk_21 5 (dk_at dksX1_force_2 6 rfl rfl)
theorem dX1_force_54 : decode cX1_force 54 = .ok (.iload 6, 2) := dk_21 6 (dk_at dksX1_force_2 8 rfl rfl)
theorem dX1_force_56 : decode cX1_force 56 = .ok (.ishr, 1) := dk_122 (dk_at dksX1_force_2 10 rfl rfl)
theorem dX1_force_57 : decode cX1_force 57 = .ok (.iconst 1, 1) := dk_4 (dk_at dksX1_force_2 11 rfl rfl)
theorem dX1_force_58 : decode cX1_force 58 = .ok (.iand, 1) := dk_126 (dk_at dksX1_force_2 12 rfl rfl)
theorem dX1_force_59 : decode cX1_force 59 = .ok (.iconst 1, 1) := dk_4 (dk_at dksX1_force_2 13 rfl rfl)
theorem dX1_force_60 : decode cX1_force 60 = .ok (.if_icmp .ne 21, 3) := dk_160 0 21 (dk_at dksX1_force_2 14 rfl rfl)
theorem dX1_force_63 : decode cX1_force 63 = .ok (.aload_n 0, 1) := dk_42 (dk_at dksX1_force_2 17 rfl rfl)
theorem dX1_force_64 : decode cX1_force 64 = .ok (.aload_n 0, 1) := dk_42 (dk_at dksX1_force_2 18 rfl rfl)
theorem dX1_force_65 : decode cX1_force 65 = .ok (.iload 4, 2) := dk_21 4 (dk_at dksX1_force_2 19 rfl rfl)
theorem dX1_force_67 : decode cX1_force 67 = .ok (.iload 6, 2) := dk_21 6 (dk_at dksX1_force_2 21 rfl rfl)
theorem dX1_force_69 : decode cX1_force 69 = .ok (.invokevirtual 423, 3) := dk_182 1 167 (dk_at dksX1_force_3 0 rfl rfl)
theorem dX1_force_72 : decode cX1_force 72 = .ok (.invokevirtual 486, 3) := dk_182 1 230 (dk_at dksX1_force_3 3 rfl rfl)
theorem dX1_force_75 : decode cX1_force 75 = .ok (.ifCond .eq 6, 3) := dk_153 0 6 (dk_at dksX1_force_3 6 rfl rfl)
theorem dX1_force_78 : decode cX1_force 78 = .ok (.iload 6, 2) := dk_21 6 (dk_at dksX1_force_3 9 rfl rfl)
theorem dX1_force_80 : decode cX1_force 80 = .ok (.ireturn, 1) := dk_172 (dk_at dksX1_force_3 11 rfl rfl)
theorem dX1_force_81 : decode cX1_force 81 = .ok (.iinc 6 1, 3) := dk_132 6 1 (dk_at dksX1_force_3 12 rfl rfl)
theorem dX1_force_84 : decode cX1_force 84 = .ok (.goto (-44), 3) := dk_167 255 212 (dk_at dksX1_force_3 15 rfl rfl)
theorem dX1_force_87 : decode cX1_force 87 = .ok (.iconst (-1), 1) := dk_2 (dk_at dksX1_force_3 18 rfl rfl)
theorem dX1_force_88 : decode cX1_force 88 = .ok (.ireturn, 1) := dk_172 (dk_at dksX1_force_3 19 rfl rfl)
abbrev cX1_ever : ByteArray := prog_1_method_77_code
def yX1_ever : MethodName := ⟨RX1, "ever", "(III)I"⟩
def dkwX1_ever_2 : List UInt8 := [4, 160, 0, 11, 21, 5, 184, 1, 50, 28, 100, 172, 132, 5, 1, 167, 255, 217, 2, 172]
abbrev dktX1_ever_2 : List UInt8 := dkwX1_ever_2 ++ []
def dkwX1_ever_1 : List UInt8 := [21, 5, 17, 15, 60, 162, 0, 37, 42, 180, 0, 131, 21, 5, 51, 153, 0, 21, 42, 21, 5, 182, 1, 93]
abbrev dktX1_ever_1 : List UInt8 := dkwX1_ever_1 ++ dktX1_ever_2
def dkwX1_ever_0 : List UInt8 := [42, 27, 28, 29, 182, 1, 105, 54, 4, 42, 182, 1, 108, 42, 21, 4, 3, 182, 1, 233, 21, 4, 54, 5]
abbrev dktX1_ever_0 : List UInt8 := dkwX1_ever_0 ++ dktX1_ever_1
theorem dksX1_ever_0 : cX1_ever.data.toList.drop 0 = dktX1_ever_0 := by decide +kernel
theorem dksX1_ever_1 : cX1_ever.data.toList.drop 24 = dktX1_ever_1 := dk_seg dksX1_ever_0 24 rfl rfl
theorem dksX1_ever_2 : cX1_ever.data.toList.drop 48 = dktX1_ever_2 := dk_seg dksX1_ever_1 24 rfl rfl
theorem dX1_ever_0 : decode cX1_ever 0 = .ok (.aload_n 0, 1) := dk_42 (dk_at dksX1_ever_0 0 rfl rfl)
theorem dX1_ever_1 : decode cX1_ever 1 = .ok (.iload_n 1, 1) := dk_27 (dk_at dksX1_ever_0 1 rfl rfl)
theorem dX1_ever_2 : decode cX1_ever 2 = .ok (.iload_n 2, 1) := dk_28 (dk_at dksX1_ever_0 2 rfl rfl)
theorem dX1_ever_3 : decode cX1_ever 3 = .ok (.iload_n 3, 1) := dk_29 (dk_at dksX1_ever_0 3 rfl rfl)
theorem dX1_ever_4 : decode cX1_ever 4 = .ok (.invokevirtual 361, 3) := dk_182 1 105 (dk_at dksX1_ever_0 4 rfl rfl)
theorem dX1_ever_7 : decode cX1_ever 7 = .ok (.istore 4, 2) := dk_54 4 (dk_at dksX1_ever_0 7 rfl rfl)
theorem dX1_ever_9 : decode cX1_ever 9 = .ok (.aload_n 0, 1) := dk_42 (dk_at dksX1_ever_0 9 rfl rfl)
theorem dX1_ever_10 : decode cX1_ever 10 = .ok (.invokevirtual 364, 3) := dk_182 1 108 (dk_at dksX1_ever_0 10 rfl rfl)
theorem dX1_ever_13 : decode cX1_ever 13 = .ok (.aload_n 0, 1) := dk_42 (dk_at dksX1_ever_0 13 rfl rfl)
theorem dX1_ever_14 : decode cX1_ever 14 = .ok (.iload 4, 2) := dk_21 4 (dk_at dksX1_ever_0 14 rfl rfl)
theorem dX1_ever_16 : decode cX1_ever 16 = .ok (.iconst 0, 1) := dk_3 (dk_at dksX1_ever_0 16 rfl rfl)
theorem dX1_ever_17 : decode cX1_ever 17 = .ok (.invokevirtual 489, 3) := dk_182 1 233 (dk_at dksX1_ever_0 17 rfl rfl)
theorem dX1_ever_20 : decode cX1_ever 20 = .ok (.iload 4, 2) := dk_21 4 (dk_at dksX1_ever_0 20 rfl rfl)
theorem dX1_ever_22 : decode cX1_ever 22 = .ok (.istore 5, 2) := dk_54 5 (dk_at dksX1_ever_0 22 rfl rfl)
theorem dX1_ever_24 : decode cX1_ever 24 = .ok (.iload 5, 2) := dk_21 5 (dk_at dksX1_ever_1 0 rfl rfl)
theorem dX1_ever_26 : decode cX1_ever 26 = .ok (.sipush 3900, 3) := dk_17 15 60 (dk_at dksX1_ever_1 2 rfl rfl)
theorem dX1_ever_29 : decode cX1_ever 29 = .ok (.if_icmp .ge 37, 3) := dk_162 0 37 (dk_at dksX1_ever_1 5 rfl rfl)
theorem dX1_ever_32 : decode cX1_ever 32 = .ok (.aload_n 0, 1) := dk_42 (dk_at dksX1_ever_1 8 rfl rfl)
theorem dX1_ever_33 : decode cX1_ever 33 = .ok (.getfield 131, 3) := dk_180 0 131 (dk_at dksX1_ever_1 9 rfl rfl)
theorem dX1_ever_36 : decode cX1_ever 36 = .ok (.iload 5, 2) := dk_21 5 (dk_at dksX1_ever_1 12 rfl rfl)
theorem dX1_ever_38 : decode cX1_ever 38 = .ok (.baload, 1) := dk_51 (dk_at dksX1_ever_1 14 rfl rfl)
theorem dX1_ever_39 : decode cX1_ever 39 = .ok (.ifCond .eq 21, 3) := dk_153 0 21 (dk_at dksX1_ever_1 15 rfl rfl)
theorem dX1_ever_42 : decode cX1_ever 42 = .ok (.aload_n 0, 1) := dk_42 (dk_at dksX1_ever_1 18 rfl rfl)
theorem dX1_ever_43 : decode cX1_ever 43 = .ok (.iload 5, 2) := dk_21 5 (dk_at dksX1_ever_1 19 rfl rfl)
theorem dX1_ever_45 : decode cX1_ever 45 = .ok (.invokevirtual 349, 3) := dk_182 1 93 (dk_at dksX1_ever_1 21 rfl rfl)
theorem dX1_ever_48 : decode cX1_ever 48 = .ok (.iconst 1, 1) := dk_4 (dk_at dksX1_ever_2 0 rfl rfl)
theorem dX1_ever_49 : decode cX1_ever 49 = .ok (.if_icmp .ne 11, 3) := dk_160 0 11 (dk_at dksX1_ever_2 1 rfl rfl)
theorem dX1_ever_52 : decode cX1_ever 52 = .ok (.iload 5, 2) := dk_21 5 (dk_at dksX1_ever_2 4 rfl rfl)
theorem dX1_ever_54 : decode cX1_ever 54 = .ok (.invokestatic 306, 3) := dk_184 1 50 (dk_at dksX1_ever_2 6 rfl rfl)
theorem dX1_ever_57 : decode cX1_ever 57 = .ok (.iload_n 2, 1) := dk_28 (dk_at dksX1_ever_2 9 rfl rfl)
theorem dX1_ever_58 : decode cX1_ever 58 = .ok (.isub, 1) := dk_100 (dk_at dksX1_ever_2 10 rfl rfl)
theorem dX1_ever_59 : decode cX1_ever 59 = .ok (.ireturn, 1) := dk_172 (dk_at dksX1_ever_2 11 rfl rfl)
theorem dX1_ever_60 : decode cX1_ever 60 = .ok (.iinc 5 1, 3) := dk_132 5 1 (dk_at dksX1_ever_2 12 rfl rfl)
theorem dX1_ever_63 : decode cX1_ever 63 = .ok (.goto (-39), 3) := dk_167 255 217 (dk_at dksX1_ever_2 15 rfl rfl)
theorem dX1_ever_66 : decode cX1_ever 66 = .ok (.iconst (-1), 1) := dk_2 (dk_at dksX1_ever_2 18 rfl rfl)
theorem dX1_ever_67 : decode cX1_ever 67 = .ok (.ireturn, 1) := dk_172 (dk_at dksX1_ever_2 19 rfl rfl)
abbrev cX1_marks : ByteArray := prog_1_method_76_code
def yX1_marks : MethodName := ⟨RX1, "marks", "(IZ)V"⟩
def dkwX1_marks_8 : List UInt8 := [132, 5, 1, 167, 255, 152, 132, 3, 1, 167, 255, 92, 177]
abbrev dktX1_marks_8 : List UInt8 := dkwX1_marks_8 ++ []
def dkwX1_marks_7 : List UInt8 := [21, 6, 157, 0, 10, 21, 6, 16, 16, 160, 0, 15, 42, 180, 0, 131, 42, 29, 3, 182, 1, 167, 4, 84]
abbrev dktX1_marks_7 : List UInt8 := dkwX1_marks_7 ++ dktX1_marks_8
def dkwX1_marks_6 : List UInt8 := [21, 6, 16, 16, 162, 0, 16, 42, 180, 0, 131, 42, 29, 21, 5, 182, 1, 167, 4, 84, 28, 153, 0, 8]
abbrev dktX1_marks_6 : List UInt8 := dkwX1_marks_6 ++ dktX1_marks_7
def dkwX1_marks_5 : List UInt8 := [3, 167, 0, 20, 42, 180, 0, 12, 180, 1, 7, 21, 5, 4, 100, 50, 29, 184, 1, 50, 46, 54, 6]
abbrev dktX1_marks_5 : List UInt8 := dkwX1_marks_5 ++ dktX1_marks_6
def dkwX1_marks_4 : List UInt8 := [180, 0, 243, 163, 0, 98, 21, 4, 21, 5, 122, 4, 126, 154, 0, 6, 167, 0, 79, 21, 5, 154, 0, 7]
abbrev dktX1_marks_4 : List UInt8 := dkwX1_marks_4 ++ dktX1_marks_5
def dkwX1_marks_3 : List UInt8 := [42, 29, 184, 1, 50, 182, 1, 34, 29, 182, 1, 111, 54, 4, 3, 54, 5, 21, 5, 42, 180, 0, 12]
abbrev dktX1_marks_3 : List UInt8 := dkwX1_marks_3 ++ dktX1_marks_4
def dkwX1_marks_2 : List UInt8 := [162, 0, 154, 42, 180, 0, 131, 29, 51, 153, 0, 139, 42, 29, 182, 1, 93, 153, 0, 6, 167, 0, 128, 42]
abbrev dktX1_marks_2 : List UInt8 := dkwX1_marks_2 ++ dktX1_marks_3
def dkwX1_marks_1 : List UInt8 := [84, 132, 3, 1, 167, 255, 230, 27, 62, 29, 3, 42, 180, 0, 12, 180, 0, 237, 3, 184, 1, 37]
abbrev dktX1_marks_1 : List UInt8 := dkwX1_marks_1 ++ dktX1_marks_2
def dkwX1_marks_0 : List UInt8 := [3, 62, 29, 17, 15, 60, 162, 0, 25, 42, 180, 0, 131, 29, 29, 27, 160, 0, 7, 4, 167, 0, 4, 3]
abbrev dktX1_marks_0 : List UInt8 := dkwX1_marks_0 ++ dktX1_marks_1
theorem dksX1_marks_0 : cX1_marks.data.toList.drop 0 = dktX1_marks_0 := by decide +kernel
theorem dksX1_marks_1 : cX1_marks.data.toList.drop 24 = dktX1_marks_1 := dk_seg dksX1_marks_0 24 rfl rfl
theorem dksX1_marks_2 : cX1_marks.data.toList.drop 46 = dktX1_marks_2 := dk_seg dksX1_marks_1 22 rfl rfl
theorem dksX1_marks_3 : cX1_marks.data.toList.drop 70 = dktX1_marks_3 := dk_seg dksX1_marks_2 24 rfl rfl
theorem dksX1_marks_4 : cX1_marks.data.toList.drop 93 = dktX1_marks_4 := dk_seg dksX1_marks_3 23 rfl rfl
theorem dksX1_marks_5 : cX1_marks.data.toList.drop 117 = dktX1_marks_5 := dk_seg dksX1_marks_4 24 rfl rfl
theorem dksX1_marks_6 : cX1_marks.data.toList.drop 140 = dktX1_marks_6 := dk_seg dksX1_marks_5 23 rfl rfl
theorem dksX1_marks_7 : cX1_marks.data.toList.drop 164 = dktX1_marks_7 := dk_seg dksX1_marks_6 24 rfl rfl
theorem dksX1_marks_8 : cX1_marks.data.toList.drop 188 = dktX1_marks_8 := dk_seg dksX1_marks_7 24 rfl rfl
theorem dX1_marks_0 : decode cX1_marks 0 = .ok (.iconst 0, 1) := dk_3 (dk_at dksX1_marks_0 0 rfl rfl)
theorem dX1_marks_1 : decode cX1_marks 1 = .ok (.istore_n 3, 1) := dk_62 (dk_at dksX1_marks_0 1 rfl rfl)
theorem dX1_marks_2 : decode cX1_marks 2 = .ok (.iload_n 3, 1) := dk_29 (dk_at dksX1_marks_0 2 rfl rfl)
theorem dX1_marks_3 : decode cX1_marks 3 = .ok (.sipush 3900, 3) := dk_17 15 60 (dk_at dksX1_marks_0 3 rfl rfl)
theorem dX1_marks_6 : decode cX1_marks 6 = .ok (.if_icmp .ge 25, 3) := dk_162 0 25 (dk_at dksX1_marks_0 6 rfl rfl)
theorem dX1_marks_9 : decode cX1_marks 9 = .ok (.aload_n 0, 1) := dk_42 (dk_at dksX1_marks_0 9 rfl rfl)
theorem dX1_marks_10 : decode cX1_marks 10 = .ok (.getfield 131, 3) := dk_180 0 131 (dk_at dksX1_marks_0 10 rfl rfl)
theorem dX1_marks_13 : decode cX1_marks 13 = .ok (.iload_n 3, 1) := dk_29 (dk_at dksX1_marks_0 13 rfl rfl)
theorem dX1_marks_14 : decode cX1_marks 14 = .ok (.iload_n 3, 1) := dk_29 (dk_at dksX1_marks_0 14 rfl rfl)
theorem dX1_marks_15 : decode cX1_marks 15 = .ok (.iload_n 1, 1) := dk_27 (dk_at dksX1_marks_0 15 rfl rfl)
theorem dX1_marks_16 : decode cX1_marks 16 = .ok (.if_icmp .ne 7, 3) := dk_160 0 7 (dk_at dksX1_marks_0 16 rfl rfl)
theorem dX1_marks_19 : decode cX1_marks 19 = .ok (.iconst 1, 1) := dk_4 (dk_at dksX1_marks_0 19 rfl rfl)
theorem dX1_marks_20 : decode cX1_marks 20 = .ok (.goto 4, 3) := dk_167 0 4 (dk_at dksX1_marks_0 20 rfl rfl)
theorem dX1_marks_23 : decode cX1_marks 23 = .ok (.iconst 0, 1) := dk_3 (dk_at dksX1_marks_0 23 rfl rfl)
theorem dX1_marks_24 : decode cX1_marks 24 = .ok (.bastore, 1) := dk_84 (dk_at dksX1_marks_1 0 rfl rfl)
theorem dX1_marks_25 : decode cX1_marks 25 = .ok (.iinc 3 1, 3) := dk_132 3 1 (dk_at dksX1_marks_1 1 rfl rfl)
theorem dX1_marks_28 : decode cX1_marks 28 = .ok (.goto (-26), 3) := dk_167 255 230 (dk_at dksX1_marks_1 4 rfl rfl)
theorem dX1_marks_31 : decode cX1_marks 31 = .ok (.iload_n 1, 1) := dk_27 (dk_at dksX1_marks_1 7 rfl rfl)
theorem dX1_marks_32 : decode cX1_marks 32 = .ok (.istore_n 3, 1) := dk_62 (dk_at dksX1_marks_1 8 rfl rfl)
theorem dX1_marks_33 : decode cX1_marks 33 = .ok (.iload_n 3, 1) := dk_29 (dk_at dksX1_marks_1 9 rfl rfl)
theorem dX1_marks_34 : decode cX1_marks 34 = .ok (.iconst 0, 1) := dk_3 (dk_at dksX1_marks_1 10 rfl rfl)
theorem dX1_marks_35 : decode cX1_marks 35 = .ok (.aload_n 0, 1) := dk_42 (dk_at dksX1_marks_1 11 rfl rfl)
theorem dX1_marks_36 : decode cX1_marks 36 = .ok (.getfield 12, 3) := dk_180 0 12 (dk_at dksX1_marks_1 12 rfl rfl)
theorem dX1_marks_39 : decode cX1_marks 39 = .ok (.getfield 237, 3) := dk_180 0 237 (dk_at dksX1_marks_1 15 rfl rfl)
theorem dX1_marks_42 : decode cX1_marks 42 = .ok (.iconst 0, 1) := dk_3 (dk_at dksX1_marks_1 18 rfl rfl)
theorem dX1_marks_43 : decode cX1_marks 43 = .ok (.invokestatic 293, 3) := dk_184 1 37 (dk_at dksX1_marks_1 19 rfl rfl)
theorem dX1_marks_46 : decode cX1_marks 46 = .ok (.if_icmp .ge 154, 3) := dk_162 0 154 (dk_at dksX1_marks_2 0 rfl rfl)
theorem dX1_marks_49 : decode cX1_marks 49 = .ok (.aload_n 0, 1) := dk_42 (dk_at dksX1_marks_2 3 rfl rfl)
theorem dX1_marks_50 : decode cX1_marks 50 = .ok (.getfield 131, 3) := dk_180 0 131 (dk_at dksX1_marks_2 4 rfl rfl)
theorem dX1_marks_53 : decode cX1_marks 53 = .ok (.iload_n 3, 1) := dk_29 (dk_at dksX1_marks_2 7 rfl rfl)
theorem dX1_marks_54 : decode cX1_marks 54 = .ok (.baload, 1) := dk_51 (dk_at dksX1_marks_2 8 rfl rfl)
theorem dX1_marks_55 : decode cX1_marks 55 = .ok (.ifCond .eq 139, 3) := dk_153 0 139 (dk_at dksX1_marks_2 9 rfl rfl)
theorem dX1_marks_58 : decode cX1_marks 58 = .ok (.aload_n 0, 1) := dk_42 (dk_at dksX1_marks_2 12 rfl rfl)
theorem dX1_marks_59 : decode cX1_marks 59 = .ok (.iload_n 3, 1) := dk_29 (dk_at dksX1_marks_2 13 rfl rfl)
theorem dX1_marks_60 : decode cX1_marks 60 = .ok (.invokevirtual 349, 3) := dk_182 1 93 (dk_at dksX1_marks_2 14 rfl rfl)
theorem dX1_marks_63 : decode cX1_marks 63 = .ok (.ifCond .eq 6, 3) := dk_153 0 6 (dk_at dksX1_marks_2 17 rfl rfl)
theorem dX1_marks_66 : decode cX1_marks 66 = .ok (.goto 128, 3) := dk_167 0 128 (dk_at dksX1_marks_2 20 rfl rfl)
theorem dX1_marks_69 : decode cX1_marks 69 = .ok (.aload_n 0, 1) := dk_42 (dk_at dksX1_marks_2 23 rfl rfl)
theorem dX1_marks_70 : decode cX1_marks 70 = .ok (.aload_n 0, 1) := dk_42 (dk_at dksX1_marks_3 0 rfl rfl)
theorem dX1_marks_71 : decode cX1_marks 71 = .ok (.iload_n 3, 1) := dk_29 (dk_at dksX1_marks_3 1 rfl rfl)
theorem dX1_marks_72 : decode cX1_marks 72 = .ok (.invokestatic 306, 3) := dk_184 1 50 (dk_at dksX1_marks_3 2 rfl rfl)
theorem dX1_marks_75 : decode cX1_marks 75 = .ok (.invokevirtual 290, 3) := dk_182 1 34 (dk_at dksX1_marks_3 5 rfl rfl)
theorem dX1_marks_78 : decode cX1_marks 78 = .ok (.iload_n 3, 1) := dk_29 (dk_at dksX1_marks_3 8 rfl rfl)
theorem dX1_marks_79 : decode cX1_marks 79 = .ok (.invokevirtual 367, 3) := dk_182 1 111 (dk_at dksX1_marks_3 9 rfl rfl)
theorem dX1_marks_82 : decode cX1_marks 82 = .ok (.istore 4, 2) := dk_54 4 (dk_at dksX1_marks_3 12 rfl rfl)
theorem dX1_marks_84 : decode cX1_marks 84 = .ok (.iconst 0, 1) := dk_3 (dk_at dksX1_marks_3 14 rfl rfl)
theorem dX1_marks_85 : decode cX1_marks 85 = .ok (.istore 5, 2) := dk_54 5 (dk_at dksX1_marks_3 15 rfl rfl)
theorem dX1_marks_87 : decode cX1_marks 87 = .ok (.iload 5, 2) := dk_21 5 (dk_at dksX1_marks_3 17 rfl rfl)
theorem dX1_marks_89 : decode cX1_marks 89 = .ok (.aload_n 0, 1) := dk_42 (dk_at dksX1_marks_3 19 rfl rfl)
theorem dX1_marks_90 : decode cX1_marks 90 = .ok (.getfield 12, 3) := dk_180 0 12 (dk_at dksX1_marks_3 20 rfl rfl)
theorem dX1_marks_93 : decode cX1_marks 93 = .ok (.getfield 243, 3) := dk_180 0 243 (dk_at dksX1_marks_4 0 rfl rfl)
theorem dX1_marks_96 : decode cX1_marks 96 = .ok (.if_icmp .gt 98, 3) := dk_163 0 98 (dk_at dksX1_marks_4 3 rfl rfl)
theorem dX1_marks_99 : decode cX1_marks 99 = .ok (.iload 4, 2) := dk_21 4 (dk_at dksX1_marks_4 6 rfl rfl)
theorem dX1_marks_101 : decode cX1_marks 101 = .ok (.iload 5, 2) := dk_21 5 (dk_at dksX1_marks_4 8 rfl rfl)
theorem dX1_marks_103 : decode cX1_marks 103 = .ok (.ishr, 1) := dk_122 (dk_at dksX1_marks_4 10 rfl rfl)
theorem dX1_marks_104 : decode cX1_marks 104 = .ok (.iconst 1, 1) := dk_4 (dk_at dksX1_marks_4 11 rfl rfl)
theorem dX1_marks_105 : decode cX1_marks 105 = .ok (.iand, 1) := dk_126 (dk_at dksX1_marks_4 12 rfl rfl)
theorem dX1_marks_106 : decode cX1_marks 106 = .ok (.ifCond .ne 6, 3) := dk_154 0 6 (dk_at dksX1_marks_4 13 rfl rfl)
theorem dX1_marks_109 : decode cX1_marks 109 = .ok (.goto 79, 3) := dk_167 0 79 (dk_at dksX1_marks_4 16 rfl rfl)
theorem dX1_marks_112 : decode cX1_marks 112 = .ok (.iload 5, 2) := dk_21 5 (dk_at dksX1_marks_4 19 rfl rfl)
theorem dX1_marks_114 : decode cX1_marks 114 = .ok (.ifCond .ne 7, 3) := dk_154 0 7 (dk_at dksX1_marks_4 21 rfl rfl)
theorem dX1_marks_117 : decode cX1_marks 117 = .ok (.iconst 0, 1) := dk_3 (dk_at dksX1_marks_5 0 rfl rfl)
theorem dX1_marks_118 : decode cX1_marks 118 = .ok (.goto 20, 3) := dk_167 0 20 (dk_at dksX1_marks_5 1 rfl rfl)
theorem dX1_marks_121 : decode cX1_marks 121 = .ok (.aload_n 0, 1) := dk_42 (dk_at dksX1_marks_5 4 rfl rfl)
theorem dX1_marks_122 : decode cX1_marks 122 = .ok (.getfield 12, 3) := dk_180 0 12 (dk_at dksX1_marks_5 5 rfl rfl)
theorem dX1_marks_125 : decode cX1_marks 125 = .ok (.getfield 263, 3) := dk_180 1 7 (dk_at dksX1_marks_5 8 rfl rfl)
theorem dX1_marks_128 : decode cX1_marks 128 = .ok (.iload 5, 2) := dk_21 5 (dk_at dksX1_marks_5 11 rfl rfl)
theorem dX1_marks_130 : decode cX1_marks 130 = .ok (.iconst 1, 1) := dk_4 (dk_at dksX1_marks_5 13 rfl rfl)
theorem dX1_marks_131 : decode cX1_marks 131 = .ok (.isub, 1) := dk_100 (dk_at dksX1_marks_5 14 rfl rfl)
theorem dX1_marks_132 : decode cX1_marks 132 = .ok (.aaload, 1) := dk_50 (dk_at dksX1_marks_5 15 rfl rfl)
theorem dX1_marks_133 : decode cX1_marks 133 = .ok (.iload_n 3, 1) := dk_29 (dk_at dksX1_marks_5 16 rfl rfl)
theorem dX1_marks_134 : decode cX1_marks 134 = .ok (.invokestatic 306, 3) := dk_184 1 50 (dk_at dksX1_marks_5 17 rfl rfl)
theorem dX1_marks_137 : decode cX1_marks 137 = .ok (.iaload, 1) := dk_46 (dk_at dksX1_marks_5 20 rfl rfl)
theorem dX1_marks_138 : decode cX1_marks 138 = .ok (.istore 6, 2) := dk_54 6 (dk_at dksX1_marks_5 21 rfl rfl)
theorem dX1_marks_140 : decode cX1_marks 140 = .ok (.iload 6, 2) := dk_21 6 (dk_at dksX1_marks_6 0 rfl rfl)
theorem dX1_marks_142 : decode cX1_marks 142 = .ok (.bipush 16, 2) := dk_16 16 (dk_at dksX1_marks_6 2 rfl rfl)
theorem dX1_marks_144 : decode cX1_marks 144 = .ok (.if_icmp .ge 16, 3) := dk_162 0 16 (dk_at dksX1_marks_6 4 rfl rfl)
theorem dX1_marks_147 : decode cX1_marks 147 = .ok (.aload_n 0, 1) := dk_42 (dk_at dksX1_marks_6 7 rfl rfl)
theorem dX1_marks_148 : decode cX1_marks 148 = .ok (.getfield 131, 3) := dk_180 0 131 (dk_at dksX1_marks_6 8 rfl rfl)
theorem dX1_marks_151 : decode cX1_marks 151 = .ok (.aload_n 0, 1) := dk_42 (dk_at dksX1_marks_6 11 rfl rfl)
theorem dX1_marks_152 : decode cX1_marks 152 = .ok (.iload_n 3, 1) := dk_29 (dk_at dksX1_marks_6 12 rfl rfl)
theorem dX1_marks_153 : decode cX1_marks 153 = .ok (.iload 5, 2) := dk_21 5 (dk_at dksX1_marks_6 13 rfl rfl)
theorem dX1_marks_155 : decode cX1_marks 155 = .ok (.invokevirtual 423, 3) := dk_182 1 167 (dk_at dksX1_marks_6 15 rfl rfl)
theorem dX1_marks_158 : decode cX1_marks 158 = .ok (.iconst 1, 1) := dk_4 (dk_at dksX1_marks_6 18 rfl rfl)
theorem dX1_marks_159 : decode cX1_marks 159 = .ok (.bastore, 1) := dk_84 (dk_at dksX1_marks_6 19 rfl rfl)
theorem dX1_marks_160 : decode cX1_marks 160 = .ok (.iload_n 2, 1) := dk_28 (dk_at dksX1_marks_6 20 rfl rfl)
theorem dX1_marks_161 : decode cX1_marks 161 = .ok (.ifCond .eq 8, 3) := dk_153 0 8 (dk_at dksX1_marks_6 21 rfl rfl)
theorem dX1_marks_164 : decode cX1_marks 164 = .ok (.iload 6, 2) := dk_21 6 (dk_at dksX1_marks_7 0 rfl rfl)
theorem dX1_marks_166 : decode cX1_marks 166 = .ok (.ifCond .gt 10, 3) := dk_157 0 10 (dk_at dksX1_marks_7 2 rfl rfl)
theorem dX1_marks_169 : decode cX1_marks 169 = .ok (.iload 6, 2) := dk_21 6 (dk_at dksX1_marks_7 5 rfl rfl)
theorem dX1_marks_171 : decode cX1_marks 171 = .ok (.bipush 16, 2) := dk_16 16 (dk_at dksX1_marks_7 7 rfl rfl)
theorem dX1_marks_173 : decode cX1_marks 173 = .ok (.if_icmp .ne 15, 3) := dk_160 0 15 (dk_at dksX1_marks_7 9 rfl rfl)
theorem dX1_marks_176 : decode cX1_marks 176 = .ok (.aload_n 0, 1) := dk_42 (dk_at dksX1_marks_7 12 rfl rfl)
theorem dX1_marks_177 : decode cX1_marks 177 = .ok (.getfield 131, 3) := dk_180 0 131 (dk_at dksX1_marks_7 13 rfl rfl)
theorem dX1_marks_180 : decode cX1_marks 180 = .ok (.aload_n 0, 1) := dk_42 (dk_at dksX1_marks_7 16 rfl rfl)
theorem dX1_marks_181 : decode cX1_marks 181 = .ok (.iload_n 3, 1) := dk_29 (dk_at dksX1_marks_7 17 rfl rfl)
theorem dX1_marks_182 : decode cX1_marks 182 = .ok (.iconst 0, 1) := dk_3 (dk_at dksX1_marks_7 18 rfl rfl)
theorem dX1_marks_183 : decode cX1_marks 183 = .ok (.invokevirtual 423, 3) := dk_182 1 167 (dk_at dksX1_marks_7 19 rfl rfl)
theorem dX1_marks_186 : decode cX1_marks 186 = .ok (.iconst 1, 1) := dk_4 (dk_at dksX1_marks_7 22 rfl rfl)
theorem dX1_marks_187 : decode cX1_marks 187 = .ok (.bastore, 1) := dk_84 (dk_at dksX1_marks_7 23 rfl rfl)
theorem dX1_marks_188 : decode cX1_marks 188 = .ok (.iinc 5 1, 3) := dk_132 5 1 (dk_at dksX1_marks_8 0 rfl rfl)
theorem dX1_marks_191 : decode cX1_marks 191 = .ok (.goto (-104), 3) := dk_167 255 152 (dk_at dksX1_marks_8 3 rfl rfl)
theorem dX1_marks_194 : decode cX1_marks 194 = .ok (.iinc 3 1, 3) := dk_132 3 1 (dk_at dksX1_marks_8 6 rfl rfl)
theorem dX1_marks_197 : decode cX1_marks 197 = .ok (.goto (-164), 3) := dk_167 255 92 (dk_at dksX1_marks_8 9 rfl rfl)
theorem dX1_marks_200 : decode cX1_marks 200 = .ok (.return_, 1) := dk_177 (dk_at dksX1_marks_8 12 rfl rfl)
abbrev cX1_there : ByteArray := prog_1_method_78_code
def yX1_there : MethodName := ⟨RX1, "there", "(I)J"⟩
def dkwX1_there_2 : List UInt8 := [182, 1, 173, 47, 173]
abbrev dktX1_there_2 : List UInt8 := dkwX1_there_2 ++ []
def dkwX1_there_1 : List UInt8 := [182, 1, 170, 27, 154, 0, 15, 42, 180, 0, 122, 42, 182, 1, 173, 47, 167, 0, 12, 42, 180, 0, 125, 42]
abbrev dktX1_there_1 : List UInt8 := dkwX1_there_1 ++ dktX1_there_2
def dkwX1_there_0 : List UInt8 := [42, 182, 1, 31, 42, 27, 3, 4, 184, 0, 163, 154, 0, 7, 4, 167, 0, 4, 3, 182, 0, 173, 42]
abbrev dktX1_there_0 : List UInt8 := dkwX1_there_0 ++ dktX1_there_1
theorem dksX1_there_0 : cX1_there.data.toList.drop 0 = dktX1_there_0 := by decide +kernel
theorem dksX1_there_1 : cX1_there.data.toList.drop 23 = dktX1_there_1 := dk_seg dksX1_there_0 23 rfl rfl
theorem dksX1_there_2 : cX1_there.data.toList.drop 47 = dktX1_there_2 := dk_seg dksX1_there_1 24 rfl rfl
theorem dX1_there_0 : decode cX1_there 0 = .ok (.aload_n 0, 1) := dk_42 (dk_at dksX1_there_0 0 rfl rfl)
theorem dX1_there_1 : decode cX1_there 1 = .ok (.invokevirtual 287, 3) := dk_182 1 31 (dk_at dksX1_there_0 1 rfl rfl)
theorem dX1_there_4 : decode cX1_there 4 = .ok (.aload_n 0, 1) := dk_42 (dk_at dksX1_there_0 4 rfl rfl)
theorem dX1_there_5 : decode cX1_there 5 = .ok (.iload_n 1, 1) := dk_27 (dk_at dksX1_there_0 5 rfl rfl)
theorem dX1_there_6 : decode cX1_there 6 = .ok (.iconst 0, 1) := dk_3 (dk_at dksX1_there_0 6 rfl rfl)
theorem dX1_there_7 : decode cX1_there 7 = .ok (.iconst 1, 1) := dk_4 (dk_at dksX1_there_0 7 rfl rfl)
theorem dX1_there_8 : decode cX1_there 8 = .ok (.invokestatic 163, 3) := dk_184 0 163 (dk_at dksX1_there_0 8 rfl rfl)
theorem dX1_there_11 : decode cX1_there 11 = .ok (.ifCond .ne 7, 3) := dk_154 0 7 (dk_at dksX1_there_0 11 rfl rfl)
theorem dX1_there_14 : decode cX1_there 14 = .ok (.iconst 1, 1) := dk_4 (dk_at dksX1_there_0 14 rfl rfl)
theorem dX1_there_15 : decode cX1_there 15 = .ok (.goto 4, 3) := dk_167 0 4 (dk_at dksX1_there_0 15 rfl rfl)
theorem dX1_there_18 : decode cX1_there 18 = .ok (.iconst 0, 1) := dk_3 (dk_at dksX1_there_0 18 rfl rfl)
theorem dX1_there_19 : decode cX1_there 19 = .ok (.invokevirtual 173, 3) := dk_182 0 173 (dk_at dksX1_there_0 19 rfl rfl)
theorem dX1_there_22 : decode cX1_there 22 = .ok (.aload_n 0, 1) := dk_42 (dk_at dksX1_there_0 22 rfl rfl)
theorem dX1_there_23 : decode cX1_there 23 = .ok (.invokevirtual 426, 3) := dk_182 1 170 (dk_at dksX1_there_1 0 rfl rfl)
theorem dX1_there_26 : decode cX1_there 26 = .ok (.iload_n 1, 1) := dk_27 (dk_at dksX1_there_1 3 rfl rfl)
theorem dX1_there_27 : decode cX1_there 27 = .ok (.ifCond .ne 15, 3) := dk_154 0 15 (dk_at dksX1_there_1 4 rfl rfl)
theorem dX1_there_30 : decode cX1_there 30 = .ok (.aload_n 0, 1) := dk_42 (dk_at dksX1_there_1 7 rfl rfl)
theorem dX1_there_31 : decode cX1_there 31 = .ok (.getfield 122, 3) := dk_180 0 122 (dk_at dksX1_there_1 8 rfl rfl)
theorem dX1_there_34 : decode cX1_there 34 = .ok (.aload_n 0, 1) := dk_42 (dk_at dksX1_there_1 11 rfl rfl)
theorem dX1_there_35 : decode cX1_there 35 = .ok (.invokevirtual 429, 3) := dk_182 1 173 (dk_at dksX1_there_1 12 rfl rfl)
theorem dX1_there_38 : decode cX1_there 38 = .ok (.laload, 1) := dk_47 (dk_at dksX1_there_1 15 rfl rfl)
theorem dX1_there_39 : decode cX1_there 39 = .ok (.goto 12, 3) := dk_167 0 12 (dk_at dksX1_there_1 16 rfl rfl)
theorem dX1_there_42 : decode cX1_there 42 = .ok (.aload_n 0, 1) := dk_42 (dk_at dksX1_there_1 19 rfl rfl)
theorem dX1_there_43 : decode cX1_there 43 = .ok (.getfield 125, 3) := dk_180 0 125 (dk_at dksX1_there_1 20 rfl rfl)
theorem dX1_there_46 : decode cX1_there 46 = .ok (.aload_n 0, 1) := dk_42 (dk_at dksX1_there_1 23 rfl rfl)
theorem dX1_there_47 : decode cX1_there 47 = .ok (.invokevirtual 429, 3) := dk_182 1 173 (dk_at dksX1_there_2 0 rfl rfl)
theorem dX1_there_50 : decode cX1_there 50 = .ok (.laload, 1) := dk_47 (dk_at dksX1_there_2 3 rfl rfl)
theorem dX1_there_51 : decode cX1_there 51 = .ok (.lreturn, 1) := dk_173 (dk_at dksX1_there_2 4 rfl rfl)
abbrev cX1_blind : ByteArray := prog_1_method_80_code
def yX1_blind : MethodName := ⟨RX1, "blind", "(I)J"⟩
def dkwX1_blind_0 : List UInt8 := [42, 182, 1, 31, 42, 27, 182, 1, 10, 42, 27, 3, 182, 1, 236, 42, 27, 7, 182, 1, 236, 101, 173]
abbrev dktX1_blind_0 : List UInt8 := dkwX1_blind_0 ++ []
theorem dksX1_blind_0 : cX1_blind.data.toList.drop 0 = dktX1_blind_0 := by decide +kernel
theorem dX1_blind_0 : decode cX1_blind 0 = .ok (.aload_n 0, 1) := dk_42 (dk_at dksX1_blind_0 0 rfl rfl)
theorem dX1_blind_1 : decode cX1_blind 1 = .ok (.invokevirtual 287, 3) := dk_182 1 31 (dk_at dksX1_blind_0 1 rfl rfl)
theorem dX1_blind_4 : decode cX1_blind 4 = .ok (.aload_n 0, 1) := dk_42 (dk_at dksX1_blind_0 4 rfl rfl)
theorem dX1_blind_5 : decode cX1_blind 5 = .ok (.iload_n 1, 1) := dk_27 (dk_at dksX1_blind_0 5 rfl rfl)
theorem dX1_blind_6 : decode cX1_blind 6 = .ok (.invokevirtual 266, 3) := dk_182 1 10 (dk_at dksX1_blind_0 6 rfl rfl)
theorem dX1_blind_9 : decode cX1_blind 9 = .ok (.aload_n 0, 1) := dk_42 (dk_at dksX1_blind_0 9 rfl rfl)
theorem dX1_blind_10 : decode cX1_blind 10 = .ok (.iload_n 1, 1) := dk_27 (dk_at dksX1_blind_0 10 rfl rfl)
theorem dX1_blind_11 : decode cX1_blind 11 = .ok (.iconst 0, 1) := dk_3 (dk_at dksX1_blind_0 11 rfl rfl)
theorem dX1_blind_12 : decode cX1_blind 12 = .ok (.invokevirtual 492, 3) := dk_182 1 236 (dk_at dksX1_blind_0 12 rfl rfl)
theorem dX1_blind_15 : decode cX1_blind 15 = .ok (.aload_n 0, 1) := dk_42 (dk_at dksX1_blind_0 15 rfl rfl)
theorem dX1_blind_16 : decode cX1_blind 16 = .ok (.iload_n 1, 1) := dk_27 (dk_at dksX1_blind_0 16 rfl rfl)
theorem dX1_blind_17 : decode cX1_blind 17 = .ok (.iconst 4, 1) := dk_7 (dk_at dksX1_blind_0 17 rfl rfl)
theorem dX1_blind_18 : decode cX1_blind 18 = .ok (.invokevirtual 492, 3) := dk_182 1 236 (dk_at dksX1_blind_0 18 rfl rfl)
theorem dX1_blind_21 : decode cX1_blind 21 = .ok (.lsub, 1) := dk_101 (dk_at dksX1_blind_0 21 rfl rfl)
theorem dX1_blind_22 : decode cX1_blind 22 = .ok (.lreturn, 1) := dk_173 (dk_at dksX1_blind_0 22 rfl rfl)
abbrev cX1_asKind : ByteArray := prog_1_method_79_code
def yX1_asKind : MethodName := ⟨RX1, "asKind", "(II)J"⟩
def dkwX1_asKind_1 : List UInt8 := [42, 27, 182, 1, 176, 55, 4, 42, 180, 0, 26, 180, 1, 19, 27, 29, 79, 42, 182, 0, 217, 22, 4, 173]
abbrev dktX1_asKind_1 : List UInt8 := dkwX1_asKind_1 ++ []
def dkwX1_asKind_0 : List UInt8 := [42, 180, 0, 26, 180, 1, 19, 27, 46, 62, 42, 180, 0, 26, 180, 1, 19, 27, 28, 79, 42, 182, 0, 217]
abbrev dktX1_asKind_0 : List UInt8 := dkwX1_asKind_0 ++ dktX1_asKind_1
theorem dksX1_asKind_0 : cX1_asKind.data.toList.drop 0 = dktX1_asKind_0 := by decide +kernel
theorem dksX1_asKind_1 : cX1_asKind.data.toList.drop 24 = dktX1_asKind_1 := dk_seg dksX1_asKind_0 24 rfl rfl
theorem dX1_asKind_0 : decode cX1_asKind 0 = .ok (.aload_n 0, 1) := dk_42 (dk_at dksX1_asKind_0 0 rfl rfl)
theorem dX1_asKind_1 : decode cX1_asKind 1 = .ok (.getfield 26, 3) := dk_180 0 26 (dk_at dksX1_asKind_0 1 rfl rfl)
theorem dX1_asKind_4 : decode cX1_asKind 4 = .ok (.getfield 275, 3) := dk_180 1 19 (dk_at dksX1_asKind_0 4 rfl rfl)
theorem dX1_asKind_7 : decode cX1_asKind 7 = .ok (.iload_n 1, 1) := dk_27 (dk_at dksX1_asKind_0 7 rfl rfl)
theorem dX1_asKind_8 : decode cX1_asKind 8 = .ok (.iaload, 1) := dk_46 (dk_at dksX1_asKind_0 8 rfl rfl)
theorem dX1_asKind_9 : decode cX1_asKind 9 = .ok (.istore_n 3, 1) := dk_62 (dk_at dksX1_asKind_0 9 rfl rfl)
theorem dX1_asKind_10 : decode cX1_asKind 10 = .ok (.aload_n 0, 1) := dk_42 (dk_at dksX1_asKind_0 10 rfl rfl)
theorem dX1_asKind_11 : decode cX1_asKind 11 = .ok (.getfield 26, 3) := dk_180 0 26 (dk_at dksX1_asKind_0 11 rfl rfl)
theorem dX1_asKind_14 : decode cX1_asKind 14 = .ok (.getfield 275, 3) := dk_180 1 19 (dk_at dksX1_asKind_0 14 rfl rfl)
theorem dX1_asKind_17 : decode cX1_asKind 17 = .ok (.iload_n 1, 1) := dk_27 (dk_at dksX1_asKind_0 17 rfl rfl)
theorem dX1_asKind_18 : decode cX1_asKind 18 = .ok (.iload_n 2, 1) := dk_28 (dk_at dksX1_asKind_0 18 rfl rfl)
theorem dX1_asKind_19 : decode cX1_asKind 19 = .ok (.iastore, 1) := dk_79 (dk_at dksX1_asKind_0 19 rfl rfl)
theorem dX1_asKind_20 : decode cX1_asKind 20 = .ok (.aload_n 0, 1) := dk_42 (dk_at dksX1_asKind_0 20 rfl rfl)
theorem dX1_asKind_21 : decode cX1_asKind 21 = .ok (.invokevirtual 217, 3) := dk_182 0 217 (dk_at dksX1_asKind_0 21 rfl rfl)
theorem dX1_asKind_24 : decode cX1_asKind 24 = .ok (.aload_n 0, 1) := dk_42 (dk_at dksX1_asKind_1 0 rfl rfl)
theorem dX1_asKind_25 : decode cX1_asKind 25 = .ok (.iload_n 1, 1) := dk_27 (dk_at dksX1_asKind_1 1 rfl rfl)
theorem dX1_asKind_26 : decode cX1_asKind 26 = .ok (.invokevirtual 432, 3) := dk_182 1 176 (dk_at dksX1_asKind_1 2 rfl rfl)
theorem dX1_asKind_29 : decode cX1_asKind 29 = .ok (.lstore 4, 2) := dk_55 4 (dk_at dksX1_asKind_1 5 rfl rfl)
theorem dX1_asKind_31 : decode cX1_asKind 31 = .ok (.aload_n 0, 1) := dk_42 (dk_at dksX1_asKind_1 7 rfl rfl)
theorem dX1_asKind_32 : decode cX1_asKind 32 = .ok (.getfield 26, 3) := dk_180 0 26 (dk_at dksX1_asKind_1 8 rfl rfl)
theorem dX1_asKind_35 : decode cX1_asKind 35 = .ok (.getfield 275, 3) := dk_180 1 19 (dk_at dksX1_asKind_1 11 rfl rfl)
theorem dX1_asKind_38 : decode cX1_asKind 38 = .ok (.iload_n 1, 1) := dk_27 (dk_at dksX1_asKind_1 14 rfl rfl)
theorem dX1_asKind_39 : decode cX1_asKind 39 = .ok (.iload_n 3, 1) := dk_29 (dk_at dksX1_asKind_1 15 rfl rfl)
theorem dX1_asKind_40 : decode cX1_asKind 40 = .ok (.iastore, 1) := dk_79 (dk_at dksX1_asKind_1 16 rfl rfl)
theorem dX1_asKind_41 : decode cX1_asKind 41 = .ok (.aload_n 0, 1) := dk_42 (dk_at dksX1_asKind_1 17 rfl rfl)
theorem dX1_asKind_42 : decode cX1_asKind 42 = .ok (.invokevirtual 217, 3) := dk_182 0 217 (dk_at dksX1_asKind_1 18 rfl rfl)
theorem dX1_asKind_45 : decode cX1_asKind 45 = .ok (.lload 4, 2) := dk_22 4 (dk_at dksX1_asKind_1 21 rfl rfl)
theorem dX1_asKind_47 : decode cX1_asKind 47 = .ok (.lreturn, 1) := dk_173 (dk_at dksX1_asKind_1 23 rfl rfl)
abbrev cX1_asks : ByteArray := prog_1_method_81_code
def yX1_asks : MethodName := ⟨RX1, "asks", "(I)I"⟩
def dkwX1_asks_2 : List UInt8 := [21, 5, 61, 22, 6, 66, 132, 5, 1, 167, 255, 221, 28, 172]
abbrev dktX1_asks_2 : List UInt8 := dkwX1_asks_2 ++ []
def dkwX1_asks_1 : List UInt8 := [16, 6, 162, 0, 34, 42, 27, 21, 5, 182, 1, 236, 55, 6, 22, 6, 33, 148, 157, 0, 6, 167, 0, 9]
abbrev dktX1_asks_1 : List UInt8 := dkwX1_asks_1 ++ dktX1_asks_2
def dkwX1_asks_0 : List UInt8 := [42, 182, 1, 31, 42, 27, 182, 1, 10, 3, 61, 42, 27, 3, 182, 1, 236, 66, 4, 54, 5, 21, 5]
abbrev dktX1_asks_0 : List UInt8 := dkwX1_asks_0 ++ dktX1_asks_1
theorem dksX1_asks_0 : cX1_asks.data.toList.drop 0 = dktX1_asks_0 := by decide +kernel
theorem dksX1_asks_1 : cX1_asks.data.toList.drop 23 = dktX1_asks_1 := dk_seg dksX1_asks_0 23 rfl rfl
theorem dksX1_asks_2 : cX1_asks.data.toList.drop 47 = dktX1_asks_2 := dk_seg dksX1_asks_1 24 rfl rfl
theorem dX1_asks_0 : decode cX1_asks 0 = .ok (.aload_n 0, 1) := dk_42 (dk_at dksX1_asks_0 0 rfl rfl)
theorem dX1_asks_1 : decode cX1_asks 1 = .ok (.invokevirtual 287, 3) := dk_182 1 31 (dk_at dksX1_asks_0 1 rfl rfl)
theorem dX1_asks_4 : decode cX1_asks 4 = .ok (.aload_n 0, 1) := dk_42 (dk_at dksX1_asks_0 4 rfl rfl)
theorem dX1_asks_5 : decode cX1_asks 5 = .ok (.iload_n 1, 1) := dk_27 (dk_at dksX1_asks_0 5 rfl rfl)
theorem dX1_asks_6 : decode cX1_asks 6 = .ok (.invokevirtual 266, 3) := dk_182 1 10 (dk_at dksX1_asks_0 6 rfl rfl)
theorem dX1_asks_9 : decode cX1_asks 9 = .ok (.iconst 0, 1) := dk_3 (dk_at dksX1_asks_0 9 rfl rfl)
theorem dX1_asks_10 : decode cX1_asks 10 = .ok (.istore_n 2, 1) := dk_61 (dk_at dksX1_asks_0 10 rfl rfl)
theorem dX1_asks_11 : decode cX1_asks 11 = .ok (.aload_n 0, 1) := dk_42 (dk_at dksX1_asks_0 11 rfl rfl)
theorem dX1_asks_12 : decode cX1_asks 12 = .ok (.iload_n 1, 1) := dk_27 (dk_at dksX1_asks_0 12 rfl rfl)
theorem dX1_asks_13 : decode cX1_asks 13 = .ok (.iconst 0, 1) := dk_3 (dk_at dksX1_asks_0 13 rfl rfl)
theorem dX1_asks_14 : decode cX1_asks 14 = .ok (.invokevirtual 492, 3) := dk_182 1 236 (dk_at dksX1_asks_0 14 rfl rfl)
theorem dX1_asks_17 : decode cX1_asks 17 = .ok (.lstore_n 3, 1) := dk_66 (dk_at dksX1_asks_0 17 rfl rfl)
theorem dX1_asks_18 : decode cX1_asks 18 = .ok (.iconst 1, 1) := dk_4 (dk_at dksX1_asks_0 18 rfl rfl)
theorem dX1_asks_19 : decode cX1_asks 19 = .ok (.istore 5, 2) := dk_54 5 (dk_at dksX1_asks_0 19 rfl rfl)
theorem dX1_asks_21 : decode cX1_asks 21 = .ok (.iload 5, 2) := dk_21 5 (dk_at dksX1_asks_0 21 rfl rfl)
theorem dX1_asks_23 : decode cX1_asks 23 = .ok (.bipush 6, 2) := dk_16 6 (dk_at dksX1_asks_1 0 rfl rfl)
theorem dX1_asks_25 : decode cX1_asks 25 = .ok (.if_icmp .ge 34, 3) := dk_162 0 34 (dk_at dksX1_asks_1 2 rfl rfl)
theorem dX1_asks_28 : decode cX1_asks 28 = .ok (.aload_n 0, 1) := dk_42 (dk_at dksX1_asks_1 5 rfl rfl)
theorem dX1_asks_29 : decode cX1_asks 29 = .ok (.iload_n 1, 1) := dk_27 (dk_at dksX1_asks_1 6 rfl rfl)
theorem dX1_asks_30 : decode cX1_asks 30 = .ok (.iload 5, 2) := dk_21 5 (dk_at dksX1_asks_1 7 rfl rfl)
theorem dX1_asks_32 : decode cX1_asks 32 = .ok (.invokevirtual 492, 3) := dk_182 1 236 (dk_at dksX1_asks_1 9 rfl rfl)
theorem dX1_asks_35 : decode cX1_asks 35 = .ok (.lstore 6, 2) := dk_55 6 (dk_at dksX1_asks_1 12 rfl rfl)
theorem dX1_asks_37 : decode cX1_asks 37 = .ok (.lload 6, 2) := dk_22 6 (dk_at dksX1_asks_1 14 rfl rfl)
theorem dX1_asks_39 : decode cX1_asks 39 = .ok (.lload_n 3, 1) := dk_33 (dk_at dksX1_asks_1 16 rfl rfl)
theorem dX1_asks_40 : decode cX1_asks 40 = .ok (.lcmp, 1) := dk_148 (dk_at dksX1_asks_1 17 rfl rfl)
theorem dX1_asks_41 : decode cX1_asks 41 = .ok (.ifCond .gt 6, 3) := dk_157 0 6 (dk_at dksX1_asks_1 18 rfl rfl)
theorem dX1_asks_44 : decode cX1_asks 44 = .ok (.goto 9, 3) := dk_167 0 9 (dk_at dksX1_asks_1 21 rfl rfl)
theorem dX1_asks_47 : decode cX1_asks 47 = .ok (.iload 5, 2) := dk_21 5 (dk_at dksX1_asks_2 0 rfl rfl)
theorem dX1_asks_49 : decode cX1_asks 49 = .ok (.istore_n 2, 1) := dk_61 (dk_at dksX1_asks_2 2 rfl rfl)
theorem dX1_asks_50 : decode cX1_asks 50 = .ok (.lload 6, 2) := dk_22 6 (dk_at dksX1_asks_2 3 rfl rfl)
theorem dX1_asks_52 : decode cX1_asks 52 = .ok (.lstore_n 3, 1) := dk_66 (dk_at dksX1_asks_2 5 rfl rfl)
theorem dX1_asks_53 : decode cX1_asks 53 = .ok (.iinc 5 1, 3) := dk_132 5 1 (dk_at dksX1_asks_2 6 rfl rfl)
theorem dX1_asks_56 : decode cX1_asks 56 = .ok (.goto (-35), 3) := dk_167 255 221 (dk_at dksX1_asks_2 9 rfl rfl)
theorem dX1_asks_59 : decode cX1_asks 59 = .ok (.iload_n 2, 1) := dk_28 (dk_at dksX1_asks_2 12 rfl rfl)
theorem dX1_asks_60 : decode cX1_asks 60 = .ok (.ireturn, 1) := dk_172 (dk_at dksX1_asks_2 13 rfl rfl)
abbrev cX1_beside : ByteArray := prog_1_method_82_code
def yX1_beside : MethodName := ⟨RX1, "beside", "(I)J"⟩
def dkwX1_beside_1 : List UInt8 := [182, 1, 173, 47, 97, 173]
abbrev dktX1_beside_1 : List UInt8 := dkwX1_beside_1 ++ []
def dkwX1_beside_0 : List UInt8 := [42, 182, 1, 31, 42, 27, 182, 1, 10, 42, 27, 182, 1, 176, 117, 42, 180, 0, 116, 27, 50, 42]
abbrev dktX1_beside_0 : List UInt8 := dkwX1_beside_0 ++ dktX1_beside_1
theorem dksX1_beside_0 : cX1_beside.data.toList.drop 0 = dktX1_beside_0 := by decide +kernel
theorem dksX1_beside_1 : cX1_beside.data.toList.drop 22 = dktX1_beside_1 := dk_seg dksX1_beside_0 22 rfl rfl
theorem dX1_beside_0 : decode cX1_beside 0 = .ok (.aload_n 0, 1) := dk_42 (dk_at dksX1_beside_0 0 rfl rfl)
theorem dX1_beside_1 : decode cX1_beside 1 = .ok (.invokevirtual 287, 3) := dk_182 1 31 (dk_at dksX1_beside_0 1 rfl rfl)
theorem dX1_beside_4 : decode cX1_beside 4 = .ok (.aload_n 0, 1) := dk_42 (dk_at dksX1_beside_0 4 rfl rfl)
theorem dX1_beside_5 : decode cX1_beside 5 = .ok (.iload_n 1, 1) := dk_27 (dk_at dksX1_beside_0 5 rfl rfl)
theorem dX1_beside_6 : decode cX1_beside 6 = .ok (.invokevirtual 266, 3) := dk_182 1 10 (dk_at dksX1_beside_0 6 rfl rfl)
theorem dX1_beside_9 : decode cX1_beside 9 = .ok (.aload_n 0, 1) := dk_42 (dk_at dksX1_beside_0 9 rfl rfl)
theorem dX1_beside_10 : decode cX1_beside 10 = .ok (.iload_n 1, 1) := dk_27 (dk_at dksX1_beside_0 10 rfl rfl)
theorem dX1_beside_11 : decode cX1_beside 11 = .ok (.invokevirtual 432, 3) := dk_182 1 176 (dk_at dksX1_beside_0 11 rfl rfl)
theorem dX1_beside_14 : decode cX1_beside 14 = .ok (.lneg, 1) := dk_117 (dk_at dksX1_beside_0 14 rfl rfl)
theorem dX1_beside_15 : decode cX1_beside 15 = .ok (.aload_n 0, 1) := dk_42 (dk_at dksX1_beside_0 15 rfl rfl)
theorem dX1_beside_16 : decode cX1_beside 16 = .ok (.getfield 116, 3) := dk_180 0 116 (dk_at dksX1_beside_0 16 rfl rfl)
theorem dX1_beside_19 : decode cX1_beside 19 = .ok (.iload_n 1, 1) := dk_27 (dk_at dksX1_beside_0 19 rfl rfl)
theorem dX1_beside_20 : decode cX1_beside 20 = .ok (.aaload, 1) := dk_50 (dk_at dksX1_beside_0 20 rfl rfl)
theorem dX1_beside_21 : decode cX1_beside 21 = .ok (.aload_n 0, 1) := dk_42 (dk_at dksX1_beside_0 21 rfl rfl)
theorem dX1_beside_22 : decode cX1_beside 22 = .ok (.invokevirtual 429, 3) := dk_182 1 173 (dk_at dksX1_beside_1 0 rfl rfl)
theorem dX1_beside_25 : decode cX1_beside 25 = .ok (.laload, 1) := dk_47 (dk_at dksX1_beside_1 3 rfl rfl)
theorem dX1_beside_26 : decode cX1_beside 26 = .ok (.ladd, 1) := dk_97 (dk_at dksX1_beside_1 4 rfl rfl)
theorem dX1_beside_27 : decode cX1_beside 27 = .ok (.lreturn, 1) := dk_173 (dk_at dksX1_beside_1 5 rfl rfl)
abbrev cX1_pact : ByteArray := prog_1_method_84_code
def yX1_pact : MethodName := ⟨RX1, "pact", "(III)J"⟩
def dkwX1_pact_2 : List UInt8 := [167, 0, 4, 28, 182, 1, 239, 173]
abbrev dktX1_pact_2 : List UInt8 := dkwX1_pact_2 ++ []
def dkwX1_pact_1 : List UInt8 := [184, 0, 163, 154, 0, 7, 4, 167, 0, 4, 3, 182, 0, 173, 42, 27, 28, 29, 154, 0, 7, 27]
abbrev dktX1_pact_1 : List UInt8 := dkwX1_pact_1 ++ dktX1_pact_2
def dkwX1_pact_0 : List UInt8 := [42, 182, 1, 31, 42, 27, 182, 1, 10, 42, 28, 182, 1, 10, 42, 27, 28, 159, 0, 12, 29, 3, 4]
abbrev dktX1_pact_0 : List UInt8 := dkwX1_pact_0 ++ dktX1_pact_1
theorem dksX1_pact_0 : cX1_pact.data.toList.drop 0 = dktX1_pact_0 := by decide +kernel
theorem dksX1_pact_1 : cX1_pact.data.toList.drop 23 = dktX1_pact_1 := dk_seg dksX1_pact_0 23 rfl rfl
theorem dksX1_pact_2 : cX1_pact.data.toList.drop 45 = dktX1_pact_2 := dk_seg dksX1_pact_1 22 rfl rfl
theorem dX1_pact_0 : decode cX1_pact 0 = .ok (.aload_n 0, 1) := dk_42 (dk_at dksX1_pact_0 0 rfl rfl)
theorem dX1_pact_1 : decode cX1_pact 1 = .ok (.invokevirtual 287, 3) := dk_182 1 31 (dk_at dksX1_pact_0 1 rfl rfl)
theorem dX1_pact_4 : decode cX1_pact 4 = .ok (.aload_n 0, 1) := dk_42 (dk_at dksX1_pact_0 4 rfl rfl)
theorem dX1_pact_5 : decode cX1_pact 5 = .ok (.iload_n 1, 1) := dk_27 (dk_at dksX1_pact_0 5 rfl rfl)
theorem dX1_pact_6 : decode cX1_pact 6 = .ok (.invokevirtual 266, 3) := dk_182 1 10 (dk_at dksX1_pact_0 6 rfl rfl)
theorem dX1_pact_9 : decode cX1_pact 9 = .ok (.aload_n 0, 1) := dk_42 (dk_at dksX1_pact_0 9 rfl rfl)
theorem dX1_pact_10 : decode cX1_pact 10 = .ok (.iload_n 2, 1) := dk_28 (dk_at dksX1_pact_0 10 rfl rfl)
theorem dX1_pact_11 : decode cX1_pact 11 = .ok (.invokevirtual 266, 3) := dk_182 1 10 (dk_at dksX1_pact_0 11 rfl rfl)
theorem dX1_pact_14 : decode cX1_pact 14 = .ok (.aload_n 0, 1) := dk_42 (dk_at dksX1_pact_0 14 rfl rfl)
theorem dX1_pact_15 : decode cX1_pact 15 = .ok (.iload_n 1, 1) := dk_27 (dk_at dksX1_pact_0 15 rfl rfl)
theorem dX1_pact_16 : decode cX1_pact 16 = .ok (.iload_n 2, 1) := dk_28 (dk_at dksX1_pact_0 16 rfl rfl)
theorem dX1_pact_17 : decode cX1_pact 17 = .ok (.if_icmp .eq 12, 3) := dk_159 0 12 (dk_at dksX1_pact_0 17 rfl rfl)
theorem dX1_pact_20 : decode cX1_pact 20 = .ok (.iload_n 3, 1) := dk_29 (dk_at dksX1_pact_0 20 rfl rfl)
theorem dX1_pact_21 : decode cX1_pact 21 = .ok (.iconst 0, 1) := dk_3 (dk_at dksX1_pact_0 21 rfl rfl)
theorem dX1_pact_22 : decode cX1_pact 22 = .ok (.iconst 1, 1) := dk_4 (dk_at dksX1_pact_0 22 rfl rfl)
theorem dX1_pact_23 : decode cX1_pact 23 = .ok (.invokestatic 163, 3) := dk_184 0 163 (dk_at dksX1_pact_1 0 rfl rfl)
theorem dX1_pact_26 : decode cX1_pact 26 = .ok (.ifCond .ne 7, 3) := dk_154 0 7 (dk_at dksX1_pact_1 3 rfl rfl)
theorem dX1_pact_29 : decode cX1_pact 29 = .ok (.iconst 1, 1) := dk_4 (dk_at dksX1_pact_1 6 rfl rfl)
theorem dX1_pact_30 : decode cX1_pact 30 = .ok (.goto 4, 3) := dk_167 0 4 (dk_at dksX1_pact_1 7 rfl rfl)
theorem dX1_pact_33 : decode cX1_pact 33 = .ok (.iconst 0, 1) := dk_3 (dk_at dksX1_pact_1 10 rfl rfl)
theorem dX1_pact_34 : decode cX1_pact 34 = .ok (.invokevirtual 173, 3) := dk_182 0 173 (dk_at dksX1_pact_1 11 rfl rfl)
theorem dX1_pact_37 : decode cX1_pact 37 = .ok (.aload_n 0, 1) := dk_42 (dk_at dksX1_pact_1 14 rfl rfl)
theorem dX1_pact_38 : decode cX1_pact 38 = .ok (.iload_n 1, 1) := dk_27 (dk_at dksX1_pact_1 15 rfl rfl)
theorem dX1_pact_39 : decode cX1_pact 39 = .ok (.iload_n 2, 1) := dk_28 (dk_at dksX1_pact_1 16 rfl rfl)
theorem dX1_pact_40 : decode cX1_pact 40 = .ok (.iload_n 3, 1) := dk_29 (dk_at dksX1_pact_1 17 rfl rfl)
theorem dX1_pact_41 : decode cX1_pact 41 = .ok (.ifCond .ne 7, 3) := dk_154 0 7 (dk_at dksX1_pact_1 18 rfl rfl)
theorem dX1_pact_44 : decode cX1_pact 44 = .ok (.iload_n 1, 1) := dk_27 (dk_at dksX1_pact_1 21 rfl rfl)
theorem dX1_pact_45 : decode cX1_pact 45 = .ok (.goto 4, 3) := dk_167 0 4 (dk_at dksX1_pact_2 0 rfl rfl)
theorem dX1_pact_48 : decode cX1_pact 48 = .ok (.iload_n 2, 1) := dk_28 (dk_at dksX1_pact_2 3 rfl rfl)
theorem dX1_pact_49 : decode cX1_pact 49 = .ok (.invokevirtual 495, 3) := dk_182 1 239 (dk_at dksX1_pact_2 4 rfl rfl)
theorem dX1_pact_52 : decode cX1_pact 52 = .ok (.lreturn, 1) := dk_173 (dk_at dksX1_pact_2 7 rfl rfl)
abbrev cX1_byPact : ByteArray := prog_1_method_83_code
def yX1_byPact : MethodName := ⟨RX1, "byPact", "(III)J"⟩
def dkwX1_byPact_2 : List UInt8 := [101, 173]
abbrev dktX1_byPact_2 : List UInt8 := dkwX1_byPact_2 ++ []
def dkwX1_byPact_1 : List UInt8 := [182, 1, 176, 55, 6, 42, 2, 181, 0, 45, 42, 2, 181, 0, 48, 42, 3, 181, 0, 223, 22, 6, 22, 4]
abbrev dktX1_byPact_1 : List UInt8 := dkwX1_byPact_1 ++ dktX1_byPact_2
def dkwX1_byPact_0 : List UInt8 := [42, 29, 182, 1, 176, 55, 4, 42, 27, 181, 0, 45, 42, 28, 181, 0, 48, 42, 3, 181, 0, 223, 42, 29]
abbrev dktX1_byPact_0 : List UInt8 := dkwX1_byPact_0 ++ dktX1_byPact_1
theorem dksX1_byPact_0 : cX1_byPact.data.toList.drop 0 = dktX1_byPact_0 := by decide +kernel
theorem dksX1_byPact_1 : cX1_byPact.data.toList.drop 24 = dktX1_byPact_1 := dk_seg dksX1_byPact_0 24 rfl rfl
theorem dksX1_byPact_2 : cX1_byPact.data.toList.drop 48 = dktX1_byPact_2 := dk_seg dksX1_byPact_1 24 rfl rfl
theorem dX1_byPact_0 : decode cX1_byPact 0 = .ok (.aload_n 0, 1) := dk_42 (dk_at dksX1_byPact_0 0 rfl rfl)
theorem dX1_byPact_1 : decode cX1_byPact 1 = .ok (.iload_n 3, 1) := dk_29 (dk_at dksX1_byPact_0 1 rfl rfl)
theorem dX1_byPact_2 : decode cX1_byPact 2 = .ok (.invokevirtual 432, 3) := dk_182 1 176 (dk_at dksX1_byPact_0 2 rfl rfl)
theorem dX1_byPact_5 : decode cX1_byPact 5 = .ok (.lstore 4, 2) := dk_55 4 (dk_at dksX1_byPact_0 5 rfl rfl)
theorem dX1_byPact_7 : decode cX1_byPact 7 = .ok (.aload_n 0, 1) := dk_42 (dk_at dksX1_byPact_0 7 rfl rfl)
theorem dX1_byPact_8 : decode cX1_byPact 8 = .ok (.iload_n 1, 1) := dk_27 (dk_at dksX1_byPact_0 8 rfl rfl)
theorem dX1_byPact_9 : decode cX1_byPact 9 = .ok (.putfield 45, 3) := dk_181 0 45 (dk_at dksX1_byPact_0 9 rfl rfl)
theorem dX1_byPact_12 : decode cX1_byPact 12 = .ok (.aload_n 0, 1) := dk_42 (dk_at dksX1_byPact_0 12 rfl rfl)
theorem dX1_byPact_13 : decode cX1_byPact 13 = .ok (.iload_n 2, 1) := dk_28 (dk_at dksX1_byPact_0 13 rfl rfl)
theorem dX1_byPact_14 : decode cX1_byPact 14 = .ok (.putfield 48, 3) := dk_181 0 48 (dk_at dksX1_byPact_0 14 rfl rfl)
theorem dX1_byPact_17 : decode cX1_byPact 17 = .ok (.aload_n 0, 1) := dk_42 (dk_at dksX1_byPact_0 17 rfl rfl)
theorem dX1_byPact_18 : decode cX1_byPact 18 = .ok (.iconst 0, 1) := dk_3 (dk_at dksX1_byPact_0 18 rfl rfl)
theorem dX1_byPact_19 : decode cX1_byPact 19 = .ok (.putfield 223, 3) := dk_181 0 223 (dk_at dksX1_byPact_0 19 rfl rfl)
theorem dX1_byPact_22 : decode cX1_byPact 22 = .ok (.aload_n 0, 1) := dk_42 (dk_at dksX1_byPact_0 22 rfl rfl)
theorem dX1_byPact_23 : decode cX1_byPact 23 = .ok (.iload_n 3, 1) := dk_29 (dk_at dksX1_byPact_0 23 rfl rfl)
theorem dX1_byPact_24 : decode cX1_byPact 24 = .ok (.invokevirtual 432, 3) := dk_182 1 176 (dk_at dksX1_byPact_1 0 rfl rfl)
theorem dX1_byPact_27 : decode cX1_byPact 27 = .ok (.lstore 6, 2) := dk_55 6 (dk_at dksX1_byPact_1 3 rfl rfl)
theorem dX1_byPact_29 : decode cX1_byPact 29 = .ok (.aload_n 0, 1) := dk_42 (dk_at dksX1_byPact_1 5 rfl rfl)
theorem dX1_byPact_30 : decode cX1_byPact 30 = .ok (.iconst (-1), 1) := dk_2 (dk_at dksX1_byPact_1 6 rfl rfl)
theorem dX1_byPact_31 : decode cX1_byPact 31 = .ok (.putfield 45, 3) := dk_181 0 45 (dk_at dksX1_byPact_1 7 rfl rfl)
theorem dX1_byPact_34 : decode cX1_byPact 34 = .ok (.aload_n 0, 1) := dk_42 (dk_at dksX1_byPact_1 10 rfl rfl)
theorem dX1_byPact_35 : decode cX1_byPact 35 = .ok (.iconst (-1), 1) := dk_2 (dk_at dksX1_byPact_1 11 rfl rfl)
theorem dX1_byPact_36 : decode cX1_byPact 36 = .ok (.putfield 48, 3) := dk_181 0 48 (dk_at dksX1_byPact_1 12 rfl rfl)
theorem dX1_byPact_39 : decode cX1_byPact 39 = .ok (.aload_n 0, 1) := dk_42 (dk_at dksX1_byPact_1 15 rfl rfl)
theorem dX1_byPact_40 : decode cX1_byPact 40 = .ok (.iconst 0, 1) := dk_3 (dk_at dksX1_byPact_1 16 rfl rfl)
theorem dX1_byPact_41 : decode cX1_byPact 41 = .ok (.putfield 223, 3) := dk_181 0 223 (dk_at dksX1_byPact_1 17 rfl rfl)
theorem dX1_byPact_44 : decode cX1_byPact 44 = .ok (.lload 6, 2) := dk_22 6 (dk_at dksX1_byPact_1 20 rfl rfl)
theorem dX1_byPact_46 : decode cX1_byPact 46 = .ok (.lload 4, 2) := dk_22 4 (dk_at dksX1_byPact_1 22 rfl rfl)
theorem dX1_byPact_48 : decode cX1_byPact 48 = .ok (.lsub, 1) := dk_101 (dk_at dksX1_byPact_2 0 rfl rfl)
theorem dX1_byPact_49 : decode cX1_byPact 49 = .ok (.lreturn, 1) := dk_173 (dk_at dksX1_byPact_2 1 rfl rfl)
abbrev cX1_holds : ByteArray := prog_1_method_85_code
def yX1_holds : MethodName := ⟨RX1, "holds", "()I"⟩
def dkwX1_holds_3 : List UInt8 := [132, 1, 1, 167, 255, 190, 2, 172]
abbrev dktX1_holds_3 : List UInt8 := dkwX1_holds_3 ++ []
def dkwX1_holds_2 : List UInt8 := [28, 182, 1, 239, 9, 148, 158, 0, 10, 16, 10, 27, 104, 28, 96, 172, 132, 2, 1, 167, 255, 211]
abbrev dktX1_holds_2 : List UInt8 := dkwX1_holds_2 ++ dktX1_holds_3
def dkwX1_holds_1 : List UInt8 := [180, 0, 12, 180, 0, 160, 162, 0, 40, 42, 27, 28, 27, 182, 1, 239, 9, 148, 158, 0, 22, 42, 27, 28]
abbrev dktX1_holds_1 : List UInt8 := dkwX1_holds_1 ++ dktX1_holds_2
def dkwX1_holds_0 : List UInt8 := [42, 182, 1, 31, 3, 60, 27, 42, 180, 0, 12, 180, 0, 160, 162, 0, 61, 27, 4, 96, 61, 28, 42]
abbrev dktX1_holds_0 : List UInt8 := dkwX1_holds_0 ++ dktX1_holds_1
theorem dksX1_holds_0 : cX1_holds.data.toList.drop 0 = dktX1_holds_0 := by decide +kernel
theorem dksX1_holds_1 : cX1_holds.data.toList.drop 23 = dktX1_holds_1 := dk_seg dksX1_holds_0 23 rfl rfl
theorem dksX1_holds_2 : cX1_holds.data.toList.drop 47 = dktX1_holds_2 := dk_seg dksX1_holds_1 24 rfl rfl
theorem dksX1_holds_3 : cX1_holds.data.toList.drop 69 = dktX1_holds_3 := dk_seg dksX1_holds_2 22 rfl rfl
theorem dX1_holds_0 : decode cX1_holds 0 = .ok (.aload_n 0, 1) := dk_42 (dk_at dksX1_holds_0 0 rfl rfl)
theorem dX1_holds_1 : decode cX1_holds 1 = .ok (.invokevirtual 287, 3) := dk_182 1 31 (dk_at dksX1_holds_0 1 rfl rfl)
theorem dX1_holds_4 : decode cX1_holds 4 = .ok (.iconst 0, 1) := dk_3 (dk_at dksX1_holds_0 4 rfl rfl)
theorem dX1_holds_5 : decode cX1_holds 5 = .ok (.istore_n 1, 1) := dk_60 (dk_at dksX1_holds_0 5 rfl rfl)
theorem dX1_holds_6 : decode cX1_holds 6 = .ok (.iload_n 1, 1) := dk_27 (dk_at dksX1_holds_0 6 rfl rfl)
theorem dX1_holds_7 : decode cX1_holds 7 = .ok (.aload_n 0, 1) := dk_42 (dk_at dksX1_holds_0 7 rfl rfl)
theorem dX1_holds_8 : decode cX1_holds 8 = .ok (.getfield 12, 3) := dk_180 0 12 (dk_at dksX1_holds_0 8 rfl rfl)
theorem dX1_holds_11 : decode cX1_holds 11 = .ok (.getfield 160, 3) := dk_180 0 160 (dk_at dksX1_holds_0 11 rfl rfl)
theorem dX1_holds_14 : decode cX1_holds 14 = .ok (.if_icmp .ge 61, 3) := dk_162 0 61 (dk_at dksX1_holds_0 14 rfl rfl)
theorem dX1_holds_17 : decode cX1_holds 17 = .ok (.iload_n 1, 1) := dk_27 (dk_at dksX1_holds_0 17 rfl rfl)
theorem dX1_holds_18 : decode cX1_holds 18 = .ok (.iconst 1, 1) := dk_4 (dk_at dksX1_holds_0 18 rfl rfl)
theorem dX1_holds_19 : decode cX1_holds 19 = .ok (.iadd, 1) := dk_96 (dk_at dksX1_holds_0 19 rfl rfl)
theorem dX1_holds_20 : decode cX1_holds 20 = .ok (.istore_n 2, 1) := dk_61 (dk_at dksX1_holds_0 20 rfl rfl)
theorem dX1_holds_21 : decode cX1_holds 21 = .ok (.iload_n 2, 1) := dk_28 (dk_at dksX1_holds_0 21 rfl rfl)
theorem dX1_holds_22 : decode cX1_holds 22 = .ok (.aload_n 0, 1) := dk_42 (dk_at dksX1_holds_0 22 rfl rfl)
theorem dX1_holds_23 : decode cX1_holds 23 = .ok (.getfield 12, 3) := dk_180 0 12 (dk_at dksX1_holds_1 0 rfl rfl)
theorem dX1_holds_26 : decode cX1_holds 26 = .ok (.getfield 160, 3) := dk_180 0 160 (dk_at dksX1_holds_1 3 rfl rfl)
theorem dX1_holds_29 : decode cX1_holds 29 = .ok (.if_icmp .ge 40, 3) := dk_162 0 40 (dk_at dksX1_holds_1 6 rfl rfl)
theorem dX1_holds_32 : decode cX1_holds 32 = .ok (.aload_n 0, 1) := dk_42 (dk_at dksX1_holds_1 9 rfl rfl)
theorem dX1_holds_33 : decode cX1_holds 33 = .ok (.iload_n 1, 1) := dk_27 (dk_at dksX1_holds_1 10 rfl rfl)
theorem dX1_holds_34 : decode cX1_holds 34 = .ok (.iload_n 2, 1) := dk_28 (dk_at dksX1_holds_1 11 rfl rfl)
theorem dX1_holds_35 : decode cX1_holds 35 = .ok (.iload_n 1, 1) := dk_27 (dk_at dksX1_holds_1 12 rfl rfl)
theorem dX1_holds_36 : decode cX1_holds 36 = .ok (.invokevirtual 495, 3) := dk_182 1 239 (dk_at dksX1_holds_1 13 rfl rfl)
theorem dX1_holds_39 : decode cX1_holds 39 = .ok (.lconst 0, 1) := dk_9 (dk_at dksX1_holds_1 16 rfl rfl)
theorem dX1_holds_40 : decode cX1_holds 40 = .ok (.lcmp, 1) := dk_148 (dk_at dksX1_holds_1 17 rfl rfl)
theorem dX1_holds_41 : decode cX1_holds 41 = .ok (.ifCond .le 22, 3) := dk_158 0 22 (dk_at dksX1_holds_1 18 rfl rfl)
theorem dX1_holds_44 : decode cX1_holds 44 = .ok (.aload_n 0, 1) := dk_42 (dk_at dksX1_holds_1 21 rfl rfl)
theorem dX1_holds_45 : decode cX1_holds 45 = .ok (.iload_n 1, 1) := dk_27 (dk_at dksX1_holds_1 22 rfl rfl)
theorem dX1_holds_46 : decode cX1_holds 46 = .ok (.iload_n 2, 1) := dk_28 (dk_at dksX1_holds_1 23 rfl rfl)
theorem dX1_holds_47 : decode cX1_holds 47 = .ok (.iload_n 2, 1) := dk_28 (dk_at dksX1_holds_2 0 rfl rfl)
theorem dX1_holds_48 : decode cX1_holds 48 = .ok (.invokevirtual 495, 3) := dk_182 1 239 (dk_at dksX1_holds_2 1 rfl rfl)
theorem dX1_holds_51 : decode cX1_holds 51 = .ok (.lconst 0, 1) := dk_9 (dk_at dksX1_holds_2 4 rfl rfl)
theorem dX1_holds_52 : decode cX1_holds 52 = .ok (.lcmp, 1) := dk_148 (dk_at dksX1_holds_2 5 rfl rfl)
theorem dX1_holds_53 : decode cX1_holds 53 = .ok (.ifCond .le 10, 3) := dk_158 0 10 (dk_at dksX1_holds_2 6 rfl rfl)
theorem dX1_holds_56 : decode cX1_holds 56 = .ok (.bipush 10, 2) := dk_16 10 (dk_at dksX1_holds_2 9 rfl rfl)
theorem dX1_holds_58 : decode cX1_holds 58 = .ok (.iload_n 1, 1) := dk_27 (dk_at dksX1_holds_2 11 rfl rfl)
theorem dX1_holds_59 : decode cX1_holds 59 = .ok (.imul, 1) := dk_104 (dk_at dksX1_holds_2 12 rfl rfl)
theorem dX1_holds_60 : decode cX1_holds 60 = .ok (.iload_n 2, 1) := dk_28 (dk_at dksX1_holds_2 13 rfl rfl)
theorem dX1_holds_61 : decode cX1_holds 61 = .ok (.iadd, 1) := dk_96 (dk_at dksX1_holds_2 14 rfl rfl)
theorem dX1_holds_62 : decode cX1_holds 62 = .ok (.ireturn, 1) := dk_172 (dk_at dksX1_holds_2 15 rfl rfl)
theorem dX1_holds_63 : decode cX1_holds 63 = .ok (.iinc 2 1, 3) := dk_132 2 1 (dk_at dksX1_holds_2 16 rfl rfl)
theorem dX1_holds_66 : decode cX1_holds 66 = .ok (.goto (-45), 3) := dk_167 255 211 (dk_at dksX1_holds_2 19 rfl rfl)
theorem dX1_holds_69 : decode cX1_holds 69 = .ok (.iinc 1 1, 3) := dk_132 1 1 (dk_at dksX1_holds_3 0 rfl rfl)
theorem dX1_holds_72 : decode cX1_holds 72 = .ok (.goto (-66), 3) := dk_167 255 190 (dk_at dksX1_holds_3 3 rfl rfl)
theorem dX1_holds_75 : decode cX1_holds 75 = .ok (.iconst (-1), 1) := dk_2 (dk_at dksX1_holds_3 6 rfl rfl)
theorem dX1_holds_76 : decode cX1_holds 76 = .ok (.ireturn, 1) := dk_172 (dk_at dksX1_holds_3 7 rfl rfl)
abbrev cX1_mind : ByteArray := prog_1_method_87_code
def yX1_mind : MethodName := ⟨RX1, "mind", "()I"⟩
def dkwX1_mind_2 : List UInt8 := [28, 182, 1, 243, 154, 0, 10, 28, 184, 1, 50, 4, 96, 60, 132, 2, 1, 167, 255, 214, 27, 172]
abbrev dktX1_mind_2 : List UInt8 := dkwX1_mind_2 ++ []
def dkwX1_mind_1 : List UInt8 := [17, 15, 60, 162, 0, 41, 42, 180, 0, 131, 28, 51, 153, 0, 26, 42, 28, 182, 1, 93, 154, 0, 18, 42]
abbrev dktX1_mind_1 : List UInt8 := dkwX1_mind_1 ++ dktX1_mind_2
def dkwX1_mind_0 : List UInt8 := [42, 182, 1, 31, 42, 182, 1, 170, 42, 42, 182, 1, 173, 4, 182, 1, 233, 3, 60, 3, 61, 28]
abbrev dktX1_mind_0 : List UInt8 := dkwX1_mind_0 ++ dktX1_mind_1
theorem dksX1_mind_0 : cX1_mind.data.toList.drop 0 = dktX1_mind_0 := by decide +kernel
theorem dksX1_mind_1 : cX1_mind.data.toList.drop 22 = dktX1_mind_1 := dk_seg dksX1_mind_0 22 rfl rfl
theorem dksX1_mind_2 : cX1_mind.data.toList.drop 46 = dktX1_mind_2 := dk_seg dksX1_mind_1 24 rfl rfl
theorem dX1_mind_0 : decode cX1_mind 0 = .ok (.aload_n 0, 1) := dk_42 (dk_at dksX1_mind_0 0 rfl rfl)
theorem dX1_mind_1 : decode cX1_mind 1 = .ok (.invokevirtual 287, 3) := dk_182 1 31 (dk_at dksX1_mind_0 1 rfl rfl)
theorem dX1_mind_4 : decode cX1_mind 4 = .ok (.aload_n 0, 1) := dk_42 (dk_at dksX1_mind_0 4 rfl rfl)
theorem dX1_mind_5 : decode cX1_mind 5 = .ok (.invokevirtual 426, 3) := dk_182 1 170 (dk_at dksX1_mind_0 5 rfl rfl)
theorem dX1_mind_8 : decode cX1_mind 8 = .ok (.aload_n 0, 1) := dk_42 (dk_at dksX1_mind_0 8 rfl rfl)
theorem dX1_mind_9 : decode cX1_mind 9 = .ok (.aload_n 0, 1) := dk_42 (dk_at dksX1_mind_0 9 rfl rfl)
theorem dX1_mind_10 : decode cX1_mind 10 = .ok (.invokevirtual 429, 3) := dk_182 1 173 (dk_at dksX1_mind_0 10 rfl rfl)
theorem dX1_mind_13 : decode cX1_mind 13 = .ok (.iconst 1, 1) := dk_4 (dk_at dksX1_mind_0 13 rfl rfl)
theorem dX1_mind_14 : decode cX1_mind 14 = .ok (.invokevirtual 489, 3) := dk_182 1 233 (dk_at dksX1_mind_0 14 rfl rfl)
theorem dX1_mind_17 : decode cX1_mind 17 = .ok (.iconst 0, 1) := dk_3 (dk_at dksX1_mind_0 17 rfl rfl)
theorem dX1_mind_18 : decode cX1_mind 18 = .ok (.istore_n 1, 1) := dk_60 (dk_at dksX1_mind_0 18 rfl rfl)
theorem dX1_mind_19 : decode cX1_mind 19 = .ok (.iconst 0, 1) := dk_3 (dk_at dksX1_mind_0 19 rfl rfl)
theorem dX1_mind_20 : decode cX1_mind 20 = .ok (.istore_n 2, 1) := dk_61 (dk_at dksX1_mind_0 20 rfl rfl)
theorem dX1_mind_21 : decode cX1_mind 21 = .ok (.iload_n 2, 1) := dk_28 (dk_at dksX1_mind_0 21 rfl rfl)
theorem dX1_mind_22 : decode cX1_mind 22 = .ok (.sipush 3900, 3) := dk_17 15 60 (dk_at dksX1_mind_1 0 rfl rfl)
theorem dX1_mind_25 : decode cX1_mind 25 = .ok (.if_icmp .ge 41, 3) := dk_162 0 41 (dk_at dksX1_mind_1 3 rfl rfl)
theorem dX1_mind_28 : decode cX1_mind 28 = .ok (.aload_n 0, 1) := dk_42 (dk_at dksX1_mind_1 6 rfl rfl)
theorem dX1_mind_29 : decode cX1_mind 29 = .ok (.getfield 131, 3) := dk_180 0 131 (dk_at dksX1_mind_1 7 rfl rfl)
theorem dX1_mind_32 : decode cX1_mind 32 = .ok (.iload_n 2, 1) := dk_28 (dk_at dksX1_mind_1 10 rfl rfl)
theorem dX1_mind_33 : decode cX1_mind 33 = .ok (.baload, 1) := dk_51 (dk_at dksX1_mind_1 11 rfl rfl)
theorem dX1_mind_34 : decode cX1_mind 34 = .ok (.ifCond .eq 26, 3) := dk_153 0 26 (dk_at dksX1_mind_1 12 rfl rfl)
theorem dX1_mind_37 : decode cX1_mind 37 = .ok (.aload_n 0, 1) := dk_42 (dk_at dksX1_mind_1 15 rfl rfl)
theorem dX1_mind_38 : decode cX1_mind 38 = .ok (.iload_n 2, 1) := dk_28 (dk_at dksX1_mind_1 16 rfl rfl)
theorem dX1_mind_39 : decode cX1_mind 39 = .ok (.invokevirtual 349, 3) := dk_182 1 93 (dk_at dksX1_mind_1 17 rfl rfl)
theorem dX1_mind_42 : decode cX1_mind 42 = .ok (.ifCond .ne 18, 3) := dk_154 0 18 (dk_at dksX1_mind_1 20 rfl rfl)
theorem dX1_mind_45 : decode cX1_mind 45 = .ok (.aload_n 0, 1) := dk_42 (dk_at dksX1_mind_1 23 rfl rfl)
theorem dX1_mind_46 : decode cX1_mind 46 = .ok (.iload_n 2, 1) := dk_28 (dk_at dksX1_mind_2 0 rfl rfl)
theorem dX1_mind_47 : decode cX1_mind 47 = .ok (.invokevirtual 499, 3) := dk_182 1 243 (dk_at dksX1_mind_2 1 rfl rfl)
theorem dX1_mind_50 : decode cX1_mind 50 = .ok (.ifCond .ne 10, 3) := dk_154 0 10 (dk_at dksX1_mind_2 4 rfl rfl)
theorem dX1_mind_53 : decode cX1_mind 53 = .ok (.iload_n 2, 1) := dk_28 (dk_at dksX1_mind_2 7 rfl rfl)
theorem dX1_mind_54 : decode cX1_mind 54 = .ok (.invokestatic 306, 3) := dk_184 1 50 (dk_at dksX1_mind_2 8 rfl rfl)
theorem dX1_mind_57 : decode cX1_mind 57 = .ok (.iconst 1, 1) := dk_4 (dk_at dksX1_mind_2 11 rfl rfl)
theorem dX1_mind_58 : decode cX1_mind 58 = .ok (.iadd, 1) := dk_96 (dk_at dksX1_mind_2 12 rfl rfl)
theorem dX1_mind_59 : decode cX1_mind 59 = .ok (.istore_n 1, 1) := dk_60 (dk_at dksX1_mind_2 13 rfl rfl)
theorem dX1_mind_60 : decode cX1_mind 60 = .ok (.iinc 2 1, 3) := dk_132 2 1 (dk_at dksX1_mind_2 14 rfl rfl)
theorem dX1_mind_63 : decode cX1_mind 63 = .ok (.goto (-42), 3) := dk_167 255 214 (dk_at dksX1_mind_2 17 rfl rfl)
theorem dX1_mind_66 : decode cX1_mind 66 = .ok (.iload_n 1, 1) := dk_27 (dk_at dksX1_mind_2 20 rfl rfl)
theorem dX1_mind_67 : decode cX1_mind 67 = .ok (.ireturn, 1) := dk_172 (dk_at dksX1_mind_2 21 rfl rfl)
abbrev cX1_isOfOneMind : ByteArray := prog_1_method_86_code
def yX1_isOfOneMind : MethodName := ⟨RX1, "isOfOneMind", "(I)Z"⟩
def dkwX1_isOfOneMind_3 : List UInt8 := [132, 5, 1, 167, 255, 214, 21, 4, 172]
abbrev dktX1_isOfOneMind_3 : List UInt8 := dkwX1_isOfOneMind_3 ++ []
def dkwX1_isOfOneMind_2 : List UInt8 := [42, 180, 0, 66, 27, 21, 5, 28, 182, 1, 242, 29, 160, 0, 7, 4, 167, 0, 4, 3, 54, 4]
abbrev dktX1_isOfOneMind_2 : List UInt8 := dkwX1_isOfOneMind_2 ++ dktX1_isOfOneMind_3
def dkwX1_isOfOneMind_1 : List UInt8 := [62, 4, 54, 4, 4, 54, 5, 21, 5, 42, 180, 0, 12, 180, 0, 160, 162, 0, 36, 21, 4, 153, 0, 31]
abbrev dktX1_isOfOneMind_1 : List UInt8 := dkwX1_isOfOneMind_1 ++ dktX1_isOfOneMind_2
def dkwX1_isOfOneMind_0 : List UInt8 := [42, 42, 27, 184, 1, 50, 182, 1, 34, 27, 182, 1, 111, 61, 42, 180, 0, 66, 27, 3, 28, 182, 1, 242]
abbrev dktX1_isOfOneMind_0 : List UInt8 := dkwX1_isOfOneMind_0 ++ dktX1_isOfOneMind_1
theorem dksX1_isOfOneMind_0 : cX1_isOfOneMind.data.toList.drop 0 = dktX1_isOfOneMind_0 := by decide +kernel
theorem dksX1_isOfOneMind_1 : cX1_isOfOneMind.data.toList.drop 24 = dktX1_isOfOneMind_1 := dk_seg dksX1_isOfOneMind_0 24 rfl rfl
theorem dksX1_isOfOneMind_2 : cX1_isOfOneMind.data.toList.drop 48 = dktX1_isOfOneMind_2 := dk_seg dksX1_isOfOneMind_1 24 rfl rfl
theorem dksX1_isOfOneMind_3 : cX1_isOfOneMind.data.toList.drop 70 = dktX1_isOfOneMind_3 := dk_seg dksX1_isOfOneMind_2 22 rfl rfl
theorem dX1_isOfOneMind_0 : decode cX1_isOfOneMind 0 = .ok (.aload_n 0, 1) := dk_42 (dk_at dksX1_isOfOneMind_0 0 rfl rfl)
theorem dX1_isOfOneMind_1 : decode cX1_isOfOneMind 1 = .ok (.aload_n 0, 1) := dk_42 (dk_at dksX1_isOfOneMind_0 1 rfl rfl)
theorem dX1_isOfOneMind_2 : decode cX1_isOfOneMind 2 = .ok (.iload_n 1, 1) := dk_27 (dk_at dksX1_isOfOneMind_0 2 rfl rfl)
theorem dX1_isOfOneMind_3 : decode cX1_isOfOneMind 3 = .ok (.invokestatic 306, 3) := dk_184 1 50 (dk_at dksX1_isOfOneMind_0 3 rfl rfl)
theorem dX1_isOfOneMind_6 : decode cX1_isOfOneMind 6 = .ok (.invokevirtual 290, 3) := dk_182 1 34 (dk_at dksX1_isOfOneMind_0 6 rfl rfl)
theorem dX1_isOfOneMind_9 : decode cX1_isOfOneMind 9 = .ok (.iload_n 1, 1) := dk_27 (dk_at dksX1_isOfOneMind_0 9 rfl rfl)
theorem dX1_isOfOneMind_10 : decode cX1_isOfOneMind 10 = .ok (.invokevirtual 367, 3) := dk_182 1 111 (dk_at dksX1_isOfOneMind_0 10 rfl rfl)
theorem dX1_isOfOneMind_13 : decode cX1_isOfOneMind 13 = .ok (.istore_n 2, 1) := dk_61 (dk_at dksX1_isOfOneMind_0 13 rfl rfl)
theorem dX1_isOfOneMind_14 : decode cX1_isOfOneMind 14 = .ok (.aload_n 0, 1) := dk_42 (dk_at dksX1_isOfOneMind_0 14 rfl rfl)
theorem dX1_isOfOneMind_15 : decode cX1_isOfOneMind 15 = .ok (.getfield 66, 3) := dk_180 0 66 (dk_at dksX1_isOfOneMind_0 15 rfl rfl)
theorem dX1_isOfOneMind_18 : decode cX1_isOfOneMind 18 = .ok (.iload_n 1, 1) := dk_27 (dk_at dksX1_isOfOneMind_0 18 rfl rfl)
theorem dX1_isOfOneMind_19 : decode cX1_isOfOneMind 19 = .ok (.iconst 0, 1) := dk_3 (dk_at dksX1_isOfOneMind_0 19 rfl rfl)
theorem dX1_isOfOneMind_20 : decode cX1_isOfOneMind 20 = .ok (.iload_n 2, 1) := dk_28 (dk_at dksX1_isOfOneMind_0 20 rfl rfl)
theorem dX1_isOfOneMind_21 : decode cX1_isOfOneMind 21 = .ok (.invokevirtual 498, 3) := dk_182 1 242 (dk_at dksX1_isOfOneMind_0 21 rfl rfl)
theorem dX1_isOfOneMind_24 : decode cX1_isOfOneMind 24 = .ok (.istore_n 3, 1) := dk_62 (dk_at dksX1_isOfOneMind_1 0 rfl rfl)
theorem dX1_isOfOneMind_25 : decode cX1_isOfOneMind 25 = .ok (.iconst 1, 1) := dk_4 (dk_at dksX1_isOfOneMind_1 1 rfl rfl)
theorem dX1_isOfOneMind_26 : decode cX1_isOfOneMind 26 = .ok (.istore 4, 2) := dk_54 4 (dk_at dksX1_isOfOneMind_1 2 rfl rfl)
theorem dX1_isOfOneMind_28 : decode cX1_isOfOneMind 28 = .ok (.iconst 1, 1) := dk_4 (dk_at dksX1_isOfOneMind_1 4 rfl rfl)
theorem dX1_isOfOneMind_29 : decode cX1_isOfOneMind 29 = .ok (.istore 5, 2) := dk_54 5 (dk_at dksX1_isOfOneMind_1 5 rfl rfl)
theorem dX1_isOfOneMind_31 : decode cX1_isOfOneMind 31 = .ok (.iload 5, 2) := dk_21 5 (dk_at dksX1_isOfOneMind_1 7 rfl rfl)
theorem dX1_isOfOneMind_33 : decode cX1_isOfOneMind 33 = .ok (.aload_n 0, 1) := dk_42 (dk_at dksX1_isOfOneMind_1 9 rfl rfl)
theorem dX1_isOfOneMind_34 : decode cX1_isOfOneMind 34 = .ok (.getfield 12, 3) := dk_180 0 12 (dk_at dksX1_isOfOneMind_1 10 rfl rfl)
theorem dX1_isOfOneMind_37 : decode cX1_isOfOneMind 37 = .ok (.getfield 160, 3) := dk_180 0 160 (dk_at dksX1_isOfOneMind_1 13 rfl rfl)
theorem dX1_isOfOneMind_40 : decode cX1_isOfOneMind 40 = .ok (.if_icmp .ge 36, 3) := dk_162 0 36 (dk_at dksX1_isOfOneMind_1 16 rfl rfl)
theorem dX1_isOfOneMind_43 : decode cX1_isOfOneMind 43 = .ok (.iload 4, 2) := dk_21 4 (dk_at dksX1_isOfOneMind_1 19 rfl rfl)
theorem dX1_isOfOneMind_45 : decode cX1_isOfOneMind 45 = .ok (.ifCond .eq 31, 3) := dk_153 0 31 (dk_at dksX1_isOfOneMind_1 21 rfl rfl)
theorem dX1_isOfOneMind_48 : decode cX1_isOfOneMind 48 = .ok (.aload_n 0, 1) := dk_42 (dk_at dksX1_isOfOneMind_2 0 rfl rfl)
theorem dX1_isOfOneMind_49 : decode cX1_isOfOneMind 49 = .ok (.getfield 66, 3) := dk_180 0 66 (dk_at dksX1_isOfOneMind_2 1 rfl rfl)
theorem dX1_isOfOneMind_52 : decode cX1_isOfOneMind 52 = .ok (.iload_n 1, 1) := dk_27 (dk_at dksX1_isOfOneMind_2 4 rfl rfl)
theorem dX1_isOfOneMind_53 : decode cX1_isOfOneMind 53 = .ok (.iload 5, 2) := dk_21 5 (dk_at dksX1_isOfOneMind_2 5 rfl rfl)
theorem dX1_isOfOneMind_55 : decode cX1_isOfOneMind 55 = .ok (.iload_n 2, 1) := dk_28 (dk_at dksX1_isOfOneMind_2 7 rfl rfl)
theorem dX1_isOfOneMind_56 : decode cX1_isOfOneMind 56 = .ok (.invokevirtual 498, 3) := dk_182 1 242 (dk_at dksX1_isOfOneMind_2 8 rfl rfl)
theorem dX1_isOfOneMind_59 : decode cX1_isOfOneMind 59 = .ok (.iload_n 3, 1) := dk_29 (dk_at dksX1_isOfOneMind_2 11 rfl rfl)
theorem dX1_isOfOneMind_60 : decode cX1_isOfOneMind 60 = .ok (.if_icmp .ne 7, 3) := dk_160 0 7 (dk_at dksX1_isOfOneMind_2 12 rfl rfl)
theorem dX1_isOfOneMind_63 : decode cX1_isOfOneMind 63 = .ok (.iconst 1, 1) := dk_4 (dk_at dksX1_isOfOneMind_2 15 rfl rfl)
theorem dX1_isOfOneMind_64 : decode cX1_isOfOneMind 64 = .ok (.goto 4, 3) := dk_167 0 4 (dk_at dksX1_isOfOneMind_2 16 rfl rfl)
theorem dX1_isOfOneMind_67 : decode cX1_isOfOneMind 67 = .ok (.iconst 0, 1) := dk_3 (dk_at dksX1_isOfOneMind_2 19 rfl rfl)
theorem dX1_isOfOneMind_68 : decode cX1_isOfOneMind 68 = .ok (.istore 4, 2) := dk_54 4 (dk_at dksX1_isOfOneMind_2 20 rfl rfl)
theorem dX1_isOfOneMind_70 : decode cX1_isOfOneMind 70 = .ok (.iinc 5 1, 3) := dk_132 5 1 (dk_at dksX1_isOfOneMind_3 0 rfl rfl)
theorem dX1_isOfOneMind_73 : decode cX1_isOfOneMind 73 = .ok (.goto (-42), 3) := dk_167 255 214 (dk_at dksX1_isOfOneMind_3 3 rfl rfl)
theorem dX1_isOfOneMind_76 : decode cX1_isOfOneMind 76 = .ok (.iload 4, 2) := dk_21 4 (dk_at dksX1_isOfOneMind_3 6 rfl rfl)
theorem dX1_isOfOneMind_78 : decode cX1_isOfOneMind 78 = .ok (.ireturn, 1) := dk_172 (dk_at dksX1_isOfOneMind_3 8 rfl rfl)
abbrev cX1_arrives : ByteArray := prog_1_method_89_code
def yX1_arrives : MethodName := ⟨RX1, "arrives", "(II)J"⟩
def dkwX1_arrives_5 : List UInt8 := [167, 255, 186, 33, 42, 180, 0, 57, 27, 47, 105, 173]
abbrev dktX1_arrives_5 : List UInt8 := dkwX1_arrives_5 ++ []
def dkwX1_arrives_4 : List UInt8 := [180, 0, 138, 21, 6, 27, 21, 5, 184, 1, 37, 47, 97, 66, 132, 6, 1, 167, 255, 207, 132, 5, 1]
abbrev dktX1_arrives_4 : List UInt8 := dkwX1_arrives_4 ++ dktX1_arrives_5
def dkwX1_arrives_3 : List UInt8 := [162, 0, 43, 42, 21, 6, 27, 21, 5, 184, 1, 37, 182, 1, 93, 28, 4, 96, 160, 0, 19, 33, 42]
abbrev dktX1_arrives_3 : List UInt8 := dkwX1_arrives_3 ++ dktX1_arrives_4
def dkwX1_arrives_2 : List UInt8 := [21, 5, 42, 180, 0, 12, 180, 0, 246, 163, 0, 64, 3, 54, 6, 21, 6, 42, 180, 0, 12, 180, 0, 208]
abbrev dktX1_arrives_2 : List UInt8 := dkwX1_arrives_2 ++ dktX1_arrives_3
def dkwX1_arrives_1 : List UInt8 := [184, 0, 163, 154, 0, 7, 4, 167, 0, 4, 3, 182, 0, 173, 42, 182, 1, 246, 9, 66, 3, 54, 5]
abbrev dktX1_arrives_1 : List UInt8 := dkwX1_arrives_1 ++ dktX1_arrives_2
def dkwX1_arrives_0 : List UInt8 := [42, 182, 1, 31, 42, 27, 3, 42, 180, 0, 12, 180, 0, 237, 184, 0, 163, 153, 0, 12, 28, 3, 5]
abbrev dktX1_arrives_0 : List UInt8 := dkwX1_arrives_0 ++ dktX1_arrives_1
theorem dksX1_arrives_0 : cX1_arrives.data.toList.drop 0 = dktX1_arrives_0 := by decide +kernel
theorem dksX1_arrives_1 : cX1_arrives.data.toList.drop 23 = dktX1_arrives_1 := dk_seg dksX1_arrives_0 23 rfl rfl
theorem dksX1_arrives_2 : cX1_arrives.data.toList.drop 46 = dktX1_arrives_2 := dk_seg dksX1_arrives_1 23 rfl rfl
theorem dksX1_arrives_3 : cX1_arrives.data.toList.drop 70 = dktX1_arrives_3 := dk_seg dksX1_arrives_2 24 rfl rfl
theorem dksX1_arrives_4 : cX1_arrives.data.toList.drop 93 = dktX1_arrives_4 := dk_seg dksX1_arrives_3 23 rfl rfl
theorem dksX1_arrives_5 : cX1_arrives.data.toList.drop 116 = dktX1_arrives_5 := dk_seg dksX1_arrives_4 23 rfl rfl
theorem dX1_arrives_0 : decode cX1_arrives 0 = .ok (.aload_n 0, 1) := dk_42 (dk_at dksX1_arrives_0 0 rfl rfl)
theorem dX1_arrives_1 : decode cX1_arrives 1 = .ok (.invokevirtual 287, 3) := dk_182 1 31 (dk_at dksX1_arrives_0 1 rfl rfl)
theorem dX1_arrives_4 : decode cX1_arrives 4 = .ok (.aload_n 0, 1) := dk_42 (dk_at dksX1_arrives_0 4 rfl rfl)
theorem dX1_arrives_5 : decode cX1_arrives 5 = .ok (.iload_n 1, 1) := dk_27 (dk_at dksX1_arrives_0 5 rfl rfl)
theorem dX1_arrives_6 : decode cX1_arrives 6 = .ok (.iconst 0, 1) := dk_3 (dk_at dksX1_arrives_0 6 rfl rfl)
theorem dX1_arrives_7 : decode cX1_arrives 7 = .ok (.aload_n 0, 1) := dk_42 (dk_at dksX1_arrives_0 7 rfl rfl)
theorem dX1_arrives_8 : decode cX1_arrives 8 = .ok (.getfield 12, 3) := dk_180 0 12 (dk_at dksX1_arrives_0 8 rfl rfl)
theorem dX1_arrives_11 : decode cX1_arrives 11 = .ok (.getfield 237, 3) := dk_180 0 237 (dk_at dksX1_arrives_0 11 rfl rfl)
theorem dX1_arrives_14 : decode cX1_arrives 14 = .ok (.invokestatic 163, 3) := dk_184 0 163 (dk_at dksX1_arrives_0 14 rfl rfl)
theorem dX1_arrives_17 : decode cX1_arrives 17 = .ok (.ifCond .eq 12, 3) := dk_153 0 12 (dk_at dksX1_arrives_0 17 rfl rfl)
theorem dX1_arrives_20 : decode cX1_arrives 20 = .ok (.iload_n 2, 1) := dk_28 (dk_at dksX1_arrives_0 20 rfl rfl)
theorem dX1_arrives_21 : decode cX1_arrives 21 = .ok (.iconst 0, 1) := dk_3 (dk_at dksX1_arrives_0 21 rfl rfl)
theorem dX1_arrives_22 : decode cX1_arrives 22 = .ok (.iconst 2, 1) := dk_5 (dk_at dksX1_arrives_0 22 rfl rfl)
theorem dX1_arrives_23 : decode cX1_arrives 23 = .ok (.invokestatic 163, 3) := dk_184 0 163 (dk_at dksX1_arrives_1 0 rfl rfl)
theorem dX1_arrives_26 : decode cX1_arrives 26 = .ok (.ifCond .ne 7, 3) := dk_154 0 7 (dk_at dksX1_arrives_1 3 rfl rfl)
theorem dX1_arrives_29 : decode cX1_arrives 29 = .ok (.iconst 1, 1) := dk_4 (dk_at dksX1_arrives_1 6 rfl rfl)
theorem dX1_arrives_30 : decode cX1_arrives 30 = .ok (.goto 4, 3) := dk_167 0 4 (dk_at dksX1_arrives_1 7 rfl rfl)
theorem dX1_arrives_33 : decode cX1_arrives 33 = .ok (.iconst 0, 1) := dk_3 (dk_at dksX1_arrives_1 10 rfl rfl)
theorem dX1_arrives_34 : decode cX1_arrives 34 = .ok (.invokevirtual 173, 3) := dk_182 0 173 (dk_at dksX1_arrives_1 11 rfl rfl)
theorem dX1_arrives_37 : decode cX1_arrives 37 = .ok (.aload_n 0, 1) := dk_42 (dk_at dksX1_arrives_1 14 rfl rfl)
theorem dX1_arrives_38 : decode cX1_arrives 38 = .ok (.invokevirtual 502, 3) := dk_182 1 246 (dk_at dksX1_arrives_1 15 rfl rfl)
theorem dX1_arrives_41 : decode cX1_arrives 41 = .ok (.lconst 0, 1) := dk_9 (dk_at dksX1_arrives_1 18 rfl rfl)
theorem dX1_arrives_42 : decode cX1_arrives 42 = .ok (.lstore_n 3, 1) := dk_66 (dk_at dksX1_arrives_1 19 rfl rfl)
theorem dX1_arrives_43 : decode cX1_arrives 43 = .ok (.iconst 0, 1) := dk_3 (dk_at dksX1_arrives_1 20 rfl rfl)
theorem dX1_arrives_44 : decode cX1_arrives 44 = .ok (.istore 5, 2) := dk_54 5 (dk_at dksX1_arrives_1 21 rfl rfl)
theorem dX1_arrives_46 : decode cX1_arrives 46 = .ok (.iload 5, 2) := dk_21 5 (dk_at dksX1_arrives_2 0 rfl rfl)
theorem dX1_arrives_48 : decode cX1_arrives 48 = .ok (.aload_n 0, 1) := dk_42 (dk_at dksX1_arrives_2 2 rfl rfl)
theorem dX1_arrives_49 : decode cX1_arrives 49 = .ok (.getfield 12, 3) := dk_180 0 12 (dk_at dksX1_arrives_2 3 rfl rfl)
theorem dX1_arrives_52 : decode cX1_arrives 52 = .ok (.getfield 246, 3) := dk_180 0 246 (dk_at dksX1_arrives_2 6 rfl rfl)
theorem dX1_arrives_55 : decode cX1_arrives 55 = .ok (.if_icmp .gt 64, 3) := dk_163 0 64 (dk_at dksX1_arrives_2 9 rfl rfl)
theorem dX1_arrives_58 : decode cX1_arrives 58 = .ok (.iconst 0, 1) := dk_3 (dk_at dksX1_arrives_2 12 rfl rfl)
theorem dX1_arrives_59 : decode cX1_arrives 59 = .ok (.istore 6, 2) := dk_54 6 (dk_at dksX1_arrives_2 13 rfl rfl)
theorem dX1_arrives_61 : decode cX1_arrives 61 = .ok (.iload 6, 2) := dk_21 6 (dk_at dksX1_arrives_2 15 rfl rfl)
theorem dX1_arrives_63 : decode cX1_arrives 63 = .ok (.aload_n 0, 1) := dk_42 (dk_at dksX1_arrives_2 17 rfl rfl)
theorem dX1_arrives_64 : decode cX1_arrives 64 = .ok (.getfield 12, 3) := dk_180 0 12 (dk_at dksX1_arrives_2 18 rfl rfl)
theorem dX1_arrives_67 : decode cX1_arrives 67 = .ok (.getfield 208, 3) := dk_180 0 208 (dk_at dksX1_arrives_2 21 rfl rfl)
theorem dX1_arrives_70 : decode cX1_arrives 70 = .ok (.if_icmp .ge 43, 3) := dk_162 0 43 (dk_at dksX1_arrives_3 0 rfl rfl)
theorem dX1_arrives_73 : decode cX1_arrives 73 = .ok (.aload_n 0, 1) := dk_42 (dk_at dksX1_arrives_3 3 rfl rfl)
theorem dX1_arrives_74 : decode cX1_arrives 74 = .ok (.iload 6, 2) := dk_21 6 (dk_at dksX1_arrives_3 4 rfl rfl)
theorem dX1_arrives_76 : decode cX1_arrives 76 = .ok (.iload_n 1, 1) := dk_27 (dk_at dksX1_arrives_3 6 rfl rfl)
theorem dX1_arrives_77 : decode cX1_arrives 77 = .ok (.iload 5, 2) := dk_21 5 (dk_at dksX1_arrives_3 7 rfl rfl)
theorem dX1_arrives_79 : decode cX1_arrives 79 = .ok (.invokestatic 293, 3) := dk_184 1 37 (dk_at dksX1_arrives_3 9 rfl rfl)
theorem dX1_arrives_82 : decode cX1_arrives 82 = .ok (.invokevirtual 349, 3) := dk_182 1 93 (dk_at dksX1_arrives_3 12 rfl rfl)
theorem dX1_arrives_85 : decode cX1_arrives 85 = .ok (.iload_n 2, 1) := dk_28 (dk_at dksX1_arrives_3 15 rfl rfl)
theorem dX1_arrives_86 : decode cX1_arrives 86 = .ok (.iconst 1, 1) := dk_4 (dk_at dksX1_arrives_3 16 rfl rfl)
theorem dX1_arrives_87 : decode cX1_arrives 87 = .ok (.iadd, 1) := dk_96 (dk_at dksX1_arrives_3 17 rfl rfl)
theorem dX1_arrives_88 : decode cX1_arrives 88 = .ok (.if_icmp .ne 19, 3) := dk_160 0 19 (dk_at dksX1_arrives_3 18 rfl rfl)
theorem dX1_arrives_91 : decode cX1_arrives 91 = .ok (.lload_n 3, 1) := dk_33 (dk_at dksX1_arrives_3 21 rfl rfl)
theorem dX1_arrives_92 : decode cX1_arrives 92 = .ok (.aload_n 0, 1) := dk_42 (dk_at dksX1_arrives_3 22 rfl rfl)
theorem dX1_arrives_93 : decode cX1_arrives 93 = .ok (.getfield 138, 3) := dk_180 0 138 (dk_at dksX1_arrives_4 0 rfl rfl)
theorem dX1_arrives_96 : decode cX1_arrives 96 = .ok (.iload 6, 2) := dk_21 6 (dk_at dksX1_arrives_4 3 rfl rfl)
theorem dX1_arrives_98 : decode cX1_arrives 98 = .ok (.iload_n 1, 1) := dk_27 (dk_at dksX1_arrives_4 5 rfl rfl)
theorem dX1_arrives_99 : decode cX1_arrives 99 = .ok (.iload 5, 2) := dk_21 5 (dk_at dksX1_arrives_4 6 rfl rfl)
theorem dX1_arrives_101 : decode cX1_arrives 101 = .ok (.invokestatic 293, 3) := dk_184 1 37 (dk_at dksX1_arrives_4 8 rfl rfl)
theorem dX1_arrives_104 : decode cX1_arrives 104 = .ok (.laload, 1) := dk_47 (dk_at dksX1_arrives_4 11 rfl rfl)
theorem dX1_arrives_105 : decode cX1_arrives 105 = .ok (.ladd, 1) := dk_97 (dk_at dksX1_arrives_4 12 rfl rfl)
theorem dX1_arrives_106 : decode cX1_arrives 106 = .ok (.lstore_n 3, 1) := dk_66 (dk_at dksX1_arrives_4 13 rfl rfl)
theorem dX1_arrives_107 : decode cX1_arrives 107 = .ok (.iinc 6 1, 3) := dk_132 6 1 (dk_at dksX1_arrives_4 14 rfl rfl)
theorem dX1_arrives_110 : decode cX1_arrives 110 = .ok (.goto (-49), 3) := dk_167 255 207 (dk_at dksX1_arrives_4 17 rfl rfl)
theorem dX1_arrives_113 : decode cX1_arrives 113 = .ok (.iinc 5 1, 3) := dk_132 5 1 (dk_at dksX1_arrives_4 20 rfl rfl)
theorem dX1_arrives_116 : decode cX1_arrives 116 = .ok (.goto (-70), 3) := dk_167 255 186 (dk_at dksX1_arrives_5 0 rfl rfl)
theorem dX1_arrives_119 : decode cX1_arrives 119 = .ok (.lload_n 3, 1) := dk_33 (dk_at dksX1_arrives_5 3 rfl rfl)
theorem dX1_arrives_120 : decode cX1_arrives 120 = .ok (.aload_n 0, 1) := dk_42 (dk_at dksX1_arrives_5 4 rfl rfl)
theorem dX1_arrives_121 : decode cX1_arrives 121 = .ok (.getfield 57, 3) := dk_180 0 57 (dk_at dksX1_arrives_5 5 rfl rfl)
theorem dX1_arrives_124 : decode cX1_arrives 124 = .ok (.iload_n 1, 1) := dk_27 (dk_at dksX1_arrives_5 8 rfl rfl)
theorem dX1_arrives_125 : decode cX1_arrives 125 = .ok (.laload, 1) := dk_47 (dk_at dksX1_arrives_5 9 rfl rfl)
theorem dX1_arrives_126 : decode cX1_arrives 126 = .ok (.lmul, 1) := dk_105 (dk_at dksX1_arrives_5 10 rfl rfl)
theorem dX1_arrives_127 : decode cX1_arrives 127 = .ok (.lreturn, 1) := dk_173 (dk_at dksX1_arrives_5 11 rfl rfl)
abbrev cX1_findMass : ByteArray := prog_1_method_88_code
def yX1_findMass : MethodName := ⟨RX1, "findMass", "()V"⟩
def dkwX1_findMass_7 : List UInt8 := [92, 47, 21, 4, 133, 42, 180, 0, 138, 27, 47, 105, 97, 80, 132, 1, 1, 167, 255, 116, 177]
abbrev dktX1_findMass_7 : List UInt8 := dkwX1_findMass_7 ++ []
def dkwX1_findMass_6 : List UInt8 := [42, 180, 0, 138, 27, 47, 105, 97, 80, 21, 4, 158, 0, 27, 42, 180, 0, 138, 42, 27, 3, 182, 1, 167]
abbrev dktX1_findMass_6 : List UInt8 := dkwX1_findMass_6 ++ dktX1_findMass_7
def dkwX1_findMass_5 : List UInt8 := [167, 0, 4, 10, 55, 5, 42, 180, 0, 138, 42, 27, 28, 182, 1, 167, 92, 47, 22, 5, 21, 4, 133, 101]
abbrev dktX1_findMass_5 : List UInt8 := dkwX1_findMass_5 ++ dktX1_findMass_6
def dkwX1_findMass_4 : List UInt8 := [180, 1, 7, 28, 4, 100, 50, 29, 46, 54, 4, 42, 29, 182, 1, 87, 153, 0, 9, 20, 1, 91]
abbrev dktX1_findMass_4 : List UInt8 := dkwX1_findMass_4 ++ dktX1_findMass_5
def dkwX1_findMass_3 : List UInt8 := [180, 0, 128, 27, 51, 61, 27, 184, 1, 50, 62, 28, 154, 0, 7, 3, 167, 0, 16, 42, 180, 0, 12]
abbrev dktX1_findMass_3 : List UInt8 := dkwX1_findMass_3 ++ dktX1_findMass_4
def dkwX1_findMass_2 : List UInt8 := [42, 180, 0, 138, 27, 47, 9, 148, 153, 0, 122, 42, 27, 182, 1, 93, 153, 0, 6, 167, 0, 111, 42]
abbrev dktX1_findMass_2 : List UInt8 := dkwX1_findMass_2 ++ dktX1_findMass_3
def dkwX1_findMass_1 : List UInt8 := [160, 0, 7, 10, 167, 0, 4, 9, 80, 132, 1, 1, 167, 255, 227, 3, 60, 27, 17, 15, 60, 162, 0, 139]
abbrev dktX1_findMass_1 : List UInt8 := dkwX1_findMass_1 ++ dktX1_findMass_2
def dkwX1_findMass_0 : List UInt8 := [42, 182, 1, 170, 3, 60, 27, 17, 15, 60, 162, 0, 28, 42, 180, 0, 138, 27, 27, 42, 182, 1, 173]
abbrev dktX1_findMass_0 : List UInt8 := dkwX1_findMass_0 ++ dktX1_findMass_1
theorem dksX1_findMass_0 : cX1_findMass.data.toList.drop 0 = dktX1_findMass_0 := by decide +kernel
theorem dksX1_findMass_1 : cX1_findMass.data.toList.drop 23 = dktX1_findMass_1 := dk_seg dksX1_findMass_0 23 rfl rfl
theorem dksX1_findMass_2 : cX1_findMass.data.toList.drop 47 = dktX1_findMass_2 := dk_seg dksX1_findMass_1 24 rfl rfl
theorem dksX1_findMass_3 : cX1_findMass.data.toList.drop 70 = dktX1_findMass_3 := dk_seg dksX1_findMass_2 23 rfl rfl
theorem dksX1_findMass_4 : cX1_findMass.data.toList.drop 93 = dktX1_findMass_4 := dk_seg dksX1_findMass_3 23 rfl rfl
theorem dksX1_findMass_5 : cX1_findMass.data.toList.drop 115 = dktX1_findMass_5 := dk_seg dksX1_findMass_4 22 rfl rfl
theorem dksX1_findMass_6 : cX1_findMass.data.toList.drop 139 = dktX1_findMass_6 := dk_seg dksX1_findMass_5 24 rfl rfl
theorem dksX1_findMass_7 : cX1_findMass.data.toList.drop 163 = dktX1_findMass_7 := dk_seg dksX1_findMass_6 24 rfl rfl
theorem dX1_findMass_0 : decode cX1_findMass 0 = .ok (.aload_n 0, 1) := dk_42 (dk_at dksX1_findMass_0 0 rfl rfl)
theorem dX1_findMass_1 : decode cX1_findMass 1 = .ok (.invokevirtual 426, 3) := dk_182 1 170 (dk_at dksX1_findMass_0 1 rfl rfl)
theorem dX1_findMass_4 : decode cX1_findMass 4 = .ok (.iconst 0, 1) := dk_3 (dk_at dksX1_findMass_0 4 rfl rfl)
theorem dX1_findMass_5 : decode cX1_findMass 5 = .ok (.istore_n 1, 1) := dk_60 (dk_at dksX1_findMass_0 5 rfl rfl)
theorem dX1_findMass_6 : decode cX1_findMass 6 = .ok (.iload_n 1, 1) := dk_27 (dk_at dksX1_findMass_0 6 rfl rfl)
theorem dX1_findMass_7 : decode cX1_findMass 7 = .ok (.sipush 3900, 3) := dk_17 15 60 (dk_at dksX1_findMass_0 7 rfl rfl)
theorem dX1_findMass_10 : decode cX1_findMass 10 = .ok (.if_icmp .ge 28, 3) := dk_162 0 28 (dk_at dksX1_findMass_0 10 rfl rfl)
theorem dX1_findMass_13 : decode cX1_findMass 13 = .ok (.aload_n 0, 1) := dk_42 (dk_at dksX1_findMass_0 13 rfl rfl)
theorem dX1_findMass_14 : decode cX1_findMass 14 = .ok (.getfield 138, 3) := dk_180 0 138 (dk_at dksX1_findMass_0 14 rfl rfl)
theorem dX1_findMass_17 : decode cX1_findMass 17 = .ok (.iload_n 1, 1) := dk_27 (dk_at dksX1_findMass_0 17 rfl rfl)
theorem dX1_findMass_18 : decode cX1_findMass 18 = .ok (.iload_n 1, 1) := dk_27 (dk_at dksX1_findMass_0 18 rfl rfl)
theorem dX1_findMass_19 : decode cX1_findMass 19 = .ok (.aload_n 0, 1) := dk_42 (dk_at dksX1_findMass_0 19 rfl rfl)
theorem dX1_findMass_20 : decode cX1_findMass 20 = .ok (.invokevirtual 429, 3) := dk_182 1 173 (dk_at dksX1_findMass_0 20 rfl rfl)
theorem dX1_findMass_23 : decode cX1_findMass 23 = .ok (.if_icmp .ne 7, 3) := dk_160 0 7 (dk_at dksX1_findMass_1 0 rfl rfl)
theorem dX1_findMass_26 : decode cX1_findMass 26 = .ok (.lconst 1, 1) := dk_10 (dk_at dksX1_findMass_1 3 rfl rfl)
theorem dX1_findMass_27 : decode cX1_findMass 27 = .ok (.goto 4, 3) := dk_167 0 4 (dk_at dksX1_findMass_1 4 rfl rfl)
theorem dX1_findMass_30 : decode cX1_findMass 30 = .ok (.lconst 0, 1) := dk_9 (dk_at dksX1_findMass_1 7 rfl rfl)
theorem dX1_findMass_31 : decode cX1_findMass 31 = .ok (.lastore, 1) := dk_80 (dk_at dksX1_findMass_1 8 rfl rfl)
theorem dX1_findMass_32 : decode cX1_findMass 32 = .ok (.iinc 1 1, 3) := dk_132 1 1 (dk_at dksX1_findMass_1 9 rfl rfl)
theorem dX1_findMass_35 : decode cX1_findMass 35 = .ok (.goto (-29), 3) := dk_167 255 227 (dk_at dksX1_findMass_1 12 rfl rfl)
theorem dX1_findMass_38 : decode cX1_findMass 38 = .ok (.iconst 0, 1) := dk_3 (dk_at dksX1_findMass_1 15 rfl rfl)
theorem dX1_findMass_39 : decode cX1_findMass 39 = .ok (.istore_n 1, 1) := dk_60 (dk_at dksX1_findMass_1 16 rfl rfl)
theorem dX1_findMass_40 : decode cX1_findMass 40 = .ok (.iload_n 1, 1) := dk_27 (dk_at dksX1_findMass_1 17 rfl rfl)
theorem dX1_findMass_41 : decode cX1_findMass 41 = .ok (.sipush 3900, 3) := dk_17 15 60 (dk_at dksX1_findMass_1 18 rfl rfl)
theorem dX1_findMass_44 : decode cX1_findMass 44 = .ok (.if_icmp .ge 139, 3) := dk_162 0 139 (dk_at dksX1_findMass_1 21 rfl rfl)
theorem dX1_findMass_47 : decode cX1_findMass 47 = .ok (.aload_n 0, 1) := dk_42 (dk_at dksX1_findMass_2 0 rfl rfl)
theorem dX1_findMass_48 : decode cX1_findMass 48 = .ok (.getfield 138, 3) := dk_180 0 138 (dk_at dksX1_findMass_2 1 rfl rfl)
theorem dX1_findMass_51 : decode cX1_findMass 51 = .ok (.iload_n 1, 1) := dk_27 (dk_at dksX1_findMass_2 4 rfl rfl)
theorem dX1_findMass_52 : decode cX1_findMass 52 = .ok (.laload, 1) := dk_47 (dk_at dksX1_findMass_2 5 rfl rfl)
theorem dX1_findMass_53 : decode cX1_findMass 53 = .ok (.lconst 0, 1) := dk_9 (dk_at dksX1_findMass_2 6 rfl rfl)
theorem dX1_findMass_54 : decode cX1_findMass 54 = .ok (.lcmp, 1) := dk_148 (dk_at dksX1_findMass_2 7 rfl rfl)
theorem dX1_findMass_55 : decode cX1_findMass 55 = .ok (.ifCond .eq 122, 3) := dk_153 0 122 (dk_at dksX1_findMass_2 8 rfl rfl)
theorem dX1_findMass_58 : decode cX1_findMass 58 = .ok (.aload_n 0, 1) := dk_42 (dk_at dksX1_findMass_2 11 rfl rfl)
theorem dX1_findMass_59 : decode cX1_findMass 59 = .ok (.iload_n 1, 1) := dk_27 (dk_at dksX1_findMass_2 12 rfl rfl)
theorem dX1_findMass_60 : decode cX1_findMass 60 = .ok (.invokevirtual 349, 3) := dk_182 1 93 (dk_at dksX1_findMass_2 13 rfl rfl)
theorem dX1_findMass_63 : decode cX1_findMass 63 = .ok (.ifCond .eq 6, 3) := dk_153 0 6 (dk_at dksX1_findMass_2 16 rfl rfl)
theorem dX1_findMass_66 : decode cX1_findMass 66 = .ok (.goto 111, 3) := dk_167 0 111 (dk_at dksX1_findMass_2 19 rfl rfl)
theorem dX1_findMass_69 : decode cX1_findMass 69 = .ok (.aload_n 0, 1) := dk_42 (dk_at dksX1_findMass_2 22 rfl rfl)
theorem dX1_findMass_70 : decode cX1_findMass 70 = .ok (.getfield 128, 3) := dk_180 0 128 (dk_at dksX1_findMass_3 0 rfl rfl)
theorem dX1_findMass_73 : decode cX1_findMass 73 = .ok (.iload_n 1, 1) := dk_27 (dk_at dksX1_findMass_3 3 rfl rfl)
theorem dX1_findMass_74 : decode cX1_findMass 74 = .ok (.baload, 1) := dk_51 (dk_at dksX1_findMass_3 4 rfl rfl)
theorem dX1_findMass_75 : decode cX1_findMass 75 = .ok (.istore_n 2, 1) := dk_61 (dk_at dksX1_findMass_3 5 rfl rfl)
theorem dX1_findMass_76 : decode cX1_findMass 76 = .ok (.iload_n 1, 1) := dk_27 (dk_at dksX1_findMass_3 6 rfl rfl)
theorem dX1_findMass_77 : decode cX1_findMass 77 = .ok (.invokestatic 306, 3) := dk_184 1 50 (dk_at dksX1_findMass_3 7 rfl rfl)
theorem dX1_findMass_80 : decode cX1_findMass 80 = .ok (.istore_n 3, 1) := dk_62 (dk_at dksX1_findMass_3 10 rfl rfl)
theorem dX1_findMass_81 : decode cX1_findMass 81 = .ok (.iload_n 2, 1) := dk_28 (dk_at dksX1_findMass_3 11 rfl rfl)
theorem dX1_findMass_82 : decode cX1_findMass 82 = .ok (.ifCond .ne 7, 3) := dk_154 0 7 (dk_at dksX1_findMass_3 12 rfl rfl)
theorem dX1_findMass_85 : decode cX1_findMass 85 = .ok (.iconst 0, 1) := dk_3 (dk_at dksX1_findMass_3 15 rfl rfl)
theorem dX1_findMass_86 : decode cX1_findMass 86 = .ok (.goto 16, 3) := dk_167 0 16 (dk_at dksX1_findMass_3 16 rfl rfl)
theorem dX1_findMass_89 : decode cX1_findMass 89 = .ok (.aload_n 0, 1) := dk_42 (dk_at dksX1_findMass_3 19 rfl rfl)
theorem dX1_findMass_90 : decode cX1_findMass 90 = .ok (.getfield 12, 3) := dk_180 0 12 (dk_at dksX1_findMass_3 20 rfl rfl)
theorem dX1_findMass_93 : decode cX1_findMass 93 = .ok (.getfield 263, 3) := dk_180 1 7 (dk_at dksX1_findMass_4 0 rfl rfl)
theorem dX1_findMass_96 : decode cX1_findMass 96 = .ok (.iload_n 2, 1) := dk_28 (dk_at dksX1_findMass_4 3 rfl rfl)
theorem dX1_findMass_97 : decode cX1_findMass 97 = .ok (.iconst 1, 1) := dk_4 (dk_at dksX1_findMass_4 4 rfl rfl)
theorem dX1_findMass_98 : decode cX1_findMass 98 = .ok (.isub, 1) := dk_100 (dk_at dksX1_findMass_4 5 rfl rfl)
theorem dX1_findMass_99 : decode cX1_findMass 99 = .ok (.aaload, 1) := dk_50 (dk_at dksX1_findMass_4 6 rfl rfl)
theorem dX1_findMass_100 : decode cX1_findMass 100 = .ok (.iload_n 3, 1) := dk_29 (dk_at dksX1_findMass_4 7 rfl rfl)
theorem dX1_findMass_101 : decode cX1_findMass 101 = .ok (.iaload, 1) := dk_46 (dk_at dksX1_findMass_4 8 rfl rfl)
theorem dX1_findMass_102 : decode cX1_findMass 102 = .ok (.istore 4, 2) := dk_54 4 (dk_at dksX1_findMass_4 9 rfl rfl)
theorem dX1_findMass_104 : decode cX1_findMass 104 = .ok (.aload_n 0, 1) := dk_42 (dk_at dksX1_findMass_4 11 rfl rfl)
theorem dX1_findMass_105 : decode cX1_findMass 105 = .ok (.iload_n 3, 1) := dk_29 (dk_at dksX1_findMass_4 12 rfl rfl)
theorem dX1_findMass_106 : decode cX1_findMass 106 = .ok (.invokevirtual 343, 3) := dk_182 1 87 (dk_at dksX1_findMass_4 13 rfl rfl)
theorem dX1_findMass_109 : decode cX1_findMass 109 = .ok (.ifCond .eq 9, 3) := dk_153 0 9 (dk_at dksX1_findMass_4 16 rfl rfl)
theorem dX1_findMass_112 : decode cX1_findMass 112 = .ok (.ldc2_w 347, 3) := dk_20 1 91 (dk_at dksX1_findMass_4 19 rfl rfl)
theorem dX1_findMass_115 : decode cX1_findMass 115 = .ok (.goto 4, 3) := dk_167 0 4 (dk_at dksX1_findMass_5 0 rfl rfl)
theorem dX1_findMass_118 : decode cX1_findMass 118 = .ok (.lconst 1, 1) := dk_10 (dk_at dksX1_findMass_5 3 rfl rfl)
theorem dX1_findMass_119 : decode cX1_findMass 119 = .ok (.lstore 5, 2) := dk_55 5 (dk_at dksX1_findMass_5 4 rfl rfl)
theorem dX1_findMass_121 : decode cX1_findMass 121 = .ok (.aload_n 0, 1) := dk_42 (dk_at dksX1_findMass_5 6 rfl rfl)
theorem dX1_findMass_122 : decode cX1_findMass 122 = .ok (.getfield 138, 3) := dk_180 0 138 (dk_at dksX1_findMass_5 7 rfl rfl)
theorem dX1_findMass_125 : decode cX1_findMass 125 = .ok (.aload_n 0, 1) := dk_42 (dk_at dksX1_findMass_5 10 rfl rfl)
theorem dX1_findMass_126 : decode cX1_findMass 126 = .ok (.iload_n 1, 1) := dk_27 (dk_at dksX1_findMass_5 11 rfl rfl)
theorem dX1_findMass_127 : decode cX1_findMass 127 = .ok (.iload_n 2, 1) := dk_28 (dk_at dksX1_findMass_5 12 rfl rfl)
theorem dX1_findMass_128 : decode cX1_findMass 128 = .ok (.invokevirtual 423, 3) := dk_182 1 167 (dk_at dksX1_findMass_5 13 rfl rfl)
theorem dX1_findMass_131 : decode cX1_findMass 131 = .ok (.dup2, 1) := dk_92 (dk_at dksX1_findMass_5 16 rfl rfl)
theorem dX1_findMass_132 : decode cX1_findMass 132 = .ok (.laload, 1) := dk_47 (dk_at dksX1_findMass_5 17 rfl rfl)
theorem dX1_findMass_133 : decode cX1_findMass 133 = .ok (.lload 5, 2) := dk_22 5 (dk_at dksX1_findMass_5 18 rfl rfl)
theorem dX1_findMass_135 : decode cX1_findMass 135 = .ok (.iload 4, 2) := dk_21 4 (dk_at dksX1_findMass_5 20 rfl rfl)
theorem dX1_findMass_137 : decode cX1_findMass 137 = .ok (.i2l, 1) := dk_133 (dk_at dksX1_findMass_5 22 rfl rfl)
theorem dX1_findMass_138 : decode cX1_findMass 138 = .ok (.lsub, 1) := dk_101 (dk_at dksX1_findMass_5 23 rfl rfl)
theorem dX1_findMass_139 : decode cX1_findMass 139 = .ok (.aload_n 0, 1) := dk_42 (dk_at dksX1_findMass_6 0 rfl rfl)
theorem dX1_findMass_140 : decode cX1_findMass 140 = .ok (.getfield 138, 3) := dk_180 0 138 (dk_at dksX1_findMass_6 1 rfl rfl)
theorem dX1_findMass_143 : decode cX1_findMass 143 = .ok (.iload_n 1, 1) := dk_27 (dk_at dksX1_findMass_6 4 rfl rfl)
theorem dX1_findMass_144 : decode cX1_findMass 144 = .ok (.laload, 1) := dk_47 (dk_at dksX1_findMass_6 5 rfl rfl)
theorem dX1_findMass_145 : decode cX1_findMass 145 = .ok (.lmul, 1) := dk_105 (dk_at dksX1_findMass_6 6 rfl rfl)
theorem dX1_findMass_146 : decode cX1_findMass 146 = .ok (.ladd, 1) := dk_97 (dk_at dksX1_findMass_6 7 rfl rfl)
theorem dX1_findMass_147 : decode cX1_findMass 147 = .ok (.lastore, 1) := dk_80 (dk_at dksX1_findMass_6 8 rfl rfl)
theorem dX1_findMass_148 : decode cX1_findMass 148 = .ok (.iload 4, 2) := dk_21 4 (dk_at dksX1_findMass_6 9 rfl rfl)
theorem dX1_findMass_150 : decode cX1_findMass 150 = .ok (.ifCond .le 27, 3) := dk_158 0 27 (dk_at dksX1_findMass_6 11 rfl rfl)
theorem dX1_findMass_153 : decode cX1_findMass 153 = .ok (.aload_n 0, 1) := dk_42 (dk_at dksX1_findMass_6 14 rfl rfl)
theorem dX1_findMass_154 : decode cX1_findMass 154 = .ok (.getfield 138, 3) := dk_180 0 138 (dk_at dksX1_findMass_6 15 rfl rfl)
theorem dX1_findMass_157 : decode cX1_findMass 157 = .ok (.aload_n 0, 1) := dk_42 (dk_at dksX1_findMass_6 18 rfl rfl)
theorem dX1_findMass_158 : decode cX1_findMass 158 = .ok (.iload_n 1, 1) := dk_27 (dk_at dksX1_findMass_6 19 rfl rfl)
theorem dX1_findMass_159 : decode cX1_findMass 159 = .ok (.iconst 0, 1) := dk_3 (dk_at dksX1_findMass_6 20 rfl rfl)
theorem dX1_findMass_160 : decode cX1_findMass 160 = .ok (.invokevirtual 423, 3) := dk_182 1 167 (dk_at dksX1_findMass_6 21 rfl rfl)
theorem dX1_findMass_163 : decode cX1_findMass 163 = .ok (.dup2, 1) := dk_92 (dk_at dksX1_findMass_7 0 rfl rfl)
theorem dX1_findMass_164 : decode cX1_findMass 164 = .ok (.laload, 1) := dk_47 (dk_at dksX1_findMass_7 1 rfl rfl)
theorem dX1_findMass_165 : decode cX1_findMass 165 = .ok (.iload 4, 2) := dk_21 4 (dk_at dksX1_findMass_7 2 rfl rfl)
theorem dX1_findMass_167 : decode cX1_findMass 167 = .ok (.i2l, 1) := dk_133 (dk_at dksX1_findMass_7 4 rfl rfl)
theorem dX1_findMass_168 : decode cX1_findMass 168 = .ok (.aload_n 0, 1) := dk_42 (dk_at dksX1_findMass_7 5 rfl rfl)
theorem dX1_findMass_169 : decode cX1_findMass 169 = .ok (.getfield 138, 3) := dk_180 0 138 (dk_at dksX1_findMass_7 6 rfl rfl)
theorem dX1_findMass_172 : decode cX1_findMass 172 = .ok (.iload_n 1, 1) := dk_27 (dk_at dksX1_findMass_7 9 rfl rfl)
theorem dX1_findMass_173 : decode cX1_findMass 173 = .ok (.laload, 1) := dk_47 (dk_at dksX1_findMass_7 10 rfl rfl)
theorem dX1_findMass_174 : decode cX1_findMass 174 = .ok (.lmul, 1) := dk_105 (dk_at dksX1_findMass_7 11 rfl rfl)
theorem dX1_findMass_175 : decode cX1_findMass 175 = .ok (.ladd, 1) := dk_97 (dk_at dksX1_findMass_7 12 rfl rfl)
theorem dX1_findMass_176 : decode cX1_findMass 176 = .ok (.lastore, 1) := dk_80 (dk_at dksX1_findMass_7 13 rfl rfl)
theorem dX1_findMass_177 : decode cX1_findMass 177 = .ok (.iinc 1 1, 3) := dk_132 1 1 (dk_at dksX1_findMass_7 14 rfl rfl)
theorem dX1_findMass_180 : decode cX1_findMass 180 = .ok (.goto (-140), 3) := dk_167 255 116 (dk_at dksX1_findMass_7 17 rfl rfl)
theorem dX1_findMass_183 : decode cX1_findMass 183 = .ok (.return_, 1) := dk_177 (dk_at dksX1_findMass_7 20 rfl rfl)
abbrev cX1_visits : ByteArray := prog_1_method_90_code
def yX1_visits : MethodName := ⟨RX1, "visits", "(I)J"⟩
def dkwX1_visits_4 : List UInt8 := [132, 5, 1, 167, 255, 217, 132, 4, 1, 167, 255, 196, 32, 173]
abbrev dktX1_visits_4 : List UInt8 := dkwX1_visits_4 ++ []
def dkwX1_visits_3 : List UInt8 := [180, 0, 138, 27, 21, 4, 21, 5, 184, 1, 37, 47, 42, 180, 0, 57, 21, 4, 47, 105, 97, 65]
abbrev dktX1_visits_3 : List UInt8 := dkwX1_visits_3 ++ dktX1_visits_4
def dkwX1_visits_2 : List UInt8 := [180, 0, 237, 163, 0, 54, 3, 54, 5, 21, 5, 42, 180, 0, 12, 180, 0, 246, 163, 0, 33, 32, 42]
abbrev dktX1_visits_2 : List UInt8 := dkwX1_visits_2 ++ dktX1_visits_3
def dkwX1_visits_1 : List UInt8 := [167, 0, 4, 3, 182, 0, 173, 42, 182, 1, 246, 9, 65, 3, 54, 4, 21, 4, 42, 180, 0, 12]
abbrev dktX1_visits_1 : List UInt8 := dkwX1_visits_1 ++ dktX1_visits_2
def dkwX1_visits_0 : List UInt8 := [42, 182, 1, 31, 42, 27, 3, 42, 180, 0, 12, 180, 0, 208, 4, 100, 184, 0, 163, 154, 0, 7, 4]
abbrev dktX1_visits_0 : List UInt8 := dkwX1_visits_0 ++ dktX1_visits_1
theorem dksX1_visits_0 : cX1_visits.data.toList.drop 0 = dktX1_visits_0 := by decide +kernel
theorem dksX1_visits_1 : cX1_visits.data.toList.drop 23 = dktX1_visits_1 := dk_seg dksX1_visits_0 23 rfl rfl
theorem dksX1_visits_2 : cX1_visits.data.toList.drop 45 = dktX1_visits_2 := dk_seg dksX1_visits_1 22 rfl rfl
theorem dksX1_visits_3 : cX1_visits.data.toList.drop 68 = dktX1_visits_3 := dk_seg dksX1_visits_2 23 rfl rfl
theorem dksX1_visits_4 : cX1_visits.data.toList.drop 90 = dktX1_visits_4 := dk_seg dksX1_visits_3 22 rfl rfl
theorem dX1_visits_0 : decode cX1_visits 0 = .ok (.aload_n 0, 1) := dk_42 (dk_at dksX1_visits_0 0 rfl rfl)
theorem dX1_visits_1 : decode cX1_visits 1 = .ok (.invokevirtual 287, 3) := dk_182 1 31 (dk_at dksX1_visits_0 1 rfl rfl)
theorem dX1_visits_4 : decode cX1_visits 4 = .ok (.aload_n 0, 1) := dk_42 (dk_at dksX1_visits_0 4 rfl rfl)
theorem dX1_visits_5 : decode cX1_visits 5 = .ok (.iload_n 1, 1) := dk_27 (dk_at dksX1_visits_0 5 rfl rfl)
theorem dX1_visits_6 : decode cX1_visits 6 = .ok (.iconst 0, 1) := dk_3 (dk_at dksX1_visits_0 6 rfl rfl)
theorem dX1_visits_7 : decode cX1_visits 7 = .ok (.aload_n 0, 1) := dk_42 (dk_at dksX1_visits_0 7 rfl rfl)
theorem dX1_visits_8 : decode cX1_visits 8 = .ok (.getfield 12, 3) := dk_180 0 12 (dk_at dksX1_visits_0 8 rfl rfl)
theorem dX1_visits_11 : decode cX1_visits 11 = .ok (.getfield 208, 3) := dk_180 0 208 (dk_at dksX1_visits_0 11 rfl rfl)
theorem dX1_visits_14 : decode cX1_visits 14 = .ok (.iconst 1, 1) := dk_4 (dk_at dksX1_visits_0 14 rfl rfl)
theorem dX1_visits_15 : decode cX1_visits 15 = .ok (.isub, 1) := dk_100 (dk_at dksX1_visits_0 15 rfl rfl)
theorem dX1_visits_16 : decode cX1_visits 16 = .ok (.invokestatic 163, 3) := dk_184 0 163 (dk_at dksX1_visits_0 16 rfl rfl)
theorem dX1_visits_19 : decode cX1_visits 19 = .ok (.ifCond .ne 7, 3) := dk_154 0 7 (dk_at dksX1_visits_0 19 rfl rfl)
theorem dX1_visits_22 : decode cX1_visits 22 = .ok (.iconst 1, 1) := dk_4 (dk_at dksX1_visits_0 22 rfl rfl)
theorem dX1_visits_23 : decode cX1_visits 23 = .ok (.goto 4, 3) := dk_167 0 4 (dk_at dksX1_visits_1 0 rfl rfl)
theorem dX1_visits_26 : decode cX1_visits 26 = .ok (.iconst 0, 1) := dk_3 (dk_at dksX1_visits_1 3 rfl rfl)
theorem dX1_visits_27 : decode cX1_visits 27 = .ok (.invokevirtual 173, 3) := dk_182 0 173 (dk_at dksX1_visits_1 4 rfl rfl)
theorem dX1_visits_30 : decode cX1_visits 30 = .ok (.aload_n 0, 1) := dk_42 (dk_at dksX1_visits_1 7 rfl rfl)
theorem dX1_visits_31 : decode cX1_visits 31 = .ok (.invokevirtual 502, 3) := dk_182 1 246 (dk_at dksX1_visits_1 8 rfl rfl)
theorem dX1_visits_34 : decode cX1_visits 34 = .ok (.lconst 0, 1) := dk_9 (dk_at dksX1_visits_1 11 rfl rfl)
theorem dX1_visits_35 : decode cX1_visits 35 = .ok (.lstore_n 2, 1) := dk_65 (dk_at dksX1_visits_1 12 rfl rfl)
theorem dX1_visits_36 : decode cX1_visits 36 = .ok (.iconst 0, 1) := dk_3 (dk_at dksX1_visits_1 13 rfl rfl)
theorem dX1_visits_37 : decode cX1_visits 37 = .ok (.istore 4, 2) := dk_54 4 (dk_at dksX1_visits_1 14 rfl rfl)
theorem dX1_visits_39 : decode cX1_visits 39 = .ok (.iload 4, 2) := dk_21 4 (dk_at dksX1_visits_1 16 rfl rfl)
theorem dX1_visits_41 : decode cX1_visits 41 = .ok (.aload_n 0, 1) := dk_42 (dk_at dksX1_visits_1 18 rfl rfl)
theorem dX1_visits_42 : decode cX1_visits 42 = .ok (.getfield 12, 3) := dk_180 0 12 (dk_at dksX1_visits_1 19 rfl rfl)
theorem dX1_visits_45 : decode cX1_visits 45 = .ok (.getfield 237, 3) := dk_180 0 237 (dk_at dksX1_visits_2 0 rfl rfl)
theorem dX1_visits_48 : decode cX1_visits 48 = .ok (.if_icmp .gt 54, 3) := dk_163 0 54 (dk_at dksX1_visits_2 3 rfl rfl)
theorem dX1_visits_51 : decode cX1_visits 51 = .ok (.iconst 0, 1) := dk_3 (dk_at dksX1_visits_2 6 rfl rfl)
theorem dX1_visits_52 : decode cX1_visits 52 = .ok (.istore 5, 2) := dk_54 5 (dk_at dksX1_visits_2 7 rfl rfl)
theorem dX1_visits_54 : decode cX1_visits 54 = .ok (.iload 5, 2) := dk_21 5 (dk_at dksX1_visits_2 9 rfl rfl)
theorem dX1_visits_56 : decode cX1_visits 56 = .ok (.aload_n 0, 1) := dk_42 (dk_at dksX1_visits_2 11 rfl rfl)
theorem dX1_visits_57 : decode cX1_visits 57 = .ok (.getfield 12, 3) := dk_180 0 12 (dk_at dksX1_visits_2 12 rfl rfl)
theorem dX1_visits_60 : decode cX1_visits 60 = .ok (.getfield 246, 3) := dk_180 0 246 (dk_at dksX1_visits_2 15 rfl rfl)
theorem dX1_visits_63 : decode cX1_visits 63 = .ok (.if_icmp .gt 33, 3) := dk_163 0 33 (dk_at dksX1_visits_2 18 rfl rfl)
theorem dX1_visits_66 : decode cX1_visits 66 = .ok (.lload_n 2, 1) := dk_32 (dk_at dksX1_visits_2 21 rfl rfl)
theorem dX1_visits_67 : decode cX1_visits 67 = .ok (.aload_n 0, 1) := dk_42 (dk_at dksX1_visits_2 22 rfl rfl)
theorem dX1_visits_68 : decode cX1_visits 68 = .ok (.getfield 138, 3) := dk_180 0 138 (dk_at dksX1_visits_3 0 rfl rfl)
theorem dX1_visits_71 : decode cX1_visits 71 = .ok (.iload_n 1, 1) := dk_27 (dk_at dksX1_visits_3 3 rfl rfl)
theorem dX1_visits_72 : decode cX1_visits 72 = .ok (.iload 4, 2) := dk_21 4 (dk_at dksX1_visits_3 4 rfl rfl)
theorem dX1_visits_74 : decode cX1_visits 74 = .ok (.iload 5, 2) := dk_21 5 (dk_at dksX1_visits_3 6 rfl rfl)
theorem dX1_visits_76 : decode cX1_visits 76 = .ok (.invokestatic 293, 3) := dk_184 1 37 (dk_at dksX1_visits_3 8 rfl rfl)
theorem dX1_visits_79 : decode cX1_visits 79 = .ok (.laload, 1) := dk_47 (dk_at dksX1_visits_3 11 rfl rfl)
theorem dX1_visits_80 : decode cX1_visits 80 = .ok (.aload_n 0, 1) := dk_42 (dk_at dksX1_visits_3 12 rfl rfl)
theorem dX1_visits_81 : decode cX1_visits 81 = .ok (.getfield 57, 3) := dk_180 0 57 (dk_at dksX1_visits_3 13 rfl rfl)
theorem dX1_visits_84 : decode cX1_visits 84 = .ok (.iload 4, 2) := dk_21 4 (dk_at dksX1_visits_3 16 rfl rfl)
theorem dX1_visits_86 : decode cX1_visits 86 = .ok (.laload, 1) := dk_47 (dk_at dksX1_visits_3 18 rfl rfl)
theorem dX1_visits_87 : decode cX1_visits 87 = .ok (.lmul, 1) := dk_105 (dk_at dksX1_visits_3 19 rfl rfl)
theorem dX1_visits_88 : decode cX1_visits 88 = .ok (.ladd, 1) := dk_97 (dk_at dksX1_visits_3 20 rfl rfl)
theorem dX1_visits_89 : decode cX1_visits 89 = .ok (.lstore_n 2, 1) := dk_65 (dk_at dksX1_visits_3 21 rfl rfl)
theorem dX1_visits_90 : decode cX1_visits 90 = .ok (.iinc 5 1, 3) := dk_132 5 1 (dk_at dksX1_visits_4 0 rfl rfl)
theorem dX1_visits_93 : decode cX1_visits 93 = .ok (.goto (-39), 3) := dk_167 255 217 (dk_at dksX1_visits_4 3 rfl rfl)
theorem dX1_visits_96 : decode cX1_visits 96 = .ok (.iinc 4 1, 3) := dk_132 4 1 (dk_at dksX1_visits_4 6 rfl rfl)
theorem dX1_visits_99 : decode cX1_visits 99 = .ok (.goto (-60), 3) := dk_167 255 196 (dk_at dksX1_visits_4 9 rfl rfl)
theorem dX1_visits_102 : decode cX1_visits 102 = .ok (.lload_n 2, 1) := dk_32 (dk_at dksX1_visits_4 12 rfl rfl)
theorem dX1_visits_103 : decode cX1_visits 103 = .ok (.lreturn, 1) := dk_173 (dk_at dksX1_visits_4 13 rfl rfl)
abbrev cX1_without : ByteArray := prog_1_method_91_code
def yX1_without : MethodName := ⟨RX1, "without", "(II)J"⟩
def dkwX1_without_3 : List UInt8 := [25, 5, 182, 1, 252, 42, 182, 0, 205, 22, 6, 33, 101, 173]
abbrev dktX1_without_3 : List UInt8 := dkwX1_without_3 ++ []
def dkwX1_without_2 : List UInt8 := [182, 1, 249, 192, 1, 64, 58, 5, 42, 182, 0, 205, 42, 28, 182, 1, 176, 55, 6, 42, 180, 0, 19, 27]
abbrev dktX1_without_2 : List UInt8 := dkwX1_without_2 ++ dktX1_without_3
def dkwX1_without_1 : List UInt8 := [154, 0, 7, 4, 167, 0, 4, 3, 182, 1, 4, 42, 28, 182, 1, 176, 66, 42, 180, 0, 19, 27]
abbrev dktX1_without_1 : List UInt8 := dkwX1_without_1 ++ dktX1_without_2
def dkwX1_without_0 : List UInt8 := [42, 182, 1, 31, 42, 28, 182, 1, 223, 42, 27, 3, 42, 180, 0, 19, 182, 0, 233, 4, 100, 184, 0, 163]
abbrev dktX1_without_0 : List UInt8 := dkwX1_without_0 ++ dktX1_without_1
theorem dksX1_without_0 : cX1_without.data.toList.drop 0 = dktX1_without_0 := by decide +kernel
theorem dksX1_without_1 : cX1_without.data.toList.drop 24 = dktX1_without_1 := dk_seg dksX1_without_0 24 rfl rfl
theorem dksX1_without_2 : cX1_without.data.toList.drop 46 = dktX1_without_2 := dk_seg dksX1_without_1 22 rfl rfl
theorem dksX1_without_3 : cX1_without.data.toList.drop 70 = dktX1_without_3 := dk_seg dksX1_without_2 24 rfl rfl
theorem dX1_without_0 : decode cX1_without 0 = .ok (.aload_n 0, 1) := dk_42 (dk_at dksX1_without_0 0 rfl rfl)
theorem dX1_without_1 : decode cX1_without 1 = .ok (.invokevirtual 287, 3) := dk_182 1 31 (dk_at dksX1_without_0 1 rfl rfl)
theorem dX1_without_4 : decode cX1_without 4 = .ok (.aload_n 0, 1) := dk_42 (dk_at dksX1_without_0 4 rfl rfl)
theorem dX1_without_5 : decode cX1_without 5 = .ok (.iload_n 2, 1) := dk_28 (dk_at dksX1_without_0 5 rfl rfl)
theorem dX1_without_6 : decode cX1_without 6 = .ok (.invokevirtual 479, 3) := dk_182 1 223 (dk_at dksX1_without_0 6 rfl rfl)
theorem dX1_without_9 : decode cX1_without 9 = .ok (.aload_n 0, 1) := dk_42 (dk_at dksX1_without_0 9 rfl rfl)
theorem dX1_without_10 : decode cX1_without 10 = .ok (.iload_n 1, 1) := dk_27 (dk_at dksX1_without_0 10 rfl rfl)
theorem dX1_without_11 : decode cX1_without 11 = .ok (.iconst 0, 1) := dk_3 (dk_at dksX1_without_0 11 rfl rfl)
theorem dX1_without_12 : decode cX1_without 12 = .ok (.aload_n 0, 1) := dk_42 (dk_at dksX1_without_0 12 rfl rfl)
theorem dX1_without_13 : decode cX1_without 13 = .ok (.getfield 19, 3) := dk_180 0 19 (dk_at dksX1_without_0 13 rfl rfl)
theorem dX1_without_16 : decode cX1_without 16 = .ok (.invokevirtual 233, 3) := dk_182 0 233 (dk_at dksX1_without_0 16 rfl rfl)
theorem dX1_without_19 : decode cX1_without 19 = .ok (.iconst 1, 1) := dk_4 (dk_at dksX1_without_0 19 rfl rfl)
theorem dX1_without_20 : decode cX1_without 20 = .ok (.isub, 1) := dk_100 (dk_at dksX1_without_0 20 rfl rfl)
theorem dX1_without_21 : decode cX1_without 21 = .ok (.invokestatic 163, 3) := dk_184 0 163 (dk_at dksX1_without_0 21 rfl rfl)
theorem dX1_without_24 : decode cX1_without 24 = .ok (.ifCond .ne 7, 3) := dk_154 0 7 (dk_at dksX1_without_1 0 rfl rfl)
theorem dX1_without_27 : decode cX1_without 27 = .ok (.iconst 1, 1) := dk_4 (dk_at dksX1_without_1 3 rfl rfl)
theorem dX1_without_28 : decode cX1_without 28 = .ok (.goto 4, 3) := dk_167 0 4 (dk_at dksX1_without_1 4 rfl rfl)
theorem dX1_without_31 : decode cX1_without 31 = .ok (.iconst 0, 1) := dk_3 (dk_at dksX1_without_1 7 rfl rfl)
theorem dX1_without_32 : decode cX1_without 32 = .ok (.invokevirtual 260, 3) := dk_182 1 4 (dk_at dksX1_without_1 8 rfl rfl)
theorem dX1_without_35 : decode cX1_without 35 = .ok (.aload_n 0, 1) := dk_42 (dk_at dksX1_without_1 11 rfl rfl)
theorem dX1_without_36 : decode cX1_without 36 = .ok (.iload_n 2, 1) := dk_28 (dk_at dksX1_without_1 12 rfl rfl)
theorem dX1_without_37 : decode cX1_without 37 = .ok (.invokevirtual 432, 3) := dk_182 1 176 (dk_at dksX1_without_1 13 rfl rfl)
theorem dX1_without_40 : decode cX1_without 40 = .ok (.lstore_n 3, 1) := dk_66 (dk_at dksX1_without_1 16 rfl rfl)
theorem dX1_without_41 : decode cX1_without 41 = .ok (.aload_n 0, 1) := dk_42 (dk_at dksX1_without_1 17 rfl rfl)
theorem dX1_without_42 : decode cX1_without 42 = .ok (.getfield 19, 3) := dk_180 0 19 (dk_at dksX1_without_1 18 rfl rfl)
theorem dX1_without_45 : decode cX1_without 45 = .ok (.iload_n 1, 1) := dk_27 (dk_at dksX1_without_1 21 rfl rfl)
theorem dX1_without_46 : decode cX1_without 46 = .ok (.invokevirtual 505, 3) := dk_182 1 249 (dk_at dksX1_without_2 0 rfl rfl)
theorem dX1_without_49 : decode cX1_without 49 = .ok (.checkcast 320, 3) := dk_192 1 64 (dk_at dksX1_without_2 3 rfl rfl)
theorem dX1_without_52 : decode cX1_without 52 = .ok (.astore 5, 2) := dk_58 5 (dk_at dksX1_without_2 6 rfl rfl)
theorem dX1_without_54 : decode cX1_without 54 = .ok (.aload_n 0, 1) := dk_42 (dk_at dksX1_without_2 8 rfl rfl)
theorem dX1_without_55 : decode cX1_without 55 = .ok (.invokevirtual 205, 3) := dk_182 0 205 (dk_at dksX1_without_2 9 rfl rfl)
theorem dX1_without_58 : decode cX1_without 58 = .ok (.aload_n 0, 1) := dk_42 (dk_at dksX1_without_2 12 rfl rfl)
theorem dX1_without_59 : decode cX1_without 59 = .ok (.iload_n 2, 1) := dk_28 (dk_at dksX1_without_2 13 rfl rfl)
theorem dX1_without_60 : decode cX1_without 60 = .ok (.invokevirtual 432, 3) := dk_182 1 176 (dk_at dksX1_without_2 14 rfl rfl)
theorem dX1_without_63 : decode cX1_without 63 = .ok (.lstore 6, 2) := dk_55 6 (dk_at dksX1_without_2 17 rfl rfl)
theorem dX1_without_65 : decode cX1_without 65 = .ok (.aload_n 0, 1) := dk_42 (dk_at dksX1_without_2 19 rfl rfl)
theorem dX1_without_66 : decode cX1_without 66 = .ok (.getfield 19, 3) := dk_180 0 19 (dk_at dksX1_without_2 20 rfl rfl)
theorem dX1_without_69 : decode cX1_without 69 = .ok (.iload_n 1, 1) := dk_27 (dk_at dksX1_without_2 23 rfl rfl)
theorem dX1_without_70 : decode cX1_without 70 = .ok (.aload 5, 2) := dk_25 5 (dk_at dksX1_without_3 0 rfl rfl)
theorem dX1_without_72 : decode cX1_without 72 = .ok (.invokevirtual 508, 3) := dk_182 1 252 (dk_at dksX1_without_3 2 rfl rfl)
theorem dX1_without_75 : decode cX1_without 75 = .ok (.aload_n 0, 1) := dk_42 (dk_at dksX1_without_3 5 rfl rfl)
theorem dX1_without_76 : decode cX1_without 76 = .ok (.invokevirtual 205, 3) := dk_182 0 205 (dk_at dksX1_without_3 6 rfl rfl)
theorem dX1_without_79 : decode cX1_without 79 = .ok (.lload 6, 2) := dk_22 6 (dk_at dksX1_without_3 9 rfl rfl)
theorem dX1_without_81 : decode cX1_without 81 = .ok (.lload_n 3, 1) := dk_33 (dk_at dksX1_without_3 11 rfl rfl)
theorem dX1_without_82 : decode cX1_without 82 = .ok (.lsub, 1) := dk_101 (dk_at dksX1_without_3 12 rfl rfl)
theorem dX1_without_83 : decode cX1_without 83 = .ok (.lreturn, 1) := dk_173 (dk_at dksX1_without_3 13 rfl rfl)
abbrev cX1_swap : ByteArray := prog_1_method_92_code
def yX1_swap : MethodName := ⟨RX1, "swap", "(II)I"⟩
def dkwX1_swap_5 : List UInt8 := [104, 21, 4, 96, 172, 132, 4, 1, 167, 255, 202, 132, 3, 1, 167, 255, 182, 2, 172]
abbrev dktX1_swap_5 : List UInt8 := dkwX1_swap_5 ++ []
def dkwX1_swap_4 : List UInt8 := [21, 4, 182, 1, 34, 28, 160, 0, 23, 42, 29, 28, 21, 4, 27, 182, 1, 216, 153, 0, 11, 16, 100, 29]
abbrev dktX1_swap_4 : List UInt8 := dkwX1_swap_4 ++ dktX1_swap_5
def dkwX1_swap_3 : List UInt8 := [54, 4, 21, 4, 42, 180, 0, 12, 180, 0, 237, 162, 0, 48, 42, 29, 182, 1, 34, 27, 160, 0, 39, 42]
abbrev dktX1_swap_3 : List UInt8 := dkwX1_swap_3 ++ dktX1_swap_4
def dkwX1_swap_2 : List UInt8 := [182, 1, 176, 80, 132, 3, 1, 167, 255, 231, 3, 62, 29, 42, 180, 0, 12, 180, 0, 237, 162, 0, 69, 3]
abbrev dktX1_swap_2 : List UInt8 := dkwX1_swap_2 ++ dktX1_swap_3
def dkwX1_swap_1 : List UInt8 := [3, 182, 0, 173, 3, 62, 29, 42, 180, 0, 12, 180, 0, 160, 162, 0, 20, 42, 180, 0, 135, 29, 42, 29]
abbrev dktX1_swap_1 : List UInt8 := dkwX1_swap_1 ++ dktX1_swap_2
def dkwX1_swap_0 : List UInt8 := [42, 182, 1, 31, 42, 27, 182, 1, 10, 42, 28, 182, 1, 10, 42, 27, 28, 160, 0, 7, 4, 167, 0, 4]
abbrev dktX1_swap_0 : List UInt8 := dkwX1_swap_0 ++ dktX1_swap_1
theorem dksX1_swap_0 : cX1_swap.data.toList.drop 0 = dktX1_swap_0 := by decide +kernel
theorem dksX1_swap_1 : cX1_swap.data.toList.drop 24 = dktX1_swap_1 := dk_seg dksX1_swap_0 24 rfl rfl
theorem dksX1_swap_2 : cX1_swap.data.toList.drop 48 = dktX1_swap_2 := dk_seg dksX1_swap_1 24 rfl rfl
theorem dksX1_swap_3 : cX1_swap.data.toList.drop 72 = dktX1_swap_3 := dk_seg dksX1_swap_2 24 rfl rfl
theorem dksX1_swap_4 : cX1_swap.data.toList.drop 96 = dktX1_swap_4 := dk_seg dksX1_swap_3 24 rfl rfl
theorem dksX1_swap_5 : cX1_swap.data.toList.drop 120 = dktX1_swap_5 := dk_seg dksX1_swap_4 24 rfl rfl
theorem dX1_swap_0 : decode cX1_swap 0 = .ok (.aload_n 0, 1) := dk_42 (dk_at dksX1_swap_0 0 rfl rfl)
theorem dX1_swap_1 : decode cX1_swap 1 = .ok (.invokevirtual 287, 3) := dk_182 1 31 (dk_at dksX1_swap_0 1 rfl rfl)
theorem dX1_swap_4 : decode cX1_swap 4 = .ok (.aload_n 0, 1) := dk_42 (dk_at dksX1_swap_0 4 rfl rfl)
theorem dX1_swap_5 : decode cX1_swap 5 = .ok (.iload_n 1, 1) := dk_27 (dk_at dksX1_swap_0 5 rfl rfl)
theorem dX1_swap_6 : decode cX1_swap 6 = .ok (.invokevirtual 266, 3) := dk_182 1 10 (dk_at dksX1_swap_0 6 rfl rfl)
theorem dX1_swap_9 : decode cX1_swap 9 = .ok (.aload_n 0, 1) := dk_42 (dk_at dksX1_swap_0 9 rfl rfl)
theorem dX1_swap_10 : decode cX1_swap 10 = .ok (.iload_n 2, 1) := dk_28 (dk_at dksX1_swap_0 10 rfl rfl)
theorem dX1_swap_11 : decode cX1_swap 11 = .ok (.invokevirtual 266, 3) := dk_182 1 10 (dk_at dksX1_swap_0 11 rfl rfl)
theorem dX1_swap_14 : decode cX1_swap 14 = .ok (.aload_n 0, 1) := dk_42 (dk_at dksX1_swap_0 14 rfl rfl)
theorem dX1_swap_15 : decode cX1_swap 15 = .ok (.iload_n 1, 1) := dk_27 (dk_at dksX1_swap_0 15 rfl rfl)
theorem dX1_swap_16 : decode cX1_swap 16 = .ok (.iload_n 2, 1) := dk_28 (dk_at dksX1_swap_0 16 rfl rfl)
theorem dX1_swap_17 : decode cX1_swap 17 = .ok (.if_icmp .ne 7, 3) := dk_160 0 7 (dk_at dksX1_swap_0 17 rfl rfl)
theorem dX1_swap_20 : decode cX1_swap 20 = .ok (.iconst 1, 1) := dk_4 (dk_at dksX1_swap_0 20 rfl rfl)
theorem dX1_swap_21 : decode cX1_swap 21 = .ok (.goto 4, 3) := dk_167 0 4 (dk_at dksX1_swap_0 21 rfl rfl)
theorem dX1_swap_24 : decode cX1_swap 24 = .ok (.iconst 0, 1) := dk_3 (dk_at dksX1_swap_1 0 rfl rfl)
theorem dX1_swap_25 : decode cX1_swap 25 = .ok (.invokevirtual 173, 3) := dk_182 0 173 (dk_at dksX1_swap_1 1 rfl rfl)
theorem dX1_swap_28 : decode cX1_swap 28 = .ok (.iconst 0, 1) := dk_3 (dk_at dksX1_swap_1 4 rfl rfl)
theorem dX1_swap_29 : decode cX1_swap 29 = .ok (.istore_n 3, 1) := dk_62 (dk_at dksX1_swap_1 5 rfl rfl)
theorem dX1_swap_30 : decode cX1_swap 30 = .ok (.iload_n 3, 1) := dk_29 (dk_at dksX1_swap_1 6 rfl rfl)
theorem dX1_swap_31 : decode cX1_swap 31 = .ok (.aload_n 0, 1) := dk_42 (dk_at dksX1_swap_1 7 rfl rfl)
theorem dX1_swap_32 : decode cX1_swap 32 = .ok (.getfield 12, 3) := dk_180 0 12 (dk_at dksX1_swap_1 8 rfl rfl)
theorem dX1_swap_35 : decode cX1_swap 35 = .ok (.getfield 160, 3) := dk_180 0 160 (dk_at dksX1_swap_1 11 rfl rfl)
theorem dX1_swap_38 : decode cX1_swap 38 = .ok (.if_icmp .ge 20, 3) := dk_162 0 20 (dk_at dksX1_swap_1 14 rfl rfl)
theorem dX1_swap_41 : decode cX1_swap 41 = .ok (.aload_n 0, 1) := dk_42 (dk_at dksX1_swap_1 17 rfl rfl)
theorem dX1_swap_42 : decode cX1_swap 42 = .ok (.getfield 135, 3) := dk_180 0 135 (dk_at dksX1_swap_1 18 rfl rfl)
theorem dX1_swap_45 : decode cX1_swap 45 = .ok (.iload_n 3, 1) := dk_29 (dk_at dksX1_swap_1 21 rfl rfl)
theorem dX1_swap_46 : decode cX1_swap 46 = .ok (.aload_n 0, 1) := dk_42 (dk_at dksX1_swap_1 22 rfl rfl)
theorem dX1_swap_47 : decode cX1_swap 47 = .ok (.iload_n 3, 1) := dk_29 (dk_at dksX1_swap_1 23 rfl rfl)
theorem dX1_swap_48 : decode cX1_swap 48 = .ok (.invokevirtual 432, 3) := dk_182 1 176 (dk_at dksX1_swap_2 0 rfl rfl)
theorem dX1_swap_51 : decode cX1_swap 51 = .ok (.lastore, 1) := dk_80 (dk_at dksX1_swap_2 3 rfl rfl)
theorem dX1_swap_52 : decode cX1_swap 52 = .ok (.iinc 3 1, 3) := dk_132 3 1 (dk_at dksX1_swap_2 4 rfl rfl)
theorem dX1_swap_55 : decode cX1_swap 55 = .ok (.goto (-25), 3) := dk_167 255 231 (dk_at dksX1_swap_2 7 rfl rfl)
theorem dX1_swap_58 : decode cX1_swap 58 = .ok (.iconst 0, 1) := dk_3 (dk_at dksX1_swap_2 10 rfl rfl)
theorem dX1_swap_59 : decode cX1_swap 59 = .ok (.istore_n 3, 1) := dk_62 (dk_at dksX1_swap_2 11 rfl rfl)
theorem dX1_swap_60 : decode cX1_swap 60 = .ok (.iload_n 3, 1) := dk_29 (dk_at dksX1_swap_2 12 rfl rfl)
theorem dX1_swap_61 : decode cX1_swap 61 = .ok (.aload_n 0, 1) := dk_42 (dk_at dksX1_swap_2 13 rfl rfl)
theorem dX1_swap_62 : decode cX1_swap 62 = .ok (.getfield 12, 3) := dk_180 0 12 (dk_at dksX1_swap_2 14 rfl rfl)
theorem dX1_swap_65 : decode cX1_swap 65 = .ok (.getfield 237, 3) := dk_180 0 237 (dk_at dksX1_swap_2 17 rfl rfl)
theorem dX1_swap_68 : decode cX1_swap 68 = .ok (.if_icmp .ge 69, 3) := dk_162 0 69 (dk_at dksX1_swap_2 20 rfl rfl)
theorem dX1_swap_71 : decode cX1_swap 71 = .ok (.iconst 0, 1) := dk_3 (dk_at dksX1_swap_2 23 rfl rfl)
theorem dX1_swap_72 : decode cX1_swap 72 = .ok (.istore 4, 2) := dk_54 4 (dk_at dksX1_swap_3 0 rfl rfl)
theorem dX1_swap_74 : decode cX1_swap 74 = .ok (.iload 4, 2) := dk_21 4 (dk_at dksX1_swap_3 2 rfl rfl)
theorem dX1_swap_76 : decode cX1_swap 76 = .ok (.aload_n 0, 1) := dk_42 (dk_at dksX1_swap_3 4 rfl rfl)
theorem dX1_swap_77 : decode cX1_swap 77 = .ok (.getfield 12, 3) := dk_180 0 12 (dk_at dksX1_swap_3 5 rfl rfl)
theorem dX1_swap_80 : decode cX1_swap 80 = .ok (.getfield 237, 3) := dk_180 0 237 (dk_at dksX1_swap_3 8 rfl rfl)
theorem dX1_swap_83 : decode cX1_swap 83 = .ok (.if_icmp .ge 48, 3) := dk_162 0 48 (dk_at dksX1_swap_3 11 rfl rfl)
theorem dX1_swap_86 : decode cX1_swap 86 = .ok (.aload_n 0, 1) := dk_42 (dk_at dksX1_swap_3 14 rfl rfl)
theorem dX1_swap_87 : decode cX1_swap 87 = .ok (.iload_n 3, 1) := dk_29 (dk_at dksX1_swap_3 15 rfl rfl)
theorem dX1_swap_88 : decode cX1_swap 88 = .ok (.invokevirtual 290, 3) := dk_182 1 34 (dk_at dksX1_swap_3 16 rfl rfl)
theorem dX1_swap_91 : decode cX1_swap 91 = .ok (.iload_n 1, 1) := dk_27 (dk_at dksX1_swap_3 19 rfl rfl)
theorem dX1_swap_92 : decode cX1_swap 92 = .ok (.if_icmp .ne 39, 3) := dk_160 0 39 (dk_at dksX1_swap_3 20 rfl rfl)
theorem dX1_swap_95 : decode cX1_swap 95 = .ok (.aload_n 0, 1) := dk_42 (dk_at dksX1_swap_3 23 rfl rfl)
theorem dX1_swap_96 : decode cX1_swap 96 = .ok (.iload 4, 2) := dk_21 4 (dk_at dksX1_swap_4 0 rfl rfl)
theorem dX1_swap_98 : decode cX1_swap 98 = .ok (.invokevirtual 290, 3) := dk_182 1 34 (dk_at dksX1_swap_4 2 rfl rfl)
theorem dX1_swap_101 : decode cX1_swap 101 = .ok (.iload_n 2, 1) := dk_28 (dk_at dksX1_swap_4 5 rfl rfl)
theorem dX1_swap_102 : decode cX1_swap 102 = .ok (.if_icmp .ne 23, 3) := dk_160 0 23 (dk_at dksX1_swap_4 6 rfl rfl)
theorem dX1_swap_105 : decode cX1_swap 105 = .ok (.aload_n 0, 1) := dk_42 (dk_at dksX1_swap_4 9 rfl rfl)
theorem dX1_swap_106 : decode cX1_swap 106 = .ok (.iload_n 3, 1) := dk_29 (dk_at dksX1_swap_4 10 rfl rfl)
theorem dX1_swap_107 : decode cX1_swap 107 = .ok (.iload_n 2, 1) := dk_28 (dk_at dksX1_swap_4 11 rfl rfl)
theorem dX1_swap_108 : decode cX1_swap 108 = .ok (.iload 4, 2) := dk_21 4 (dk_at dksX1_swap_4 12 rfl rfl)
theorem dX1_swap_110 : decode cX1_swap 110 = .ok (.iload_n 1, 1) := dk_27 (dk_at dksX1_swap_4 14 rfl rfl)
theorem dX1_swap_111 : decode cX1_swap 111 = .ok (.invokevirtual 472, 3) := dk_182 1 216 (dk_at dksX1_swap_4 15 rfl rfl)
theorem dX1_swap_114 : decode cX1_swap 114 = .ok (.ifCond .eq 11, 3) := dk_153 0 11 (dk_at dksX1_swap_4 18 rfl rfl)
theorem dX1_swap_117 : decode cX1_swap 117 = .ok (.bipush 100, 2) := dk_16 100 (dk_at dksX1_swap_4 21 rfl rfl)
theorem dX1_swap_119 : decode cX1_swap 119 = .ok (.iload_n 3, 1) := dk_29 (dk_at dksX1_swap_4 23 rfl rfl)
theorem dX1_swap_120 : decode cX1_swap 120 = .ok (.imul, 1) := dk_104 (dk_at dksX1_swap_5 0 rfl rfl)
theorem dX1_swap_121 : decode cX1_swap 121 = .ok (.iload 4, 2) := dk_21 4 (dk_at dksX1_swap_5 1 rfl rfl)
theorem dX1_swap_123 : decode cX1_swap 123 = .ok (.iadd, 1) := dk_96 (dk_at dksX1_swap_5 3 rfl rfl)
theorem dX1_swap_124 : decode cX1_swap 124 = .ok (.ireturn, 1) := dk_172 (dk_at dksX1_swap_5 4 rfl rfl)
theorem dX1_swap_125 : decode cX1_swap 125 = .ok (.iinc 4 1, 3) := dk_132 4 1 (dk_at dksX1_swap_5 5 rfl rfl)
theorem dX1_swap_128 : decode cX1_swap 128 = .ok (.goto (-54), 3) := dk_167 255 202 (dk_at dksX1_swap_5 8 rfl rfl)
theorem dX1_swap_131 : decode cX1_swap 131 = .ok (.iinc 3 1, 3) := dk_132 3 1 (dk_at dksX1_swap_5 11 rfl rfl)
theorem dX1_swap_134 : decode cX1_swap 134 = .ok (.goto (-74), 3) := dk_167 255 182 (dk_at dksX1_swap_5 14 rfl rfl)
theorem dX1_swap_137 : decode cX1_swap 137 = .ok (.iconst (-1), 1) := dk_2 (dk_at dksX1_swap_5 17 rfl rfl)
theorem dX1_swap_138 : decode cX1_swap 138 = .ok (.ireturn, 1) := dk_172 (dk_at dksX1_swap_5 18 rfl rfl)
abbrev cX1_vote : ByteArray := prog_1_method_94_code
def yX1_vote : MethodName := ⟨RX1, "vote", "()J"⟩
def dkwX1_vote_1 : List UInt8 := [181, 1, 151, 42, 3, 181, 0, 223, 31, 173]
abbrev dktX1_vote_1 : List UInt8 := dkwX1_vote_1 ++ []
def dkwX1_vote_0 : List UInt8 := [42, 182, 1, 31, 42, 4, 181, 1, 151, 42, 3, 181, 0, 223, 42, 2, 182, 1, 176, 64, 42, 3]
abbrev dktX1_vote_0 : List UInt8 := dkwX1_vote_0 ++ dktX1_vote_1
theorem dksX1_vote_0 : cX1_vote.data.toList.drop 0 = dktX1_vote_0 := by decide +kernel
theorem dksX1_vote_1 : cX1_vote.data.toList.drop 22 = dktX1_vote_1 := dk_seg dksX1_vote_0 22 rfl rfl
theorem dX1_vote_0 : decode cX1_vote 0 = .ok (.aload_n 0, 1) := dk_42 (dk_at dksX1_vote_0 0 rfl rfl)
theorem dX1_vote_1 : decode cX1_vote 1 = .ok (.invokevirtual 287, 3) := dk_182 1 31 (dk_at dksX1_vote_0 1 rfl rfl)
theorem dX1_vote_4 : decode cX1_vote 4 = .ok (.aload_n 0, 1) := dk_42 (dk_at dksX1_vote_0 4 rfl rfl)
theorem dX1_vote_5 : decode cX1_vote 5 = .ok (.iconst 1, 1) := dk_4 (dk_at dksX1_vote_0 5 rfl rfl)
theorem dX1_vote_6 : decode cX1_vote 6 = .ok (.putfield 407, 3) := dk_181 1 151 (dk_at dksX1_vote_0 6 rfl rfl)
theorem dX1_vote_9 : decode cX1_vote 9 = .ok (.aload_n 0, 1) := dk_42 (dk_at dksX1_vote_0 9 rfl rfl)
theorem dX1_vote_10 : decode cX1_vote 10 = .ok (.iconst 0, 1) := dk_3 (dk_at dksX1_vote_0 10 rfl rfl)
theorem dX1_vote_11 : decode cX1_vote 11 = .ok (.putfield 223, 3) := dk_181 0 223 (dk_at dksX1_vote_0 11 rfl rfl)
theorem dX1_vote_14 : decode cX1_vote 14 = .ok (.aload_n 0, 1) := dk_42 (dk_at dksX1_vote_0 14 rfl rfl)
theorem dX1_vote_15 : decode cX1_vote 15 = .ok (.iconst (-1), 1) := dk_2 (dk_at dksX1_vote_0 15 rfl rfl)
theorem dX1_vote_16 : decode cX1_vote 16 = .ok (.invokevirtual 432, 3) := dk_182 1 176 (dk_at dksX1_vote_0 16 rfl rfl)
theorem dX1_vote_19 : decode cX1_vote 19 = .ok (.lstore_n 1, 1) := dk_64 (dk_at dksX1_vote_0 19 rfl rfl)
theorem dX1_vote_20 : decode cX1_vote 20 = .ok (.aload_n 0, 1) := dk_42 (dk_at dksX1_vote_0 20 rfl rfl)
theorem dX1_vote_21 : decode cX1_vote 21 = .ok (.iconst 0, 1) := dk_3 (dk_at dksX1_vote_0 21 rfl rfl)
theorem dX1_vote_22 : decode cX1_vote 22 = .ok (.putfield 407, 3) := dk_181 1 151 (dk_at dksX1_vote_1 0 rfl rfl)
theorem dX1_vote_25 : decode cX1_vote 25 = .ok (.aload_n 0, 1) := dk_42 (dk_at dksX1_vote_1 3 rfl rfl)
theorem dX1_vote_26 : decode cX1_vote 26 = .ok (.iconst 0, 1) := dk_3 (dk_at dksX1_vote_1 4 rfl rfl)
theorem dX1_vote_27 : decode cX1_vote 27 = .ok (.putfield 223, 3) := dk_181 0 223 (dk_at dksX1_vote_1 5 rfl rfl)
theorem dX1_vote_30 : decode cX1_vote 30 = .ok (.lload_n 1, 1) := dk_31 (dk_at dksX1_vote_1 8 rfl rfl)
theorem dX1_vote_31 : decode cX1_vote 31 = .ok (.lreturn, 1) := dk_173 (dk_at dksX1_vote_1 9 rfl rfl)
abbrev cX1_needs : ByteArray := prog_1_method_95_code
def yX1_needs : MethodName := ⟨RX1, "needs", "()I"⟩
def dkwX1_needs_3 : List UInt8 := [167, 255, 201, 42, 180, 0, 12, 27, 181, 0, 246, 42, 182, 0, 205, 28, 172]
abbrev dktX1_needs_3 : List UInt8 := dkwX1_needs_3 ++ []
def dkwX1_needs_2 : List UInt8 := [182, 1, 173, 47, 42, 180, 0, 57, 3, 47, 148, 154, 0, 7, 29, 167, 0, 4, 2, 61, 132, 3, 1]
abbrev dktX1_needs_2 : List UInt8 := dkwX1_needs_2 ++ dktX1_needs_3
def dkwX1_needs_1 : List UInt8 := [160, 0, 50, 42, 180, 0, 12, 29, 181, 0, 246, 42, 182, 0, 205, 42, 182, 1, 170, 42, 180, 0, 122, 42]
abbrev dktX1_needs_1 : List UInt8 := dkwX1_needs_1 ++ dktX1_needs_2
def dkwX1_needs_0 : List UInt8 := [42, 182, 1, 31, 42, 180, 0, 12, 180, 0, 246, 60, 2, 61, 4, 62, 29, 16, 12, 163, 0, 55, 28, 2]
abbrev dktX1_needs_0 : List UInt8 := dkwX1_needs_0 ++ dktX1_needs_1
theorem dksX1_needs_0 : cX1_needs.data.toList.drop 0 = dktX1_needs_0 := by decide +kernel
theorem dksX1_needs_1 : cX1_needs.data.toList.drop 24 = dktX1_needs_1 := dk_seg dksX1_needs_0 24 rfl rfl
theorem dksX1_needs_2 : cX1_needs.data.toList.drop 48 = dktX1_needs_2 := dk_seg dksX1_needs_1 24 rfl rfl
theorem dksX1_needs_3 : cX1_needs.data.toList.drop 71 = dktX1_needs_3 := dk_seg dksX1_needs_2 23 rfl rfl
theorem dX1_needs_0 : decode cX1_needs 0 = .ok (.aload_n 0, 1) := dk_42 (dk_at dksX1_needs_0 0 rfl rfl)
theorem dX1_needs_1 : decode cX1_needs 1 = .ok (.invokevirtual 287, 3) := dk_182 1 31 (dk_at dksX1_needs_0 1 rfl rfl)
theorem dX1_needs_4 : decode cX1_needs 4 = .ok (.aload_n 0, 1) := dk_42 (dk_at dksX1_needs_0 4 rfl rfl)
theorem dX1_needs_5 : decode cX1_needs 5 = .ok (.getfield 12, 3) := dk_180 0 12 (dk_at dksX1_needs_0 5 rfl rfl)
theorem dX1_needs_8 : decode cX1_needs 8 = .ok (.getfield 246, 3) := dk_180 0 246 (dk_at dksX1_needs_0 8 rfl rfl)
theorem dX1_needs_11 : decode cX1_needs 11 = .ok (.istore_n 1, 1) := dk_60 (dk_at dksX1_needs_0 11 rfl rfl)
theorem dX1_needs_12 : decode cX1_needs 12 = .ok (.iconst (-1), 1) := dk_2 (dk_at dksX1_needs_0 12 rfl rfl)
theorem dX1_needs_13 : decode cX1_needs 13 = .ok (.istore_n 2, 1) := dk_61 (dk_at dksX1_needs_0 13 rfl rfl)
theorem dX1_needs_14 : decode cX1_needs 14 = .ok (.iconst 1, 1) := dk_4 (dk_at dksX1_needs_0 14 rfl rfl)
theorem dX1_needs_15 : decode cX1_needs 15 = .ok (.istore_n 3, 1) := dk_62 (dk_at dksX1_needs_0 15 rfl rfl)
theorem dX1_needs_16 : decode cX1_needs 16 = .ok (.iload_n 3, 1) := dk_29 (dk_at dksX1_needs_0 16 rfl rfl)
theorem dX1_needs_17 : decode cX1_needs 17 = .ok (.bipush 12, 2) := dk_16 12 (dk_at dksX1_needs_0 17 rfl rfl)
theorem dX1_needs_19 : decode cX1_needs 19 = .ok (.if_icmp .gt 55, 3) := dk_163 0 55 (dk_at dksX1_needs_0 19 rfl rfl)
theorem dX1_needs_22 : decode cX1_needs 22 = .ok (.iload_n 2, 1) := dk_28 (dk_at dksX1_needs_0 22 rfl rfl)
theorem dX1_needs_23 : decode cX1_needs 23 = .ok (.iconst (-1), 1) := dk_2 (dk_at dksX1_needs_0 23 rfl rfl)
theorem dX1_needs_24 : decode cX1_needs 24 = .ok (.if_icmp .ne 50, 3) := dk_160 0 50 (dk_at dksX1_needs_1 0 rfl rfl)
theorem dX1_needs_27 : decode cX1_needs 27 = .ok (.aload_n 0, 1) := dk_42 (dk_at dksX1_needs_1 3 rfl rfl)
theorem dX1_needs_28 : decode cX1_needs 28 = .ok (.getfield 12, 3) := dk_180 0 12 (dk_at dksX1_needs_1 4 rfl rfl)
theorem dX1_needs_31 : decode cX1_needs 31 = .ok (.iload_n 3, 1) := dk_29 (dk_at dksX1_needs_1 7 rfl rfl)
theorem dX1_needs_32 : decode cX1_needs 32 = .ok (.putfield 246, 3) := dk_181 0 246 (dk_at dksX1_needs_1 8 rfl rfl)
theorem dX1_needs_35 : decode cX1_needs 35 = .ok (.aload_n 0, 1) := dk_42 (dk_at dksX1_needs_1 11 rfl rfl)
theorem dX1_needs_36 : decode cX1_needs 36 = .ok (.invokevirtual 205, 3) := dk_182 0 205 (dk_at dksX1_needs_1 12 rfl rfl)
theorem dX1_needs_39 : decode cX1_needs 39 = .ok (.aload_n 0, 1) := dk_42 (dk_at dksX1_needs_1 15 rfl rfl)
theorem dX1_needs_40 : decode cX1_needs 40 = .ok (.invokevirtual 426, 3) := dk_182 1 170 (dk_at dksX1_needs_1 16 rfl rfl)
theorem dX1_needs_43 : decode cX1_needs 43 = .ok (.aload_n 0, 1) := dk_42 (dk_at dksX1_needs_1 19 rfl rfl)
theorem dX1_needs_44 : decode cX1_needs 44 = .ok (.getfield 122, 3) := dk_180 0 122 (dk_at dksX1_needs_1 20 rfl rfl)
theorem dX1_needs_47 : decode cX1_needs 47 = .ok (.aload_n 0, 1) := dk_42 (dk_at dksX1_needs_1 23 rfl rfl)
theorem dX1_needs_48 : decode cX1_needs 48 = .ok (.invokevirtual 429, 3) := dk_182 1 173 (dk_at dksX1_needs_2 0 rfl rfl)
theorem dX1_needs_51 : decode cX1_needs 51 = .ok (.laload, 1) := dk_47 (dk_at dksX1_needs_2 3 rfl rfl)
theorem dX1_needs_52 : decode cX1_needs 52 = .ok (.aload_n 0, 1) := dk_42 (dk_at dksX1_needs_2 4 rfl rfl)
theorem dX1_needs_53 : decode cX1_needs 53 = .ok (.getfield 57, 3) := dk_180 0 57 (dk_at dksX1_needs_2 5 rfl rfl)
theorem dX1_needs_56 : decode cX1_needs 56 = .ok (.iconst 0, 1) := dk_3 (dk_at dksX1_needs_2 8 rfl rfl)
theorem dX1_needs_57 : decode cX1_needs 57 = .ok (.laload, 1) := dk_47 (dk_at dksX1_needs_2 9 rfl rfl)
theorem dX1_needs_58 : decode cX1_needs 58 = .ok (.lcmp, 1) := dk_148 (dk_at dksX1_needs_2 10 rfl rfl)
theorem dX1_needs_59 : decode cX1_needs 59 = .ok (.ifCond .ne 7, 3) := dk_154 0 7 (dk_at dksX1_needs_2 11 rfl rfl)
theorem dX1_needs_62 : decode cX1_needs 62 = .ok (.iload_n 3, 1) := dk_29 (dk_at dksX1_needs_2 14 rfl rfl)
theorem dX1_needs_63 : decode cX1_needs 63 = .ok (.goto 4, 3) := dk_167 0 4 (dk_at dksX1_needs_2 15 rfl rfl)
theorem dX1_needs_66 : decode cX1_needs 66 = .ok (.iconst (-1), 1) := dk_2 (dk_at dksX1_needs_2 18 rfl rfl)
theorem dX1_needs_67 : decode cX1_needs 67 = .ok (.istore_n 2, 1) := dk_61 (dk_at dksX1_needs_2 19 rfl rfl)
theorem dX1_needs_68 : decode cX1_needs 68 = .ok (.iinc 3 1, 3) := dk_132 3 1 (dk_at dksX1_needs_2 20 rfl rfl)
theorem dX1_needs_71 : decode cX1_needs 71 = .ok (.goto (-55), 3) := dk_167 255 201 (dk_at dksX1_needs_3 0 rfl rfl)
theorem dX1_needs_74 : decode cX1_needs 74 = .ok (.aload_n 0, 1) := dk_42 (dk_at dksX1_needs_3 3 rfl rfl)
theorem dX1_needs_75 : decode cX1_needs 75 = .ok (.getfield 12, 3) := dk_180 0 12 (dk_at dksX1_needs_3 4 rfl rfl)
theorem dX1_needs_78 : decode cX1_needs 78 = .ok (.iload_n 1, 1) := dk_27 (dk_at dksX1_needs_3 7 rfl rfl)
theorem dX1_needs_79 : decode cX1_needs 79 = .ok (.putfield 246, 3) := dk_181 0 246 (dk_at dksX1_needs_3 8 rfl rfl)
theorem dX1_needs_82 : decode cX1_needs 82 = .ok (.aload_n 0, 1) := dk_42 (dk_at dksX1_needs_3 11 rfl rfl)
theorem dX1_needs_83 : decode cX1_needs 83 = .ok (.invokevirtual 205, 3) := dk_182 0 205 (dk_at dksX1_needs_3 12 rfl rfl)
theorem dX1_needs_86 : decode cX1_needs 86 = .ok (.iload_n 2, 1) := dk_28 (dk_at dksX1_needs_3 15 rfl rfl)
theorem dX1_needs_87 : decode cX1_needs 87 = .ok (.ireturn, 1) := dk_172 (dk_at dksX1_needs_3 16 rfl rfl)
theorem q134 : (Jvm.Cond.initialized "GlassLeaders") ∈ lw_all := lw_g (lw_at lw_m1 1 rfl) rfl
theorem q183 : (Jvm.Cond.instantiable "GlassLeaders" (36 : Nat)) ∈ lw_all := lw_g (lw_at lw_m1 50 rfl) rfl
theorem q185 : (Jvm.Cond.instanceMethod ({ cls := "GlassLeaders", name := "<init>", desc := "()V" } : Jvm.MethodName)) ∈ lw_all := lw_g (lw_at lw_m1 52 rfl) rfl
theorem q186 : (Jvm.Cond.code ({ cls := "GlassLeaders", name := "<init>", desc := "()V" } : Jvm.MethodName) prog_1_method_1_code (1 : Nat) (Option.none : Option Jvm.ClassFile.FieldType)) ∈ lw_all := lw_g (lw_at lw_m1 53 rfl) rfl
theorem q187 : (Jvm.Cond.methodLink "GlassLeaders" (3 : Nat) ({ cls := "java/lang/Object", name := "<init>", desc := "()V" } : Jvm.MethodName)) ∈ lw_all := lw_g (lw_at lw_m1 54 rfl) rfl
theorem q190 : (Jvm.Cond.classLink "GlassLeaders" (9 : Nat) "GlassLeaders$Land") ∈ lw_all := lw_g (lw_at lw_m1 57 rfl) rfl
theorem q192 : (Jvm.Cond.methodLinkNest "GlassLeaders" (11 : Nat) ({ cls := "GlassLeaders$Land", name := "<init>", desc := "()V" } : Jvm.MethodName) "GlassLeaders") ∈ lw_tbl := lw_at lw_m1 59 rfl
theorem q199 : (Jvm.Cond.fieldLinkNest "GlassLeaders" (208 : Nat) "GlassLeaders$Land" "places" "I" "GlassLeaders") ∈ lw_tbl := lw_at lw_m1 66 rfl
theorem q202 : (Jvm.Cond.fieldLinkNest "GlassLeaders" (243 : Nat) "GlassLeaders$Land" "ways" "I" "GlassLeaders") ∈ lw_tbl := lw_at lw_m1 69 rfl
theorem q205 : (Jvm.Cond.fieldLinkNest "GlassLeaders" (160 : Nat) "GlassLeaders$Land" "persons" "I" "GlassLeaders") ∈ lw_tbl := lw_at lw_m1 72 rfl
theorem q208 : (Jvm.Cond.fieldLinkNest "GlassLeaders" (237 : Nat) "GlassLeaders$Land" "hours" "I" "GlassLeaders") ∈ lw_tbl := lw_at lw_m1 75 rfl
theorem q211 : (Jvm.Cond.fieldLinkNest "GlassLeaders" (246 : Nat) "GlassLeaders$Land" "store" "I" "GlassLeaders") ∈ lw_tbl := lw_at lw_m1 78 rfl
theorem q213 : (Jvm.Cond.fieldLinkNest "GlassLeaders" (249 : Nat) "GlassLeaders$Land" "lost" "I" "GlassLeaders") ∈ lw_tbl := lw_at lw_m1 80 rfl
theorem q215 : (Jvm.Cond.fieldLinkNest "GlassLeaders" (251 : Nat) "GlassLeaders$Land" "start" "I" "GlassLeaders") ∈ lw_tbl := lw_at lw_m1 82 rfl
theorem q218 : (Jvm.Cond.fieldLinkNest "GlassLeaders" (313 : Nat) "GlassLeaders$Land" "isHut" "[Z" "GlassLeaders") ∈ lw_tbl := lw_at lw_m1 85 rfl
theorem q221 : (Jvm.Cond.fieldLinkNest "GlassLeaders" (297 : Nat) "GlassLeaders$Land" "isEnd" "[Z" "GlassLeaders") ∈ lw_tbl := lw_at lw_m1 88 rfl
theorem q228 : (Jvm.Cond.fieldLinkNest "GlassLeaders" (269 : Nat) "GlassLeaders$Land" "cost" "[I" "GlassLeaders") ∈ lw_tbl := lw_at lw_m1 95 rfl
theorem q232 : (Jvm.Cond.fieldLinkNest "GlassLeaders" (263 : Nat) "GlassLeaders$Land" "snow" "[[I" "GlassLeaders") ∈ lw_tbl := lw_at lw_m1 99 rfl
theorem q235 : (Jvm.Cond.fieldLinkNest "GlassLeaders" (272 : Nat) "GlassLeaders$Land" "wants" "[[I" "GlassLeaders") ∈ lw_tbl := lw_at lw_m1 102 rfl
theorem q237 : (Jvm.Cond.fieldLinkNest "GlassLeaders" (240 : Nat) "GlassLeaders$Land" "snowy" "I" "GlassLeaders") ∈ lw_tbl := lw_at lw_m1 104 rfl
theorem q271 : (Jvm.Cond.classLink "GlassLeaders" (16 : Nat) "java/util/ArrayList") ∈ lw_all := lw_g (lw_at lw_m1 138 rfl) rfl
theorem q273 : (Jvm.Cond.methodLink "GlassLeaders" (18 : Nat) ({ cls := "java/util/ArrayList", name := "<init>", desc := "()V" } : Jvm.MethodName)) ∈ lw_all := lw_g (lw_at lw_m1 140 rfl) rfl
theorem q297 : (Jvm.Cond.classLink "GlassLeaders" (23 : Nat) "GlassLeaders$State") ∈ lw_all := lw_g (lw_at lw_m1 164 rfl) rfl
theorem q299 : (Jvm.Cond.methodLink "GlassLeaders" (25 : Nat) ({ cls := "GlassLeaders$State", name := "<init>", desc := "()V" } : Jvm.MethodName)) ∈ lw_all := lw_g (lw_at lw_m1 166 rfl) rfl
theorem q308 : (Jvm.Cond.fieldLinkNest "GlassLeaders" (275 : Nat) "GlassLeaders$State" "kinds" "[I" "GlassLeaders") ∈ lw_tbl := lw_at lw_m1 175 rfl
theorem q311 : (Jvm.Cond.fieldLinkNest "GlassLeaders" (278 : Nat) "GlassLeaders$State" "plan" "[I" "GlassLeaders") ∈ lw_tbl := lw_at lw_m1 178 rfl
theorem q313 : (Jvm.Cond.fieldLinkNest "GlassLeaders" (281 : Nat) "GlassLeaders$State" "turns" "[I" "GlassLeaders") ∈ lw_tbl := lw_at lw_m1 180 rfl
theorem q315 : (Jvm.Cond.fieldLinkNest "GlassLeaders" (464 : Nat) "GlassLeaders$State" "rows" "[I" "GlassLeaders") ∈ lw_tbl := lw_at lw_m1 182 rfl
theorem q317 : (Jvm.Cond.fieldLinkNest "GlassLeaders" (452 : Nat) "GlassLeaders$State" "wasAt" "[I" "GlassLeaders") ∈ lw_tbl := lw_at lw_m1 184 rfl
theorem q319 : (Jvm.Cond.fieldLinkNest "GlassLeaders" (455 : Nat) "GlassLeaders$State" "wasStores" "[I" "GlassLeaders") ∈ lw_tbl := lw_at lw_m1 186 rfl
theorem q321 : (Jvm.Cond.fieldLinkNest "GlassLeaders" (458 : Nat) "GlassLeaders$State" "wasMoves" "[I" "GlassLeaders") ∈ lw_tbl := lw_at lw_m1 188 rfl
theorem q323 : (Jvm.Cond.fieldLinkNest "GlassLeaders" (284 : Nat) "GlassLeaders$State" "length" "I" "GlassLeaders") ∈ lw_tbl := lw_at lw_m1 190 rfl
theorem q325 : (Jvm.Cond.fieldLinkNest "GlassLeaders" (461 : Nat) "GlassLeaders$State" "rowsTold" "I" "GlassLeaders") ∈ lw_tbl := lw_at lw_m1 192 rfl
theorem q327 : (Jvm.Cond.fieldLinkNest "GlassLeaders" (446 : Nat) "GlassLeaders$State" "gone" "I" "GlassLeaders") ∈ lw_tbl := lw_at lw_m1 194 rfl
theorem q329 : (Jvm.Cond.fieldLinkNest "GlassLeaders" (449 : Nat) "GlassLeaders$State" "ended" "I" "GlassLeaders") ∈ lw_tbl := lw_at lw_m1 196 rfl
theorem q353 : (Jvm.Cond.classLink "GlassLeaders" (61 : Nat) "GlassLeaders$Ahead") ∈ lw_all := lw_g (lw_at lw_m1 220 rfl) rfl
theorem q355 : (Jvm.Cond.methodLinkNest "GlassLeaders" (63 : Nat) ({ cls := "GlassLeaders$Ahead", name := "<init>", desc := "(LGlassLeaders;)V" } : Jvm.MethodName) "GlassLeaders") ∈ lw_tbl := lw_at lw_m1 222 rfl
theorem q371 : (Jvm.Cond.classLink "GlassLeaders" (70 : Nat) "GlassLeaders$Own") ∈ lw_all := lw_g (lw_at lw_m1 238 rfl) rfl
theorem q373 : (Jvm.Cond.methodLinkNest "GlassLeaders" (72 : Nat) ({ cls := "GlassLeaders$Own", name := "<init>", desc := "(LGlassLeaders;)V" } : Jvm.MethodName) "GlassLeaders") ∈ lw_tbl := lw_at lw_m2 0 rfl
theorem q383 : (Jvm.Cond.classLink "GlassLeaders" (77 : Nat) "GlassLeaders$Fearing") ∈ lw_all := lw_g (lw_at lw_m2 10 rfl) rfl
theorem q385 : (Jvm.Cond.methodLinkNest "GlassLeaders" (79 : Nat) ({ cls := "GlassLeaders$Fearing", name := "<init>", desc := "(LGlassLeaders;)V" } : Jvm.MethodName) "GlassLeaders") ∈ lw_tbl := lw_at lw_m2 12 rfl
theorem q395 : (Jvm.Cond.classLink "GlassLeaders" (84 : Nat) "GlassLeaders$Pact") ∈ lw_all := lw_g (lw_at lw_m2 22 rfl) rfl
theorem q397 : (Jvm.Cond.methodLinkNest "GlassLeaders" (86 : Nat) ({ cls := "GlassLeaders$Pact", name := "<init>", desc := "(LGlassLeaders;)V" } : Jvm.MethodName) "GlassLeaders") ∈ lw_tbl := lw_at lw_m2 24 rfl
theorem q413 : (Jvm.Cond.classLink "GlassLeaders" (91 : Nat) "GlassLeaders$Leader") ∈ lw_all := lw_g (lw_at lw_m2 40 rfl) rfl
theorem q415 : (Jvm.Cond.classLink "GlassLeaders" (93 : Nat) "GlassLeaders$Kind") ∈ lw_all := lw_g (lw_at lw_m2 42 rfl) rfl
theorem q417 : (Jvm.Cond.methodLinkNest "GlassLeaders" (95 : Nat) ({ cls := "GlassLeaders$Kind", name := "<init>", desc := "(LGlassLeaders;)V" } : Jvm.MethodName) "GlassLeaders") ∈ lw_tbl := lw_at lw_m2 44 rfl
theorem q422 : (Jvm.Cond.classLink "GlassLeaders" (96 : Nat) "GlassLeaders$Spend") ∈ lw_all := lw_g (lw_at lw_m2 49 rfl) rfl
theorem q424 : (Jvm.Cond.methodLinkNest "GlassLeaders" (98 : Nat) ({ cls := "GlassLeaders$Spend", name := "<init>", desc := "(LGlassLeaders;)V" } : Jvm.MethodName) "GlassLeaders") ∈ lw_tbl := lw_at lw_m2 51 rfl
theorem q432 : (Jvm.Cond.classLink "GlassLeaders" (99 : Nat) "GlassLeaders$Planned") ∈ lw_all := lw_g (lw_at lw_m2 59 rfl) rfl
theorem q434 : (Jvm.Cond.methodLinkNest "GlassLeaders" (101 : Nat) ({ cls := "GlassLeaders$Planned", name := "<init>", desc := "(LGlassLeaders;)V" } : Jvm.MethodName) "GlassLeaders") ∈ lw_tbl := lw_at lw_m2 61 rfl
theorem q443 : (Jvm.Cond.classLink "GlassLeaders" (106 : Nat) "[[I") ∈ lw_all := lw_g (lw_at lw_m2 70 rfl) rfl
theorem q444 : (Jvm.Cond.classLink "GlassLeaders" (111 : Nat) "[[J") ∈ lw_all := lw_g (lw_at lw_m2 71 rfl) rfl
theorem q446 : (Jvm.Cond.methodLink "GlassLeaders" (144 : Nat) ({ cls := "GlassLeaders", name := "roundsAnew", desc := "()V" } : Jvm.MethodName)) ∈ lw_all := lw_g (lw_at lw_m2 73 rfl) rfl
theorem q447 : (Jvm.Cond.privateMethod ({ cls := "GlassLeaders", name := "roundsAnew", desc := "()V" } : Jvm.MethodName)) ∈ lw_tbl := lw_at lw_m2 74 rfl
theorem q448 : (Jvm.Cond.instanceMethod ({ cls := "GlassLeaders", name := "roundsAnew", desc := "()V" } : Jvm.MethodName)) ∈ lw_all := lw_g (lw_at lw_m2 75 rfl) rfl
theorem q449 : (Jvm.Cond.code ({ cls := "GlassLeaders", name := "roundsAnew", desc := "()V" } : Jvm.MethodName) prog_1_method_2_code (2 : Nat) (Option.none : Option Jvm.ClassFile.FieldType)) ∈ lw_all := lw_g (lw_at lw_m2 76 rfl) rfl
theorem q450 : (Jvm.Cond.fieldLink "GlassLeaders" (12 : Nat) "GlassLeaders" "land" "LGlassLeaders$Land;") ∈ lw_all := lw_g (lw_at lw_m2 77 rfl) rfl
theorem q453 : (Jvm.Cond.fieldLink "GlassLeaders" (19 : Nat) "GlassLeaders" "rules" "Ljava/util/ArrayList;") ∈ lw_all := lw_g (lw_at lw_m2 80 rfl) rfl
theorem q454 : (Jvm.Cond.fieldLink "GlassLeaders" (153 : Nat) "GlassLeaders" "hasLand" "Z") ∈ lw_all := lw_g (lw_at lw_m2 81 rfl) rfl
theorem q455 : (Jvm.Cond.fieldLink "GlassLeaders" (26 : Nat) "GlassLeaders" "now" "LGlassLeaders$State;") ∈ lw_all := lw_g (lw_at lw_m2 82 rfl) rfl
theorem q457 : (Jvm.Cond.fieldLink "GlassLeaders" (30 : Nat) "GlassLeaders" "images" "Ljava/util/ArrayList;") ∈ lw_all := lw_g (lw_at lw_m2 84 rfl) rfl
theorem q458 : (Jvm.Cond.fieldLink "GlassLeaders" (33 : Nat) "GlassLeaders" "refused" "[I") ∈ lw_all := lw_g (lw_at lw_m2 85 rfl) rfl
theorem q459 : (Jvm.Cond.fieldLink "GlassLeaders" (37 : Nat) "GlassLeaders" "tape" "[B") ∈ lw_all := lw_g (lw_at lw_m2 86 rfl) rfl
theorem q460 : (Jvm.Cond.fieldLink "GlassLeaders" (170 : Nat) "GlassLeaders" "taped" "I") ∈ lw_all := lw_g (lw_at lw_m2 87 rfl) rfl
theorem q461 : (Jvm.Cond.fieldLink "GlassLeaders" (41 : Nat) "GlassLeaders" "fault" "I") ∈ lw_all := lw_g (lw_at lw_m2 88 rfl) rfl
theorem q462 : (Jvm.Cond.fieldLink "GlassLeaders" (436 : Nat) "GlassLeaders" "seed" "I") ∈ lw_all := lw_g (lw_at lw_m2 89 rfl) rfl
theorem q463 : (Jvm.Cond.fieldLink "GlassLeaders" (45 : Nat) "GlassLeaders" "pactOne" "I") ∈ lw_all := lw_g (lw_at lw_m2 90 rfl) rfl
theorem q465 : (Jvm.Cond.fieldLink "GlassLeaders" (48 : Nat) "GlassLeaders" "pactOther" "I") ∈ lw_all := lw_g (lw_at lw_m2 92 rfl) rfl
theorem q467 : (Jvm.Cond.fieldLink "GlassLeaders" (51 : Nat) "GlassLeaders" "round" "[I") ∈ lw_all := lw_g (lw_at lw_m2 94 rfl) rfl
theorem q468 : (Jvm.Cond.fieldLink "GlassLeaders" (54 : Nat) "GlassLeaders" "names" "[I") ∈ lw_all := lw_g (lw_at lw_m2 95 rfl) rfl
theorem q469 : (Jvm.Cond.fieldLink "GlassLeaders" (57 : Nat) "GlassLeaders" "scales" "[J") ∈ lw_all := lw_g (lw_at lw_m2 96 rfl) rfl
theorem q470 : (Jvm.Cond.fieldLink "GlassLeaders" (66 : Nat) "GlassLeaders" "ahead" "LGlassLeaders$Ahead;") ∈ lw_all := lw_g (lw_at lw_m2 97 rfl) rfl
theorem q471 : (Jvm.Cond.fieldLink "GlassLeaders" (73 : Nat) "GlassLeaders" "own" "LGlassLeaders$Own;") ∈ lw_all := lw_g (lw_at lw_m2 98 rfl) rfl
theorem q472 : (Jvm.Cond.fieldLink "GlassLeaders" (80 : Nat) "GlassLeaders" "fearing" "LGlassLeaders$Fearing;") ∈ lw_all := lw_g (lw_at lw_m2 99 rfl) rfl
theorem q473 : (Jvm.Cond.fieldLink "GlassLeaders" (87 : Nat) "GlassLeaders" "pact" "LGlassLeaders$Pact;") ∈ lw_all := lw_g (lw_at lw_m2 100 rfl) rfl
theorem q474 : (Jvm.Cond.fieldLink "GlassLeaders" (102 : Nat) "GlassLeaders" "leaders" "[LGlassLeaders$Leader;") ∈ lw_all := lw_g (lw_at lw_m2 101 rfl) rfl
theorem q475 : (Jvm.Cond.fieldLink "GlassLeaders" (108 : Nat) "GlassLeaders" "lawful" "[[I") ∈ lw_all := lw_g (lw_at lw_m2 102 rfl) rfl
theorem q476 : (Jvm.Cond.fieldLink "GlassLeaders" (113 : Nat) "GlassLeaders" "values" "[[J") ∈ lw_all := lw_g (lw_at lw_m2 103 rfl) rfl
theorem q479 : (Jvm.Cond.fieldLink "GlassLeaders" (116 : Nat) "GlassLeaders" "alone" "[[J") ∈ lw_all := lw_g (lw_at lw_m2 106 rfl) rfl
theorem q481 : (Jvm.Cond.fieldLink "GlassLeaders" (119 : Nat) "GlassLeaders" "worst" "[[J") ∈ lw_all := lw_g (lw_at lw_m2 108 rfl) rfl
theorem q483 : (Jvm.Cond.fieldLink "GlassLeaders" (122 : Nat) "GlassLeaders" "there" "[J") ∈ lw_all := lw_g (lw_at lw_m2 110 rfl) rfl
theorem q484 : (Jvm.Cond.fieldLink "GlassLeaders" (125 : Nat) "GlassLeaders" "lost" "[J") ∈ lw_all := lw_g (lw_at lw_m2 111 rfl) rfl
theorem q485 : (Jvm.Cond.fieldLink "GlassLeaders" (128 : Nat) "GlassLeaders" "taken" "[B") ∈ lw_all := lw_g (lw_at lw_m2 112 rfl) rfl
theorem q486 : (Jvm.Cond.fieldLink "GlassLeaders" (131 : Nat) "GlassLeaders" "comes" "[Z") ∈ lw_all := lw_g (lw_at lw_m2 113 rfl) rfl
theorem q487 : (Jvm.Cond.fieldLink "GlassLeaders" (211 : Nat) "GlassLeaders" "isLawKnown" "Z") ∈ lw_all := lw_g (lw_at lw_m2 114 rfl) rfl
theorem q488 : (Jvm.Cond.fieldLink "GlassLeaders" (214 : Nat) "GlassLeaders" "isAloneKnown" "Z") ∈ lw_all := lw_g (lw_at lw_m2 115 rfl) rfl
theorem q489 : (Jvm.Cond.fieldLink "GlassLeaders" (220 : Nat) "GlassLeaders" "isWorstKnown" "Z") ∈ lw_all := lw_g (lw_at lw_m2 116 rfl) rfl
theorem q490 : (Jvm.Cond.fieldLink "GlassLeaders" (223 : Nat) "GlassLeaders" "isKnown" "Z") ∈ lw_all := lw_g (lw_at lw_m2 117 rfl) rfl
theorem q491 : (Jvm.Cond.fieldLink "GlassLeaders" (407 : Nat) "GlassLeaders" "isVoted" "Z") ∈ lw_all := lw_g (lw_at lw_m2 118 rfl) rfl
theorem q492 : (Jvm.Cond.fieldLink "GlassLeaders" (135 : Nat) "GlassLeaders" "as" "[J") ∈ lw_all := lw_g (lw_at lw_m2 119 rfl) rfl
theorem q493 : (Jvm.Cond.fieldLink "GlassLeaders" (138 : Nat) "GlassLeaders" "mass" "[J") ∈ lw_all := lw_g (lw_at lw_m2 120 rfl) rfl
theorem q494 : (Jvm.Cond.fieldLink "GlassLeaders" (141 : Nat) "GlassLeaders" "votes" "[I") ∈ lw_all := lw_g (lw_at lw_m2 121 rfl) rfl
theorem q495 : (Jvm.Cond.lays "GlassLeaders" "GlassLeaders" "land" "LGlassLeaders$Land;") ∈ lw_all := lw_g (lw_at lw_m2 122 rfl) rfl
theorem q496 : (Jvm.Cond.soleField "GlassLeaders" "land") ∈ lw_all := lw_g (lw_at lw_m2 123 rfl) rfl
theorem q497 : (Jvm.Cond.lays "GlassLeaders" "GlassLeaders" "rules" "Ljava/util/ArrayList;") ∈ lw_all := lw_g (lw_at lw_m2 124 rfl) rfl
theorem q498 : (Jvm.Cond.soleField "GlassLeaders" "rules") ∈ lw_all := lw_g (lw_at lw_m2 125 rfl) rfl
theorem q499 : (Jvm.Cond.lays "GlassLeaders" "GlassLeaders" "hasLand" "Z") ∈ lw_all := lw_g (lw_at lw_m2 126 rfl) rfl
theorem q500 : (Jvm.Cond.soleField "GlassLeaders" "hasLand") ∈ lw_all := lw_g (lw_at lw_m2 127 rfl) rfl
theorem q501 : (Jvm.Cond.laysFinal "GlassLeaders" "GlassLeaders" "now" "LGlassLeaders$State;") ∈ lw_all := lw_g (lw_at lw_m2 128 rfl) rfl
theorem q502 : (Jvm.Cond.soleField "GlassLeaders" "now") ∈ lw_all := lw_g (lw_at lw_m2 129 rfl) rfl
theorem q503 : (Jvm.Cond.laysFinal "GlassLeaders" "GlassLeaders" "images" "Ljava/util/ArrayList;") ∈ lw_all := lw_g (lw_at lw_m2 130 rfl) rfl
theorem q504 : (Jvm.Cond.soleField "GlassLeaders" "images") ∈ lw_all := lw_g (lw_at lw_m2 131 rfl) rfl
theorem q505 : (Jvm.Cond.laysFinal "GlassLeaders" "GlassLeaders" "refused" "[I") ∈ lw_all := lw_g (lw_at lw_m2 132 rfl) rfl
theorem q506 : (Jvm.Cond.soleField "GlassLeaders" "refused") ∈ lw_all := lw_g (lw_at lw_m2 133 rfl) rfl
theorem q507 : (Jvm.Cond.laysFinal "GlassLeaders" "GlassLeaders" "tape" "[B") ∈ lw_all := lw_g (lw_at lw_m2 134 rfl) rfl
theorem q508 : (Jvm.Cond.soleField "GlassLeaders" "tape") ∈ lw_all := lw_g (lw_at lw_m2 135 rfl) rfl
theorem q509 : (Jvm.Cond.lays "GlassLeaders" "GlassLeaders" "taped" "I") ∈ lw_all := lw_g (lw_at lw_m2 136 rfl) rfl
theorem q510 : (Jvm.Cond.soleField "GlassLeaders" "taped") ∈ lw_all := lw_g (lw_at lw_m2 137 rfl) rfl
theorem q511 : (Jvm.Cond.lays "GlassLeaders" "GlassLeaders" "fault" "I") ∈ lw_all := lw_g (lw_at lw_m2 138 rfl) rfl
theorem q512 : (Jvm.Cond.soleField "GlassLeaders" "fault") ∈ lw_all := lw_g (lw_at lw_m2 139 rfl) rfl
theorem q513 : (Jvm.Cond.lays "GlassLeaders" "GlassLeaders" "seed" "I") ∈ lw_all := lw_g (lw_at lw_m2 140 rfl) rfl
theorem q514 : (Jvm.Cond.soleField "GlassLeaders" "seed") ∈ lw_all := lw_g (lw_at lw_m2 141 rfl) rfl
theorem q515 : (Jvm.Cond.lays "GlassLeaders" "GlassLeaders" "pactOne" "I") ∈ lw_all := lw_g (lw_at lw_m2 142 rfl) rfl
theorem q516 : (Jvm.Cond.soleField "GlassLeaders" "pactOne") ∈ lw_all := lw_g (lw_at lw_m2 143 rfl) rfl
theorem q517 : (Jvm.Cond.lays "GlassLeaders" "GlassLeaders" "pactOther" "I") ∈ lw_all := lw_g (lw_at lw_m2 144 rfl) rfl
theorem q518 : (Jvm.Cond.soleField "GlassLeaders" "pactOther") ∈ lw_all := lw_g (lw_at lw_m2 145 rfl) rfl
theorem q519 : (Jvm.Cond.laysFinal "GlassLeaders" "GlassLeaders" "round" "[I") ∈ lw_all := lw_g (lw_at lw_m2 146 rfl) rfl
theorem q520 : (Jvm.Cond.soleField "GlassLeaders" "round") ∈ lw_all := lw_g (lw_at lw_m2 147 rfl) rfl
theorem q521 : (Jvm.Cond.laysFinal "GlassLeaders" "GlassLeaders" "names" "[I") ∈ lw_all := lw_g (lw_at lw_m2 148 rfl) rfl
theorem q522 : (Jvm.Cond.soleField "GlassLeaders" "names") ∈ lw_all := lw_g (lw_at lw_m2 149 rfl) rfl
theorem q523 : (Jvm.Cond.laysFinal "GlassLeaders" "GlassLeaders" "scales" "[J") ∈ lw_all := lw_g (lw_at lw_m2 150 rfl) rfl
theorem q524 : (Jvm.Cond.soleField "GlassLeaders" "scales") ∈ lw_all := lw_g (lw_at lw_m2 151 rfl) rfl
theorem q525 : (Jvm.Cond.laysFinal "GlassLeaders" "GlassLeaders" "ahead" "LGlassLeaders$Ahead;") ∈ lw_all := lw_g (lw_at lw_m2 152 rfl) rfl
theorem q526 : (Jvm.Cond.soleField "GlassLeaders" "ahead") ∈ lw_all := lw_g (lw_at lw_m2 153 rfl) rfl
theorem q527 : (Jvm.Cond.laysFinal "GlassLeaders" "GlassLeaders" "own" "LGlassLeaders$Own;") ∈ lw_all := lw_g (lw_at lw_m2 154 rfl) rfl
theorem q528 : (Jvm.Cond.soleField "GlassLeaders" "own") ∈ lw_all := lw_g (lw_at lw_m2 155 rfl) rfl
theorem q529 : (Jvm.Cond.laysFinal "GlassLeaders" "GlassLeaders" "fearing" "LGlassLeaders$Fearing;") ∈ lw_all := lw_g (lw_at lw_m2 156 rfl) rfl
theorem q530 : (Jvm.Cond.soleField "GlassLeaders" "fearing") ∈ lw_all := lw_g (lw_at lw_m2 157 rfl) rfl
theorem q531 : (Jvm.Cond.laysFinal "GlassLeaders" "GlassLeaders" "pact" "LGlassLeaders$Pact;") ∈ lw_all := lw_g (lw_at lw_m2 158 rfl) rfl
theorem q532 : (Jvm.Cond.soleField "GlassLeaders" "pact") ∈ lw_all := lw_g (lw_at lw_m2 159 rfl) rfl
theorem q533 : (Jvm.Cond.laysFinal "GlassLeaders" "GlassLeaders" "leaders" "[LGlassLeaders$Leader;") ∈ lw_all := lw_g (lw_at lw_m2 160 rfl) rfl
theorem q534 : (Jvm.Cond.soleField "GlassLeaders" "leaders") ∈ lw_all := lw_g (lw_at lw_m2 161 rfl) rfl
theorem q535 : (Jvm.Cond.laysFinal "GlassLeaders" "GlassLeaders" "lawful" "[[I") ∈ lw_all := lw_g (lw_at lw_m2 162 rfl) rfl
theorem q536 : (Jvm.Cond.soleField "GlassLeaders" "lawful") ∈ lw_all := lw_g (lw_at lw_m2 163 rfl) rfl
theorem q537 : (Jvm.Cond.laysFinal "GlassLeaders" "GlassLeaders" "values" "[[J") ∈ lw_all := lw_g (lw_at lw_m2 164 rfl) rfl
theorem q538 : (Jvm.Cond.soleField "GlassLeaders" "values") ∈ lw_all := lw_g (lw_at lw_m2 165 rfl) rfl
theorem q539 : (Jvm.Cond.laysFinal "GlassLeaders" "GlassLeaders" "alone" "[[J") ∈ lw_all := lw_g (lw_at lw_m2 166 rfl) rfl
theorem q540 : (Jvm.Cond.soleField "GlassLeaders" "alone") ∈ lw_all := lw_g (lw_at lw_m2 167 rfl) rfl
theorem q541 : (Jvm.Cond.laysFinal "GlassLeaders" "GlassLeaders" "worst" "[[J") ∈ lw_all := lw_g (lw_at lw_m2 168 rfl) rfl
theorem q542 : (Jvm.Cond.soleField "GlassLeaders" "worst") ∈ lw_all := lw_g (lw_at lw_m2 169 rfl) rfl
theorem q543 : (Jvm.Cond.laysFinal "GlassLeaders" "GlassLeaders" "there" "[J") ∈ lw_all := lw_g (lw_at lw_m2 170 rfl) rfl
theorem q544 : (Jvm.Cond.soleField "GlassLeaders" "there") ∈ lw_all := lw_g (lw_at lw_m2 171 rfl) rfl
theorem q545 : (Jvm.Cond.laysFinal "GlassLeaders" "GlassLeaders" "lost" "[J") ∈ lw_all := lw_g (lw_at lw_m2 172 rfl) rfl
theorem q546 : (Jvm.Cond.soleField "GlassLeaders" "lost") ∈ lw_all := lw_g (lw_at lw_m2 173 rfl) rfl
theorem q547 : (Jvm.Cond.laysFinal "GlassLeaders" "GlassLeaders" "taken" "[B") ∈ lw_all := lw_g (lw_at lw_m2 174 rfl) rfl
theorem q548 : (Jvm.Cond.soleField "GlassLeaders" "taken") ∈ lw_all := lw_g (lw_at lw_m2 175 rfl) rfl
theorem q549 : (Jvm.Cond.laysFinal "GlassLeaders" "GlassLeaders" "comes" "[Z") ∈ lw_all := lw_g (lw_at lw_m2 176 rfl) rfl
theorem q550 : (Jvm.Cond.soleField "GlassLeaders" "comes") ∈ lw_all := lw_g (lw_at lw_m2 177 rfl) rfl
theorem q551 : (Jvm.Cond.lays "GlassLeaders" "GlassLeaders" "isLawKnown" "Z") ∈ lw_all := lw_g (lw_at lw_m2 178 rfl) rfl
theorem q552 : (Jvm.Cond.soleField "GlassLeaders" "isLawKnown") ∈ lw_all := lw_g (lw_at lw_m2 179 rfl) rfl
theorem q553 : (Jvm.Cond.lays "GlassLeaders" "GlassLeaders" "isAloneKnown" "Z") ∈ lw_all := lw_g (lw_at lw_m2 180 rfl) rfl
theorem q554 : (Jvm.Cond.soleField "GlassLeaders" "isAloneKnown") ∈ lw_all := lw_g (lw_at lw_m2 181 rfl) rfl
theorem q555 : (Jvm.Cond.lays "GlassLeaders" "GlassLeaders" "isWorstKnown" "Z") ∈ lw_all := lw_g (lw_at lw_m2 182 rfl) rfl
theorem q556 : (Jvm.Cond.soleField "GlassLeaders" "isWorstKnown") ∈ lw_all := lw_g (lw_at lw_m2 183 rfl) rfl
theorem q557 : (Jvm.Cond.lays "GlassLeaders" "GlassLeaders" "isKnown" "Z") ∈ lw_all := lw_g (lw_at lw_m2 184 rfl) rfl
theorem q558 : (Jvm.Cond.soleField "GlassLeaders" "isKnown") ∈ lw_all := lw_g (lw_at lw_m2 185 rfl) rfl
theorem q559 : (Jvm.Cond.lays "GlassLeaders" "GlassLeaders" "isVoted" "Z") ∈ lw_all := lw_g (lw_at lw_m2 186 rfl) rfl
theorem q560 : (Jvm.Cond.soleField "GlassLeaders" "isVoted") ∈ lw_all := lw_g (lw_at lw_m2 187 rfl) rfl
theorem q561 : (Jvm.Cond.laysFinal "GlassLeaders" "GlassLeaders" "as" "[J") ∈ lw_all := lw_g (lw_at lw_m2 188 rfl) rfl
theorem q562 : (Jvm.Cond.soleField "GlassLeaders" "as") ∈ lw_all := lw_g (lw_at lw_m2 189 rfl) rfl
theorem q563 : (Jvm.Cond.laysFinal "GlassLeaders" "GlassLeaders" "mass" "[J") ∈ lw_all := lw_g (lw_at lw_m2 190 rfl) rfl
theorem q564 : (Jvm.Cond.soleField "GlassLeaders" "mass") ∈ lw_all := lw_g (lw_at lw_m2 191 rfl) rfl
theorem q565 : (Jvm.Cond.laysFinal "GlassLeaders" "GlassLeaders" "votes" "[I") ∈ lw_all := lw_g (lw_at lw_m2 192 rfl) rfl
theorem q566 : (Jvm.Cond.soleField "GlassLeaders" "votes") ∈ lw_all := lw_g (lw_at lw_m2 193 rfl) rfl
theorem q567 : (Jvm.Cond.superclass "GlassLeaders" "java/lang/Object") ∈ lw_all := lw_g (lw_at lw_m2 194 rfl) rfl
theorem q569 : (Jvm.Cond.instanceMethod ({ cls := "GlassLeaders", name := "feed", desc := "(IIIII)I" } : Jvm.MethodName)) ∈ lw_all := lw_g (lw_at lw_m2 196 rfl) rfl
theorem q570 : (Jvm.Cond.selects "GlassLeaders" ({ cls := "GlassLeaders", name := "feed", desc := "(IIIII)I" } : Jvm.MethodName) ({ cls := "GlassLeaders", name := "feed", desc := "(IIIII)I" } : Jvm.MethodName)) ∈ lw_all := lw_g (lw_at lw_m2 197 rfl) rfl
theorem q571 : (Jvm.Cond.code ({ cls := "GlassLeaders", name := "feed", desc := "(IIIII)I" } : Jvm.MethodName) prog_1_method_8_code (9 : Nat) (Option.some Jvm.ClassFile.FieldType.int)) ∈ lw_all := lw_g (lw_at lw_m2 198 rfl) rfl
theorem q573 : (Jvm.Cond.instanceMethod ({ cls := "GlassLeaders", name := "fault", desc := "()I" } : Jvm.MethodName)) ∈ lw_all := lw_g (lw_at lw_m2 200 rfl) rfl
theorem q574 : (Jvm.Cond.selects "GlassLeaders" ({ cls := "GlassLeaders", name := "fault", desc := "()I" } : Jvm.MethodName) ({ cls := "GlassLeaders", name := "fault", desc := "()I" } : Jvm.MethodName)) ∈ lw_all := lw_g (lw_at lw_m2 201 rfl) rfl
theorem q575 : (Jvm.Cond.code ({ cls := "GlassLeaders", name := "fault", desc := "()I" } : Jvm.MethodName) prog_1_method_15_code (1 : Nat) (Option.some Jvm.ClassFile.FieldType.int)) ∈ lw_all := lw_g (lw_at lw_m2 202 rfl) rfl
theorem q577 : (Jvm.Cond.instanceMethod ({ cls := "GlassLeaders", name := "ended", desc := "()I" } : Jvm.MethodName)) ∈ lw_all := lw_g (lw_at lw_m2 204 rfl) rfl
theorem q578 : (Jvm.Cond.selects "GlassLeaders" ({ cls := "GlassLeaders", name := "ended", desc := "()I" } : Jvm.MethodName) ({ cls := "GlassLeaders", name := "ended", desc := "()I" } : Jvm.MethodName)) ∈ lw_all := lw_g (lw_at lw_m2 205 rfl) rfl
theorem q579 : (Jvm.Cond.code ({ cls := "GlassLeaders", name := "ended", desc := "()I" } : Jvm.MethodName) prog_1_method_58_code (1 : Nat) (Option.some Jvm.ClassFile.FieldType.int)) ∈ lw_all := lw_g (lw_at lw_m2 206 rfl) rfl
theorem q581 : (Jvm.Cond.instanceMethod ({ cls := "GlassLeaders", name := "clear", desc := "()I" } : Jvm.MethodName)) ∈ lw_all := lw_g (lw_at lw_m2 208 rfl) rfl
theorem q582 : (Jvm.Cond.selects "GlassLeaders" ({ cls := "GlassLeaders", name := "clear", desc := "()I" } : Jvm.MethodName) ({ cls := "GlassLeaders", name := "clear", desc := "()I" } : Jvm.MethodName)) ∈ lw_all := lw_g (lw_at lw_m2 209 rfl) rfl
theorem q583 : (Jvm.Cond.code ({ cls := "GlassLeaders", name := "clear", desc := "()I" } : Jvm.MethodName) prog_1_method_60_code (2 : Nat) (Option.some Jvm.ClassFile.FieldType.int)) ∈ lw_all := lw_g (lw_at lw_m2 210 rfl) rfl
theorem q585 : (Jvm.Cond.instanceMethod ({ cls := "GlassLeaders", name := "image", desc := "()I" } : Jvm.MethodName)) ∈ lw_all := lw_g (lw_at lw_m2 212 rfl) rfl
theorem q586 : (Jvm.Cond.selects "GlassLeaders" ({ cls := "GlassLeaders", name := "image", desc := "()I" } : Jvm.MethodName) ({ cls := "GlassLeaders", name := "image", desc := "()I" } : Jvm.MethodName)) ∈ lw_all := lw_g (lw_at lw_m2 213 rfl) rfl
theorem q587 : (Jvm.Cond.code ({ cls := "GlassLeaders", name := "image", desc := "()I" } : Jvm.MethodName) prog_1_method_96_code (1 : Nat) (Option.some Jvm.ClassFile.FieldType.int)) ∈ lw_all := lw_g (lw_at lw_m2 214 rfl) rfl
theorem q588 : (Jvm.Cond.methodLink "GlassLeaders" (233 : Nat) ({ cls := "java/util/ArrayList", name := "size", desc := "()I" } : Jvm.MethodName)) ∈ lw_all := lw_g (lw_at lw_m2 215 rfl) rfl
theorem q592 : (Jvm.Cond.methodLink "GlassLeaders" (512 : Nat) ({ cls := "GlassLeaders$State", name := "over", desc := "(LGlassLeaders$State;)LGlassLeaders$State;" } : Jvm.MethodName)) ∈ lw_all := lw_g (lw_at lw_m2 219 rfl) rfl
theorem q599 : (Jvm.Cond.methodLink "GlassLeaders" (516 : Nat) ({ cls := "java/util/ArrayList", name := "add", desc := "(Ljava/lang/Object;)Z" } : Jvm.MethodName)) ∈ lw_all := lw_g (lw_at lw_m2 226 rfl) rfl
theorem q631 : (Jvm.Cond.selects "GlassLeaders" ({ cls := "java/lang/Object", name := "getClass", desc := "()Ljava/lang/Class;" } : Jvm.MethodName) ({ cls := "java/lang/Object", name := "getClass", desc := "()Ljava/lang/Class;" } : Jvm.MethodName)) ∈ lw_all := lw_g (lw_at lw_m3 18 rfl) rfl
theorem q674 : (Jvm.Cond.instanceMethod ({ cls := "GlassLeaders", name := "on", desc := "()I" } : Jvm.MethodName)) ∈ lw_all := lw_g (lw_at lw_m3 61 rfl) rfl
theorem q675 : (Jvm.Cond.selects "GlassLeaders" ({ cls := "GlassLeaders", name := "on", desc := "()I" } : Jvm.MethodName) ({ cls := "GlassLeaders", name := "on", desc := "()I" } : Jvm.MethodName)) ∈ lw_all := lw_g (lw_at lw_m3 62 rfl) rfl
theorem q676 : (Jvm.Cond.code ({ cls := "GlassLeaders", name := "on", desc := "()I" } : Jvm.MethodName) prog_1_method_97_code (1 : Nat) (Option.some Jvm.ClassFile.FieldType.int)) ∈ lw_all := lw_g (lw_at lw_m3 63 rfl) rfl
theorem q677 : (Jvm.Cond.methodLink "GlassLeaders" (519 : Nat) ({ cls := "java/util/ArrayList", name := "isEmpty", desc := "()Z" } : Jvm.MethodName)) ∈ lw_all := lw_g (lw_at lw_m3 64 rfl) rfl
theorem q681 : (Jvm.Cond.methodLink "GlassLeaders" (505 : Nat) ({ cls := "java/util/ArrayList", name := "remove", desc := "(I)Ljava/lang/Object;" } : Jvm.MethodName)) ∈ lw_all := lw_g (lw_at lw_m3 68 rfl) rfl
theorem q696 : (Jvm.Cond.methodLink "GlassLeaders" (217 : Nat) ({ cls := "GlassLeaders", name := "leads", desc := "()V" } : Jvm.MethodName)) ∈ lw_all := lw_g (lw_at lw_m3 83 rfl) rfl
theorem q697 : (Jvm.Cond.privateMethod ({ cls := "GlassLeaders", name := "leads", desc := "()V" } : Jvm.MethodName)) ∈ lw_tbl := lw_at lw_m3 84 rfl
theorem q698 : (Jvm.Cond.instanceMethod ({ cls := "GlassLeaders", name := "leads", desc := "()V" } : Jvm.MethodName)) ∈ lw_all := lw_g (lw_at lw_m3 85 rfl) rfl
theorem q699 : (Jvm.Cond.code ({ cls := "GlassLeaders", name := "leads", desc := "()V" } : Jvm.MethodName) prog_1_method_13_code (1 : Nat) (Option.none : Option Jvm.ClassFile.FieldType)) ∈ lw_all := lw_g (lw_at lw_m3 86 rfl) rfl
theorem q701 : (Jvm.Cond.instanceMethod ({ cls := "GlassLeaders", name := "status", desc := "(I)I" } : Jvm.MethodName)) ∈ lw_all := lw_g (lw_at lw_m3 88 rfl) rfl
theorem q702 : (Jvm.Cond.selects "GlassLeaders" ({ cls := "GlassLeaders", name := "status", desc := "(I)I" } : Jvm.MethodName) ({ cls := "GlassLeaders", name := "status", desc := "(I)I" } : Jvm.MethodName)) ∈ lw_all := lw_g (lw_at lw_m3 89 rfl) rfl
theorem q703 : (Jvm.Cond.code ({ cls := "GlassLeaders", name := "status", desc := "(I)I" } : Jvm.MethodName) prog_1_method_98_code (2 : Nat) (Option.some Jvm.ClassFile.FieldType.int)) ∈ lw_all := lw_g (lw_at lw_m3 90 rfl) rfl
theorem q704 : (Jvm.Cond.methodLink "GlassLeaders" (163 : Nat) ({ cls := "GlassLeaders", name := "in", desc := "(III)Z" } : Jvm.MethodName)) ∈ lw_all := lw_g (lw_at lw_m3 91 rfl) rfl
theorem q705 : (Jvm.Cond.static ({ cls := "GlassLeaders", name := "in", desc := "(III)Z" } : Jvm.MethodName)) ∈ lw_all := lw_g (lw_at lw_m3 92 rfl) rfl
theorem q706 : (Jvm.Cond.code ({ cls := "GlassLeaders", name := "in", desc := "(III)Z" } : Jvm.MethodName) prog_1_method_3_code (3 : Nat) (Option.some Jvm.ClassFile.FieldType.boolean)) ∈ lw_all := lw_g (lw_at lw_m3 93 rfl) rfl
theorem q708 : (Jvm.Cond.instanceMethod ({ cls := "GlassLeaders", name := "count", desc := "(I)I" } : Jvm.MethodName)) ∈ lw_all := lw_g (lw_at lw_m3 95 rfl) rfl
theorem q709 : (Jvm.Cond.selects "GlassLeaders" ({ cls := "GlassLeaders", name := "count", desc := "(I)I" } : Jvm.MethodName) ({ cls := "GlassLeaders", name := "count", desc := "(I)I" } : Jvm.MethodName)) ∈ lw_all := lw_g (lw_at lw_m3 96 rfl) rfl
theorem q710 : (Jvm.Cond.code ({ cls := "GlassLeaders", name := "count", desc := "(I)I" } : Jvm.MethodName) prog_1_method_99_code (4 : Nat) (Option.some Jvm.ClassFile.FieldType.int)) ∈ lw_all := lw_g (lw_at lw_m3 97 rfl) rfl
theorem q716 : (Jvm.Cond.instanceMethod ({ cls := "GlassLeaders", name := "land", desc := "(I)I" } : Jvm.MethodName)) ∈ lw_all := lw_g (lw_at lw_m3 103 rfl) rfl
theorem q717 : (Jvm.Cond.selects "GlassLeaders" ({ cls := "GlassLeaders", name := "land", desc := "(I)I" } : Jvm.MethodName) ({ cls := "GlassLeaders", name := "land", desc := "(I)I" } : Jvm.MethodName)) ∈ lw_all := lw_g (lw_at lw_m3 104 rfl) rfl
theorem q718 : (Jvm.Cond.codeWith ({ cls := "GlassLeaders", name := "land", desc := "(I)I" } : Jvm.MethodName) prog_1_method_11_code (3 : Nat) (Option.some Jvm.ClassFile.FieldType.int) [((5 : Nat), (24 : Nat), (27 : Nat), (178 : Nat))]) ∈ lw_all := lw_g (lw_at lw_m3 105 rfl) rfl
theorem q719 : (Jvm.Cond.classLink "GlassLeaders" (178 : Nat) "GlassLeaders$Wrong") ∈ lw_all := lw_g (lw_at lw_m3 106 rfl) rfl
theorem q720 : (Jvm.Cond.methodLink "GlassLeaders" (185 : Nat) ({ cls := "GlassLeaders", name := "reads", desc := "(I)V" } : Jvm.MethodName)) ∈ lw_all := lw_g (lw_at lw_m3 107 rfl) rfl
theorem q721 : (Jvm.Cond.privateMethod ({ cls := "GlassLeaders", name := "reads", desc := "(I)V" } : Jvm.MethodName)) ∈ lw_tbl := lw_at lw_m3 108 rfl
theorem q722 : (Jvm.Cond.instanceMethod ({ cls := "GlassLeaders", name := "reads", desc := "(I)V" } : Jvm.MethodName)) ∈ lw_all := lw_g (lw_at lw_m3 109 rfl) rfl
theorem q723 : (Jvm.Cond.code ({ cls := "GlassLeaders", name := "reads", desc := "(I)V" } : Jvm.MethodName) prog_1_method_9_code (2 : Nat) (Option.none : Option Jvm.ClassFile.FieldType)) ∈ lw_all := lw_g (lw_at lw_m3 110 rfl) rfl
theorem q724 : (Jvm.Cond.methodLink "GlassLeaders" (173 : Nat) ({ cls := "GlassLeaders", name := "wrong", desc := "(Z)V" } : Jvm.MethodName)) ∈ lw_all := lw_g (lw_at lw_m3 111 rfl) rfl
theorem q725 : (Jvm.Cond.privateMethod ({ cls := "GlassLeaders", name := "wrong", desc := "(Z)V" } : Jvm.MethodName)) ∈ lw_tbl := lw_at lw_m3 112 rfl
theorem q726 : (Jvm.Cond.instanceMethod ({ cls := "GlassLeaders", name := "wrong", desc := "(Z)V" } : Jvm.MethodName)) ∈ lw_all := lw_g (lw_at lw_m3 113 rfl) rfl
theorem q727 : (Jvm.Cond.code ({ cls := "GlassLeaders", name := "wrong", desc := "(Z)V" } : Jvm.MethodName) prog_1_method_4_code (2 : Nat) (Option.none : Option Jvm.ClassFile.FieldType)) ∈ lw_all := lw_g (lw_at lw_m3 114 rfl) rfl
theorem q728 : (Jvm.Cond.classLink "GlassLeaders" (147 : Nat) "java/lang/IllegalArgumentException") ∈ lw_all := lw_g (lw_at lw_m3 115 rfl) rfl
theorem q772 : (Jvm.Cond.methodLink "GlassLeaders" (149 : Nat) ({ cls := "java/lang/IllegalArgumentException", name := "<init>", desc := "()V" } : Jvm.MethodName)) ∈ lw_all := lw_g (lw_at lw_m3 159 rfl) rfl
theorem q795 : (Jvm.Cond.classLink "GlassLeaders" (189 : Nat) "GlassLeaders$LandReader") ∈ lw_all := lw_g (lw_at lw_m3 182 rfl) rfl
theorem q797 : (Jvm.Cond.methodLink "GlassLeaders" (191 : Nat) ({ cls := "GlassLeaders$LandReader", name := "<init>", desc := "([BI)V" } : Jvm.MethodName)) ∈ lw_all := lw_g (lw_at lw_m3 184 rfl) rfl
theorem q833 : (Jvm.Cond.methodLink "GlassLeaders" (194 : Nat) ({ cls := "GlassLeaders$LandReader", name := "land", desc := "()LGlassLeaders$Land;" } : Jvm.MethodName)) ∈ lw_all := lw_g (lw_at lw_m3 220 rfl) rfl
theorem q926 : (Jvm.Cond.fieldLinkNest "GlassLeaders" (182 : Nat) "GlassLeaders$Wrong" "why" "I" "GlassLeaders") ∈ lw_tbl := lw_at lw_m4 73 rfl
theorem q928 : (Jvm.Cond.fieldLinkNest "GlassLeaders" (177 : Nat) "GlassLeaders$Wrong" "where" "I" "GlassLeaders") ∈ lw_tbl := lw_at lw_m4 75 rfl
theorem q1007 : (Jvm.Cond.methodLink "GlassLeaders" (197 : Nat) ({ cls := "GlassLeaders", name := "wrongAt", desc := "(LGlassLeaders$Wrong;)I" } : Jvm.MethodName)) ∈ lw_all := lw_g (lw_at lw_m4 154 rfl) rfl
theorem q1008 : (Jvm.Cond.privateMethod ({ cls := "GlassLeaders", name := "wrongAt", desc := "(LGlassLeaders$Wrong;)I" } : Jvm.MethodName)) ∈ lw_tbl := lw_at lw_m4 155 rfl
theorem q1009 : (Jvm.Cond.instanceMethod ({ cls := "GlassLeaders", name := "wrongAt", desc := "(LGlassLeaders$Wrong;)I" } : Jvm.MethodName)) ∈ lw_all := lw_g (lw_at lw_m4 156 rfl) rfl
theorem q1010 : (Jvm.Cond.code ({ cls := "GlassLeaders", name := "wrongAt", desc := "(LGlassLeaders$Wrong;)I" } : Jvm.MethodName) prog_1_method_10_code (2 : Nat) (Option.some Jvm.ClassFile.FieldType.int)) ∈ lw_all := lw_g (lw_at lw_m4 157 rfl) rfl
theorem q1011 : (Jvm.Cond.methodLink "GlassLeaders" (201 : Nat) ({ cls := "GlassLeaders$State", name := "clear", desc := "()V" } : Jvm.MethodName)) ∈ lw_all := lw_g (lw_at lw_m4 158 rfl) rfl
theorem q1012 : (Jvm.Cond.methodLink "GlassLeaders" (204 : Nat) ({ cls := "java/util/ArrayList", name := "clear", desc := "()V" } : Jvm.MethodName)) ∈ lw_all := lw_g (lw_at lw_m4 159 rfl) rfl
theorem q1016 : (Jvm.Cond.methodLink "GlassLeaders" (205 : Nat) ({ cls := "GlassLeaders", name := "changes", desc := "()V" } : Jvm.MethodName)) ∈ lw_all := lw_g (lw_at lw_m4 163 rfl) rfl
theorem q1017 : (Jvm.Cond.privateMethod ({ cls := "GlassLeaders", name := "changes", desc := "()V" } : Jvm.MethodName)) ∈ lw_tbl := lw_at lw_m4 164 rfl
theorem q1018 : (Jvm.Cond.instanceMethod ({ cls := "GlassLeaders", name := "changes", desc := "()V" } : Jvm.MethodName)) ∈ lw_all := lw_g (lw_at lw_m4 165 rfl) rfl
theorem q1019 : (Jvm.Cond.code ({ cls := "GlassLeaders", name := "changes", desc := "()V" } : Jvm.MethodName) prog_1_method_12_code (1 : Nat) (Option.none : Option Jvm.ClassFile.FieldType)) ∈ lw_all := lw_g (lw_at lw_m4 166 rfl) rfl
theorem q1024 : (Jvm.Cond.instanceMethod ({ cls := "GlassLeaders", name := "law", desc := "(I)I" } : Jvm.MethodName)) ∈ lw_all := lw_g (lw_at lw_m4 171 rfl) rfl
theorem q1025 : (Jvm.Cond.selects "GlassLeaders" ({ cls := "GlassLeaders", name := "law", desc := "(I)I" } : Jvm.MethodName) ({ cls := "GlassLeaders", name := "law", desc := "(I)I" } : Jvm.MethodName)) ∈ lw_all := lw_g (lw_at lw_m4 172 rfl) rfl
theorem q1026 : (Jvm.Cond.codeWith ({ cls := "GlassLeaders", name := "law", desc := "(I)I" } : Jvm.MethodName) prog_1_method_14_code (3 : Nat) (Option.some Jvm.ClassFile.FieldType.int) [((5 : Nat), (24 : Nat), (27 : Nat), (178 : Nat))]) ∈ lw_all := lw_g (lw_at lw_m4 173 rfl) rfl
theorem q1027 : (Jvm.Cond.classLink "GlassLeaders" (226 : Nat) "GlassLeaders$LawReader") ∈ lw_all := lw_g (lw_at lw_m4 174 rfl) rfl
theorem q1029 : (Jvm.Cond.methodLink "GlassLeaders" (228 : Nat) ({ cls := "GlassLeaders$LawReader", name := "<init>", desc := "([BI)V" } : Jvm.MethodName)) ∈ lw_all := lw_g (lw_at lw_m4 176 rfl) rfl
theorem q1052 : (Jvm.Cond.methodLink "GlassLeaders" (229 : Nat) ({ cls := "GlassLeaders$LawReader", name := "law", desc := "()Ljava/util/ArrayList;" } : Jvm.MethodName)) ∈ lw_all := lw_g (lw_at lw_m4 199 rfl) rfl
theorem q1217 : (Jvm.Cond.fieldLinkNest "GlassLeaders" (322 : Nat) "GlassLeaders$Rule" "isRest" "Z" "GlassLeaders") ∈ lw_tbl := lw_at lw_m5 124 rfl
theorem q1219 : (Jvm.Cond.fieldLinkNest "GlassLeaders" (325 : Nat) "GlassLeaders$Rule" "asked" "LGlassLeaders$Asked;" "GlassLeaders") ∈ lw_tbl := lw_at lw_m5 126 rfl
theorem q1230 : (Jvm.Cond.instanceMethod ({ cls := "GlassLeaders", name := "told", desc := "(I)I" } : Jvm.MethodName)) ∈ lw_all := lw_g (lw_at lw_m5 137 rfl) rfl
theorem q1231 : (Jvm.Cond.selects "GlassLeaders" ({ cls := "GlassLeaders", name := "told", desc := "(I)I" } : Jvm.MethodName) ({ cls := "GlassLeaders", name := "told", desc := "(I)I" } : Jvm.MethodName)) ∈ lw_all := lw_g (lw_at lw_m5 138 rfl) rfl
theorem q1232 : (Jvm.Cond.code ({ cls := "GlassLeaders", name := "told", desc := "(I)I" } : Jvm.MethodName) prog_1_method_17_code (2 : Nat) (Option.some Jvm.ClassFile.FieldType.int)) ∈ lw_all := lw_g (lw_at lw_m5 139 rfl) rfl
theorem q1233 : (Jvm.Cond.methodLink "GlassLeaders" (254 : Nat) ({ cls := "java/lang/Integer", name := "bitCount", desc := "(I)I" } : Jvm.MethodName)) ∈ lw_all := lw_g (lw_at lw_m5 140 rfl) rfl
theorem q1239 : (Jvm.Cond.instanceMethod ({ cls := "GlassLeaders", name := "snow", desc := "(II)I" } : Jvm.MethodName)) ∈ lw_all := lw_g (lw_at lw_m5 146 rfl) rfl
theorem q1240 : (Jvm.Cond.selects "GlassLeaders" ({ cls := "GlassLeaders", name := "snow", desc := "(II)I" } : Jvm.MethodName) ({ cls := "GlassLeaders", name := "snow", desc := "(II)I" } : Jvm.MethodName)) ∈ lw_all := lw_g (lw_at lw_m5 147 rfl) rfl
theorem q1241 : (Jvm.Cond.code ({ cls := "GlassLeaders", name := "snow", desc := "(II)I" } : Jvm.MethodName) prog_1_method_18_code (3 : Nat) (Option.some Jvm.ClassFile.FieldType.int)) ∈ lw_all := lw_g (lw_at lw_m5 148 rfl) rfl
theorem q1242 : (Jvm.Cond.methodLink "GlassLeaders" (260 : Nat) ({ cls := "GlassLeaders", name := "missing", desc := "(Z)V" } : Jvm.MethodName)) ∈ lw_all := lw_g (lw_at lw_m5 149 rfl) rfl
theorem q1243 : (Jvm.Cond.privateMethod ({ cls := "GlassLeaders", name := "missing", desc := "(Z)V" } : Jvm.MethodName)) ∈ lw_tbl := lw_at lw_m5 150 rfl
theorem q1244 : (Jvm.Cond.instanceMethod ({ cls := "GlassLeaders", name := "missing", desc := "(Z)V" } : Jvm.MethodName)) ∈ lw_all := lw_g (lw_at lw_m5 151 rfl) rfl
theorem q1245 : (Jvm.Cond.code ({ cls := "GlassLeaders", name := "missing", desc := "(Z)V" } : Jvm.MethodName) prog_1_method_5_code (2 : Nat) (Option.none : Option Jvm.ClassFile.FieldType)) ∈ lw_all := lw_g (lw_at lw_m5 152 rfl) rfl
theorem q1246 : (Jvm.Cond.classLink "GlassLeaders" (150 : Nat) "java/util/NoSuchElementException") ∈ lw_all := lw_g (lw_at lw_m5 153 rfl) rfl
theorem q1255 : (Jvm.Cond.methodLink "GlassLeaders" (152 : Nat) ({ cls := "java/util/NoSuchElementException", name := "<init>", desc := "()V" } : Jvm.MethodName)) ∈ lw_all := lw_g (lw_at lw_m5 162 rfl) rfl
theorem q1297 : (Jvm.Cond.instanceMethod ({ cls := "GlassLeaders", name := "wants", desc := "(II)I" } : Jvm.MethodName)) ∈ lw_all := lw_g (lw_at lw_m5 204 rfl) rfl
theorem q1298 : (Jvm.Cond.selects "GlassLeaders" ({ cls := "GlassLeaders", name := "wants", desc := "(II)I" } : Jvm.MethodName) ({ cls := "GlassLeaders", name := "wants", desc := "(II)I" } : Jvm.MethodName)) ∈ lw_all := lw_g (lw_at lw_m5 205 rfl) rfl
theorem q1299 : (Jvm.Cond.code ({ cls := "GlassLeaders", name := "wants", desc := "(II)I" } : Jvm.MethodName) prog_1_method_19_code (3 : Nat) (Option.some Jvm.ClassFile.FieldType.int)) ∈ lw_all := lw_g (lw_at lw_m5 206 rfl) rfl
theorem q1300 : (Jvm.Cond.methodLink "GlassLeaders" (266 : Nat) ({ cls := "GlassLeaders", name := "mustPerson", desc := "(I)V" } : Jvm.MethodName)) ∈ lw_all := lw_g (lw_at lw_m5 207 rfl) rfl
theorem q1301 : (Jvm.Cond.privateMethod ({ cls := "GlassLeaders", name := "mustPerson", desc := "(I)V" } : Jvm.MethodName)) ∈ lw_tbl := lw_at lw_m5 208 rfl
theorem q1302 : (Jvm.Cond.instanceMethod ({ cls := "GlassLeaders", name := "mustPerson", desc := "(I)V" } : Jvm.MethodName)) ∈ lw_all := lw_g (lw_at lw_m5 209 rfl) rfl
theorem q1303 : (Jvm.Cond.code ({ cls := "GlassLeaders", name := "mustPerson", desc := "(I)V" } : Jvm.MethodName) prog_1_method_7_code (2 : Nat) (Option.none : Option Jvm.ClassFile.FieldType)) ∈ lw_all := lw_g (lw_at lw_m5 210 rfl) rfl
theorem q1304 : (Jvm.Cond.classLink "GlassLeaders" (167 : Nat) "java/lang/IndexOutOfBoundsException") ∈ lw_all := lw_g (lw_at lw_m5 211 rfl) rfl
theorem q1313 : (Jvm.Cond.methodLink "GlassLeaders" (169 : Nat) ({ cls := "java/lang/IndexOutOfBoundsException", name := "<init>", desc := "()V" } : Jvm.MethodName)) ∈ lw_all := lw_g (lw_at lw_m5 220 rfl) rfl
theorem q1323 : (Jvm.Cond.instanceMethod ({ cls := "GlassLeaders", name := "kind", desc := "(II)I" } : Jvm.MethodName)) ∈ lw_all := lw_g (lw_at lw_m5 230 rfl) rfl
theorem q1324 : (Jvm.Cond.selects "GlassLeaders" ({ cls := "GlassLeaders", name := "kind", desc := "(II)I" } : Jvm.MethodName) ({ cls := "GlassLeaders", name := "kind", desc := "(II)I" } : Jvm.MethodName)) ∈ lw_all := lw_g (lw_at lw_m5 231 rfl) rfl
theorem q1325 : (Jvm.Cond.code ({ cls := "GlassLeaders", name := "kind", desc := "(II)I" } : Jvm.MethodName) prog_1_method_20_code (4 : Nat) (Option.some Jvm.ClassFile.FieldType.int)) ∈ lw_all := lw_g (lw_at lw_m5 232 rfl) rfl
theorem q1330 : (Jvm.Cond.instanceMethod ({ cls := "GlassLeaders", name := "plan", desc := "(II)I" } : Jvm.MethodName)) ∈ lw_all := lw_g (lw_at lw_m5 237 rfl) rfl
theorem q1331 : (Jvm.Cond.selects "GlassLeaders" ({ cls := "GlassLeaders", name := "plan", desc := "(II)I" } : Jvm.MethodName) ({ cls := "GlassLeaders", name := "plan", desc := "(II)I" } : Jvm.MethodName)) ∈ lw_all := lw_g (lw_at lw_m5 238 rfl) rfl
theorem q1332 : (Jvm.Cond.code ({ cls := "GlassLeaders", name := "plan", desc := "(II)I" } : Jvm.MethodName) prog_1_method_21_code (4 : Nat) (Option.some Jvm.ClassFile.FieldType.int)) ∈ lw_all := lw_g (lw_at lw_m5 239 rfl) rfl
theorem q1337 : (Jvm.Cond.instanceMethod ({ cls := "GlassLeaders", name := "turn", desc := "(II)I" } : Jvm.MethodName)) ∈ lw_all := lw_g (lw_at lw_m6 4 rfl) rfl
theorem q1338 : (Jvm.Cond.selects "GlassLeaders" ({ cls := "GlassLeaders", name := "turn", desc := "(II)I" } : Jvm.MethodName) ({ cls := "GlassLeaders", name := "turn", desc := "(II)I" } : Jvm.MethodName)) ∈ lw_all := lw_g (lw_at lw_m6 5 rfl) rfl
theorem q1339 : (Jvm.Cond.code ({ cls := "GlassLeaders", name := "turn", desc := "(II)I" } : Jvm.MethodName) prog_1_method_22_code (4 : Nat) (Option.some Jvm.ClassFile.FieldType.int)) ∈ lw_all := lw_g (lw_at lw_m6 6 rfl) rfl
theorem q1344 : (Jvm.Cond.instanceMethod ({ cls := "GlassLeaders", name := "days", desc := "(I)I" } : Jvm.MethodName)) ∈ lw_all := lw_g (lw_at lw_m6 11 rfl) rfl
theorem q1345 : (Jvm.Cond.selects "GlassLeaders" ({ cls := "GlassLeaders", name := "days", desc := "(I)I" } : Jvm.MethodName) ({ cls := "GlassLeaders", name := "days", desc := "(I)I" } : Jvm.MethodName)) ∈ lw_all := lw_g (lw_at lw_m6 12 rfl) rfl
theorem q1346 : (Jvm.Cond.code ({ cls := "GlassLeaders", name := "days", desc := "(I)I" } : Jvm.MethodName) prog_1_method_23_code (3 : Nat) (Option.some Jvm.ClassFile.FieldType.int)) ∈ lw_all := lw_g (lw_at lw_m6 13 rfl) rfl
theorem q1352 : (Jvm.Cond.instanceMethod ({ cls := "GlassLeaders", name := "whose", desc := "(I)I" } : Jvm.MethodName)) ∈ lw_all := lw_g (lw_at lw_m6 19 rfl) rfl
theorem q1353 : (Jvm.Cond.selects "GlassLeaders" ({ cls := "GlassLeaders", name := "whose", desc := "(I)I" } : Jvm.MethodName) ({ cls := "GlassLeaders", name := "whose", desc := "(I)I" } : Jvm.MethodName)) ∈ lw_all := lw_g (lw_at lw_m6 20 rfl) rfl
theorem q1354 : (Jvm.Cond.code ({ cls := "GlassLeaders", name := "whose", desc := "(I)I" } : Jvm.MethodName) prog_1_method_25_code (2 : Nat) (Option.some Jvm.ClassFile.FieldType.int)) ∈ lw_all := lw_g (lw_at lw_m6 21 rfl) rfl
theorem q1355 : (Jvm.Cond.methodLink "GlassLeaders" (287 : Nat) ({ cls := "GlassLeaders", name := "mustLand", desc := "()V" } : Jvm.MethodName)) ∈ lw_all := lw_g (lw_at lw_m6 22 rfl) rfl
theorem q1356 : (Jvm.Cond.privateMethod ({ cls := "GlassLeaders", name := "mustLand", desc := "()V" } : Jvm.MethodName)) ∈ lw_tbl := lw_at lw_m6 23 rfl
theorem q1357 : (Jvm.Cond.instanceMethod ({ cls := "GlassLeaders", name := "mustLand", desc := "()V" } : Jvm.MethodName)) ∈ lw_all := lw_g (lw_at lw_m6 24 rfl) rfl
theorem q1358 : (Jvm.Cond.code ({ cls := "GlassLeaders", name := "mustLand", desc := "()V" } : Jvm.MethodName) prog_1_method_6_code (1 : Nat) (Option.none : Option Jvm.ClassFile.FieldType)) ∈ lw_all := lw_g (lw_at lw_m6 25 rfl) rfl
theorem q1359 : (Jvm.Cond.classLink "GlassLeaders" (157 : Nat) "java/lang/IllegalStateException") ∈ lw_all := lw_g (lw_at lw_m6 26 rfl) rfl
theorem q1368 : (Jvm.Cond.methodLink "GlassLeaders" (159 : Nat) ({ cls := "java/lang/IllegalStateException", name := "<init>", desc := "()V" } : Jvm.MethodName)) ∈ lw_all := lw_g (lw_at lw_m6 35 rfl) rfl
theorem q1374 : (Jvm.Cond.methodLink "GlassLeaders" (290 : Nat) ({ cls := "GlassLeaders", name := "leaderOf", desc := "(I)I" } : Jvm.MethodName)) ∈ lw_all := lw_g (lw_at lw_m6 41 rfl) rfl
theorem q1375 : (Jvm.Cond.privateMethod ({ cls := "GlassLeaders", name := "leaderOf", desc := "(I)I" } : Jvm.MethodName)) ∈ lw_tbl := lw_at lw_m6 42 rfl
theorem q1376 : (Jvm.Cond.instanceMethod ({ cls := "GlassLeaders", name := "leaderOf", desc := "(I)I" } : Jvm.MethodName)) ∈ lw_all := lw_g (lw_at lw_m6 43 rfl) rfl
theorem q1377 : (Jvm.Cond.code ({ cls := "GlassLeaders", name := "leaderOf", desc := "(I)I" } : Jvm.MethodName) prog_1_method_24_code (2 : Nat) (Option.some Jvm.ClassFile.FieldType.int)) ∈ lw_all := lw_g (lw_at lw_m6 44 rfl) rfl
theorem q1382 : (Jvm.Cond.instanceMethod ({ cls := "GlassLeaders", name := "next", desc := "(III)I" } : Jvm.MethodName)) ∈ lw_all := lw_g (lw_at lw_m6 49 rfl) rfl
theorem q1383 : (Jvm.Cond.selects "GlassLeaders" ({ cls := "GlassLeaders", name := "next", desc := "(III)I" } : Jvm.MethodName) ({ cls := "GlassLeaders", name := "next", desc := "(III)I" } : Jvm.MethodName)) ∈ lw_all := lw_g (lw_at lw_m6 50 rfl) rfl
theorem q1384 : (Jvm.Cond.code ({ cls := "GlassLeaders", name := "next", desc := "(III)I" } : Jvm.MethodName) prog_1_method_38_code (5 : Nat) (Option.some Jvm.ClassFile.FieldType.int)) ∈ lw_all := lw_g (lw_at lw_m6 51 rfl) rfl
theorem q1385 : (Jvm.Cond.methodLink "GlassLeaders" (361 : Nat) ({ cls := "GlassLeaders", name := "stateAt", desc := "(III)I" } : Jvm.MethodName)) ∈ lw_all := lw_g (lw_at lw_m6 52 rfl) rfl
theorem q1386 : (Jvm.Cond.privateMethod ({ cls := "GlassLeaders", name := "stateAt", desc := "(III)I" } : Jvm.MethodName)) ∈ lw_tbl := lw_at lw_m6 53 rfl
theorem q1387 : (Jvm.Cond.instanceMethod ({ cls := "GlassLeaders", name := "stateAt", desc := "(III)I" } : Jvm.MethodName)) ∈ lw_all := lw_g (lw_at lw_m6 54 rfl) rfl
theorem q1388 : (Jvm.Cond.code ({ cls := "GlassLeaders", name := "stateAt", desc := "(III)I" } : Jvm.MethodName) prog_1_method_33_code (4 : Nat) (Option.some Jvm.ClassFile.FieldType.int)) ∈ lw_all := lw_g (lw_at lw_m6 55 rfl) rfl
theorem q1389 : (Jvm.Cond.methodLink "GlassLeaders" (293 : Nat) ({ cls := "GlassLeaders", name := "state", desc := "(III)I" } : Jvm.MethodName)) ∈ lw_all := lw_g (lw_at lw_m6 56 rfl) rfl
theorem q1390 : (Jvm.Cond.static ({ cls := "GlassLeaders", name := "state", desc := "(III)I" } : Jvm.MethodName)) ∈ lw_all := lw_g (lw_at lw_m6 57 rfl) rfl
theorem q1391 : (Jvm.Cond.code ({ cls := "GlassLeaders", name := "state", desc := "(III)I" } : Jvm.MethodName) prog_1_method_26_code (3 : Nat) (Option.some Jvm.ClassFile.FieldType.int)) ∈ lw_all := lw_g (lw_at lw_m6 58 rfl) rfl
theorem q1392 : (Jvm.Cond.methodLink "GlassLeaders" (364 : Nat) ({ cls := "GlassLeaders", name := "findLaw", desc := "()V" } : Jvm.MethodName)) ∈ lw_all := lw_g (lw_at lw_m6 59 rfl) rfl
theorem q1393 : (Jvm.Cond.privateMethod ({ cls := "GlassLeaders", name := "findLaw", desc := "()V" } : Jvm.MethodName)) ∈ lw_tbl := lw_at lw_m6 60 rfl
theorem q1394 : (Jvm.Cond.instanceMethod ({ cls := "GlassLeaders", name := "findLaw", desc := "()V" } : Jvm.MethodName)) ∈ lw_all := lw_g (lw_at lw_m6 61 rfl) rfl
theorem q1395 : (Jvm.Cond.code ({ cls := "GlassLeaders", name := "findLaw", desc := "()V" } : Jvm.MethodName) prog_1_method_36_code (6 : Nat) (Option.none : Option Jvm.ClassFile.FieldType)) ∈ lw_all := lw_g (lw_at lw_m6 62 rfl) rfl
theorem q1396 : (Jvm.Cond.methodLink "GlassLeaders" (343 : Nat) ({ cls := "GlassLeaders", name := "isSnowy", desc := "(I)Z" } : Jvm.MethodName)) ∈ lw_all := lw_g (lw_at lw_m6 63 rfl) rfl
theorem q1397 : (Jvm.Cond.privateMethod ({ cls := "GlassLeaders", name := "isSnowy", desc := "(I)Z" } : Jvm.MethodName)) ∈ lw_tbl := lw_at lw_m6 64 rfl
theorem q1398 : (Jvm.Cond.instanceMethod ({ cls := "GlassLeaders", name := "isSnowy", desc := "(I)Z" } : Jvm.MethodName)) ∈ lw_all := lw_g (lw_at lw_m6 65 rfl) rfl
theorem q1399 : (Jvm.Cond.code ({ cls := "GlassLeaders", name := "isSnowy", desc := "(I)Z" } : Jvm.MethodName) prog_1_method_16_code (2 : Nat) (Option.some Jvm.ClassFile.FieldType.boolean)) ∈ lw_all := lw_g (lw_at lw_m6 66 rfl) rfl
theorem q1400 : (Jvm.Cond.constantLong "GlassLeaders" (347 : Nat) (16 : Int64)) ∈ lw_all := lw_g (lw_at lw_m6 67 rfl) rfl
theorem q1401 : (Jvm.Cond.methodLink "GlassLeaders" (349 : Nat) ({ cls := "GlassLeaders", name := "endedOf", desc := "(I)I" } : Jvm.MethodName)) ∈ lw_all := lw_g (lw_at lw_m6 68 rfl) rfl
theorem q1402 : (Jvm.Cond.privateMethod ({ cls := "GlassLeaders", name := "endedOf", desc := "(I)I" } : Jvm.MethodName)) ∈ lw_tbl := lw_at lw_m6 69 rfl
theorem q1403 : (Jvm.Cond.instanceMethod ({ cls := "GlassLeaders", name := "endedOf", desc := "(I)I" } : Jvm.MethodName)) ∈ lw_all := lw_g (lw_at lw_m6 70 rfl) rfl
theorem q1404 : (Jvm.Cond.code ({ cls := "GlassLeaders", name := "endedOf", desc := "(I)I" } : Jvm.MethodName) prog_1_method_31_code (2 : Nat) (Option.some Jvm.ClassFile.FieldType.int)) ∈ lw_all := lw_g (lw_at lw_m6 71 rfl) rfl
theorem q1405 : (Jvm.Cond.methodLink "GlassLeaders" (300 : Nat) ({ cls := "GlassLeaders", name := "placeOf", desc := "(I)I" } : Jvm.MethodName)) ∈ lw_all := lw_g (lw_at lw_m6 72 rfl) rfl
theorem q1406 : (Jvm.Cond.static ({ cls := "GlassLeaders", name := "placeOf", desc := "(I)I" } : Jvm.MethodName)) ∈ lw_all := lw_g (lw_at lw_m6 73 rfl) rfl
theorem q1407 : (Jvm.Cond.code ({ cls := "GlassLeaders", name := "placeOf", desc := "(I)I" } : Jvm.MethodName) prog_1_method_27_code (1 : Nat) (Option.some Jvm.ClassFile.FieldType.int)) ∈ lw_all := lw_g (lw_at lw_m6 74 rfl) rfl
theorem q1408 : (Jvm.Cond.methodLink "GlassLeaders" (303 : Nat) ({ cls := "GlassLeaders", name := "storesOf", desc := "(I)I" } : Jvm.MethodName)) ∈ lw_all := lw_g (lw_at lw_m6 75 rfl) rfl
theorem q1409 : (Jvm.Cond.static ({ cls := "GlassLeaders", name := "storesOf", desc := "(I)I" } : Jvm.MethodName)) ∈ lw_all := lw_g (lw_at lw_m6 76 rfl) rfl
theorem q1410 : (Jvm.Cond.code ({ cls := "GlassLeaders", name := "storesOf", desc := "(I)I" } : Jvm.MethodName) prog_1_method_28_code (1 : Nat) (Option.some Jvm.ClassFile.FieldType.int)) ∈ lw_all := lw_g (lw_at lw_m6 77 rfl) rfl
theorem q1411 : (Jvm.Cond.methodLink "GlassLeaders" (306 : Nat) ({ cls := "GlassLeaders", name := "hourOf", desc := "(I)I" } : Jvm.MethodName)) ∈ lw_all := lw_g (lw_at lw_m6 78 rfl) rfl
theorem q1412 : (Jvm.Cond.static ({ cls := "GlassLeaders", name := "hourOf", desc := "(I)I" } : Jvm.MethodName)) ∈ lw_all := lw_g (lw_at lw_m6 79 rfl) rfl
theorem q1413 : (Jvm.Cond.code ({ cls := "GlassLeaders", name := "hourOf", desc := "(I)I" } : Jvm.MethodName) prog_1_method_29_code (1 : Nat) (Option.some Jvm.ClassFile.FieldType.int)) ∈ lw_all := lw_g (lw_at lw_m6 80 rfl) rfl
theorem q1414 : (Jvm.Cond.methodLink "GlassLeaders" (352 : Nat) ({ cls := "GlassLeaders", name := "lawAt", desc := "(II)V" } : Jvm.MethodName)) ∈ lw_all := lw_g (lw_at lw_m6 81 rfl) rfl
theorem q1415 : (Jvm.Cond.privateMethod ({ cls := "GlassLeaders", name := "lawAt", desc := "(II)V" } : Jvm.MethodName)) ∈ lw_tbl := lw_at lw_m6 82 rfl
theorem q1416 : (Jvm.Cond.instanceMethod ({ cls := "GlassLeaders", name := "lawAt", desc := "(II)V" } : Jvm.MethodName)) ∈ lw_all := lw_g (lw_at lw_m6 83 rfl) rfl
theorem q1417 : (Jvm.Cond.code ({ cls := "GlassLeaders", name := "lawAt", desc := "(II)V" } : Jvm.MethodName) prog_1_method_35_code (7 : Nat) (Option.none : Option Jvm.ClassFile.FieldType)) ∈ lw_all := lw_g (lw_at lw_m6 84 rfl) rfl
theorem q1418 : (Jvm.Cond.methodLink "GlassLeaders" (335 : Nat) ({ cls := "GlassLeaders", name := "holdsAll", desc := "(Z)Z" } : Jvm.MethodName)) ∈ lw_all := lw_g (lw_at lw_m6 85 rfl) rfl
theorem q1419 : (Jvm.Cond.privateMethod ({ cls := "GlassLeaders", name := "holdsAll", desc := "(Z)Z" } : Jvm.MethodName)) ∈ lw_tbl := lw_at lw_m6 86 rfl
theorem q1420 : (Jvm.Cond.instanceMethod ({ cls := "GlassLeaders", name := "holdsAll", desc := "(Z)Z" } : Jvm.MethodName)) ∈ lw_all := lw_g (lw_at lw_m6 87 rfl) rfl
theorem q1421 : (Jvm.Cond.code ({ cls := "GlassLeaders", name := "holdsAll", desc := "(Z)Z" } : Jvm.MethodName) prog_1_method_34_code (4 : Nat) (Option.some Jvm.ClassFile.FieldType.boolean)) ∈ lw_all := lw_g (lw_at lw_m6 88 rfl) rfl
theorem q1422 : (Jvm.Cond.methodLink "GlassLeaders" (316 : Nat) ({ cls := "java/util/ArrayList", name := "get", desc := "(I)Ljava/lang/Object;" } : Jvm.MethodName)) ∈ lw_all := lw_g (lw_at lw_m6 89 rfl) rfl
theorem q1430 : (Jvm.Cond.classLink "GlassLeaders" (320 : Nat) "GlassLeaders$Rule") ∈ lw_all := lw_g (lw_at lw_m6 97 rfl) rfl
theorem q1431 : (Jvm.Cond.methodLink "GlassLeaders" (329 : Nat) ({ cls := "GlassLeaders$Asked", name := "is", desc := "([I)Z" } : Jvm.MethodName)) ∈ lw_all := lw_g (lw_at lw_m6 98 rfl) rfl
theorem q1458 : (Jvm.Cond.methodLink "GlassLeaders" (339 : Nat) ({ cls := "GlassLeaders$Land", name := "isAt", desc := "(II)Z" } : Jvm.MethodName)) ∈ lw_all := lw_g (lw_at lw_m6 125 rfl) rfl
theorem q1462 : (Jvm.Cond.methodLink "GlassLeaders" (309 : Nat) ({ cls := "GlassLeaders$Land", name := "other", desc := "(II)I" } : Jvm.MethodName)) ∈ lw_all := lw_g (lw_at lw_m6 129 rfl) rfl
theorem q1466 : (Jvm.Cond.methodLink "GlassLeaders" (367 : Nat) ({ cls := "GlassLeaders", name := "mayOf", desc := "(II)I" } : Jvm.MethodName)) ∈ lw_all := lw_g (lw_at lw_m6 133 rfl) rfl
theorem q1467 : (Jvm.Cond.privateMethod ({ cls := "GlassLeaders", name := "mayOf", desc := "(II)I" } : Jvm.MethodName)) ∈ lw_tbl := lw_at lw_m6 134 rfl
theorem q1468 : (Jvm.Cond.instanceMethod ({ cls := "GlassLeaders", name := "mayOf", desc := "(II)I" } : Jvm.MethodName)) ∈ lw_all := lw_g (lw_at lw_m6 135 rfl) rfl
theorem q1469 : (Jvm.Cond.code ({ cls := "GlassLeaders", name := "mayOf", desc := "(II)I" } : Jvm.MethodName) prog_1_method_37_code (3 : Nat) (Option.some Jvm.ClassFile.FieldType.int)) ∈ lw_all := lw_g (lw_at lw_m6 136 rfl) rfl
theorem q1470 : (Jvm.Cond.methodLink "GlassLeaders" (356 : Nat) ({ cls := "java/lang/Math", name := "max", desc := "(II)I" } : Jvm.MethodName)) ∈ lw_all := lw_g (lw_at lw_m6 137 rfl) rfl
theorem q1475 : (Jvm.Cond.instanceMethod ({ cls := "GlassLeaders", name := "takes", desc := "(III)I" } : Jvm.MethodName)) ∈ lw_all := lw_g (lw_at lw_m6 142 rfl) rfl
theorem q1476 : (Jvm.Cond.selects "GlassLeaders" ({ cls := "GlassLeaders", name := "takes", desc := "(III)I" } : Jvm.MethodName) ({ cls := "GlassLeaders", name := "takes", desc := "(III)I" } : Jvm.MethodName)) ∈ lw_all := lw_g (lw_at lw_m6 143 rfl) rfl
theorem q1477 : (Jvm.Cond.code ({ cls := "GlassLeaders", name := "takes", desc := "(III)I" } : Jvm.MethodName) prog_1_method_48_code (5 : Nat) (Option.some Jvm.ClassFile.FieldType.int)) ∈ lw_all := lw_g (lw_at lw_m6 144 rfl) rfl
theorem q1478 : (Jvm.Cond.methodLink "GlassLeaders" (426 : Nat) ({ cls := "GlassLeaders", name := "find", desc := "()V" } : Jvm.MethodName)) ∈ lw_all := lw_g (lw_at lw_m6 145 rfl) rfl
theorem q1479 : (Jvm.Cond.privateMethod ({ cls := "GlassLeaders", name := "find", desc := "()V" } : Jvm.MethodName)) ∈ lw_tbl := lw_at lw_m6 146 rfl
theorem q1480 : (Jvm.Cond.instanceMethod ({ cls := "GlassLeaders", name := "find", desc := "()V" } : Jvm.MethodName)) ∈ lw_all := lw_g (lw_at lw_m6 147 rfl) rfl
theorem q1481 : (Jvm.Cond.code ({ cls := "GlassLeaders", name := "find", desc := "()V" } : Jvm.MethodName) prog_1_method_45_code (4 : Nat) (Option.none : Option Jvm.ClassFile.FieldType)) ∈ lw_all := lw_g (lw_at lw_m6 148 rfl) rfl
theorem q1482 : (Jvm.Cond.methodLink "GlassLeaders" (399 : Nat) ({ cls := "GlassLeaders", name := "findAlone", desc := "()V" } : Jvm.MethodName)) ∈ lw_all := lw_g (lw_at lw_m6 149 rfl) rfl
theorem q1483 : (Jvm.Cond.privateMethod ({ cls := "GlassLeaders", name := "findAlone", desc := "()V" } : Jvm.MethodName)) ∈ lw_tbl := lw_at lw_m6 150 rfl
theorem q1484 : (Jvm.Cond.instanceMethod ({ cls := "GlassLeaders", name := "findAlone", desc := "()V" } : Jvm.MethodName)) ∈ lw_all := lw_g (lw_at lw_m6 151 rfl) rfl
theorem q1485 : (Jvm.Cond.code ({ cls := "GlassLeaders", name := "findAlone", desc := "()V" } : Jvm.MethodName) prog_1_method_42_code (2 : Nat) (Option.none : Option Jvm.ClassFile.FieldType)) ∈ lw_all := lw_g (lw_at lw_m6 152 rfl) rfl
theorem q1486 : (Jvm.Cond.methodLink "GlassLeaders" (395 : Nat) ({ cls := "GlassLeaders", name := "findAlone", desc := "(IZ)V" } : Jvm.MethodName)) ∈ lw_all := lw_g (lw_at lw_m6 153 rfl) rfl
theorem q1487 : (Jvm.Cond.privateMethod ({ cls := "GlassLeaders", name := "findAlone", desc := "(IZ)V" } : Jvm.MethodName)) ∈ lw_tbl := lw_at lw_m6 154 rfl
theorem q1488 : (Jvm.Cond.instanceMethod ({ cls := "GlassLeaders", name := "findAlone", desc := "(IZ)V" } : Jvm.MethodName)) ∈ lw_all := lw_g (lw_at lw_m6 155 rfl) rfl
theorem q1489 : (Jvm.Cond.code ({ cls := "GlassLeaders", name := "findAlone", desc := "(IZ)V" } : Jvm.MethodName) prog_1_method_40_code (10 : Nat) (Option.none : Option Jvm.ClassFile.FieldType)) ∈ lw_all := lw_g (lw_at lw_m6 156 rfl) rfl
theorem q1490 : (Jvm.Cond.methodLink "GlassLeaders" (370 : Nat) ({ cls := "GlassLeaders", name := "endsWith", desc := "(II)J" } : Jvm.MethodName)) ∈ lw_all := lw_g (lw_at lw_m6 157 rfl) rfl
theorem q1491 : (Jvm.Cond.privateMethod ({ cls := "GlassLeaders", name := "endsWith", desc := "(II)J" } : Jvm.MethodName)) ∈ lw_tbl := lw_at lw_m6 158 rfl
theorem q1492 : (Jvm.Cond.instanceMethod ({ cls := "GlassLeaders", name := "endsWith", desc := "(II)J" } : Jvm.MethodName)) ∈ lw_all := lw_g (lw_at lw_m6 159 rfl) rfl
theorem q1493 : (Jvm.Cond.code ({ cls := "GlassLeaders", name := "endsWith", desc := "(II)J" } : Jvm.MethodName) prog_1_method_39_code (4 : Nat) (Option.some Jvm.ClassFile.FieldType.long)) ∈ lw_all := lw_g (lw_at lw_m6 160 rfl) rfl
theorem q1494 : (Jvm.Cond.methodLink "GlassLeaders" (374 : Nat) ({ cls := "GlassLeaders$Weighing", name := "takes", desc := "(III)I" } : Jvm.MethodName)) ∈ lw_all := lw_g (lw_at lw_m6 161 rfl) rfl
theorem q1516 : (Jvm.Cond.privateMethod ({ cls := "GlassLeaders", name := "behind", desc := "(II)I" } : Jvm.MethodName)) ∈ lw_tbl := lw_at lw_m6 183 rfl
theorem q1517 : (Jvm.Cond.instanceMethod ({ cls := "GlassLeaders", name := "behind", desc := "(II)I" } : Jvm.MethodName)) ∈ lw_all := lw_g (lw_at lw_m6 184 rfl) rfl
theorem q1518 : (Jvm.Cond.code ({ cls := "GlassLeaders", name := "behind", desc := "(II)I" } : Jvm.MethodName) prog_1_method_32_code (5 : Nat) (Option.some Jvm.ClassFile.FieldType.int)) ∈ lw_all := lw_g (lw_at lw_m6 185 rfl) rfl
theorem q1538 : (Jvm.Cond.methodLink "GlassLeaders" (379 : Nat) ({ cls := "GlassLeaders$Weighing", name := "weighs", desc := "(III)J" } : Jvm.MethodName)) ∈ lw_all := lw_g (lw_at lw_m6 205 rfl) rfl
theorem q1539 : (Jvm.Cond.methodLink "GlassLeaders" (383 : Nat) ({ cls := "GlassLeaders", name := "worstOf", desc := "(LGlassLeaders$Weighing;III)J" } : Jvm.MethodName)) ∈ lw_all := lw_g (lw_at lw_m6 206 rfl) rfl
theorem q1540 : (Jvm.Cond.privateMethod ({ cls := "GlassLeaders", name := "worstOf", desc := "(LGlassLeaders$Weighing;III)J" } : Jvm.MethodName)) ∈ lw_tbl := lw_at lw_m6 207 rfl
theorem q1541 : (Jvm.Cond.instanceMethod ({ cls := "GlassLeaders", name := "worstOf", desc := "(LGlassLeaders$Weighing;III)J" } : Jvm.MethodName)) ∈ lw_all := lw_g (lw_at lw_m6 208 rfl) rfl
theorem q1542 : (Jvm.Cond.code ({ cls := "GlassLeaders", name := "worstOf", desc := "(LGlassLeaders$Weighing;III)J" } : Jvm.MethodName) prog_1_method_41_code (8 : Nat) (Option.some Jvm.ClassFile.FieldType.long)) ∈ lw_all := lw_g (lw_at lw_m6 209 rfl) rfl
theorem q1543 : (Jvm.Cond.constantLong "GlassLeaders" (389 : Nat) (9223372036854775807 : Int64)) ∈ lw_all := lw_g (lw_at lw_m6 210 rfl) rfl
theorem q1544 : (Jvm.Cond.methodLink "GlassLeaders" (391 : Nat) ({ cls := "java/lang/Math", name := "min", desc := "(JJ)J" } : Jvm.MethodName)) ∈ lw_all := lw_g (lw_at lw_m6 211 rfl) rfl
theorem q1547 : (Jvm.Cond.methodLink "GlassLeaders" (401 : Nat) ({ cls := "GlassLeaders", name := "findWorst", desc := "()V" } : Jvm.MethodName)) ∈ lw_all := lw_g (lw_at lw_m6 214 rfl) rfl
theorem q1548 : (Jvm.Cond.privateMethod ({ cls := "GlassLeaders", name := "findWorst", desc := "()V" } : Jvm.MethodName)) ∈ lw_tbl := lw_at lw_m6 215 rfl
theorem q1549 : (Jvm.Cond.instanceMethod ({ cls := "GlassLeaders", name := "findWorst", desc := "()V" } : Jvm.MethodName)) ∈ lw_all := lw_g (lw_at lw_m6 216 rfl) rfl
theorem q1550 : (Jvm.Cond.code ({ cls := "GlassLeaders", name := "findWorst", desc := "()V" } : Jvm.MethodName) prog_1_method_43_code (2 : Nat) (Option.none : Option Jvm.ClassFile.FieldType)) ∈ lw_all := lw_g (lw_at lw_m6 217 rfl) rfl
theorem q1551 : (Jvm.Cond.methodLink "GlassLeaders" (404 : Nat) ({ cls := "GlassLeaders", name := "finds", desc := "(I)V" } : Jvm.MethodName)) ∈ lw_all := lw_g (lw_at lw_m6 218 rfl) rfl
theorem q1552 : (Jvm.Cond.privateMethod ({ cls := "GlassLeaders", name := "finds", desc := "(I)V" } : Jvm.MethodName)) ∈ lw_tbl := lw_at lw_m6 219 rfl
theorem q1553 : (Jvm.Cond.instanceMethod ({ cls := "GlassLeaders", name := "finds", desc := "(I)V" } : Jvm.MethodName)) ∈ lw_all := lw_g (lw_at lw_m6 220 rfl) rfl
theorem q1554 : (Jvm.Cond.code ({ cls := "GlassLeaders", name := "finds", desc := "(I)V" } : Jvm.MethodName) prog_1_method_46_code (7 : Nat) (Option.none : Option Jvm.ClassFile.FieldType)) ∈ lw_all := lw_g (lw_at lw_m6 221 rfl) rfl
theorem q1555 : (Jvm.Cond.methodLink "GlassLeaders" (410 : Nat) ({ cls := "GlassLeaders", name := "votedOn", desc := "(II)I" } : Jvm.MethodName)) ∈ lw_all := lw_g (lw_at lw_m6 222 rfl) rfl
theorem q1556 : (Jvm.Cond.privateMethod ({ cls := "GlassLeaders", name := "votedOn", desc := "(II)I" } : Jvm.MethodName)) ∈ lw_tbl := lw_at lw_m6 223 rfl
theorem q1557 : (Jvm.Cond.instanceMethod ({ cls := "GlassLeaders", name := "votedOn", desc := "(II)I" } : Jvm.MethodName)) ∈ lw_all := lw_g (lw_at lw_m6 224 rfl) rfl
theorem q1558 : (Jvm.Cond.code ({ cls := "GlassLeaders", name := "votedOn", desc := "(II)I" } : Jvm.MethodName) prog_1_method_93_code (5 : Nat) (Option.some Jvm.ClassFile.FieldType.int)) ∈ lw_all := lw_g (lw_at lw_m6 225 rfl) rfl
theorem q1559 : (Jvm.Cond.methodLink "GlassLeaders" (498 : Nat) ({ cls := "GlassLeaders$Ahead", name := "takes", desc := "(III)I" } : Jvm.MethodName)) ∈ lw_all := lw_g (lw_at lw_m6 226 rfl) rfl
theorem q1567 : (Jvm.Cond.methodLink "GlassLeaders" (413 : Nat) ({ cls := "GlassLeaders", name := "leaderBy", desc := "(I)LGlassLeaders$Leader;" } : Jvm.MethodName)) ∈ lw_all := lw_g (lw_at lw_m6 234 rfl) rfl
theorem q1568 : (Jvm.Cond.privateMethod ({ cls := "GlassLeaders", name := "leaderBy", desc := "(I)LGlassLeaders$Leader;" } : Jvm.MethodName)) ∈ lw_tbl := lw_at lw_m6 235 rfl
theorem q1569 : (Jvm.Cond.instanceMethod ({ cls := "GlassLeaders", name := "leaderBy", desc := "(I)LGlassLeaders$Leader;" } : Jvm.MethodName)) ∈ lw_all := lw_g (lw_at lw_m6 236 rfl) rfl
theorem q1570 : (Jvm.Cond.code ({ cls := "GlassLeaders", name := "leaderBy", desc := "(I)LGlassLeaders$Leader;" } : Jvm.MethodName) prog_1_method_44_code (2 : Nat) (Option.some (Jvm.ClassFile.FieldType.object "GlassLeaders$Leader"))) ∈ lw_all := lw_g (lw_at lw_m6 237 rfl) rfl
theorem q1571 : (Jvm.Cond.interfaceEntry "GlassLeaders" (417 : Nat)) ∈ lw_tbl := lw_at lw_m6 238 rfl
theorem q1572 : (Jvm.Cond.methodLink "GlassLeaders" (417 : Nat) ({ cls := "GlassLeaders$Leader", name := "takes", desc := "(III)I" } : Jvm.MethodName)) ∈ lw_all := lw_g (lw_at lw_m6 239 rfl) rfl
theorem q1615 : (Jvm.Cond.methodLink "GlassLeaders" (418 : Nat) ({ cls := "GlassLeaders$Ahead", name := "weighs", desc := "(III)J" } : Jvm.MethodName)) ∈ lw_all := lw_g (lw_at lw_m7 42 rfl) rfl
theorem q1623 : (Jvm.Cond.methodLink "GlassLeaders" (419 : Nat) ({ cls := "GlassLeaders", name := "mixes", desc := "([JII)J" } : Jvm.MethodName)) ∈ lw_all := lw_g (lw_at lw_m7 50 rfl) rfl
theorem q1624 : (Jvm.Cond.privateMethod ({ cls := "GlassLeaders", name := "mixes", desc := "([JII)J" } : Jvm.MethodName)) ∈ lw_tbl := lw_at lw_m7 51 rfl
theorem q1625 : (Jvm.Cond.instanceMethod ({ cls := "GlassLeaders", name := "mixes", desc := "([JII)J" } : Jvm.MethodName)) ∈ lw_all := lw_g (lw_at lw_m7 52 rfl) rfl
theorem q1626 : (Jvm.Cond.code ({ cls := "GlassLeaders", name := "mixes", desc := "([JII)J" } : Jvm.MethodName) prog_1_method_47_code (8 : Nat) (Option.some Jvm.ClassFile.FieldType.long)) ∈ lw_all := lw_g (lw_at lw_m7 53 rfl) rfl
theorem q1627 : (Jvm.Cond.methodLink "GlassLeaders" (423 : Nat) ({ cls := "GlassLeaders", name := "behind", desc := "(II)I" } : Jvm.MethodName)) ∈ lw_all := lw_g (lw_at lw_m7 54 rfl) rfl
theorem q1632 : (Jvm.Cond.instanceMethod ({ cls := "GlassLeaders", name := "value", desc := "(IIII)J" } : Jvm.MethodName)) ∈ lw_all := lw_g (lw_at lw_m7 59 rfl) rfl
theorem q1633 : (Jvm.Cond.selects "GlassLeaders" ({ cls := "GlassLeaders", name := "value", desc := "(IIII)J" } : Jvm.MethodName) ({ cls := "GlassLeaders", name := "value", desc := "(IIII)J" } : Jvm.MethodName)) ∈ lw_all := lw_g (lw_at lw_m7 60 rfl) rfl
theorem q1634 : (Jvm.Cond.code ({ cls := "GlassLeaders", name := "value", desc := "(IIII)J" } : Jvm.MethodName) prog_1_method_49_code (6 : Nat) (Option.some Jvm.ClassFile.FieldType.long)) ∈ lw_all := lw_g (lw_at lw_m7 61 rfl) rfl
theorem q1639 : (Jvm.Cond.instanceMethod ({ cls := "GlassLeaders", name := "scale", desc := "(I)J" } : Jvm.MethodName)) ∈ lw_all := lw_g (lw_at lw_m7 66 rfl) rfl
theorem q1640 : (Jvm.Cond.selects "GlassLeaders" ({ cls := "GlassLeaders", name := "scale", desc := "(I)J" } : Jvm.MethodName) ({ cls := "GlassLeaders", name := "scale", desc := "(I)J" } : Jvm.MethodName)) ∈ lw_all := lw_g (lw_at lw_m7 67 rfl) rfl
theorem q1641 : (Jvm.Cond.code ({ cls := "GlassLeaders", name := "scale", desc := "(I)J" } : Jvm.MethodName) prog_1_method_50_code (2 : Nat) (Option.some Jvm.ClassFile.FieldType.long)) ∈ lw_all := lw_g (lw_at lw_m7 68 rfl) rfl
theorem q1646 : (Jvm.Cond.instanceMethod ({ cls := "GlassLeaders", name := "all", desc := "()J" } : Jvm.MethodName)) ∈ lw_all := lw_g (lw_at lw_m7 73 rfl) rfl
theorem q1647 : (Jvm.Cond.selects "GlassLeaders" ({ cls := "GlassLeaders", name := "all", desc := "()J" } : Jvm.MethodName) ({ cls := "GlassLeaders", name := "all", desc := "()J" } : Jvm.MethodName)) ∈ lw_all := lw_g (lw_at lw_m7 74 rfl) rfl
theorem q1648 : (Jvm.Cond.code ({ cls := "GlassLeaders", name := "all", desc := "()J" } : Jvm.MethodName) prog_1_method_52_code (1 : Nat) (Option.some Jvm.ClassFile.FieldType.long)) ∈ lw_all := lw_g (lw_at lw_m7 75 rfl) rfl
theorem q1649 : (Jvm.Cond.methodLink "GlassLeaders" (432 : Nat) ({ cls := "GlassLeaders", name := "worthOf", desc := "(I)J" } : Jvm.MethodName)) ∈ lw_all := lw_g (lw_at lw_m7 76 rfl) rfl
theorem q1650 : (Jvm.Cond.privateMethod ({ cls := "GlassLeaders", name := "worthOf", desc := "(I)J" } : Jvm.MethodName)) ∈ lw_tbl := lw_at lw_m7 77 rfl
theorem q1651 : (Jvm.Cond.instanceMethod ({ cls := "GlassLeaders", name := "worthOf", desc := "(I)J" } : Jvm.MethodName)) ∈ lw_all := lw_g (lw_at lw_m7 78 rfl) rfl
theorem q1652 : (Jvm.Cond.code ({ cls := "GlassLeaders", name := "worthOf", desc := "(I)J" } : Jvm.MethodName) prog_1_method_51_code (5 : Nat) (Option.some Jvm.ClassFile.FieldType.long)) ∈ lw_all := lw_g (lw_at lw_m7 79 rfl) rfl
theorem q1653 : (Jvm.Cond.methodLink "GlassLeaders" (429 : Nat) ({ cls := "GlassLeaders", name := "begin", desc := "()I" } : Jvm.MethodName)) ∈ lw_all := lw_g (lw_at lw_m7 80 rfl) rfl
theorem q1654 : (Jvm.Cond.privateMethod ({ cls := "GlassLeaders", name := "begin", desc := "()I" } : Jvm.MethodName)) ∈ lw_tbl := lw_at lw_m7 81 rfl
theorem q1655 : (Jvm.Cond.instanceMethod ({ cls := "GlassLeaders", name := "begin", desc := "()I" } : Jvm.MethodName)) ∈ lw_all := lw_g (lw_at lw_m7 82 rfl) rfl
theorem q1656 : (Jvm.Cond.code ({ cls := "GlassLeaders", name := "begin", desc := "()I" } : Jvm.MethodName) prog_1_method_30_code (1 : Nat) (Option.some Jvm.ClassFile.FieldType.int)) ∈ lw_all := lw_g (lw_at lw_m7 83 rfl) rfl
theorem q1661 : (Jvm.Cond.instanceMethod ({ cls := "GlassLeaders", name := "alone", desc := "(I)J" } : Jvm.MethodName)) ∈ lw_all := lw_g (lw_at lw_m7 88 rfl) rfl
theorem q1662 : (Jvm.Cond.selects "GlassLeaders" ({ cls := "GlassLeaders", name := "alone", desc := "(I)J" } : Jvm.MethodName) ({ cls := "GlassLeaders", name := "alone", desc := "(I)J" } : Jvm.MethodName)) ∈ lw_all := lw_g (lw_at lw_m7 89 rfl) rfl
theorem q1663 : (Jvm.Cond.code ({ cls := "GlassLeaders", name := "alone", desc := "(I)J" } : Jvm.MethodName) prog_1_method_53_code (2 : Nat) (Option.some Jvm.ClassFile.FieldType.long)) ∈ lw_all := lw_g (lw_at lw_m7 90 rfl) rfl
theorem q1668 : (Jvm.Cond.instanceMethod ({ cls := "GlassLeaders", name := "run", desc := "(I)I" } : Jvm.MethodName)) ∈ lw_all := lw_g (lw_at lw_m7 95 rfl) rfl
theorem q1669 : (Jvm.Cond.selects "GlassLeaders" ({ cls := "GlassLeaders", name := "run", desc := "(I)I" } : Jvm.MethodName) ({ cls := "GlassLeaders", name := "run", desc := "(I)I" } : Jvm.MethodName)) ∈ lw_all := lw_g (lw_at lw_m7 96 rfl) rfl
theorem q1670 : (Jvm.Cond.code ({ cls := "GlassLeaders", name := "run", desc := "(I)I" } : Jvm.MethodName) prog_1_method_55_code (6 : Nat) (Option.some Jvm.ClassFile.FieldType.int)) ∈ lw_all := lw_g (lw_at lw_m7 97 rfl) rfl
theorem q1671 : (Jvm.Cond.methodLink "GlassLeaders" (440 : Nat) ({ cls := "GlassLeaders", name := "notes", desc := "(II)V" } : Jvm.MethodName)) ∈ lw_all := lw_g (lw_at lw_m7 98 rfl) rfl
theorem q1672 : (Jvm.Cond.privateMethod ({ cls := "GlassLeaders", name := "notes", desc := "(II)V" } : Jvm.MethodName)) ∈ lw_tbl := lw_at lw_m7 99 rfl
theorem q1673 : (Jvm.Cond.instanceMethod ({ cls := "GlassLeaders", name := "notes", desc := "(II)V" } : Jvm.MethodName)) ∈ lw_all := lw_g (lw_at lw_m7 100 rfl) rfl
theorem q1674 : (Jvm.Cond.code ({ cls := "GlassLeaders", name := "notes", desc := "(II)V" } : Jvm.MethodName) prog_1_method_56_code (4 : Nat) (Option.none : Option Jvm.ClassFile.FieldType)) ∈ lw_all := lw_g (lw_at lw_m7 101 rfl) rfl
theorem q1675 : (Jvm.Cond.methodLink "GlassLeaders" (443 : Nat) ({ cls := "GlassLeaders", name := "draw", desc := "(I)I" } : Jvm.MethodName)) ∈ lw_all := lw_g (lw_at lw_m7 102 rfl) rfl
theorem q1676 : (Jvm.Cond.privateMethod ({ cls := "GlassLeaders", name := "draw", desc := "(I)I" } : Jvm.MethodName)) ∈ lw_tbl := lw_at lw_m7 103 rfl
theorem q1677 : (Jvm.Cond.instanceMethod ({ cls := "GlassLeaders", name := "draw", desc := "(I)I" } : Jvm.MethodName)) ∈ lw_all := lw_g (lw_at lw_m7 104 rfl) rfl
theorem q1678 : (Jvm.Cond.code ({ cls := "GlassLeaders", name := "draw", desc := "(I)I" } : Jvm.MethodName) prog_1_method_54_code (2 : Nat) (Option.some Jvm.ClassFile.FieldType.int)) ∈ lw_all := lw_g (lw_at lw_m7 105 rfl) rfl
theorem q1679 : (Jvm.Cond.constant "GlassLeaders" (439 : Nat) (1103515245 : Int32)) ∈ lw_all := lw_g (lw_at lw_m7 106 rfl) rfl
theorem q1684 : (Jvm.Cond.instanceMethod ({ cls := "GlassLeaders", name := "was", desc := "(II)I" } : Jvm.MethodName)) ∈ lw_all := lw_g (lw_at lw_m7 111 rfl) rfl
theorem q1685 : (Jvm.Cond.selects "GlassLeaders" ({ cls := "GlassLeaders", name := "was", desc := "(II)I" } : Jvm.MethodName) ({ cls := "GlassLeaders", name := "was", desc := "(II)I" } : Jvm.MethodName)) ∈ lw_all := lw_g (lw_at lw_m7 112 rfl) rfl
theorem q1686 : (Jvm.Cond.code ({ cls := "GlassLeaders", name := "was", desc := "(II)I" } : Jvm.MethodName) prog_1_method_57_code (3 : Nat) (Option.some Jvm.ClassFile.FieldType.int)) ∈ lw_all := lw_g (lw_at lw_m7 113 rfl) rfl
theorem q1691 : (Jvm.Cond.instanceMethod ({ cls := "GlassLeaders", name := "row", desc := "(I)I" } : Jvm.MethodName)) ∈ lw_all := lw_g (lw_at lw_m7 118 rfl) rfl
theorem q1692 : (Jvm.Cond.selects "GlassLeaders" ({ cls := "GlassLeaders", name := "row", desc := "(I)I" } : Jvm.MethodName) ({ cls := "GlassLeaders", name := "row", desc := "(I)I" } : Jvm.MethodName)) ∈ lw_all := lw_g (lw_at lw_m7 119 rfl) rfl
theorem q1693 : (Jvm.Cond.code ({ cls := "GlassLeaders", name := "row", desc := "(I)I" } : Jvm.MethodName) prog_1_method_59_code (2 : Nat) (Option.some Jvm.ClassFile.FieldType.int)) ∈ lw_all := lw_g (lw_at lw_m7 120 rfl) rfl
theorem q1698 : (Jvm.Cond.instanceMethod ({ cls := "GlassLeaders", name := "judge", desc := "()I" } : Jvm.MethodName)) ∈ lw_all := lw_g (lw_at lw_m7 125 rfl) rfl
theorem q1699 : (Jvm.Cond.selects "GlassLeaders" ({ cls := "GlassLeaders", name := "judge", desc := "()I" } : Jvm.MethodName) ({ cls := "GlassLeaders", name := "judge", desc := "()I" } : Jvm.MethodName)) ∈ lw_all := lw_g (lw_at lw_m7 126 rfl) rfl
theorem q1700 : (Jvm.Cond.code ({ cls := "GlassLeaders", name := "judge", desc := "()I" } : Jvm.MethodName) prog_1_method_61_code (3 : Nat) (Option.some Jvm.ClassFile.FieldType.int)) ∈ lw_all := lw_g (lw_at lw_m7 127 rfl) rfl
theorem q1705 : (Jvm.Cond.instanceMethod ({ cls := "GlassLeaders", name := "proof", desc := "(I)I" } : Jvm.MethodName)) ∈ lw_all := lw_g (lw_at lw_m7 132 rfl) rfl
theorem q1706 : (Jvm.Cond.selects "GlassLeaders" ({ cls := "GlassLeaders", name := "proof", desc := "(I)I" } : Jvm.MethodName) ({ cls := "GlassLeaders", name := "proof", desc := "(I)I" } : Jvm.MethodName)) ∈ lw_all := lw_g (lw_at lw_m7 133 rfl) rfl
theorem q1707 : (Jvm.Cond.code ({ cls := "GlassLeaders", name := "proof", desc := "(I)I" } : Jvm.MethodName) prog_1_method_62_code (6 : Nat) (Option.some Jvm.ClassFile.FieldType.int)) ∈ lw_all := lw_g (lw_at lw_m7 134 rfl) rfl
theorem q1708 : (Jvm.Cond.methodLink "GlassLeaders" (467 : Nat) ({ cls := "GlassLeaders$Own", name := "takes", desc := "(III)I" } : Jvm.MethodName)) ∈ lw_all := lw_g (lw_at lw_m7 135 rfl) rfl
theorem q1711 : (Jvm.Cond.methodLink "GlassLeaders" (468 : Nat) ({ cls := "GlassLeaders$Own", name := "weighs", desc := "(III)J" } : Jvm.MethodName)) ∈ lw_all := lw_g (lw_at lw_m7 138 rfl) rfl
theorem q1718 : (Jvm.Cond.instanceMethod ({ cls := "GlassLeaders", name := "hour", desc := "(II)J" } : Jvm.MethodName)) ∈ lw_all := lw_g (lw_at lw_m7 145 rfl) rfl
theorem q1719 : (Jvm.Cond.selects "GlassLeaders" ({ cls := "GlassLeaders", name := "hour", desc := "(II)J" } : Jvm.MethodName) ({ cls := "GlassLeaders", name := "hour", desc := "(II)J" } : Jvm.MethodName)) ∈ lw_all := lw_g (lw_at lw_m7 146 rfl) rfl
theorem q1720 : (Jvm.Cond.code ({ cls := "GlassLeaders", name := "hour", desc := "(II)J" } : Jvm.MethodName) prog_1_method_64_code (5 : Nat) (Option.some Jvm.ClassFile.FieldType.long)) ∈ lw_all := lw_g (lw_at lw_m7 147 rfl) rfl
theorem q1721 : (Jvm.Cond.methodLink "GlassLeaders" (469 : Nat) ({ cls := "GlassLeaders", name := "withHour", desc := "(III)J" } : Jvm.MethodName)) ∈ lw_all := lw_g (lw_at lw_m7 148 rfl) rfl
theorem q1722 : (Jvm.Cond.privateMethod ({ cls := "GlassLeaders", name := "withHour", desc := "(III)J" } : Jvm.MethodName)) ∈ lw_tbl := lw_at lw_m7 149 rfl
theorem q1723 : (Jvm.Cond.instanceMethod ({ cls := "GlassLeaders", name := "withHour", desc := "(III)J" } : Jvm.MethodName)) ∈ lw_all := lw_g (lw_at lw_m7 150 rfl) rfl
theorem q1724 : (Jvm.Cond.code ({ cls := "GlassLeaders", name := "withHour", desc := "(III)J" } : Jvm.MethodName) prog_1_method_63_code (7 : Nat) (Option.some Jvm.ClassFile.FieldType.long)) ∈ lw_all := lw_g (lw_at lw_m7 151 rfl) rfl
theorem q1729 : (Jvm.Cond.instanceMethod ({ cls := "GlassLeaders", name := "give", desc := "()I" } : Jvm.MethodName)) ∈ lw_all := lw_g (lw_at lw_m7 156 rfl) rfl
theorem q1730 : (Jvm.Cond.selects "GlassLeaders" ({ cls := "GlassLeaders", name := "give", desc := "()I" } : Jvm.MethodName) ({ cls := "GlassLeaders", name := "give", desc := "()I" } : Jvm.MethodName)) ∈ lw_all := lw_g (lw_at lw_m7 157 rfl) rfl
theorem q1731 : (Jvm.Cond.code ({ cls := "GlassLeaders", name := "give", desc := "()I" } : Jvm.MethodName) prog_1_method_65_code (3 : Nat) (Option.some Jvm.ClassFile.FieldType.int)) ∈ lw_all := lw_g (lw_at lw_m7 158 rfl) rfl
theorem q1732 : (Jvm.Cond.methodLink "GlassLeaders" (472 : Nat) ({ cls := "GlassLeaders", name := "gainBoth", desc := "(IIII)Z" } : Jvm.MethodName)) ∈ lw_all := lw_g (lw_at lw_m7 159 rfl) rfl
theorem q1733 : (Jvm.Cond.privateMethod ({ cls := "GlassLeaders", name := "gainBoth", desc := "(IIII)Z" } : Jvm.MethodName)) ∈ lw_tbl := lw_at lw_m7 160 rfl
theorem q1734 : (Jvm.Cond.instanceMethod ({ cls := "GlassLeaders", name := "gainBoth", desc := "(IIII)Z" } : Jvm.MethodName)) ∈ lw_all := lw_g (lw_at lw_m7 161 rfl) rfl
theorem q1735 : (Jvm.Cond.code ({ cls := "GlassLeaders", name := "gainBoth", desc := "(IIII)Z" } : Jvm.MethodName) prog_1_method_66_code (9 : Nat) (Option.some Jvm.ClassFile.FieldType.boolean)) ∈ lw_all := lw_g (lw_at lw_m7 162 rfl) rfl
theorem q1740 : (Jvm.Cond.instanceMethod ({ cls := "GlassLeaders", name := "price", desc := "(II)J" } : Jvm.MethodName)) ∈ lw_all := lw_g (lw_at lw_m7 167 rfl) rfl
theorem q1741 : (Jvm.Cond.selects "GlassLeaders" ({ cls := "GlassLeaders", name := "price", desc := "(II)J" } : Jvm.MethodName) ({ cls := "GlassLeaders", name := "price", desc := "(II)J" } : Jvm.MethodName)) ∈ lw_all := lw_g (lw_at lw_m7 168 rfl) rfl
theorem q1742 : (Jvm.Cond.code ({ cls := "GlassLeaders", name := "price", desc := "(II)J" } : Jvm.MethodName) prog_1_method_67_code (8 : Nat) (Option.some Jvm.ClassFile.FieldType.long)) ∈ lw_all := lw_g (lw_at lw_m7 169 rfl) rfl
theorem q1747 : (Jvm.Cond.instanceMethod ({ cls := "GlassLeaders", name := "order", desc := "(I)I" } : Jvm.MethodName)) ∈ lw_all := lw_g (lw_at lw_m7 174 rfl) rfl
theorem q1748 : (Jvm.Cond.selects "GlassLeaders" ({ cls := "GlassLeaders", name := "order", desc := "(I)I" } : Jvm.MethodName) ({ cls := "GlassLeaders", name := "order", desc := "(I)I" } : Jvm.MethodName)) ∈ lw_all := lw_g (lw_at lw_m7 175 rfl) rfl
theorem q1749 : (Jvm.Cond.code ({ cls := "GlassLeaders", name := "order", desc := "(I)I" } : Jvm.MethodName) prog_1_method_71_code (9 : Nat) (Option.some Jvm.ClassFile.FieldType.int)) ∈ lw_all := lw_g (lw_at lw_m7 176 rfl) rfl
theorem q1750 : (Jvm.Cond.methodLink "GlassLeaders" (479 : Nat) ({ cls := "GlassLeaders", name := "mustOne", desc := "(I)V" } : Jvm.MethodName)) ∈ lw_all := lw_g (lw_at lw_m7 177 rfl) rfl
theorem q1751 : (Jvm.Cond.privateMethod ({ cls := "GlassLeaders", name := "mustOne", desc := "(I)V" } : Jvm.MethodName)) ∈ lw_tbl := lw_at lw_m7 178 rfl
theorem q1752 : (Jvm.Cond.instanceMethod ({ cls := "GlassLeaders", name := "mustOne", desc := "(I)V" } : Jvm.MethodName)) ∈ lw_all := lw_g (lw_at lw_m7 179 rfl) rfl
theorem q1753 : (Jvm.Cond.code ({ cls := "GlassLeaders", name := "mustOne", desc := "(I)V" } : Jvm.MethodName) prog_1_method_68_code (2 : Nat) (Option.none : Option Jvm.ClassFile.FieldType)) ∈ lw_all := lw_g (lw_at lw_m7 180 rfl) rfl
theorem q1754 : (Jvm.Cond.methodLink "GlassLeaders" (482 : Nat) ({ cls := "GlassLeaders", name := "turnsRound", desc := "()Z" } : Jvm.MethodName)) ∈ lw_all := lw_g (lw_at lw_m7 181 rfl) rfl
theorem q1755 : (Jvm.Cond.privateMethod ({ cls := "GlassLeaders", name := "turnsRound", desc := "()Z" } : Jvm.MethodName)) ∈ lw_tbl := lw_at lw_m7 182 rfl
theorem q1756 : (Jvm.Cond.instanceMethod ({ cls := "GlassLeaders", name := "turnsRound", desc := "()Z" } : Jvm.MethodName)) ∈ lw_all := lw_g (lw_at lw_m7 183 rfl) rfl
theorem q1757 : (Jvm.Cond.code ({ cls := "GlassLeaders", name := "turnsRound", desc := "()Z" } : Jvm.MethodName) prog_1_method_69_code (6 : Nat) (Option.some Jvm.ClassFile.FieldType.boolean)) ∈ lw_all := lw_g (lw_at lw_m7 184 rfl) rfl
theorem q1758 : (Jvm.Cond.methodLink "GlassLeaders" (476 : Nat) ({ cls := "GlassLeaders", name := "swaps", desc := "(II)V" } : Jvm.MethodName)) ∈ lw_all := lw_g (lw_at lw_m7 185 rfl) rfl
theorem q1759 : (Jvm.Cond.privateMethod ({ cls := "GlassLeaders", name := "swaps", desc := "(II)V" } : Jvm.MethodName)) ∈ lw_tbl := lw_at lw_m7 186 rfl
theorem q1760 : (Jvm.Cond.instanceMethod ({ cls := "GlassLeaders", name := "swaps", desc := "(II)V" } : Jvm.MethodName)) ∈ lw_all := lw_g (lw_at lw_m7 187 rfl) rfl
theorem q1761 : (Jvm.Cond.code ({ cls := "GlassLeaders", name := "swaps", desc := "(II)V" } : Jvm.MethodName) prog_1_method_70_code (4 : Nat) (Option.none : Option Jvm.ClassFile.FieldType)) ∈ lw_all := lw_g (lw_at lw_m7 188 rfl) rfl
theorem q1766 : (Jvm.Cond.instanceMethod ({ cls := "GlassLeaders", name := "length", desc := "(I)I" } : Jvm.MethodName)) ∈ lw_all := lw_g (lw_at lw_m7 193 rfl) rfl
theorem q1767 : (Jvm.Cond.selects "GlassLeaders" ({ cls := "GlassLeaders", name := "length", desc := "(I)I" } : Jvm.MethodName) ({ cls := "GlassLeaders", name := "length", desc := "(I)I" } : Jvm.MethodName)) ∈ lw_all := lw_g (lw_at lw_m7 194 rfl) rfl
theorem q1768 : (Jvm.Cond.code ({ cls := "GlassLeaders", name := "length", desc := "(I)I" } : Jvm.MethodName) prog_1_method_72_code (9 : Nat) (Option.some Jvm.ClassFile.FieldType.int)) ∈ lw_all := lw_g (lw_at lw_m7 195 rfl) rfl
theorem q1773 : (Jvm.Cond.instanceMethod ({ cls := "GlassLeaders", name := "trap", desc := "(III)Z" } : Jvm.MethodName)) ∈ lw_all := lw_g (lw_at lw_m7 200 rfl) rfl
theorem q1774 : (Jvm.Cond.selects "GlassLeaders" ({ cls := "GlassLeaders", name := "trap", desc := "(III)Z" } : Jvm.MethodName) ({ cls := "GlassLeaders", name := "trap", desc := "(III)Z" } : Jvm.MethodName)) ∈ lw_all := lw_g (lw_at lw_m7 201 rfl) rfl
theorem q1775 : (Jvm.Cond.code ({ cls := "GlassLeaders", name := "trap", desc := "(III)Z" } : Jvm.MethodName) prog_1_method_74_code (5 : Nat) (Option.some Jvm.ClassFile.FieldType.boolean)) ∈ lw_all := lw_g (lw_at lw_m7 202 rfl) rfl
theorem q1776 : (Jvm.Cond.methodLink "GlassLeaders" (486 : Nat) ({ cls := "GlassLeaders", name := "isTrap", desc := "(I)Z" } : Jvm.MethodName)) ∈ lw_all := lw_g (lw_at lw_m7 203 rfl) rfl
theorem q1777 : (Jvm.Cond.privateMethod ({ cls := "GlassLeaders", name := "isTrap", desc := "(I)Z" } : Jvm.MethodName)) ∈ lw_tbl := lw_at lw_m7 204 rfl
theorem q1778 : (Jvm.Cond.instanceMethod ({ cls := "GlassLeaders", name := "isTrap", desc := "(I)Z" } : Jvm.MethodName)) ∈ lw_all := lw_g (lw_at lw_m7 205 rfl) rfl
theorem q1779 : (Jvm.Cond.code ({ cls := "GlassLeaders", name := "isTrap", desc := "(I)Z" } : Jvm.MethodName) prog_1_method_73_code (2 : Nat) (Option.some Jvm.ClassFile.FieldType.boolean)) ∈ lw_all := lw_g (lw_at lw_m7 206 rfl) rfl
theorem q1784 : (Jvm.Cond.instanceMethod ({ cls := "GlassLeaders", name := "force", desc := "(III)I" } : Jvm.MethodName)) ∈ lw_all := lw_g (lw_at lw_m7 211 rfl) rfl
theorem q1785 : (Jvm.Cond.selects "GlassLeaders" ({ cls := "GlassLeaders", name := "force", desc := "(III)I" } : Jvm.MethodName) ({ cls := "GlassLeaders", name := "force", desc := "(III)I" } : Jvm.MethodName)) ∈ lw_all := lw_g (lw_at lw_m7 212 rfl) rfl
theorem q1786 : (Jvm.Cond.code ({ cls := "GlassLeaders", name := "force", desc := "(III)I" } : Jvm.MethodName) prog_1_method_75_code (7 : Nat) (Option.some Jvm.ClassFile.FieldType.int)) ∈ lw_all := lw_g (lw_at lw_m7 213 rfl) rfl
theorem q1791 : (Jvm.Cond.instanceMethod ({ cls := "GlassLeaders", name := "ever", desc := "(III)I" } : Jvm.MethodName)) ∈ lw_all := lw_g (lw_at lw_m7 218 rfl) rfl
theorem q1792 : (Jvm.Cond.selects "GlassLeaders" ({ cls := "GlassLeaders", name := "ever", desc := "(III)I" } : Jvm.MethodName) ({ cls := "GlassLeaders", name := "ever", desc := "(III)I" } : Jvm.MethodName)) ∈ lw_all := lw_g (lw_at lw_m7 219 rfl) rfl
theorem q1793 : (Jvm.Cond.code ({ cls := "GlassLeaders", name := "ever", desc := "(III)I" } : Jvm.MethodName) prog_1_method_77_code (6 : Nat) (Option.some Jvm.ClassFile.FieldType.int)) ∈ lw_all := lw_g (lw_at lw_m7 220 rfl) rfl
theorem q1794 : (Jvm.Cond.methodLink "GlassLeaders" (489 : Nat) ({ cls := "GlassLeaders", name := "marks", desc := "(IZ)V" } : Jvm.MethodName)) ∈ lw_all := lw_g (lw_at lw_m7 221 rfl) rfl
theorem q1795 : (Jvm.Cond.privateMethod ({ cls := "GlassLeaders", name := "marks", desc := "(IZ)V" } : Jvm.MethodName)) ∈ lw_tbl := lw_at lw_m7 222 rfl
theorem q1796 : (Jvm.Cond.instanceMethod ({ cls := "GlassLeaders", name := "marks", desc := "(IZ)V" } : Jvm.MethodName)) ∈ lw_all := lw_g (lw_at lw_m7 223 rfl) rfl
theorem q1797 : (Jvm.Cond.code ({ cls := "GlassLeaders", name := "marks", desc := "(IZ)V" } : Jvm.MethodName) prog_1_method_76_code (7 : Nat) (Option.none : Option Jvm.ClassFile.FieldType)) ∈ lw_all := lw_g (lw_at lw_m7 224 rfl) rfl
theorem q1802 : (Jvm.Cond.instanceMethod ({ cls := "GlassLeaders", name := "there", desc := "(I)J" } : Jvm.MethodName)) ∈ lw_all := lw_g (lw_at lw_m7 229 rfl) rfl
theorem q1803 : (Jvm.Cond.selects "GlassLeaders" ({ cls := "GlassLeaders", name := "there", desc := "(I)J" } : Jvm.MethodName) ({ cls := "GlassLeaders", name := "there", desc := "(I)J" } : Jvm.MethodName)) ∈ lw_all := lw_g (lw_at lw_m7 230 rfl) rfl
theorem q1804 : (Jvm.Cond.code ({ cls := "GlassLeaders", name := "there", desc := "(I)J" } : Jvm.MethodName) prog_1_method_78_code (2 : Nat) (Option.some Jvm.ClassFile.FieldType.long)) ∈ lw_all := lw_g (lw_at lw_m7 231 rfl) rfl
theorem q1809 : (Jvm.Cond.instanceMethod ({ cls := "GlassLeaders", name := "blind", desc := "(I)J" } : Jvm.MethodName)) ∈ lw_all := lw_g (lw_at lw_m7 236 rfl) rfl
theorem q1810 : (Jvm.Cond.selects "GlassLeaders" ({ cls := "GlassLeaders", name := "blind", desc := "(I)J" } : Jvm.MethodName) ({ cls := "GlassLeaders", name := "blind", desc := "(I)J" } : Jvm.MethodName)) ∈ lw_all := lw_g (lw_at lw_m7 237 rfl) rfl
theorem q1811 : (Jvm.Cond.code ({ cls := "GlassLeaders", name := "blind", desc := "(I)J" } : Jvm.MethodName) prog_1_method_80_code (2 : Nat) (Option.some Jvm.ClassFile.FieldType.long)) ∈ lw_all := lw_g (lw_at lw_m7 238 rfl) rfl
theorem q1812 : (Jvm.Cond.methodLink "GlassLeaders" (492 : Nat) ({ cls := "GlassLeaders", name := "asKind", desc := "(II)J" } : Jvm.MethodName)) ∈ lw_all := lw_g (lw_at lw_m7 239 rfl) rfl
theorem q1813 : (Jvm.Cond.privateMethod ({ cls := "GlassLeaders", name := "asKind", desc := "(II)J" } : Jvm.MethodName)) ∈ lw_tbl := lw_at lw_m8 0 rfl
theorem q1814 : (Jvm.Cond.instanceMethod ({ cls := "GlassLeaders", name := "asKind", desc := "(II)J" } : Jvm.MethodName)) ∈ lw_all := lw_g (lw_at lw_m8 1 rfl) rfl
theorem q1815 : (Jvm.Cond.code ({ cls := "GlassLeaders", name := "asKind", desc := "(II)J" } : Jvm.MethodName) prog_1_method_79_code (6 : Nat) (Option.some Jvm.ClassFile.FieldType.long)) ∈ lw_all := lw_g (lw_at lw_m8 2 rfl) rfl
theorem q1820 : (Jvm.Cond.instanceMethod ({ cls := "GlassLeaders", name := "asks", desc := "(I)I" } : Jvm.MethodName)) ∈ lw_all := lw_g (lw_at lw_m8 7 rfl) rfl
theorem q1821 : (Jvm.Cond.selects "GlassLeaders" ({ cls := "GlassLeaders", name := "asks", desc := "(I)I" } : Jvm.MethodName) ({ cls := "GlassLeaders", name := "asks", desc := "(I)I" } : Jvm.MethodName)) ∈ lw_all := lw_g (lw_at lw_m8 8 rfl) rfl
theorem q1822 : (Jvm.Cond.code ({ cls := "GlassLeaders", name := "asks", desc := "(I)I" } : Jvm.MethodName) prog_1_method_81_code (8 : Nat) (Option.some Jvm.ClassFile.FieldType.int)) ∈ lw_all := lw_g (lw_at lw_m8 9 rfl) rfl
theorem q1827 : (Jvm.Cond.instanceMethod ({ cls := "GlassLeaders", name := "beside", desc := "(I)J" } : Jvm.MethodName)) ∈ lw_all := lw_g (lw_at lw_m8 14 rfl) rfl
theorem q1828 : (Jvm.Cond.selects "GlassLeaders" ({ cls := "GlassLeaders", name := "beside", desc := "(I)J" } : Jvm.MethodName) ({ cls := "GlassLeaders", name := "beside", desc := "(I)J" } : Jvm.MethodName)) ∈ lw_all := lw_g (lw_at lw_m8 15 rfl) rfl
theorem q1829 : (Jvm.Cond.code ({ cls := "GlassLeaders", name := "beside", desc := "(I)J" } : Jvm.MethodName) prog_1_method_82_code (2 : Nat) (Option.some Jvm.ClassFile.FieldType.long)) ∈ lw_all := lw_g (lw_at lw_m8 16 rfl) rfl
theorem q1834 : (Jvm.Cond.instanceMethod ({ cls := "GlassLeaders", name := "pact", desc := "(III)J" } : Jvm.MethodName)) ∈ lw_all := lw_g (lw_at lw_m8 21 rfl) rfl
theorem q1835 : (Jvm.Cond.selects "GlassLeaders" ({ cls := "GlassLeaders", name := "pact", desc := "(III)J" } : Jvm.MethodName) ({ cls := "GlassLeaders", name := "pact", desc := "(III)J" } : Jvm.MethodName)) ∈ lw_all := lw_g (lw_at lw_m8 22 rfl) rfl
theorem q1836 : (Jvm.Cond.code ({ cls := "GlassLeaders", name := "pact", desc := "(III)J" } : Jvm.MethodName) prog_1_method_84_code (4 : Nat) (Option.some Jvm.ClassFile.FieldType.long)) ∈ lw_all := lw_g (lw_at lw_m8 23 rfl) rfl
theorem q1837 : (Jvm.Cond.methodLink "GlassLeaders" (495 : Nat) ({ cls := "GlassLeaders", name := "byPact", desc := "(III)J" } : Jvm.MethodName)) ∈ lw_all := lw_g (lw_at lw_m8 24 rfl) rfl
theorem q1838 : (Jvm.Cond.privateMethod ({ cls := "GlassLeaders", name := "byPact", desc := "(III)J" } : Jvm.MethodName)) ∈ lw_tbl := lw_at lw_m8 25 rfl
theorem q1839 : (Jvm.Cond.instanceMethod ({ cls := "GlassLeaders", name := "byPact", desc := "(III)J" } : Jvm.MethodName)) ∈ lw_all := lw_g (lw_at lw_m8 26 rfl) rfl
theorem q1840 : (Jvm.Cond.code ({ cls := "GlassLeaders", name := "byPact", desc := "(III)J" } : Jvm.MethodName) prog_1_method_83_code (8 : Nat) (Option.some Jvm.ClassFile.FieldType.long)) ∈ lw_all := lw_g (lw_at lw_m8 27 rfl) rfl
theorem q1845 : (Jvm.Cond.instanceMethod ({ cls := "GlassLeaders", name := "holds", desc := "()I" } : Jvm.MethodName)) ∈ lw_all := lw_g (lw_at lw_m8 32 rfl) rfl
theorem q1846 : (Jvm.Cond.selects "GlassLeaders" ({ cls := "GlassLeaders", name := "holds", desc := "()I" } : Jvm.MethodName) ({ cls := "GlassLeaders", name := "holds", desc := "()I" } : Jvm.MethodName)) ∈ lw_all := lw_g (lw_at lw_m8 33 rfl) rfl
theorem q1847 : (Jvm.Cond.code ({ cls := "GlassLeaders", name := "holds", desc := "()I" } : Jvm.MethodName) prog_1_method_85_code (3 : Nat) (Option.some Jvm.ClassFile.FieldType.int)) ∈ lw_all := lw_g (lw_at lw_m8 34 rfl) rfl
theorem q1852 : (Jvm.Cond.instanceMethod ({ cls := "GlassLeaders", name := "mind", desc := "()I" } : Jvm.MethodName)) ∈ lw_all := lw_g (lw_at lw_m8 39 rfl) rfl
theorem q1853 : (Jvm.Cond.selects "GlassLeaders" ({ cls := "GlassLeaders", name := "mind", desc := "()I" } : Jvm.MethodName) ({ cls := "GlassLeaders", name := "mind", desc := "()I" } : Jvm.MethodName)) ∈ lw_all := lw_g (lw_at lw_m8 40 rfl) rfl
theorem q1854 : (Jvm.Cond.code ({ cls := "GlassLeaders", name := "mind", desc := "()I" } : Jvm.MethodName) prog_1_method_87_code (3 : Nat) (Option.some Jvm.ClassFile.FieldType.int)) ∈ lw_all := lw_g (lw_at lw_m8 41 rfl) rfl
theorem q1855 : (Jvm.Cond.methodLink "GlassLeaders" (499 : Nat) ({ cls := "GlassLeaders", name := "isOfOneMind", desc := "(I)Z" } : Jvm.MethodName)) ∈ lw_all := lw_g (lw_at lw_m8 42 rfl) rfl
theorem q1856 : (Jvm.Cond.privateMethod ({ cls := "GlassLeaders", name := "isOfOneMind", desc := "(I)Z" } : Jvm.MethodName)) ∈ lw_tbl := lw_at lw_m8 43 rfl
theorem q1857 : (Jvm.Cond.instanceMethod ({ cls := "GlassLeaders", name := "isOfOneMind", desc := "(I)Z" } : Jvm.MethodName)) ∈ lw_all := lw_g (lw_at lw_m8 44 rfl) rfl
theorem q1858 : (Jvm.Cond.code ({ cls := "GlassLeaders", name := "isOfOneMind", desc := "(I)Z" } : Jvm.MethodName) prog_1_method_86_code (6 : Nat) (Option.some Jvm.ClassFile.FieldType.boolean)) ∈ lw_all := lw_g (lw_at lw_m8 45 rfl) rfl
theorem q1863 : (Jvm.Cond.instanceMethod ({ cls := "GlassLeaders", name := "arrives", desc := "(II)J" } : Jvm.MethodName)) ∈ lw_all := lw_g (lw_at lw_m8 50 rfl) rfl
theorem q1864 : (Jvm.Cond.selects "GlassLeaders" ({ cls := "GlassLeaders", name := "arrives", desc := "(II)J" } : Jvm.MethodName) ({ cls := "GlassLeaders", name := "arrives", desc := "(II)J" } : Jvm.MethodName)) ∈ lw_all := lw_g (lw_at lw_m8 51 rfl) rfl
theorem q1865 : (Jvm.Cond.code ({ cls := "GlassLeaders", name := "arrives", desc := "(II)J" } : Jvm.MethodName) prog_1_method_89_code (7 : Nat) (Option.some Jvm.ClassFile.FieldType.long)) ∈ lw_all := lw_g (lw_at lw_m8 52 rfl) rfl
theorem q1866 : (Jvm.Cond.methodLink "GlassLeaders" (502 : Nat) ({ cls := "GlassLeaders", name := "findMass", desc := "()V" } : Jvm.MethodName)) ∈ lw_all := lw_g (lw_at lw_m8 53 rfl) rfl
theorem q1867 : (Jvm.Cond.privateMethod ({ cls := "GlassLeaders", name := "findMass", desc := "()V" } : Jvm.MethodName)) ∈ lw_tbl := lw_at lw_m8 54 rfl
theorem q1868 : (Jvm.Cond.instanceMethod ({ cls := "GlassLeaders", name := "findMass", desc := "()V" } : Jvm.MethodName)) ∈ lw_all := lw_g (lw_at lw_m8 55 rfl) rfl
theorem q1869 : (Jvm.Cond.code ({ cls := "GlassLeaders", name := "findMass", desc := "()V" } : Jvm.MethodName) prog_1_method_88_code (7 : Nat) (Option.none : Option Jvm.ClassFile.FieldType)) ∈ lw_all := lw_g (lw_at lw_m8 56 rfl) rfl
theorem q1874 : (Jvm.Cond.instanceMethod ({ cls := "GlassLeaders", name := "visits", desc := "(I)J" } : Jvm.MethodName)) ∈ lw_all := lw_g (lw_at lw_m8 61 rfl) rfl
theorem q1875 : (Jvm.Cond.selects "GlassLeaders" ({ cls := "GlassLeaders", name := "visits", desc := "(I)J" } : Jvm.MethodName) ({ cls := "GlassLeaders", name := "visits", desc := "(I)J" } : Jvm.MethodName)) ∈ lw_all := lw_g (lw_at lw_m8 62 rfl) rfl
theorem q1876 : (Jvm.Cond.code ({ cls := "GlassLeaders", name := "visits", desc := "(I)J" } : Jvm.MethodName) prog_1_method_90_code (6 : Nat) (Option.some Jvm.ClassFile.FieldType.long)) ∈ lw_all := lw_g (lw_at lw_m8 63 rfl) rfl
theorem q1881 : (Jvm.Cond.instanceMethod ({ cls := "GlassLeaders", name := "without", desc := "(II)J" } : Jvm.MethodName)) ∈ lw_all := lw_g (lw_at lw_m8 68 rfl) rfl
theorem q1882 : (Jvm.Cond.selects "GlassLeaders" ({ cls := "GlassLeaders", name := "without", desc := "(II)J" } : Jvm.MethodName) ({ cls := "GlassLeaders", name := "without", desc := "(II)J" } : Jvm.MethodName)) ∈ lw_all := lw_g (lw_at lw_m8 69 rfl) rfl
theorem q1883 : (Jvm.Cond.code ({ cls := "GlassLeaders", name := "without", desc := "(II)J" } : Jvm.MethodName) prog_1_method_91_code (8 : Nat) (Option.some Jvm.ClassFile.FieldType.long)) ∈ lw_all := lw_g (lw_at lw_m8 70 rfl) rfl
theorem q1884 : (Jvm.Cond.methodLink "GlassLeaders" (508 : Nat) ({ cls := "java/util/ArrayList", name := "add", desc := "(ILjava/lang/Object;)V" } : Jvm.MethodName)) ∈ lw_all := lw_g (lw_at lw_m8 71 rfl) rfl
theorem q2108 : (Jvm.Cond.instanceMethod ({ cls := "GlassLeaders", name := "swap", desc := "(II)I" } : Jvm.MethodName)) ∈ lw_all := lw_g (lw_at lw_m9 55 rfl) rfl
theorem q2109 : (Jvm.Cond.selects "GlassLeaders" ({ cls := "GlassLeaders", name := "swap", desc := "(II)I" } : Jvm.MethodName) ({ cls := "GlassLeaders", name := "swap", desc := "(II)I" } : Jvm.MethodName)) ∈ lw_all := lw_g (lw_at lw_m9 56 rfl) rfl
theorem q2110 : (Jvm.Cond.code ({ cls := "GlassLeaders", name := "swap", desc := "(II)I" } : Jvm.MethodName) prog_1_method_92_code (5 : Nat) (Option.some Jvm.ClassFile.FieldType.int)) ∈ lw_all := lw_g (lw_at lw_m9 57 rfl) rfl
theorem q2115 : (Jvm.Cond.instanceMethod ({ cls := "GlassLeaders", name := "vote", desc := "()J" } : Jvm.MethodName)) ∈ lw_all := lw_g (lw_at lw_m9 62 rfl) rfl
theorem q2116 : (Jvm.Cond.selects "GlassLeaders" ({ cls := "GlassLeaders", name := "vote", desc := "()J" } : Jvm.MethodName) ({ cls := "GlassLeaders", name := "vote", desc := "()J" } : Jvm.MethodName)) ∈ lw_all := lw_g (lw_at lw_m9 63 rfl) rfl
theorem q2117 : (Jvm.Cond.code ({ cls := "GlassLeaders", name := "vote", desc := "()J" } : Jvm.MethodName) prog_1_method_94_code (3 : Nat) (Option.some Jvm.ClassFile.FieldType.long)) ∈ lw_all := lw_g (lw_at lw_m9 64 rfl) rfl
theorem q2122 : (Jvm.Cond.instanceMethod ({ cls := "GlassLeaders", name := "needs", desc := "()I" } : Jvm.MethodName)) ∈ lw_all := lw_g (lw_at lw_m9 69 rfl) rfl
theorem q2123 : (Jvm.Cond.selects "GlassLeaders" ({ cls := "GlassLeaders", name := "needs", desc := "()I" } : Jvm.MethodName) ({ cls := "GlassLeaders", name := "needs", desc := "()I" } : Jvm.MethodName)) ∈ lw_all := lw_g (lw_at lw_m9 70 rfl) rfl
theorem q2124 : (Jvm.Cond.code ({ cls := "GlassLeaders", name := "needs", desc := "()I" } : Jvm.MethodName) prog_1_method_95_code (4 : Nat) (Option.some Jvm.ClassFile.FieldType.int)) ∈ lw_all := lw_g (lw_at lw_m9 71 rfl) rfl
theorem q2859 : (Jvm.Cond.castable "GlassLeaders" "java/lang/Object") ∈ lw_tbl := lw_at lw_m12 86 rfl
theorem in_X1 : ∀ w ∈ wsX10, w ∈ lw_all := lw_in wsX10 [495, 497, 499, 501, 503, 505, 507, 509, 511, 513, 515, 517, 519, 521, 523, 525, 527, 529, 531, 533, 535, 537, 539, 541, 543, 545, 547, 549, 551, 553, 555, 557, 559, 561, 563, 565] (by decide +kernel) (by decide +kernel)
