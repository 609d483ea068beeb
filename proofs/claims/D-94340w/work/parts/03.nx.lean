/-! GlassLeaders$Land -/
set_option maxRecDepth 100000
def RX2 : String := "GlassLeaders$Land"
def TX2 : u_T := fun k => match k with
  | 0 => ("GlassLeaders$Land", "places", "I", false)
  | 1 => ("GlassLeaders$Land", "ways", "I", false)
  | 2 => ("GlassLeaders$Land", "persons", "I", false)
  | 3 => ("GlassLeaders$Land", "hours", "I", false)
  | 4 => ("GlassLeaders$Land", "store", "I", false)
  | 5 => ("GlassLeaders$Land", "lost", "I", false)
  | 6 => ("GlassLeaders$Land", "start", "I", false)
  | 7 => ("GlassLeaders$Land", "isHut", "[Z", true)
  | 8 => ("GlassLeaders$Land", "isEnd", "[Z", true)
  | 9 => ("GlassLeaders$Land", "from", "[I", true)
  | 10 => ("GlassLeaders$Land", "to", "[I", true)
  | 11 => ("GlassLeaders$Land", "cost", "[I", true)
  | 12 => ("GlassLeaders$Land", "snow", "[[I", true)
  | 13 => ("GlassLeaders$Land", "wants", "[[I", true)
  | _ => ("GlassLeaders$Land", "snowy", "I", false)
def tyX2 : Nat → FieldType := fun k => match k with
  | 0 => .int
  | 1 => .int
  | 2 => .int
  | 3 => .int
  | 4 => .int
  | 5 => .int
  | 6 => .int
  | 7 => .array .boolean
  | 8 => .array .boolean
  | 9 => .array .int
  | 10 => .array .int
  | 11 => .array .int
  | 12 => .array (.array .int)
  | 13 => .array (.array .int)
  | _ => .int
abbrev wsX20 : List Cond := u_ws RX2 TX2 15
set_option maxRecDepth 100000 in
theorem nmX2 : ∀ a, a < 15 → ∀ b, b < 15 → a ≠ b → (TX2 a).2.1 ≠ (TX2 b).2.1 := by decide +kernel
set_option maxRecDepth 100000 in
theorem tyX2_ok : ∀ k, k < 15 → parseFieldDescriptor (TX2 k).2.2.1 = some (tyX2 k) := by decide +kernel
abbrev cX2_init : ByteArray := prog_9_method_1_code
def yX2_init : MethodName := ⟨RX2, "<init>", "()V"⟩
def dkwX2_init_3 : List UInt8 := [197, 0, 35, 2, 181, 0, 40, 177]
abbrev dktX2_init_3 : List UInt8 := dkwX2_init_3 ++ []
def dkwX2_init_2 : List UInt8 := [42, 8, 188, 10, 181, 0, 32, 42, 16, 24, 16, 24, 197, 0, 35, 2, 181, 0, 37, 42, 8, 16, 12]
abbrev dktX2_init_2 : List UInt8 := dkwX2_init_2 ++ dktX2_init_3
def dkwX2_init_1 : List UInt8 := [42, 16, 12, 188, 4, 181, 0, 22, 42, 16, 24, 188, 10, 181, 0, 25, 42, 16, 24, 188, 10, 181, 0, 29]
abbrev dktX2_init_1 : List UInt8 := dkwX2_init_1 ++ dktX2_init_2
def dkwX2_init_0 : List UInt8 := [42, 183, 0, 3, 42, 16, 12, 181, 0, 9, 42, 16, 12, 181, 0, 15, 42, 16, 12, 188, 4, 181, 0, 18]
abbrev dktX2_init_0 : List UInt8 := dkwX2_init_0 ++ dktX2_init_1
theorem dksX2_init_0 : cX2_init.data.toList.drop 0 = dktX2_init_0 := by decide +kernel
theorem dksX2_init_1 : cX2_init.data.toList.drop 24 = dktX2_init_1 := dk_seg dksX2_init_0 24 rfl rfl
theorem dksX2_init_2 : cX2_init.data.toList.drop 48 = dktX2_init_2 := dk_seg dksX2_init_1 24 rfl rfl
theorem dksX2_init_3 : cX2_init.data.toList.drop 71 = dktX2_init_3 := dk_seg dksX2_init_2 23 rfl rfl
theorem dX2_init_0 : decode cX2_init 0 = .ok (.aload_n 0, 1) := dk_42 (dk_at dksX2_init_0 0 rfl rfl)
theorem dX2_init_1 : decode cX2_init 1 = .ok (.invokespecial 3, 3) := dk_183 0 3 (dk_at dksX2_init_0 1 rfl rfl)
theorem dX2_init_4 : decode cX2_init 4 = .ok (.aload_n 0, 1) := dk_42 (dk_at dksX2_init_0 4 rfl rfl)
theorem dX2_init_5 : decode cX2_init 5 = .ok (.bipush 12, 2) := dk_16 12 (dk_at dksX2_init_0 5 rfl rfl)
theorem dX2_init_7 : decode cX2_init 7 = .ok (.putfield 9, 3) := dk_181 0 9 (dk_at dksX2_init_0 7 rfl rfl)
theorem dX2_init_10 : decode cX2_init 10 = .ok (.aload_n 0, 1) := dk_42 (dk_at dksX2_init_0 10 rfl rfl)
theorem dX2_init_11 : decode cX2_init 11 = .ok (.bipush 12, 2) := dk_16 12 (dk_at dksX2_init_0 11 rfl rfl)
theorem dX2_init_13 : decode cX2_init 13 = .ok (.putfield 15, 3) := dk_181 0 15 (dk_at dksX2_init_0 13 rfl rfl)
theorem dX2_init_16 : decode cX2_init 16 = .ok (.aload_n 0, 1) := dk_42 (dk_at dksX2_init_0 16 rfl rfl)
theorem dX2_init_17 : decode cX2_init 17 = .ok (.bipush 12, 2) := dk_16 12 (dk_at dksX2_init_0 17 rfl rfl)
theorem dX2_init_19 : decode cX2_init 19 = .ok (.newarray .boolean, 2) := dk_188_4 (dk_at dksX2_init_0 19 rfl rfl)
theorem dX2_init_21 : decode cX2_init 21 = .ok (.putfield 18, 3) := dk_181 0 18 (dk_at dksX2_init_0 21 rfl rfl)
theorem dX2_init_24 : decode cX2_init 24 = .ok (.aload_n 0, 1) := dk_42 (dk_at dksX2_init_1 0 rfl rfl)
theorem dX2_init_25 : decode cX2_init 25 = .ok (.bipush 12, 2) := dk_16 12 (dk_at dksX2_init_1 1 rfl rfl)
theorem dX2_init_27 : decode cX2_init 27 = .ok (.newarray .boolean, 2) := dk_188_4 (dk_at dksX2_init_1 3 rfl rfl)
theorem dX2_init_29 : decode cX2_init 29 = .ok (.putfield 22, 3) := dk_181 0 22 (dk_at dksX2_init_1 5 rfl rfl)
theorem dX2_init_32 : decode cX2_init 32 = .ok (.aload_n 0, 1) := dk_42 (dk_at dksX2_init_1 8 rfl rfl)
theorem dX2_init_33 : decode cX2_init 33 = .ok (.bipush 24, 2) := dk_16 24 (dk_at dksX2_init_1 9 rfl rfl)
theorem dX2_init_35 : decode cX2_init 35 = .ok (.newarray .int, 2) := dk_188_10 (dk_at dksX2_init_1 11 rfl rfl)
theorem dX2_init_37 : decode cX2_init 37 = .ok (.putfield 25, 3) := dk_181 0 25 (dk_at dksX2_init_1 13 rfl rfl)
theorem dX2_init_40 : decode cX2_init 40 = .ok (.aload_n 0, 1) := dk_42 (dk_at dksX2_init_1 16 rfl rfl)
theorem dX2_init_41 : decode cX2_init 41 = .ok (.bipush 24, 2) := dk_16 24 (dk_at dksX2_init_1 17 rfl rfl)
theorem dX2_init_43 : decode cX2_init 43 = .ok (.newarray .int, 2) := dk_188_10 (dk_at dksX2_init_1 19 rfl rfl)
theorem dX2_init_45 : decode cX2_init 45 = .ok (.putfield 29, 3) := dk_181 0 29 (dk_at dksX2_init_1 21 rfl rfl)
theorem dX2_init_48 : decode cX2_init 48 = .ok (.aload_n 0, 1) := dk_42 (dk_at dksX2_init_2 0 rfl rfl)
theorem dX2_init_49 : decode cX2_init 49 = .ok (.iconst 5, 1) := dk_8 (dk_at dksX2_init_2 1 rfl rfl)
theorem dX2_init_50 : decode cX2_init 50 = .ok (.newarray .int, 2) := dk_188_10 (dk_at dksX2_init_2 2 rfl rfl)
theorem dX2_init_52 : decode cX2_init 52 = .ok (.putfield 32, 3) := dk_181 0 32 (dk_at dksX2_init_2 4 rfl rfl)
theorem dX2_init_55 : decode cX2_init 55 = .ok (.aload_n 0, 1) := dk_42 (dk_at dksX2_init_2 7 rfl rfl)
theorem dX2_init_56 : decode cX2_init 56 = .ok (.bipush 24, 2) := dk_16 24 (dk_at dksX2_init_2 8 rfl rfl)
theorem dX2_init_58 : decode cX2_init 58 = .ok (.bipush 24, 2) := dk_16 24 (dk_at dksX2_init_2 10 rfl rfl)
theorem dX2_init_60 : decode cX2_init 60 = .ok (.multianewarray 35 2, 4) := by decide +kernel
theorem dX2_init_64 : decode cX2_init 64 = .ok (.putfield 37, 3) := dk_181 0 37 (dk_at dksX2_init_2 16 rfl rfl)
theorem dX2_init_67 : decode cX2_init 67 = .ok (.aload_n 0, 1) := dk_42 (dk_at dksX2_init_2 19 rfl rfl)
theorem dX2_init_68 : decode cX2_init 68 = .ok (.iconst 5, 1) := dk_8 (dk_at dksX2_init_2 20 rfl rfl)
theorem dX2_init_69 : decode cX2_init 69 = .ok (.bipush 12, 2) := dk_16 12 (dk_at dksX2_init_2 21 rfl rfl)
theorem dX2_init_71 : decode cX2_init 71 = .ok (.multianewarray 35 2, 4) := by decide +kernel
theorem dX2_init_75 : decode cX2_init 75 = .ok (.putfield 40, 3) := dk_181 0 40 (dk_at dksX2_init_3 4 rfl rfl)
theorem dX2_init_78 : decode cX2_init 78 = .ok (.return_, 1) := dk_177 (dk_at dksX2_init_3 7 rfl rfl)
abbrev cX2_isAt : ByteArray := prog_9_method_3_code
def yX2_isAt : MethodName := ⟨RX2, "isAt", "(II)Z"⟩
def dkwX2_isAt_1 : List UInt8 := [3, 172]
abbrev dktX2_isAt_1 : List UInt8 := dkwX2_isAt_1 ++ []
def dkwX2_isAt_0 : List UInt8 := [42, 180, 0, 25, 27, 46, 28, 159, 0, 13, 42, 180, 0, 29, 27, 46, 28, 160, 0, 7, 4, 167, 0, 4]
abbrev dktX2_isAt_0 : List UInt8 := dkwX2_isAt_0 ++ dktX2_isAt_1
theorem dksX2_isAt_0 : cX2_isAt.data.toList.drop 0 = dktX2_isAt_0 := by decide +kernel
theorem dksX2_isAt_1 : cX2_isAt.data.toList.drop 24 = dktX2_isAt_1 := dk_seg dksX2_isAt_0 24 rfl rfl
theorem dX2_isAt_0 : decode cX2_isAt 0 = .ok (.aload_n 0, 1) := dk_42 (dk_at dksX2_isAt_0 0 rfl rfl)
theorem dX2_isAt_1 : decode cX2_isAt 1 = .ok (.getfield 25, 3) := dk_180 0 25 (dk_at dksX2_isAt_0 1 rfl rfl)
theorem dX2_isAt_4 : decode cX2_isAt 4 = .ok (.iload_n 1, 1) := dk_27 (dk_at dksX2_isAt_0 4 rfl rfl)
theorem dX2_isAt_5 : decode cX2_isAt 5 = .ok (.iaload, 1) := dk_46 (dk_at dksX2_isAt_0 5 rfl rfl)
theorem dX2_isAt_6 : decode cX2_isAt 6 = .ok (.iload_n 2, 1) := dk_28 (dk_at dksX2_isAt_0 6 rfl rfl)
theorem dX2_isAt_7 : decode cX2_isAt 7 = .ok (.if_icmp .eq 13, 3) := dk_159 0 13 (dk_at dksX2_isAt_0 7 rfl rfl)
theorem dX2_isAt_10 : decode cX2_isAt 10 = .ok (.aload_n 0, 1) := dk_42 (dk_at dksX2_isAt_0 10 rfl rfl)
theorem dX2_isAt_11 : decode cX2_isAt 11 = .ok (.getfield 29, 3) := dk_180 0 29 (dk_at dksX2_isAt_0 11 rfl rfl)
theorem dX2_isAt_14 : decode cX2_isAt 14 = .ok (.iload_n 1, 1) := dk_27 (dk_at dksX2_isAt_0 14 rfl rfl)
theorem dX2_isAt_15 : decode cX2_isAt 15 = .ok (.iaload, 1) := dk_46 (dk_at dksX2_isAt_0 15 rfl rfl)
theorem dX2_isAt_16 : decode cX2_isAt 16 = .ok (.iload_n 2, 1) := dk_28 (dk_at dksX2_isAt_0 16 rfl rfl)
theorem dX2_isAt_17 : decode cX2_isAt 17 = .ok (.if_icmp .ne 7, 3) := dk_160 0 7 (dk_at dksX2_isAt_0 17 rfl rfl)
theorem dX2_isAt_20 : decode cX2_isAt 20 = .ok (.iconst 1, 1) := dk_4 (dk_at dksX2_isAt_0 20 rfl rfl)
theorem dX2_isAt_21 : decode cX2_isAt 21 = .ok (.goto 4, 3) := dk_167 0 4 (dk_at dksX2_isAt_0 21 rfl rfl)
theorem dX2_isAt_24 : decode cX2_isAt 24 = .ok (.iconst 0, 1) := dk_3 (dk_at dksX2_isAt_1 0 rfl rfl)
theorem dX2_isAt_25 : decode cX2_isAt 25 = .ok (.ireturn, 1) := dk_172 (dk_at dksX2_isAt_1 1 rfl rfl)
abbrev cX2_other : ByteArray := prog_9_method_2_code
def yX2_other : MethodName := ⟨RX2, "other", "(II)I"⟩
def dkwX2_other_1 : List UInt8 := [46, 172]
abbrev dktX2_other_1 : List UInt8 := dkwX2_other_1 ++ []
def dkwX2_other_0 : List UInt8 := [42, 180, 0, 25, 27, 46, 28, 160, 0, 12, 42, 180, 0, 29, 27, 46, 167, 0, 9, 42, 180, 0, 25, 27]
abbrev dktX2_other_0 : List UInt8 := dkwX2_other_0 ++ dktX2_other_1
theorem dksX2_other_0 : cX2_other.data.toList.drop 0 = dktX2_other_0 := by decide +kernel
theorem dksX2_other_1 : cX2_other.data.toList.drop 24 = dktX2_other_1 := dk_seg dksX2_other_0 24 rfl rfl
theorem dX2_other_0 : decode cX2_other 0 = .ok (.aload_n 0, 1) := dk_42 (dk_at dksX2_other_0 0 rfl rfl)
theorem dX2_other_1 : decode cX2_other 1 = .ok (.getfield 25, 3) := dk_180 0 25 (dk_at dksX2_other_0 1 rfl rfl)
theorem dX2_other_4 : decode cX2_other 4 = .ok (.iload_n 1, 1) := dk_27 (dk_at dksX2_other_0 4 rfl rfl)
theorem dX2_other_5 : decode cX2_other 5 = .ok (.iaload, 1) := dk_46 (dk_at dksX2_other_0 5 rfl rfl)
theorem dX2_other_6 : decode cX2_other 6 = .ok (.iload_n 2, 1) := dk_28 (dk_at dksX2_other_0 6 rfl rfl)
theorem dX2_other_7 : decode cX2_other 7 = .ok (.if_icmp .ne 12, 3) := dk_160 0 12 (dk_at dksX2_other_0 7 rfl rfl)
theorem dX2_other_10 : decode cX2_other 10 = .ok (.aload_n 0, 1) := dk_42 (dk_at dksX2_other_0 10 rfl rfl)
theorem dX2_other_11 : decode cX2_other 11 = .ok (.getfield 29, 3) := dk_180 0 29 (dk_at dksX2_other_0 11 rfl rfl)
theorem dX2_other_14 : decode cX2_other 14 = .ok (.iload_n 1, 1) := dk_27 (dk_at dksX2_other_0 14 rfl rfl)
theorem dX2_other_15 : decode cX2_other 15 = .ok (.iaload, 1) := dk_46 (dk_at dksX2_other_0 15 rfl rfl)
theorem dX2_other_16 : decode cX2_other 16 = .ok (.goto 9, 3) := dk_167 0 9 (dk_at dksX2_other_0 16 rfl rfl)
theorem dX2_other_19 : decode cX2_other 19 = .ok (.aload_n 0, 1) := dk_42 (dk_at dksX2_other_0 19 rfl rfl)
theorem dX2_other_20 : decode cX2_other 20 = .ok (.getfield 25, 3) := dk_180 0 25 (dk_at dksX2_other_0 20 rfl rfl)
theorem dX2_other_23 : decode cX2_other 23 = .ok (.iload_n 1, 1) := dk_27 (dk_at dksX2_other_0 23 rfl rfl)
theorem dX2_other_24 : decode cX2_other 24 = .ok (.iaload, 1) := dk_46 (dk_at dksX2_other_1 0 rfl rfl)
theorem dX2_other_25 : decode cX2_other 25 = .ok (.ireturn, 1) := dk_172 (dk_at dksX2_other_1 1 rfl rfl)
theorem q135 : (Jvm.Cond.initialized "GlassLeaders$Land") ∈ lw_all := lw_g (lw_at lw_m1 2 rfl) rfl
theorem q191 : (Jvm.Cond.instantiable "GlassLeaders$Land" (15 : Nat)) ∈ lw_all := lw_g (lw_at lw_m1 58 rfl) rfl
theorem q193 : (Jvm.Cond.instanceMethod ({ cls := "GlassLeaders$Land", name := "<init>", desc := "()V" } : Jvm.MethodName)) ∈ lw_all := lw_g (lw_at lw_m1 60 rfl) rfl
theorem q194 : (Jvm.Cond.code ({ cls := "GlassLeaders$Land", name := "<init>", desc := "()V" } : Jvm.MethodName) prog_9_method_1_code (1 : Nat) (Option.none : Option Jvm.ClassFile.FieldType)) ∈ lw_all := lw_g (lw_at lw_m1 61 rfl) rfl
theorem q195 : (Jvm.Cond.methodLink "GlassLeaders$Land" (3 : Nat) ({ cls := "java/lang/Object", name := "<init>", desc := "()V" } : Jvm.MethodName)) ∈ lw_all := lw_g (lw_at lw_m1 62 rfl) rfl
theorem q196 : (Jvm.Cond.classLink "GlassLeaders$Land" (35 : Nat) "[[I") ∈ lw_all := lw_g (lw_at lw_m1 63 rfl) rfl
theorem q206 : (Jvm.Cond.fieldLink "GlassLeaders$Land" (9 : Nat) "GlassLeaders$Land" "hours" "I") ∈ lw_all := lw_g (lw_at lw_m1 73 rfl) rfl
theorem q209 : (Jvm.Cond.fieldLink "GlassLeaders$Land" (15 : Nat) "GlassLeaders$Land" "store" "I") ∈ lw_all := lw_g (lw_at lw_m1 76 rfl) rfl
theorem q216 : (Jvm.Cond.fieldLink "GlassLeaders$Land" (18 : Nat) "GlassLeaders$Land" "isHut" "[Z") ∈ lw_all := lw_g (lw_at lw_m1 83 rfl) rfl
theorem q219 : (Jvm.Cond.fieldLink "GlassLeaders$Land" (22 : Nat) "GlassLeaders$Land" "isEnd" "[Z") ∈ lw_all := lw_g (lw_at lw_m1 86 rfl) rfl
theorem q222 : (Jvm.Cond.fieldLink "GlassLeaders$Land" (25 : Nat) "GlassLeaders$Land" "from" "[I") ∈ lw_all := lw_g (lw_at lw_m1 89 rfl) rfl
theorem q224 : (Jvm.Cond.fieldLink "GlassLeaders$Land" (29 : Nat) "GlassLeaders$Land" "to" "[I") ∈ lw_all := lw_g (lw_at lw_m1 91 rfl) rfl
theorem q226 : (Jvm.Cond.fieldLink "GlassLeaders$Land" (32 : Nat) "GlassLeaders$Land" "cost" "[I") ∈ lw_all := lw_g (lw_at lw_m1 93 rfl) rfl
theorem q229 : (Jvm.Cond.fieldLink "GlassLeaders$Land" (37 : Nat) "GlassLeaders$Land" "snow" "[[I") ∈ lw_all := lw_g (lw_at lw_m1 96 rfl) rfl
theorem q233 : (Jvm.Cond.fieldLink "GlassLeaders$Land" (40 : Nat) "GlassLeaders$Land" "wants" "[[I") ∈ lw_all := lw_g (lw_at lw_m1 100 rfl) rfl
theorem q238 : (Jvm.Cond.lays "GlassLeaders$Land" "GlassLeaders$Land" "places" "I") ∈ lw_all := lw_g (lw_at lw_m1 105 rfl) rfl
theorem q239 : (Jvm.Cond.soleField "GlassLeaders$Land" "places") ∈ lw_all := lw_g (lw_at lw_m1 106 rfl) rfl
theorem q240 : (Jvm.Cond.lays "GlassLeaders$Land" "GlassLeaders$Land" "ways" "I") ∈ lw_all := lw_g (lw_at lw_m1 107 rfl) rfl
theorem q241 : (Jvm.Cond.soleField "GlassLeaders$Land" "ways") ∈ lw_all := lw_g (lw_at lw_m1 108 rfl) rfl
theorem q242 : (Jvm.Cond.lays "GlassLeaders$Land" "GlassLeaders$Land" "persons" "I") ∈ lw_all := lw_g (lw_at lw_m1 109 rfl) rfl
theorem q243 : (Jvm.Cond.soleField "GlassLeaders$Land" "persons") ∈ lw_all := lw_g (lw_at lw_m1 110 rfl) rfl
theorem q244 : (Jvm.Cond.lays "GlassLeaders$Land" "GlassLeaders$Land" "hours" "I") ∈ lw_all := lw_g (lw_at lw_m1 111 rfl) rfl
theorem q245 : (Jvm.Cond.soleField "GlassLeaders$Land" "hours") ∈ lw_all := lw_g (lw_at lw_m1 112 rfl) rfl
theorem q246 : (Jvm.Cond.lays "GlassLeaders$Land" "GlassLeaders$Land" "store" "I") ∈ lw_all := lw_g (lw_at lw_m1 113 rfl) rfl
theorem q247 : (Jvm.Cond.soleField "GlassLeaders$Land" "store") ∈ lw_all := lw_g (lw_at lw_m1 114 rfl) rfl
theorem q248 : (Jvm.Cond.lays "GlassLeaders$Land" "GlassLeaders$Land" "lost" "I") ∈ lw_all := lw_g (lw_at lw_m1 115 rfl) rfl
theorem q249 : (Jvm.Cond.soleField "GlassLeaders$Land" "lost") ∈ lw_all := lw_g (lw_at lw_m1 116 rfl) rfl
theorem q250 : (Jvm.Cond.lays "GlassLeaders$Land" "GlassLeaders$Land" "start" "I") ∈ lw_all := lw_g (lw_at lw_m1 117 rfl) rfl
theorem q251 : (Jvm.Cond.soleField "GlassLeaders$Land" "start") ∈ lw_all := lw_g (lw_at lw_m1 118 rfl) rfl
theorem q252 : (Jvm.Cond.laysFinal "GlassLeaders$Land" "GlassLeaders$Land" "isHut" "[Z") ∈ lw_all := lw_g (lw_at lw_m1 119 rfl) rfl
theorem q253 : (Jvm.Cond.soleField "GlassLeaders$Land" "isHut") ∈ lw_all := lw_g (lw_at lw_m1 120 rfl) rfl
theorem q254 : (Jvm.Cond.laysFinal "GlassLeaders$Land" "GlassLeaders$Land" "isEnd" "[Z") ∈ lw_all := lw_g (lw_at lw_m1 121 rfl) rfl
theorem q255 : (Jvm.Cond.soleField "GlassLeaders$Land" "isEnd") ∈ lw_all := lw_g (lw_at lw_m1 122 rfl) rfl
theorem q256 : (Jvm.Cond.laysFinal "GlassLeaders$Land" "GlassLeaders$Land" "from" "[I") ∈ lw_all := lw_g (lw_at lw_m1 123 rfl) rfl
theorem q257 : (Jvm.Cond.soleField "GlassLeaders$Land" "from") ∈ lw_all := lw_g (lw_at lw_m1 124 rfl) rfl
theorem q258 : (Jvm.Cond.laysFinal "GlassLeaders$Land" "GlassLeaders$Land" "to" "[I") ∈ lw_all := lw_g (lw_at lw_m1 125 rfl) rfl
theorem q259 : (Jvm.Cond.soleField "GlassLeaders$Land" "to") ∈ lw_all := lw_g (lw_at lw_m1 126 rfl) rfl
theorem q260 : (Jvm.Cond.laysFinal "GlassLeaders$Land" "GlassLeaders$Land" "cost" "[I") ∈ lw_all := lw_g (lw_at lw_m1 127 rfl) rfl
theorem q261 : (Jvm.Cond.soleField "GlassLeaders$Land" "cost") ∈ lw_all := lw_g (lw_at lw_m1 128 rfl) rfl
theorem q262 : (Jvm.Cond.laysFinal "GlassLeaders$Land" "GlassLeaders$Land" "snow" "[[I") ∈ lw_all := lw_g (lw_at lw_m1 129 rfl) rfl
theorem q263 : (Jvm.Cond.soleField "GlassLeaders$Land" "snow") ∈ lw_all := lw_g (lw_at lw_m1 130 rfl) rfl
theorem q264 : (Jvm.Cond.laysFinal "GlassLeaders$Land" "GlassLeaders$Land" "wants" "[[I") ∈ lw_all := lw_g (lw_at lw_m1 131 rfl) rfl
theorem q265 : (Jvm.Cond.soleField "GlassLeaders$Land" "wants") ∈ lw_all := lw_g (lw_at lw_m1 132 rfl) rfl
theorem q266 : (Jvm.Cond.lays "GlassLeaders$Land" "GlassLeaders$Land" "snowy" "I") ∈ lw_all := lw_g (lw_at lw_m1 133 rfl) rfl
theorem q267 : (Jvm.Cond.soleField "GlassLeaders$Land" "snowy") ∈ lw_all := lw_g (lw_at lw_m1 134 rfl) rfl
theorem q268 : (Jvm.Cond.superclass "GlassLeaders$Land" "java/lang/Object") ∈ lw_all := lw_g (lw_at lw_m1 135 rfl) rfl
theorem q637 : (Jvm.Cond.selects "GlassLeaders$Land" ({ cls := "java/lang/Object", name := "getClass", desc := "()Ljava/lang/Class;" } : Jvm.MethodName) ({ cls := "java/lang/Object", name := "getClass", desc := "()Ljava/lang/Class;" } : Jvm.MethodName)) ∈ lw_all := lw_g (lw_at lw_m3 24 rfl) rfl
theorem q1459 : (Jvm.Cond.instanceMethod ({ cls := "GlassLeaders$Land", name := "isAt", desc := "(II)Z" } : Jvm.MethodName)) ∈ lw_all := lw_g (lw_at lw_m6 126 rfl) rfl
theorem q1460 : (Jvm.Cond.selects "GlassLeaders$Land" ({ cls := "GlassLeaders$Land", name := "isAt", desc := "(II)Z" } : Jvm.MethodName) ({ cls := "GlassLeaders$Land", name := "isAt", desc := "(II)Z" } : Jvm.MethodName)) ∈ lw_all := lw_g (lw_at lw_m6 127 rfl) rfl
theorem q1461 : (Jvm.Cond.code ({ cls := "GlassLeaders$Land", name := "isAt", desc := "(II)Z" } : Jvm.MethodName) prog_9_method_3_code (3 : Nat) (Option.some Jvm.ClassFile.FieldType.boolean)) ∈ lw_all := lw_g (lw_at lw_m6 128 rfl) rfl
theorem q1463 : (Jvm.Cond.instanceMethod ({ cls := "GlassLeaders$Land", name := "other", desc := "(II)I" } : Jvm.MethodName)) ∈ lw_all := lw_g (lw_at lw_m6 130 rfl) rfl
theorem q1464 : (Jvm.Cond.selects "GlassLeaders$Land" ({ cls := "GlassLeaders$Land", name := "other", desc := "(II)I" } : Jvm.MethodName) ({ cls := "GlassLeaders$Land", name := "other", desc := "(II)I" } : Jvm.MethodName)) ∈ lw_all := lw_g (lw_at lw_m6 131 rfl) rfl
theorem q1465 : (Jvm.Cond.code ({ cls := "GlassLeaders$Land", name := "other", desc := "(II)I" } : Jvm.MethodName) prog_9_method_2_code (3 : Nat) (Option.some Jvm.ClassFile.FieldType.int)) ∈ lw_all := lw_g (lw_at lw_m6 132 rfl) rfl
theorem q2860 : (Jvm.Cond.castable "GlassLeaders$Land" "java/lang/Object") ∈ lw_tbl := lw_at lw_m12 87 rfl
theorem in_X2 : ∀ w ∈ wsX20, w ∈ lw_all := lw_in wsX20 [238, 240, 242, 244, 246, 248, 250, 252, 254, 256, 258, 260, 262, 264, 266] (by decide +kernel) (by decide +kernel)
/-! GlassLeaders$State -/
set_option maxRecDepth 100000
def RX3 : String := "GlassLeaders$State"
def TX3 : u_T := fun k => match k with
  | 0 => ("GlassLeaders$State", "kinds", "[I", true)
  | 1 => ("GlassLeaders$State", "plan", "[I", true)
  | 2 => ("GlassLeaders$State", "turns", "[I", true)
  | 3 => ("GlassLeaders$State", "rows", "[I", true)
  | 4 => ("GlassLeaders$State", "wasAt", "[I", true)
  | 5 => ("GlassLeaders$State", "wasStores", "[I", true)
  | 6 => ("GlassLeaders$State", "wasMoves", "[I", true)
  | 7 => ("GlassLeaders$State", "length", "I", false)
  | 8 => ("GlassLeaders$State", "rowsTold", "I", false)
  | 9 => ("GlassLeaders$State", "gone", "I", false)
  | _ => ("GlassLeaders$State", "ended", "I", false)
def tyX3 : Nat → FieldType := fun k => match k with
  | 0 => .array .int
  | 1 => .array .int
  | 2 => .array .int
  | 3 => .array .int
  | 4 => .array .int
  | 5 => .array .int
  | 6 => .array .int
  | 7 => .int
  | 8 => .int
  | 9 => .int
  | _ => .int
abbrev wsX30 : List Cond := u_ws RX3 TX3 11
theorem nmX3 : ∀ a, a < 11 → ∀ b, b < 11 → a ≠ b → (TX3 a).2.1 ≠ (TX3 b).2.1 := by decide +kernel
theorem tyX3_ok : ∀ k, k < 11 → parseFieldDescriptor (TX3 k).2.2.1 = some (tyX3 k) := by decide +kernel
abbrev cX3_init : ByteArray := prog_21_method_1_code
def yX3_init : MethodName := ⟨RX3, "<init>", "()V"⟩
def dkwX3_init_3 : List UInt8 := [181, 0, 40, 42, 182, 0, 43, 177]
abbrev dktX3_init_3 : List UInt8 := dkwX3_init_3 ++ []
def dkwX3_init_2 : List UInt8 := [181, 0, 27, 42, 16, 25, 188, 10, 181, 0, 30, 42, 4, 181, 0, 33, 42, 2, 181, 0, 37, 42, 2]
abbrev dktX3_init_2 : List UInt8 := dkwX3_init_2 ++ dktX3_init_3
def dkwX3_init_1 : List UInt8 := [181, 0, 18, 42, 16, 24, 188, 10, 181, 0, 21, 42, 16, 25, 188, 10, 181, 0, 24, 42, 16, 25, 188, 10]
abbrev dktX3_init_1 : List UInt8 := dkwX3_init_1 ++ dktX3_init_2
def dkwX3_init_0 : List UInt8 := [42, 183, 0, 3, 42, 8, 188, 10, 181, 0, 9, 42, 16, 24, 188, 10, 181, 0, 15, 42, 16, 24, 188, 10]
abbrev dktX3_init_0 : List UInt8 := dkwX3_init_0 ++ dktX3_init_1
theorem dksX3_init_0 : cX3_init.data.toList.drop 0 = dktX3_init_0 := by decide +kernel
theorem dksX3_init_1 : cX3_init.data.toList.drop 24 = dktX3_init_1 := dk_seg dksX3_init_0 24 rfl rfl
theorem dksX3_init_2 : cX3_init.data.toList.drop 48 = dktX3_init_2 := dk_seg dksX3_init_1 24 rfl rfl
theorem dksX3_init_3 : cX3_init.data.toList.drop 71 = dktX3_init_3 := dk_seg dksX3_init_2 23 rfl rfl
theorem dX3_init_0 : decode cX3_init 0 = .ok (.aload_n 0, 1) := dk_42 (dk_at dksX3_init_0 0 rfl rfl)
theorem dX3_init_1 : decode cX3_init 1 = .ok (.invokespecial 3, 3) := dk_183 0 3 (dk_at dksX3_init_0 1 rfl rfl)
theorem dX3_init_4 : decode cX3_init 4 = .ok (.aload_n 0, 1) := dk_42 (dk_at dksX3_init_0 4 rfl rfl)
theorem dX3_init_5 : decode cX3_init 5 = .ok (.iconst 5, 1) := dk_8 (dk_at dksX3_init_0 5 rfl rfl)
theorem dX3_init_6 : decode cX3_init 6 = .ok (.newarray .int, 2) := dk_188_10 (dk_at dksX3_init_0 6 rfl rfl)
theorem dX3_init_8 : decode cX3_init 8 = .ok (.putfield 9, 3) := dk_181 0 9 (dk_at dksX3_init_0 8 rfl rfl)
theorem dX3_init_11 : decode cX3_init 11 = .ok (.aload_n 0, 1) := dk_42 (dk_at dksX3_init_0 11 rfl rfl)
theorem dX3_init_12 : decode cX3_init 12 = .ok (.bipush 24, 2) := dk_16 24 (dk_at dksX3_init_0 12 rfl rfl)
theorem dX3_init_14 : decode cX3_init 14 = .ok (.newarray .int, 2) := dk_188_10 (dk_at dksX3_init_0 14 rfl rfl)
theorem dX3_init_16 : decode cX3_init 16 = .ok (.putfield 15, 3) := dk_181 0 15 (dk_at dksX3_init_0 16 rfl rfl)
theorem dX3_init_19 : decode cX3_init 19 = .ok (.aload_n 0, 1) := dk_42 (dk_at dksX3_init_0 19 rfl rfl)
theorem dX3_init_20 : decode cX3_init 20 = .ok (.bipush 24, 2) := dk_16 24 (dk_at dksX3_init_0 20 rfl rfl)
theorem dX3_init_22 : decode cX3_init 22 = .ok (.newarray .int, 2) := dk_188_10 (dk_at dksX3_init_0 22 rfl rfl)
theorem dX3_init_24 : decode cX3_init 24 = .ok (.putfield 18, 3) := dk_181 0 18 (dk_at dksX3_init_1 0 rfl rfl)
theorem dX3_init_27 : decode cX3_init 27 = .ok (.aload_n 0, 1) := dk_42 (dk_at dksX3_init_1 3 rfl rfl)
theorem dX3_init_28 : decode cX3_init 28 = .ok (.bipush 24, 2) := dk_16 24 (dk_at dksX3_init_1 4 rfl rfl)
theorem dX3_init_30 : decode cX3_init 30 = .ok (.newarray .int, 2) := dk_188_10 (dk_at dksX3_init_1 6 rfl rfl)
theorem dX3_init_32 : decode cX3_init 32 = .ok (.putfield 21, 3) := dk_181 0 21 (dk_at dksX3_init_1 8 rfl rfl)
theorem dX3_init_35 : decode cX3_init 35 = .ok (.aload_n 0, 1) := dk_42 (dk_at dksX3_init_1 11 rfl rfl)
theorem dX3_init_36 : decode cX3_init 36 = .ok (.bipush 25, 2) := dk_16 25 (dk_at dksX3_init_1 12 rfl rfl)
theorem dX3_init_38 : decode cX3_init 38 = .ok (.newarray .int, 2) := dk_188_10 (dk_at dksX3_init_1 14 rfl rfl)
theorem dX3_init_40 : decode cX3_init 40 = .ok (.putfield 24, 3) := dk_181 0 24 (dk_at dksX3_init_1 16 rfl rfl)
theorem dX3_init_43 : decode cX3_init 43 = .ok (.aload_n 0, 1) := dk_42 (dk_at dksX3_init_1 19 rfl rfl)
theorem dX3_init_44 : decode cX3_init 44 = .ok (.bipush 25, 2) := dk_16 25 (dk_at dksX3_init_1 20 rfl rfl)
theorem dX3_init_46 : decode cX3_init 46 = .ok (.newarray .int, 2) := dk_188_10 (dk_at dksX3_init_1 22 rfl rfl)
theorem dX3_init_48 : decode cX3_init 48 = .ok (.putfield 27, 3) := dk_181 0 27 (dk_at dksX3_init_2 0 rfl rfl)
theorem dX3_init_51 : decode cX3_init 51 = .ok (.aload_n 0, 1) := dk_42 (dk_at dksX3_init_2 3 rfl rfl)
theorem dX3_init_52 : decode cX3_init 52 = .ok (.bipush 25, 2) := dk_16 25 (dk_at dksX3_init_2 4 rfl rfl)
theorem dX3_init_54 : decode cX3_init 54 = .ok (.newarray .int, 2) := dk_188_10 (dk_at dksX3_init_2 6 rfl rfl)
theorem dX3_init_56 : decode cX3_init 56 = .ok (.putfield 30, 3) := dk_181 0 30 (dk_at dksX3_init_2 8 rfl rfl)
theorem dX3_init_59 : decode cX3_init 59 = .ok (.aload_n 0, 1) := dk_42 (dk_at dksX3_init_2 11 rfl rfl)
theorem dX3_init_60 : decode cX3_init 60 = .ok (.iconst 1, 1) := dk_4 (dk_at dksX3_init_2 12 rfl rfl)
theorem dX3_init_61 : decode cX3_init 61 = .ok (.putfield 33, 3) := dk_181 0 33 (dk_at dksX3_init_2 13 rfl rfl)
theorem dX3_init_64 : decode cX3_init 64 = .ok (.aload_n 0, 1) := dk_42 (dk_at dksX3_init_2 16 rfl rfl)
theorem dX3_init_65 : decode cX3_init 65 = .ok (.iconst (-1), 1) := dk_2 (dk_at dksX3_init_2 17 rfl rfl)
theorem dX3_init_66 : decode cX3_init 66 = .ok (.putfield 37, 3) := dk_181 0 37 (dk_at dksX3_init_2 18 rfl rfl)
theorem dX3_init_69 : decode cX3_init 69 = .ok (.aload_n 0, 1) := dk_42 (dk_at dksX3_init_2 21 rfl rfl)
theorem dX3_init_70 : decode cX3_init 70 = .ok (.iconst (-1), 1) := dk_2 (dk_at dksX3_init_2 22 rfl rfl)
theorem dX3_init_71 : decode cX3_init 71 = .ok (.putfield 40, 3) := dk_181 0 40 (dk_at dksX3_init_3 0 rfl rfl)
theorem dX3_init_74 : decode cX3_init 74 = .ok (.aload_n 0, 1) := dk_42 (dk_at dksX3_init_3 3 rfl rfl)
theorem dX3_init_75 : decode cX3_init 75 = .ok (.invokevirtual 43, 3) := dk_182 0 43 (dk_at dksX3_init_3 4 rfl rfl)
theorem dX3_init_78 : decode cX3_init 78 = .ok (.return_, 1) := dk_177 (dk_at dksX3_init_3 7 rfl rfl)
abbrev cX3_clear : ByteArray := prog_21_method_2_code
def yX3_clear : MethodName := ⟨RX3, "clear", "()V"⟩
def dkwX3_clear_2 : List UInt8 := [167, 255, 233, 42, 4, 181, 0, 33, 42, 3, 181, 0, 46, 42, 2, 181, 0, 37, 42, 2, 181, 0, 40, 177]
abbrev dktX3_clear_2 : List UInt8 := dkwX3_clear_2 ++ []
def dkwX3_clear_1 : List UInt8 := [16, 24, 162, 0, 23, 42, 180, 0, 15, 27, 3, 79, 42, 180, 0, 18, 27, 2, 79, 132, 1, 1]
abbrev dktX3_clear_1 : List UInt8 := dkwX3_clear_1 ++ dktX3_clear_2
def dkwX3_clear_0 : List UInt8 := [3, 60, 27, 8, 162, 0, 16, 42, 180, 0, 9, 27, 3, 79, 132, 1, 1, 167, 255, 241, 3, 60, 27]
abbrev dktX3_clear_0 : List UInt8 := dkwX3_clear_0 ++ dktX3_clear_1
theorem dksX3_clear_0 : cX3_clear.data.toList.drop 0 = dktX3_clear_0 := by decide +kernel
theorem dksX3_clear_1 : cX3_clear.data.toList.drop 23 = dktX3_clear_1 := dk_seg dksX3_clear_0 23 rfl rfl
theorem dksX3_clear_2 : cX3_clear.data.toList.drop 45 = dktX3_clear_2 := dk_seg dksX3_clear_1 22 rfl rfl
theorem dX3_clear_0 : decode cX3_clear 0 = .ok (.iconst 0, 1) := dk_3 (dk_at dksX3_clear_0 0 rfl rfl)
theorem dX3_clear_1 : decode cX3_clear 1 = .ok (.istore_n 1, 1) := dk_60 (dk_at dksX3_clear_0 1 rfl rfl)
theorem dX3_clear_2 : decode cX3_clear 2 = .ok (.iload_n 1, 1) := dk_27 (dk_at dksX3_clear_0 2 rfl rfl)
theorem dX3_clear_3 : decode cX3_clear 3 = .ok (.iconst 5, 1) := dk_8 (dk_at dksX3_clear_0 3 rfl rfl)
theorem dX3_clear_4 : decode cX3_clear 4 = .ok (.if_icmp .ge 16, 3) := dk_162 0 16 (dk_at dksX3_clear_0 4 rfl rfl)
theorem dX3_clear_7 : decode cX3_clear 7 = .ok (.aload_n 0, 1) := dk_42 (dk_at dksX3_clear_0 7 rfl rfl)
theorem dX3_clear_8 : decode cX3_clear 8 = .ok (.getfield 9, 3) := dk_180 0 9 (dk_at dksX3_clear_0 8 rfl rfl)
theorem dX3_clear_11 : decode cX3_clear 11 = .ok (.iload_n 1, 1) := dk_27 (dk_at dksX3_clear_0 11 rfl rfl)
theorem dX3_clear_12 : decode cX3_clear 12 = .ok (.iconst 0, 1) := dk_3 (dk_at dksX3_clear_0 12 rfl rfl)
theorem dX3_clear_13 : decode cX3_clear 13 = .ok (.iastore, 1) := dk_79 (dk_at dksX3_clear_0 13 rfl rfl)
theorem dX3_clear_14 : decode cX3_clear 14 = .ok (.iinc 1 1, 3) := dk_132 1 1 (dk_at dksX3_clear_0 14 rfl rfl)
theorem dX3_clear_17 : decode cX3_clear 17 = .ok (.goto (-15), 3) := dk_167 255 241 (dk_at dksX3_clear_0 17 rfl rfl)
theorem dX3_clear_20 : decode cX3_clear 20 = .ok (.iconst 0, 1) := dk_3 (dk_at dksX3_clear_0 20 rfl rfl)
theorem dX3_clear_21 : decode cX3_clear 21 = .ok (.istore_n 1, 1) := dk_60 (dk_at dksX3_clear_0 21 rfl rfl)
theorem dX3_clear_22 : decode cX3_clear 22 = .ok (.iload_n 1, 1) := dk_27 (dk_at dksX3_clear_0 22 rfl rfl)
theorem dX3_clear_23 : decode cX3_clear 23 = .ok (.bipush 24, 2) := dk_16 24 (dk_at dksX3_clear_1 0 rfl rfl)
theorem dX3_clear_25 : decode cX3_clear 25 = .ok (.if_icmp .ge 23, 3) := dk_162 0 23 (dk_at dksX3_clear_1 2 rfl rfl)
theorem dX3_clear_28 : decode cX3_clear 28 = .ok (.aload_n 0, 1) := dk_42 (dk_at dksX3_clear_1 5 rfl rfl)
theorem dX3_clear_29 : decode cX3_clear 29 = .ok (.getfield 15, 3) := dk_180 0 15 (dk_at dksX3_clear_1 6 rfl rfl)
theorem dX3_clear_32 : decode cX3_clear 32 = .ok (.iload_n 1, 1) := dk_27 (dk_at dksX3_clear_1 9 rfl rfl)
theorem dX3_clear_33 : decode cX3_clear 33 = .ok (.iconst 0, 1) := dk_3 (dk_at dksX3_clear_1 10 rfl rfl)
theorem dX3_clear_34 : decode cX3_clear 34 = .ok (.iastore, 1) := dk_79 (dk_at dksX3_clear_1 11 rfl rfl)
theorem dX3_clear_35 : decode cX3_clear 35 = .ok (.aload_n 0, 1) := dk_42 (dk_at dksX3_clear_1 12 rfl rfl)
theorem dX3_clear_36 : decode cX3_clear 36 = .ok (.getfield 18, 3) := dk_180 0 18 (dk_at dksX3_clear_1 13 rfl rfl)
theorem dX3_clear_39 : decode cX3_clear 39 = .ok (.iload_n 1, 1) := dk_27 (dk_at dksX3_clear_1 16 rfl rfl)
theorem dX3_clear_40 : decode cX3_clear 40 = .ok (.iconst (-1), 1) := dk_2 (dk_at dksX3_clear_1 17 rfl rfl)
theorem dX3_clear_41 : decode cX3_clear 41 = .ok (.iastore, 1) := dk_79 (dk_at dksX3_clear_1 18 rfl rfl)
theorem dX3_clear_42 : decode cX3_clear 42 = .ok (.iinc 1 1, 3) := dk_132 1 1 (dk_at dksX3_clear_1 19 rfl rfl)
theorem dX3_clear_45 : decode cX3_clear 45 = .ok (.goto (-23), 3) := dk_167 255 233 (dk_at dksX3_clear_2 0 rfl rfl)
theorem dX3_clear_48 : decode cX3_clear 48 = .ok (.aload_n 0, 1) := dk_42 (dk_at dksX3_clear_2 3 rfl rfl)
theorem dX3_clear_49 : decode cX3_clear 49 = .ok (.iconst 1, 1) := dk_4 (dk_at dksX3_clear_2 4 rfl rfl)
theorem dX3_clear_50 : decode cX3_clear 50 = .ok (.putfield 33, 3) := dk_181 0 33 (dk_at dksX3_clear_2 5 rfl rfl)
theorem dX3_clear_53 : decode cX3_clear 53 = .ok (.aload_n 0, 1) := dk_42 (dk_at dksX3_clear_2 8 rfl rfl)
theorem dX3_clear_54 : decode cX3_clear 54 = .ok (.iconst 0, 1) := dk_3 (dk_at dksX3_clear_2 9 rfl rfl)
theorem dX3_clear_55 : decode cX3_clear 55 = .ok (.putfield 46, 3) := dk_181 0 46 (dk_at dksX3_clear_2 10 rfl rfl)
theorem dX3_clear_58 : decode cX3_clear 58 = .ok (.aload_n 0, 1) := dk_42 (dk_at dksX3_clear_2 13 rfl rfl)
theorem dX3_clear_59 : decode cX3_clear 59 = .ok (.iconst (-1), 1) := dk_2 (dk_at dksX3_clear_2 14 rfl rfl)
theorem dX3_clear_60 : decode cX3_clear 60 = .ok (.putfield 37, 3) := dk_181 0 37 (dk_at dksX3_clear_2 15 rfl rfl)
theorem dX3_clear_63 : decode cX3_clear 63 = .ok (.aload_n 0, 1) := dk_42 (dk_at dksX3_clear_2 18 rfl rfl)
theorem dX3_clear_64 : decode cX3_clear 64 = .ok (.iconst (-1), 1) := dk_2 (dk_at dksX3_clear_2 19 rfl rfl)
theorem dX3_clear_65 : decode cX3_clear 65 = .ok (.putfield 40, 3) := dk_181 0 40 (dk_at dksX3_clear_2 20 rfl rfl)
theorem dX3_clear_68 : decode cX3_clear 68 = .ok (.return_, 1) := dk_177 (dk_at dksX3_clear_2 23 rfl rfl)
abbrev cX3_over : ByteArray := prog_21_method_3_code
def yX3_over : MethodName := ⟨RX3, "over", "(LGlassLeaders$State;)LGlassLeaders$State;"⟩
def dkwX3_over_5 : List UInt8 := [181, 0, 46, 42, 43, 180, 0, 37, 181, 0, 37, 42, 43, 180, 0, 40, 181, 0, 40, 42, 176]
abbrev dktX3_over_5 : List UInt8 := dkwX3_over_5 ++ []
def dkwX3_over_4 : List UInt8 := [180, 0, 30, 3, 16, 25, 184, 0, 49, 42, 43, 180, 0, 33, 181, 0, 33, 42, 43, 180, 0, 46]
abbrev dktX3_over_4 : List UInt8 := dkwX3_over_4 ++ dktX3_over_5
def dkwX3_over_3 : List UInt8 := [184, 0, 49, 43, 180, 0, 27, 3, 42, 180, 0, 27, 3, 16, 25, 184, 0, 49, 43, 180, 0, 30, 3, 42]
abbrev dktX3_over_3 : List UInt8 := dkwX3_over_3 ++ dktX3_over_4
def dkwX3_over_2 : List UInt8 := [3, 42, 180, 0, 21, 3, 16, 24, 184, 0, 49, 43, 180, 0, 24, 3, 42, 180, 0, 24, 3, 16, 25]
abbrev dktX3_over_2 : List UInt8 := dkwX3_over_2 ++ dktX3_over_3
def dkwX3_over_1 : List UInt8 := [16, 24, 184, 0, 49, 43, 180, 0, 18, 3, 42, 180, 0, 18, 3, 16, 24, 184, 0, 49, 43, 180, 0, 21]
abbrev dktX3_over_1 : List UInt8 := dkwX3_over_1 ++ dktX3_over_2
def dkwX3_over_0 : List UInt8 := [43, 180, 0, 9, 3, 42, 180, 0, 9, 3, 8, 184, 0, 49, 43, 180, 0, 15, 3, 42, 180, 0, 15, 3]
abbrev dktX3_over_0 : List UInt8 := dkwX3_over_0 ++ dktX3_over_1
theorem dksX3_over_0 : cX3_over.data.toList.drop 0 = dktX3_over_0 := by decide +kernel
theorem dksX3_over_1 : cX3_over.data.toList.drop 24 = dktX3_over_1 := dk_seg dksX3_over_0 24 rfl rfl
theorem dksX3_over_2 : cX3_over.data.toList.drop 48 = dktX3_over_2 := dk_seg dksX3_over_1 24 rfl rfl
theorem dksX3_over_3 : cX3_over.data.toList.drop 71 = dktX3_over_3 := dk_seg dksX3_over_2 23 rfl rfl
theorem dksX3_over_4 : cX3_over.data.toList.drop 95 = dktX3_over_4 := dk_seg dksX3_over_3 24 rfl rfl
theorem dksX3_over_5 : cX3_over.data.toList.drop 117 = dktX3_over_5 := dk_seg dksX3_over_4 22 rfl rfl
theorem dX3_over_0 : decode cX3_over 0 = .ok (.aload_n 1, 1) := dk_43 (dk_at dksX3_over_0 0 rfl rfl)
theorem dX3_over_1 : decode cX3_over 1 = .ok (.getfield 9, 3) := dk_180 0 9 (dk_at dksX3_over_0 1 rfl rfl)
theorem dX3_over_4 : decode cX3_over 4 = .ok (.iconst 0, 1) := dk_3 (dk_at dksX3_over_0 4 rfl rfl)
theorem dX3_over_5 : decode cX3_over 5 = .ok (.aload_n 0, 1) := dk_42 (dk_at dksX3_over_0 5 rfl rfl)
theorem dX3_over_6 : decode cX3_over 6 = .ok (.getfield 9, 3) := dk_180 0 9 (dk_at dksX3_over_0 6 rfl rfl)
theorem dX3_over_9 : decode cX3_over 9 = .ok (.iconst 0, 1) := dk_3 (dk_at dksX3_over_0 9 rfl rfl)
theorem dX3_over_10 : decode cX3_over 10 = .ok (.iconst 5, 1) := dk_8 (dk_at dksX3_over_0 10 rfl rfl)
theorem dX3_over_11 : decode cX3_over 11 = .ok (.invokestatic 49, 3) := dk_184 0 49 (dk_at dksX3_over_0 11 rfl rfl)
theorem dX3_over_14 : decode cX3_over 14 = .ok (.aload_n 1, 1) := dk_43 (dk_at dksX3_over_0 14 rfl rfl)
theorem dX3_over_15 : decode cX3_over 15 = .ok (.getfield 15, 3) := dk_180 0 15 (dk_at dksX3_over_0 15 rfl rfl)
theorem dX3_over_18 : decode cX3_over 18 = .ok (.iconst 0, 1) := dk_3 (dk_at dksX3_over_0 18 rfl rfl)
theorem dX3_over_19 : decode cX3_over 19 = .ok (.aload_n 0, 1) := dk_42 (dk_at dksX3_over_0 19 rfl rfl)
theorem dX3_over_20 : decode cX3_over 20 = .ok (.getfield 15, 3) := dk_180 0 15 (dk_at dksX3_over_0 20 rfl rfl)
theorem dX3_over_23 : decode cX3_over 23 = .ok (.iconst 0, 1) := dk_3 (dk_at dksX3_over_0 23 rfl rfl)
theorem dX3_over_24 : decode cX3_over 24 = .ok (.bipush 24, 2) := dk_16 24 (dk_at dksX3_over_1 0 rfl rfl)
theorem dX3_over_26 : decode cX3_over 26 = .ok (.invokestatic 49, 3) := dk_184 0 49 (dk_at dksX3_over_1 2 rfl rfl)
theorem dX3_over_29 : decode cX3_over 29 = .ok (.aload_n 1, 1) := dk_43 (dk_at dksX3_over_1 5 rfl rfl)
theorem dX3_over_30 : decode cX3_over 30 = .ok (.getfield 18, 3) := dk_180 0 18 (dk_at dksX3_over_1 6 rfl rfl)
theorem dX3_over_33 : decode cX3_over 33 = .ok (.iconst 0, 1) := dk_3 (dk_at dksX3_over_1 9 rfl rfl)
theorem dX3_over_34 : decode cX3_over 34 = .ok (.aload_n 0, 1) := dk_42 (dk_at dksX3_over_1 10 rfl rfl)
theorem dX3_over_35 : decode cX3_over 35 = .ok (.getfield 18, 3) := dk_180 0 18 (dk_at dksX3_over_1 11 rfl rfl)
theorem dX3_over_38 : decode cX3_over 38 = .ok (.iconst 0, 1) := dk_3 (dk_at dksX3_over_1 14 rfl rfl)
theorem dX3_over_39 : decode cX3_over 39 = .ok (.bipush 24, 2) := dk_16 24 (dk_at dksX3_over_1 15 rfl rfl)
theorem dX3_over_41 : decode cX3_over 41 = .ok (.invokestatic 49, 3) := dk_184 0 49 (dk_at dksX3_over_1 17 rfl rfl)
theorem dX3_over_44 : decode cX3_over 44 = .ok (.aload_n 1, 1) := dk_43 (dk_at dksX3_over_1 20 rfl rfl)
theorem dX3_over_45 : decode cX3_over 45 = .ok (.getfield 21, 3) := dk_180 0 21 (dk_at dksX3_over_1 21 rfl rfl)
theorem dX3_over_48 : decode cX3_over 48 = .ok (.iconst 0, 1) := dk_3 (dk_at dksX3_over_2 0 rfl rfl)
theorem dX3_over_49 : decode cX3_over 49 = .ok (.aload_n 0, 1) := dk_42 (dk_at dksX3_over_2 1 rfl rfl)
theorem dX3_over_50 : decode cX3_over 50 = .ok (.getfield 21, 3) := dk_180 0 21 (dk_at dksX3_over_2 2 rfl rfl)
theorem dX3_over_53 : decode cX3_over 53 = .ok (.iconst 0, 1) := dk_3 (dk_at dksX3_over_2 5 rfl rfl)
theorem dX3_over_54 : decode cX3_over 54 = .ok (.bipush 24, 2) := dk_16 24 (dk_at dksX3_over_2 6 rfl rfl)
theorem dX3_over_56 : decode cX3_over 56 = .ok (.invokestatic 49, 3) := dk_184 0 49 (dk_at dksX3_over_2 8 rfl rfl)
theorem dX3_over_59 : decode cX3_over 59 = .ok (.aload_n 1, 1) := dk_43 (dk_at dksX3_over_2 11 rfl rfl)
theorem dX3_over_60 : decode cX3_over 60 = .ok (.getfield 24, 3) := dk_180 0 24 (dk_at dksX3_over_2 12 rfl rfl)
theorem dX3_over_63 : decode cX3_over 63 = .ok (.iconst 0, 1) := dk_3 (dk_at dksX3_over_2 15 rfl rfl)
theorem dX3_over_64 : decode cX3_over 64 = .ok (.aload_n 0, 1) := dk_42 (dk_at dksX3_over_2 16 rfl rfl)
theorem dX3_over_65 : decode cX3_over 65 = .ok (.getfield 24, 3) := dk_180 0 24 (dk_at dksX3_over_2 17 rfl rfl)
theorem dX3_over_68 : decode cX3_over 68 = .ok (.iconst 0, 1) := dk_3 (dk_at dksX3_over_2 20 rfl rfl)
theorem dX3_over_69 : decode cX3_over 69 = .ok (.bipush 25, 2) := dk_16 25 (dk_at dksX3_over_2 21 rfl rfl)
theorem dX3_over_71 : decode cX3_over 71 = .ok (.invokestatic 49, 3) := dk_184 0 49 (dk_at dksX3_over_3 0 rfl rfl)
theorem dX3_over_74 : decode cX3_over 74 = .ok (.aload_n 1, 1) := dk_43 (dk_at dksX3_over_3 3 rfl rfl)
theorem dX3_over_75 : decode cX3_over 75 = .ok (.getfield 27, 3) := dk_180 0 27 (dk_at dksX3_over_3 4 rfl rfl)
theorem dX3_over_78 : decode cX3_over 78 = .ok (.iconst 0, 1) := dk_3 (dk_at dksX3_over_3 7 rfl rfl)
theorem dX3_over_79 : decode cX3_over 79 = .ok (.aload_n 0, 1) := dk_42 (dk_at dksX3_over_3 8 rfl rfl)
theorem dX3_over_80 : decode cX3_over 80 = .ok (.getfield 27, 3) := dk_180 0 27 (dk_at dksX3_over_3 9 rfl rfl)
theorem dX3_over_83 : decode cX3_over 83 = .ok (.iconst 0, 1) := dk_3 (dk_at dksX3_over_3 12 rfl rfl)
theorem dX3_over_84 : decode cX3_over 84 = .ok (.bipush 25, 2) := dk_16 25 (dk_at dksX3_over_3 13 rfl rfl)
theorem dX3_over_86 : decode cX3_over 86 = .ok (.invokestatic 49, 3) := dk_184 0 49 (dk_at dksX3_over_3 15 rfl rfl)
theorem dX3_over_89 : decode cX3_over 89 = .ok (.aload_n 1, 1) := dk_43 (dk_at dksX3_over_3 18 rfl rfl)
theorem dX3_over_90 : decode cX3_over 90 = .ok (.getfield 30, 3) := dk_180 0 30 (dk_at dksX3_over_3 19 rfl rfl)
theorem dX3_over_93 : decode cX3_over 93 = .ok (.iconst 0, 1) := dk_3 (dk_at dksX3_over_3 22 rfl rfl)
theorem dX3_over_94 : decode cX3_over 94 = .ok (.aload_n 0, 1) := dk_42 (dk_at dksX3_over_3 23 rfl rfl)
theorem dX3_over_95 : decode cX3_over 95 = .ok (.getfield 30, 3) := dk_180 0 30 (dk_at dksX3_over_4 0 rfl rfl)
theorem dX3_over_98 : decode cX3_over 98 = .ok (.iconst 0, 1) := dk_3 (dk_at dksX3_over_4 3 rfl rfl)
theorem dX3_over_99 : decode cX3_over 99 = .ok (.bipush 25, 2) := dk_16 25 (dk_at dksX3_over_4 4 rfl rfl)
theorem dX3_over_101 : decode cX3_over 101 = .ok (.invokestatic 49, 3) := dk_184 0 49 (dk_at dksX3_over_4 6 rfl rfl)
theorem dX3_over_104 : decode cX3_over 104 = .ok (.aload_n 0, 1) := dk_42 (dk_at dksX3_over_4 9 rfl rfl)
theorem dX3_over_105 : decode cX3_over 105 = .ok (.aload_n 1, 1) := dk_43 (dk_at dksX3_over_4 10 rfl rfl)
theorem dX3_over_106 : decode cX3_over 106 = .ok (.getfield 33, 3) := dk_180 0 33 (dk_at dksX3_over_4 11 rfl rfl)
theorem dX3_over_109 : decode cX3_over 109 = .ok (.putfield 33, 3) := dk_181 0 33 (dk_at dksX3_over_4 14 rfl rfl)
theorem dX3_over_112 : decode cX3_over 112 = .ok (.aload_n 0, 1) := dk_42 (dk_at dksX3_over_4 17 rfl rfl)
theorem dX3_over_113 : decode cX3_over 113 = .ok (.aload_n 1, 1) := dk_43 (dk_at dksX3_over_4 18 rfl rfl)
theorem dX3_over_114 : decode cX3_over 114 = .ok (.getfield 46, 3) := dk_180 0 46 (dk_at dksX3_over_4 19 rfl rfl)
theorem dX3_over_117 : decode cX3_over 117 = .ok (.putfield 46, 3) := dk_181 0 46 (dk_at dksX3_over_5 0 rfl rfl)
theorem dX3_over_120 : decode cX3_over 120 = .ok (.aload_n 0, 1) := dk_42 (dk_at dksX3_over_5 3 rfl rfl)
theorem dX3_over_121 : decode cX3_over 121 = .ok (.aload_n 1, 1) := dk_43 (dk_at dksX3_over_5 4 rfl rfl)
theorem dX3_over_122 : decode cX3_over 122 = .ok (.getfield 37, 3) := dk_180 0 37 (dk_at dksX3_over_5 5 rfl rfl)
theorem dX3_over_125 : decode cX3_over 125 = .ok (.putfield 37, 3) := dk_181 0 37 (dk_at dksX3_over_5 8 rfl rfl)
theorem dX3_over_128 : decode cX3_over 128 = .ok (.aload_n 0, 1) := dk_42 (dk_at dksX3_over_5 11 rfl rfl)
theorem dX3_over_129 : decode cX3_over 129 = .ok (.aload_n 1, 1) := dk_43 (dk_at dksX3_over_5 12 rfl rfl)
theorem dX3_over_130 : decode cX3_over 130 = .ok (.getfield 40, 3) := dk_180 0 40 (dk_at dksX3_over_5 13 rfl rfl)
theorem dX3_over_133 : decode cX3_over 133 = .ok (.putfield 40, 3) := dk_181 0 40 (dk_at dksX3_over_5 16 rfl rfl)
theorem dX3_over_136 : decode cX3_over 136 = .ok (.aload_n 0, 1) := dk_42 (dk_at dksX3_over_5 19 rfl rfl)
theorem dX3_over_137 : decode cX3_over 137 = .ok (.areturn, 1) := dk_176 (dk_at dksX3_over_5 20 rfl rfl)
theorem q139 : (Jvm.Cond.initialized "GlassLeaders$State") ∈ lw_all := lw_g (lw_at lw_m1 6 rfl) rfl
theorem q298 : (Jvm.Cond.instantiable "GlassLeaders$State" (11 : Nat)) ∈ lw_all := lw_g (lw_at lw_m1 165 rfl) rfl
theorem q300 : (Jvm.Cond.instanceMethod ({ cls := "GlassLeaders$State", name := "<init>", desc := "()V" } : Jvm.MethodName)) ∈ lw_all := lw_g (lw_at lw_m1 167 rfl) rfl
theorem q301 : (Jvm.Cond.code ({ cls := "GlassLeaders$State", name := "<init>", desc := "()V" } : Jvm.MethodName) prog_21_method_1_code (1 : Nat) (Option.none : Option Jvm.ClassFile.FieldType)) ∈ lw_all := lw_g (lw_at lw_m1 168 rfl) rfl
theorem q302 : (Jvm.Cond.methodLink "GlassLeaders$State" (3 : Nat) ({ cls := "java/lang/Object", name := "<init>", desc := "()V" } : Jvm.MethodName)) ∈ lw_all := lw_g (lw_at lw_m1 169 rfl) rfl
theorem q303 : (Jvm.Cond.methodLink "GlassLeaders$State" (43 : Nat) ({ cls := "GlassLeaders$State", name := "clear", desc := "()V" } : Jvm.MethodName)) ∈ lw_all := lw_g (lw_at lw_m1 170 rfl) rfl
theorem q304 : (Jvm.Cond.instanceMethod ({ cls := "GlassLeaders$State", name := "clear", desc := "()V" } : Jvm.MethodName)) ∈ lw_all := lw_g (lw_at lw_m1 171 rfl) rfl
theorem q305 : (Jvm.Cond.selects "GlassLeaders$State" ({ cls := "GlassLeaders$State", name := "clear", desc := "()V" } : Jvm.MethodName) ({ cls := "GlassLeaders$State", name := "clear", desc := "()V" } : Jvm.MethodName)) ∈ lw_all := lw_g (lw_at lw_m1 172 rfl) rfl
theorem q306 : (Jvm.Cond.code ({ cls := "GlassLeaders$State", name := "clear", desc := "()V" } : Jvm.MethodName) prog_21_method_2_code (2 : Nat) (Option.none : Option Jvm.ClassFile.FieldType)) ∈ lw_all := lw_g (lw_at lw_m1 173 rfl) rfl
theorem q307 : (Jvm.Cond.fieldLink "GlassLeaders$State" (9 : Nat) "GlassLeaders$State" "kinds" "[I") ∈ lw_all := lw_g (lw_at lw_m1 174 rfl) rfl
theorem q309 : (Jvm.Cond.fieldLink "GlassLeaders$State" (15 : Nat) "GlassLeaders$State" "plan" "[I") ∈ lw_all := lw_g (lw_at lw_m1 176 rfl) rfl
theorem q312 : (Jvm.Cond.fieldLink "GlassLeaders$State" (18 : Nat) "GlassLeaders$State" "turns" "[I") ∈ lw_all := lw_g (lw_at lw_m1 179 rfl) rfl
theorem q314 : (Jvm.Cond.fieldLink "GlassLeaders$State" (21 : Nat) "GlassLeaders$State" "rows" "[I") ∈ lw_all := lw_g (lw_at lw_m1 181 rfl) rfl
theorem q316 : (Jvm.Cond.fieldLink "GlassLeaders$State" (24 : Nat) "GlassLeaders$State" "wasAt" "[I") ∈ lw_all := lw_g (lw_at lw_m1 183 rfl) rfl
theorem q318 : (Jvm.Cond.fieldLink "GlassLeaders$State" (27 : Nat) "GlassLeaders$State" "wasStores" "[I") ∈ lw_all := lw_g (lw_at lw_m1 185 rfl) rfl
theorem q320 : (Jvm.Cond.fieldLink "GlassLeaders$State" (30 : Nat) "GlassLeaders$State" "wasMoves" "[I") ∈ lw_all := lw_g (lw_at lw_m1 187 rfl) rfl
theorem q322 : (Jvm.Cond.fieldLink "GlassLeaders$State" (33 : Nat) "GlassLeaders$State" "length" "I") ∈ lw_all := lw_g (lw_at lw_m1 189 rfl) rfl
theorem q324 : (Jvm.Cond.fieldLink "GlassLeaders$State" (46 : Nat) "GlassLeaders$State" "rowsTold" "I") ∈ lw_all := lw_g (lw_at lw_m1 191 rfl) rfl
theorem q326 : (Jvm.Cond.fieldLink "GlassLeaders$State" (37 : Nat) "GlassLeaders$State" "gone" "I") ∈ lw_all := lw_g (lw_at lw_m1 193 rfl) rfl
theorem q328 : (Jvm.Cond.fieldLink "GlassLeaders$State" (40 : Nat) "GlassLeaders$State" "ended" "I") ∈ lw_all := lw_g (lw_at lw_m1 195 rfl) rfl
theorem q330 : (Jvm.Cond.laysFinal "GlassLeaders$State" "GlassLeaders$State" "kinds" "[I") ∈ lw_all := lw_g (lw_at lw_m1 197 rfl) rfl
theorem q331 : (Jvm.Cond.soleField "GlassLeaders$State" "kinds") ∈ lw_all := lw_g (lw_at lw_m1 198 rfl) rfl
theorem q332 : (Jvm.Cond.laysFinal "GlassLeaders$State" "GlassLeaders$State" "plan" "[I") ∈ lw_all := lw_g (lw_at lw_m1 199 rfl) rfl
theorem q333 : (Jvm.Cond.soleField "GlassLeaders$State" "plan") ∈ lw_all := lw_g (lw_at lw_m1 200 rfl) rfl
theorem q334 : (Jvm.Cond.laysFinal "GlassLeaders$State" "GlassLeaders$State" "turns" "[I") ∈ lw_all := lw_g (lw_at lw_m1 201 rfl) rfl
theorem q335 : (Jvm.Cond.soleField "GlassLeaders$State" "turns") ∈ lw_all := lw_g (lw_at lw_m1 202 rfl) rfl
theorem q336 : (Jvm.Cond.laysFinal "GlassLeaders$State" "GlassLeaders$State" "rows" "[I") ∈ lw_all := lw_g (lw_at lw_m1 203 rfl) rfl
theorem q337 : (Jvm.Cond.soleField "GlassLeaders$State" "rows") ∈ lw_all := lw_g (lw_at lw_m1 204 rfl) rfl
theorem q338 : (Jvm.Cond.laysFinal "GlassLeaders$State" "GlassLeaders$State" "wasAt" "[I") ∈ lw_all := lw_g (lw_at lw_m1 205 rfl) rfl
theorem q339 : (Jvm.Cond.soleField "GlassLeaders$State" "wasAt") ∈ lw_all := lw_g (lw_at lw_m1 206 rfl) rfl
theorem q340 : (Jvm.Cond.laysFinal "GlassLeaders$State" "GlassLeaders$State" "wasStores" "[I") ∈ lw_all := lw_g (lw_at lw_m1 207 rfl) rfl
theorem q341 : (Jvm.Cond.soleField "GlassLeaders$State" "wasStores") ∈ lw_all := lw_g (lw_at lw_m1 208 rfl) rfl
theorem q342 : (Jvm.Cond.laysFinal "GlassLeaders$State" "GlassLeaders$State" "wasMoves" "[I") ∈ lw_all := lw_g (lw_at lw_m1 209 rfl) rfl
theorem q343 : (Jvm.Cond.soleField "GlassLeaders$State" "wasMoves") ∈ lw_all := lw_g (lw_at lw_m1 210 rfl) rfl
theorem q344 : (Jvm.Cond.lays "GlassLeaders$State" "GlassLeaders$State" "length" "I") ∈ lw_all := lw_g (lw_at lw_m1 211 rfl) rfl
theorem q345 : (Jvm.Cond.soleField "GlassLeaders$State" "length") ∈ lw_all := lw_g (lw_at lw_m1 212 rfl) rfl
theorem q346 : (Jvm.Cond.lays "GlassLeaders$State" "GlassLeaders$State" "rowsTold" "I") ∈ lw_all := lw_g (lw_at lw_m1 213 rfl) rfl
theorem q347 : (Jvm.Cond.soleField "GlassLeaders$State" "rowsTold") ∈ lw_all := lw_g (lw_at lw_m1 214 rfl) rfl
theorem q348 : (Jvm.Cond.lays "GlassLeaders$State" "GlassLeaders$State" "gone" "I") ∈ lw_all := lw_g (lw_at lw_m1 215 rfl) rfl
theorem q349 : (Jvm.Cond.soleField "GlassLeaders$State" "gone") ∈ lw_all := lw_g (lw_at lw_m1 216 rfl) rfl
theorem q350 : (Jvm.Cond.lays "GlassLeaders$State" "GlassLeaders$State" "ended" "I") ∈ lw_all := lw_g (lw_at lw_m1 217 rfl) rfl
theorem q351 : (Jvm.Cond.soleField "GlassLeaders$State" "ended") ∈ lw_all := lw_g (lw_at lw_m1 218 rfl) rfl
theorem q352 : (Jvm.Cond.superclass "GlassLeaders$State" "java/lang/Object") ∈ lw_all := lw_g (lw_at lw_m1 219 rfl) rfl
theorem q593 : (Jvm.Cond.instanceMethod ({ cls := "GlassLeaders$State", name := "over", desc := "(LGlassLeaders$State;)LGlassLeaders$State;" } : Jvm.MethodName)) ∈ lw_all := lw_g (lw_at lw_m2 220 rfl) rfl
theorem q594 : (Jvm.Cond.selects "GlassLeaders$State" ({ cls := "GlassLeaders$State", name := "over", desc := "(LGlassLeaders$State;)LGlassLeaders$State;" } : Jvm.MethodName) ({ cls := "GlassLeaders$State", name := "over", desc := "(LGlassLeaders$State;)LGlassLeaders$State;" } : Jvm.MethodName)) ∈ lw_all := lw_g (lw_at lw_m2 221 rfl) rfl
theorem q595 : (Jvm.Cond.code ({ cls := "GlassLeaders$State", name := "over", desc := "(LGlassLeaders$State;)LGlassLeaders$State;" } : Jvm.MethodName) prog_21_method_3_code (2 : Nat) (Option.some (Jvm.ClassFile.FieldType.object "GlassLeaders$State"))) ∈ lw_all := lw_g (lw_at lw_m2 222 rfl) rfl
theorem q596 : (Jvm.Cond.methodLink "GlassLeaders$State" (49 : Nat) ({ cls := "java/lang/System", name := "arraycopy", desc := "(Ljava/lang/Object;ILjava/lang/Object;II)V" } : Jvm.MethodName)) ∈ lw_all := lw_g (lw_at lw_m2 223 rfl) rfl
theorem q648 : (Jvm.Cond.selects "GlassLeaders$State" ({ cls := "java/lang/Object", name := "getClass", desc := "()Ljava/lang/Class;" } : Jvm.MethodName) ({ cls := "java/lang/Object", name := "getClass", desc := "()Ljava/lang/Class;" } : Jvm.MethodName)) ∈ lw_all := lw_g (lw_at lw_m3 35 rfl) rfl
theorem q2862 : (Jvm.Cond.castable "GlassLeaders$State" "java/lang/Object") ∈ lw_tbl := lw_at lw_m12 89 rfl
theorem in_X3 : ∀ w ∈ wsX30, w ∈ lw_all := lw_in wsX30 [330, 332, 334, 336, 338, 340, 342, 344, 346, 348, 350] (by decide +kernel) (by decide +kernel)
/-! GlassLeaders$Weighing -/
set_option maxRecDepth 100000
def RX4 : String := "GlassLeaders$Weighing"
abbrev cX4_init : ByteArray := prog_24_method_1_code
def yX4_init : MethodName := ⟨RX4, "<init>", "(LGlassLeaders;)V"⟩
def dkwX4_init_0 : List UInt8 := [42, 43, 181, 0, 3, 42, 183, 0, 9, 177]
abbrev dktX4_init_0 : List UInt8 := dkwX4_init_0 ++ []
theorem dksX4_init_0 : cX4_init.data.toList.drop 0 = dktX4_init_0 := by decide +kernel
theorem dX4_init_0 : decode cX4_init 0 = .ok (.aload_n 0, 1) := dk_42 (dk_at dksX4_init_0 0 rfl rfl)
theorem dX4_init_1 : decode cX4_init 1 = .ok (.aload_n 1, 1) := dk_43 (dk_at dksX4_init_0 1 rfl rfl)
theorem dX4_init_2 : decode cX4_init 2 = .ok (.putfield 3, 3) := dk_181 0 3 (dk_at dksX4_init_0 2 rfl rfl)
theorem dX4_init_5 : decode cX4_init 5 = .ok (.aload_n 0, 1) := dk_42 (dk_at dksX4_init_0 5 rfl rfl)
theorem dX4_init_6 : decode cX4_init 6 = .ok (.invokespecial 9, 3) := dk_183 0 9 (dk_at dksX4_init_0 6 rfl rfl)
theorem dX4_init_9 : decode cX4_init 9 = .ok (.return_, 1) := dk_177 (dk_at dksX4_init_0 9 rfl rfl)
abbrev cX4_takes : ByteArray := prog_24_method_3_code
def yX4_takes : MethodName := ⟨RX4, "takes", "(III)I"⟩
def dkwX4_takes_3 : List UInt8 := [132, 7, 1, 167, 255, 191, 21, 4, 172]
abbrev dktX4_takes_3 : List UInt8 := dkwX4_takes_3 ++ []
def dkwX4_takes_2 : List UInt8 := [2, 159, 0, 14, 22, 8, 22, 5, 148, 157, 0, 6, 167, 0, 11, 21, 7, 54, 4, 22, 8, 55, 5]
abbrev dktX4_takes_2 : List UInt8 := dkwX4_takes_2 ++ dktX4_takes_3
def dkwX4_takes_1 : List UInt8 := [29, 21, 7, 122, 4, 126, 154, 0, 6, 167, 0, 38, 42, 27, 21, 7, 28, 182, 0, 25, 55, 8, 21, 4]
abbrev dktX4_takes_1 : List UInt8 := dkwX4_takes_1 ++ dktX4_takes_2
def dkwX4_takes_0 : List UInt8 := [2, 54, 4, 9, 55, 5, 3, 54, 7, 21, 7, 42, 180, 0, 3, 180, 0, 15, 180, 0, 19, 163, 0, 56]
abbrev dktX4_takes_0 : List UInt8 := dkwX4_takes_0 ++ dktX4_takes_1
theorem dksX4_takes_0 : cX4_takes.data.toList.drop 0 = dktX4_takes_0 := by decide +kernel
theorem dksX4_takes_1 : cX4_takes.data.toList.drop 24 = dktX4_takes_1 := dk_seg dksX4_takes_0 24 rfl rfl
theorem dksX4_takes_2 : cX4_takes.data.toList.drop 48 = dktX4_takes_2 := dk_seg dksX4_takes_1 24 rfl rfl
theorem dksX4_takes_3 : cX4_takes.data.toList.drop 71 = dktX4_takes_3 := dk_seg dksX4_takes_2 23 rfl rfl
theorem dX4_takes_0 : decode cX4_takes 0 = .ok (.iconst (-1), 1) := dk_2 (dk_at dksX4_takes_0 0 rfl rfl)
theorem dX4_takes_1 : decode cX4_takes 1 = .ok (.istore 4, 2) := dk_54 4 (dk_at dksX4_takes_0 1 rfl rfl)
theorem dX4_takes_3 : decode cX4_takes 3 = .ok (.lconst 0, 1) := dk_9 (dk_at dksX4_takes_0 3 rfl rfl)
theorem dX4_takes_4 : decode cX4_takes 4 = .ok (.lstore 5, 2) := dk_55 5 (dk_at dksX4_takes_0 4 rfl rfl)
theorem dX4_takes_6 : decode cX4_takes 6 = .ok (.iconst 0, 1) := dk_3 (dk_at dksX4_takes_0 6 rfl rfl)
theorem dX4_takes_7 : decode cX4_takes 7 = .ok (.istore 7, 2) := dk_54 7 (dk_at dksX4_takes_0 7 rfl rfl)
theorem dX4_takes_9 : decode cX4_takes 9 = .ok (.iload 7, 2) := dk_21 7 (dk_at dksX4_takes_0 9 rfl rfl)
theorem dX4_takes_11 : decode cX4_takes 11 = .ok (.aload_n 0, 1) := dk_42 (dk_at dksX4_takes_0 11 rfl rfl)
theorem dX4_takes_12 : decode cX4_takes 12 = .ok (.getfield 3, 3) := dk_180 0 3 (dk_at dksX4_takes_0 12 rfl rfl)
theorem dX4_takes_15 : decode cX4_takes 15 = .ok (.getfield 15, 3) := dk_180 0 15 (dk_at dksX4_takes_0 15 rfl rfl)
theorem dX4_takes_18 : decode cX4_takes 18 = .ok (.getfield 19, 3) := dk_180 0 19 (dk_at dksX4_takes_0 18 rfl rfl)
theorem dX4_takes_21 : decode cX4_takes 21 = .ok (.if_icmp .gt 56, 3) := dk_163 0 56 (dk_at dksX4_takes_0 21 rfl rfl)
theorem dX4_takes_24 : decode cX4_takes 24 = .ok (.iload_n 3, 1) := dk_29 (dk_at dksX4_takes_1 0 rfl rfl)
theorem dX4_takes_25 : decode cX4_takes 25 = .ok (.iload 7, 2) := dk_21 7 (dk_at dksX4_takes_1 1 rfl rfl)
theorem dX4_takes_27 : decode cX4_takes 27 = .ok (.ishr, 1) := dk_122 (dk_at dksX4_takes_1 3 rfl rfl)
theorem dX4_takes_28 : decode cX4_takes 28 = .ok (.iconst 1, 1) := dk_4 (dk_at dksX4_takes_1 4 rfl rfl)
theorem dX4_takes_29 : decode cX4_takes 29 = .ok (.iand, 1) := dk_126 (dk_at dksX4_takes_1 5 rfl rfl)
theorem dX4_takes_30 : decode cX4_takes 30 = .ok (.ifCond .ne 6, 3) := dk_154 0 6 (dk_at dksX4_takes_1 6 rfl rfl)
theorem dX4_takes_33 : decode cX4_takes 33 = .ok (.goto 38, 3) := dk_167 0 38 (dk_at dksX4_takes_1 9 rfl rfl)
theorem dX4_takes_36 : decode cX4_takes 36 = .ok (.aload_n 0, 1) := dk_42 (dk_at dksX4_takes_1 12 rfl rfl)
theorem dX4_takes_37 : decode cX4_takes 37 = .ok (.iload_n 1, 1) := dk_27 (dk_at dksX4_takes_1 13 rfl rfl)
theorem dX4_takes_38 : decode cX4_takes 38 = .ok (.iload 7, 2) := dk_21 7 (dk_at dksX4_takes_1 14 rfl rfl)
theorem dX4_takes_40 : decode cX4_takes 40 = .ok (.iload_n 2, 1) := dk_28 (dk_at dksX4_takes_1 16 rfl rfl)
theorem dX4_takes_41 : decode cX4_takes 41 = .ok (.invokevirtual 25, 3) := dk_182 0 25 (dk_at dksX4_takes_1 17 rfl rfl)
theorem dX4_takes_44 : decode cX4_takes 44 = .ok (.lstore 8, 2) := dk_55 8 (dk_at dksX4_takes_1 20 rfl rfl)
theorem dX4_takes_46 : decode cX4_takes 46 = .ok (.iload 4, 2) := dk_21 4 (dk_at dksX4_takes_1 22 rfl rfl)
theorem dX4_takes_48 : decode cX4_takes 48 = .ok (.iconst (-1), 1) := dk_2 (dk_at dksX4_takes_2 0 rfl rfl)
theorem dX4_takes_49 : decode cX4_takes 49 = .ok (.if_icmp .eq 14, 3) := dk_159 0 14 (dk_at dksX4_takes_2 1 rfl rfl)
theorem dX4_takes_52 : decode cX4_takes 52 = .ok (.lload 8, 2) := dk_22 8 (dk_at dksX4_takes_2 4 rfl rfl)
theorem dX4_takes_54 : decode cX4_takes 54 = .ok (.lload 5, 2) := dk_22 5 (dk_at dksX4_takes_2 6 rfl rfl)
theorem dX4_takes_56 : decode cX4_takes 56 = .ok (.lcmp, 1) := dk_148 (dk_at dksX4_takes_2 8 rfl rfl)
theorem dX4_takes_57 : decode cX4_takes 57 = .ok (.ifCond .gt 6, 3) := dk_157 0 6 (dk_at dksX4_takes_2 9 rfl rfl)
theorem dX4_takes_60 : decode cX4_takes 60 = .ok (.goto 11, 3) := dk_167 0 11 (dk_at dksX4_takes_2 12 rfl rfl)
theorem dX4_takes_63 : decode cX4_takes 63 = .ok (.iload 7, 2) := dk_21 7 (dk_at dksX4_takes_2 15 rfl rfl)
theorem dX4_takes_65 : decode cX4_takes 65 = .ok (.istore 4, 2) := dk_54 4 (dk_at dksX4_takes_2 17 rfl rfl)
theorem dX4_takes_67 : decode cX4_takes 67 = .ok (.lload 8, 2) := dk_22 8 (dk_at dksX4_takes_2 19 rfl rfl)
theorem dX4_takes_69 : decode cX4_takes 69 = .ok (.lstore 5, 2) := dk_55 5 (dk_at dksX4_takes_2 21 rfl rfl)
theorem dX4_takes_71 : decode cX4_takes 71 = .ok (.iinc 7 1, 3) := dk_132 7 1 (dk_at dksX4_takes_3 0 rfl rfl)
theorem dX4_takes_74 : decode cX4_takes 74 = .ok (.goto (-65), 3) := dk_167 255 191 (dk_at dksX4_takes_3 3 rfl rfl)
theorem dX4_takes_77 : decode cX4_takes 77 = .ok (.iload 4, 2) := dk_21 4 (dk_at dksX4_takes_3 6 rfl rfl)
theorem dX4_takes_79 : decode cX4_takes 79 = .ok (.ireturn, 1) := dk_172 (dk_at dksX4_takes_3 8 rfl rfl)
abbrev cX4_weighs : ByteArray := prog_24_method_4_code
def yX4_weighs : MethodName := ⟨RX4, "weighs", "(III)J"⟩
def dkwX4_weighs_5 : List UInt8 := [105, 97, 173]
abbrev dktX4_weighs_5 : List UInt8 := dkwX4_weighs_5 ++ []
def dkwX4_weighs_4 : List UInt8 := [133, 42, 42, 180, 0, 3, 27, 3, 182, 0, 43, 29, 182, 0, 47, 105, 22, 6, 21, 5, 133, 101, 22, 8]
abbrev dktX4_weighs_4 : List UInt8 := dkwX4_weighs_4 ++ dktX4_weighs_5
def dkwX4_weighs_3 : List UInt8 := [182, 0, 47, 167, 0, 4, 9, 55, 8, 21, 5, 154, 0, 11, 22, 6, 22, 8, 105, 167, 0, 31, 21, 5]
abbrev dktX4_weighs_3 : List UInt8 := dkwX4_weighs_3 ++ dktX4_weighs_4
def dkwX4_weighs_2 : List UInt8 := [167, 0, 4, 10, 55, 6, 21, 5, 16, 16, 162, 0, 20, 42, 42, 180, 0, 3, 27, 28, 182, 0, 43, 29]
abbrev dktX4_weighs_2 : List UInt8 := dkwX4_weighs_2 ++ dktX4_weighs_3
def dkwX4_weighs_1 : List UInt8 := [28, 4, 100, 50, 21, 4, 46, 54, 5, 42, 180, 0, 3, 21, 4, 182, 0, 37, 153, 0, 9, 20, 0, 41]
abbrev dktX4_weighs_1 : List UInt8 := dkwX4_weighs_1 ++ dktX4_weighs_2
def dkwX4_weighs_0 : List UInt8 := [27, 184, 0, 29, 54, 4, 28, 154, 0, 7, 3, 167, 0, 20, 42, 180, 0, 3, 180, 0, 15, 180, 0, 33]
abbrev dktX4_weighs_0 : List UInt8 := dkwX4_weighs_0 ++ dktX4_weighs_1
theorem dksX4_weighs_0 : cX4_weighs.data.toList.drop 0 = dktX4_weighs_0 := by decide +kernel
theorem dksX4_weighs_1 : cX4_weighs.data.toList.drop 24 = dktX4_weighs_1 := dk_seg dksX4_weighs_0 24 rfl rfl
theorem dksX4_weighs_2 : cX4_weighs.data.toList.drop 48 = dktX4_weighs_2 := dk_seg dksX4_weighs_1 24 rfl rfl
theorem dksX4_weighs_3 : cX4_weighs.data.toList.drop 72 = dktX4_weighs_3 := dk_seg dksX4_weighs_2 24 rfl rfl
theorem dksX4_weighs_4 : cX4_weighs.data.toList.drop 96 = dktX4_weighs_4 := dk_seg dksX4_weighs_3 24 rfl rfl
theorem dksX4_weighs_5 : cX4_weighs.data.toList.drop 120 = dktX4_weighs_5 := dk_seg dksX4_weighs_4 24 rfl rfl
theorem dX4_weighs_0 : decode cX4_weighs 0 = .ok (.iload_n 1, 1) := dk_27 (dk_at dksX4_weighs_0 0 rfl rfl)
theorem dX4_weighs_1 : decode cX4_weighs 1 = .ok (.invokestatic 29, 3) := dk_184 0 29 (dk_at dksX4_weighs_0 1 rfl rfl)
theorem dX4_weighs_4 : decode cX4_weighs 4 = .ok (.istore 4, 2) := dk_54 4 (dk_at dksX4_weighs_0 4 rfl rfl)
theorem dX4_weighs_6 : decode cX4_weighs 6 = .ok (.iload_n 2, 1) := dk_28 (dk_at dksX4_weighs_0 6 rfl rfl)
theorem dX4_weighs_7 : decode cX4_weighs 7 = .ok (.ifCond .ne 7, 3) := dk_154 0 7 (dk_at dksX4_weighs_0 7 rfl rfl)
theorem dX4_weighs_10 : decode cX4_weighs 10 = .ok (.iconst 0, 1) := dk_3 (dk_at dksX4_weighs_0 10 rfl rfl)
theorem dX4_weighs_11 : decode cX4_weighs 11 = .ok (.goto 20, 3) := dk_167 0 20 (dk_at dksX4_weighs_0 11 rfl rfl)
theorem dX4_weighs_14 : decode cX4_weighs 14 = .ok (.aload_n 0, 1) := dk_42 (dk_at dksX4_weighs_0 14 rfl rfl)
theorem dX4_weighs_15 : decode cX4_weighs 15 = .ok (.getfield 3, 3) := dk_180 0 3 (dk_at dksX4_weighs_0 15 rfl rfl)
theorem dX4_weighs_18 : decode cX4_weighs 18 = .ok (.getfield 15, 3) := dk_180 0 15 (dk_at dksX4_weighs_0 18 rfl rfl)
theorem dX4_weighs_21 : decode cX4_weighs 21 = .ok (.getfield 33, 3) := dk_180 0 33 (dk_at dksX4_weighs_0 21 rfl rfl)
theorem dX4_weighs_24 : decode cX4_weighs 24 = .ok (.iload_n 2, 1) := dk_28 (dk_at dksX4_weighs_1 0 rfl rfl)
theorem dX4_weighs_25 : decode cX4_weighs 25 = .ok (.iconst 1, 1) := dk_4 (dk_at dksX4_weighs_1 1 rfl rfl)
theorem dX4_weighs_26 : decode cX4_weighs 26 = .ok (.isub, 1) := dk_100 (dk_at dksX4_weighs_1 2 rfl rfl)
theorem dX4_weighs_27 : decode cX4_weighs 27 = .ok (.aaload, 1) := dk_50 (dk_at dksX4_weighs_1 3 rfl rfl)
theorem dX4_weighs_28 : decode cX4_weighs 28 = .ok (.iload 4, 2) := dk_21 4 (dk_at dksX4_weighs_1 4 rfl rfl)
theorem dX4_weighs_30 : decode cX4_weighs 30 = .ok (.iaload, 1) := dk_46 (dk_at dksX4_weighs_1 6 rfl rfl)
theorem dX4_weighs_31 : decode cX4_weighs 31 = .ok (.istore 5, 2) := dk_54 5 (dk_at dksX4_weighs_1 7 rfl rfl)
theorem dX4_weighs_33 : decode cX4_weighs 33 = .ok (.aload_n 0, 1) := dk_42 (dk_at dksX4_weighs_1 9 rfl rfl)
theorem dX4_weighs_34 : decode cX4_weighs 34 = .ok (.getfield 3, 3) := dk_180 0 3 (dk_at dksX4_weighs_1 10 rfl rfl)
theorem dX4_weighs_37 : decode cX4_weighs 37 = .ok (.iload 4, 2) := dk_21 4 (dk_at dksX4_weighs_1 13 rfl rfl)
theorem dX4_weighs_39 : decode cX4_weighs 39 = .ok (.invokevirtual 37, 3) := dk_182 0 37 (dk_at dksX4_weighs_1 15 rfl rfl)
theorem dX4_weighs_42 : decode cX4_weighs 42 = .ok (.ifCond .eq 9, 3) := dk_153 0 9 (dk_at dksX4_weighs_1 18 rfl rfl)
theorem dX4_weighs_45 : decode cX4_weighs 45 = .ok (.ldc2_w 41, 3) := dk_20 0 41 (dk_at dksX4_weighs_1 21 rfl rfl)
theorem dX4_weighs_48 : decode cX4_weighs 48 = .ok (.goto 4, 3) := dk_167 0 4 (dk_at dksX4_weighs_2 0 rfl rfl)
theorem dX4_weighs_51 : decode cX4_weighs 51 = .ok (.lconst 1, 1) := dk_10 (dk_at dksX4_weighs_2 3 rfl rfl)
theorem dX4_weighs_52 : decode cX4_weighs 52 = .ok (.lstore 6, 2) := dk_55 6 (dk_at dksX4_weighs_2 4 rfl rfl)
theorem dX4_weighs_54 : decode cX4_weighs 54 = .ok (.iload 5, 2) := dk_21 5 (dk_at dksX4_weighs_2 6 rfl rfl)
theorem dX4_weighs_56 : decode cX4_weighs 56 = .ok (.bipush 16, 2) := dk_16 16 (dk_at dksX4_weighs_2 8 rfl rfl)
theorem dX4_weighs_58 : decode cX4_weighs 58 = .ok (.if_icmp .ge 20, 3) := dk_162 0 20 (dk_at dksX4_weighs_2 10 rfl rfl)
theorem dX4_weighs_61 : decode cX4_weighs 61 = .ok (.aload_n 0, 1) := dk_42 (dk_at dksX4_weighs_2 13 rfl rfl)
theorem dX4_weighs_62 : decode cX4_weighs 62 = .ok (.aload_n 0, 1) := dk_42 (dk_at dksX4_weighs_2 14 rfl rfl)
theorem dX4_weighs_63 : decode cX4_weighs 63 = .ok (.getfield 3, 3) := dk_180 0 3 (dk_at dksX4_weighs_2 15 rfl rfl)
theorem dX4_weighs_66 : decode cX4_weighs 66 = .ok (.iload_n 1, 1) := dk_27 (dk_at dksX4_weighs_2 18 rfl rfl)
theorem dX4_weighs_67 : decode cX4_weighs 67 = .ok (.iload_n 2, 1) := dk_28 (dk_at dksX4_weighs_2 19 rfl rfl)
theorem dX4_weighs_68 : decode cX4_weighs 68 = .ok (.invokevirtual 43, 3) := dk_182 0 43 (dk_at dksX4_weighs_2 20 rfl rfl)
theorem dX4_weighs_71 : decode cX4_weighs 71 = .ok (.iload_n 3, 1) := dk_29 (dk_at dksX4_weighs_2 23 rfl rfl)
theorem dX4_weighs_72 : decode cX4_weighs 72 = .ok (.invokevirtual 47, 3) := dk_182 0 47 (dk_at dksX4_weighs_3 0 rfl rfl)
theorem dX4_weighs_75 : decode cX4_weighs 75 = .ok (.goto 4, 3) := dk_167 0 4 (dk_at dksX4_weighs_3 3 rfl rfl)
theorem dX4_weighs_78 : decode cX4_weighs 78 = .ok (.lconst 0, 1) := dk_9 (dk_at dksX4_weighs_3 6 rfl rfl)
theorem dX4_weighs_79 : decode cX4_weighs 79 = .ok (.lstore 8, 2) := dk_55 8 (dk_at dksX4_weighs_3 7 rfl rfl)
theorem dX4_weighs_81 : decode cX4_weighs 81 = .ok (.iload 5, 2) := dk_21 5 (dk_at dksX4_weighs_3 9 rfl rfl)
theorem dX4_weighs_83 : decode cX4_weighs 83 = .ok (.ifCond .ne 11, 3) := dk_154 0 11 (dk_at dksX4_weighs_3 11 rfl rfl)
theorem dX4_weighs_86 : decode cX4_weighs 86 = .ok (.lload 6, 2) := dk_22 6 (dk_at dksX4_weighs_3 14 rfl rfl)
theorem dX4_weighs_88 : decode cX4_weighs 88 = .ok (.lload 8, 2) := dk_22 8 (dk_at dksX4_weighs_3 16 rfl rfl)
theorem dX4_weighs_90 : decode cX4_weighs 90 = .ok (.lmul, 1) := dk_105 (dk_at dksX4_weighs_3 18 rfl rfl)
theorem dX4_weighs_91 : decode cX4_weighs 91 = .ok (.goto 31, 3) := dk_167 0 31 (dk_at dksX4_weighs_3 19 rfl rfl)
theorem dX4_weighs_94 : decode cX4_weighs 94 = .ok (.iload 5, 2) := dk_21 5 (dk_at dksX4_weighs_3 22 rfl rfl)
theorem dX4_weighs_96 : decode cX4_weighs 96 = .ok (.i2l, 1) := dk_133 (dk_at dksX4_weighs_4 0 rfl rfl)
theorem dX4_weighs_97 : decode cX4_weighs 97 = .ok (.aload_n 0, 1) := dk_42 (dk_at dksX4_weighs_4 1 rfl rfl)
theorem dX4_weighs_98 : decode cX4_weighs 98 = .ok (.aload_n 0, 1) := dk_42 (dk_at dksX4_weighs_4 2 rfl rfl)
theorem dX4_weighs_99 : decode cX4_weighs 99 = .ok (.getfield 3, 3) := dk_180 0 3 (dk_at dksX4_weighs_4 3 rfl rfl)
theorem dX4_weighs_102 : decode cX4_weighs 102 = .ok (.iload_n 1, 1) := dk_27 (dk_at dksX4_weighs_4 6 rfl rfl)
theorem dX4_weighs_103 : decode cX4_weighs 103 = .ok (.iconst 0, 1) := dk_3 (dk_at dksX4_weighs_4 7 rfl rfl)
theorem dX4_weighs_104 : decode cX4_weighs 104 = .ok (.invokevirtual 43, 3) := dk_182 0 43 (dk_at dksX4_weighs_4 8 rfl rfl)
theorem dX4_weighs_107 : decode cX4_weighs 107 = .ok (.iload_n 3, 1) := dk_29 (dk_at dksX4_weighs_4 11 rfl rfl)
theorem dX4_weighs_108 : decode cX4_weighs 108 = .ok (.invokevirtual 47, 3) := dk_182 0 47 (dk_at dksX4_weighs_4 12 rfl rfl)
theorem dX4_weighs_111 : decode cX4_weighs 111 = .ok (.lmul, 1) := dk_105 (dk_at dksX4_weighs_4 15 rfl rfl)
theorem dX4_weighs_112 : decode cX4_weighs 112 = .ok (.lload 6, 2) := dk_22 6 (dk_at dksX4_weighs_4 16 rfl rfl)
theorem dX4_weighs_114 : decode cX4_weighs 114 = .ok (.iload 5, 2) := dk_21 5 (dk_at dksX4_weighs_4 18 rfl rfl)
theorem dX4_weighs_116 : decode cX4_weighs 116 = .ok (.i2l, 1) := dk_133 (dk_at dksX4_weighs_4 20 rfl rfl)
theorem dX4_weighs_117 : decode cX4_weighs 117 = .ok (.lsub, 1) := dk_101 (dk_at dksX4_weighs_4 21 rfl rfl)
theorem dX4_weighs_118 : decode cX4_weighs 118 = .ok (.lload 8, 2) := dk_22 8 (dk_at dksX4_weighs_4 22 rfl rfl)
theorem dX4_weighs_120 : decode cX4_weighs 120 = .ok (.lmul, 1) := dk_105 (dk_at dksX4_weighs_5 0 rfl rfl)
theorem dX4_weighs_121 : decode cX4_weighs 121 = .ok (.ladd, 1) := dk_97 (dk_at dksX4_weighs_5 1 rfl rfl)
theorem dX4_weighs_122 : decode cX4_weighs 122 = .ok (.lreturn, 1) := dk_173 (dk_at dksX4_weighs_5 2 rfl rfl)
theorem q140 : (Jvm.Cond.initialized "GlassLeaders$Weighing") ∈ lw_all := lw_g (lw_at lw_m1 7 rfl) rfl
theorem q201 : (Jvm.Cond.fieldLinkNest "GlassLeaders$Weighing" (19 : Nat) "GlassLeaders$Land" "ways" "I" "GlassLeaders") ∈ lw_tbl := lw_at lw_m1 68 rfl
theorem q230 : (Jvm.Cond.fieldLinkNest "GlassLeaders$Weighing" (33 : Nat) "GlassLeaders$Land" "snow" "[[I" "GlassLeaders") ∈ lw_tbl := lw_at lw_m1 97 rfl
theorem q359 : (Jvm.Cond.instanceMethod ({ cls := "GlassLeaders$Weighing", name := "<init>", desc := "(LGlassLeaders;)V" } : Jvm.MethodName)) ∈ lw_all := lw_g (lw_at lw_m1 226 rfl) rfl
theorem q360 : (Jvm.Cond.code ({ cls := "GlassLeaders$Weighing", name := "<init>", desc := "(LGlassLeaders;)V" } : Jvm.MethodName) prog_24_method_1_code (2 : Nat) (Option.none : Option Jvm.ClassFile.FieldType)) ∈ lw_all := lw_g (lw_at lw_m1 227 rfl) rfl
theorem q361 : (Jvm.Cond.methodLink "GlassLeaders$Weighing" (9 : Nat) ({ cls := "java/lang/Object", name := "<init>", desc := "()V" } : Jvm.MethodName)) ∈ lw_all := lw_g (lw_at lw_m1 228 rfl) rfl
theorem q363 : (Jvm.Cond.fieldLink "GlassLeaders$Weighing" (3 : Nat) "GlassLeaders$Weighing" "this$0" "LGlassLeaders;") ∈ lw_all := lw_g (lw_at lw_m1 230 rfl) rfl
theorem q367 : (Jvm.Cond.soleField "GlassLeaders$Weighing" "this$0") ∈ lw_all := lw_g (lw_at lw_m1 234 rfl) rfl
theorem q452 : (Jvm.Cond.fieldLinkNest "GlassLeaders$Weighing" (15 : Nat) "GlassLeaders" "land" "LGlassLeaders$Land;" "GlassLeaders") ∈ lw_tbl := lw_at lw_m2 79 rfl
theorem q1495 : (Jvm.Cond.instanceMethod ({ cls := "GlassLeaders$Weighing", name := "takes", desc := "(III)I" } : Jvm.MethodName)) ∈ lw_all := lw_g (lw_at lw_m6 162 rfl) rfl
theorem q1496 : (Jvm.Cond.sameMethod "GlassLeaders$Weighing" "GlassLeaders$Weighing" "takes" "(III)I") ∈ lw_all := lw_g (lw_at lw_m6 163 rfl) rfl
theorem q1502 : (Jvm.Cond.code ({ cls := "GlassLeaders$Weighing", name := "takes", desc := "(III)I" } : Jvm.MethodName) prog_24_method_3_code (10 : Nat) (Option.some Jvm.ClassFile.FieldType.int)) ∈ lw_all := lw_g (lw_at lw_m6 169 rfl) rfl
theorem q1503 : (Jvm.Cond.methodLink "GlassLeaders$Weighing" (25 : Nat) ({ cls := "GlassLeaders$Weighing", name := "weighs", desc := "(III)J" } : Jvm.MethodName)) ∈ lw_all := lw_g (lw_at lw_m6 170 rfl) rfl
theorem q1504 : (Jvm.Cond.instanceMethod ({ cls := "GlassLeaders$Weighing", name := "weighs", desc := "(III)J" } : Jvm.MethodName)) ∈ lw_all := lw_g (lw_at lw_m6 171 rfl) rfl
theorem q1505 : (Jvm.Cond.sameMethod "GlassLeaders$Weighing" "GlassLeaders$Weighing" "weighs" "(III)J") ∈ lw_all := lw_g (lw_at lw_m6 172 rfl) rfl
theorem q1511 : (Jvm.Cond.code ({ cls := "GlassLeaders$Weighing", name := "weighs", desc := "(III)J" } : Jvm.MethodName) prog_24_method_4_code (10 : Nat) (Option.some Jvm.ClassFile.FieldType.long)) ∈ lw_all := lw_g (lw_at lw_m6 178 rfl) rfl
theorem q1512 : (Jvm.Cond.methodLinkNest "GlassLeaders$Weighing" (29 : Nat) ({ cls := "GlassLeaders", name := "hourOf", desc := "(I)I" } : Jvm.MethodName) "GlassLeaders") ∈ lw_tbl := lw_at lw_m6 179 rfl
theorem q1513 : (Jvm.Cond.methodLinkNest "GlassLeaders$Weighing" (37 : Nat) ({ cls := "GlassLeaders", name := "isSnowy", desc := "(I)Z" } : Jvm.MethodName) "GlassLeaders") ∈ lw_tbl := lw_at lw_m6 180 rfl
theorem q1514 : (Jvm.Cond.constantLong "GlassLeaders$Weighing" (41 : Nat) (16 : Int64)) ∈ lw_all := lw_g (lw_at lw_m6 181 rfl) rfl
theorem q1515 : (Jvm.Cond.methodLinkNest "GlassLeaders$Weighing" (43 : Nat) ({ cls := "GlassLeaders", name := "behind", desc := "(II)I" } : Jvm.MethodName) "GlassLeaders") ∈ lw_tbl := lw_at lw_m6 182 rfl
theorem q1519 : (Jvm.Cond.methodLink "GlassLeaders$Weighing" (47 : Nat) ({ cls := "GlassLeaders$Weighing", name := "at", desc := "(II)J" } : Jvm.MethodName)) ∈ lw_all := lw_g (lw_at lw_m6 186 rfl) rfl
theorem q1520 : (Jvm.Cond.declares ({ cls := "GlassLeaders$Weighing", name := "at", desc := "(II)J" } : Jvm.MethodName)) ∈ lw_tbl := lw_at lw_m6 187 rfl
theorem q1521 : (Jvm.Cond.sameMethod "GlassLeaders$Weighing" "GlassLeaders$Weighing" "at" "(II)J") ∈ lw_all := lw_g (lw_at lw_m6 188 rfl) rfl
theorem q1561 : (Jvm.Cond.declares ({ cls := "GlassLeaders$Weighing", name := "takes", desc := "(III)I" } : Jvm.MethodName)) ∈ lw_tbl := lw_at lw_m6 228 rfl
theorem q1578 : (Jvm.Cond.publicMethod ({ cls := "GlassLeaders$Weighing", name := "takes", desc := "(III)I" } : Jvm.MethodName)) ∈ lw_tbl := lw_at lw_m7 5 rfl
theorem q1617 : (Jvm.Cond.declares ({ cls := "GlassLeaders$Weighing", name := "weighs", desc := "(III)J" } : Jvm.MethodName)) ∈ lw_tbl := lw_at lw_m7 44 rfl
/-! GlassLeaders$Ahead -/
set_option maxRecDepth 100000
def RX5 : String := "GlassLeaders$Ahead"
def TX5 : u_T := fun k => match k with
  | 0 => ("GlassLeaders$Weighing", "this$0", "LGlassLeaders;", true)
  | _ => ("GlassLeaders$Ahead", "this$0", "LGlassLeaders;", true)
def tyX5 : Nat → FieldType := fun k => match k with
  | 0 => .object "GlassLeaders"
  | _ => .object "GlassLeaders"
abbrev wsX50 : List Cond := u_ws RX5 TX5 2
-- two fields of one name: no nmX5
theorem tyX5_ok : ∀ k, k < 2 → parseFieldDescriptor (TX5 k).2.2.1 = some (tyX5 k) := by decide +kernel
abbrev cX5_init : ByteArray := prog_2_method_1_code
def yX5_init : MethodName := ⟨RX5, "<init>", "(LGlassLeaders;)V"⟩
def dkwX5_init_0 : List UInt8 := [42, 43, 181, 0, 1, 42, 43, 183, 0, 7, 177]
abbrev dktX5_init_0 : List UInt8 := dkwX5_init_0 ++ []
theorem dksX5_init_0 : cX5_init.data.toList.drop 0 = dktX5_init_0 := by decide +kernel
theorem dX5_init_0 : decode cX5_init 0 = .ok (.aload_n 0, 1) := dk_42 (dk_at dksX5_init_0 0 rfl rfl)
theorem dX5_init_1 : decode cX5_init 1 = .ok (.aload_n 1, 1) := dk_43 (dk_at dksX5_init_0 1 rfl rfl)
theorem dX5_init_2 : decode cX5_init 2 = .ok (.putfield 1, 3) := dk_181 0 1 (dk_at dksX5_init_0 2 rfl rfl)
theorem dX5_init_5 : decode cX5_init 5 = .ok (.aload_n 0, 1) := dk_42 (dk_at dksX5_init_0 5 rfl rfl)
theorem dX5_init_6 : decode cX5_init 6 = .ok (.aload_n 1, 1) := dk_43 (dk_at dksX5_init_0 6 rfl rfl)
theorem dX5_init_7 : decode cX5_init 7 = .ok (.invokespecial 7, 3) := dk_183 0 7 (dk_at dksX5_init_0 7 rfl rfl)
theorem dX5_init_10 : decode cX5_init 10 = .ok (.return_, 1) := dk_177 (dk_at dksX5_init_0 10 rfl rfl)
abbrev cX5_at : ByteArray := prog_2_method_2_code
def yX5_at : MethodName := ⟨RX5, "at", "(II)J"⟩
def dkwX5_at_0 : List UInt8 := [42, 180, 0, 1, 180, 0, 13, 28, 50, 27, 47, 173]
abbrev dktX5_at_0 : List UInt8 := dkwX5_at_0 ++ []
theorem dksX5_at_0 : cX5_at.data.toList.drop 0 = dktX5_at_0 := by decide +kernel
theorem dX5_at_0 : decode cX5_at 0 = .ok (.aload_n 0, 1) := dk_42 (dk_at dksX5_at_0 0 rfl rfl)
theorem dX5_at_1 : decode cX5_at 1 = .ok (.getfield 1, 3) := dk_180 0 1 (dk_at dksX5_at_0 1 rfl rfl)
theorem dX5_at_4 : decode cX5_at 4 = .ok (.getfield 13, 3) := dk_180 0 13 (dk_at dksX5_at_0 4 rfl rfl)
theorem dX5_at_7 : decode cX5_at 7 = .ok (.iload_n 2, 1) := dk_28 (dk_at dksX5_at_0 7 rfl rfl)
theorem dX5_at_8 : decode cX5_at 8 = .ok (.aaload, 1) := dk_50 (dk_at dksX5_at_0 8 rfl rfl)
theorem dX5_at_9 : decode cX5_at 9 = .ok (.iload_n 1, 1) := dk_27 (dk_at dksX5_at_0 9 rfl rfl)
theorem dX5_at_10 : decode cX5_at 10 = .ok (.laload, 1) := dk_47 (dk_at dksX5_at_0 10 rfl rfl)
theorem dX5_at_11 : decode cX5_at 11 = .ok (.lreturn, 1) := dk_173 (dk_at dksX5_at_0 11 rfl rfl)
theorem q141 : (Jvm.Cond.initialized "GlassLeaders$Ahead") ∈ lw_all := lw_g (lw_at lw_m1 8 rfl) rfl
theorem q354 : (Jvm.Cond.instantiable "GlassLeaders$Ahead" (2 : Nat)) ∈ lw_all := lw_g (lw_at lw_m1 221 rfl) rfl
theorem q356 : (Jvm.Cond.instanceMethod ({ cls := "GlassLeaders$Ahead", name := "<init>", desc := "(LGlassLeaders;)V" } : Jvm.MethodName)) ∈ lw_all := lw_g (lw_at lw_m1 223 rfl) rfl
theorem q357 : (Jvm.Cond.code ({ cls := "GlassLeaders$Ahead", name := "<init>", desc := "(LGlassLeaders;)V" } : Jvm.MethodName) prog_2_method_1_code (2 : Nat) (Option.none : Option Jvm.ClassFile.FieldType)) ∈ lw_all := lw_g (lw_at lw_m1 224 rfl) rfl
theorem q358 : (Jvm.Cond.methodLinkNest "GlassLeaders$Ahead" (7 : Nat) ({ cls := "GlassLeaders$Weighing", name := "<init>", desc := "(LGlassLeaders;)V" } : Jvm.MethodName) "GlassLeaders") ∈ lw_tbl := lw_at lw_m1 225 rfl
theorem q362 : (Jvm.Cond.fieldLink "GlassLeaders$Ahead" (1 : Nat) "GlassLeaders$Ahead" "this$0" "LGlassLeaders;") ∈ lw_all := lw_g (lw_at lw_m1 229 rfl) rfl
theorem q364 : (Jvm.Cond.laysFinal "GlassLeaders$Ahead" "GlassLeaders$Ahead" "this$0" "LGlassLeaders;") ∈ lw_all := lw_g (lw_at lw_m1 231 rfl) rfl
theorem q365 : (Jvm.Cond.soleField "GlassLeaders$Ahead" "this$0") ∈ lw_all := lw_g (lw_at lw_m1 232 rfl) rfl
theorem q366 : (Jvm.Cond.laysFinal "GlassLeaders$Ahead" "GlassLeaders$Weighing" "this$0" "LGlassLeaders;") ∈ lw_all := lw_g (lw_at lw_m1 233 rfl) rfl
theorem q368 : (Jvm.Cond.superclass "GlassLeaders$Ahead" "GlassLeaders$Weighing") ∈ lw_all := lw_g (lw_at lw_m1 235 rfl) rfl
theorem q477 : (Jvm.Cond.fieldLinkNest "GlassLeaders$Ahead" (13 : Nat) "GlassLeaders" "values" "[[J" "GlassLeaders") ∈ lw_tbl := lw_at lw_m2 104 rfl
theorem q632 : (Jvm.Cond.selects "GlassLeaders$Ahead" ({ cls := "java/lang/Object", name := "getClass", desc := "()Ljava/lang/Class;" } : Jvm.MethodName) ({ cls := "java/lang/Object", name := "getClass", desc := "()Ljava/lang/Class;" } : Jvm.MethodName)) ∈ lw_all := lw_g (lw_at lw_m3 19 rfl) rfl
theorem q1497 : (Jvm.Cond.selects "GlassLeaders$Ahead" ({ cls := "GlassLeaders$Weighing", name := "takes", desc := "(III)I" } : Jvm.MethodName) ({ cls := "GlassLeaders$Weighing", name := "takes", desc := "(III)I" } : Jvm.MethodName)) ∈ lw_all := lw_g (lw_at lw_m6 164 rfl) rfl
theorem q1506 : (Jvm.Cond.selects "GlassLeaders$Ahead" ({ cls := "GlassLeaders$Weighing", name := "weighs", desc := "(III)J" } : Jvm.MethodName) ({ cls := "GlassLeaders$Weighing", name := "weighs", desc := "(III)J" } : Jvm.MethodName)) ∈ lw_all := lw_g (lw_at lw_m6 173 rfl) rfl
theorem q1522 : (Jvm.Cond.selects "GlassLeaders$Ahead" ({ cls := "GlassLeaders$Weighing", name := "at", desc := "(II)J" } : Jvm.MethodName) ({ cls := "GlassLeaders$Ahead", name := "at", desc := "(II)J" } : Jvm.MethodName)) ∈ lw_all := lw_g (lw_at lw_m6 189 rfl) rfl
theorem q1523 : (Jvm.Cond.instanceMethod ({ cls := "GlassLeaders$Ahead", name := "at", desc := "(II)J" } : Jvm.MethodName)) ∈ lw_all := lw_g (lw_at lw_m6 190 rfl) rfl
theorem q1524 : (Jvm.Cond.code ({ cls := "GlassLeaders$Ahead", name := "at", desc := "(II)J" } : Jvm.MethodName) prog_2_method_2_code (3 : Nat) (Option.some Jvm.ClassFile.FieldType.long)) ∈ lw_all := lw_g (lw_at lw_m6 191 rfl) rfl
theorem q1560 : (Jvm.Cond.sameMethod "GlassLeaders$Ahead" "GlassLeaders$Weighing" "takes" "(III)I") ∈ lw_all := lw_g (lw_at lw_m6 227 rfl) rfl
theorem q1562 : (Jvm.Cond.selects "GlassLeaders$Ahead" ({ cls := "GlassLeaders$Ahead", name := "takes", desc := "(III)I" } : Jvm.MethodName) ({ cls := "GlassLeaders$Weighing", name := "takes", desc := "(III)I" } : Jvm.MethodName)) ∈ lw_all := lw_g (lw_at lw_m6 229 rfl) rfl
theorem q1575 : (Jvm.Cond.castable "GlassLeaders$Ahead" "GlassLeaders$Leader") ∈ lw_tbl := lw_at lw_m7 2 rfl
theorem q1576 : (Jvm.Cond.selects "GlassLeaders$Ahead" ({ cls := "GlassLeaders$Leader", name := "takes", desc := "(III)I" } : Jvm.MethodName) ({ cls := "GlassLeaders$Weighing", name := "takes", desc := "(III)I" } : Jvm.MethodName)) ∈ lw_all := lw_g (lw_at lw_m7 3 rfl) rfl
theorem q1577 : (Jvm.Cond.unhidden "GlassLeaders$Ahead" "takes" "(III)I") ∈ lw_tbl := lw_at lw_m7 4 rfl
theorem q1616 : (Jvm.Cond.sameMethod "GlassLeaders$Ahead" "GlassLeaders$Weighing" "weighs" "(III)J") ∈ lw_all := lw_g (lw_at lw_m7 43 rfl) rfl
theorem q1618 : (Jvm.Cond.selects "GlassLeaders$Ahead" ({ cls := "GlassLeaders$Ahead", name := "weighs", desc := "(III)J" } : Jvm.MethodName) ({ cls := "GlassLeaders$Weighing", name := "weighs", desc := "(III)J" } : Jvm.MethodName)) ∈ lw_all := lw_g (lw_at lw_m7 45 rfl) rfl
theorem q2844 : (Jvm.Cond.sameMethod "GlassLeaders$Ahead" "GlassLeaders$Ahead" "at" "(II)J") ∈ lw_all := lw_g (lw_at lw_m12 71 rfl) rfl
theorem q2863 : (Jvm.Cond.castable "GlassLeaders$Ahead" "java/lang/Object") ∈ lw_tbl := lw_at lw_m12 90 rfl
theorem in_X5 : ∀ w ∈ wsX50, w ∈ lw_all := lw_in wsX50 [366, 364] (by decide +kernel) (by decide +kernel)
/-! GlassLeaders$Own -/
set_option maxRecDepth 100000
def RX6 : String := "GlassLeaders$Own"
def TX6 : u_T := fun k => match k with
  | 0 => ("GlassLeaders$Weighing", "this$0", "LGlassLeaders;", true)
  | 1 => ("GlassLeaders$Ahead", "this$0", "LGlassLeaders;", true)
  | _ => ("GlassLeaders$Own", "this$0", "LGlassLeaders;", true)
def tyX6 : Nat → FieldType := fun k => match k with
  | 0 => .object "GlassLeaders"
  | 1 => .object "GlassLeaders"
  | _ => .object "GlassLeaders"
abbrev wsX60 : List Cond := u_ws RX6 TX6 3
-- two fields of one name: no nmX6
theorem tyX6_ok : ∀ k, k < 3 → parseFieldDescriptor (TX6 k).2.2.1 = some (tyX6 k) := by decide +kernel
abbrev cX6_init : ByteArray := prog_15_method_1_code
def yX6_init : MethodName := ⟨RX6, "<init>", "(LGlassLeaders;)V"⟩
def dkwX6_init_0 : List UInt8 := [42, 43, 181, 0, 1, 42, 43, 183, 0, 7, 177]
abbrev dktX6_init_0 : List UInt8 := dkwX6_init_0 ++ []
theorem dksX6_init_0 : cX6_init.data.toList.drop 0 = dktX6_init_0 := by decide +kernel
theorem dX6_init_0 : decode cX6_init 0 = .ok (.aload_n 0, 1) := dk_42 (dk_at dksX6_init_0 0 rfl rfl)
theorem dX6_init_1 : decode cX6_init 1 = .ok (.aload_n 1, 1) := dk_43 (dk_at dksX6_init_0 1 rfl rfl)
theorem dX6_init_2 : decode cX6_init 2 = .ok (.putfield 1, 3) := dk_181 0 1 (dk_at dksX6_init_0 2 rfl rfl)
theorem dX6_init_5 : decode cX6_init 5 = .ok (.aload_n 0, 1) := dk_42 (dk_at dksX6_init_0 5 rfl rfl)
theorem dX6_init_6 : decode cX6_init 6 = .ok (.aload_n 1, 1) := dk_43 (dk_at dksX6_init_0 6 rfl rfl)
theorem dX6_init_7 : decode cX6_init 7 = .ok (.invokespecial 7, 3) := dk_183 0 7 (dk_at dksX6_init_0 7 rfl rfl)
theorem dX6_init_10 : decode cX6_init 10 = .ok (.return_, 1) := dk_177 (dk_at dksX6_init_0 10 rfl rfl)
abbrev cX6_at : ByteArray := prog_15_method_2_code
def yX6_at : MethodName := ⟨RX6, "at", "(II)J"⟩
def dkwX6_at_0 : List UInt8 := [42, 180, 0, 1, 180, 0, 13, 28, 50, 27, 47, 173]
abbrev dktX6_at_0 : List UInt8 := dkwX6_at_0 ++ []
theorem dksX6_at_0 : cX6_at.data.toList.drop 0 = dktX6_at_0 := by decide +kernel
theorem dX6_at_0 : decode cX6_at 0 = .ok (.aload_n 0, 1) := dk_42 (dk_at dksX6_at_0 0 rfl rfl)
theorem dX6_at_1 : decode cX6_at 1 = .ok (.getfield 1, 3) := dk_180 0 1 (dk_at dksX6_at_0 1 rfl rfl)
theorem dX6_at_4 : decode cX6_at 4 = .ok (.getfield 13, 3) := dk_180 0 13 (dk_at dksX6_at_0 4 rfl rfl)
theorem dX6_at_7 : decode cX6_at 7 = .ok (.iload_n 2, 1) := dk_28 (dk_at dksX6_at_0 7 rfl rfl)
theorem dX6_at_8 : decode cX6_at 8 = .ok (.aaload, 1) := dk_50 (dk_at dksX6_at_0 8 rfl rfl)
theorem dX6_at_9 : decode cX6_at 9 = .ok (.iload_n 1, 1) := dk_27 (dk_at dksX6_at_0 9 rfl rfl)
theorem dX6_at_10 : decode cX6_at 10 = .ok (.laload, 1) := dk_47 (dk_at dksX6_at_0 10 rfl rfl)
theorem dX6_at_11 : decode cX6_at 11 = .ok (.lreturn, 1) := dk_173 (dk_at dksX6_at_0 11 rfl rfl)
theorem q142 : (Jvm.Cond.initialized "GlassLeaders$Own") ∈ lw_all := lw_g (lw_at lw_m1 9 rfl) rfl
theorem q372 : (Jvm.Cond.instantiable "GlassLeaders$Own" (3 : Nat)) ∈ lw_all := lw_g (lw_at lw_m1 239 rfl) rfl
theorem q374 : (Jvm.Cond.instanceMethod ({ cls := "GlassLeaders$Own", name := "<init>", desc := "(LGlassLeaders;)V" } : Jvm.MethodName)) ∈ lw_all := lw_g (lw_at lw_m2 1 rfl) rfl
theorem q375 : (Jvm.Cond.code ({ cls := "GlassLeaders$Own", name := "<init>", desc := "(LGlassLeaders;)V" } : Jvm.MethodName) prog_15_method_1_code (2 : Nat) (Option.none : Option Jvm.ClassFile.FieldType)) ∈ lw_all := lw_g (lw_at lw_m2 2 rfl) rfl
theorem q376 : (Jvm.Cond.methodLinkNest "GlassLeaders$Own" (7 : Nat) ({ cls := "GlassLeaders$Ahead", name := "<init>", desc := "(LGlassLeaders;)V" } : Jvm.MethodName) "GlassLeaders") ∈ lw_tbl := lw_at lw_m2 3 rfl
theorem q377 : (Jvm.Cond.fieldLink "GlassLeaders$Own" (1 : Nat) "GlassLeaders$Own" "this$0" "LGlassLeaders;") ∈ lw_all := lw_g (lw_at lw_m2 4 rfl) rfl
theorem q378 : (Jvm.Cond.laysFinal "GlassLeaders$Own" "GlassLeaders$Own" "this$0" "LGlassLeaders;") ∈ lw_all := lw_g (lw_at lw_m2 5 rfl) rfl
theorem q379 : (Jvm.Cond.soleField "GlassLeaders$Own" "this$0") ∈ lw_all := lw_g (lw_at lw_m2 6 rfl) rfl
theorem q380 : (Jvm.Cond.laysFinal "GlassLeaders$Own" "GlassLeaders$Ahead" "this$0" "LGlassLeaders;") ∈ lw_all := lw_g (lw_at lw_m2 7 rfl) rfl
theorem q381 : (Jvm.Cond.laysFinal "GlassLeaders$Own" "GlassLeaders$Weighing" "this$0" "LGlassLeaders;") ∈ lw_all := lw_g (lw_at lw_m2 8 rfl) rfl
theorem q382 : (Jvm.Cond.superclass "GlassLeaders$Own" "GlassLeaders$Ahead") ∈ lw_all := lw_g (lw_at lw_m2 9 rfl) rfl
theorem q480 : (Jvm.Cond.fieldLinkNest "GlassLeaders$Own" (13 : Nat) "GlassLeaders" "alone" "[[J" "GlassLeaders") ∈ lw_tbl := lw_at lw_m2 107 rfl
theorem q642 : (Jvm.Cond.selects "GlassLeaders$Own" ({ cls := "java/lang/Object", name := "getClass", desc := "()Ljava/lang/Class;" } : Jvm.MethodName) ({ cls := "java/lang/Object", name := "getClass", desc := "()Ljava/lang/Class;" } : Jvm.MethodName)) ∈ lw_all := lw_g (lw_at lw_m3 29 rfl) rfl
theorem q1500 : (Jvm.Cond.selects "GlassLeaders$Own" ({ cls := "GlassLeaders$Weighing", name := "takes", desc := "(III)I" } : Jvm.MethodName) ({ cls := "GlassLeaders$Weighing", name := "takes", desc := "(III)I" } : Jvm.MethodName)) ∈ lw_all := lw_g (lw_at lw_m6 167 rfl) rfl
theorem q1509 : (Jvm.Cond.selects "GlassLeaders$Own" ({ cls := "GlassLeaders$Weighing", name := "weighs", desc := "(III)J" } : Jvm.MethodName) ({ cls := "GlassLeaders$Weighing", name := "weighs", desc := "(III)J" } : Jvm.MethodName)) ∈ lw_all := lw_g (lw_at lw_m6 176 rfl) rfl
theorem q1532 : (Jvm.Cond.selects "GlassLeaders$Own" ({ cls := "GlassLeaders$Weighing", name := "at", desc := "(II)J" } : Jvm.MethodName) ({ cls := "GlassLeaders$Own", name := "at", desc := "(II)J" } : Jvm.MethodName)) ∈ lw_all := lw_g (lw_at lw_m6 199 rfl) rfl
theorem q1533 : (Jvm.Cond.instanceMethod ({ cls := "GlassLeaders$Own", name := "at", desc := "(II)J" } : Jvm.MethodName)) ∈ lw_all := lw_g (lw_at lw_m6 200 rfl) rfl
theorem q1534 : (Jvm.Cond.code ({ cls := "GlassLeaders$Own", name := "at", desc := "(II)J" } : Jvm.MethodName) prog_15_method_2_code (3 : Nat) (Option.some Jvm.ClassFile.FieldType.long)) ∈ lw_all := lw_g (lw_at lw_m6 201 rfl) rfl
theorem q1565 : (Jvm.Cond.selects "GlassLeaders$Own" ({ cls := "GlassLeaders$Ahead", name := "takes", desc := "(III)I" } : Jvm.MethodName) ({ cls := "GlassLeaders$Weighing", name := "takes", desc := "(III)I" } : Jvm.MethodName)) ∈ lw_all := lw_g (lw_at lw_m6 232 rfl) rfl
theorem q1585 : (Jvm.Cond.castable "GlassLeaders$Own" "GlassLeaders$Leader") ∈ lw_tbl := lw_at lw_m7 12 rfl
theorem q1586 : (Jvm.Cond.selects "GlassLeaders$Own" ({ cls := "GlassLeaders$Leader", name := "takes", desc := "(III)I" } : Jvm.MethodName) ({ cls := "GlassLeaders$Weighing", name := "takes", desc := "(III)I" } : Jvm.MethodName)) ∈ lw_all := lw_g (lw_at lw_m7 13 rfl) rfl
theorem q1587 : (Jvm.Cond.unhidden "GlassLeaders$Own" "takes" "(III)I") ∈ lw_tbl := lw_at lw_m7 14 rfl
theorem q1621 : (Jvm.Cond.selects "GlassLeaders$Own" ({ cls := "GlassLeaders$Ahead", name := "weighs", desc := "(III)J" } : Jvm.MethodName) ({ cls := "GlassLeaders$Weighing", name := "weighs", desc := "(III)J" } : Jvm.MethodName)) ∈ lw_all := lw_g (lw_at lw_m7 48 rfl) rfl
theorem q1709 : (Jvm.Cond.sameMethod "GlassLeaders$Own" "GlassLeaders$Weighing" "takes" "(III)I") ∈ lw_all := lw_g (lw_at lw_m7 136 rfl) rfl
theorem q1710 : (Jvm.Cond.selects "GlassLeaders$Own" ({ cls := "GlassLeaders$Own", name := "takes", desc := "(III)I" } : Jvm.MethodName) ({ cls := "GlassLeaders$Weighing", name := "takes", desc := "(III)I" } : Jvm.MethodName)) ∈ lw_all := lw_g (lw_at lw_m7 137 rfl) rfl
theorem q1712 : (Jvm.Cond.sameMethod "GlassLeaders$Own" "GlassLeaders$Weighing" "weighs" "(III)J") ∈ lw_all := lw_g (lw_at lw_m7 139 rfl) rfl
theorem q1713 : (Jvm.Cond.selects "GlassLeaders$Own" ({ cls := "GlassLeaders$Own", name := "weighs", desc := "(III)J" } : Jvm.MethodName) ({ cls := "GlassLeaders$Weighing", name := "weighs", desc := "(III)J" } : Jvm.MethodName)) ∈ lw_all := lw_g (lw_at lw_m7 140 rfl) rfl
theorem q2864 : (Jvm.Cond.castable "GlassLeaders$Own" "java/lang/Object") ∈ lw_tbl := lw_at lw_m12 91 rfl
theorem in_X6 : ∀ w ∈ wsX60, w ∈ lw_all := lw_in wsX60 [381, 380, 378] (by decide +kernel) (by decide +kernel)
/-! GlassLeaders$Fearing -/
set_option maxRecDepth 100000
def RX7 : String := "GlassLeaders$Fearing"
def TX7 : u_T := fun k => match k with
  | 0 => ("GlassLeaders$Weighing", "this$0", "LGlassLeaders;", true)
  | 1 => ("GlassLeaders$Ahead", "this$0", "LGlassLeaders;", true)
  | _ => ("GlassLeaders$Fearing", "this$0", "LGlassLeaders;", true)
def tyX7 : Nat → FieldType := fun k => match k with
  | 0 => .object "GlassLeaders"
  | 1 => .object "GlassLeaders"
  | _ => .object "GlassLeaders"
abbrev wsX70 : List Cond := u_ws RX7 TX7 3
-- two fields of one name: no nmX7
theorem tyX7_ok : ∀ k, k < 3 → parseFieldDescriptor (TX7 k).2.2.1 = some (tyX7 k) := by decide +kernel
abbrev cX7_init : ByteArray := prog_7_method_1_code
def yX7_init : MethodName := ⟨RX7, "<init>", "(LGlassLeaders;)V"⟩
def dkwX7_init_0 : List UInt8 := [42, 43, 181, 0, 1, 42, 43, 183, 0, 7, 177]
abbrev dktX7_init_0 : List UInt8 := dkwX7_init_0 ++ []
theorem dksX7_init_0 : cX7_init.data.toList.drop 0 = dktX7_init_0 := by decide +kernel
theorem dX7_init_0 : decode cX7_init 0 = .ok (.aload_n 0, 1) := dk_42 (dk_at dksX7_init_0 0 rfl rfl)
theorem dX7_init_1 : decode cX7_init 1 = .ok (.aload_n 1, 1) := dk_43 (dk_at dksX7_init_0 1 rfl rfl)
theorem dX7_init_2 : decode cX7_init 2 = .ok (.putfield 1, 3) := dk_181 0 1 (dk_at dksX7_init_0 2 rfl rfl)
theorem dX7_init_5 : decode cX7_init 5 = .ok (.aload_n 0, 1) := dk_42 (dk_at dksX7_init_0 5 rfl rfl)
theorem dX7_init_6 : decode cX7_init 6 = .ok (.aload_n 1, 1) := dk_43 (dk_at dksX7_init_0 6 rfl rfl)
theorem dX7_init_7 : decode cX7_init 7 = .ok (.invokespecial 7, 3) := dk_183 0 7 (dk_at dksX7_init_0 7 rfl rfl)
theorem dX7_init_10 : decode cX7_init 10 = .ok (.return_, 1) := dk_177 (dk_at dksX7_init_0 10 rfl rfl)
abbrev cX7_at : ByteArray := prog_7_method_2_code
def yX7_at : MethodName := ⟨RX7, "at", "(II)J"⟩
def dkwX7_at_0 : List UInt8 := [42, 180, 0, 1, 180, 0, 13, 28, 50, 27, 47, 173]
abbrev dktX7_at_0 : List UInt8 := dkwX7_at_0 ++ []
theorem dksX7_at_0 : cX7_at.data.toList.drop 0 = dktX7_at_0 := by decide +kernel
theorem dX7_at_0 : decode cX7_at 0 = .ok (.aload_n 0, 1) := dk_42 (dk_at dksX7_at_0 0 rfl rfl)
theorem dX7_at_1 : decode cX7_at 1 = .ok (.getfield 1, 3) := dk_180 0 1 (dk_at dksX7_at_0 1 rfl rfl)
theorem dX7_at_4 : decode cX7_at 4 = .ok (.getfield 13, 3) := dk_180 0 13 (dk_at dksX7_at_0 4 rfl rfl)
theorem dX7_at_7 : decode cX7_at 7 = .ok (.iload_n 2, 1) := dk_28 (dk_at dksX7_at_0 7 rfl rfl)
theorem dX7_at_8 : decode cX7_at 8 = .ok (.aaload, 1) := dk_50 (dk_at dksX7_at_0 8 rfl rfl)
theorem dX7_at_9 : decode cX7_at 9 = .ok (.iload_n 1, 1) := dk_27 (dk_at dksX7_at_0 9 rfl rfl)
theorem dX7_at_10 : decode cX7_at 10 = .ok (.laload, 1) := dk_47 (dk_at dksX7_at_0 10 rfl rfl)
theorem dX7_at_11 : decode cX7_at 11 = .ok (.lreturn, 1) := dk_173 (dk_at dksX7_at_0 11 rfl rfl)
theorem q143 : (Jvm.Cond.initialized "GlassLeaders$Fearing") ∈ lw_all := lw_g (lw_at lw_m1 10 rfl) rfl
theorem q384 : (Jvm.Cond.instantiable "GlassLeaders$Fearing" (3 : Nat)) ∈ lw_all := lw_g (lw_at lw_m2 11 rfl) rfl
theorem q386 : (Jvm.Cond.instanceMethod ({ cls := "GlassLeaders$Fearing", name := "<init>", desc := "(LGlassLeaders;)V" } : Jvm.MethodName)) ∈ lw_all := lw_g (lw_at lw_m2 13 rfl) rfl
theorem q387 : (Jvm.Cond.code ({ cls := "GlassLeaders$Fearing", name := "<init>", desc := "(LGlassLeaders;)V" } : Jvm.MethodName) prog_7_method_1_code (2 : Nat) (Option.none : Option Jvm.ClassFile.FieldType)) ∈ lw_all := lw_g (lw_at lw_m2 14 rfl) rfl
theorem q388 : (Jvm.Cond.methodLinkNest "GlassLeaders$Fearing" (7 : Nat) ({ cls := "GlassLeaders$Ahead", name := "<init>", desc := "(LGlassLeaders;)V" } : Jvm.MethodName) "GlassLeaders") ∈ lw_tbl := lw_at lw_m2 15 rfl
theorem q389 : (Jvm.Cond.fieldLink "GlassLeaders$Fearing" (1 : Nat) "GlassLeaders$Fearing" "this$0" "LGlassLeaders;") ∈ lw_all := lw_g (lw_at lw_m2 16 rfl) rfl
theorem q390 : (Jvm.Cond.laysFinal "GlassLeaders$Fearing" "GlassLeaders$Fearing" "this$0" "LGlassLeaders;") ∈ lw_all := lw_g (lw_at lw_m2 17 rfl) rfl
theorem q391 : (Jvm.Cond.soleField "GlassLeaders$Fearing" "this$0") ∈ lw_all := lw_g (lw_at lw_m2 18 rfl) rfl
theorem q392 : (Jvm.Cond.laysFinal "GlassLeaders$Fearing" "GlassLeaders$Ahead" "this$0" "LGlassLeaders;") ∈ lw_all := lw_g (lw_at lw_m2 19 rfl) rfl
theorem q393 : (Jvm.Cond.laysFinal "GlassLeaders$Fearing" "GlassLeaders$Weighing" "this$0" "LGlassLeaders;") ∈ lw_all := lw_g (lw_at lw_m2 20 rfl) rfl
theorem q394 : (Jvm.Cond.superclass "GlassLeaders$Fearing" "GlassLeaders$Ahead") ∈ lw_all := lw_g (lw_at lw_m2 21 rfl) rfl
theorem q482 : (Jvm.Cond.fieldLinkNest "GlassLeaders$Fearing" (13 : Nat) "GlassLeaders" "worst" "[[J" "GlassLeaders") ∈ lw_tbl := lw_at lw_m2 109 rfl
theorem q635 : (Jvm.Cond.selects "GlassLeaders$Fearing" ({ cls := "java/lang/Object", name := "getClass", desc := "()Ljava/lang/Class;" } : Jvm.MethodName) ({ cls := "java/lang/Object", name := "getClass", desc := "()Ljava/lang/Class;" } : Jvm.MethodName)) ∈ lw_all := lw_g (lw_at lw_m3 22 rfl) rfl
theorem q1498 : (Jvm.Cond.selects "GlassLeaders$Fearing" ({ cls := "GlassLeaders$Weighing", name := "takes", desc := "(III)I" } : Jvm.MethodName) ({ cls := "GlassLeaders$Weighing", name := "takes", desc := "(III)I" } : Jvm.MethodName)) ∈ lw_all := lw_g (lw_at lw_m6 165 rfl) rfl
theorem q1507 : (Jvm.Cond.selects "GlassLeaders$Fearing" ({ cls := "GlassLeaders$Weighing", name := "weighs", desc := "(III)J" } : Jvm.MethodName) ({ cls := "GlassLeaders$Weighing", name := "weighs", desc := "(III)J" } : Jvm.MethodName)) ∈ lw_all := lw_g (lw_at lw_m6 174 rfl) rfl
theorem q1525 : (Jvm.Cond.selects "GlassLeaders$Fearing" ({ cls := "GlassLeaders$Weighing", name := "at", desc := "(II)J" } : Jvm.MethodName) ({ cls := "GlassLeaders$Fearing", name := "at", desc := "(II)J" } : Jvm.MethodName)) ∈ lw_all := lw_g (lw_at lw_m6 192 rfl) rfl
theorem q1526 : (Jvm.Cond.instanceMethod ({ cls := "GlassLeaders$Fearing", name := "at", desc := "(II)J" } : Jvm.MethodName)) ∈ lw_all := lw_g (lw_at lw_m6 193 rfl) rfl
theorem q1527 : (Jvm.Cond.code ({ cls := "GlassLeaders$Fearing", name := "at", desc := "(II)J" } : Jvm.MethodName) prog_7_method_2_code (3 : Nat) (Option.some Jvm.ClassFile.FieldType.long)) ∈ lw_all := lw_g (lw_at lw_m6 194 rfl) rfl
theorem q1563 : (Jvm.Cond.selects "GlassLeaders$Fearing" ({ cls := "GlassLeaders$Ahead", name := "takes", desc := "(III)I" } : Jvm.MethodName) ({ cls := "GlassLeaders$Weighing", name := "takes", desc := "(III)I" } : Jvm.MethodName)) ∈ lw_all := lw_g (lw_at lw_m6 230 rfl) rfl
theorem q1579 : (Jvm.Cond.castable "GlassLeaders$Fearing" "GlassLeaders$Leader") ∈ lw_tbl := lw_at lw_m7 6 rfl
theorem q1580 : (Jvm.Cond.selects "GlassLeaders$Fearing" ({ cls := "GlassLeaders$Leader", name := "takes", desc := "(III)I" } : Jvm.MethodName) ({ cls := "GlassLeaders$Weighing", name := "takes", desc := "(III)I" } : Jvm.MethodName)) ∈ lw_all := lw_g (lw_at lw_m7 7 rfl) rfl
theorem q1581 : (Jvm.Cond.unhidden "GlassLeaders$Fearing" "takes" "(III)I") ∈ lw_tbl := lw_at lw_m7 8 rfl
theorem q1619 : (Jvm.Cond.selects "GlassLeaders$Fearing" ({ cls := "GlassLeaders$Ahead", name := "weighs", desc := "(III)J" } : Jvm.MethodName) ({ cls := "GlassLeaders$Weighing", name := "weighs", desc := "(III)J" } : Jvm.MethodName)) ∈ lw_all := lw_g (lw_at lw_m7 46 rfl) rfl
theorem q2865 : (Jvm.Cond.castable "GlassLeaders$Fearing" "java/lang/Object") ∈ lw_tbl := lw_at lw_m12 92 rfl
theorem in_X7 : ∀ w ∈ wsX70, w ∈ lw_all := lw_in wsX70 [393, 392, 390] (by decide +kernel) (by decide +kernel)
/-! GlassLeaders$Kind -/
set_option maxRecDepth 100000
def RX8 : String := "GlassLeaders$Kind"
def TX8 : u_T := fun k => match k with
  | 0 => ("GlassLeaders$Weighing", "this$0", "LGlassLeaders;", true)
  | 1 => ("GlassLeaders$Ahead", "this$0", "LGlassLeaders;", true)
  | _ => ("GlassLeaders$Kind", "this$0", "LGlassLeaders;", true)
def tyX8 : Nat → FieldType := fun k => match k with
  | 0 => .object "GlassLeaders"
  | 1 => .object "GlassLeaders"
  | _ => .object "GlassLeaders"
abbrev wsX80 : List Cond := u_ws RX8 TX8 3
-- two fields of one name: no nmX8
theorem tyX8_ok : ∀ k, k < 3 → parseFieldDescriptor (TX8 k).2.2.1 = some (tyX8 k) := by decide +kernel
abbrev cX8_init : ByteArray := prog_8_method_1_code
def yX8_init : MethodName := ⟨RX8, "<init>", "(LGlassLeaders;)V"⟩
def dkwX8_init_0 : List UInt8 := [42, 43, 181, 0, 1, 42, 43, 183, 0, 7, 177]
abbrev dktX8_init_0 : List UInt8 := dkwX8_init_0 ++ []
theorem dksX8_init_0 : cX8_init.data.toList.drop 0 = dktX8_init_0 := by decide +kernel
theorem dX8_init_0 : decode cX8_init 0 = .ok (.aload_n 0, 1) := dk_42 (dk_at dksX8_init_0 0 rfl rfl)
theorem dX8_init_1 : decode cX8_init 1 = .ok (.aload_n 1, 1) := dk_43 (dk_at dksX8_init_0 1 rfl rfl)
theorem dX8_init_2 : decode cX8_init 2 = .ok (.putfield 1, 3) := dk_181 0 1 (dk_at dksX8_init_0 2 rfl rfl)
theorem dX8_init_5 : decode cX8_init 5 = .ok (.aload_n 0, 1) := dk_42 (dk_at dksX8_init_0 5 rfl rfl)
theorem dX8_init_6 : decode cX8_init 6 = .ok (.aload_n 1, 1) := dk_43 (dk_at dksX8_init_0 6 rfl rfl)
theorem dX8_init_7 : decode cX8_init 7 = .ok (.invokespecial 7, 3) := dk_183 0 7 (dk_at dksX8_init_0 7 rfl rfl)
theorem dX8_init_10 : decode cX8_init 10 = .ok (.return_, 1) := dk_177 (dk_at dksX8_init_0 10 rfl rfl)
abbrev cX8_at : ByteArray := prog_8_method_2_code
def yX8_at : MethodName := ⟨RX8, "at", "(II)J"⟩
def dkwX8_at_1 : List UInt8 := [21, 5, 183, 0, 25, 97, 66, 132, 5, 1, 167, 255, 228, 33, 173]
abbrev dktX8_at_1 : List UInt8 := dkwX8_at_1 ++ []
def dkwX8_at_0 : List UInt8 := [9, 66, 3, 54, 5, 21, 5, 42, 180, 0, 1, 180, 0, 13, 180, 0, 19, 162, 0, 19, 33, 42, 27]
abbrev dktX8_at_0 : List UInt8 := dkwX8_at_0 ++ dktX8_at_1
theorem dksX8_at_0 : cX8_at.data.toList.drop 0 = dktX8_at_0 := by decide +kernel
theorem dksX8_at_1 : cX8_at.data.toList.drop 23 = dktX8_at_1 := dk_seg dksX8_at_0 23 rfl rfl
theorem dX8_at_0 : decode cX8_at 0 = .ok (.lconst 0, 1) := dk_9 (dk_at dksX8_at_0 0 rfl rfl)
theorem dX8_at_1 : decode cX8_at 1 = .ok (.lstore_n 3, 1) := dk_66 (dk_at dksX8_at_0 1 rfl rfl)
theorem dX8_at_2 : decode cX8_at 2 = .ok (.iconst 0, 1) := dk_3 (dk_at dksX8_at_0 2 rfl rfl)
theorem dX8_at_3 : decode cX8_at 3 = .ok (.istore 5, 2) := dk_54 5 (dk_at dksX8_at_0 3 rfl rfl)
theorem dX8_at_5 : decode cX8_at 5 = .ok (.iload 5, 2) := dk_21 5 (dk_at dksX8_at_0 5 rfl rfl)
theorem dX8_at_7 : decode cX8_at 7 = .ok (.aload_n 0, 1) := dk_42 (dk_at dksX8_at_0 7 rfl rfl)
theorem dX8_at_8 : decode cX8_at 8 = .ok (.getfield 1, 3) := dk_180 0 1 (dk_at dksX8_at_0 8 rfl rfl)
theorem dX8_at_11 : decode cX8_at 11 = .ok (.getfield 13, 3) := dk_180 0 13 (dk_at dksX8_at_0 11 rfl rfl)
theorem dX8_at_14 : decode cX8_at 14 = .ok (.getfield 19, 3) := dk_180 0 19 (dk_at dksX8_at_0 14 rfl rfl)
theorem dX8_at_17 : decode cX8_at 17 = .ok (.if_icmp .ge 19, 3) := dk_162 0 19 (dk_at dksX8_at_0 17 rfl rfl)
theorem dX8_at_20 : decode cX8_at 20 = .ok (.lload_n 3, 1) := dk_33 (dk_at dksX8_at_0 20 rfl rfl)
theorem dX8_at_21 : decode cX8_at 21 = .ok (.aload_n 0, 1) := dk_42 (dk_at dksX8_at_0 21 rfl rfl)
theorem dX8_at_22 : decode cX8_at 22 = .ok (.iload_n 1, 1) := dk_27 (dk_at dksX8_at_0 22 rfl rfl)
theorem dX8_at_23 : decode cX8_at 23 = .ok (.iload 5, 2) := dk_21 5 (dk_at dksX8_at_1 0 rfl rfl)
theorem dX8_at_25 : decode cX8_at 25 = .ok (.invokespecial 25, 3) := dk_183 0 25 (dk_at dksX8_at_1 2 rfl rfl)
theorem dX8_at_28 : decode cX8_at 28 = .ok (.ladd, 1) := dk_97 (dk_at dksX8_at_1 5 rfl rfl)
theorem dX8_at_29 : decode cX8_at 29 = .ok (.lstore_n 3, 1) := dk_66 (dk_at dksX8_at_1 6 rfl rfl)
theorem dX8_at_30 : decode cX8_at 30 = .ok (.iinc 5 1, 3) := dk_132 5 1 (dk_at dksX8_at_1 7 rfl rfl)
theorem dX8_at_33 : decode cX8_at 33 = .ok (.goto (-28), 3) := dk_167 255 228 (dk_at dksX8_at_1 10 rfl rfl)
theorem dX8_at_36 : decode cX8_at 36 = .ok (.lload_n 3, 1) := dk_33 (dk_at dksX8_at_1 13 rfl rfl)
theorem dX8_at_37 : decode cX8_at 37 = .ok (.lreturn, 1) := dk_173 (dk_at dksX8_at_1 14 rfl rfl)
theorem q144 : (Jvm.Cond.initialized "GlassLeaders$Kind") ∈ lw_all := lw_g (lw_at lw_m1 11 rfl) rfl
theorem q203 : (Jvm.Cond.fieldLinkNest "GlassLeaders$Kind" (19 : Nat) "GlassLeaders$Land" "persons" "I" "GlassLeaders") ∈ lw_tbl := lw_at lw_m1 70 rfl
theorem q401 : (Jvm.Cond.instanceMethod ({ cls := "GlassLeaders$Kind", name := "<init>", desc := "(LGlassLeaders;)V" } : Jvm.MethodName)) ∈ lw_all := lw_g (lw_at lw_m2 28 rfl) rfl
theorem q402 : (Jvm.Cond.code ({ cls := "GlassLeaders$Kind", name := "<init>", desc := "(LGlassLeaders;)V" } : Jvm.MethodName) prog_8_method_1_code (2 : Nat) (Option.none : Option Jvm.ClassFile.FieldType)) ∈ lw_all := lw_g (lw_at lw_m2 29 rfl) rfl
theorem q403 : (Jvm.Cond.methodLinkNest "GlassLeaders$Kind" (7 : Nat) ({ cls := "GlassLeaders$Ahead", name := "<init>", desc := "(LGlassLeaders;)V" } : Jvm.MethodName) "GlassLeaders") ∈ lw_tbl := lw_at lw_m2 30 rfl
theorem q405 : (Jvm.Cond.fieldLink "GlassLeaders$Kind" (1 : Nat) "GlassLeaders$Kind" "this$0" "LGlassLeaders;") ∈ lw_all := lw_g (lw_at lw_m2 32 rfl) rfl
theorem q409 : (Jvm.Cond.soleField "GlassLeaders$Kind" "this$0") ∈ lw_all := lw_g (lw_at lw_m2 36 rfl) rfl
theorem q416 : (Jvm.Cond.instantiable "GlassLeaders$Kind" (3 : Nat)) ∈ lw_all := lw_g (lw_at lw_m2 43 rfl) rfl
theorem q418 : (Jvm.Cond.laysFinal "GlassLeaders$Kind" "GlassLeaders$Kind" "this$0" "LGlassLeaders;") ∈ lw_all := lw_g (lw_at lw_m2 45 rfl) rfl
theorem q419 : (Jvm.Cond.laysFinal "GlassLeaders$Kind" "GlassLeaders$Ahead" "this$0" "LGlassLeaders;") ∈ lw_all := lw_g (lw_at lw_m2 46 rfl) rfl
theorem q420 : (Jvm.Cond.laysFinal "GlassLeaders$Kind" "GlassLeaders$Weighing" "this$0" "LGlassLeaders;") ∈ lw_all := lw_g (lw_at lw_m2 47 rfl) rfl
theorem q421 : (Jvm.Cond.superclass "GlassLeaders$Kind" "GlassLeaders$Ahead") ∈ lw_all := lw_g (lw_at lw_m2 48 rfl) rfl
theorem q451 : (Jvm.Cond.fieldLinkNest "GlassLeaders$Kind" (13 : Nat) "GlassLeaders" "land" "LGlassLeaders$Land;" "GlassLeaders") ∈ lw_tbl := lw_at lw_m2 78 rfl
theorem q636 : (Jvm.Cond.selects "GlassLeaders$Kind" ({ cls := "java/lang/Object", name := "getClass", desc := "()Ljava/lang/Class;" } : Jvm.MethodName) ({ cls := "java/lang/Object", name := "getClass", desc := "()Ljava/lang/Class;" } : Jvm.MethodName)) ∈ lw_all := lw_g (lw_at lw_m3 23 rfl) rfl
theorem q1499 : (Jvm.Cond.selects "GlassLeaders$Kind" ({ cls := "GlassLeaders$Weighing", name := "takes", desc := "(III)I" } : Jvm.MethodName) ({ cls := "GlassLeaders$Weighing", name := "takes", desc := "(III)I" } : Jvm.MethodName)) ∈ lw_all := lw_g (lw_at lw_m6 166 rfl) rfl
theorem q1508 : (Jvm.Cond.selects "GlassLeaders$Kind" ({ cls := "GlassLeaders$Weighing", name := "weighs", desc := "(III)J" } : Jvm.MethodName) ({ cls := "GlassLeaders$Weighing", name := "weighs", desc := "(III)J" } : Jvm.MethodName)) ∈ lw_all := lw_g (lw_at lw_m6 175 rfl) rfl
theorem q1528 : (Jvm.Cond.selects "GlassLeaders$Kind" ({ cls := "GlassLeaders$Weighing", name := "at", desc := "(II)J" } : Jvm.MethodName) ({ cls := "GlassLeaders$Kind", name := "at", desc := "(II)J" } : Jvm.MethodName)) ∈ lw_all := lw_g (lw_at lw_m6 195 rfl) rfl
theorem q1529 : (Jvm.Cond.instanceMethod ({ cls := "GlassLeaders$Kind", name := "at", desc := "(II)J" } : Jvm.MethodName)) ∈ lw_all := lw_g (lw_at lw_m6 196 rfl) rfl
theorem q1530 : (Jvm.Cond.code ({ cls := "GlassLeaders$Kind", name := "at", desc := "(II)J" } : Jvm.MethodName) prog_8_method_2_code (6 : Nat) (Option.some Jvm.ClassFile.FieldType.long)) ∈ lw_all := lw_g (lw_at lw_m6 197 rfl) rfl
theorem q1531 : (Jvm.Cond.methodLink "GlassLeaders$Kind" (25 : Nat) ({ cls := "GlassLeaders$Ahead", name := "at", desc := "(II)J" } : Jvm.MethodName)) ∈ lw_all := lw_g (lw_at lw_m6 198 rfl) rfl
theorem q1564 : (Jvm.Cond.selects "GlassLeaders$Kind" ({ cls := "GlassLeaders$Ahead", name := "takes", desc := "(III)I" } : Jvm.MethodName) ({ cls := "GlassLeaders$Weighing", name := "takes", desc := "(III)I" } : Jvm.MethodName)) ∈ lw_all := lw_g (lw_at lw_m6 231 rfl) rfl
theorem q1582 : (Jvm.Cond.castable "GlassLeaders$Kind" "GlassLeaders$Leader") ∈ lw_tbl := lw_at lw_m7 9 rfl
theorem q1583 : (Jvm.Cond.selects "GlassLeaders$Kind" ({ cls := "GlassLeaders$Leader", name := "takes", desc := "(III)I" } : Jvm.MethodName) ({ cls := "GlassLeaders$Weighing", name := "takes", desc := "(III)I" } : Jvm.MethodName)) ∈ lw_all := lw_g (lw_at lw_m7 10 rfl) rfl
theorem q1584 : (Jvm.Cond.unhidden "GlassLeaders$Kind" "takes" "(III)I") ∈ lw_tbl := lw_at lw_m7 11 rfl
theorem q1620 : (Jvm.Cond.selects "GlassLeaders$Kind" ({ cls := "GlassLeaders$Ahead", name := "weighs", desc := "(III)J" } : Jvm.MethodName) ({ cls := "GlassLeaders$Weighing", name := "weighs", desc := "(III)J" } : Jvm.MethodName)) ∈ lw_all := lw_g (lw_at lw_m7 47 rfl) rfl
theorem q2867 : (Jvm.Cond.castable "GlassLeaders$Kind" "java/lang/Object") ∈ lw_tbl := lw_at lw_m12 94 rfl
theorem in_X8 : ∀ w ∈ wsX80, w ∈ lw_all := lw_in wsX80 [420, 419, 418] (by decide +kernel) (by decide +kernel)
/-! GlassLeaders$Pact -/
set_option maxRecDepth 100000
def RX9 : String := "GlassLeaders$Pact"
def TX9 : u_T := fun k => match k with
  | 0 => ("GlassLeaders$Weighing", "this$0", "LGlassLeaders;", true)
  | 1 => ("GlassLeaders$Ahead", "this$0", "LGlassLeaders;", true)
  | 2 => ("GlassLeaders$Kind", "this$0", "LGlassLeaders;", true)
  | _ => ("GlassLeaders$Pact", "this$0", "LGlassLeaders;", true)
def tyX9 : Nat → FieldType := fun k => match k with
  | 0 => .object "GlassLeaders"
  | 1 => .object "GlassLeaders"
  | 2 => .object "GlassLeaders"
  | _ => .object "GlassLeaders"
abbrev wsX90 : List Cond := u_ws RX9 TX9 4
-- two fields of one name: no nmX9
theorem tyX9_ok : ∀ k, k < 4 → parseFieldDescriptor (TX9 k).2.2.1 = some (tyX9 k) := by decide +kernel
abbrev cX9_init : ByteArray := prog_16_method_1_code
def yX9_init : MethodName := ⟨RX9, "<init>", "(LGlassLeaders;)V"⟩
def dkwX9_init_0 : List UInt8 := [42, 43, 181, 0, 1, 42, 43, 183, 0, 7, 177]
abbrev dktX9_init_0 : List UInt8 := dkwX9_init_0 ++ []
theorem dksX9_init_0 : cX9_init.data.toList.drop 0 = dktX9_init_0 := by decide +kernel
theorem dX9_init_0 : decode cX9_init 0 = .ok (.aload_n 0, 1) := dk_42 (dk_at dksX9_init_0 0 rfl rfl)
theorem dX9_init_1 : decode cX9_init 1 = .ok (.aload_n 1, 1) := dk_43 (dk_at dksX9_init_0 1 rfl rfl)
theorem dX9_init_2 : decode cX9_init 2 = .ok (.putfield 1, 3) := dk_181 0 1 (dk_at dksX9_init_0 2 rfl rfl)
theorem dX9_init_5 : decode cX9_init 5 = .ok (.aload_n 0, 1) := dk_42 (dk_at dksX9_init_0 5 rfl rfl)
theorem dX9_init_6 : decode cX9_init 6 = .ok (.aload_n 1, 1) := dk_43 (dk_at dksX9_init_0 6 rfl rfl)
theorem dX9_init_7 : decode cX9_init 7 = .ok (.invokespecial 7, 3) := dk_183 0 7 (dk_at dksX9_init_0 7 rfl rfl)
theorem dX9_init_10 : decode cX9_init 10 = .ok (.return_, 1) := dk_177 (dk_at dksX9_init_0 10 rfl rfl)
abbrev cX9_at : ByteArray := prog_16_method_2_code
def yX9_at : MethodName := ⟨RX9, "at", "(II)J"⟩
def dkwX9_at_1 : List UInt8 := [42, 180, 0, 1, 180, 0, 23, 50, 27, 47, 97, 173]
abbrev dktX9_at_1 : List UInt8 := dkwX9_at_1 ++ []
def dkwX9_at_0 : List UInt8 := [42, 180, 0, 1, 180, 0, 13, 42, 180, 0, 1, 180, 0, 19, 50, 27, 47, 42, 180, 0, 1, 180, 0, 13]
abbrev dktX9_at_0 : List UInt8 := dkwX9_at_0 ++ dktX9_at_1
theorem dksX9_at_0 : cX9_at.data.toList.drop 0 = dktX9_at_0 := by decide +kernel
theorem dksX9_at_1 : cX9_at.data.toList.drop 24 = dktX9_at_1 := dk_seg dksX9_at_0 24 rfl rfl
theorem dX9_at_0 : decode cX9_at 0 = .ok (.aload_n 0, 1) := dk_42 (dk_at dksX9_at_0 0 rfl rfl)
theorem dX9_at_1 : decode cX9_at 1 = .ok (.getfield 1, 3) := dk_180 0 1 (dk_at dksX9_at_0 1 rfl rfl)
theorem dX9_at_4 : decode cX9_at 4 = .ok (.getfield 13, 3) := dk_180 0 13 (dk_at dksX9_at_0 4 rfl rfl)
theorem dX9_at_7 : decode cX9_at 7 = .ok (.aload_n 0, 1) := dk_42 (dk_at dksX9_at_0 7 rfl rfl)
theorem dX9_at_8 : decode cX9_at 8 = .ok (.getfield 1, 3) := dk_180 0 1 (dk_at dksX9_at_0 8 rfl rfl)
theorem dX9_at_11 : decode cX9_at 11 = .ok (.getfield 19, 3) := dk_180 0 19 (dk_at dksX9_at_0 11 rfl rfl)
theorem dX9_at_14 : decode cX9_at 14 = .ok (.aaload, 1) := dk_50 (dk_at dksX9_at_0 14 rfl rfl)
theorem dX9_at_15 : decode cX9_at 15 = .ok (.iload_n 1, 1) := dk_27 (dk_at dksX9_at_0 15 rfl rfl)
theorem dX9_at_16 : decode cX9_at 16 = .ok (.laload, 1) := dk_47 (dk_at dksX9_at_0 16 rfl rfl)
theorem dX9_at_17 : decode cX9_at 17 = .ok (.aload_n 0, 1) := dk_42 (dk_at dksX9_at_0 17 rfl rfl)
theorem dX9_at_18 : decode cX9_at 18 = .ok (.getfield 1, 3) := dk_180 0 1 (dk_at dksX9_at_0 18 rfl rfl)
theorem dX9_at_21 : decode cX9_at 21 = .ok (.getfield 13, 3) := dk_180 0 13 (dk_at dksX9_at_0 21 rfl rfl)
theorem dX9_at_24 : decode cX9_at 24 = .ok (.aload_n 0, 1) := dk_42 (dk_at dksX9_at_1 0 rfl rfl)
theorem dX9_at_25 : decode cX9_at 25 = .ok (.getfield 1, 3) := dk_180 0 1 (dk_at dksX9_at_1 1 rfl rfl)
theorem dX9_at_28 : decode cX9_at 28 = .ok (.getfield 23, 3) := dk_180 0 23 (dk_at dksX9_at_1 4 rfl rfl)
theorem dX9_at_31 : decode cX9_at 31 = .ok (.aaload, 1) := dk_50 (dk_at dksX9_at_1 7 rfl rfl)
theorem dX9_at_32 : decode cX9_at 32 = .ok (.iload_n 1, 1) := dk_27 (dk_at dksX9_at_1 8 rfl rfl)
theorem dX9_at_33 : decode cX9_at 33 = .ok (.laload, 1) := dk_47 (dk_at dksX9_at_1 9 rfl rfl)
theorem dX9_at_34 : decode cX9_at 34 = .ok (.ladd, 1) := dk_97 (dk_at dksX9_at_1 10 rfl rfl)
theorem dX9_at_35 : decode cX9_at 35 = .ok (.lreturn, 1) := dk_173 (dk_at dksX9_at_1 11 rfl rfl)
theorem q145 : (Jvm.Cond.initialized "GlassLeaders$Pact") ∈ lw_all := lw_g (lw_at lw_m1 12 rfl) rfl
theorem q396 : (Jvm.Cond.instantiable "GlassLeaders$Pact" (4 : Nat)) ∈ lw_all := lw_g (lw_at lw_m2 23 rfl) rfl
theorem q398 : (Jvm.Cond.instanceMethod ({ cls := "GlassLeaders$Pact", name := "<init>", desc := "(LGlassLeaders;)V" } : Jvm.MethodName)) ∈ lw_all := lw_g (lw_at lw_m2 25 rfl) rfl
theorem q399 : (Jvm.Cond.code ({ cls := "GlassLeaders$Pact", name := "<init>", desc := "(LGlassLeaders;)V" } : Jvm.MethodName) prog_16_method_1_code (2 : Nat) (Option.none : Option Jvm.ClassFile.FieldType)) ∈ lw_all := lw_g (lw_at lw_m2 26 rfl) rfl
theorem q400 : (Jvm.Cond.methodLinkNest "GlassLeaders$Pact" (7 : Nat) ({ cls := "GlassLeaders$Kind", name := "<init>", desc := "(LGlassLeaders;)V" } : Jvm.MethodName) "GlassLeaders") ∈ lw_tbl := lw_at lw_m2 27 rfl
theorem q404 : (Jvm.Cond.fieldLink "GlassLeaders$Pact" (1 : Nat) "GlassLeaders$Pact" "this$0" "LGlassLeaders;") ∈ lw_all := lw_g (lw_at lw_m2 31 rfl) rfl
theorem q406 : (Jvm.Cond.laysFinal "GlassLeaders$Pact" "GlassLeaders$Pact" "this$0" "LGlassLeaders;") ∈ lw_all := lw_g (lw_at lw_m2 33 rfl) rfl
theorem q407 : (Jvm.Cond.soleField "GlassLeaders$Pact" "this$0") ∈ lw_all := lw_g (lw_at lw_m2 34 rfl) rfl
theorem q408 : (Jvm.Cond.laysFinal "GlassLeaders$Pact" "GlassLeaders$Kind" "this$0" "LGlassLeaders;") ∈ lw_all := lw_g (lw_at lw_m2 35 rfl) rfl
theorem q410 : (Jvm.Cond.laysFinal "GlassLeaders$Pact" "GlassLeaders$Ahead" "this$0" "LGlassLeaders;") ∈ lw_all := lw_g (lw_at lw_m2 37 rfl) rfl
theorem q411 : (Jvm.Cond.laysFinal "GlassLeaders$Pact" "GlassLeaders$Weighing" "this$0" "LGlassLeaders;") ∈ lw_all := lw_g (lw_at lw_m2 38 rfl) rfl
theorem q412 : (Jvm.Cond.superclass "GlassLeaders$Pact" "GlassLeaders$Kind") ∈ lw_all := lw_g (lw_at lw_m2 39 rfl) rfl
theorem q464 : (Jvm.Cond.fieldLinkNest "GlassLeaders$Pact" (19 : Nat) "GlassLeaders" "pactOne" "I" "GlassLeaders") ∈ lw_tbl := lw_at lw_m2 91 rfl
theorem q466 : (Jvm.Cond.fieldLinkNest "GlassLeaders$Pact" (23 : Nat) "GlassLeaders" "pactOther" "I" "GlassLeaders") ∈ lw_tbl := lw_at lw_m2 93 rfl
theorem q478 : (Jvm.Cond.fieldLinkNest "GlassLeaders$Pact" (13 : Nat) "GlassLeaders" "values" "[[J" "GlassLeaders") ∈ lw_tbl := lw_at lw_m2 105 rfl
theorem q643 : (Jvm.Cond.selects "GlassLeaders$Pact" ({ cls := "java/lang/Object", name := "getClass", desc := "()Ljava/lang/Class;" } : Jvm.MethodName) ({ cls := "java/lang/Object", name := "getClass", desc := "()Ljava/lang/Class;" } : Jvm.MethodName)) ∈ lw_all := lw_g (lw_at lw_m3 30 rfl) rfl
theorem q1501 : (Jvm.Cond.selects "GlassLeaders$Pact" ({ cls := "GlassLeaders$Weighing", name := "takes", desc := "(III)I" } : Jvm.MethodName) ({ cls := "GlassLeaders$Weighing", name := "takes", desc := "(III)I" } : Jvm.MethodName)) ∈ lw_all := lw_g (lw_at lw_m6 168 rfl) rfl
theorem q1510 : (Jvm.Cond.selects "GlassLeaders$Pact" ({ cls := "GlassLeaders$Weighing", name := "weighs", desc := "(III)J" } : Jvm.MethodName) ({ cls := "GlassLeaders$Weighing", name := "weighs", desc := "(III)J" } : Jvm.MethodName)) ∈ lw_all := lw_g (lw_at lw_m6 177 rfl) rfl
theorem q1535 : (Jvm.Cond.selects "GlassLeaders$Pact" ({ cls := "GlassLeaders$Weighing", name := "at", desc := "(II)J" } : Jvm.MethodName) ({ cls := "GlassLeaders$Pact", name := "at", desc := "(II)J" } : Jvm.MethodName)) ∈ lw_all := lw_g (lw_at lw_m6 202 rfl) rfl
theorem q1536 : (Jvm.Cond.instanceMethod ({ cls := "GlassLeaders$Pact", name := "at", desc := "(II)J" } : Jvm.MethodName)) ∈ lw_all := lw_g (lw_at lw_m6 203 rfl) rfl
theorem q1537 : (Jvm.Cond.code ({ cls := "GlassLeaders$Pact", name := "at", desc := "(II)J" } : Jvm.MethodName) prog_16_method_2_code (3 : Nat) (Option.some Jvm.ClassFile.FieldType.long)) ∈ lw_all := lw_g (lw_at lw_m6 204 rfl) rfl
theorem q1566 : (Jvm.Cond.selects "GlassLeaders$Pact" ({ cls := "GlassLeaders$Ahead", name := "takes", desc := "(III)I" } : Jvm.MethodName) ({ cls := "GlassLeaders$Weighing", name := "takes", desc := "(III)I" } : Jvm.MethodName)) ∈ lw_all := lw_g (lw_at lw_m6 233 rfl) rfl
theorem q1588 : (Jvm.Cond.castable "GlassLeaders$Pact" "GlassLeaders$Leader") ∈ lw_tbl := lw_at lw_m7 15 rfl
theorem q1589 : (Jvm.Cond.selects "GlassLeaders$Pact" ({ cls := "GlassLeaders$Leader", name := "takes", desc := "(III)I" } : Jvm.MethodName) ({ cls := "GlassLeaders$Weighing", name := "takes", desc := "(III)I" } : Jvm.MethodName)) ∈ lw_all := lw_g (lw_at lw_m7 16 rfl) rfl
theorem q1590 : (Jvm.Cond.unhidden "GlassLeaders$Pact" "takes" "(III)I") ∈ lw_tbl := lw_at lw_m7 17 rfl
theorem q1622 : (Jvm.Cond.selects "GlassLeaders$Pact" ({ cls := "GlassLeaders$Ahead", name := "weighs", desc := "(III)J" } : Jvm.MethodName) ({ cls := "GlassLeaders$Weighing", name := "weighs", desc := "(III)J" } : Jvm.MethodName)) ∈ lw_all := lw_g (lw_at lw_m7 49 rfl) rfl
theorem q2866 : (Jvm.Cond.castable "GlassLeaders$Pact" "java/lang/Object") ∈ lw_tbl := lw_at lw_m12 93 rfl
theorem in_X9 : ∀ w ∈ wsX90, w ∈ lw_all := lw_in wsX90 [411, 410, 408, 406] (by decide +kernel) (by decide +kernel)
/-! GlassLeaders$Spend -/
set_option maxRecDepth 100000
def RX10 : String := "GlassLeaders$Spend"
def TX10 : u_T := fun k => match k with
  | _ => ("GlassLeaders$Spend", "this$0", "LGlassLeaders;", true)
def tyX10 : Nat → FieldType := fun k => match k with
  | _ => .object "GlassLeaders"
abbrev wsX100 : List Cond := u_ws RX10 TX10 1
theorem nmX10 : ∀ a, a < 1 → ∀ b, b < 1 → a ≠ b → (TX10 a).2.1 ≠ (TX10 b).2.1 := by decide +kernel
theorem tyX10_ok : ∀ k, k < 1 → parseFieldDescriptor (TX10 k).2.2.1 = some (tyX10 k) := by decide +kernel
abbrev cX10_init : ByteArray := prog_20_method_1_code
def yX10_init : MethodName := ⟨RX10, "<init>", "(LGlassLeaders;)V"⟩
def dkwX10_init_0 : List UInt8 := [42, 43, 181, 0, 1, 42, 183, 0, 7, 177]
abbrev dktX10_init_0 : List UInt8 := dkwX10_init_0 ++ []
theorem dksX10_init_0 : cX10_init.data.toList.drop 0 = dktX10_init_0 := by decide +kernel
theorem dX10_init_0 : decode cX10_init 0 = .ok (.aload_n 0, 1) := dk_42 (dk_at dksX10_init_0 0 rfl rfl)
theorem dX10_init_1 : decode cX10_init 1 = .ok (.aload_n 1, 1) := dk_43 (dk_at dksX10_init_0 1 rfl rfl)
theorem dX10_init_2 : decode cX10_init 2 = .ok (.putfield 1, 3) := dk_181 0 1 (dk_at dksX10_init_0 2 rfl rfl)
theorem dX10_init_5 : decode cX10_init 5 = .ok (.aload_n 0, 1) := dk_42 (dk_at dksX10_init_0 5 rfl rfl)
theorem dX10_init_6 : decode cX10_init 6 = .ok (.invokespecial 7, 3) := dk_183 0 7 (dk_at dksX10_init_0 6 rfl rfl)
theorem dX10_init_9 : decode cX10_init 9 = .ok (.return_, 1) := dk_177 (dk_at dksX10_init_0 9 rfl rfl)
abbrev cX10_takes : ByteArray := prog_20_method_2_code
def yX10_takes : MethodName := ⟨RX10, "takes", "(III)I"⟩
def dkwX10_takes_0 : List UInt8 := [42, 29, 182, 0, 13, 172]
abbrev dktX10_takes_0 : List UInt8 := dkwX10_takes_0 ++ []
theorem dksX10_takes_0 : cX10_takes.data.toList.drop 0 = dktX10_takes_0 := by decide +kernel
theorem dX10_takes_0 : decode cX10_takes 0 = .ok (.aload_n 0, 1) := dk_42 (dk_at dksX10_takes_0 0 rfl rfl)
theorem dX10_takes_1 : decode cX10_takes 1 = .ok (.iload_n 3, 1) := dk_29 (dk_at dksX10_takes_0 1 rfl rfl)
theorem dX10_takes_2 : decode cX10_takes 2 = .ok (.invokevirtual 13, 3) := dk_182 0 13 (dk_at dksX10_takes_0 2 rfl rfl)
theorem dX10_takes_5 : decode cX10_takes 5 = .ok (.ireturn, 1) := dk_172 (dk_at dksX10_takes_0 5 rfl rfl)
theorem q146 : (Jvm.Cond.initialized "GlassLeaders$Spend") ∈ lw_all := lw_g (lw_at lw_m1 13 rfl) rfl
theorem q423 : (Jvm.Cond.instantiable "GlassLeaders$Spend" (1 : Nat)) ∈ lw_all := lw_g (lw_at lw_m2 50 rfl) rfl
theorem q425 : (Jvm.Cond.instanceMethod ({ cls := "GlassLeaders$Spend", name := "<init>", desc := "(LGlassLeaders;)V" } : Jvm.MethodName)) ∈ lw_all := lw_g (lw_at lw_m2 52 rfl) rfl
theorem q426 : (Jvm.Cond.code ({ cls := "GlassLeaders$Spend", name := "<init>", desc := "(LGlassLeaders;)V" } : Jvm.MethodName) prog_20_method_1_code (2 : Nat) (Option.none : Option Jvm.ClassFile.FieldType)) ∈ lw_all := lw_g (lw_at lw_m2 53 rfl) rfl
theorem q427 : (Jvm.Cond.methodLink "GlassLeaders$Spend" (7 : Nat) ({ cls := "java/lang/Object", name := "<init>", desc := "()V" } : Jvm.MethodName)) ∈ lw_all := lw_g (lw_at lw_m2 54 rfl) rfl
theorem q428 : (Jvm.Cond.fieldLink "GlassLeaders$Spend" (1 : Nat) "GlassLeaders$Spend" "this$0" "LGlassLeaders;") ∈ lw_all := lw_g (lw_at lw_m2 55 rfl) rfl
theorem q429 : (Jvm.Cond.laysFinal "GlassLeaders$Spend" "GlassLeaders$Spend" "this$0" "LGlassLeaders;") ∈ lw_all := lw_g (lw_at lw_m2 56 rfl) rfl
theorem q430 : (Jvm.Cond.soleField "GlassLeaders$Spend" "this$0") ∈ lw_all := lw_g (lw_at lw_m2 57 rfl) rfl
theorem q431 : (Jvm.Cond.superclass "GlassLeaders$Spend" "java/lang/Object") ∈ lw_all := lw_g (lw_at lw_m2 58 rfl) rfl
theorem q647 : (Jvm.Cond.selects "GlassLeaders$Spend" ({ cls := "java/lang/Object", name := "getClass", desc := "()Ljava/lang/Class;" } : Jvm.MethodName) ({ cls := "java/lang/Object", name := "getClass", desc := "()Ljava/lang/Class;" } : Jvm.MethodName)) ∈ lw_all := lw_g (lw_at lw_m3 34 rfl) rfl
theorem q1599 : (Jvm.Cond.instanceMethod ({ cls := "GlassLeaders$Spend", name := "takes", desc := "(III)I" } : Jvm.MethodName)) ∈ lw_all := lw_g (lw_at lw_m7 26 rfl) rfl
theorem q1600 : (Jvm.Cond.code ({ cls := "GlassLeaders$Spend", name := "takes", desc := "(III)I" } : Jvm.MethodName) prog_20_method_2_code (4 : Nat) (Option.some Jvm.ClassFile.FieldType.int)) ∈ lw_all := lw_g (lw_at lw_m7 27 rfl) rfl
theorem q1603 : (Jvm.Cond.unhidden "GlassLeaders$Spend" "firstOf" "(I)I") ∈ lw_tbl := lw_at lw_m7 30 rfl
theorem q1611 : (Jvm.Cond.castable "GlassLeaders$Spend" "GlassLeaders$Leader") ∈ lw_tbl := lw_at lw_m7 38 rfl
theorem q1612 : (Jvm.Cond.selects "GlassLeaders$Spend" ({ cls := "GlassLeaders$Leader", name := "takes", desc := "(III)I" } : Jvm.MethodName) ({ cls := "GlassLeaders$Spend", name := "takes", desc := "(III)I" } : Jvm.MethodName)) ∈ lw_all := lw_g (lw_at lw_m7 39 rfl) rfl
theorem q1613 : (Jvm.Cond.unhidden "GlassLeaders$Spend" "takes" "(III)I") ∈ lw_tbl := lw_at lw_m7 40 rfl
theorem q1614 : (Jvm.Cond.publicMethod ({ cls := "GlassLeaders$Spend", name := "takes", desc := "(III)I" } : Jvm.MethodName)) ∈ lw_tbl := lw_at lw_m7 41 rfl
theorem q2845 : (Jvm.Cond.sameMethod "GlassLeaders$Spend" "GlassLeaders$Spend" "takes" "(III)I") ∈ lw_all := lw_g (lw_at lw_m12 72 rfl) rfl
theorem q2868 : (Jvm.Cond.castable "GlassLeaders$Spend" "java/lang/Object") ∈ lw_tbl := lw_at lw_m12 95 rfl
theorem in_X10 : ∀ w ∈ wsX100, w ∈ lw_all := lw_in wsX100 [429] (by decide +kernel) (by decide +kernel)
/-! GlassLeaders$Planned -/
set_option maxRecDepth 100000
def RX11 : String := "GlassLeaders$Planned"
def TX11 : u_T := fun k => match k with
  | 0 => ("GlassLeaders$Spend", "this$0", "LGlassLeaders;", true)
  | _ => ("GlassLeaders$Planned", "this$0", "LGlassLeaders;", true)
def tyX11 : Nat → FieldType := fun k => match k with
  | 0 => .object "GlassLeaders"
  | _ => .object "GlassLeaders"
abbrev wsX110 : List Cond := u_ws RX11 TX11 2
-- two fields of one name: no nmX11
theorem tyX11_ok : ∀ k, k < 2 → parseFieldDescriptor (TX11 k).2.2.1 = some (tyX11 k) := by decide +kernel
abbrev cX11_init : ByteArray := prog_18_method_1_code
def yX11_init : MethodName := ⟨RX11, "<init>", "(LGlassLeaders;)V"⟩
def dkwX11_init_0 : List UInt8 := [42, 43, 181, 0, 1, 42, 43, 183, 0, 7, 177]
abbrev dktX11_init_0 : List UInt8 := dkwX11_init_0 ++ []
theorem dksX11_init_0 : cX11_init.data.toList.drop 0 = dktX11_init_0 := by decide +kernel
theorem dX11_init_0 : decode cX11_init 0 = .ok (.aload_n 0, 1) := dk_42 (dk_at dksX11_init_0 0 rfl rfl)
theorem dX11_init_1 : decode cX11_init 1 = .ok (.aload_n 1, 1) := dk_43 (dk_at dksX11_init_0 1 rfl rfl)
theorem dX11_init_2 : decode cX11_init 2 = .ok (.putfield 1, 3) := dk_181 0 1 (dk_at dksX11_init_0 2 rfl rfl)
theorem dX11_init_5 : decode cX11_init 5 = .ok (.aload_n 0, 1) := dk_42 (dk_at dksX11_init_0 5 rfl rfl)
theorem dX11_init_6 : decode cX11_init 6 = .ok (.aload_n 1, 1) := dk_43 (dk_at dksX11_init_0 6 rfl rfl)
theorem dX11_init_7 : decode cX11_init 7 = .ok (.invokespecial 7, 3) := dk_183 0 7 (dk_at dksX11_init_0 7 rfl rfl)
theorem dX11_init_10 : decode cX11_init 10 = .ok (.return_, 1) := dk_177 (dk_at dksX11_init_0 10 rfl rfl)
abbrev cX11_takes : ByteArray := prog_18_method_2_code
def yX11_takes : MethodName := ⟨RX11, "takes", "(III)I"⟩
def dkwX11_takes_1 : List UInt8 := [160, 0, 8, 21, 4, 167, 0, 10, 42, 27, 28, 29, 183, 0, 29, 172]
abbrev dktX11_takes_1 : List UInt8 := dkwX11_takes_1 ++ []
def dkwX11_takes_0 : List UInt8 := [42, 180, 0, 1, 180, 0, 13, 180, 0, 19, 27, 184, 0, 25, 46, 54, 4, 29, 21, 4, 122, 4, 126, 4]
abbrev dktX11_takes_0 : List UInt8 := dkwX11_takes_0 ++ dktX11_takes_1
theorem dksX11_takes_0 : cX11_takes.data.toList.drop 0 = dktX11_takes_0 := by decide +kernel
theorem dksX11_takes_1 : cX11_takes.data.toList.drop 24 = dktX11_takes_1 := dk_seg dksX11_takes_0 24 rfl rfl
theorem dX11_takes_0 : decode cX11_takes 0 = .ok (.aload_n 0, 1) := dk_42 (dk_at dksX11_takes_0 0 rfl rfl)
theorem dX11_takes_1 : decode cX11_takes 1 = .ok (.getfield 1, 3) := dk_180 0 1 (dk_at dksX11_takes_0 1 rfl rfl)
theorem dX11_takes_4 : decode cX11_takes 4 = .ok (.getfield 13, 3) := dk_180 0 13 (dk_at dksX11_takes_0 4 rfl rfl)
theorem dX11_takes_7 : decode cX11_takes 7 = .ok (.getfield 19, 3) := dk_180 0 19 (dk_at dksX11_takes_0 7 rfl rfl)
theorem dX11_takes_10 : decode cX11_takes 10 = .ok (.iload_n 1, 1) := dk_27 (dk_at dksX11_takes_0 10 rfl rfl)
theorem dX11_takes_11 : decode cX11_takes 11 = .ok (.invokestatic 25, 3) := dk_184 0 25 (dk_at dksX11_takes_0 11 rfl rfl)
theorem dX11_takes_14 : decode cX11_takes 14 = .ok (.iaload, 1) := dk_46 (dk_at dksX11_takes_0 14 rfl rfl)
theorem dX11_takes_15 : decode cX11_takes 15 = .ok (.istore 4, 2) := dk_54 4 (dk_at dksX11_takes_0 15 rfl rfl)
theorem dX11_takes_17 : decode cX11_takes 17 = .ok (.iload_n 3, 1) := dk_29 (dk_at dksX11_takes_0 17 rfl rfl)
theorem dX11_takes_18 : decode cX11_takes 18 = .ok (.iload 4, 2) := dk_21 4 (dk_at dksX11_takes_0 18 rfl rfl)
theorem dX11_takes_20 : decode cX11_takes 20 = .ok (.ishr, 1) := dk_122 (dk_at dksX11_takes_0 20 rfl rfl)
theorem dX11_takes_21 : decode cX11_takes 21 = .ok (.iconst 1, 1) := dk_4 (dk_at dksX11_takes_0 21 rfl rfl)
theorem dX11_takes_22 : decode cX11_takes 22 = .ok (.iand, 1) := dk_126 (dk_at dksX11_takes_0 22 rfl rfl)
theorem dX11_takes_23 : decode cX11_takes 23 = .ok (.iconst 1, 1) := dk_4 (dk_at dksX11_takes_0 23 rfl rfl)
theorem dX11_takes_24 : decode cX11_takes 24 = .ok (.if_icmp .ne 8, 3) := dk_160 0 8 (dk_at dksX11_takes_1 0 rfl rfl)
theorem dX11_takes_27 : decode cX11_takes 27 = .ok (.iload 4, 2) := dk_21 4 (dk_at dksX11_takes_1 3 rfl rfl)
theorem dX11_takes_29 : decode cX11_takes 29 = .ok (.goto 10, 3) := dk_167 0 10 (dk_at dksX11_takes_1 5 rfl rfl)
theorem dX11_takes_32 : decode cX11_takes 32 = .ok (.aload_n 0, 1) := dk_42 (dk_at dksX11_takes_1 8 rfl rfl)
theorem dX11_takes_33 : decode cX11_takes 33 = .ok (.iload_n 1, 1) := dk_27 (dk_at dksX11_takes_1 9 rfl rfl)
theorem dX11_takes_34 : decode cX11_takes 34 = .ok (.iload_n 2, 1) := dk_28 (dk_at dksX11_takes_1 10 rfl rfl)
theorem dX11_takes_35 : decode cX11_takes 35 = .ok (.iload_n 3, 1) := dk_29 (dk_at dksX11_takes_1 11 rfl rfl)
theorem dX11_takes_36 : decode cX11_takes 36 = .ok (.invokespecial 29, 3) := dk_183 0 29 (dk_at dksX11_takes_1 12 rfl rfl)
theorem dX11_takes_39 : decode cX11_takes 39 = .ok (.ireturn, 1) := dk_172 (dk_at dksX11_takes_1 15 rfl rfl)
theorem q147 : (Jvm.Cond.initialized "GlassLeaders$Planned") ∈ lw_all := lw_g (lw_at lw_m1 14 rfl) rfl
theorem q310 : (Jvm.Cond.fieldLinkNest "GlassLeaders$Planned" (19 : Nat) "GlassLeaders$State" "plan" "[I" "GlassLeaders") ∈ lw_tbl := lw_at lw_m1 177 rfl
theorem q433 : (Jvm.Cond.instantiable "GlassLeaders$Planned" (2 : Nat)) ∈ lw_all := lw_g (lw_at lw_m2 60 rfl) rfl
theorem q435 : (Jvm.Cond.instanceMethod ({ cls := "GlassLeaders$Planned", name := "<init>", desc := "(LGlassLeaders;)V" } : Jvm.MethodName)) ∈ lw_all := lw_g (lw_at lw_m2 62 rfl) rfl
theorem q436 : (Jvm.Cond.code ({ cls := "GlassLeaders$Planned", name := "<init>", desc := "(LGlassLeaders;)V" } : Jvm.MethodName) prog_18_method_1_code (2 : Nat) (Option.none : Option Jvm.ClassFile.FieldType)) ∈ lw_all := lw_g (lw_at lw_m2 63 rfl) rfl
theorem q437 : (Jvm.Cond.methodLinkNest "GlassLeaders$Planned" (7 : Nat) ({ cls := "GlassLeaders$Spend", name := "<init>", desc := "(LGlassLeaders;)V" } : Jvm.MethodName) "GlassLeaders") ∈ lw_tbl := lw_at lw_m2 64 rfl
theorem q438 : (Jvm.Cond.fieldLink "GlassLeaders$Planned" (1 : Nat) "GlassLeaders$Planned" "this$0" "LGlassLeaders;") ∈ lw_all := lw_g (lw_at lw_m2 65 rfl) rfl
theorem q439 : (Jvm.Cond.laysFinal "GlassLeaders$Planned" "GlassLeaders$Planned" "this$0" "LGlassLeaders;") ∈ lw_all := lw_g (lw_at lw_m2 66 rfl) rfl
theorem q440 : (Jvm.Cond.soleField "GlassLeaders$Planned" "this$0") ∈ lw_all := lw_g (lw_at lw_m2 67 rfl) rfl
theorem q441 : (Jvm.Cond.laysFinal "GlassLeaders$Planned" "GlassLeaders$Spend" "this$0" "LGlassLeaders;") ∈ lw_all := lw_g (lw_at lw_m2 68 rfl) rfl
theorem q442 : (Jvm.Cond.superclass "GlassLeaders$Planned" "GlassLeaders$Spend") ∈ lw_all := lw_g (lw_at lw_m2 69 rfl) rfl
theorem q456 : (Jvm.Cond.fieldLinkNest "GlassLeaders$Planned" (13 : Nat) "GlassLeaders" "now" "LGlassLeaders$State;" "GlassLeaders") ∈ lw_tbl := lw_at lw_m2 83 rfl
theorem q645 : (Jvm.Cond.selects "GlassLeaders$Planned" ({ cls := "java/lang/Object", name := "getClass", desc := "()Ljava/lang/Class;" } : Jvm.MethodName) ({ cls := "java/lang/Object", name := "getClass", desc := "()Ljava/lang/Class;" } : Jvm.MethodName)) ∈ lw_all := lw_g (lw_at lw_m3 32 rfl) rfl
theorem q1591 : (Jvm.Cond.castable "GlassLeaders$Planned" "GlassLeaders$Leader") ∈ lw_tbl := lw_at lw_m7 18 rfl
theorem q1592 : (Jvm.Cond.selects "GlassLeaders$Planned" ({ cls := "GlassLeaders$Leader", name := "takes", desc := "(III)I" } : Jvm.MethodName) ({ cls := "GlassLeaders$Planned", name := "takes", desc := "(III)I" } : Jvm.MethodName)) ∈ lw_all := lw_g (lw_at lw_m7 19 rfl) rfl
theorem q1593 : (Jvm.Cond.unhidden "GlassLeaders$Planned" "takes" "(III)I") ∈ lw_tbl := lw_at lw_m7 20 rfl
theorem q1594 : (Jvm.Cond.instanceMethod ({ cls := "GlassLeaders$Planned", name := "takes", desc := "(III)I" } : Jvm.MethodName)) ∈ lw_all := lw_g (lw_at lw_m7 21 rfl) rfl
theorem q1595 : (Jvm.Cond.publicMethod ({ cls := "GlassLeaders$Planned", name := "takes", desc := "(III)I" } : Jvm.MethodName)) ∈ lw_tbl := lw_at lw_m7 22 rfl
theorem q1596 : (Jvm.Cond.code ({ cls := "GlassLeaders$Planned", name := "takes", desc := "(III)I" } : Jvm.MethodName) prog_18_method_2_code (5 : Nat) (Option.some Jvm.ClassFile.FieldType.int)) ∈ lw_all := lw_g (lw_at lw_m7 23 rfl) rfl
theorem q1597 : (Jvm.Cond.methodLinkNest "GlassLeaders$Planned" (25 : Nat) ({ cls := "GlassLeaders", name := "hourOf", desc := "(I)I" } : Jvm.MethodName) "GlassLeaders") ∈ lw_tbl := lw_at lw_m7 24 rfl
theorem q1598 : (Jvm.Cond.methodLink "GlassLeaders$Planned" (29 : Nat) ({ cls := "GlassLeaders$Spend", name := "takes", desc := "(III)I" } : Jvm.MethodName)) ∈ lw_all := lw_g (lw_at lw_m7 25 rfl) rfl
theorem q1602 : (Jvm.Cond.unhidden "GlassLeaders$Planned" "firstOf" "(I)I") ∈ lw_tbl := lw_at lw_m7 29 rfl
theorem q2869 : (Jvm.Cond.castable "GlassLeaders$Planned" "java/lang/Object") ∈ lw_tbl := lw_at lw_m12 96 rfl
theorem in_X11 : ∀ w ∈ wsX110, w ∈ lw_all := lw_in wsX110 [441, 439] (by decide +kernel) (by decide +kernel)
/-! GlassLeaders$Bytes -/
set_option maxRecDepth 100000
def RX13 : String := "GlassLeaders$Bytes"
abbrev cX13_init : ByteArray := prog_5_method_1_code
def yX13_init : MethodName := ⟨RX13, "<init>", "([BI)V"⟩
def dkwX13_init_0 : List UInt8 := [42, 183, 0, 3, 42, 43, 181, 0, 9, 42, 28, 181, 0, 15, 177]
abbrev dktX13_init_0 : List UInt8 := dkwX13_init_0 ++ []
theorem dksX13_init_0 : cX13_init.data.toList.drop 0 = dktX13_init_0 := by decide +kernel
theorem dX13_init_0 : decode cX13_init 0 = .ok (.aload_n 0, 1) := dk_42 (dk_at dksX13_init_0 0 rfl rfl)
theorem dX13_init_1 : decode cX13_init 1 = .ok (.invokespecial 3, 3) := dk_183 0 3 (dk_at dksX13_init_0 1 rfl rfl)
theorem dX13_init_4 : decode cX13_init 4 = .ok (.aload_n 0, 1) := dk_42 (dk_at dksX13_init_0 4 rfl rfl)
theorem dX13_init_5 : decode cX13_init 5 = .ok (.aload_n 1, 1) := dk_43 (dk_at dksX13_init_0 5 rfl rfl)
theorem dX13_init_6 : decode cX13_init 6 = .ok (.putfield 9, 3) := dk_181 0 9 (dk_at dksX13_init_0 6 rfl rfl)
theorem dX13_init_9 : decode cX13_init 9 = .ok (.aload_n 0, 1) := dk_42 (dk_at dksX13_init_0 9 rfl rfl)
theorem dX13_init_10 : decode cX13_init 10 = .ok (.iload_n 2, 1) := dk_28 (dk_at dksX13_init_0 10 rfl rfl)
theorem dX13_init_11 : decode cX13_init 11 = .ok (.putfield 15, 3) := dk_181 0 15 (dk_at dksX13_init_0 11 rfl rfl)
theorem dX13_init_14 : decode cX13_init 14 = .ok (.return_, 1) := dk_177 (dk_at dksX13_init_0 14 rfl rfl)
abbrev cX13_now : ByteArray := prog_5_method_9_code
def yX13_now : MethodName := ⟨RX13, "now", "()I"⟩
def dkwX13_now_2 : List UInt8 := [162, 0, 19, 42, 180, 0, 9, 42, 180, 0, 19, 51, 17, 0, 255, 126, 167, 0, 4, 2, 172]
abbrev dktX13_now_2 : List UInt8 := dkwX13_now_2 ++ []
def dkwX13_now_1 : List UInt8 := [160, 0, 16, 42, 89, 180, 0, 19, 4, 96, 181, 0, 19, 167, 255, 221, 42, 180, 0, 19, 42, 180, 0, 15]
abbrev dktX13_now_1 : List UInt8 := dkwX13_now_1 ++ dktX13_now_2
def dkwX13_now_0 : List UInt8 := [42, 180, 0, 19, 42, 180, 0, 15, 162, 0, 30, 42, 180, 0, 9, 42, 180, 0, 19, 51, 16, 32]
abbrev dktX13_now_0 : List UInt8 := dkwX13_now_0 ++ dktX13_now_1
theorem dksX13_now_0 : cX13_now.data.toList.drop 0 = dktX13_now_0 := by decide +kernel
theorem dksX13_now_1 : cX13_now.data.toList.drop 22 = dktX13_now_1 := dk_seg dksX13_now_0 22 rfl rfl
theorem dksX13_now_2 : cX13_now.data.toList.drop 46 = dktX13_now_2 := dk_seg dksX13_now_1 24 rfl rfl
theorem dX13_now_0 : decode cX13_now 0 = .ok (.aload_n 0, 1) := dk_42 (dk_at dksX13_now_0 0 rfl rfl)
theorem dX13_now_1 : decode cX13_now 1 = .ok (.getfield 19, 3) := dk_180 0 19 (dk_at dksX13_now_0 1 rfl rfl)
theorem dX13_now_4 : decode cX13_now 4 = .ok (.aload_n 0, 1) := dk_42 (dk_at dksX13_now_0 4 rfl rfl)
theorem dX13_now_5 : decode cX13_now 5 = .ok (.getfield 15, 3) := dk_180 0 15 (dk_at dksX13_now_0 5 rfl rfl)
theorem dX13_now_8 : decode cX13_now 8 = .ok (.if_icmp .ge 30, 3) := dk_162 0 30 (dk_at dksX13_now_0 8 rfl rfl)
theorem dX13_now_11 : decode cX13_now 11 = .ok (.aload_n 0, 1) := dk_42 (dk_at dksX13_now_0 11 rfl rfl)
theorem dX13_now_12 : decode cX13_now 12 = .ok (.getfield 9, 3) := dk_180 0 9 (dk_at dksX13_now_0 12 rfl rfl)
theorem dX13_now_15 : decode cX13_now 15 = .ok (.aload_n 0, 1) := dk_42 (dk_at dksX13_now_0 15 rfl rfl)
theorem dX13_now_16 : decode cX13_now 16 = .ok (.getfield 19, 3) := dk_180 0 19 (dk_at dksX13_now_0 16 rfl rfl)
theorem dX13_now_19 : decode cX13_now 19 = .ok (.baload, 1) := dk_51 (dk_at dksX13_now_0 19 rfl rfl)
theorem dX13_now_20 : decode cX13_now 20 = .ok (.bipush 32, 2) := dk_16 32 (dk_at dksX13_now_0 20 rfl rfl)
theorem dX13_now_22 : decode cX13_now 22 = .ok (.if_icmp .ne 16, 3) := dk_160 0 16 (dk_at dksX13_now_1 0 rfl rfl)
theorem dX13_now_25 : decode cX13_now 25 = .ok (.aload_n 0, 1) := dk_42 (dk_at dksX13_now_1 3 rfl rfl)
theorem dX13_now_26 : decode cX13_now 26 = .ok (.dup, 1) := dk_89 (dk_at dksX13_now_1 4 rfl rfl)
theorem dX13_now_27 : decode cX13_now 27 = .ok (.getfield 19, 3) := dk_180 0 19 (dk_at dksX13_now_1 5 rfl rfl)
theorem dX13_now_30 : decode cX13_now 30 = .ok (.iconst 1, 1) := dk_4 (dk_at dksX13_now_1 8 rfl rfl)
theorem dX13_now_31 : decode cX13_now 31 = .ok (.iadd, 1) := dk_96 (dk_at dksX13_now_1 9 rfl rfl)
theorem dX13_now_32 : decode cX13_now 32 = .ok (.putfield 19, 3) := dk_181 0 19 (dk_at dksX13_now_1 10 rfl rfl)
theorem dX13_now_35 : decode cX13_now 35 = .ok (.goto (-35), 3) := dk_167 255 221 (dk_at dksX13_now_1 13 rfl rfl)
theorem dX13_now_38 : decode cX13_now 38 = .ok (.aload_n 0, 1) := dk_42 (dk_at dksX13_now_1 16 rfl rfl)
theorem dX13_now_39 : decode cX13_now 39 = .ok (.getfield 19, 3) := dk_180 0 19 (dk_at dksX13_now_1 17 rfl rfl)
theorem dX13_now_42 : decode cX13_now 42 = .ok (.aload_n 0, 1) := dk_42 (dk_at dksX13_now_1 20 rfl rfl)
theorem dX13_now_43 : decode cX13_now 43 = .ok (.getfield 15, 3) := dk_180 0 15 (dk_at dksX13_now_1 21 rfl rfl)
theorem dX13_now_46 : decode cX13_now 46 = .ok (.if_icmp .ge 19, 3) := dk_162 0 19 (dk_at dksX13_now_2 0 rfl rfl)
theorem dX13_now_49 : decode cX13_now 49 = .ok (.aload_n 0, 1) := dk_42 (dk_at dksX13_now_2 3 rfl rfl)
theorem dX13_now_50 : decode cX13_now 50 = .ok (.getfield 9, 3) := dk_180 0 9 (dk_at dksX13_now_2 4 rfl rfl)
theorem dX13_now_53 : decode cX13_now 53 = .ok (.aload_n 0, 1) := dk_42 (dk_at dksX13_now_2 7 rfl rfl)
theorem dX13_now_54 : decode cX13_now 54 = .ok (.getfield 19, 3) := dk_180 0 19 (dk_at dksX13_now_2 8 rfl rfl)
theorem dX13_now_57 : decode cX13_now 57 = .ok (.baload, 1) := dk_51 (dk_at dksX13_now_2 11 rfl rfl)
theorem dX13_now_58 : decode cX13_now 58 = .ok (.sipush 255, 3) := dk_17 0 255 (dk_at dksX13_now_2 12 rfl rfl)
theorem dX13_now_61 : decode cX13_now 61 = .ok (.iand, 1) := dk_126 (dk_at dksX13_now_2 15 rfl rfl)
theorem dX13_now_62 : decode cX13_now 62 = .ok (.goto 4, 3) := dk_167 0 4 (dk_at dksX13_now_2 16 rfl rfl)
theorem dX13_now_65 : decode cX13_now 65 = .ok (.iconst (-1), 1) := dk_2 (dk_at dksX13_now_2 19 rfl rfl)
theorem dX13_now_66 : decode cX13_now 66 = .ok (.ireturn, 1) := dk_172 (dk_at dksX13_now_2 20 rfl rfl)
abbrev cX13_which : ByteArray := prog_5_method_13_code
def yX13_which : MethodName := ⟨RX13, "which", "([Ljava/lang/String;)I"⟩
def dkwX13_which_1 : List UInt8 := [167, 255, 235, 2, 172]
abbrev dktX13_which_1 : List UInt8 := dkwX13_which_1 ++ []
def dkwX13_which_0 : List UInt8 := [3, 61, 28, 43, 190, 162, 0, 21, 42, 43, 28, 50, 182, 0, 59, 153, 0, 5, 28, 172, 132, 2, 1]
abbrev dktX13_which_0 : List UInt8 := dkwX13_which_0 ++ dktX13_which_1
theorem dksX13_which_0 : cX13_which.data.toList.drop 0 = dktX13_which_0 := by decide +kernel
theorem dksX13_which_1 : cX13_which.data.toList.drop 23 = dktX13_which_1 := dk_seg dksX13_which_0 23 rfl rfl
theorem dX13_which_0 : decode cX13_which 0 = .ok (.iconst 0, 1) := dk_3 (dk_at dksX13_which_0 0 rfl rfl)
theorem dX13_which_1 : decode cX13_which 1 = .ok (.istore_n 2, 1) := dk_61 (dk_at dksX13_which_0 1 rfl rfl)
theorem dX13_which_2 : decode cX13_which 2 = .ok (.iload_n 2, 1) := dk_28 (dk_at dksX13_which_0 2 rfl rfl)
theorem dX13_which_3 : decode cX13_which 3 = .ok (.aload_n 1, 1) := dk_43 (dk_at dksX13_which_0 3 rfl rfl)
theorem dX13_which_4 : decode cX13_which 4 = .ok (.arraylength, 1) := dk_190 (dk_at dksX13_which_0 4 rfl rfl)
theorem dX13_which_5 : decode cX13_which 5 = .ok (.if_icmp .ge 21, 3) := dk_162 0 21 (dk_at dksX13_which_0 5 rfl rfl)
theorem dX13_which_8 : decode cX13_which 8 = .ok (.aload_n 0, 1) := dk_42 (dk_at dksX13_which_0 8 rfl rfl)
theorem dX13_which_9 : decode cX13_which 9 = .ok (.aload_n 1, 1) := dk_43 (dk_at dksX13_which_0 9 rfl rfl)
theorem dX13_which_10 : decode cX13_which 10 = .ok (.iload_n 2, 1) := dk_28 (dk_at dksX13_which_0 10 rfl rfl)
theorem dX13_which_11 : decode cX13_which 11 = .ok (.aaload, 1) := dk_50 (dk_at dksX13_which_0 11 rfl rfl)
theorem dX13_which_12 : decode cX13_which 12 = .ok (.invokevirtual 59, 3) := dk_182 0 59 (dk_at dksX13_which_0 12 rfl rfl)
theorem dX13_which_15 : decode cX13_which 15 = .ok (.ifCond .eq 5, 3) := dk_153 0 5 (dk_at dksX13_which_0 15 rfl rfl)
theorem dX13_which_18 : decode cX13_which 18 = .ok (.iload_n 2, 1) := dk_28 (dk_at dksX13_which_0 18 rfl rfl)
theorem dX13_which_19 : decode cX13_which 19 = .ok (.ireturn, 1) := dk_172 (dk_at dksX13_which_0 19 rfl rfl)
theorem dX13_which_20 : decode cX13_which 20 = .ok (.iinc 2 1, 3) := dk_132 2 1 (dk_at dksX13_which_0 20 rfl rfl)
theorem dX13_which_23 : decode cX13_which 23 = .ok (.goto (-21), 3) := dk_167 255 235 (dk_at dksX13_which_1 0 rfl rfl)
theorem dX13_which_26 : decode cX13_which 26 = .ok (.iconst (-1), 1) := dk_2 (dk_at dksX13_which_1 3 rfl rfl)
theorem dX13_which_27 : decode cX13_which 27 = .ok (.ireturn, 1) := dk_172 (dk_at dksX13_which_1 4 rfl rfl)
abbrev cX13_isWord : ByteArray := prog_5_method_11_code
def yX13_isWord : MethodName := ⟨RX13, "isWord", "(Ljava/lang/String;)Z"⟩
def dkwX13_isWord_3 : List UInt8 := [160, 0, 7, 4, 167, 0, 4, 3, 61, 132, 3, 1, 167, 255, 203, 28, 172]
abbrev dktX13_isWord_3 : List UInt8 := dkwX13_isWord_3 ++ []
def dkwX13_isWord_2 : List UInt8 := [96, 42, 180, 0, 15, 162, 0, 26, 42, 180, 0, 9, 42, 180, 0, 19, 29, 96, 51, 43, 29, 182, 0, 55]
abbrev dktX13_isWord_2 : List UInt8 := dkwX13_isWord_2 ++ dktX13_isWord_3
def dkwX13_isWord_1 : List UInt8 := [167, 0, 4, 3, 61, 3, 62, 29, 43, 182, 0, 46, 162, 0, 51, 28, 153, 0, 47, 42, 180, 0, 19, 29]
abbrev dktX13_isWord_1 : List UInt8 := dkwX13_isWord_1 ++ dktX13_isWord_2
def dkwX13_isWord_0 : List UInt8 := [42, 182, 0, 22, 87, 42, 42, 180, 0, 19, 43, 182, 0, 46, 96, 182, 0, 51, 154, 0, 7, 4]
abbrev dktX13_isWord_0 : List UInt8 := dkwX13_isWord_0 ++ dktX13_isWord_1
theorem dksX13_isWord_0 : cX13_isWord.data.toList.drop 0 = dktX13_isWord_0 := by decide +kernel
theorem dksX13_isWord_1 : cX13_isWord.data.toList.drop 22 = dktX13_isWord_1 := dk_seg dksX13_isWord_0 22 rfl rfl
theorem dksX13_isWord_2 : cX13_isWord.data.toList.drop 46 = dktX13_isWord_2 := dk_seg dksX13_isWord_1 24 rfl rfl
theorem dksX13_isWord_3 : cX13_isWord.data.toList.drop 70 = dktX13_isWord_3 := dk_seg dksX13_isWord_2 24 rfl rfl
theorem dX13_isWord_0 : decode cX13_isWord 0 = .ok (.aload_n 0, 1) := dk_42 (dk_at dksX13_isWord_0 0 rfl rfl)
theorem dX13_isWord_1 : decode cX13_isWord 1 = .ok (.invokevirtual 22, 3) := dk_182 0 22 (dk_at dksX13_isWord_0 1 rfl rfl)
theorem dX13_isWord_4 : decode cX13_isWord 4 = .ok (.pop, 1) := dk_87 (dk_at dksX13_isWord_0 4 rfl rfl)
theorem dX13_isWord_5 : decode cX13_isWord 5 = .ok (.aload_n 0, 1) := dk_42 (dk_at dksX13_isWord_0 5 rfl rfl)
theorem dX13_isWord_6 : decode cX13_isWord 6 = .ok (.aload_n 0, 1) := dk_42 (dk_at dksX13_isWord_0 6 rfl rfl)
theorem dX13_isWord_7 : decode cX13_isWord 7 = .ok (.getfield 19, 3) := dk_180 0 19 (dk_at dksX13_isWord_0 7 rfl rfl)
theorem dX13_isWord_10 : decode cX13_isWord 10 = .ok (.aload_n 1, 1) := dk_43 (dk_at dksX13_isWord_0 10 rfl rfl)
theorem dX13_isWord_11 : decode cX13_isWord 11 = .ok (.invokevirtual 46, 3) := dk_182 0 46 (dk_at dksX13_isWord_0 11 rfl rfl)
theorem dX13_isWord_14 : decode cX13_isWord 14 = .ok (.iadd, 1) := dk_96 (dk_at dksX13_isWord_0 14 rfl rfl)
theorem dX13_isWord_15 : decode cX13_isWord 15 = .ok (.invokevirtual 51, 3) := dk_182 0 51 (dk_at dksX13_isWord_0 15 rfl rfl)
theorem dX13_isWord_18 : decode cX13_isWord 18 = .ok (.ifCond .ne 7, 3) := dk_154 0 7 (dk_at dksX13_isWord_0 18 rfl rfl)
theorem dX13_isWord_21 : decode cX13_isWord 21 = .ok (.iconst 1, 1) := dk_4 (dk_at dksX13_isWord_0 21 rfl rfl)
theorem dX13_isWord_22 : decode cX13_isWord 22 = .ok (.goto 4, 3) := dk_167 0 4 (dk_at dksX13_isWord_1 0 rfl rfl)
theorem dX13_isWord_25 : decode cX13_isWord 25 = .ok (.iconst 0, 1) := dk_3 (dk_at dksX13_isWord_1 3 rfl rfl)
theorem dX13_isWord_26 : decode cX13_isWord 26 = .ok (.istore_n 2, 1) := dk_61 (dk_at dksX13_isWord_1 4 rfl rfl)
theorem dX13_isWord_27 : decode cX13_isWord 27 = .ok (.iconst 0, 1) := dk_3 (dk_at dksX13_isWord_1 5 rfl rfl)
theorem dX13_isWord_28 : decode cX13_isWord 28 = .ok (.istore_n 3, 1) := dk_62 (dk_at dksX13_isWord_1 6 rfl rfl)
theorem dX13_isWord_29 : decode cX13_isWord 29 = .ok (.iload_n 3, 1) := dk_29 (dk_at dksX13_isWord_1 7 rfl rfl)
theorem dX13_isWord_30 : decode cX13_isWord 30 = .ok (.aload_n 1, 1) := dk_43 (dk_at dksX13_isWord_1 8 rfl rfl)
theorem dX13_isWord_31 : decode cX13_isWord 31 = .ok (.invokevirtual 46, 3) := dk_182 0 46 (dk_at dksX13_isWord_1 9 rfl rfl)
theorem dX13_isWord_34 : decode cX13_isWord 34 = .ok (.if_icmp .ge 51, 3) := dk_162 0 51 (dk_at dksX13_isWord_1 12 rfl rfl)
theorem dX13_isWord_37 : decode cX13_isWord 37 = .ok (.iload_n 2, 1) := dk_28 (dk_at dksX13_isWord_1 15 rfl rfl)
theorem dX13_isWord_38 : decode cX13_isWord 38 = .ok (.ifCond .eq 47, 3) := dk_153 0 47 (dk_at dksX13_isWord_1 16 rfl rfl)
theorem dX13_isWord_41 : decode cX13_isWord 41 = .ok (.aload_n 0, 1) := dk_42 (dk_at dksX13_isWord_1 19 rfl rfl)
theorem dX13_isWord_42 : decode cX13_isWord 42 = .ok (.getfield 19, 3) := dk_180 0 19 (dk_at dksX13_isWord_1 20 rfl rfl)
theorem dX13_isWord_45 : decode cX13_isWord 45 = .ok (.iload_n 3, 1) := dk_29 (dk_at dksX13_isWord_1 23 rfl rfl)
theorem dX13_isWord_46 : decode cX13_isWord 46 = .ok (.iadd, 1) := dk_96 (dk_at dksX13_isWord_2 0 rfl rfl)
theorem dX13_isWord_47 : decode cX13_isWord 47 = .ok (.aload_n 0, 1) := dk_42 (dk_at dksX13_isWord_2 1 rfl rfl)
theorem dX13_isWord_48 : decode cX13_isWord 48 = .ok (.getfield 15, 3) := dk_180 0 15 (dk_at dksX13_isWord_2 2 rfl rfl)
theorem dX13_isWord_51 : decode cX13_isWord 51 = .ok (.if_icmp .ge 26, 3) := dk_162 0 26 (dk_at dksX13_isWord_2 5 rfl rfl)
theorem dX13_isWord_54 : decode cX13_isWord 54 = .ok (.aload_n 0, 1) := dk_42 (dk_at dksX13_isWord_2 8 rfl rfl)
theorem dX13_isWord_55 : decode cX13_isWord 55 = .ok (.getfield 9, 3) := dk_180 0 9 (dk_at dksX13_isWord_2 9 rfl rfl)
theorem dX13_isWord_58 : decode cX13_isWord 58 = .ok (.aload_n 0, 1) := dk_42 (dk_at dksX13_isWord_2 12 rfl rfl)
theorem dX13_isWord_59 : decode cX13_isWord 59 = .ok (.getfield 19, 3) := dk_180 0 19 (dk_at dksX13_isWord_2 13 rfl rfl)
theorem dX13_isWord_62 : decode cX13_isWord 62 = .ok (.iload_n 3, 1) := dk_29 (dk_at dksX13_isWord_2 16 rfl rfl)
theorem dX13_isWord_63 : decode cX13_isWord 63 = .ok (.iadd, 1) := dk_96 (dk_at dksX13_isWord_2 17 rfl rfl)
theorem dX13_isWord_64 : decode cX13_isWord 64 = .ok (.baload, 1) := dk_51 (dk_at dksX13_isWord_2 18 rfl rfl)
theorem dX13_isWord_65 : decode cX13_isWord 65 = .ok (.aload_n 1, 1) := dk_43 (dk_at dksX13_isWord_2 19 rfl rfl)
theorem dX13_isWord_66 : decode cX13_isWord 66 = .ok (.iload_n 3, 1) := dk_29 (dk_at dksX13_isWord_2 20 rfl rfl)
theorem dX13_isWord_67 : decode cX13_isWord 67 = .ok (.invokevirtual 55, 3) := dk_182 0 55 (dk_at dksX13_isWord_2 21 rfl rfl)
theorem dX13_isWord_70 : decode cX13_isWord 70 = .ok (.if_icmp .ne 7, 3) := dk_160 0 7 (dk_at dksX13_isWord_3 0 rfl rfl)
theorem dX13_isWord_73 : decode cX13_isWord 73 = .ok (.iconst 1, 1) := dk_4 (dk_at dksX13_isWord_3 3 rfl rfl)
theorem dX13_isWord_74 : decode cX13_isWord 74 = .ok (.goto 4, 3) := dk_167 0 4 (dk_at dksX13_isWord_3 4 rfl rfl)
theorem dX13_isWord_77 : decode cX13_isWord 77 = .ok (.iconst 0, 1) := dk_3 (dk_at dksX13_isWord_3 7 rfl rfl)
theorem dX13_isWord_78 : decode cX13_isWord 78 = .ok (.istore_n 2, 1) := dk_61 (dk_at dksX13_isWord_3 8 rfl rfl)
theorem dX13_isWord_79 : decode cX13_isWord 79 = .ok (.iinc 3 1, 3) := dk_132 3 1 (dk_at dksX13_isWord_3 9 rfl rfl)
theorem dX13_isWord_82 : decode cX13_isWord 82 = .ok (.goto (-53), 3) := dk_167 255 203 (dk_at dksX13_isWord_3 12 rfl rfl)
theorem dX13_isWord_85 : decode cX13_isWord 85 = .ok (.iload_n 2, 1) := dk_28 (dk_at dksX13_isWord_3 15 rfl rfl)
theorem dX13_isWord_86 : decode cX13_isWord 86 = .ok (.ireturn, 1) := dk_172 (dk_at dksX13_isWord_3 16 rfl rfl)
abbrev cX13_isSmall : ByteArray := prog_5_method_10_code
def yX13_isSmall : MethodName := ⟨RX13, "isSmall", "(I)Z"⟩
def dkwX13_isSmall_1 : List UInt8 := [51, 16, 122, 163, 0, 7, 4, 167, 0, 4, 3, 172]
abbrev dktX13_isSmall_1 : List UInt8 := dkwX13_isSmall_1 ++ []
def dkwX13_isSmall_0 : List UInt8 := [27, 42, 180, 0, 15, 162, 0, 29, 42, 180, 0, 9, 27, 51, 16, 97, 161, 0, 18, 42, 180, 0, 9, 27]
abbrev dktX13_isSmall_0 : List UInt8 := dkwX13_isSmall_0 ++ dktX13_isSmall_1
theorem dksX13_isSmall_0 : cX13_isSmall.data.toList.drop 0 = dktX13_isSmall_0 := by decide +kernel
theorem dksX13_isSmall_1 : cX13_isSmall.data.toList.drop 24 = dktX13_isSmall_1 := dk_seg dksX13_isSmall_0 24 rfl rfl
theorem dX13_isSmall_0 : decode cX13_isSmall 0 = .ok (.iload_n 1, 1) := dk_27 (dk_at dksX13_isSmall_0 0 rfl rfl)
theorem dX13_isSmall_1 : decode cX13_isSmall 1 = .ok (.aload_n 0, 1) := dk_42 (dk_at dksX13_isSmall_0 1 rfl rfl)
theorem dX13_isSmall_2 : decode cX13_isSmall 2 = .ok (.getfield 15, 3) := dk_180 0 15 (dk_at dksX13_isSmall_0 2 rfl rfl)
theorem dX13_isSmall_5 : decode cX13_isSmall 5 = .ok (.if_icmp .ge 29, 3) := dk_162 0 29 (dk_at dksX13_isSmall_0 5 rfl rfl)
theorem dX13_isSmall_8 : decode cX13_isSmall 8 = .ok (.aload_n 0, 1) := dk_42 (dk_at dksX13_isSmall_0 8 rfl rfl)
theorem dX13_isSmall_9 : decode cX13_isSmall 9 = .ok (.getfield 9, 3) := dk_180 0 9 (dk_at dksX13_isSmall_0 9 rfl rfl)
theorem dX13_isSmall_12 : decode cX13_isSmall 12 = .ok (.iload_n 1, 1) := dk_27 (dk_at dksX13_isSmall_0 12 rfl rfl)
theorem dX13_isSmall_13 : decode cX13_isSmall 13 = .ok (.baload, 1) := dk_51 (dk_at dksX13_isSmall_0 13 rfl rfl)
theorem dX13_isSmall_14 : decode cX13_isSmall 14 = .ok (.bipush 97, 2) := dk_16 97 (dk_at dksX13_isSmall_0 14 rfl rfl)
theorem dX13_isSmall_16 : decode cX13_isSmall 16 = .ok (.if_icmp .lt 18, 3) := dk_161 0 18 (dk_at dksX13_isSmall_0 16 rfl rfl)
theorem dX13_isSmall_19 : decode cX13_isSmall 19 = .ok (.aload_n 0, 1) := dk_42 (dk_at dksX13_isSmall_0 19 rfl rfl)
theorem dX13_isSmall_20 : decode cX13_isSmall 20 = .ok (.getfield 9, 3) := dk_180 0 9 (dk_at dksX13_isSmall_0 20 rfl rfl)
theorem dX13_isSmall_23 : decode cX13_isSmall 23 = .ok (.iload_n 1, 1) := dk_27 (dk_at dksX13_isSmall_0 23 rfl rfl)
theorem dX13_isSmall_24 : decode cX13_isSmall 24 = .ok (.baload, 1) := dk_51 (dk_at dksX13_isSmall_1 0 rfl rfl)
theorem dX13_isSmall_25 : decode cX13_isSmall 25 = .ok (.bipush 122, 2) := dk_16 122 (dk_at dksX13_isSmall_1 1 rfl rfl)
theorem dX13_isSmall_27 : decode cX13_isSmall 27 = .ok (.if_icmp .gt 7, 3) := dk_163 0 7 (dk_at dksX13_isSmall_1 3 rfl rfl)
theorem dX13_isSmall_30 : decode cX13_isSmall 30 = .ok (.iconst 1, 1) := dk_4 (dk_at dksX13_isSmall_1 6 rfl rfl)
theorem dX13_isSmall_31 : decode cX13_isSmall 31 = .ok (.goto 4, 3) := dk_167 0 4 (dk_at dksX13_isSmall_1 7 rfl rfl)
theorem dX13_isSmall_34 : decode cX13_isSmall 34 = .ok (.iconst 0, 1) := dk_3 (dk_at dksX13_isSmall_1 10 rfl rfl)
theorem dX13_isSmall_35 : decode cX13_isSmall 35 = .ok (.ireturn, 1) := dk_172 (dk_at dksX13_isSmall_1 11 rfl rfl)
abbrev cX13_right : ByteArray := prog_5_method_5_code
def yX13_right : MethodName := ⟨RX13, "right", "(Z)V"⟩
def dkwX13_right_0 : List UInt8 := [27, 154, 0, 16, 187, 0, 41, 89, 4, 42, 180, 0, 19, 183, 0, 43, 191, 177]
abbrev dktX13_right_0 : List UInt8 := dkwX13_right_0 ++ []
theorem dksX13_right_0 : cX13_right.data.toList.drop 0 = dktX13_right_0 := by decide +kernel
theorem dX13_right_0 : decode cX13_right 0 = .ok (.iload_n 1, 1) := dk_27 (dk_at dksX13_right_0 0 rfl rfl)
theorem dX13_right_1 : decode cX13_right 1 = .ok (.ifCond .ne 16, 3) := dk_154 0 16 (dk_at dksX13_right_0 1 rfl rfl)
theorem dX13_right_4 : decode cX13_right 4 = .ok (.new 41, 3) := dk_187 0 41 (dk_at dksX13_right_0 4 rfl rfl)
theorem dX13_right_7 : decode cX13_right 7 = .ok (.dup, 1) := dk_89 (dk_at dksX13_right_0 7 rfl rfl)
theorem dX13_right_8 : decode cX13_right 8 = .ok (.iconst 1, 1) := dk_4 (dk_at dksX13_right_0 8 rfl rfl)
theorem dX13_right_9 : decode cX13_right 9 = .ok (.aload_n 0, 1) := dk_42 (dk_at dksX13_right_0 9 rfl rfl)
theorem dX13_right_10 : decode cX13_right 10 = .ok (.getfield 19, 3) := dk_180 0 19 (dk_at dksX13_right_0 10 rfl rfl)
theorem dX13_right_13 : decode cX13_right 13 = .ok (.invokespecial 43, 3) := dk_183 0 43 (dk_at dksX13_right_0 13 rfl rfl)
theorem dX13_right_16 : decode cX13_right 16 = .ok (.athrow, 1) := dk_191 (dk_at dksX13_right_0 16 rfl rfl)
theorem dX13_right_17 : decode cX13_right 17 = .ok (.return_, 1) := dk_177 (dk_at dksX13_right_0 17 rfl rfl)
abbrev cX13_few : ByteArray := prog_5_method_6_code
def yX13_few : MethodName := ⟨RX13, "few", "(Z)V"⟩
def dkwX13_few_0 : List UInt8 := [27, 154, 0, 16, 187, 0, 41, 89, 6, 42, 180, 0, 19, 183, 0, 43, 191, 177]
abbrev dktX13_few_0 : List UInt8 := dkwX13_few_0 ++ []
theorem dksX13_few_0 : cX13_few.data.toList.drop 0 = dktX13_few_0 := by decide +kernel
theorem dX13_few_0 : decode cX13_few 0 = .ok (.iload_n 1, 1) := dk_27 (dk_at dksX13_few_0 0 rfl rfl)
theorem dX13_few_1 : decode cX13_few 1 = .ok (.ifCond .ne 16, 3) := dk_154 0 16 (dk_at dksX13_few_0 1 rfl rfl)
theorem dX13_few_4 : decode cX13_few 4 = .ok (.new 41, 3) := dk_187 0 41 (dk_at dksX13_few_0 4 rfl rfl)
theorem dX13_few_7 : decode cX13_few 7 = .ok (.dup, 1) := dk_89 (dk_at dksX13_few_0 7 rfl rfl)
theorem dX13_few_8 : decode cX13_few 8 = .ok (.iconst 3, 1) := dk_6 (dk_at dksX13_few_0 8 rfl rfl)
theorem dX13_few_9 : decode cX13_few 9 = .ok (.aload_n 0, 1) := dk_42 (dk_at dksX13_few_0 9 rfl rfl)
theorem dX13_few_10 : decode cX13_few 10 = .ok (.getfield 19, 3) := dk_180 0 19 (dk_at dksX13_few_0 10 rfl rfl)
theorem dX13_few_13 : decode cX13_few 13 = .ok (.invokespecial 43, 3) := dk_183 0 43 (dk_at dksX13_few_0 13 rfl rfl)
theorem dX13_few_16 : decode cX13_few 16 = .ok (.athrow, 1) := dk_191 (dk_at dksX13_few_0 16 rfl rfl)
theorem dX13_few_17 : decode cX13_few 17 = .ok (.return_, 1) := dk_177 (dk_at dksX13_few_0 17 rfl rfl)
abbrev cX13_skip : ByteArray := prog_5_method_7_code
def yX13_skip : MethodName := ⟨RX13, "skip", "(I)V"⟩
def dkwX13_skip_0 : List UInt8 := [42, 89, 180, 0, 19, 27, 96, 181, 0, 19, 177]
abbrev dktX13_skip_0 : List UInt8 := dkwX13_skip_0 ++ []
theorem dksX13_skip_0 : cX13_skip.data.toList.drop 0 = dktX13_skip_0 := by decide +kernel
theorem dX13_skip_0 : decode cX13_skip 0 = .ok (.aload_n 0, 1) := dk_42 (dk_at dksX13_skip_0 0 rfl rfl)
theorem dX13_skip_1 : decode cX13_skip 1 = .ok (.dup, 1) := dk_89 (dk_at dksX13_skip_0 1 rfl rfl)
theorem dX13_skip_2 : decode cX13_skip 2 = .ok (.getfield 19, 3) := dk_180 0 19 (dk_at dksX13_skip_0 2 rfl rfl)
theorem dX13_skip_5 : decode cX13_skip 5 = .ok (.iload_n 1, 1) := dk_27 (dk_at dksX13_skip_0 5 rfl rfl)
theorem dX13_skip_6 : decode cX13_skip 6 = .ok (.iadd, 1) := dk_96 (dk_at dksX13_skip_0 6 rfl rfl)
theorem dX13_skip_7 : decode cX13_skip 7 = .ok (.putfield 19, 3) := dk_181 0 19 (dk_at dksX13_skip_0 7 rfl rfl)
theorem dX13_skip_10 : decode cX13_skip 10 = .ok (.return_, 1) := dk_177 (dk_at dksX13_skip_0 10 rfl rfl)
abbrev cX13_eats : ByteArray := prog_5_method_12_code
def yX13_eats : MethodName := ⟨RX13, "eats", "(Ljava/lang/String;)Z"⟩
def dkwX13_eats_1 : List UInt8 := [181, 0, 19, 28, 172]
abbrev dktX13_eats_1 : List UInt8 := dkwX13_eats_1 ++ []
def dkwX13_eats_0 : List UInt8 := [42, 43, 182, 0, 59, 61, 42, 89, 180, 0, 19, 28, 153, 0, 10, 43, 182, 0, 46, 167, 0, 4, 3, 96]
abbrev dktX13_eats_0 : List UInt8 := dkwX13_eats_0 ++ dktX13_eats_1
theorem dksX13_eats_0 : cX13_eats.data.toList.drop 0 = dktX13_eats_0 := by decide +kernel
theorem dksX13_eats_1 : cX13_eats.data.toList.drop 24 = dktX13_eats_1 := dk_seg dksX13_eats_0 24 rfl rfl
theorem dX13_eats_0 : decode cX13_eats 0 = .ok (.aload_n 0, 1) := dk_42 (dk_at dksX13_eats_0 0 rfl rfl)
theorem dX13_eats_1 : decode cX13_eats 1 = .ok (.aload_n 1, 1) := dk_43 (dk_at dksX13_eats_0 1 rfl rfl)
theorem dX13_eats_2 : decode cX13_eats 2 = .ok (.invokevirtual 59, 3) := dk_182 0 59 (dk_at dksX13_eats_0 2 rfl rfl)
theorem dX13_eats_5 : decode cX13_eats 5 = .ok (.istore_n 2, 1) := dk_61 (dk_at dksX13_eats_0 5 rfl rfl)
theorem dX13_eats_6 : decode cX13_eats 6 = .ok (.aload_n 0, 1) := dk_42 (dk_at dksX13_eats_0 6 rfl rfl)
theorem dX13_eats_7 : decode cX13_eats 7 = .ok (.dup, 1) := dk_89 (dk_at dksX13_eats_0 7 rfl rfl)
theorem dX13_eats_8 : decode cX13_eats 8 = .ok (.getfield 19, 3) := dk_180 0 19 (dk_at dksX13_eats_0 8 rfl rfl)
theorem dX13_eats_11 : decode cX13_eats 11 = .ok (.iload_n 2, 1) := dk_28 (dk_at dksX13_eats_0 11 rfl rfl)
theorem dX13_eats_12 : decode cX13_eats 12 = .ok (.ifCond .eq 10, 3) := dk_153 0 10 (dk_at dksX13_eats_0 12 rfl rfl)
theorem dX13_eats_15 : decode cX13_eats 15 = .ok (.aload_n 1, 1) := dk_43 (dk_at dksX13_eats_0 15 rfl rfl)
theorem dX13_eats_16 : decode cX13_eats 16 = .ok (.invokevirtual 46, 3) := dk_182 0 46 (dk_at dksX13_eats_0 16 rfl rfl)
theorem dX13_eats_19 : decode cX13_eats 19 = .ok (.goto 4, 3) := dk_167 0 4 (dk_at dksX13_eats_0 19 rfl rfl)
theorem dX13_eats_22 : decode cX13_eats 22 = .ok (.iconst 0, 1) := dk_3 (dk_at dksX13_eats_0 22 rfl rfl)
theorem dX13_eats_23 : decode cX13_eats 23 = .ok (.iadd, 1) := dk_96 (dk_at dksX13_eats_0 23 rfl rfl)
theorem dX13_eats_24 : decode cX13_eats 24 = .ok (.putfield 19, 3) := dk_181 0 19 (dk_at dksX13_eats_1 0 rfl rfl)
theorem dX13_eats_27 : decode cX13_eats 27 = .ok (.iload_n 2, 1) := dk_28 (dk_at dksX13_eats_1 3 rfl rfl)
theorem dX13_eats_28 : decode cX13_eats 28 = .ok (.ireturn, 1) := dk_172 (dk_at dksX13_eats_1 4 rfl rfl)
abbrev cX13_number : ByteArray := prog_5_method_3_code
def yX13_number : MethodName := ⟨RX13, "number", "(III)I"⟩
def dkwX13_number_4 : List UInt8 := [21, 5, 29, 160, 0, 14, 187, 0, 41, 89, 5, 21, 4, 183, 0, 43, 191, 21, 5, 172]
abbrev dktX13_number_4 : List UInt8 := dkwX13_number_4 ++ []
def dkwX13_number_3 : List UInt8 := [180, 0, 19, 4, 96, 181, 0, 19, 167, 255, 214, 21, 5, 27, 161, 0, 15, 21, 5, 28, 163, 0, 9]
abbrev dktX13_number_3 : List UInt8 := dkwX13_number_3 ++ dktX13_number_4
def dkwX13_number_2 : List UInt8 := [42, 180, 0, 9, 42, 180, 0, 19, 51, 96, 16, 48, 100, 18, 34, 184, 0, 35, 54, 5, 42, 89]
abbrev dktX13_number_2 : List UInt8 := dkwX13_number_2 ++ dktX13_number_3
def dkwX13_number_1 : List UInt8 := [182, 0, 26, 42, 180, 0, 19, 54, 4, 3, 54, 5, 42, 182, 0, 30, 153, 0, 41, 16, 10, 21, 5, 104]
abbrev dktX13_number_1 : List UInt8 := dkwX13_number_1 ++ dktX13_number_2
def dkwX13_number_0 : List UInt8 := [42, 42, 182, 0, 22, 16, 48, 161, 0, 16, 42, 182, 0, 22, 16, 57, 163, 0, 7, 4, 167, 0, 4, 3]
abbrev dktX13_number_0 : List UInt8 := dkwX13_number_0 ++ dktX13_number_1
theorem dksX13_number_0 : cX13_number.data.toList.drop 0 = dktX13_number_0 := by decide +kernel
theorem dksX13_number_1 : cX13_number.data.toList.drop 24 = dktX13_number_1 := dk_seg dksX13_number_0 24 rfl rfl
theorem dksX13_number_2 : cX13_number.data.toList.drop 48 = dktX13_number_2 := dk_seg dksX13_number_1 24 rfl rfl
theorem dksX13_number_3 : cX13_number.data.toList.drop 70 = dktX13_number_3 := dk_seg dksX13_number_2 22 rfl rfl
theorem dksX13_number_4 : cX13_number.data.toList.drop 93 = dktX13_number_4 := dk_seg dksX13_number_3 23 rfl rfl
theorem dX13_number_0 : decode cX13_number 0 = .ok (.aload_n 0, 1) := dk_42 (dk_at dksX13_number_0 0 rfl rfl)
theorem dX13_number_1 : decode cX13_number 1 = .ok (.aload_n 0, 1) := dk_42 (dk_at dksX13_number_0 1 rfl rfl)
theorem dX13_number_2 : decode cX13_number 2 = .ok (.invokevirtual 22, 3) := dk_182 0 22 (dk_at dksX13_number_0 2 rfl rfl)
theorem dX13_number_5 : decode cX13_number 5 = .ok (.bipush 48, 2) := dk_16 48 (dk_at dksX13_number_0 5 rfl rfl)
theorem dX13_number_7 : decode cX13_number 7 = .ok (.if_icmp .lt 16, 3) := dk_161 0 16 (dk_at dksX13_number_0 7 rfl rfl)
theorem dX13_number_10 : decode cX13_number 10 = .ok (.aload_n 0, 1) := dk_42 (dk_at dksX13_number_0 10 rfl rfl)
theorem dX13_number_11 : decode cX13_number 11 = .ok (.invokevirtual 22, 3) := dk_182 0 22 (dk_at dksX13_number_0 11 rfl rfl)
theorem dX13_number_14 : decode cX13_number 14 = .ok (.bipush 57, 2) := dk_16 57 (dk_at dksX13_number_0 14 rfl rfl)
theorem dX13_number_16 : decode cX13_number 16 = .ok (.if_icmp .gt 7, 3) := dk_163 0 7 (dk_at dksX13_number_0 16 rfl rfl)
theorem dX13_number_19 : decode cX13_number 19 = .ok (.iconst 1, 1) := dk_4 (dk_at dksX13_number_0 19 rfl rfl)
theorem dX13_number_20 : decode cX13_number 20 = .ok (.goto 4, 3) := dk_167 0 4 (dk_at dksX13_number_0 20 rfl rfl)
theorem dX13_number_23 : decode cX13_number 23 = .ok (.iconst 0, 1) := dk_3 (dk_at dksX13_number_0 23 rfl rfl)
theorem dX13_number_24 : decode cX13_number 24 = .ok (.invokevirtual 26, 3) := dk_182 0 26 (dk_at dksX13_number_1 0 rfl rfl)
theorem dX13_number_27 : decode cX13_number 27 = .ok (.aload_n 0, 1) := dk_42 (dk_at dksX13_number_1 3 rfl rfl)
theorem dX13_number_28 : decode cX13_number 28 = .ok (.getfield 19, 3) := dk_180 0 19 (dk_at dksX13_number_1 4 rfl rfl)
theorem dX13_number_31 : decode cX13_number 31 = .ok (.istore 4, 2) := dk_54 4 (dk_at dksX13_number_1 7 rfl rfl)
theorem dX13_number_33 : decode cX13_number 33 = .ok (.iconst 0, 1) := dk_3 (dk_at dksX13_number_1 9 rfl rfl)
theorem dX13_number_34 : decode cX13_number 34 = .ok (.istore 5, 2) := dk_54 5 (dk_at dksX13_number_1 10 rfl rfl)
theorem dX13_number_36 : decode cX13_number 36 = .ok (.aload_n 0, 1) := dk_42 (dk_at dksX13_number_1 12 rfl rfl)
theorem dX13_number_37 : decode cX13_number 37 = .ok (.invokevirtual 30, 3) := dk_182 0 30 (dk_at dksX13_number_1 13 rfl rfl)
theorem dX13_number_40 : decode cX13_number 40 = .ok (.ifCond .eq 41, 3) := dk_153 0 41 (dk_at dksX13_number_1 16 rfl rfl)
theorem dX13_number_43 : decode cX13_number 43 = .ok (.bipush 10, 2) := dk_16 10 (dk_at dksX13_number_1 19 rfl rfl)
theorem dX13_number_45 : decode cX13_number 45 = .ok (.iload 5, 2) := dk_21 5 (dk_at dksX13_number_1 21 rfl rfl)
theorem dX13_number_47 : decode cX13_number 47 = .ok (.imul, 1) := dk_104 (dk_at dksX13_number_1 23 rfl rfl)
theorem dX13_number_48 : decode cX13_number 48 = .ok (.aload_n 0, 1) := dk_42 (dk_at dksX13_number_2 0 rfl rfl)
theorem dX13_number_49 : decode cX13_number 49 = .ok (.getfield 9, 3) := dk_180 0 9 (dk_at dksX13_number_2 1 rfl rfl)
theorem dX13_number_52 : decode cX13_number 52 = .ok (.aload_n 0, 1) := dk_42 (dk_at dksX13_number_2 4 rfl rfl)
theorem dX13_number_53 : decode cX13_number 53 = .ok (.getfield 19, 3) := dk_180 0 19 (dk_at dksX13_number_2 5 rfl rfl)
theorem dX13_number_56 : decode cX13_number 56 = .ok (.baload, 1) := dk_51 (dk_at dksX13_number_2 8 rfl rfl)
theorem dX13_number_57 : decode cX13_number 57 = .ok (.iadd, 1) := dk_96 (dk_at dksX13_number_2 9 rfl rfl)
theorem dX13_number_58 : decode cX13_number 58 = .ok (.bipush 48, 2) := dk_16 48 (dk_at dksX13_number_2 10 rfl rfl)
theorem dX13_number_60 : decode cX13_number 60 = .ok (.isub, 1) := dk_100 (dk_at dksX13_number_2 12 rfl rfl)
theorem dX13_number_61 : decode cX13_number 61 = .ok (.ldc 34, 2) := dk_18 34 (dk_at dksX13_number_2 13 rfl rfl)
theorem dX13_number_63 : decode cX13_number 63 = .ok (.invokestatic 35, 3) := dk_184 0 35 (dk_at dksX13_number_2 15 rfl rfl)
theorem dX13_number_66 : decode cX13_number 66 = .ok (.istore 5, 2) := dk_54 5 (dk_at dksX13_number_2 18 rfl rfl)
theorem dX13_number_68 : decode cX13_number 68 = .ok (.aload_n 0, 1) := dk_42 (dk_at dksX13_number_2 20 rfl rfl)
theorem dX13_number_69 : decode cX13_number 69 = .ok (.dup, 1) := dk_89 (dk_at dksX13_number_2 21 rfl rfl)
theorem dX13_number_70 : decode cX13_number 70 = .ok (.getfield 19, 3) := dk_180 0 19 (dk_at dksX13_number_3 0 rfl rfl)
theorem dX13_number_73 : decode cX13_number 73 = .ok (.iconst 1, 1) := dk_4 (dk_at dksX13_number_3 3 rfl rfl)
theorem dX13_number_74 : decode cX13_number 74 = .ok (.iadd, 1) := dk_96 (dk_at dksX13_number_3 4 rfl rfl)
theorem dX13_number_75 : decode cX13_number 75 = .ok (.putfield 19, 3) := dk_181 0 19 (dk_at dksX13_number_3 5 rfl rfl)
theorem dX13_number_78 : decode cX13_number 78 = .ok (.goto (-42), 3) := dk_167 255 214 (dk_at dksX13_number_3 8 rfl rfl)
theorem dX13_number_81 : decode cX13_number 81 = .ok (.iload 5, 2) := dk_21 5 (dk_at dksX13_number_3 11 rfl rfl)
theorem dX13_number_83 : decode cX13_number 83 = .ok (.iload_n 1, 1) := dk_27 (dk_at dksX13_number_3 13 rfl rfl)
theorem dX13_number_84 : decode cX13_number 84 = .ok (.if_icmp .lt 15, 3) := dk_161 0 15 (dk_at dksX13_number_3 14 rfl rfl)
theorem dX13_number_87 : decode cX13_number 87 = .ok (.iload 5, 2) := dk_21 5 (dk_at dksX13_number_3 17 rfl rfl)
theorem dX13_number_89 : decode cX13_number 89 = .ok (.iload_n 2, 1) := dk_28 (dk_at dksX13_number_3 19 rfl rfl)
theorem dX13_number_90 : decode cX13_number 90 = .ok (.if_icmp .gt 9, 3) := dk_163 0 9 (dk_at dksX13_number_3 20 rfl rfl)
theorem dX13_number_93 : decode cX13_number 93 = .ok (.iload 5, 2) := dk_21 5 (dk_at dksX13_number_4 0 rfl rfl)
theorem dX13_number_95 : decode cX13_number 95 = .ok (.iload_n 3, 1) := dk_29 (dk_at dksX13_number_4 2 rfl rfl)
theorem dX13_number_96 : decode cX13_number 96 = .ok (.if_icmp .ne 14, 3) := dk_160 0 14 (dk_at dksX13_number_4 3 rfl rfl)
theorem dX13_number_99 : decode cX13_number 99 = .ok (.new 41, 3) := dk_187 0 41 (dk_at dksX13_number_4 6 rfl rfl)
theorem dX13_number_102 : decode cX13_number 102 = .ok (.dup, 1) := dk_89 (dk_at dksX13_number_4 9 rfl rfl)
theorem dX13_number_103 : decode cX13_number 103 = .ok (.iconst 2, 1) := dk_5 (dk_at dksX13_number_4 10 rfl rfl)
theorem dX13_number_104 : decode cX13_number 104 = .ok (.iload 4, 2) := dk_21 4 (dk_at dksX13_number_4 11 rfl rfl)
theorem dX13_number_106 : decode cX13_number 106 = .ok (.invokespecial 43, 3) := dk_183 0 43 (dk_at dksX13_number_4 13 rfl rfl)
theorem dX13_number_109 : decode cX13_number 109 = .ok (.athrow, 1) := dk_191 (dk_at dksX13_number_4 16 rfl rfl)
theorem dX13_number_110 : decode cX13_number 110 = .ok (.iload 5, 2) := dk_21 5 (dk_at dksX13_number_4 17 rfl rfl)
theorem dX13_number_112 : decode cX13_number 112 = .ok (.ireturn, 1) := dk_172 (dk_at dksX13_number_4 19 rfl rfl)
abbrev cX13_isDigit : ByteArray := prog_5_method_4_code
def yX13_isDigit : MethodName := ⟨RX13, "isDigit", "()Z"⟩
def dkwX13_isDigit_1 : List UInt8 := [161, 0, 21, 42, 180, 0, 9, 42, 180, 0, 19, 51, 16, 57, 163, 0, 7, 4, 167, 0, 4, 3, 172]
abbrev dktX13_isDigit_1 : List UInt8 := dkwX13_isDigit_1 ++ []
def dkwX13_isDigit_0 : List UInt8 := [42, 180, 0, 19, 42, 180, 0, 15, 162, 0, 35, 42, 180, 0, 9, 42, 180, 0, 19, 51, 16, 48]
abbrev dktX13_isDigit_0 : List UInt8 := dkwX13_isDigit_0 ++ dktX13_isDigit_1
theorem dksX13_isDigit_0 : cX13_isDigit.data.toList.drop 0 = dktX13_isDigit_0 := by decide +kernel
theorem dksX13_isDigit_1 : cX13_isDigit.data.toList.drop 22 = dktX13_isDigit_1 := dk_seg dksX13_isDigit_0 22 rfl rfl
theorem dX13_isDigit_0 : decode cX13_isDigit 0 = .ok (.aload_n 0, 1) := dk_42 (dk_at dksX13_isDigit_0 0 rfl rfl)
theorem dX13_isDigit_1 : decode cX13_isDigit 1 = .ok (.getfield 19, 3) := dk_180 0 19 (dk_at dksX13_isDigit_0 1 rfl rfl)
theorem dX13_isDigit_4 : decode cX13_isDigit 4 = .ok (.aload_n 0, 1) := dk_42 (dk_at dksX13_isDigit_0 4 rfl rfl)
theorem dX13_isDigit_5 : decode cX13_isDigit 5 = .ok (.getfield 15, 3) := dk_180 0 15 (dk_at dksX13_isDigit_0 5 rfl rfl)
theorem dX13_isDigit_8 : decode cX13_isDigit 8 = .ok (.if_icmp .ge 35, 3) := dk_162 0 35 (dk_at dksX13_isDigit_0 8 rfl rfl)
theorem dX13_isDigit_11 : decode cX13_isDigit 11 = .ok (.aload_n 0, 1) := dk_42 (dk_at dksX13_isDigit_0 11 rfl rfl)
theorem dX13_isDigit_12 : decode cX13_isDigit 12 = .ok (.getfield 9, 3) := dk_180 0 9 (dk_at dksX13_isDigit_0 12 rfl rfl)
theorem dX13_isDigit_15 : decode cX13_isDigit 15 = .ok (.aload_n 0, 1) := dk_42 (dk_at dksX13_isDigit_0 15 rfl rfl)
theorem dX13_isDigit_16 : decode cX13_isDigit 16 = .ok (.getfield 19, 3) := dk_180 0 19 (dk_at dksX13_isDigit_0 16 rfl rfl)
theorem dX13_isDigit_19 : decode cX13_isDigit 19 = .ok (.baload, 1) := dk_51 (dk_at dksX13_isDigit_0 19 rfl rfl)
theorem dX13_isDigit_20 : decode cX13_isDigit 20 = .ok (.bipush 48, 2) := dk_16 48 (dk_at dksX13_isDigit_0 20 rfl rfl)
theorem dX13_isDigit_22 : decode cX13_isDigit 22 = .ok (.if_icmp .lt 21, 3) := dk_161 0 21 (dk_at dksX13_isDigit_1 0 rfl rfl)
theorem dX13_isDigit_25 : decode cX13_isDigit 25 = .ok (.aload_n 0, 1) := dk_42 (dk_at dksX13_isDigit_1 3 rfl rfl)
theorem dX13_isDigit_26 : decode cX13_isDigit 26 = .ok (.getfield 9, 3) := dk_180 0 9 (dk_at dksX13_isDigit_1 4 rfl rfl)
theorem dX13_isDigit_29 : decode cX13_isDigit 29 = .ok (.aload_n 0, 1) := dk_42 (dk_at dksX13_isDigit_1 7 rfl rfl)
theorem dX13_isDigit_30 : decode cX13_isDigit 30 = .ok (.getfield 19, 3) := dk_180 0 19 (dk_at dksX13_isDigit_1 8 rfl rfl)
theorem dX13_isDigit_33 : decode cX13_isDigit 33 = .ok (.baload, 1) := dk_51 (dk_at dksX13_isDigit_1 11 rfl rfl)
theorem dX13_isDigit_34 : decode cX13_isDigit 34 = .ok (.bipush 57, 2) := dk_16 57 (dk_at dksX13_isDigit_1 12 rfl rfl)
theorem dX13_isDigit_36 : decode cX13_isDigit 36 = .ok (.if_icmp .gt 7, 3) := dk_163 0 7 (dk_at dksX13_isDigit_1 14 rfl rfl)
theorem dX13_isDigit_39 : decode cX13_isDigit 39 = .ok (.iconst 1, 1) := dk_4 (dk_at dksX13_isDigit_1 17 rfl rfl)
theorem dX13_isDigit_40 : decode cX13_isDigit 40 = .ok (.goto 4, 3) := dk_167 0 4 (dk_at dksX13_isDigit_1 18 rfl rfl)
theorem dX13_isDigit_43 : decode cX13_isDigit 43 = .ok (.iconst 0, 1) := dk_3 (dk_at dksX13_isDigit_1 21 rfl rfl)
theorem dX13_isDigit_44 : decode cX13_isDigit 44 = .ok (.ireturn, 1) := dk_172 (dk_at dksX13_isDigit_1 22 rfl rfl)
abbrev cX13_at : ByteArray := prog_5_method_2_code
def yX13_at : MethodName := ⟨RX13, "at", "()I"⟩
theorem dX13_at_0 : decode cX13_at 0 = .ok (.aload_n 0, 1) := by decide +kernel
theorem dX13_at_1 : decode cX13_at 1 = .ok (.getfield 19, 3) := by decide +kernel
theorem dX13_at_4 : decode cX13_at 4 = .ok (.ireturn, 1) := by decide +kernel
abbrev cX13_sign : ByteArray := prog_5_method_8_code
def yX13_sign : MethodName := ⟨RX13, "sign", "(I)V"⟩
def dkwX13_sign_1 : List UInt8 := [181, 0, 19, 177]
abbrev dktX13_sign_1 : List UInt8 := dkwX13_sign_1 ++ []
def dkwX13_sign_0 : List UInt8 := [42, 42, 182, 0, 22, 27, 160, 0, 7, 4, 167, 0, 4, 3, 182, 0, 26, 42, 89, 180, 0, 19, 4, 96]
abbrev dktX13_sign_0 : List UInt8 := dkwX13_sign_0 ++ dktX13_sign_1
theorem dksX13_sign_0 : cX13_sign.data.toList.drop 0 = dktX13_sign_0 := by decide +kernel
theorem dksX13_sign_1 : cX13_sign.data.toList.drop 24 = dktX13_sign_1 := dk_seg dksX13_sign_0 24 rfl rfl
theorem dX13_sign_0 : decode cX13_sign 0 = .ok (.aload_n 0, 1) := dk_42 (dk_at dksX13_sign_0 0 rfl rfl)
theorem dX13_sign_1 : decode cX13_sign 1 = .ok (.aload_n 0, 1) := dk_42 (dk_at dksX13_sign_0 1 rfl rfl)
theorem dX13_sign_2 : decode cX13_sign 2 = .ok (.invokevirtual 22, 3) := dk_182 0 22 (dk_at dksX13_sign_0 2 rfl rfl)
theorem dX13_sign_5 : decode cX13_sign 5 = .ok (.iload_n 1, 1) := dk_27 (dk_at dksX13_sign_0 5 rfl rfl)
theorem dX13_sign_6 : decode cX13_sign 6 = .ok (.if_icmp .ne 7, 3) := dk_160 0 7 (dk_at dksX13_sign_0 6 rfl rfl)
theorem dX13_sign_9 : decode cX13_sign 9 = .ok (.iconst 1, 1) := dk_4 (dk_at dksX13_sign_0 9 rfl rfl)
theorem dX13_sign_10 : decode cX13_sign 10 = .ok (.goto 4, 3) := dk_167 0 4 (dk_at dksX13_sign_0 10 rfl rfl)
theorem dX13_sign_13 : decode cX13_sign 13 = .ok (.iconst 0, 1) := dk_3 (dk_at dksX13_sign_0 13 rfl rfl)
theorem dX13_sign_14 : decode cX13_sign 14 = .ok (.invokevirtual 26, 3) := dk_182 0 26 (dk_at dksX13_sign_0 14 rfl rfl)
theorem dX13_sign_17 : decode cX13_sign 17 = .ok (.aload_n 0, 1) := dk_42 (dk_at dksX13_sign_0 17 rfl rfl)
theorem dX13_sign_18 : decode cX13_sign 18 = .ok (.dup, 1) := dk_89 (dk_at dksX13_sign_0 18 rfl rfl)
theorem dX13_sign_19 : decode cX13_sign 19 = .ok (.getfield 19, 3) := dk_180 0 19 (dk_at dksX13_sign_0 19 rfl rfl)
theorem dX13_sign_22 : decode cX13_sign 22 = .ok (.iconst 1, 1) := dk_4 (dk_at dksX13_sign_0 22 rfl rfl)
theorem dX13_sign_23 : decode cX13_sign 23 = .ok (.iadd, 1) := dk_96 (dk_at dksX13_sign_0 23 rfl rfl)
theorem dX13_sign_24 : decode cX13_sign 24 = .ok (.putfield 19, 3) := dk_181 0 19 (dk_at dksX13_sign_1 0 rfl rfl)
theorem dX13_sign_27 : decode cX13_sign 27 = .ok (.return_, 1) := dk_177 (dk_at dksX13_sign_1 3 rfl rfl)
theorem q153 : (Jvm.Cond.initialized "GlassLeaders$Bytes") ∈ lw_all := lw_g (lw_at lw_m1 20 rfl) rfl
theorem q801 : (Jvm.Cond.instanceMethod ({ cls := "GlassLeaders$Bytes", name := "<init>", desc := "([BI)V" } : Jvm.MethodName)) ∈ lw_all := lw_g (lw_at lw_m3 188 rfl) rfl
theorem q802 : (Jvm.Cond.code ({ cls := "GlassLeaders$Bytes", name := "<init>", desc := "([BI)V" } : Jvm.MethodName) prog_5_method_1_code (3 : Nat) (Option.none : Option Jvm.ClassFile.FieldType)) ∈ lw_all := lw_g (lw_at lw_m3 189 rfl) rfl
theorem q803 : (Jvm.Cond.methodLink "GlassLeaders$Bytes" (3 : Nat) ({ cls := "java/lang/Object", name := "<init>", desc := "()V" } : Jvm.MethodName)) ∈ lw_all := lw_g (lw_at lw_m3 190 rfl) rfl
theorem q819 : (Jvm.Cond.fieldLink "GlassLeaders$Bytes" (9 : Nat) "GlassLeaders$Bytes" "bytes" "[B") ∈ lw_all := lw_g (lw_at lw_m3 206 rfl) rfl
theorem q820 : (Jvm.Cond.fieldLink "GlassLeaders$Bytes" (15 : Nat) "GlassLeaders$Bytes" "size" "I") ∈ lw_all := lw_g (lw_at lw_m3 207 rfl) rfl
theorem q821 : (Jvm.Cond.fieldLink "GlassLeaders$Bytes" (19 : Nat) "GlassLeaders$Bytes" "at" "I") ∈ lw_all := lw_g (lw_at lw_m3 208 rfl) rfl
theorem q827 : (Jvm.Cond.soleField "GlassLeaders$Bytes" "bytes") ∈ lw_all := lw_g (lw_at lw_m3 214 rfl) rfl
theorem q829 : (Jvm.Cond.soleField "GlassLeaders$Bytes" "size") ∈ lw_all := lw_g (lw_at lw_m3 216 rfl) rfl
theorem q831 : (Jvm.Cond.soleField "GlassLeaders$Bytes" "at") ∈ lw_all := lw_g (lw_at lw_m3 218 rfl) rfl
theorem q839 : (Jvm.Cond.declares ({ cls := "GlassLeaders$Bytes", name := "now", desc := "()I" } : Jvm.MethodName)) ∈ lw_tbl := lw_at lw_m3 226 rfl
theorem q841 : (Jvm.Cond.instanceMethod ({ cls := "GlassLeaders$Bytes", name := "now", desc := "()I" } : Jvm.MethodName)) ∈ lw_all := lw_g (lw_at lw_m3 228 rfl) rfl
theorem q842 : (Jvm.Cond.code ({ cls := "GlassLeaders$Bytes", name := "now", desc := "()I" } : Jvm.MethodName) prog_5_method_9_code (1 : Nat) (Option.some Jvm.ClassFile.FieldType.int)) ∈ lw_all := lw_g (lw_at lw_m3 229 rfl) rfl
theorem q845 : (Jvm.Cond.declares ({ cls := "GlassLeaders$Bytes", name := "which", desc := "([Ljava/lang/String;)I" } : Jvm.MethodName)) ∈ lw_tbl := lw_at lw_m3 232 rfl
theorem q847 : (Jvm.Cond.instanceMethod ({ cls := "GlassLeaders$Bytes", name := "which", desc := "([Ljava/lang/String;)I" } : Jvm.MethodName)) ∈ lw_all := lw_g (lw_at lw_m3 234 rfl) rfl
theorem q848 : (Jvm.Cond.code ({ cls := "GlassLeaders$Bytes", name := "which", desc := "([Ljava/lang/String;)I" } : Jvm.MethodName) prog_5_method_13_code (3 : Nat) (Option.some Jvm.ClassFile.FieldType.int)) ∈ lw_all := lw_g (lw_at lw_m3 235 rfl) rfl
theorem q849 : (Jvm.Cond.methodLink "GlassLeaders$Bytes" (59 : Nat) ({ cls := "GlassLeaders$Bytes", name := "isWord", desc := "(Ljava/lang/String;)Z" } : Jvm.MethodName)) ∈ lw_all := lw_g (lw_at lw_m3 236 rfl) rfl
theorem q850 : (Jvm.Cond.instanceMethod ({ cls := "GlassLeaders$Bytes", name := "isWord", desc := "(Ljava/lang/String;)Z" } : Jvm.MethodName)) ∈ lw_all := lw_g (lw_at lw_m3 237 rfl) rfl
theorem q851 : (Jvm.Cond.sameMethod "GlassLeaders$Bytes" "GlassLeaders$Bytes" "isWord" "(Ljava/lang/String;)Z") ∈ lw_all := lw_g (lw_at lw_m3 238 rfl) rfl
theorem q854 : (Jvm.Cond.code ({ cls := "GlassLeaders$Bytes", name := "isWord", desc := "(Ljava/lang/String;)Z" } : Jvm.MethodName) prog_5_method_11_code (4 : Nat) (Option.some Jvm.ClassFile.FieldType.boolean)) ∈ lw_all := lw_g (lw_at lw_m4 1 rfl) rfl
theorem q855 : (Jvm.Cond.methodLink "GlassLeaders$Bytes" (22 : Nat) ({ cls := "GlassLeaders$Bytes", name := "now", desc := "()I" } : Jvm.MethodName)) ∈ lw_all := lw_g (lw_at lw_m4 2 rfl) rfl
theorem q856 : (Jvm.Cond.methodLink "GlassLeaders$Bytes" (46 : Nat) ({ cls := "java/lang/String", name := "length", desc := "()I" } : Jvm.MethodName)) ∈ lw_all := lw_g (lw_at lw_m4 3 rfl) rfl
theorem q866 : (Jvm.Cond.methodLink "GlassLeaders$Bytes" (51 : Nat) ({ cls := "GlassLeaders$Bytes", name := "isSmall", desc := "(I)Z" } : Jvm.MethodName)) ∈ lw_all := lw_g (lw_at lw_m4 13 rfl) rfl
theorem q867 : (Jvm.Cond.privateMethod ({ cls := "GlassLeaders$Bytes", name := "isSmall", desc := "(I)Z" } : Jvm.MethodName)) ∈ lw_tbl := lw_at lw_m4 14 rfl
theorem q868 : (Jvm.Cond.instanceMethod ({ cls := "GlassLeaders$Bytes", name := "isSmall", desc := "(I)Z" } : Jvm.MethodName)) ∈ lw_all := lw_g (lw_at lw_m4 15 rfl) rfl
theorem q869 : (Jvm.Cond.code ({ cls := "GlassLeaders$Bytes", name := "isSmall", desc := "(I)Z" } : Jvm.MethodName) prog_5_method_10_code (2 : Nat) (Option.some Jvm.ClassFile.FieldType.boolean)) ∈ lw_all := lw_g (lw_at lw_m4 16 rfl) rfl
theorem q870 : (Jvm.Cond.methodLink "GlassLeaders$Bytes" (55 : Nat) ({ cls := "java/lang/String", name := "charAt", desc := "(I)C" } : Jvm.MethodName)) ∈ lw_all := lw_g (lw_at lw_m4 17 rfl) rfl
theorem q908 : (Jvm.Cond.declares ({ cls := "GlassLeaders$Bytes", name := "right", desc := "(Z)V" } : Jvm.MethodName)) ∈ lw_tbl := lw_at lw_m4 55 rfl
theorem q910 : (Jvm.Cond.instanceMethod ({ cls := "GlassLeaders$Bytes", name := "right", desc := "(Z)V" } : Jvm.MethodName)) ∈ lw_all := lw_g (lw_at lw_m4 57 rfl) rfl
theorem q911 : (Jvm.Cond.code ({ cls := "GlassLeaders$Bytes", name := "right", desc := "(Z)V" } : Jvm.MethodName) prog_5_method_5_code (2 : Nat) (Option.none : Option Jvm.ClassFile.FieldType)) ∈ lw_all := lw_g (lw_at lw_m4 58 rfl) rfl
theorem q912 : (Jvm.Cond.classLink "GlassLeaders$Bytes" (41 : Nat) "GlassLeaders$Wrong") ∈ lw_all := lw_g (lw_at lw_m4 59 rfl) rfl
theorem q921 : (Jvm.Cond.methodLink "GlassLeaders$Bytes" (43 : Nat) ({ cls := "GlassLeaders$Wrong", name := "<init>", desc := "(II)V" } : Jvm.MethodName)) ∈ lw_all := lw_g (lw_at lw_m4 68 rfl) rfl
theorem q937 : (Jvm.Cond.declares ({ cls := "GlassLeaders$Bytes", name := "few", desc := "(Z)V" } : Jvm.MethodName)) ∈ lw_tbl := lw_at lw_m4 84 rfl
theorem q939 : (Jvm.Cond.instanceMethod ({ cls := "GlassLeaders$Bytes", name := "few", desc := "(Z)V" } : Jvm.MethodName)) ∈ lw_all := lw_g (lw_at lw_m4 86 rfl) rfl
theorem q940 : (Jvm.Cond.code ({ cls := "GlassLeaders$Bytes", name := "few", desc := "(Z)V" } : Jvm.MethodName) prog_5_method_6_code (2 : Nat) (Option.none : Option Jvm.ClassFile.FieldType)) ∈ lw_all := lw_g (lw_at lw_m4 87 rfl) rfl
theorem q944 : (Jvm.Cond.declares ({ cls := "GlassLeaders$Bytes", name := "skip", desc := "(I)V" } : Jvm.MethodName)) ∈ lw_tbl := lw_at lw_m4 91 rfl
theorem q946 : (Jvm.Cond.instanceMethod ({ cls := "GlassLeaders$Bytes", name := "skip", desc := "(I)V" } : Jvm.MethodName)) ∈ lw_all := lw_g (lw_at lw_m4 93 rfl) rfl
theorem q947 : (Jvm.Cond.code ({ cls := "GlassLeaders$Bytes", name := "skip", desc := "(I)V" } : Jvm.MethodName) prog_5_method_7_code (2 : Nat) (Option.none : Option Jvm.ClassFile.FieldType)) ∈ lw_all := lw_g (lw_at lw_m4 94 rfl) rfl
theorem q959 : (Jvm.Cond.declares ({ cls := "GlassLeaders$Bytes", name := "eats", desc := "(Ljava/lang/String;)Z" } : Jvm.MethodName)) ∈ lw_tbl := lw_at lw_m4 106 rfl
theorem q961 : (Jvm.Cond.instanceMethod ({ cls := "GlassLeaders$Bytes", name := "eats", desc := "(Ljava/lang/String;)Z" } : Jvm.MethodName)) ∈ lw_all := lw_g (lw_at lw_m4 108 rfl) rfl
theorem q962 : (Jvm.Cond.code ({ cls := "GlassLeaders$Bytes", name := "eats", desc := "(Ljava/lang/String;)Z" } : Jvm.MethodName) prog_5_method_12_code (3 : Nat) (Option.some Jvm.ClassFile.FieldType.boolean)) ∈ lw_all := lw_g (lw_at lw_m4 109 rfl) rfl
theorem q970 : (Jvm.Cond.declares ({ cls := "GlassLeaders$Bytes", name := "number", desc := "(III)I" } : Jvm.MethodName)) ∈ lw_tbl := lw_at lw_m4 117 rfl
theorem q972 : (Jvm.Cond.instanceMethod ({ cls := "GlassLeaders$Bytes", name := "number", desc := "(III)I" } : Jvm.MethodName)) ∈ lw_all := lw_g (lw_at lw_m4 119 rfl) rfl
theorem q973 : (Jvm.Cond.code ({ cls := "GlassLeaders$Bytes", name := "number", desc := "(III)I" } : Jvm.MethodName) prog_5_method_3_code (6 : Nat) (Option.some Jvm.ClassFile.FieldType.int)) ∈ lw_all := lw_g (lw_at lw_m4 120 rfl) rfl
theorem q974 : (Jvm.Cond.methodLink "GlassLeaders$Bytes" (26 : Nat) ({ cls := "GlassLeaders$Bytes", name := "right", desc := "(Z)V" } : Jvm.MethodName)) ∈ lw_all := lw_g (lw_at lw_m4 121 rfl) rfl
theorem q975 : (Jvm.Cond.methodLink "GlassLeaders$Bytes" (30 : Nat) ({ cls := "GlassLeaders$Bytes", name := "isDigit", desc := "()Z" } : Jvm.MethodName)) ∈ lw_all := lw_g (lw_at lw_m4 122 rfl) rfl
theorem q976 : (Jvm.Cond.instanceMethod ({ cls := "GlassLeaders$Bytes", name := "isDigit", desc := "()Z" } : Jvm.MethodName)) ∈ lw_all := lw_g (lw_at lw_m4 123 rfl) rfl
theorem q977 : (Jvm.Cond.sameMethod "GlassLeaders$Bytes" "GlassLeaders$Bytes" "isDigit" "()Z") ∈ lw_all := lw_g (lw_at lw_m4 124 rfl) rfl
theorem q980 : (Jvm.Cond.code ({ cls := "GlassLeaders$Bytes", name := "isDigit", desc := "()Z" } : Jvm.MethodName) prog_5_method_4_code (1 : Nat) (Option.some Jvm.ClassFile.FieldType.boolean)) ∈ lw_all := lw_g (lw_at lw_m4 127 rfl) rfl
theorem q981 : (Jvm.Cond.constant "GlassLeaders$Bytes" (34 : Nat) (100000 : Int32)) ∈ lw_all := lw_g (lw_at lw_m4 128 rfl) rfl
theorem q982 : (Jvm.Cond.methodLink "GlassLeaders$Bytes" (35 : Nat) ({ cls := "java/lang/Math", name := "min", desc := "(II)I" } : Jvm.MethodName)) ∈ lw_all := lw_g (lw_at lw_m4 129 rfl) rfl
theorem q989 : (Jvm.Cond.declares ({ cls := "GlassLeaders$Bytes", name := "at", desc := "()I" } : Jvm.MethodName)) ∈ lw_tbl := lw_at lw_m4 136 rfl
theorem q991 : (Jvm.Cond.instanceMethod ({ cls := "GlassLeaders$Bytes", name := "at", desc := "()I" } : Jvm.MethodName)) ∈ lw_all := lw_g (lw_at lw_m4 138 rfl) rfl
theorem q992 : (Jvm.Cond.code ({ cls := "GlassLeaders$Bytes", name := "at", desc := "()I" } : Jvm.MethodName) prog_5_method_2_code (1 : Nat) (Option.some Jvm.ClassFile.FieldType.int)) ∈ lw_all := lw_g (lw_at lw_m4 139 rfl) rfl
theorem q1003 : (Jvm.Cond.declares ({ cls := "GlassLeaders$Bytes", name := "sign", desc := "(I)V" } : Jvm.MethodName)) ∈ lw_tbl := lw_at lw_m4 150 rfl
theorem q1005 : (Jvm.Cond.instanceMethod ({ cls := "GlassLeaders$Bytes", name := "sign", desc := "(I)V" } : Jvm.MethodName)) ∈ lw_all := lw_g (lw_at lw_m4 152 rfl) rfl
theorem q1006 : (Jvm.Cond.code ({ cls := "GlassLeaders$Bytes", name := "sign", desc := "(I)V" } : Jvm.MethodName) prog_5_method_8_code (2 : Nat) (Option.none : Option Jvm.ClassFile.FieldType)) ∈ lw_all := lw_g (lw_at lw_m4 153 rfl) rfl
theorem q1064 : (Jvm.Cond.declares ({ cls := "GlassLeaders$Bytes", name := "isWord", desc := "(Ljava/lang/String;)Z" } : Jvm.MethodName)) ∈ lw_tbl := lw_at lw_m4 211 rfl
theorem q1130 : (Jvm.Cond.declares ({ cls := "GlassLeaders$Bytes", name := "isDigit", desc := "()Z" } : Jvm.MethodName)) ∈ lw_tbl := lw_at lw_m5 37 rfl
theorem q2837 : (Jvm.Cond.sameMethod "GlassLeaders$Bytes" "GlassLeaders$Bytes" "now" "()I") ∈ lw_all := lw_g (lw_at lw_m12 64 rfl) rfl
theorem q2840 : (Jvm.Cond.sameMethod "GlassLeaders$Bytes" "GlassLeaders$Bytes" "isSmall" "(I)Z") ∈ lw_all := lw_g (lw_at lw_m12 67 rfl) rfl
theorem q2841 : (Jvm.Cond.sameMethod "GlassLeaders$Bytes" "GlassLeaders$Bytes" "right" "(Z)V") ∈ lw_all := lw_g (lw_at lw_m12 68 rfl) rfl
/-! GlassLeaders$LandReader -/
set_option maxRecDepth 100000
def RX14 : String := "GlassLeaders$LandReader"
def TX14 : u_T := fun k => match k with
  | 0 => ("GlassLeaders$Bytes", "bytes", "[B", true)
  | 1 => ("GlassLeaders$Bytes", "size", "I", true)
  | 2 => ("GlassLeaders$Bytes", "at", "I", false)
  | 3 => ("GlassLeaders$LandReader", "words", "[Ljava/lang/String;", true)
  | _ => ("GlassLeaders$LandReader", "land", "LGlassLeaders$Land;", true)
def tyX14 : Nat → FieldType := fun k => match k with
  | 0 => .array .byte
  | 1 => .int
  | 2 => .int
  | 3 => .array (.object "java/lang/String")
  | _ => .object "GlassLeaders$Land"
abbrev wsX140 : List Cond := u_ws RX14 TX14 5
theorem nmX14 : ∀ a, a < 5 → ∀ b, b < 5 → a ≠ b → (TX14 a).2.1 ≠ (TX14 b).2.1 := by decide +kernel
theorem tyX14_ok : ∀ k, k < 5 → parseFieldDescriptor (TX14 k).2.2.1 = some (tyX14 k) := by decide +kernel
abbrev cX14_init : ByteArray := prog_10_method_1_code
def yX14_init : MethodName := ⟨RX14, "<init>", "([BI)V"⟩
def dkwX14_init_3 : List UInt8 := [181, 0, 40, 177]
abbrev dktX14_init_3 : List UInt8 := dkwX14_init_3 ++ []
def dkwX14_init_2 : List UInt8 := [89, 16, 7, 18, 25, 83, 89, 16, 8, 18, 27, 83, 181, 0, 29, 42, 187, 0, 35, 89, 183, 0, 37]
abbrev dktX14_init_2 : List UInt8 := dkwX14_init_2 ++ dktX14_init_3
def dkwX14_init_1 : List UInt8 := [18, 15, 83, 89, 6, 18, 17, 83, 89, 7, 18, 19, 83, 89, 8, 18, 21, 83, 89, 16, 6, 18, 23, 83]
abbrev dktX14_init_1 : List UInt8 := dkwX14_init_1 ++ dktX14_init_2
def dkwX14_init_0 : List UInt8 := [42, 43, 28, 183, 0, 3, 42, 16, 9, 189, 0, 9, 89, 3, 18, 11, 83, 89, 4, 18, 13, 83, 89, 5]
abbrev dktX14_init_0 : List UInt8 := dkwX14_init_0 ++ dktX14_init_1
theorem dksX14_init_0 : cX14_init.data.toList.drop 0 = dktX14_init_0 := by decide +kernel
theorem dksX14_init_1 : cX14_init.data.toList.drop 24 = dktX14_init_1 := dk_seg dksX14_init_0 24 rfl rfl
theorem dksX14_init_2 : cX14_init.data.toList.drop 48 = dktX14_init_2 := dk_seg dksX14_init_1 24 rfl rfl
theorem dksX14_init_3 : cX14_init.data.toList.drop 71 = dktX14_init_3 := dk_seg dksX14_init_2 23 rfl rfl
theorem dX14_init_0 : decode cX14_init 0 = .ok (.aload_n 0, 1) := dk_42 (dk_at dksX14_init_0 0 rfl rfl)
theorem dX14_init_1 : decode cX14_init 1 = .ok (.aload_n 1, 1) := dk_43 (dk_at dksX14_init_0 1 rfl rfl)
theorem dX14_init_2 : decode cX14_init 2 = .ok (.iload_n 2, 1) := dk_28 (dk_at dksX14_init_0 2 rfl rfl)
theorem dX14_init_3 : decode cX14_init 3 = .ok (.invokespecial 3, 3) := dk_183 0 3 (dk_at dksX14_init_0 3 rfl rfl)
theorem dX14_init_6 : decode cX14_init 6 = .ok (.aload_n 0, 1) := dk_42 (dk_at dksX14_init_0 6 rfl rfl)
theorem dX14_init_7 : decode cX14_init 7 = .ok (.bipush 9, 2) := dk_16 9 (dk_at dksX14_init_0 7 rfl rfl)
theorem dX14_init_9 : decode cX14_init 9 = .ok (.anewarray 9, 3) := dk_189 0 9 (dk_at dksX14_init_0 9 rfl rfl)
theorem dX14_init_12 : decode cX14_init 12 = .ok (.dup, 1) := dk_89 (dk_at dksX14_init_0 12 rfl rfl)
theorem dX14_init_13 : decode cX14_init 13 = .ok (.iconst 0, 1) := dk_3 (dk_at dksX14_init_0 13 rfl rfl)
theorem dX14_init_14 : decode cX14_init 14 = .ok (.ldc 11, 2) := dk_18 11 (dk_at dksX14_init_0 14 rfl rfl)
theorem dX14_init_16 : decode cX14_init 16 = .ok (.aastore, 1) := dk_83 (dk_at dksX14_init_0 16 rfl rfl)
theorem dX14_init_17 : decode cX14_init 17 = .ok (.dup, 1) := dk_89 (dk_at dksX14_init_0 17 rfl rfl)
theorem dX14_init_18 : decode cX14_init 18 = .ok (.iconst 1, 1) := dk_4 (dk_at dksX14_init_0 18 rfl rfl)
theorem dX14_init_19 : decode cX14_init 19 = .ok (.ldc 13, 2) := dk_18 13 (dk_at dksX14_init_0 19 rfl rfl)
theorem dX14_init_21 : decode cX14_init 21 = .ok (.aastore, 1) := dk_83 (dk_at dksX14_init_0 21 rfl rfl)
theorem dX14_init_22 : decode cX14_init 22 = .ok (.dup, 1) := dk_89 (dk_at dksX14_init_0 22 rfl rfl)
theorem dX14_init_23 : decode cX14_init 23 = .ok (.iconst 2, 1) := dk_5 (dk_at dksX14_init_0 23 rfl rfl)
theorem dX14_init_24 : decode cX14_init 24 = .ok (.ldc 15, 2) := dk_18 15 (dk_at dksX14_init_1 0 rfl rfl)
theorem dX14_init_26 : decode cX14_init 26 = .ok (.aastore, 1) := dk_83 (dk_at dksX14_init_1 2 rfl rfl)
theorem dX14_init_27 : decode cX14_init 27 = .ok (.dup, 1) := dk_89 (dk_at dksX14_init_1 3 rfl rfl)
theorem dX14_init_28 : decode cX14_init 28 = .ok (.iconst 3, 1) := dk_6 (dk_at dksX14_init_1 4 rfl rfl)
theorem dX14_init_29 : decode cX14_init 29 = .ok (.ldc 17, 2) := dk_18 17 (dk_at dksX14_init_1 5 rfl rfl)
theorem dX14_init_31 : decode cX14_init 31 = .ok (.aastore, 1) := dk_83 (dk_at dksX14_init_1 7 rfl rfl)
theorem dX14_init_32 : decode cX14_init 32 = .ok (.dup, 1) := dk_89 (dk_at dksX14_init_1 8 rfl rfl)
theorem dX14_init_33 : decode cX14_init 33 = .ok (.iconst 4, 1) := dk_7 (dk_at dksX14_init_1 9 rfl rfl)
theorem dX14_init_34 : decode cX14_init 34 = .ok (.ldc 19, 2) := dk_18 19 (dk_at dksX14_init_1 10 rfl rfl)
theorem dX14_init_36 : decode cX14_init 36 = .ok (.aastore, 1) := dk_83 (dk_at dksX14_init_1 12 rfl rfl)
theorem dX14_init_37 : decode cX14_init 37 = .ok (.dup, 1) := dk_89 (dk_at dksX14_init_1 13 rfl rfl)
theorem dX14_init_38 : decode cX14_init 38 = .ok (.iconst 5, 1) := dk_8 (dk_at dksX14_init_1 14 rfl rfl)
theorem dX14_init_39 : decode cX14_init 39 = .ok (.ldc 21, 2) := dk_18 21 (dk_at dksX14_init_1 15 rfl rfl)
theorem dX14_init_41 : decode cX14_init 41 = .ok (.aastore, 1) := dk_83 (dk_at dksX14_init_1 17 rfl rfl)
theorem dX14_init_42 : decode cX14_init 42 = .ok (.dup, 1) := dk_89 (dk_at dksX14_init_1 18 rfl rfl)
theorem dX14_init_43 : decode cX14_init 43 = .ok (.bipush 6, 2) := dk_16 6 (dk_at dksX14_init_1 19 rfl rfl)
theorem dX14_init_45 : decode cX14_init 45 = .ok (.ldc 23, 2) := dk_18 23 (dk_at dksX14_init_1 21 rfl rfl)
theorem dX14_init_47 : decode cX14_init 47 = .ok (.aastore, 1) := dk_83 (dk_at dksX14_init_1 23 rfl rfl)
theorem dX14_init_48 : decode cX14_init 48 = .ok (.dup, 1) := dk_89 (dk_at dksX14_init_2 0 rfl rfl)
theorem dX14_init_49 : decode cX14_init 49 = .ok (.bipush 7, 2) := dk_16 7 (dk_at dksX14_init_2 1 rfl rfl)
theorem dX14_init_51 : decode cX14_init 51 = .ok (.ldc 25, 2) := dk_18 25 (dk_at dksX14_init_2 3 rfl rfl)
theorem dX14_init_53 : decode cX14_init 53 = .ok (.aastore, 1) := dk_83 (dk_at dksX14_init_2 5 rfl rfl)
theorem dX14_init_54 : decode cX14_init 54 = .ok (.dup, 1) := dk_89 (dk_at dksX14_init_2 6 rfl rfl)
theorem dX14_init_55 : decode cX14_init 55 = .ok (.bipush 8, 2) := dk_16 8 (dk_at dksX14_init_2 7 rfl rfl)
theorem dX14_init_57 : decode cX14_init 57 = .ok (.ldc 27, 2) := dk_18 27 (dk_at dksX14_init_2 9 rfl rfl)
theorem dX14_init_59 : decode cX14_init 59 = .ok (.aastore, 1) := dk_83 (dk_at dksX14_init_2 11 rfl rfl)
theorem dX14_init_60 : decode cX14_init 60 = .ok (.putfield 29, 3) := dk_181 0 29 (dk_at dksX14_init_2 12 rfl rfl)
theorem dX14_init_63 : decode cX14_init 63 = .ok (.aload_n 0, 1) := dk_42 (dk_at dksX14_init_2 15 rfl rfl)
theorem dX14_init_64 : decode cX14_init 64 = .ok (.new 35, 3) := dk_187 0 35 (dk_at dksX14_init_2 16 rfl rfl)
theorem dX14_init_67 : decode cX14_init 67 = .ok (.dup, 1) := dk_89 (dk_at dksX14_init_2 19 rfl rfl)
theorem dX14_init_68 : decode cX14_init 68 = .ok (.invokespecial 37, 3) := dk_183 0 37 (dk_at dksX14_init_2 20 rfl rfl)
theorem dX14_init_71 : decode cX14_init 71 = .ok (.putfield 40, 3) := dk_181 0 40 (dk_at dksX14_init_3 0 rfl rfl)
theorem dX14_init_74 : decode cX14_init 74 = .ok (.return_, 1) := dk_177 (dk_at dksX14_init_3 3 rfl rfl)
abbrev cX14_land : ByteArray := prog_10_method_2_code
def yX14_land : MethodName := ⟨RX14, "land", "()LGlassLeaders$Land;"⟩
def dkwX14_land_7 : List UInt8 := [183, 0, 87, 191, 42, 180, 0, 40, 176]
abbrev dktX14_land_7 : List UInt8 := dkwX14_land_7 ++ []
def dkwX14_land_6 : List UInt8 := [153, 0, 13, 42, 180, 0, 40, 180, 0, 63, 154, 0, 16, 187, 0, 82, 89, 7, 42, 182, 0, 84]
abbrev dktX14_land_6 : List UInt8 := dkwX14_land_6 ++ dktX14_land_7
def dkwX14_land_5 : List UInt8 := [182, 0, 76, 42, 16, 59, 182, 0, 79, 132, 1, 1, 167, 255, 134, 42, 180, 0, 40, 180, 0, 56]
abbrev dktX14_land_5 : List UInt8 := dkwX14_land_5 ++ dktX14_land_6
def dkwX14_land_4 : List UInt8 := [167, 0, 4, 3, 182, 0, 66, 42, 42, 180, 0, 29, 28, 50, 182, 0, 69, 182, 0, 72, 42, 28]
abbrev dktX14_land_4 : List UInt8 := dkwX14_land_4 ++ dktX14_land_5
def dkwX14_land_3 : List UInt8 := [16, 24, 162, 0, 23, 28, 6, 160, 0, 14, 42, 180, 0, 40, 180, 0, 63, 8, 162, 0, 7, 4]
abbrev dktX14_land_3 : List UInt8 := dkwX14_land_3 ++ dktX14_land_4
def dkwX14_land_2 : List UInt8 := [180, 0, 40, 180, 0, 56, 16, 12, 162, 0, 40, 28, 4, 160, 0, 15, 42, 180, 0, 40, 180, 0, 60]
abbrev dktX14_land_2 : List UInt8 := dkwX14_land_2 ++ dktX14_land_3
def dkwX14_land_1 : List UInt8 := [159, 0, 7, 4, 167, 0, 4, 3, 182, 0, 52, 42, 27, 16, 60, 162, 0, 56, 28, 157, 0, 15, 42]
abbrev dktX14_land_1 : List UInt8 := dkwX14_land_1 ++ dktX14_land_2
def dkwX14_land_0 : List UInt8 := [3, 60, 42, 182, 0, 44, 2, 159, 0, 120, 42, 42, 180, 0, 29, 182, 0, 48, 61, 42, 28, 2]
abbrev dktX14_land_0 : List UInt8 := dkwX14_land_0 ++ dktX14_land_1
theorem dksX14_land_0 : cX14_land.data.toList.drop 0 = dktX14_land_0 := by decide +kernel
theorem dksX14_land_1 : cX14_land.data.toList.drop 22 = dktX14_land_1 := dk_seg dksX14_land_0 22 rfl rfl
theorem dksX14_land_2 : cX14_land.data.toList.drop 45 = dktX14_land_2 := dk_seg dksX14_land_1 23 rfl rfl
theorem dksX14_land_3 : cX14_land.data.toList.drop 68 = dktX14_land_3 := dk_seg dksX14_land_2 23 rfl rfl
theorem dksX14_land_4 : cX14_land.data.toList.drop 90 = dktX14_land_4 := dk_seg dksX14_land_3 22 rfl rfl
theorem dksX14_land_5 : cX14_land.data.toList.drop 112 = dktX14_land_5 := dk_seg dksX14_land_4 22 rfl rfl
theorem dksX14_land_6 : cX14_land.data.toList.drop 134 = dktX14_land_6 := dk_seg dksX14_land_5 22 rfl rfl
theorem dksX14_land_7 : cX14_land.data.toList.drop 156 = dktX14_land_7 := dk_seg dksX14_land_6 22 rfl rfl
theorem dX14_land_0 : decode cX14_land 0 = .ok (.iconst 0, 1) := dk_3 (dk_at dksX14_land_0 0 rfl rfl)
theorem dX14_land_1 : decode cX14_land 1 = .ok (.istore_n 1, 1) := dk_60 (dk_at dksX14_land_0 1 rfl rfl)
theorem dX14_land_2 : decode cX14_land 2 = .ok (.aload_n 0, 1) := dk_42 (dk_at dksX14_land_0 2 rfl rfl)
theorem dX14_land_3 : decode cX14_land 3 = .ok (.invokevirtual 44, 3) := dk_182 0 44 (dk_at dksX14_land_0 3 rfl rfl)
theorem dX14_land_6 : decode cX14_land 6 = .ok (.iconst (-1), 1) := dk_2 (dk_at dksX14_land_0 6 rfl rfl)
theorem dX14_land_7 : decode cX14_land 7 = .ok (.if_icmp .eq 120, 3) := dk_159 0 120 (dk_at dksX14_land_0 7 rfl rfl)
theorem dX14_land_10 : decode cX14_land 10 = .ok (.aload_n 0, 1) := dk_42 (dk_at dksX14_land_0 10 rfl rfl)
theorem dX14_land_11 : decode cX14_land 11 = .ok (.aload_n 0, 1) := dk_42 (dk_at dksX14_land_0 11 rfl rfl)
theorem dX14_land_12 : decode cX14_land 12 = .ok (.getfield 29, 3) := dk_180 0 29 (dk_at dksX14_land_0 12 rfl rfl)
theorem dX14_land_15 : decode cX14_land 15 = .ok (.invokevirtual 48, 3) := dk_182 0 48 (dk_at dksX14_land_0 15 rfl rfl)
theorem dX14_land_18 : decode cX14_land 18 = .ok (.istore_n 2, 1) := dk_61 (dk_at dksX14_land_0 18 rfl rfl)
theorem dX14_land_19 : decode cX14_land 19 = .ok (.aload_n 0, 1) := dk_42 (dk_at dksX14_land_0 19 rfl rfl)
theorem dX14_land_20 : decode cX14_land 20 = .ok (.iload_n 2, 1) := dk_28 (dk_at dksX14_land_0 20 rfl rfl)
theorem dX14_land_21 : decode cX14_land 21 = .ok (.iconst (-1), 1) := dk_2 (dk_at dksX14_land_0 21 rfl rfl)
theorem dX14_land_22 : decode cX14_land 22 = .ok (.if_icmp .eq 7, 3) := dk_159 0 7 (dk_at dksX14_land_1 0 rfl rfl)
theorem dX14_land_25 : decode cX14_land 25 = .ok (.iconst 1, 1) := dk_4 (dk_at dksX14_land_1 3 rfl rfl)
theorem dX14_land_26 : decode cX14_land 26 = .ok (.goto 4, 3) := dk_167 0 4 (dk_at dksX14_land_1 4 rfl rfl)
theorem dX14_land_29 : decode cX14_land 29 = .ok (.iconst 0, 1) := dk_3 (dk_at dksX14_land_1 7 rfl rfl)
theorem dX14_land_30 : decode cX14_land 30 = .ok (.invokevirtual 52, 3) := dk_182 0 52 (dk_at dksX14_land_1 8 rfl rfl)
theorem dX14_land_33 : decode cX14_land 33 = .ok (.aload_n 0, 1) := dk_42 (dk_at dksX14_land_1 11 rfl rfl)
theorem dX14_land_34 : decode cX14_land 34 = .ok (.iload_n 1, 1) := dk_27 (dk_at dksX14_land_1 12 rfl rfl)
theorem dX14_land_35 : decode cX14_land 35 = .ok (.bipush 60, 2) := dk_16 60 (dk_at dksX14_land_1 13 rfl rfl)
theorem dX14_land_37 : decode cX14_land 37 = .ok (.if_icmp .ge 56, 3) := dk_162 0 56 (dk_at dksX14_land_1 15 rfl rfl)
theorem dX14_land_40 : decode cX14_land 40 = .ok (.iload_n 2, 1) := dk_28 (dk_at dksX14_land_1 18 rfl rfl)
theorem dX14_land_41 : decode cX14_land 41 = .ok (.ifCond .gt 15, 3) := dk_157 0 15 (dk_at dksX14_land_1 19 rfl rfl)
theorem dX14_land_44 : decode cX14_land 44 = .ok (.aload_n 0, 1) := dk_42 (dk_at dksX14_land_1 22 rfl rfl)
theorem dX14_land_45 : decode cX14_land 45 = .ok (.getfield 40, 3) := dk_180 0 40 (dk_at dksX14_land_2 0 rfl rfl)
theorem dX14_land_48 : decode cX14_land 48 = .ok (.getfield 56, 3) := dk_180 0 56 (dk_at dksX14_land_2 3 rfl rfl)
theorem dX14_land_51 : decode cX14_land 51 = .ok (.bipush 12, 2) := dk_16 12 (dk_at dksX14_land_2 6 rfl rfl)
theorem dX14_land_53 : decode cX14_land 53 = .ok (.if_icmp .ge 40, 3) := dk_162 0 40 (dk_at dksX14_land_2 8 rfl rfl)
theorem dX14_land_56 : decode cX14_land 56 = .ok (.iload_n 2, 1) := dk_28 (dk_at dksX14_land_2 11 rfl rfl)
theorem dX14_land_57 : decode cX14_land 57 = .ok (.iconst 1, 1) := dk_4 (dk_at dksX14_land_2 12 rfl rfl)
theorem dX14_land_58 : decode cX14_land 58 = .ok (.if_icmp .ne 15, 3) := dk_160 0 15 (dk_at dksX14_land_2 13 rfl rfl)
theorem dX14_land_61 : decode cX14_land 61 = .ok (.aload_n 0, 1) := dk_42 (dk_at dksX14_land_2 16 rfl rfl)
theorem dX14_land_62 : decode cX14_land 62 = .ok (.getfield 40, 3) := dk_180 0 40 (dk_at dksX14_land_2 17 rfl rfl)
theorem dX14_land_65 : decode cX14_land 65 = .ok (.getfield 60, 3) := dk_180 0 60 (dk_at dksX14_land_2 20 rfl rfl)
theorem dX14_land_68 : decode cX14_land 68 = .ok (.bipush 24, 2) := dk_16 24 (dk_at dksX14_land_3 0 rfl rfl)
theorem dX14_land_70 : decode cX14_land 70 = .ok (.if_icmp .ge 23, 3) := dk_162 0 23 (dk_at dksX14_land_3 2 rfl rfl)
theorem dX14_land_73 : decode cX14_land 73 = .ok (.iload_n 2, 1) := dk_28 (dk_at dksX14_land_3 5 rfl rfl)
theorem dX14_land_74 : decode cX14_land 74 = .ok (.iconst 3, 1) := dk_6 (dk_at dksX14_land_3 6 rfl rfl)
theorem dX14_land_75 : decode cX14_land 75 = .ok (.if_icmp .ne 14, 3) := dk_160 0 14 (dk_at dksX14_land_3 7 rfl rfl)
theorem dX14_land_78 : decode cX14_land 78 = .ok (.aload_n 0, 1) := dk_42 (dk_at dksX14_land_3 10 rfl rfl)
theorem dX14_land_79 : decode cX14_land 79 = .ok (.getfield 40, 3) := dk_180 0 40 (dk_at dksX14_land_3 11 rfl rfl)
theorem dX14_land_82 : decode cX14_land 82 = .ok (.getfield 63, 3) := dk_180 0 63 (dk_at dksX14_land_3 14 rfl rfl)
theorem dX14_land_85 : decode cX14_land 85 = .ok (.iconst 5, 1) := dk_8 (dk_at dksX14_land_3 17 rfl rfl)
theorem dX14_land_86 : decode cX14_land 86 = .ok (.if_icmp .ge 7, 3) := dk_162 0 7 (dk_at dksX14_land_3 18 rfl rfl)
theorem dX14_land_89 : decode cX14_land 89 = .ok (.iconst 1, 1) := dk_4 (dk_at dksX14_land_3 21 rfl rfl)
theorem dX14_land_90 : decode cX14_land 90 = .ok (.goto 4, 3) := dk_167 0 4 (dk_at dksX14_land_4 0 rfl rfl)
theorem dX14_land_93 : decode cX14_land 93 = .ok (.iconst 0, 1) := dk_3 (dk_at dksX14_land_4 3 rfl rfl)
theorem dX14_land_94 : decode cX14_land 94 = .ok (.invokevirtual 66, 3) := dk_182 0 66 (dk_at dksX14_land_4 4 rfl rfl)
theorem dX14_land_97 : decode cX14_land 97 = .ok (.aload_n 0, 1) := dk_42 (dk_at dksX14_land_4 7 rfl rfl)
theorem dX14_land_98 : decode cX14_land 98 = .ok (.aload_n 0, 1) := dk_42 (dk_at dksX14_land_4 8 rfl rfl)
theorem dX14_land_99 : decode cX14_land 99 = .ok (.getfield 29, 3) := dk_180 0 29 (dk_at dksX14_land_4 9 rfl rfl)
theorem dX14_land_102 : decode cX14_land 102 = .ok (.iload_n 2, 1) := dk_28 (dk_at dksX14_land_4 12 rfl rfl)
theorem dX14_land_103 : decode cX14_land 103 = .ok (.aaload, 1) := dk_50 (dk_at dksX14_land_4 13 rfl rfl)
theorem dX14_land_104 : decode cX14_land 104 = .ok (.invokevirtual 69, 3) := dk_182 0 69 (dk_at dksX14_land_4 14 rfl rfl)
theorem dX14_land_107 : decode cX14_land 107 = .ok (.invokevirtual 72, 3) := dk_182 0 72 (dk_at dksX14_land_4 17 rfl rfl)
theorem dX14_land_110 : decode cX14_land 110 = .ok (.aload_n 0, 1) := dk_42 (dk_at dksX14_land_4 20 rfl rfl)
theorem dX14_land_111 : decode cX14_land 111 = .ok (.iload_n 2, 1) := dk_28 (dk_at dksX14_land_4 21 rfl rfl)
theorem dX14_land_112 : decode cX14_land 112 = .ok (.invokevirtual 76, 3) := dk_182 0 76 (dk_at dksX14_land_5 0 rfl rfl)
theorem dX14_land_115 : decode cX14_land 115 = .ok (.aload_n 0, 1) := dk_42 (dk_at dksX14_land_5 3 rfl rfl)
theorem dX14_land_116 : decode cX14_land 116 = .ok (.bipush 59, 2) := dk_16 59 (dk_at dksX14_land_5 4 rfl rfl)
theorem dX14_land_118 : decode cX14_land 118 = .ok (.invokevirtual 79, 3) := dk_182 0 79 (dk_at dksX14_land_5 6 rfl rfl)
theorem dX14_land_121 : decode cX14_land 121 = .ok (.iinc 1 1, 3) := dk_132 1 1 (dk_at dksX14_land_5 9 rfl rfl)
theorem dX14_land_124 : decode cX14_land 124 = .ok (.goto (-122), 3) := dk_167 255 134 (dk_at dksX14_land_5 12 rfl rfl)
theorem dX14_land_127 : decode cX14_land 127 = .ok (.aload_n 0, 1) := dk_42 (dk_at dksX14_land_5 15 rfl rfl)
theorem dX14_land_128 : decode cX14_land 128 = .ok (.getfield 40, 3) := dk_180 0 40 (dk_at dksX14_land_5 16 rfl rfl)
theorem dX14_land_131 : decode cX14_land 131 = .ok (.getfield 56, 3) := dk_180 0 56 (dk_at dksX14_land_5 19 rfl rfl)
theorem dX14_land_134 : decode cX14_land 134 = .ok (.ifCond .eq 13, 3) := dk_153 0 13 (dk_at dksX14_land_6 0 rfl rfl)
theorem dX14_land_137 : decode cX14_land 137 = .ok (.aload_n 0, 1) := dk_42 (dk_at dksX14_land_6 3 rfl rfl)
theorem dX14_land_138 : decode cX14_land 138 = .ok (.getfield 40, 3) := dk_180 0 40 (dk_at dksX14_land_6 4 rfl rfl)
theorem dX14_land_141 : decode cX14_land 141 = .ok (.getfield 63, 3) := dk_180 0 63 (dk_at dksX14_land_6 7 rfl rfl)
theorem dX14_land_144 : decode cX14_land 144 = .ok (.ifCond .ne 16, 3) := dk_154 0 16 (dk_at dksX14_land_6 10 rfl rfl)
theorem dX14_land_147 : decode cX14_land 147 = .ok (.new 82, 3) := dk_187 0 82 (dk_at dksX14_land_6 13 rfl rfl)
theorem dX14_land_150 : decode cX14_land 150 = .ok (.dup, 1) := dk_89 (dk_at dksX14_land_6 16 rfl rfl)
theorem dX14_land_151 : decode cX14_land 151 = .ok (.iconst 4, 1) := dk_7 (dk_at dksX14_land_6 17 rfl rfl)
theorem dX14_land_152 : decode cX14_land 152 = .ok (.aload_n 0, 1) := dk_42 (dk_at dksX14_land_6 18 rfl rfl)
theorem dX14_land_153 : decode cX14_land 153 = .ok (.invokevirtual 84, 3) := dk_182 0 84 (dk_at dksX14_land_6 19 rfl rfl)
theorem dX14_land_156 : decode cX14_land 156 = .ok (.invokespecial 87, 3) := dk_183 0 87 (dk_at dksX14_land_7 0 rfl rfl)
theorem dX14_land_159 : decode cX14_land 159 = .ok (.athrow, 1) := dk_191 (dk_at dksX14_land_7 3 rfl rfl)
theorem dX14_land_160 : decode cX14_land 160 = .ok (.aload_n 0, 1) := dk_42 (dk_at dksX14_land_7 4 rfl rfl)
theorem dX14_land_161 : decode cX14_land 161 = .ok (.getfield 40, 3) := dk_180 0 40 (dk_at dksX14_land_7 5 rfl rfl)
theorem dX14_land_164 : decode cX14_land 164 = .ok (.areturn, 1) := dk_176 (dk_at dksX14_land_7 8 rfl rfl)
abbrev cX14_clause : ByteArray := prog_10_method_4_code
def yX14_clause : MethodName := ⟨RX14, "clause", "(I)V"⟩
def dkwX14_clause_11 : List UInt8 := [182, 0, 96, 181, 0, 121, 177]
abbrev dktX14_clause_11 : List UInt8 := dkwX14_clause_11 ++ []
def dkwX14_clause_10 : List UInt8 := [42, 180, 0, 40, 42, 3, 16, 99, 2, 182, 0, 90, 181, 0, 119, 167, 0, 15, 42, 180, 0, 40, 42, 2]
abbrev dktX14_clause_10 : List UInt8 := dkwX14_clause_10 ++ dktX14_clause_11
def dkwX14_clause_9 : List UInt8 := [181, 0, 115, 167, 0, 51, 42, 180, 0, 40, 42, 4, 16, 12, 2, 182, 0, 90, 181, 0, 117, 167, 0, 33]
abbrev dktX14_clause_9 : List UInt8 := dkwX14_clause_9 ++ dktX14_clause_10
def dkwX14_clause_8 : List UInt8 := [3, 16, 99, 2, 182, 0, 90, 79, 167, 0, 69, 42, 180, 0, 40, 42, 4, 16, 24, 2, 182, 0, 90]
abbrev dktX14_clause_8 : List UInt8 := dkwX14_clause_8 ++ dktX14_clause_9
def dkwX14_clause_7 : List UInt8 := [4, 100, 2, 182, 0, 90, 61, 42, 2, 182, 0, 96, 62, 42, 180, 0, 40, 180, 0, 112, 28, 50, 29, 42]
abbrev dktX14_clause_7 : List UInt8 := dkwX14_clause_7 ++ dktX14_clause_8
def dkwX14_clause_6 : List UInt8 := [180, 0, 40, 89, 180, 0, 63, 4, 96, 181, 0, 63, 167, 0, 113, 42, 3, 42, 180, 0, 40, 180, 0, 63]
abbrev dktX14_clause_6 : List UInt8 := dkwX14_clause_6 ++ dktX14_clause_7
def dkwX14_clause_5 : List UInt8 := [42, 180, 0, 40, 180, 0, 109, 42, 180, 0, 40, 180, 0, 63, 42, 3, 16, 9, 2, 182, 0, 90, 79, 42]
abbrev dktX14_clause_5 : List UInt8 := dkwX14_clause_5 ++ dktX14_clause_6
def dkwX14_clause_4 : List UInt8 := [79, 42, 180, 0, 40, 89, 180, 0, 60, 4, 96, 181, 0, 60, 167, 0, 159, 42, 182, 0, 107, 167, 0, 152]
abbrev dktX14_clause_4 : List UInt8 := dkwX14_clause_4 ++ dktX14_clause_5
def dkwX14_clause_3 : List UInt8 := [180, 0, 60, 28, 79, 42, 180, 0, 40, 180, 0, 104, 42, 180, 0, 40, 180, 0, 60, 42, 28, 182, 0, 96]
abbrev dktX14_clause_3 : List UInt8 := dkwX14_clause_3 ++ dktX14_clause_4
def dkwX14_clause_2 : List UInt8 := [42, 182, 0, 94, 167, 0, 217, 42, 2, 182, 0, 96, 61, 42, 180, 0, 40, 180, 0, 100, 42, 180, 0, 40]
abbrev dktX14_clause_2 : List UInt8 := dkwX14_clause_2 ++ dktX14_clause_3
def dkwX14_clause_1 : List UInt8 := [170, 0, 0, 0, 0, 1, 0, 0, 0, 0, 0, 0, 0, 0, 7, 0, 0, 0, 47, 0, 0, 0, 54, 0, 0, 0, 112, 0, 0, 0, 119, 0, 0, 0, 158, 0, 0, 0, 202, 0, 0, 0, 220, 0, 0, 0, 238]
abbrev dktX14_clause_1 : List UInt8 := dkwX14_clause_1 ++ dktX14_clause_2
def dkwX14_clause_0 : List UInt8 := [27]
abbrev dktX14_clause_0 : List UInt8 := dkwX14_clause_0 ++ dktX14_clause_1
theorem dksX14_clause_0 : cX14_clause.data.toList.drop 0 = dktX14_clause_0 := by decide +kernel
theorem dksX14_clause_1 : cX14_clause.data.toList.drop 1 = dktX14_clause_1 := dk_seg dksX14_clause_0 1 rfl rfl
theorem dksX14_clause_2 : cX14_clause.data.toList.drop 48 = dktX14_clause_2 := dk_seg dksX14_clause_1 47 rfl rfl
theorem dksX14_clause_3 : cX14_clause.data.toList.drop 72 = dktX14_clause_3 := dk_seg dksX14_clause_2 24 rfl rfl
theorem dksX14_clause_4 : cX14_clause.data.toList.drop 96 = dktX14_clause_4 := dk_seg dksX14_clause_3 24 rfl rfl
theorem dksX14_clause_5 : cX14_clause.data.toList.drop 120 = dktX14_clause_5 := dk_seg dksX14_clause_4 24 rfl rfl
theorem dksX14_clause_6 : cX14_clause.data.toList.drop 144 = dktX14_clause_6 := dk_seg dksX14_clause_5 24 rfl rfl
theorem dksX14_clause_7 : cX14_clause.data.toList.drop 168 = dktX14_clause_7 := dk_seg dksX14_clause_6 24 rfl rfl
theorem dksX14_clause_8 : cX14_clause.data.toList.drop 192 = dktX14_clause_8 := dk_seg dksX14_clause_7 24 rfl rfl
theorem dksX14_clause_9 : cX14_clause.data.toList.drop 215 = dktX14_clause_9 := dk_seg dksX14_clause_8 23 rfl rfl
theorem dksX14_clause_10 : cX14_clause.data.toList.drop 239 = dktX14_clause_10 := dk_seg dksX14_clause_9 24 rfl rfl
theorem dksX14_clause_11 : cX14_clause.data.toList.drop 263 = dktX14_clause_11 := dk_seg dksX14_clause_10 24 rfl rfl
theorem dX14_clause_0 : decode cX14_clause 0 = .ok (.iload_n 1, 1) := dk_27 (dk_at dksX14_clause_0 0 rfl rfl)
theorem dX14_clause_1 : decode cX14_clause 1 = .ok (.tableswitch 256 0 7 #[47, 54, 112, 119, 158, 202, 220, 238], 47) := by decide +kernel
theorem dX14_clause_48 : decode cX14_clause 48 = .ok (.aload_n 0, 1) := dk_42 (dk_at dksX14_clause_2 0 rfl rfl)
theorem dX14_clause_49 : decode cX14_clause 49 = .ok (.invokevirtual 94, 3) := dk_182 0 94 (dk_at dksX14_clause_2 1 rfl rfl)
theorem dX14_clause_52 : decode cX14_clause 52 = .ok (.goto 217, 3) := dk_167 0 217 (dk_at dksX14_clause_2 4 rfl rfl)
theorem dX14_clause_55 : decode cX14_clause 55 = .ok (.aload_n 0, 1) := dk_42 (dk_at dksX14_clause_2 7 rfl rfl)
theorem dX14_clause_56 : decode cX14_clause 56 = .ok (.iconst (-1), 1) := dk_2 (dk_at dksX14_clause_2 8 rfl rfl)
theorem dX14_clause_57 : decode cX14_clause 57 = .ok (.invokevirtual 96, 3) := dk_182 0 96 (dk_at dksX14_clause_2 9 rfl rfl)
theorem dX14_clause_60 : decode cX14_clause 60 = .ok (.istore_n 2, 1) := dk_61 (dk_at dksX14_clause_2 12 rfl rfl)
theorem dX14_clause_61 : decode cX14_clause 61 = .ok (.aload_n 0, 1) := dk_42 (dk_at dksX14_clause_2 13 rfl rfl)
theorem dX14_clause_62 : decode cX14_clause 62 = .ok (.getfield 40, 3) := dk_180 0 40 (dk_at dksX14_clause_2 14 rfl rfl)
theorem dX14_clause_65 : decode cX14_clause 65 = .ok (.getfield 100, 3) := dk_180 0 100 (dk_at dksX14_clause_2 17 rfl rfl)
theorem dX14_clause_68 : decode cX14_clause 68 = .ok (.aload_n 0, 1) := dk_42 (dk_at dksX14_clause_2 20 rfl rfl)
theorem dX14_clause_69 : decode cX14_clause 69 = .ok (.getfield 40, 3) := dk_180 0 40 (dk_at dksX14_clause_2 21 rfl rfl)
theorem dX14_clause_72 : decode cX14_clause 72 = .ok (.getfield 60, 3) := dk_180 0 60 (dk_at dksX14_clause_3 0 rfl rfl)
theorem dX14_clause_75 : decode cX14_clause 75 = .ok (.iload_n 2, 1) := dk_28 (dk_at dksX14_clause_3 3 rfl rfl)
theorem dX14_clause_76 : decode cX14_clause 76 = .ok (.iastore, 1) := dk_79 (dk_at dksX14_clause_3 4 rfl rfl)
theorem dX14_clause_77 : decode cX14_clause 77 = .ok (.aload_n 0, 1) := dk_42 (dk_at dksX14_clause_3 5 rfl rfl)
theorem dX14_clause_78 : decode cX14_clause 78 = .ok (.getfield 40, 3) := dk_180 0 40 (dk_at dksX14_clause_3 6 rfl rfl)
theorem dX14_clause_81 : decode cX14_clause 81 = .ok (.getfield 104, 3) := dk_180 0 104 (dk_at dksX14_clause_3 9 rfl rfl)
theorem dX14_clause_84 : decode cX14_clause 84 = .ok (.aload_n 0, 1) := dk_42 (dk_at dksX14_clause_3 12 rfl rfl)
theorem dX14_clause_85 : decode cX14_clause 85 = .ok (.getfield 40, 3) := dk_180 0 40 (dk_at dksX14_clause_3 13 rfl rfl)
theorem dX14_clause_88 : decode cX14_clause 88 = .ok (.getfield 60, 3) := dk_180 0 60 (dk_at dksX14_clause_3 16 rfl rfl)
theorem dX14_clause_91 : decode cX14_clause 91 = .ok (.aload_n 0, 1) := dk_42 (dk_at dksX14_clause_3 19 rfl rfl)
theorem dX14_clause_92 : decode cX14_clause 92 = .ok (.iload_n 2, 1) := dk_28 (dk_at dksX14_clause_3 20 rfl rfl)
theorem dX14_clause_93 : decode cX14_clause 93 = .ok (.invokevirtual 96, 3) := dk_182 0 96 (dk_at dksX14_clause_3 21 rfl rfl)
theorem dX14_clause_96 : decode cX14_clause 96 = .ok (.iastore, 1) := dk_79 (dk_at dksX14_clause_4 0 rfl rfl)
theorem dX14_clause_97 : decode cX14_clause 97 = .ok (.aload_n 0, 1) := dk_42 (dk_at dksX14_clause_4 1 rfl rfl)
theorem dX14_clause_98 : decode cX14_clause 98 = .ok (.getfield 40, 3) := dk_180 0 40 (dk_at dksX14_clause_4 2 rfl rfl)
theorem dX14_clause_101 : decode cX14_clause 101 = .ok (.dup, 1) := dk_89 (dk_at dksX14_clause_4 5 rfl rfl)
theorem dX14_clause_102 : decode cX14_clause 102 = .ok (.getfield 60, 3) := dk_180 0 60 (dk_at dksX14_clause_4 6 rfl rfl)
theorem dX14_clause_105 : decode cX14_clause 105 = .ok (.iconst 1, 1) := dk_4 (dk_at dksX14_clause_4 9 rfl rfl)
theorem dX14_clause_106 : decode cX14_clause 106 = .ok (.iadd, 1) := dk_96 (dk_at dksX14_clause_4 10 rfl rfl)
theorem dX14_clause_107 : decode cX14_clause 107 = .ok (.putfield 60, 3) := dk_181 0 60 (dk_at dksX14_clause_4 11 rfl rfl)
theorem dX14_clause_110 : decode cX14_clause 110 = .ok (.goto 159, 3) := dk_167 0 159 (dk_at dksX14_clause_4 14 rfl rfl)
theorem dX14_clause_113 : decode cX14_clause 113 = .ok (.aload_n 0, 1) := dk_42 (dk_at dksX14_clause_4 17 rfl rfl)
theorem dX14_clause_114 : decode cX14_clause 114 = .ok (.invokevirtual 107, 3) := dk_182 0 107 (dk_at dksX14_clause_4 18 rfl rfl)
theorem dX14_clause_117 : decode cX14_clause 117 = .ok (.goto 152, 3) := dk_167 0 152 (dk_at dksX14_clause_4 21 rfl rfl)
theorem dX14_clause_120 : decode cX14_clause 120 = .ok (.aload_n 0, 1) := dk_42 (dk_at dksX14_clause_5 0 rfl rfl)
theorem dX14_clause_121 : decode cX14_clause 121 = .ok (.getfield 40, 3) := dk_180 0 40 (dk_at dksX14_clause_5 1 rfl rfl)
theorem dX14_clause_124 : decode cX14_clause 124 = .ok (.getfield 109, 3) := dk_180 0 109 (dk_at dksX14_clause_5 4 rfl rfl)
theorem dX14_clause_127 : decode cX14_clause 127 = .ok (.aload_n 0, 1) := dk_42 (dk_at dksX14_clause_5 7 rfl rfl)
theorem dX14_clause_128 : decode cX14_clause 128 = .ok (.getfield 40, 3) := dk_180 0 40 (dk_at dksX14_clause_5 8 rfl rfl)
theorem dX14_clause_131 : decode cX14_clause 131 = .ok (.getfield 63, 3) := dk_180 0 63 (dk_at dksX14_clause_5 11 rfl rfl)
theorem dX14_clause_134 : decode cX14_clause 134 = .ok (.aload_n 0, 1) := dk_42 (dk_at dksX14_clause_5 14 rfl rfl)
theorem dX14_clause_135 : decode cX14_clause 135 = .ok (.iconst 0, 1) := dk_3 (dk_at dksX14_clause_5 15 rfl rfl)
theorem dX14_clause_136 : decode cX14_clause 136 = .ok (.bipush 9, 2) := dk_16 9 (dk_at dksX14_clause_5 16 rfl rfl)
theorem dX14_clause_138 : decode cX14_clause 138 = .ok (.iconst (-1), 1) := dk_2 (dk_at dksX14_clause_5 18 rfl rfl)
theorem dX14_clause_139 : decode cX14_clause 139 = .ok (.invokevirtual 90, 3) := dk_182 0 90 (dk_at dksX14_clause_5 19 rfl rfl)
theorem dX14_clause_142 : decode cX14_clause 142 = .ok (.iastore, 1) := dk_79 (dk_at dksX14_clause_5 22 rfl rfl)
theorem dX14_clause_143 : decode cX14_clause 143 = .ok (.aload_n 0, 1) := dk_42 (dk_at dksX14_clause_5 23 rfl rfl)
theorem dX14_clause_144 : decode cX14_clause 144 = .ok (.getfield 40, 3) := dk_180 0 40 (dk_at dksX14_clause_6 0 rfl rfl)
theorem dX14_clause_147 : decode cX14_clause 147 = .ok (.dup, 1) := dk_89 (dk_at dksX14_clause_6 3 rfl rfl)
theorem dX14_clause_148 : decode cX14_clause 148 = .ok (.getfield 63, 3) := dk_180 0 63 (dk_at dksX14_clause_6 4 rfl rfl)
theorem dX14_clause_151 : decode cX14_clause 151 = .ok (.iconst 1, 1) := dk_4 (dk_at dksX14_clause_6 7 rfl rfl)
theorem dX14_clause_152 : decode cX14_clause 152 = .ok (.iadd, 1) := dk_96 (dk_at dksX14_clause_6 8 rfl rfl)
theorem dX14_clause_153 : decode cX14_clause 153 = .ok (.putfield 63, 3) := dk_181 0 63 (dk_at dksX14_clause_6 9 rfl rfl)
theorem dX14_clause_156 : decode cX14_clause 156 = .ok (.goto 113, 3) := dk_167 0 113 (dk_at dksX14_clause_6 12 rfl rfl)
theorem dX14_clause_159 : decode cX14_clause 159 = .ok (.aload_n 0, 1) := dk_42 (dk_at dksX14_clause_6 15 rfl rfl)
theorem dX14_clause_160 : decode cX14_clause 160 = .ok (.iconst 0, 1) := dk_3 (dk_at dksX14_clause_6 16 rfl rfl)
theorem dX14_clause_161 : decode cX14_clause 161 = .ok (.aload_n 0, 1) := dk_42 (dk_at dksX14_clause_6 17 rfl rfl)
theorem dX14_clause_162 : decode cX14_clause 162 = .ok (.getfield 40, 3) := dk_180 0 40 (dk_at dksX14_clause_6 18 rfl rfl)
theorem dX14_clause_165 : decode cX14_clause 165 = .ok (.getfield 63, 3) := dk_180 0 63 (dk_at dksX14_clause_6 21 rfl rfl)
theorem dX14_clause_168 : decode cX14_clause 168 = .ok (.iconst 1, 1) := dk_4 (dk_at dksX14_clause_7 0 rfl rfl)
theorem dX14_clause_169 : decode cX14_clause 169 = .ok (.isub, 1) := dk_100 (dk_at dksX14_clause_7 1 rfl rfl)
theorem dX14_clause_170 : decode cX14_clause 170 = .ok (.iconst (-1), 1) := dk_2 (dk_at dksX14_clause_7 2 rfl rfl)
theorem dX14_clause_171 : decode cX14_clause 171 = .ok (.invokevirtual 90, 3) := dk_182 0 90 (dk_at dksX14_clause_7 3 rfl rfl)
theorem dX14_clause_174 : decode cX14_clause 174 = .ok (.istore_n 2, 1) := dk_61 (dk_at dksX14_clause_7 6 rfl rfl)
theorem dX14_clause_175 : decode cX14_clause 175 = .ok (.aload_n 0, 1) := dk_42 (dk_at dksX14_clause_7 7 rfl rfl)
theorem dX14_clause_176 : decode cX14_clause 176 = .ok (.iconst (-1), 1) := dk_2 (dk_at dksX14_clause_7 8 rfl rfl)
theorem dX14_clause_177 : decode cX14_clause 177 = .ok (.invokevirtual 96, 3) := dk_182 0 96 (dk_at dksX14_clause_7 9 rfl rfl)
theorem dX14_clause_180 : decode cX14_clause 180 = .ok (.istore_n 3, 1) := dk_62 (dk_at dksX14_clause_7 12 rfl rfl)
theorem dX14_clause_181 : decode cX14_clause 181 = .ok (.aload_n 0, 1) := dk_42 (dk_at dksX14_clause_7 13 rfl rfl)
theorem dX14_clause_182 : decode cX14_clause 182 = .ok (.getfield 40, 3) := dk_180 0 40 (dk_at dksX14_clause_7 14 rfl rfl)
theorem dX14_clause_185 : decode cX14_clause 185 = .ok (.getfield 112, 3) := dk_180 0 112 (dk_at dksX14_clause_7 17 rfl rfl)
theorem dX14_clause_188 : decode cX14_clause 188 = .ok (.iload_n 2, 1) := dk_28 (dk_at dksX14_clause_7 20 rfl rfl)
theorem dX14_clause_189 : decode cX14_clause 189 = .ok (.aaload, 1) := dk_50 (dk_at dksX14_clause_7 21 rfl rfl)
theorem dX14_clause_190 : decode cX14_clause 190 = .ok (.iload_n 3, 1) := dk_29 (dk_at dksX14_clause_7 22 rfl rfl)
theorem dX14_clause_191 : decode cX14_clause 191 = .ok (.aload_n 0, 1) := dk_42 (dk_at dksX14_clause_7 23 rfl rfl)
theorem dX14_clause_192 : decode cX14_clause 192 = .ok (.iconst 0, 1) := dk_3 (dk_at dksX14_clause_8 0 rfl rfl)
theorem dX14_clause_193 : decode cX14_clause 193 = .ok (.bipush 99, 2) := dk_16 99 (dk_at dksX14_clause_8 1 rfl rfl)
theorem dX14_clause_195 : decode cX14_clause 195 = .ok (.iconst (-1), 1) := dk_2 (dk_at dksX14_clause_8 3 rfl rfl)
theorem dX14_clause_196 : decode cX14_clause 196 = .ok (.invokevirtual 90, 3) := dk_182 0 90 (dk_at dksX14_clause_8 4 rfl rfl)
theorem dX14_clause_199 : decode cX14_clause 199 = .ok (.iastore, 1) := dk_79 (dk_at dksX14_clause_8 7 rfl rfl)
theorem dX14_clause_200 : decode cX14_clause 200 = .ok (.goto 69, 3) := dk_167 0 69 (dk_at dksX14_clause_8 8 rfl rfl)
theorem dX14_clause_203 : decode cX14_clause 203 = .ok (.aload_n 0, 1) := dk_42 (dk_at dksX14_clause_8 11 rfl rfl)
theorem dX14_clause_204 : decode cX14_clause 204 = .ok (.getfield 40, 3) := dk_180 0 40 (dk_at dksX14_clause_8 12 rfl rfl)
theorem dX14_clause_207 : decode cX14_clause 207 = .ok (.aload_n 0, 1) := dk_42 (dk_at dksX14_clause_8 15 rfl rfl)
theorem dX14_clause_208 : decode cX14_clause 208 = .ok (.iconst 1, 1) := dk_4 (dk_at dksX14_clause_8 16 rfl rfl)
theorem dX14_clause_209 : decode cX14_clause 209 = .ok (.bipush 24, 2) := dk_16 24 (dk_at dksX14_clause_8 17 rfl rfl)
theorem dX14_clause_211 : decode cX14_clause 211 = .ok (.iconst (-1), 1) := dk_2 (dk_at dksX14_clause_8 19 rfl rfl)
theorem dX14_clause_212 : decode cX14_clause 212 = .ok (.invokevirtual 90, 3) := dk_182 0 90 (dk_at dksX14_clause_8 20 rfl rfl)
theorem dX14_clause_215 : decode cX14_clause 215 = .ok (.putfield 115, 3) := dk_181 0 115 (dk_at dksX14_clause_9 0 rfl rfl)
theorem dX14_clause_218 : decode cX14_clause 218 = .ok (.goto 51, 3) := dk_167 0 51 (dk_at dksX14_clause_9 3 rfl rfl)
theorem dX14_clause_221 : decode cX14_clause 221 = .ok (.aload_n 0, 1) := dk_42 (dk_at dksX14_clause_9 6 rfl rfl)
theorem dX14_clause_222 : decode cX14_clause 222 = .ok (.getfield 40, 3) := dk_180 0 40 (dk_at dksX14_clause_9 7 rfl rfl)
theorem dX14_clause_225 : decode cX14_clause 225 = .ok (.aload_n 0, 1) := dk_42 (dk_at dksX14_clause_9 10 rfl rfl)
theorem dX14_clause_226 : decode cX14_clause 226 = .ok (.iconst 1, 1) := dk_4 (dk_at dksX14_clause_9 11 rfl rfl)
theorem dX14_clause_227 : decode cX14_clause 227 = .ok (.bipush 12, 2) := dk_16 12 (dk_at dksX14_clause_9 12 rfl rfl)
theorem dX14_clause_229 : decode cX14_clause 229 = .ok (.iconst (-1), 1) := dk_2 (dk_at dksX14_clause_9 14 rfl rfl)
theorem dX14_clause_230 : decode cX14_clause 230 = .ok (.invokevirtual 90, 3) := dk_182 0 90 (dk_at dksX14_clause_9 15 rfl rfl)
theorem dX14_clause_233 : decode cX14_clause 233 = .ok (.putfield 117, 3) := dk_181 0 117 (dk_at dksX14_clause_9 18 rfl rfl)
theorem dX14_clause_236 : decode cX14_clause 236 = .ok (.goto 33, 3) := dk_167 0 33 (dk_at dksX14_clause_9 21 rfl rfl)
theorem dX14_clause_239 : decode cX14_clause 239 = .ok (.aload_n 0, 1) := dk_42 (dk_at dksX14_clause_10 0 rfl rfl)
theorem dX14_clause_240 : decode cX14_clause 240 = .ok (.getfield 40, 3) := dk_180 0 40 (dk_at dksX14_clause_10 1 rfl rfl)
theorem dX14_clause_243 : decode cX14_clause 243 = .ok (.aload_n 0, 1) := dk_42 (dk_at dksX14_clause_10 4 rfl rfl)
theorem dX14_clause_244 : decode cX14_clause 244 = .ok (.iconst 0, 1) := dk_3 (dk_at dksX14_clause_10 5 rfl rfl)
theorem dX14_clause_245 : decode cX14_clause 245 = .ok (.bipush 99, 2) := dk_16 99 (dk_at dksX14_clause_10 6 rfl rfl)
theorem dX14_clause_247 : decode cX14_clause 247 = .ok (.iconst (-1), 1) := dk_2 (dk_at dksX14_clause_10 8 rfl rfl)
theorem dX14_clause_248 : decode cX14_clause 248 = .ok (.invokevirtual 90, 3) := dk_182 0 90 (dk_at dksX14_clause_10 9 rfl rfl)
theorem dX14_clause_251 : decode cX14_clause 251 = .ok (.putfield 119, 3) := dk_181 0 119 (dk_at dksX14_clause_10 12 rfl rfl)
theorem dX14_clause_254 : decode cX14_clause 254 = .ok (.goto 15, 3) := dk_167 0 15 (dk_at dksX14_clause_10 15 rfl rfl)
theorem dX14_clause_257 : decode cX14_clause 257 = .ok (.aload_n 0, 1) := dk_42 (dk_at dksX14_clause_10 18 rfl rfl)
theorem dX14_clause_258 : decode cX14_clause 258 = .ok (.getfield 40, 3) := dk_180 0 40 (dk_at dksX14_clause_10 19 rfl rfl)
theorem dX14_clause_261 : decode cX14_clause 261 = .ok (.aload_n 0, 1) := dk_42 (dk_at dksX14_clause_10 22 rfl rfl)
theorem dX14_clause_262 : decode cX14_clause 262 = .ok (.iconst (-1), 1) := dk_2 (dk_at dksX14_clause_10 23 rfl rfl)
theorem dX14_clause_263 : decode cX14_clause 263 = .ok (.invokevirtual 96, 3) := dk_182 0 96 (dk_at dksX14_clause_11 0 rfl rfl)
theorem dX14_clause_266 : decode cX14_clause 266 = .ok (.putfield 121, 3) := dk_181 0 121 (dk_at dksX14_clause_11 3 rfl rfl)
theorem dX14_clause_269 : decode cX14_clause 269 = .ok (.return_, 1) := dk_177 (dk_at dksX14_clause_11 6 rfl rfl)
abbrev cX14_place : ByteArray := prog_10_method_5_code
def yX14_place : MethodName := ⟨RX14, "place", "()V"⟩
def dkwX14_place_3 : List UInt8 := [180, 0, 40, 89, 180, 0, 56, 4, 96, 181, 0, 56, 177]
abbrev dktX14_place_3 : List UInt8 := dkwX14_place_3 ++ []
def dkwX14_place_2 : List UInt8 := [180, 0, 56, 51, 154, 0, 16, 42, 18, 136, 182, 0, 129, 153, 0, 7, 4, 167, 0, 4, 3, 84, 42]
abbrev dktX14_place_2 : List UInt8 := dkwX14_place_2 ++ dktX14_place_3
def dkwX14_place_1 : List UInt8 := [180, 0, 40, 180, 0, 133, 42, 180, 0, 40, 180, 0, 56, 42, 180, 0, 40, 180, 0, 123, 42, 180, 0, 40]
abbrev dktX14_place_1 : List UInt8 := dkwX14_place_1 ++ dktX14_place_2
def dkwX14_place_0 : List UInt8 := [42, 180, 0, 40, 180, 0, 123, 42, 180, 0, 40, 180, 0, 56, 42, 18, 127, 182, 0, 129, 84, 42]
abbrev dktX14_place_0 : List UInt8 := dkwX14_place_0 ++ dktX14_place_1
theorem dksX14_place_0 : cX14_place.data.toList.drop 0 = dktX14_place_0 := by decide +kernel
theorem dksX14_place_1 : cX14_place.data.toList.drop 22 = dktX14_place_1 := dk_seg dksX14_place_0 22 rfl rfl
theorem dksX14_place_2 : cX14_place.data.toList.drop 46 = dktX14_place_2 := dk_seg dksX14_place_1 24 rfl rfl
theorem dksX14_place_3 : cX14_place.data.toList.drop 69 = dktX14_place_3 := dk_seg dksX14_place_2 23 rfl rfl
theorem dX14_place_0 : decode cX14_place 0 = .ok (.aload_n 0, 1) := dk_42 (dk_at dksX14_place_0 0 rfl rfl)
theorem dX14_place_1 : decode cX14_place 1 = .ok (.getfield 40, 3) := dk_180 0 40 (dk_at dksX14_place_0 1 rfl rfl)
theorem dX14_place_4 : decode cX14_place 4 = .ok (.getfield 123, 3) := dk_180 0 123 (dk_at dksX14_place_0 4 rfl rfl)
theorem dX14_place_7 : decode cX14_place 7 = .ok (.aload_n 0, 1) := dk_42 (dk_at dksX14_place_0 7 rfl rfl)
theorem dX14_place_8 : decode cX14_place 8 = .ok (.getfield 40, 3) := dk_180 0 40 (dk_at dksX14_place_0 8 rfl rfl)
theorem dX14_place_11 : decode cX14_place 11 = .ok (.getfield 56, 3) := dk_180 0 56 (dk_at dksX14_place_0 11 rfl rfl)
theorem dX14_place_14 : decode cX14_place 14 = .ok (.aload_n 0, 1) := dk_42 (dk_at dksX14_place_0 14 rfl rfl)
theorem dX14_place_15 : decode cX14_place 15 = .ok (.ldc 127, 2) := dk_18 127 (dk_at dksX14_place_0 15 rfl rfl)
theorem dX14_place_17 : decode cX14_place 17 = .ok (.invokevirtual 129, 3) := dk_182 0 129 (dk_at dksX14_place_0 17 rfl rfl)
theorem dX14_place_20 : decode cX14_place 20 = .ok (.bastore, 1) := dk_84 (dk_at dksX14_place_0 20 rfl rfl)
theorem dX14_place_21 : decode cX14_place 21 = .ok (.aload_n 0, 1) := dk_42 (dk_at dksX14_place_0 21 rfl rfl)
theorem dX14_place_22 : decode cX14_place 22 = .ok (.getfield 40, 3) := dk_180 0 40 (dk_at dksX14_place_1 0 rfl rfl)
theorem dX14_place_25 : decode cX14_place 25 = .ok (.getfield 133, 3) := dk_180 0 133 (dk_at dksX14_place_1 3 rfl rfl)
theorem dX14_place_28 : decode cX14_place 28 = .ok (.aload_n 0, 1) := dk_42 (dk_at dksX14_place_1 6 rfl rfl)
theorem dX14_place_29 : decode cX14_place 29 = .ok (.getfield 40, 3) := dk_180 0 40 (dk_at dksX14_place_1 7 rfl rfl)
theorem dX14_place_32 : decode cX14_place 32 = .ok (.getfield 56, 3) := dk_180 0 56 (dk_at dksX14_place_1 10 rfl rfl)
theorem dX14_place_35 : decode cX14_place 35 = .ok (.aload_n 0, 1) := dk_42 (dk_at dksX14_place_1 13 rfl rfl)
theorem dX14_place_36 : decode cX14_place 36 = .ok (.getfield 40, 3) := dk_180 0 40 (dk_at dksX14_place_1 14 rfl rfl)
theorem dX14_place_39 : decode cX14_place 39 = .ok (.getfield 123, 3) := dk_180 0 123 (dk_at dksX14_place_1 17 rfl rfl)
theorem dX14_place_42 : decode cX14_place 42 = .ok (.aload_n 0, 1) := dk_42 (dk_at dksX14_place_1 20 rfl rfl)
theorem dX14_place_43 : decode cX14_place 43 = .ok (.getfield 40, 3) := dk_180 0 40 (dk_at dksX14_place_1 21 rfl rfl)
theorem dX14_place_46 : decode cX14_place 46 = .ok (.getfield 56, 3) := dk_180 0 56 (dk_at dksX14_place_2 0 rfl rfl)
theorem dX14_place_49 : decode cX14_place 49 = .ok (.baload, 1) := dk_51 (dk_at dksX14_place_2 3 rfl rfl)
theorem dX14_place_50 : decode cX14_place 50 = .ok (.ifCond .ne 16, 3) := dk_154 0 16 (dk_at dksX14_place_2 4 rfl rfl)
theorem dX14_place_53 : decode cX14_place 53 = .ok (.aload_n 0, 1) := dk_42 (dk_at dksX14_place_2 7 rfl rfl)
theorem dX14_place_54 : decode cX14_place 54 = .ok (.ldc 136, 2) := dk_18 136 (dk_at dksX14_place_2 8 rfl rfl)
theorem dX14_place_56 : decode cX14_place 56 = .ok (.invokevirtual 129, 3) := dk_182 0 129 (dk_at dksX14_place_2 10 rfl rfl)
theorem dX14_place_59 : decode cX14_place 59 = .ok (.ifCond .eq 7, 3) := dk_153 0 7 (dk_at dksX14_place_2 13 rfl rfl)
theorem dX14_place_62 : decode cX14_place 62 = .ok (.iconst 1, 1) := dk_4 (dk_at dksX14_place_2 16 rfl rfl)
theorem dX14_place_63 : decode cX14_place 63 = .ok (.goto 4, 3) := dk_167 0 4 (dk_at dksX14_place_2 17 rfl rfl)
theorem dX14_place_66 : decode cX14_place 66 = .ok (.iconst 0, 1) := dk_3 (dk_at dksX14_place_2 20 rfl rfl)
theorem dX14_place_67 : decode cX14_place 67 = .ok (.bastore, 1) := dk_84 (dk_at dksX14_place_2 21 rfl rfl)
theorem dX14_place_68 : decode cX14_place 68 = .ok (.aload_n 0, 1) := dk_42 (dk_at dksX14_place_2 22 rfl rfl)
theorem dX14_place_69 : decode cX14_place 69 = .ok (.getfield 40, 3) := dk_180 0 40 (dk_at dksX14_place_3 0 rfl rfl)
theorem dX14_place_72 : decode cX14_place 72 = .ok (.dup, 1) := dk_89 (dk_at dksX14_place_3 3 rfl rfl)
theorem dX14_place_73 : decode cX14_place 73 = .ok (.getfield 56, 3) := dk_180 0 56 (dk_at dksX14_place_3 4 rfl rfl)
theorem dX14_place_76 : decode cX14_place 76 = .ok (.iconst 1, 1) := dk_4 (dk_at dksX14_place_3 7 rfl rfl)
theorem dX14_place_77 : decode cX14_place 77 = .ok (.iadd, 1) := dk_96 (dk_at dksX14_place_3 8 rfl rfl)
theorem dX14_place_78 : decode cX14_place 78 = .ok (.putfield 56, 3) := dk_181 0 56 (dk_at dksX14_place_3 9 rfl rfl)
theorem dX14_place_81 : decode cX14_place 81 = .ok (.return_, 1) := dk_177 (dk_at dksX14_place_3 12 rfl rfl)
abbrev cX14_placeHere : ByteArray := prog_10_method_3_code
def yX14_placeHere : MethodName := ⟨RX14, "placeHere", "(I)I"⟩
def dkwX14_placeHere_0 : List UInt8 := [42, 3, 42, 180, 0, 40, 180, 0, 56, 4, 100, 27, 182, 0, 90, 172]
abbrev dktX14_placeHere_0 : List UInt8 := dkwX14_placeHere_0 ++ []
theorem dksX14_placeHere_0 : cX14_placeHere.data.toList.drop 0 = dktX14_placeHere_0 := by decide +kernel
theorem dX14_placeHere_0 : decode cX14_placeHere 0 = .ok (.aload_n 0, 1) := dk_42 (dk_at dksX14_placeHere_0 0 rfl rfl)
theorem dX14_placeHere_1 : decode cX14_placeHere 1 = .ok (.iconst 0, 1) := dk_3 (dk_at dksX14_placeHere_0 1 rfl rfl)
theorem dX14_placeHere_2 : decode cX14_placeHere 2 = .ok (.aload_n 0, 1) := dk_42 (dk_at dksX14_placeHere_0 2 rfl rfl)
theorem dX14_placeHere_3 : decode cX14_placeHere 3 = .ok (.getfield 40, 3) := dk_180 0 40 (dk_at dksX14_placeHere_0 3 rfl rfl)
theorem dX14_placeHere_6 : decode cX14_placeHere 6 = .ok (.getfield 56, 3) := dk_180 0 56 (dk_at dksX14_placeHere_0 6 rfl rfl)
theorem dX14_placeHere_9 : decode cX14_placeHere 9 = .ok (.iconst 1, 1) := dk_4 (dk_at dksX14_placeHere_0 9 rfl rfl)
theorem dX14_placeHere_10 : decode cX14_placeHere 10 = .ok (.isub, 1) := dk_100 (dk_at dksX14_placeHere_0 10 rfl rfl)
theorem dX14_placeHere_11 : decode cX14_placeHere 11 = .ok (.iload_n 1, 1) := dk_27 (dk_at dksX14_placeHere_0 11 rfl rfl)
theorem dX14_placeHere_12 : decode cX14_placeHere 12 = .ok (.invokevirtual 90, 3) := dk_182 0 90 (dk_at dksX14_placeHere_0 12 rfl rfl)
theorem dX14_placeHere_15 : decode cX14_placeHere 15 = .ok (.ireturn, 1) := dk_172 (dk_at dksX14_placeHere_0 15 rfl rfl)
abbrev cX14_snow : ByteArray := prog_10_method_6_code
def yX14_snow : MethodName := ⟨RX14, "snow", "()V"⟩
def dkwX14_snow_5 : List UInt8 := [180, 0, 40, 180, 0, 146, 27, 50, 21, 7, 21, 6, 79, 132, 7, 1, 167, 255, 232, 177]
abbrev dktX14_snow_5 : List UInt8 := dkwX14_snow_5 ++ []
def dkwX14_snow_4 : List UInt8 := [54, 6, 42, 180, 0, 40, 21, 5, 181, 0, 138, 28, 54, 7, 21, 7, 21, 4, 163, 0, 23, 42]
abbrev dktX14_snow_4 : List UInt8 := dkwX14_snow_4 ++ dktX14_snow_5
def dkwX14_snow_3 : List UInt8 := [16, 10, 164, 0, 13, 187, 0, 82, 89, 5, 29, 183, 0, 87, 191, 42, 4, 16, 16, 2, 182, 0, 90]
abbrev dktX14_snow_3 : List UInt8 := dkwX14_snow_3 ++ dktX14_snow_4
def dkwX14_snow_2 : List UInt8 := [180, 0, 40, 180, 0, 138, 4, 21, 4, 4, 96, 120, 4, 28, 120, 100, 128, 54, 5, 21, 5, 184, 0, 141]
abbrev dktX14_snow_2 : List UInt8 := dkwX14_snow_2 ++ dktX14_snow_3
def dkwX14_snow_1 : List UInt8 := [61, 42, 182, 0, 44, 87, 42, 182, 0, 84, 62, 42, 28, 16, 23, 2, 182, 0, 90, 54, 4, 42]
abbrev dktX14_snow_1 : List UInt8 := dkwX14_snow_1 ++ dktX14_snow_2
def dkwX14_snow_0 : List UInt8 := [42, 3, 42, 180, 0, 40, 180, 0, 60, 4, 100, 2, 182, 0, 90, 60, 42, 3, 16, 23, 2, 182, 0, 90]
abbrev dktX14_snow_0 : List UInt8 := dkwX14_snow_0 ++ dktX14_snow_1
theorem dksX14_snow_0 : cX14_snow.data.toList.drop 0 = dktX14_snow_0 := by decide +kernel
theorem dksX14_snow_1 : cX14_snow.data.toList.drop 24 = dktX14_snow_1 := dk_seg dksX14_snow_0 24 rfl rfl
theorem dksX14_snow_2 : cX14_snow.data.toList.drop 46 = dktX14_snow_2 := dk_seg dksX14_snow_1 22 rfl rfl
theorem dksX14_snow_3 : cX14_snow.data.toList.drop 70 = dktX14_snow_3 := dk_seg dksX14_snow_2 24 rfl rfl
theorem dksX14_snow_4 : cX14_snow.data.toList.drop 93 = dktX14_snow_4 := dk_seg dksX14_snow_3 23 rfl rfl
theorem dksX14_snow_5 : cX14_snow.data.toList.drop 115 = dktX14_snow_5 := dk_seg dksX14_snow_4 22 rfl rfl
theorem dX14_snow_0 : decode cX14_snow 0 = .ok (.aload_n 0, 1) := dk_42 (dk_at dksX14_snow_0 0 rfl rfl)
theorem dX14_snow_1 : decode cX14_snow 1 = .ok (.iconst 0, 1) := dk_3 (dk_at dksX14_snow_0 1 rfl rfl)
theorem dX14_snow_2 : decode cX14_snow 2 = .ok (.aload_n 0, 1) := dk_42 (dk_at dksX14_snow_0 2 rfl rfl)
theorem dX14_snow_3 : decode cX14_snow 3 = .ok (.getfield 40, 3) := dk_180 0 40 (dk_at dksX14_snow_0 3 rfl rfl)
theorem dX14_snow_6 : decode cX14_snow 6 = .ok (.getfield 60, 3) := dk_180 0 60 (dk_at dksX14_snow_0 6 rfl rfl)
theorem dX14_snow_9 : decode cX14_snow 9 = .ok (.iconst 1, 1) := dk_4 (dk_at dksX14_snow_0 9 rfl rfl)
theorem dX14_snow_10 : decode cX14_snow 10 = .ok (.isub, 1) := dk_100 (dk_at dksX14_snow_0 10 rfl rfl)
theorem dX14_snow_11 : decode cX14_snow 11 = .ok (.iconst (-1), 1) := dk_2 (dk_at dksX14_snow_0 11 rfl rfl)
theorem dX14_snow_12 : decode cX14_snow 12 = .ok (.invokevirtual 90, 3) := dk_182 0 90 (dk_at dksX14_snow_0 12 rfl rfl)
theorem dX14_snow_15 : decode cX14_snow 15 = .ok (.istore_n 1, 1) := dk_60 (dk_at dksX14_snow_0 15 rfl rfl)
theorem dX14_snow_16 : decode cX14_snow 16 = .ok (.aload_n 0, 1) := dk_42 (dk_at dksX14_snow_0 16 rfl rfl)
theorem dX14_snow_17 : decode cX14_snow 17 = .ok (.iconst 0, 1) := dk_3 (dk_at dksX14_snow_0 17 rfl rfl)
theorem dX14_snow_18 : decode cX14_snow 18 = .ok (.bipush 23, 2) := dk_16 23 (dk_at dksX14_snow_0 18 rfl rfl)
theorem dX14_snow_20 : decode cX14_snow 20 = .ok (.iconst (-1), 1) := dk_2 (dk_at dksX14_snow_0 20 rfl rfl)
theorem dX14_snow_21 : decode cX14_snow 21 = .ok (.invokevirtual 90, 3) := dk_182 0 90 (dk_at dksX14_snow_0 21 rfl rfl)
theorem dX14_snow_24 : decode cX14_snow 24 = .ok (.istore_n 2, 1) := dk_61 (dk_at dksX14_snow_1 0 rfl rfl)
theorem dX14_snow_25 : decode cX14_snow 25 = .ok (.aload_n 0, 1) := dk_42 (dk_at dksX14_snow_1 1 rfl rfl)
theorem dX14_snow_26 : decode cX14_snow 26 = .ok (.invokevirtual 44, 3) := dk_182 0 44 (dk_at dksX14_snow_1 2 rfl rfl)
theorem dX14_snow_29 : decode cX14_snow 29 = .ok (.pop, 1) := dk_87 (dk_at dksX14_snow_1 5 rfl rfl)
theorem dX14_snow_30 : decode cX14_snow 30 = .ok (.aload_n 0, 1) := dk_42 (dk_at dksX14_snow_1 6 rfl rfl)
theorem dX14_snow_31 : decode cX14_snow 31 = .ok (.invokevirtual 84, 3) := dk_182 0 84 (dk_at dksX14_snow_1 7 rfl rfl)
theorem dX14_snow_34 : decode cX14_snow 34 = .ok (.istore_n 3, 1) := dk_62 (dk_at dksX14_snow_1 10 rfl rfl)
theorem dX14_snow_35 : decode cX14_snow 35 = .ok (.aload_n 0, 1) := dk_42 (dk_at dksX14_snow_1 11 rfl rfl)
theorem dX14_snow_36 : decode cX14_snow 36 = .ok (.iload_n 2, 1) := dk_28 (dk_at dksX14_snow_1 12 rfl rfl)
theorem dX14_snow_37 : decode cX14_snow 37 = .ok (.bipush 23, 2) := dk_16 23 (dk_at dksX14_snow_1 13 rfl rfl)
theorem dX14_snow_39 : decode cX14_snow 39 = .ok (.iconst (-1), 1) := dk_2 (dk_at dksX14_snow_1 15 rfl rfl)
theorem dX14_snow_40 : decode cX14_snow 40 = .ok (.invokevirtual 90, 3) := dk_182 0 90 (dk_at dksX14_snow_1 16 rfl rfl)
theorem dX14_snow_43 : decode cX14_snow 43 = .ok (.istore 4, 2) := dk_54 4 (dk_at dksX14_snow_1 19 rfl rfl)
theorem dX14_snow_45 : decode cX14_snow 45 = .ok (.aload_n 0, 1) := dk_42 (dk_at dksX14_snow_1 21 rfl rfl)
theorem dX14_snow_46 : decode cX14_snow 46 = .ok (.getfield 40, 3) := dk_180 0 40 (dk_at dksX14_snow_2 0 rfl rfl)
theorem dX14_snow_49 : decode cX14_snow 49 = .ok (.getfield 138, 3) := dk_180 0 138 (dk_at dksX14_snow_2 3 rfl rfl)
theorem dX14_snow_52 : decode cX14_snow 52 = .ok (.iconst 1, 1) := dk_4 (dk_at dksX14_snow_2 6 rfl rfl)
theorem dX14_snow_53 : decode cX14_snow 53 = .ok (.iload 4, 2) := dk_21 4 (dk_at dksX14_snow_2 7 rfl rfl)
theorem dX14_snow_55 : decode cX14_snow 55 = .ok (.iconst 1, 1) := dk_4 (dk_at dksX14_snow_2 9 rfl rfl)
theorem dX14_snow_56 : decode cX14_snow 56 = .ok (.iadd, 1) := dk_96 (dk_at dksX14_snow_2 10 rfl rfl)
theorem dX14_snow_57 : decode cX14_snow 57 = .ok (.ishl, 1) := dk_120 (dk_at dksX14_snow_2 11 rfl rfl)
theorem dX14_snow_58 : decode cX14_snow 58 = .ok (.iconst 1, 1) := dk_4 (dk_at dksX14_snow_2 12 rfl rfl)
theorem dX14_snow_59 : decode cX14_snow 59 = .ok (.iload_n 2, 1) := dk_28 (dk_at dksX14_snow_2 13 rfl rfl)
theorem dX14_snow_60 : decode cX14_snow 60 = .ok (.ishl, 1) := dk_120 (dk_at dksX14_snow_2 14 rfl rfl)
theorem dX14_snow_61 : decode cX14_snow 61 = .ok (.isub, 1) := dk_100 (dk_at dksX14_snow_2 15 rfl rfl)
theorem dX14_snow_62 : decode cX14_snow 62 = .ok (.ior, 1) := dk_128 (dk_at dksX14_snow_2 16 rfl rfl)
theorem dX14_snow_63 : decode cX14_snow 63 = .ok (.istore 5, 2) := dk_54 5 (dk_at dksX14_snow_2 17 rfl rfl)
theorem dX14_snow_65 : decode cX14_snow 65 = .ok (.iload 5, 2) := dk_21 5 (dk_at dksX14_snow_2 19 rfl rfl)
theorem dX14_snow_67 : decode cX14_snow 67 = .ok (.invokestatic 141, 3) := dk_184 0 141 (dk_at dksX14_snow_2 21 rfl rfl)
theorem dX14_snow_70 : decode cX14_snow 70 = .ok (.bipush 10, 2) := dk_16 10 (dk_at dksX14_snow_3 0 rfl rfl)
theorem dX14_snow_72 : decode cX14_snow 72 = .ok (.if_icmp .le 13, 3) := dk_164 0 13 (dk_at dksX14_snow_3 2 rfl rfl)
theorem dX14_snow_75 : decode cX14_snow 75 = .ok (.new 82, 3) := dk_187 0 82 (dk_at dksX14_snow_3 5 rfl rfl)
theorem dX14_snow_78 : decode cX14_snow 78 = .ok (.dup, 1) := dk_89 (dk_at dksX14_snow_3 8 rfl rfl)
theorem dX14_snow_79 : decode cX14_snow 79 = .ok (.iconst 2, 1) := dk_5 (dk_at dksX14_snow_3 9 rfl rfl)
theorem dX14_snow_80 : decode cX14_snow 80 = .ok (.iload_n 3, 1) := dk_29 (dk_at dksX14_snow_3 10 rfl rfl)
theorem dX14_snow_81 : decode cX14_snow 81 = .ok (.invokespecial 87, 3) := dk_183 0 87 (dk_at dksX14_snow_3 11 rfl rfl)
theorem dX14_snow_84 : decode cX14_snow 84 = .ok (.athrow, 1) := dk_191 (dk_at dksX14_snow_3 14 rfl rfl)
theorem dX14_snow_85 : decode cX14_snow 85 = .ok (.aload_n 0, 1) := dk_42 (dk_at dksX14_snow_3 15 rfl rfl)
theorem dX14_snow_86 : decode cX14_snow 86 = .ok (.iconst 1, 1) := dk_4 (dk_at dksX14_snow_3 16 rfl rfl)
theorem dX14_snow_87 : decode cX14_snow 87 = .ok (.bipush 16, 2) := dk_16 16 (dk_at dksX14_snow_3 17 rfl rfl)
theorem dX14_snow_89 : decode cX14_snow 89 = .ok (.iconst (-1), 1) := dk_2 (dk_at dksX14_snow_3 19 rfl rfl)
theorem dX14_snow_90 : decode cX14_snow 90 = .ok (.invokevirtual 90, 3) := dk_182 0 90 (dk_at dksX14_snow_3 20 rfl rfl)
theorem dX14_snow_93 : decode cX14_snow 93 = .ok (.istore 6, 2) := dk_54 6 (dk_at dksX14_snow_4 0 rfl rfl)
theorem dX14_snow_95 : decode cX14_snow 95 = .ok (.aload_n 0, 1) := dk_42 (dk_at dksX14_snow_4 2 rfl rfl)
theorem dX14_snow_96 : decode cX14_snow 96 = .ok (.getfield 40, 3) := dk_180 0 40 (dk_at dksX14_snow_4 3 rfl rfl)
theorem dX14_snow_99 : decode cX14_snow 99 = .ok (.iload 5, 2) := dk_21 5 (dk_at dksX14_snow_4 6 rfl rfl)
theorem dX14_snow_101 : decode cX14_snow 101 = .ok (.putfield 138, 3) := dk_181 0 138 (dk_at dksX14_snow_4 8 rfl rfl)
theorem dX14_snow_104 : decode cX14_snow 104 = .ok (.iload_n 2, 1) := dk_28 (dk_at dksX14_snow_4 11 rfl rfl)
theorem dX14_snow_105 : decode cX14_snow 105 = .ok (.istore 7, 2) := dk_54 7 (dk_at dksX14_snow_4 12 rfl rfl)
theorem dX14_snow_107 : decode cX14_snow 107 = .ok (.iload 7, 2) := dk_21 7 (dk_at dksX14_snow_4 14 rfl rfl)
theorem dX14_snow_109 : decode cX14_snow 109 = .ok (.iload 4, 2) := dk_21 4 (dk_at dksX14_snow_4 16 rfl rfl)
theorem dX14_snow_111 : decode cX14_snow 111 = .ok (.if_icmp .gt 23, 3) := dk_163 0 23 (dk_at dksX14_snow_4 18 rfl rfl)
theorem dX14_snow_114 : decode cX14_snow 114 = .ok (.aload_n 0, 1) := dk_42 (dk_at dksX14_snow_4 21 rfl rfl)
theorem dX14_snow_115 : decode cX14_snow 115 = .ok (.getfield 40, 3) := dk_180 0 40 (dk_at dksX14_snow_5 0 rfl rfl)
theorem dX14_snow_118 : decode cX14_snow 118 = .ok (.getfield 146, 3) := dk_180 0 146 (dk_at dksX14_snow_5 3 rfl rfl)
theorem dX14_snow_121 : decode cX14_snow 121 = .ok (.iload_n 1, 1) := dk_27 (dk_at dksX14_snow_5 6 rfl rfl)
theorem dX14_snow_122 : decode cX14_snow 122 = .ok (.aaload, 1) := dk_50 (dk_at dksX14_snow_5 7 rfl rfl)
theorem dX14_snow_123 : decode cX14_snow 123 = .ok (.iload 7, 2) := dk_21 7 (dk_at dksX14_snow_5 8 rfl rfl)
theorem dX14_snow_125 : decode cX14_snow 125 = .ok (.iload 6, 2) := dk_21 6 (dk_at dksX14_snow_5 10 rfl rfl)
theorem dX14_snow_127 : decode cX14_snow 127 = .ok (.iastore, 1) := dk_79 (dk_at dksX14_snow_5 12 rfl rfl)
theorem dX14_snow_128 : decode cX14_snow 128 = .ok (.iinc 7 1, 3) := dk_132 7 1 (dk_at dksX14_snow_5 13 rfl rfl)
theorem dX14_snow_131 : decode cX14_snow 131 = .ok (.goto (-24), 3) := dk_167 255 232 (dk_at dksX14_snow_5 16 rfl rfl)
theorem dX14_snow_134 : decode cX14_snow 134 = .ok (.return_, 1) := dk_177 (dk_at dksX14_snow_5 19 rfl rfl)
theorem q154 : (Jvm.Cond.initialized "GlassLeaders$LandReader") ∈ lw_all := lw_g (lw_at lw_m1 21 rfl) rfl
theorem q198 : (Jvm.Cond.fieldLinkNest "GlassLeaders$LandReader" (56 : Nat) "GlassLeaders$Land" "places" "I" "GlassLeaders") ∈ lw_tbl := lw_at lw_m1 65 rfl
theorem q200 : (Jvm.Cond.fieldLinkNest "GlassLeaders$LandReader" (60 : Nat) "GlassLeaders$Land" "ways" "I" "GlassLeaders") ∈ lw_tbl := lw_at lw_m1 67 rfl
theorem q204 : (Jvm.Cond.fieldLinkNest "GlassLeaders$LandReader" (63 : Nat) "GlassLeaders$Land" "persons" "I" "GlassLeaders") ∈ lw_tbl := lw_at lw_m1 71 rfl
theorem q207 : (Jvm.Cond.fieldLinkNest "GlassLeaders$LandReader" (115 : Nat) "GlassLeaders$Land" "hours" "I" "GlassLeaders") ∈ lw_tbl := lw_at lw_m1 74 rfl
theorem q210 : (Jvm.Cond.fieldLinkNest "GlassLeaders$LandReader" (117 : Nat) "GlassLeaders$Land" "store" "I" "GlassLeaders") ∈ lw_tbl := lw_at lw_m1 77 rfl
theorem q212 : (Jvm.Cond.fieldLinkNest "GlassLeaders$LandReader" (119 : Nat) "GlassLeaders$Land" "lost" "I" "GlassLeaders") ∈ lw_tbl := lw_at lw_m1 79 rfl
theorem q214 : (Jvm.Cond.fieldLinkNest "GlassLeaders$LandReader" (121 : Nat) "GlassLeaders$Land" "start" "I" "GlassLeaders") ∈ lw_tbl := lw_at lw_m1 81 rfl
theorem q217 : (Jvm.Cond.fieldLinkNest "GlassLeaders$LandReader" (123 : Nat) "GlassLeaders$Land" "isHut" "[Z" "GlassLeaders") ∈ lw_tbl := lw_at lw_m1 84 rfl
theorem q220 : (Jvm.Cond.fieldLinkNest "GlassLeaders$LandReader" (133 : Nat) "GlassLeaders$Land" "isEnd" "[Z" "GlassLeaders") ∈ lw_tbl := lw_at lw_m1 87 rfl
theorem q223 : (Jvm.Cond.fieldLinkNest "GlassLeaders$LandReader" (100 : Nat) "GlassLeaders$Land" "from" "[I" "GlassLeaders") ∈ lw_tbl := lw_at lw_m1 90 rfl
theorem q225 : (Jvm.Cond.fieldLinkNest "GlassLeaders$LandReader" (104 : Nat) "GlassLeaders$Land" "to" "[I" "GlassLeaders") ∈ lw_tbl := lw_at lw_m1 92 rfl
theorem q227 : (Jvm.Cond.fieldLinkNest "GlassLeaders$LandReader" (109 : Nat) "GlassLeaders$Land" "cost" "[I" "GlassLeaders") ∈ lw_tbl := lw_at lw_m1 94 rfl
theorem q231 : (Jvm.Cond.fieldLinkNest "GlassLeaders$LandReader" (146 : Nat) "GlassLeaders$Land" "snow" "[[I" "GlassLeaders") ∈ lw_tbl := lw_at lw_m1 98 rfl
theorem q234 : (Jvm.Cond.fieldLinkNest "GlassLeaders$LandReader" (112 : Nat) "GlassLeaders$Land" "wants" "[[I" "GlassLeaders") ∈ lw_tbl := lw_at lw_m1 101 rfl
theorem q236 : (Jvm.Cond.fieldLinkNest "GlassLeaders$LandReader" (138 : Nat) "GlassLeaders$Land" "snowy" "I" "GlassLeaders") ∈ lw_tbl := lw_at lw_m1 103 rfl
theorem q638 : (Jvm.Cond.selects "GlassLeaders$LandReader" ({ cls := "java/lang/Object", name := "getClass", desc := "()Ljava/lang/Class;" } : Jvm.MethodName) ({ cls := "java/lang/Object", name := "getClass", desc := "()Ljava/lang/Class;" } : Jvm.MethodName)) ∈ lw_all := lw_g (lw_at lw_m3 25 rfl) rfl
theorem q796 : (Jvm.Cond.instantiable "GlassLeaders$LandReader" (5 : Nat)) ∈ lw_all := lw_g (lw_at lw_m3 183 rfl) rfl
theorem q798 : (Jvm.Cond.instanceMethod ({ cls := "GlassLeaders$LandReader", name := "<init>", desc := "([BI)V" } : Jvm.MethodName)) ∈ lw_all := lw_g (lw_at lw_m3 185 rfl) rfl
theorem q799 : (Jvm.Cond.code ({ cls := "GlassLeaders$LandReader", name := "<init>", desc := "([BI)V" } : Jvm.MethodName) prog_10_method_1_code (3 : Nat) (Option.none : Option Jvm.ClassFile.FieldType)) ∈ lw_all := lw_g (lw_at lw_m3 186 rfl) rfl
theorem q800 : (Jvm.Cond.methodLink "GlassLeaders$LandReader" (3 : Nat) ({ cls := "GlassLeaders$Bytes", name := "<init>", desc := "([BI)V" } : Jvm.MethodName)) ∈ lw_all := lw_g (lw_at lw_m3 187 rfl) rfl
theorem q804 : (Jvm.Cond.classLink "GlassLeaders$LandReader" (9 : Nat) "java/lang/String") ∈ lw_all := lw_g (lw_at lw_m3 191 rfl) rfl
theorem q806 : (Jvm.Cond.stringRef "GlassLeaders$LandReader" (11 : Nat) "place") ∈ lw_tbl := lw_at lw_m3 193 rfl
theorem q807 : (Jvm.Cond.stringRef "GlassLeaders$LandReader" (13 : Nat) "way") ∈ lw_tbl := lw_at lw_m3 194 rfl
theorem q808 : (Jvm.Cond.stringRef "GlassLeaders$LandReader" (15 : Nat) "snow") ∈ lw_tbl := lw_at lw_m3 195 rfl
theorem q809 : (Jvm.Cond.stringRef "GlassLeaders$LandReader" (17 : Nat) "person") ∈ lw_tbl := lw_at lw_m3 196 rfl
theorem q810 : (Jvm.Cond.stringRef "GlassLeaders$LandReader" (19 : Nat) "wants") ∈ lw_tbl := lw_at lw_m3 197 rfl
theorem q811 : (Jvm.Cond.stringRef "GlassLeaders$LandReader" (21 : Nat) "hours") ∈ lw_tbl := lw_at lw_m3 198 rfl
theorem q812 : (Jvm.Cond.stringRef "GlassLeaders$LandReader" (23 : Nat) "store") ∈ lw_tbl := lw_at lw_m3 199 rfl
theorem q813 : (Jvm.Cond.stringRef "GlassLeaders$LandReader" (25 : Nat) "lost") ∈ lw_tbl := lw_at lw_m3 200 rfl
theorem q814 : (Jvm.Cond.stringRef "GlassLeaders$LandReader" (27 : Nat) "start") ∈ lw_tbl := lw_at lw_m3 201 rfl
theorem q815 : (Jvm.Cond.classLink "GlassLeaders$LandReader" (35 : Nat) "GlassLeaders$Land") ∈ lw_all := lw_g (lw_at lw_m3 202 rfl) rfl
theorem q816 : (Jvm.Cond.methodLinkNest "GlassLeaders$LandReader" (37 : Nat) ({ cls := "GlassLeaders$Land", name := "<init>", desc := "()V" } : Jvm.MethodName) "GlassLeaders") ∈ lw_tbl := lw_at lw_m3 203 rfl
theorem q817 : (Jvm.Cond.fieldLink "GlassLeaders$LandReader" (29 : Nat) "GlassLeaders$LandReader" "words" "[Ljava/lang/String;") ∈ lw_all := lw_g (lw_at lw_m3 204 rfl) rfl
theorem q818 : (Jvm.Cond.fieldLink "GlassLeaders$LandReader" (40 : Nat) "GlassLeaders$LandReader" "land" "LGlassLeaders$Land;") ∈ lw_all := lw_g (lw_at lw_m3 205 rfl) rfl
theorem q822 : (Jvm.Cond.laysFinal "GlassLeaders$LandReader" "GlassLeaders$LandReader" "words" "[Ljava/lang/String;") ∈ lw_all := lw_g (lw_at lw_m3 209 rfl) rfl
theorem q823 : (Jvm.Cond.soleField "GlassLeaders$LandReader" "words") ∈ lw_all := lw_g (lw_at lw_m3 210 rfl) rfl
theorem q824 : (Jvm.Cond.laysFinal "GlassLeaders$LandReader" "GlassLeaders$LandReader" "land" "LGlassLeaders$Land;") ∈ lw_all := lw_g (lw_at lw_m3 211 rfl) rfl
theorem q825 : (Jvm.Cond.soleField "GlassLeaders$LandReader" "land") ∈ lw_all := lw_g (lw_at lw_m3 212 rfl) rfl
theorem q826 : (Jvm.Cond.laysFinal "GlassLeaders$LandReader" "GlassLeaders$Bytes" "bytes" "[B") ∈ lw_all := lw_g (lw_at lw_m3 213 rfl) rfl
theorem q828 : (Jvm.Cond.laysFinal "GlassLeaders$LandReader" "GlassLeaders$Bytes" "size" "I") ∈ lw_all := lw_g (lw_at lw_m3 215 rfl) rfl
theorem q830 : (Jvm.Cond.lays "GlassLeaders$LandReader" "GlassLeaders$Bytes" "at" "I") ∈ lw_all := lw_g (lw_at lw_m3 217 rfl) rfl
theorem q832 : (Jvm.Cond.superclass "GlassLeaders$LandReader" "GlassLeaders$Bytes") ∈ lw_all := lw_g (lw_at lw_m3 219 rfl) rfl
theorem q834 : (Jvm.Cond.instanceMethod ({ cls := "GlassLeaders$LandReader", name := "land", desc := "()LGlassLeaders$Land;" } : Jvm.MethodName)) ∈ lw_all := lw_g (lw_at lw_m3 221 rfl) rfl
theorem q835 : (Jvm.Cond.selects "GlassLeaders$LandReader" ({ cls := "GlassLeaders$LandReader", name := "land", desc := "()LGlassLeaders$Land;" } : Jvm.MethodName) ({ cls := "GlassLeaders$LandReader", name := "land", desc := "()LGlassLeaders$Land;" } : Jvm.MethodName)) ∈ lw_all := lw_g (lw_at lw_m3 222 rfl) rfl
theorem q836 : (Jvm.Cond.code ({ cls := "GlassLeaders$LandReader", name := "land", desc := "()LGlassLeaders$Land;" } : Jvm.MethodName) prog_10_method_2_code (3 : Nat) (Option.some (Jvm.ClassFile.FieldType.object "GlassLeaders$Land"))) ∈ lw_all := lw_g (lw_at lw_m3 223 rfl) rfl
theorem q837 : (Jvm.Cond.methodLink "GlassLeaders$LandReader" (44 : Nat) ({ cls := "GlassLeaders$LandReader", name := "now", desc := "()I" } : Jvm.MethodName)) ∈ lw_all := lw_g (lw_at lw_m3 224 rfl) rfl
theorem q838 : (Jvm.Cond.sameMethod "GlassLeaders$LandReader" "GlassLeaders$Bytes" "now" "()I") ∈ lw_all := lw_g (lw_at lw_m3 225 rfl) rfl
theorem q840 : (Jvm.Cond.selects "GlassLeaders$LandReader" ({ cls := "GlassLeaders$LandReader", name := "now", desc := "()I" } : Jvm.MethodName) ({ cls := "GlassLeaders$Bytes", name := "now", desc := "()I" } : Jvm.MethodName)) ∈ lw_all := lw_g (lw_at lw_m3 227 rfl) rfl
theorem q843 : (Jvm.Cond.methodLink "GlassLeaders$LandReader" (48 : Nat) ({ cls := "GlassLeaders$LandReader", name := "which", desc := "([Ljava/lang/String;)I" } : Jvm.MethodName)) ∈ lw_all := lw_g (lw_at lw_m3 230 rfl) rfl
theorem q844 : (Jvm.Cond.sameMethod "GlassLeaders$LandReader" "GlassLeaders$Bytes" "which" "([Ljava/lang/String;)I") ∈ lw_all := lw_g (lw_at lw_m3 231 rfl) rfl
theorem q846 : (Jvm.Cond.selects "GlassLeaders$LandReader" ({ cls := "GlassLeaders$LandReader", name := "which", desc := "([Ljava/lang/String;)I" } : Jvm.MethodName) ({ cls := "GlassLeaders$Bytes", name := "which", desc := "([Ljava/lang/String;)I" } : Jvm.MethodName)) ∈ lw_all := lw_g (lw_at lw_m3 233 rfl) rfl
theorem q852 : (Jvm.Cond.selects "GlassLeaders$LandReader" ({ cls := "GlassLeaders$Bytes", name := "isWord", desc := "(Ljava/lang/String;)Z" } : Jvm.MethodName) ({ cls := "GlassLeaders$Bytes", name := "isWord", desc := "(Ljava/lang/String;)Z" } : Jvm.MethodName)) ∈ lw_all := lw_g (lw_at lw_m3 239 rfl) rfl
theorem q906 : (Jvm.Cond.methodLink "GlassLeaders$LandReader" (52 : Nat) ({ cls := "GlassLeaders$LandReader", name := "right", desc := "(Z)V" } : Jvm.MethodName)) ∈ lw_all := lw_g (lw_at lw_m4 53 rfl) rfl
theorem q907 : (Jvm.Cond.sameMethod "GlassLeaders$LandReader" "GlassLeaders$Bytes" "right" "(Z)V") ∈ lw_all := lw_g (lw_at lw_m4 54 rfl) rfl
theorem q909 : (Jvm.Cond.selects "GlassLeaders$LandReader" ({ cls := "GlassLeaders$LandReader", name := "right", desc := "(Z)V" } : Jvm.MethodName) ({ cls := "GlassLeaders$Bytes", name := "right", desc := "(Z)V" } : Jvm.MethodName)) ∈ lw_all := lw_g (lw_at lw_m4 56 rfl) rfl
theorem q935 : (Jvm.Cond.methodLink "GlassLeaders$LandReader" (66 : Nat) ({ cls := "GlassLeaders$LandReader", name := "few", desc := "(Z)V" } : Jvm.MethodName)) ∈ lw_all := lw_g (lw_at lw_m4 82 rfl) rfl
theorem q936 : (Jvm.Cond.sameMethod "GlassLeaders$LandReader" "GlassLeaders$Bytes" "few" "(Z)V") ∈ lw_all := lw_g (lw_at lw_m4 83 rfl) rfl
theorem q938 : (Jvm.Cond.selects "GlassLeaders$LandReader" ({ cls := "GlassLeaders$LandReader", name := "few", desc := "(Z)V" } : Jvm.MethodName) ({ cls := "GlassLeaders$Bytes", name := "few", desc := "(Z)V" } : Jvm.MethodName)) ∈ lw_all := lw_g (lw_at lw_m4 85 rfl) rfl
theorem q941 : (Jvm.Cond.methodLink "GlassLeaders$LandReader" (69 : Nat) ({ cls := "java/lang/String", name := "length", desc := "()I" } : Jvm.MethodName)) ∈ lw_all := lw_g (lw_at lw_m4 88 rfl) rfl
theorem q942 : (Jvm.Cond.methodLink "GlassLeaders$LandReader" (72 : Nat) ({ cls := "GlassLeaders$LandReader", name := "skip", desc := "(I)V" } : Jvm.MethodName)) ∈ lw_all := lw_g (lw_at lw_m4 89 rfl) rfl
theorem q943 : (Jvm.Cond.sameMethod "GlassLeaders$LandReader" "GlassLeaders$Bytes" "skip" "(I)V") ∈ lw_all := lw_g (lw_at lw_m4 90 rfl) rfl
theorem q945 : (Jvm.Cond.selects "GlassLeaders$LandReader" ({ cls := "GlassLeaders$LandReader", name := "skip", desc := "(I)V" } : Jvm.MethodName) ({ cls := "GlassLeaders$Bytes", name := "skip", desc := "(I)V" } : Jvm.MethodName)) ∈ lw_all := lw_g (lw_at lw_m4 92 rfl) rfl
theorem q948 : (Jvm.Cond.methodLink "GlassLeaders$LandReader" (76 : Nat) ({ cls := "GlassLeaders$LandReader", name := "clause", desc := "(I)V" } : Jvm.MethodName)) ∈ lw_all := lw_g (lw_at lw_m4 95 rfl) rfl
theorem q949 : (Jvm.Cond.privateMethod ({ cls := "GlassLeaders$LandReader", name := "clause", desc := "(I)V" } : Jvm.MethodName)) ∈ lw_tbl := lw_at lw_m4 96 rfl
theorem q950 : (Jvm.Cond.instanceMethod ({ cls := "GlassLeaders$LandReader", name := "clause", desc := "(I)V" } : Jvm.MethodName)) ∈ lw_all := lw_g (lw_at lw_m4 97 rfl) rfl
theorem q951 : (Jvm.Cond.code ({ cls := "GlassLeaders$LandReader", name := "clause", desc := "(I)V" } : Jvm.MethodName) prog_10_method_4_code (4 : Nat) (Option.none : Option Jvm.ClassFile.FieldType)) ∈ lw_all := lw_g (lw_at lw_m4 98 rfl) rfl
theorem q952 : (Jvm.Cond.methodLink "GlassLeaders$LandReader" (94 : Nat) ({ cls := "GlassLeaders$LandReader", name := "place", desc := "()V" } : Jvm.MethodName)) ∈ lw_all := lw_g (lw_at lw_m4 99 rfl) rfl
theorem q953 : (Jvm.Cond.privateMethod ({ cls := "GlassLeaders$LandReader", name := "place", desc := "()V" } : Jvm.MethodName)) ∈ lw_tbl := lw_at lw_m4 100 rfl
theorem q954 : (Jvm.Cond.instanceMethod ({ cls := "GlassLeaders$LandReader", name := "place", desc := "()V" } : Jvm.MethodName)) ∈ lw_all := lw_g (lw_at lw_m4 101 rfl) rfl
theorem q955 : (Jvm.Cond.code ({ cls := "GlassLeaders$LandReader", name := "place", desc := "()V" } : Jvm.MethodName) prog_10_method_5_code (1 : Nat) (Option.none : Option Jvm.ClassFile.FieldType)) ∈ lw_all := lw_g (lw_at lw_m4 102 rfl) rfl
theorem q956 : (Jvm.Cond.stringRef "GlassLeaders$LandReader" (127 : Nat) "hut") ∈ lw_tbl := lw_at lw_m4 103 rfl
theorem q957 : (Jvm.Cond.methodLink "GlassLeaders$LandReader" (129 : Nat) ({ cls := "GlassLeaders$LandReader", name := "eats", desc := "(Ljava/lang/String;)Z" } : Jvm.MethodName)) ∈ lw_all := lw_g (lw_at lw_m4 104 rfl) rfl
theorem q958 : (Jvm.Cond.sameMethod "GlassLeaders$LandReader" "GlassLeaders$Bytes" "eats" "(Ljava/lang/String;)Z") ∈ lw_all := lw_g (lw_at lw_m4 105 rfl) rfl
theorem q960 : (Jvm.Cond.selects "GlassLeaders$LandReader" ({ cls := "GlassLeaders$LandReader", name := "eats", desc := "(Ljava/lang/String;)Z" } : Jvm.MethodName) ({ cls := "GlassLeaders$Bytes", name := "eats", desc := "(Ljava/lang/String;)Z" } : Jvm.MethodName)) ∈ lw_all := lw_g (lw_at lw_m4 107 rfl) rfl
theorem q963 : (Jvm.Cond.stringRef "GlassLeaders$LandReader" (136 : Nat) "end") ∈ lw_tbl := lw_at lw_m4 110 rfl
theorem q964 : (Jvm.Cond.methodLink "GlassLeaders$LandReader" (96 : Nat) ({ cls := "GlassLeaders$LandReader", name := "placeHere", desc := "(I)I" } : Jvm.MethodName)) ∈ lw_all := lw_g (lw_at lw_m4 111 rfl) rfl
theorem q965 : (Jvm.Cond.privateMethod ({ cls := "GlassLeaders$LandReader", name := "placeHere", desc := "(I)I" } : Jvm.MethodName)) ∈ lw_tbl := lw_at lw_m4 112 rfl
theorem q966 : (Jvm.Cond.instanceMethod ({ cls := "GlassLeaders$LandReader", name := "placeHere", desc := "(I)I" } : Jvm.MethodName)) ∈ lw_all := lw_g (lw_at lw_m4 113 rfl) rfl
theorem q967 : (Jvm.Cond.code ({ cls := "GlassLeaders$LandReader", name := "placeHere", desc := "(I)I" } : Jvm.MethodName) prog_10_method_3_code (2 : Nat) (Option.some Jvm.ClassFile.FieldType.int)) ∈ lw_all := lw_g (lw_at lw_m4 114 rfl) rfl
theorem q968 : (Jvm.Cond.methodLink "GlassLeaders$LandReader" (90 : Nat) ({ cls := "GlassLeaders$LandReader", name := "number", desc := "(III)I" } : Jvm.MethodName)) ∈ lw_all := lw_g (lw_at lw_m4 115 rfl) rfl
theorem q969 : (Jvm.Cond.sameMethod "GlassLeaders$LandReader" "GlassLeaders$Bytes" "number" "(III)I") ∈ lw_all := lw_g (lw_at lw_m4 116 rfl) rfl
theorem q971 : (Jvm.Cond.selects "GlassLeaders$LandReader" ({ cls := "GlassLeaders$LandReader", name := "number", desc := "(III)I" } : Jvm.MethodName) ({ cls := "GlassLeaders$Bytes", name := "number", desc := "(III)I" } : Jvm.MethodName)) ∈ lw_all := lw_g (lw_at lw_m4 118 rfl) rfl
theorem q978 : (Jvm.Cond.selects "GlassLeaders$LandReader" ({ cls := "GlassLeaders$Bytes", name := "isDigit", desc := "()Z" } : Jvm.MethodName) ({ cls := "GlassLeaders$Bytes", name := "isDigit", desc := "()Z" } : Jvm.MethodName)) ∈ lw_all := lw_g (lw_at lw_m4 125 rfl) rfl
theorem q983 : (Jvm.Cond.methodLink "GlassLeaders$LandReader" (107 : Nat) ({ cls := "GlassLeaders$LandReader", name := "snow", desc := "()V" } : Jvm.MethodName)) ∈ lw_all := lw_g (lw_at lw_m4 130 rfl) rfl
theorem q984 : (Jvm.Cond.privateMethod ({ cls := "GlassLeaders$LandReader", name := "snow", desc := "()V" } : Jvm.MethodName)) ∈ lw_tbl := lw_at lw_m4 131 rfl
theorem q985 : (Jvm.Cond.instanceMethod ({ cls := "GlassLeaders$LandReader", name := "snow", desc := "()V" } : Jvm.MethodName)) ∈ lw_all := lw_g (lw_at lw_m4 132 rfl) rfl
theorem q986 : (Jvm.Cond.code ({ cls := "GlassLeaders$LandReader", name := "snow", desc := "()V" } : Jvm.MethodName) prog_10_method_6_code (8 : Nat) (Option.none : Option Jvm.ClassFile.FieldType)) ∈ lw_all := lw_g (lw_at lw_m4 133 rfl) rfl
theorem q987 : (Jvm.Cond.methodLink "GlassLeaders$LandReader" (84 : Nat) ({ cls := "GlassLeaders$LandReader", name := "at", desc := "()I" } : Jvm.MethodName)) ∈ lw_all := lw_g (lw_at lw_m4 134 rfl) rfl
theorem q988 : (Jvm.Cond.sameMethod "GlassLeaders$LandReader" "GlassLeaders$Bytes" "at" "()I") ∈ lw_all := lw_g (lw_at lw_m4 135 rfl) rfl
theorem q990 : (Jvm.Cond.selects "GlassLeaders$LandReader" ({ cls := "GlassLeaders$LandReader", name := "at", desc := "()I" } : Jvm.MethodName) ({ cls := "GlassLeaders$Bytes", name := "at", desc := "()I" } : Jvm.MethodName)) ∈ lw_all := lw_g (lw_at lw_m4 137 rfl) rfl
theorem q993 : (Jvm.Cond.methodLink "GlassLeaders$LandReader" (141 : Nat) ({ cls := "java/lang/Integer", name := "bitCount", desc := "(I)I" } : Jvm.MethodName)) ∈ lw_all := lw_g (lw_at lw_m4 140 rfl) rfl
theorem q999 : (Jvm.Cond.classLink "GlassLeaders$LandReader" (82 : Nat) "GlassLeaders$Wrong") ∈ lw_all := lw_g (lw_at lw_m4 146 rfl) rfl
theorem q1000 : (Jvm.Cond.methodLink "GlassLeaders$LandReader" (87 : Nat) ({ cls := "GlassLeaders$Wrong", name := "<init>", desc := "(II)V" } : Jvm.MethodName)) ∈ lw_all := lw_g (lw_at lw_m4 147 rfl) rfl
theorem q1001 : (Jvm.Cond.methodLink "GlassLeaders$LandReader" (79 : Nat) ({ cls := "GlassLeaders$LandReader", name := "sign", desc := "(I)V" } : Jvm.MethodName)) ∈ lw_all := lw_g (lw_at lw_m4 148 rfl) rfl
theorem q1002 : (Jvm.Cond.sameMethod "GlassLeaders$LandReader" "GlassLeaders$Bytes" "sign" "(I)V") ∈ lw_all := lw_g (lw_at lw_m4 149 rfl) rfl
theorem q1004 : (Jvm.Cond.selects "GlassLeaders$LandReader" ({ cls := "GlassLeaders$LandReader", name := "sign", desc := "(I)V" } : Jvm.MethodName) ({ cls := "GlassLeaders$Bytes", name := "sign", desc := "(I)V" } : Jvm.MethodName)) ∈ lw_all := lw_g (lw_at lw_m4 151 rfl) rfl
theorem q2838 : (Jvm.Cond.selects "GlassLeaders$LandReader" ({ cls := "GlassLeaders$Bytes", name := "now", desc := "()I" } : Jvm.MethodName) ({ cls := "GlassLeaders$Bytes", name := "now", desc := "()I" } : Jvm.MethodName)) ∈ lw_all := lw_g (lw_at lw_m12 65 rfl) rfl
theorem q2842 : (Jvm.Cond.selects "GlassLeaders$LandReader" ({ cls := "GlassLeaders$Bytes", name := "right", desc := "(Z)V" } : Jvm.MethodName) ({ cls := "GlassLeaders$Bytes", name := "right", desc := "(Z)V" } : Jvm.MethodName)) ∈ lw_all := lw_g (lw_at lw_m12 69 rfl) rfl
theorem q2872 : (Jvm.Cond.castable "GlassLeaders$LandReader" "java/lang/Object") ∈ lw_tbl := lw_at lw_m12 99 rfl
theorem in_X14 : ∀ w ∈ wsX140, w ∈ lw_all := lw_in wsX140 [826, 828, 830, 822, 824] (by decide +kernel) (by decide +kernel)
/-! GlassLeaders$Wrong -/
set_option maxRecDepth 100000
def RX15 : String := "GlassLeaders$Wrong"
def TX15 : u_T := fun k => match k with
  | 0 => ("java/lang/Throwable", "cause", "Ljava/lang/Throwable;", false)
  | 1 => ("java/lang/Throwable", "stackTrace", "[Ljava/lang/StackTraceElement;", false)
  | 2 => ("java/lang/Throwable", "suppressedExceptions", "Ljava/util/List;", false)
  | 3 => ("java/lang/Throwable", "detailMessage", "Ljava/lang/String;", false)
  | 4 => ("java/lang/Throwable", "backtrace", "Ljava/lang/Object;", false)
  | 5 => ("java/lang/Throwable", "depth", "I", false)
  | 6 => ("GlassLeaders$Wrong", "why", "I", true)
  | _ => ("GlassLeaders$Wrong", "where", "I", true)
def tyX15 : Nat → FieldType := fun k => match k with
  | 0 => .object "java/lang/Throwable"
  | 1 => .array (.object "java/lang/StackTraceElement")
  | 2 => .object "java/util/List"
  | 3 => .object "java/lang/String"
  | 4 => .object "java/lang/Object"
  | 5 => .int
  | 6 => .int
  | _ => .int
abbrev wsX150 : List Cond := u_ws RX15 TX15 8
theorem nmX15 : ∀ a, a < 8 → ∀ b, b < 8 → a ≠ b → (TX15 a).2.1 ≠ (TX15 b).2.1 := by decide +kernel
theorem tyX15_ok : ∀ k, k < 8 → parseFieldDescriptor (TX15 k).2.2.1 = some (tyX15 k) := by decide +kernel
abbrev cX15_init : ByteArray := prog_25_method_1_code
def yX15_init : MethodName := ⟨RX15, "<init>", "(II)V"⟩
def dkwX15_init_0 : List UInt8 := [42, 183, 0, 1, 42, 27, 181, 0, 7, 42, 28, 181, 0, 13, 177]
abbrev dktX15_init_0 : List UInt8 := dkwX15_init_0 ++ []
theorem dksX15_init_0 : cX15_init.data.toList.drop 0 = dktX15_init_0 := by decide +kernel
theorem dX15_init_0 : decode cX15_init 0 = .ok (.aload_n 0, 1) := dk_42 (dk_at dksX15_init_0 0 rfl rfl)
theorem dX15_init_1 : decode cX15_init 1 = .ok (.invokespecial 1, 3) := dk_183 0 1 (dk_at dksX15_init_0 1 rfl rfl)
theorem dX15_init_4 : decode cX15_init 4 = .ok (.aload_n 0, 1) := dk_42 (dk_at dksX15_init_0 4 rfl rfl)
theorem dX15_init_5 : decode cX15_init 5 = .ok (.iload_n 1, 1) := dk_27 (dk_at dksX15_init_0 5 rfl rfl)
theorem dX15_init_6 : decode cX15_init 6 = .ok (.putfield 7, 3) := dk_181 0 7 (dk_at dksX15_init_0 6 rfl rfl)
theorem dX15_init_9 : decode cX15_init 9 = .ok (.aload_n 0, 1) := dk_42 (dk_at dksX15_init_0 9 rfl rfl)
theorem dX15_init_10 : decode cX15_init 10 = .ok (.iload_n 2, 1) := dk_28 (dk_at dksX15_init_0 10 rfl rfl)
theorem dX15_init_11 : decode cX15_init 11 = .ok (.putfield 13, 3) := dk_181 0 13 (dk_at dksX15_init_0 11 rfl rfl)
theorem dX15_init_14 : decode cX15_init 14 = .ok (.return_, 1) := dk_177 (dk_at dksX15_init_0 14 rfl rfl)
theorem q159 : (Jvm.Cond.initialized "GlassLeaders$Wrong") ∈ lw_all := lw_g (lw_at lw_m1 26 rfl) rfl
theorem q650 : (Jvm.Cond.selects "GlassLeaders$Wrong" ({ cls := "java/lang/Object", name := "getClass", desc := "()Ljava/lang/Class;" } : Jvm.MethodName) ({ cls := "java/lang/Object", name := "getClass", desc := "()Ljava/lang/Class;" } : Jvm.MethodName)) ∈ lw_all := lw_g (lw_at lw_m3 37 rfl) rfl
theorem q761 : (Jvm.Cond.selects "GlassLeaders$Wrong" ({ cls := "java/lang/Throwable", name := "fillInStackTrace", desc := "()Ljava/lang/Throwable;" } : Jvm.MethodName) ({ cls := "java/lang/Throwable", name := "fillInStackTrace", desc := "()Ljava/lang/Throwable;" } : Jvm.MethodName)) ∈ lw_all := lw_g (lw_at lw_m3 148 rfl) rfl
theorem q913 : (Jvm.Cond.instantiable "GlassLeaders$Wrong" (8 : Nat)) ∈ lw_all := lw_g (lw_at lw_m4 60 rfl) rfl
theorem q914 : (Jvm.Cond.castable "GlassLeaders$Wrong" "GlassLeaders$Wrong") ∈ lw_tbl := lw_at lw_m4 61 rfl
theorem q915 : (Jvm.Cond.selects "GlassLeaders$Wrong" ({ cls := "java/lang/Throwable", name := "fillInStackTrace", desc := "(I)Ljava/lang/Throwable;" } : Jvm.MethodName) ({ cls := "java/lang/Throwable", name := "fillInStackTrace", desc := "(I)Ljava/lang/Throwable;" } : Jvm.MethodName)) ∈ lw_all := lw_g (lw_at lw_m4 62 rfl) rfl
theorem q916 : (Jvm.Cond.lays "GlassLeaders$Wrong" "java/lang/Throwable" "cause" "Ljava/lang/Throwable;") ∈ lw_all := lw_g (lw_at lw_m4 63 rfl) rfl
theorem q917 : (Jvm.Cond.lays "GlassLeaders$Wrong" "java/lang/Throwable" "stackTrace" "[Ljava/lang/StackTraceElement;") ∈ lw_all := lw_g (lw_at lw_m4 64 rfl) rfl
theorem q918 : (Jvm.Cond.lays "GlassLeaders$Wrong" "java/lang/Throwable" "suppressedExceptions" "Ljava/util/List;") ∈ lw_all := lw_g (lw_at lw_m4 65 rfl) rfl
theorem q919 : (Jvm.Cond.lays "GlassLeaders$Wrong" "java/lang/Throwable" "detailMessage" "Ljava/lang/String;") ∈ lw_all := lw_g (lw_at lw_m4 66 rfl) rfl
theorem q920 : (Jvm.Cond.lays "GlassLeaders$Wrong" "java/lang/Throwable" "backtrace" "Ljava/lang/Object;") ∈ lw_all := lw_g (lw_at lw_m4 67 rfl) rfl
theorem q922 : (Jvm.Cond.instanceMethod ({ cls := "GlassLeaders$Wrong", name := "<init>", desc := "(II)V" } : Jvm.MethodName)) ∈ lw_all := lw_g (lw_at lw_m4 69 rfl) rfl
theorem q923 : (Jvm.Cond.code ({ cls := "GlassLeaders$Wrong", name := "<init>", desc := "(II)V" } : Jvm.MethodName) prog_25_method_1_code (3 : Nat) (Option.none : Option Jvm.ClassFile.FieldType)) ∈ lw_all := lw_g (lw_at lw_m4 70 rfl) rfl
theorem q924 : (Jvm.Cond.methodLink "GlassLeaders$Wrong" (1 : Nat) ({ cls := "java/lang/Exception", name := "<init>", desc := "()V" } : Jvm.MethodName)) ∈ lw_all := lw_g (lw_at lw_m4 71 rfl) rfl
theorem q925 : (Jvm.Cond.fieldLink "GlassLeaders$Wrong" (7 : Nat) "GlassLeaders$Wrong" "why" "I") ∈ lw_all := lw_g (lw_at lw_m4 72 rfl) rfl
theorem q927 : (Jvm.Cond.fieldLink "GlassLeaders$Wrong" (13 : Nat) "GlassLeaders$Wrong" "where" "I") ∈ lw_all := lw_g (lw_at lw_m4 74 rfl) rfl
theorem q929 : (Jvm.Cond.laysFinal "GlassLeaders$Wrong" "GlassLeaders$Wrong" "why" "I") ∈ lw_all := lw_g (lw_at lw_m4 76 rfl) rfl
theorem q930 : (Jvm.Cond.soleField "GlassLeaders$Wrong" "why") ∈ lw_all := lw_g (lw_at lw_m4 77 rfl) rfl
theorem q931 : (Jvm.Cond.laysFinal "GlassLeaders$Wrong" "GlassLeaders$Wrong" "where" "I") ∈ lw_all := lw_g (lw_at lw_m4 78 rfl) rfl
theorem q932 : (Jvm.Cond.soleField "GlassLeaders$Wrong" "where") ∈ lw_all := lw_g (lw_at lw_m4 79 rfl) rfl
theorem q933 : (Jvm.Cond.lays "GlassLeaders$Wrong" "java/lang/Throwable" "depth" "I") ∈ lw_all := lw_g (lw_at lw_m4 80 rfl) rfl
theorem q934 : (Jvm.Cond.superclass "GlassLeaders$Wrong" "java/lang/Exception") ∈ lw_all := lw_g (lw_at lw_m4 81 rfl) rfl
theorem q2873 : (Jvm.Cond.castable "GlassLeaders$Wrong" "java/lang/Object") ∈ lw_tbl := lw_at lw_m12 100 rfl
theorem in_X15 : ∀ w ∈ wsX150, w ∈ lw_all := lw_in wsX150 [916, 917, 918, 919, 920, 933, 929, 931] (by decide +kernel) (by decide +kernel)
/-! GlassLeaders$LawReader -/
set_option maxRecDepth 100000
def RX16 : String := "GlassLeaders$LawReader"
def TX16 : u_T := fun k => match k with
  | 0 => ("GlassLeaders$Bytes", "bytes", "[B", true)
  | 1 => ("GlassLeaders$Bytes", "size", "I", true)
  | 2 => ("GlassLeaders$Bytes", "at", "I", false)
  | 3 => ("GlassLeaders$LawReader", "names", "[Ljava/lang/String;", true)
  | _ => ("GlassLeaders$LawReader", "open", "I", false)
def tyX16 : Nat → FieldType := fun k => match k with
  | 0 => .array .byte
  | 1 => .int
  | 2 => .int
  | 3 => .array (.object "java/lang/String")
  | _ => .int
abbrev wsX160 : List Cond := u_ws RX16 TX16 5
theorem nmX16 : ∀ a, a < 5 → ∀ b, b < 5 → a ≠ b → (TX16 a).2.1 ≠ (TX16 b).2.1 := by decide +kernel
theorem tyX16_ok : ∀ k, k < 5 → parseFieldDescriptor (TX16 k).2.2.1 = some (tyX16 k) := by decide +kernel
abbrev cX16_init : ByteArray := prog_11_method_1_code
def yX16_init : MethodName := ⟨RX16, "<init>", "([BI)V"⟩
def dkwX16_init_2 : List UInt8 := [89, 16, 7, 18, 25, 83, 181, 0, 27, 177]
abbrev dktX16_init_2 : List UInt8 := dkwX16_init_2 ++ []
def dkwX16_init_1 : List UInt8 := [18, 15, 83, 89, 6, 18, 17, 83, 89, 7, 18, 19, 83, 89, 8, 18, 21, 83, 89, 16, 6, 18, 23, 83]
abbrev dktX16_init_1 : List UInt8 := dkwX16_init_1 ++ dktX16_init_2
def dkwX16_init_0 : List UInt8 := [42, 43, 28, 183, 0, 3, 42, 16, 8, 189, 0, 9, 89, 3, 18, 11, 83, 89, 4, 18, 13, 83, 89, 5]
abbrev dktX16_init_0 : List UInt8 := dkwX16_init_0 ++ dktX16_init_1
theorem dksX16_init_0 : cX16_init.data.toList.drop 0 = dktX16_init_0 := by decide +kernel
theorem dksX16_init_1 : cX16_init.data.toList.drop 24 = dktX16_init_1 := dk_seg dksX16_init_0 24 rfl rfl
theorem dksX16_init_2 : cX16_init.data.toList.drop 48 = dktX16_init_2 := dk_seg dksX16_init_1 24 rfl rfl
theorem dX16_init_0 : decode cX16_init 0 = .ok (.aload_n 0, 1) := dk_42 (dk_at dksX16_init_0 0 rfl rfl)
theorem dX16_init_1 : decode cX16_init 1 = .ok (.aload_n 1, 1) := dk_43 (dk_at dksX16_init_0 1 rfl rfl)
theorem dX16_init_2 : decode cX16_init 2 = .ok (.iload_n 2, 1) := dk_28 (dk_at dksX16_init_0 2 rfl rfl)
theorem dX16_init_3 : decode cX16_init 3 = .ok (.invokespecial 3, 3) := dk_183 0 3 (dk_at dksX16_init_0 3 rfl rfl)
theorem dX16_init_6 : decode cX16_init 6 = .ok (.aload_n 0, 1) := dk_42 (dk_at dksX16_init_0 6 rfl rfl)
theorem dX16_init_7 : decode cX16_init 7 = .ok (.bipush 8, 2) := dk_16 8 (dk_at dksX16_init_0 7 rfl rfl)
theorem dX16_init_9 : decode cX16_init 9 = .ok (.anewarray 9, 3) := dk_189 0 9 (dk_at dksX16_init_0 9 rfl rfl)
theorem dX16_init_12 : decode cX16_init 12 = .ok (.dup, 1) := dk_89 (dk_at dksX16_init_0 12 rfl rfl)
theorem dX16_init_13 : decode cX16_init 13 = .ok (.iconst 0, 1) := dk_3 (dk_at dksX16_init_0 13 rfl rfl)
theorem dX16_init_14 : decode cX16_init 14 = .ok (.ldc 11, 2) := dk_18 11 (dk_at dksX16_init_0 14 rfl rfl)
theorem dX16_init_16 : decode cX16_init 16 = .ok (.aastore, 1) := dk_83 (dk_at dksX16_init_0 16 rfl rfl)
theorem dX16_init_17 : decode cX16_init 17 = .ok (.dup, 1) := dk_89 (dk_at dksX16_init_0 17 rfl rfl)
theorem dX16_init_18 : decode cX16_init 18 = .ok (.iconst 1, 1) := dk_4 (dk_at dksX16_init_0 18 rfl rfl)
theorem dX16_init_19 : decode cX16_init 19 = .ok (.ldc 13, 2) := dk_18 13 (dk_at dksX16_init_0 19 rfl rfl)
theorem dX16_init_21 : decode cX16_init 21 = .ok (.aastore, 1) := dk_83 (dk_at dksX16_init_0 21 rfl rfl)
theorem dX16_init_22 : decode cX16_init 22 = .ok (.dup, 1) := dk_89 (dk_at dksX16_init_0 22 rfl rfl)
theorem dX16_init_23 : decode cX16_init 23 = .ok (.iconst 2, 1) := dk_5 (dk_at dksX16_init_0 23 rfl rfl)
theorem dX16_init_24 : decode cX16_init 24 = .ok (.ldc 15, 2) := dk_18 15 (dk_at dksX16_init_1 0 rfl rfl)
theorem dX16_init_26 : decode cX16_init 26 = .ok (.aastore, 1) := dk_83 (dk_at dksX16_init_1 2 rfl rfl)
theorem dX16_init_27 : decode cX16_init 27 = .ok (.dup, 1) := dk_89 (dk_at dksX16_init_1 3 rfl rfl)
theorem dX16_init_28 : decode cX16_init 28 = .ok (.iconst 3, 1) := dk_6 (dk_at dksX16_init_1 4 rfl rfl)
theorem dX16_init_29 : decode cX16_init 29 = .ok (.ldc 17, 2) := dk_18 17 (dk_at dksX16_init_1 5 rfl rfl)
theorem dX16_init_31 : decode cX16_init 31 = .ok (.aastore, 1) := dk_83 (dk_at dksX16_init_1 7 rfl rfl)
theorem dX16_init_32 : decode cX16_init 32 = .ok (.dup, 1) := dk_89 (dk_at dksX16_init_1 8 rfl rfl)
theorem dX16_init_33 : decode cX16_init 33 = .ok (.iconst 4, 1) := dk_7 (dk_at dksX16_init_1 9 rfl rfl)
theorem dX16_init_34 : decode cX16_init 34 = .ok (.ldc 19, 2) := dk_18 19 (dk_at dksX16_init_1 10 rfl rfl)
theorem dX16_init_36 : decode cX16_init 36 = .ok (.aastore, 1) := dk_83 (dk_at dksX16_init_1 12 rfl rfl)
theorem dX16_init_37 : decode cX16_init 37 = .ok (.dup, 1) := dk_89 (dk_at dksX16_init_1 13 rfl rfl)
theorem dX16_init_38 : decode cX16_init 38 = .ok (.iconst 5, 1) := dk_8 (dk_at dksX16_init_1 14 rfl rfl)
theorem dX16_init_39 : decode cX16_init 39 = .ok (.ldc 21, 2) := dk_18 21 (dk_at dksX16_init_1 15 rfl rfl)
theorem dX16_init_41 : decode cX16_init 41 = .ok (.aastore, 1) := dk_83 (dk_at dksX16_init_1 17 rfl rfl)
theorem dX16_init_42 : decode cX16_init 42 = .ok (.dup, 1) := dk_89 (dk_at dksX16_init_1 18 rfl rfl)
theorem dX16_init_43 : decode cX16_init 43 = .ok (.bipush 6, 2) := dk_16 6 (dk_at dksX16_init_1 19 rfl rfl)
theorem dX16_init_45 : decode cX16_init 45 = .ok (.ldc 23, 2) := dk_18 23 (dk_at dksX16_init_1 21 rfl rfl)
theorem dX16_init_47 : decode cX16_init 47 = .ok (.aastore, 1) := dk_83 (dk_at dksX16_init_1 23 rfl rfl)
theorem dX16_init_48 : decode cX16_init 48 = .ok (.dup, 1) := dk_89 (dk_at dksX16_init_2 0 rfl rfl)
theorem dX16_init_49 : decode cX16_init 49 = .ok (.bipush 7, 2) := dk_16 7 (dk_at dksX16_init_2 1 rfl rfl)
theorem dX16_init_51 : decode cX16_init 51 = .ok (.ldc 25, 2) := dk_18 25 (dk_at dksX16_init_2 3 rfl rfl)
theorem dX16_init_53 : decode cX16_init 53 = .ok (.aastore, 1) := dk_83 (dk_at dksX16_init_2 5 rfl rfl)
theorem dX16_init_54 : decode cX16_init 54 = .ok (.putfield 27, 3) := dk_181 0 27 (dk_at dksX16_init_2 6 rfl rfl)
theorem dX16_init_57 : decode cX16_init 57 = .ok (.return_, 1) := dk_177 (dk_at dksX16_init_2 9 rfl rfl)
abbrev cX16_law : ByteArray := prog_11_method_2_code
def yX16_law : MethodName := ⟨RX16, "law", "()Ljava/util/ArrayList;"⟩
def dkwX16_law_4 : List UInt8 := [182, 0, 71, 183, 0, 75, 182, 0, 78, 87, 42, 16, 59, 182, 0, 82, 167, 255, 155, 43, 176]
abbrev dktX16_law_4 : List UInt8 := dkwX16_law_4 ++ []
def dkwX16_law_3 : List UInt8 := [167, 0, 4, 5, 182, 0, 60, 42, 42, 18, 64, 182, 0, 66, 182, 0, 50, 43, 187, 0, 69, 89, 28, 42]
abbrev dktX16_law_3 : List UInt8 := dkwX16_law_3 ++ dktX16_law_4
def dkwX16_law_2 : List UInt8 := [182, 0, 54, 16, 10, 162, 0, 7, 4, 167, 0, 4, 3, 182, 0, 57, 42, 28, 153, 0, 7, 7]
abbrev dktX16_law_2 : List UInt8 := dkwX16_law_2 ++ dktX16_law_3
def dkwX16_law_1 : List UInt8 := [28, 154, 0, 12, 42, 18, 48, 182, 0, 44, 153, 0, 7, 4, 167, 0, 4, 3, 182, 0, 50, 42, 43]
abbrev dktX16_law_1 : List UInt8 := dkwX16_law_1 ++ dktX16_law_2
def dkwX16_law_0 : List UInt8 := [187, 0, 33, 89, 183, 0, 35, 76, 42, 182, 0, 38, 2, 159, 0, 99, 42, 18, 42, 182, 0, 44, 61, 42]
abbrev dktX16_law_0 : List UInt8 := dkwX16_law_0 ++ dktX16_law_1
theorem dksX16_law_0 : cX16_law.data.toList.drop 0 = dktX16_law_0 := by decide +kernel
theorem dksX16_law_1 : cX16_law.data.toList.drop 24 = dktX16_law_1 := dk_seg dksX16_law_0 24 rfl rfl
theorem dksX16_law_2 : cX16_law.data.toList.drop 47 = dktX16_law_2 := dk_seg dksX16_law_1 23 rfl rfl
theorem dksX16_law_3 : cX16_law.data.toList.drop 69 = dktX16_law_3 := dk_seg dksX16_law_2 22 rfl rfl
theorem dksX16_law_4 : cX16_law.data.toList.drop 93 = dktX16_law_4 := dk_seg dksX16_law_3 24 rfl rfl
theorem dX16_law_0 : decode cX16_law 0 = .ok (.new 33, 3) := dk_187 0 33 (dk_at dksX16_law_0 0 rfl rfl)
theorem dX16_law_3 : decode cX16_law 3 = .ok (.dup, 1) := dk_89 (dk_at dksX16_law_0 3 rfl rfl)
theorem dX16_law_4 : decode cX16_law 4 = .ok (.invokespecial 35, 3) := dk_183 0 35 (dk_at dksX16_law_0 4 rfl rfl)
theorem dX16_law_7 : decode cX16_law 7 = .ok (.astore_n 1, 1) := dk_76 (dk_at dksX16_law_0 7 rfl rfl)
theorem dX16_law_8 : decode cX16_law 8 = .ok (.aload_n 0, 1) := dk_42 (dk_at dksX16_law_0 8 rfl rfl)
theorem dX16_law_9 : decode cX16_law 9 = .ok (.invokevirtual 38, 3) := dk_182 0 38 (dk_at dksX16_law_0 9 rfl rfl)
theorem dX16_law_12 : decode cX16_law 12 = .ok (.iconst (-1), 1) := dk_2 (dk_at dksX16_law_0 12 rfl rfl)
theorem dX16_law_13 : decode cX16_law 13 = .ok (.if_icmp .eq 99, 3) := dk_159 0 99 (dk_at dksX16_law_0 13 rfl rfl)
theorem dX16_law_16 : decode cX16_law 16 = .ok (.aload_n 0, 1) := dk_42 (dk_at dksX16_law_0 16 rfl rfl)
theorem dX16_law_17 : decode cX16_law 17 = .ok (.ldc 42, 2) := dk_18 42 (dk_at dksX16_law_0 17 rfl rfl)
theorem dX16_law_19 : decode cX16_law 19 = .ok (.invokevirtual 44, 3) := dk_182 0 44 (dk_at dksX16_law_0 19 rfl rfl)
theorem dX16_law_22 : decode cX16_law 22 = .ok (.istore_n 2, 1) := dk_61 (dk_at dksX16_law_0 22 rfl rfl)
theorem dX16_law_23 : decode cX16_law 23 = .ok (.aload_n 0, 1) := dk_42 (dk_at dksX16_law_0 23 rfl rfl)
theorem dX16_law_24 : decode cX16_law 24 = .ok (.iload_n 2, 1) := dk_28 (dk_at dksX16_law_1 0 rfl rfl)
theorem dX16_law_25 : decode cX16_law 25 = .ok (.ifCond .ne 12, 3) := dk_154 0 12 (dk_at dksX16_law_1 1 rfl rfl)
theorem dX16_law_28 : decode cX16_law 28 = .ok (.aload_n 0, 1) := dk_42 (dk_at dksX16_law_1 4 rfl rfl)
theorem dX16_law_29 : decode cX16_law 29 = .ok (.ldc 48, 2) := dk_18 48 (dk_at dksX16_law_1 5 rfl rfl)
theorem dX16_law_31 : decode cX16_law 31 = .ok (.invokevirtual 44, 3) := dk_182 0 44 (dk_at dksX16_law_1 7 rfl rfl)
theorem dX16_law_34 : decode cX16_law 34 = .ok (.ifCond .eq 7, 3) := dk_153 0 7 (dk_at dksX16_law_1 10 rfl rfl)
theorem dX16_law_37 : decode cX16_law 37 = .ok (.iconst 1, 1) := dk_4 (dk_at dksX16_law_1 13 rfl rfl)
theorem dX16_law_38 : decode cX16_law 38 = .ok (.goto 4, 3) := dk_167 0 4 (dk_at dksX16_law_1 14 rfl rfl)
theorem dX16_law_41 : decode cX16_law 41 = .ok (.iconst 0, 1) := dk_3 (dk_at dksX16_law_1 17 rfl rfl)
theorem dX16_law_42 : decode cX16_law 42 = .ok (.invokevirtual 50, 3) := dk_182 0 50 (dk_at dksX16_law_1 18 rfl rfl)
theorem dX16_law_45 : decode cX16_law 45 = .ok (.aload_n 0, 1) := dk_42 (dk_at dksX16_law_1 21 rfl rfl)
theorem dX16_law_46 : decode cX16_law 46 = .ok (.aload_n 1, 1) := dk_43 (dk_at dksX16_law_1 22 rfl rfl)
theorem dX16_law_47 : decode cX16_law 47 = .ok (.invokevirtual 54, 3) := dk_182 0 54 (dk_at dksX16_law_2 0 rfl rfl)
theorem dX16_law_50 : decode cX16_law 50 = .ok (.bipush 10, 2) := dk_16 10 (dk_at dksX16_law_2 3 rfl rfl)
theorem dX16_law_52 : decode cX16_law 52 = .ok (.if_icmp .ge 7, 3) := dk_162 0 7 (dk_at dksX16_law_2 5 rfl rfl)
theorem dX16_law_55 : decode cX16_law 55 = .ok (.iconst 1, 1) := dk_4 (dk_at dksX16_law_2 8 rfl rfl)
theorem dX16_law_56 : decode cX16_law 56 = .ok (.goto 4, 3) := dk_167 0 4 (dk_at dksX16_law_2 9 rfl rfl)
theorem dX16_law_59 : decode cX16_law 59 = .ok (.iconst 0, 1) := dk_3 (dk_at dksX16_law_2 12 rfl rfl)
theorem dX16_law_60 : decode cX16_law 60 = .ok (.invokevirtual 57, 3) := dk_182 0 57 (dk_at dksX16_law_2 13 rfl rfl)
theorem dX16_law_63 : decode cX16_law 63 = .ok (.aload_n 0, 1) := dk_42 (dk_at dksX16_law_2 16 rfl rfl)
theorem dX16_law_64 : decode cX16_law 64 = .ok (.iload_n 2, 1) := dk_28 (dk_at dksX16_law_2 17 rfl rfl)
theorem dX16_law_65 : decode cX16_law 65 = .ok (.ifCond .eq 7, 3) := dk_153 0 7 (dk_at dksX16_law_2 18 rfl rfl)
theorem dX16_law_68 : decode cX16_law 68 = .ok (.iconst 4, 1) := dk_7 (dk_at dksX16_law_2 21 rfl rfl)
theorem dX16_law_69 : decode cX16_law 69 = .ok (.goto 4, 3) := dk_167 0 4 (dk_at dksX16_law_3 0 rfl rfl)
theorem dX16_law_72 : decode cX16_law 72 = .ok (.iconst 2, 1) := dk_5 (dk_at dksX16_law_3 3 rfl rfl)
theorem dX16_law_73 : decode cX16_law 73 = .ok (.invokevirtual 60, 3) := dk_182 0 60 (dk_at dksX16_law_3 4 rfl rfl)
theorem dX16_law_76 : decode cX16_law 76 = .ok (.aload_n 0, 1) := dk_42 (dk_at dksX16_law_3 7 rfl rfl)
theorem dX16_law_77 : decode cX16_law 77 = .ok (.aload_n 0, 1) := dk_42 (dk_at dksX16_law_3 8 rfl rfl)
theorem dX16_law_78 : decode cX16_law 78 = .ok (.ldc 64, 2) := dk_18 64 (dk_at dksX16_law_3 9 rfl rfl)
theorem dX16_law_80 : decode cX16_law 80 = .ok (.invokevirtual 66, 3) := dk_182 0 66 (dk_at dksX16_law_3 11 rfl rfl)
theorem dX16_law_83 : decode cX16_law 83 = .ok (.invokevirtual 50, 3) := dk_182 0 50 (dk_at dksX16_law_3 14 rfl rfl)
theorem dX16_law_86 : decode cX16_law 86 = .ok (.aload_n 1, 1) := dk_43 (dk_at dksX16_law_3 17 rfl rfl)
theorem dX16_law_87 : decode cX16_law 87 = .ok (.new 69, 3) := dk_187 0 69 (dk_at dksX16_law_3 18 rfl rfl)
theorem dX16_law_90 : decode cX16_law 90 = .ok (.dup, 1) := dk_89 (dk_at dksX16_law_3 21 rfl rfl)
theorem dX16_law_91 : decode cX16_law 91 = .ok (.iload_n 2, 1) := dk_28 (dk_at dksX16_law_3 22 rfl rfl)
theorem dX16_law_92 : decode cX16_law 92 = .ok (.aload_n 0, 1) := dk_42 (dk_at dksX16_law_3 23 rfl rfl)
theorem dX16_law_93 : decode cX16_law 93 = .ok (.invokevirtual 71, 3) := dk_182 0 71 (dk_at dksX16_law_4 0 rfl rfl)
theorem dX16_law_96 : decode cX16_law 96 = .ok (.invokespecial 75, 3) := dk_183 0 75 (dk_at dksX16_law_4 3 rfl rfl)
theorem dX16_law_99 : decode cX16_law 99 = .ok (.invokevirtual 78, 3) := dk_182 0 78 (dk_at dksX16_law_4 6 rfl rfl)
theorem dX16_law_102 : decode cX16_law 102 = .ok (.pop, 1) := dk_87 (dk_at dksX16_law_4 9 rfl rfl)
theorem dX16_law_103 : decode cX16_law 103 = .ok (.aload_n 0, 1) := dk_42 (dk_at dksX16_law_4 10 rfl rfl)
theorem dX16_law_104 : decode cX16_law 104 = .ok (.bipush 59, 2) := dk_16 59 (dk_at dksX16_law_4 11 rfl rfl)
theorem dX16_law_106 : decode cX16_law 106 = .ok (.invokevirtual 82, 3) := dk_182 0 82 (dk_at dksX16_law_4 13 rfl rfl)
theorem dX16_law_109 : decode cX16_law 109 = .ok (.goto (-101), 3) := dk_167 255 155 (dk_at dksX16_law_4 16 rfl rfl)
theorem dX16_law_112 : decode cX16_law 112 = .ok (.aload_n 1, 1) := dk_43 (dk_at dksX16_law_4 19 rfl rfl)
theorem dX16_law_113 : decode cX16_law 113 = .ok (.areturn, 1) := dk_176 (dk_at dksX16_law_4 20 rfl rfl)
abbrev cX16_ors : ByteArray := prog_11_method_3_code
def yX16_ors : MethodName := ⟨RX16, "ors", "()LGlassLeaders$Asked;"⟩
def dkwX16_ors_1 : List UInt8 := [183, 0, 92, 76, 167, 255, 233, 43, 176]
abbrev dktX16_ors_1 : List UInt8 := dkwX16_ors_1 ++ []
def dkwX16_ors_0 : List UInt8 := [42, 182, 0, 85, 76, 42, 18, 88, 182, 0, 66, 153, 0, 20, 187, 0, 90, 89, 3, 43, 42, 182, 0, 85]
abbrev dktX16_ors_0 : List UInt8 := dkwX16_ors_0 ++ dktX16_ors_1
theorem dksX16_ors_0 : cX16_ors.data.toList.drop 0 = dktX16_ors_0 := by decide +kernel
theorem dksX16_ors_1 : cX16_ors.data.toList.drop 24 = dktX16_ors_1 := dk_seg dksX16_ors_0 24 rfl rfl
theorem dX16_ors_0 : decode cX16_ors 0 = .ok (.aload_n 0, 1) := dk_42 (dk_at dksX16_ors_0 0 rfl rfl)
theorem dX16_ors_1 : decode cX16_ors 1 = .ok (.invokevirtual 85, 3) := dk_182 0 85 (dk_at dksX16_ors_0 1 rfl rfl)
theorem dX16_ors_4 : decode cX16_ors 4 = .ok (.astore_n 1, 1) := dk_76 (dk_at dksX16_ors_0 4 rfl rfl)
theorem dX16_ors_5 : decode cX16_ors 5 = .ok (.aload_n 0, 1) := dk_42 (dk_at dksX16_ors_0 5 rfl rfl)
theorem dX16_ors_6 : decode cX16_ors 6 = .ok (.ldc 88, 2) := dk_18 88 (dk_at dksX16_ors_0 6 rfl rfl)
theorem dX16_ors_8 : decode cX16_ors 8 = .ok (.invokevirtual 66, 3) := dk_182 0 66 (dk_at dksX16_ors_0 8 rfl rfl)
theorem dX16_ors_11 : decode cX16_ors 11 = .ok (.ifCond .eq 20, 3) := dk_153 0 20 (dk_at dksX16_ors_0 11 rfl rfl)
theorem dX16_ors_14 : decode cX16_ors 14 = .ok (.new 90, 3) := dk_187 0 90 (dk_at dksX16_ors_0 14 rfl rfl)
theorem dX16_ors_17 : decode cX16_ors 17 = .ok (.dup, 1) := dk_89 (dk_at dksX16_ors_0 17 rfl rfl)
theorem dX16_ors_18 : decode cX16_ors 18 = .ok (.iconst 0, 1) := dk_3 (dk_at dksX16_ors_0 18 rfl rfl)
theorem dX16_ors_19 : decode cX16_ors 19 = .ok (.aload_n 1, 1) := dk_43 (dk_at dksX16_ors_0 19 rfl rfl)
theorem dX16_ors_20 : decode cX16_ors 20 = .ok (.aload_n 0, 1) := dk_42 (dk_at dksX16_ors_0 20 rfl rfl)
theorem dX16_ors_21 : decode cX16_ors 21 = .ok (.invokevirtual 85, 3) := dk_182 0 85 (dk_at dksX16_ors_0 21 rfl rfl)
theorem dX16_ors_24 : decode cX16_ors 24 = .ok (.invokespecial 92, 3) := dk_183 0 92 (dk_at dksX16_ors_1 0 rfl rfl)
theorem dX16_ors_27 : decode cX16_ors 27 = .ok (.astore_n 1, 1) := dk_76 (dk_at dksX16_ors_1 3 rfl rfl)
theorem dX16_ors_28 : decode cX16_ors 28 = .ok (.goto (-23), 3) := dk_167 255 233 (dk_at dksX16_ors_1 4 rfl rfl)
theorem dX16_ors_31 : decode cX16_ors 31 = .ok (.aload_n 1, 1) := dk_43 (dk_at dksX16_ors_1 7 rfl rfl)
theorem dX16_ors_32 : decode cX16_ors 32 = .ok (.areturn, 1) := dk_176 (dk_at dksX16_ors_1 8 rfl rfl)
abbrev cX16_ands : ByteArray := prog_11_method_4_code
def yX16_ands : MethodName := ⟨RX16, "ands", "()LGlassLeaders$Asked;"⟩
def dkwX16_ands_1 : List UInt8 := [183, 0, 92, 76, 167, 255, 233, 43, 176]
abbrev dktX16_ands_1 : List UInt8 := dkwX16_ands_1 ++ []
def dkwX16_ands_0 : List UInt8 := [42, 182, 0, 95, 76, 42, 18, 98, 182, 0, 66, 153, 0, 20, 187, 0, 90, 89, 4, 43, 42, 182, 0, 95]
abbrev dktX16_ands_0 : List UInt8 := dkwX16_ands_0 ++ dktX16_ands_1
theorem dksX16_ands_0 : cX16_ands.data.toList.drop 0 = dktX16_ands_0 := by decide +kernel
theorem dksX16_ands_1 : cX16_ands.data.toList.drop 24 = dktX16_ands_1 := dk_seg dksX16_ands_0 24 rfl rfl
theorem dX16_ands_0 : decode cX16_ands 0 = .ok (.aload_n 0, 1) := dk_42 (dk_at dksX16_ands_0 0 rfl rfl)
theorem dX16_ands_1 : decode cX16_ands 1 = .ok (.invokevirtual 95, 3) := dk_182 0 95 (dk_at dksX16_ands_0 1 rfl rfl)
theorem dX16_ands_4 : decode cX16_ands 4 = .ok (.astore_n 1, 1) := dk_76 (dk_at dksX16_ands_0 4 rfl rfl)
theorem dX16_ands_5 : decode cX16_ands 5 = .ok (.aload_n 0, 1) := dk_42 (dk_at dksX16_ands_0 5 rfl rfl)
theorem dX16_ands_6 : decode cX16_ands 6 = .ok (.ldc 98, 2) := dk_18 98 (dk_at dksX16_ands_0 6 rfl rfl)
theorem dX16_ands_8 : decode cX16_ands 8 = .ok (.invokevirtual 66, 3) := dk_182 0 66 (dk_at dksX16_ands_0 8 rfl rfl)
theorem dX16_ands_11 : decode cX16_ands 11 = .ok (.ifCond .eq 20, 3) := dk_153 0 20 (dk_at dksX16_ands_0 11 rfl rfl)
theorem dX16_ands_14 : decode cX16_ands 14 = .ok (.new 90, 3) := dk_187 0 90 (dk_at dksX16_ands_0 14 rfl rfl)
theorem dX16_ands_17 : decode cX16_ands 17 = .ok (.dup, 1) := dk_89 (dk_at dksX16_ands_0 17 rfl rfl)
theorem dX16_ands_18 : decode cX16_ands 18 = .ok (.iconst 1, 1) := dk_4 (dk_at dksX16_ands_0 18 rfl rfl)
theorem dX16_ands_19 : decode cX16_ands 19 = .ok (.aload_n 1, 1) := dk_43 (dk_at dksX16_ands_0 19 rfl rfl)
theorem dX16_ands_20 : decode cX16_ands 20 = .ok (.aload_n 0, 1) := dk_42 (dk_at dksX16_ands_0 20 rfl rfl)
theorem dX16_ands_21 : decode cX16_ands 21 = .ok (.invokevirtual 95, 3) := dk_182 0 95 (dk_at dksX16_ands_0 21 rfl rfl)
theorem dX16_ands_24 : decode cX16_ands 24 = .ok (.invokespecial 92, 3) := dk_183 0 92 (dk_at dksX16_ands_1 0 rfl rfl)
theorem dX16_ands_27 : decode cX16_ands 27 = .ok (.astore_n 1, 1) := dk_76 (dk_at dksX16_ands_1 3 rfl rfl)
theorem dX16_ands_28 : decode cX16_ands 28 = .ok (.goto (-23), 3) := dk_167 255 233 (dk_at dksX16_ands_1 4 rfl rfl)
theorem dX16_ands_31 : decode cX16_ands 31 = .ok (.aload_n 1, 1) := dk_43 (dk_at dksX16_ands_1 7 rfl rfl)
theorem dX16_ands_32 : decode cX16_ands 32 = .ok (.areturn, 1) := dk_176 (dk_at dksX16_ands_1 8 rfl rfl)
abbrev cX16_asked : ByteArray := prog_11_method_5_code
def yX16_asked : MethodName := ⟨RX16, "asked", "()LGlassLeaders$Asked;"⟩
def dkwX16_asked_5 : List UInt8 := [182, 0, 60, 187, 0, 118, 89, 28, 43, 42, 182, 0, 114, 183, 0, 120, 176]
abbrev dktX16_asked_5 : List UInt8 := dkwX16_asked_5 ++ []
def dkwX16_asked_4 : List UInt8 := [28, 16, 62, 159, 0, 9, 28, 16, 61, 160, 0, 7, 4, 167, 0, 4, 3, 182, 0, 50, 42, 4]
abbrev dktX16_asked_4 : List UInt8 := dkwX16_asked_4 ++ dktX16_asked_5
def dkwX16_asked_3 : List UInt8 := [4, 100, 181, 0, 110, 43, 176, 42, 182, 0, 114, 76, 42, 182, 0, 38, 61, 42, 28, 16, 60, 159, 0, 15]
abbrev dktX16_asked_3 : List UInt8 := dkwX16_asked_3 ++ dktX16_asked_4
def dkwX16_asked_2 : List UInt8 := [160, 0, 31, 42, 4, 182, 0, 102, 42, 182, 0, 71, 76, 42, 16, 93, 182, 0, 82, 42, 89, 180, 0, 110]
abbrev dktX16_asked_2 : List UInt8 := dkwX16_asked_2 ++ dktX16_asked_3
def dkwX16_asked_1 : List UInt8 := [183, 0, 107, 76, 42, 89, 180, 0, 110, 4, 100, 181, 0, 110, 43, 176, 42, 182, 0, 38, 16, 91]
abbrev dktX16_asked_1 : List UInt8 := dkwX16_asked_1 ++ dktX16_asked_2
def dkwX16_asked_0 : List UInt8 := [42, 18, 100, 182, 0, 44, 153, 0, 32, 42, 6, 182, 0, 102, 187, 0, 105, 89, 42, 182, 0, 95]
abbrev dktX16_asked_0 : List UInt8 := dkwX16_asked_0 ++ dktX16_asked_1
theorem dksX16_asked_0 : cX16_asked.data.toList.drop 0 = dktX16_asked_0 := by decide +kernel
theorem dksX16_asked_1 : cX16_asked.data.toList.drop 22 = dktX16_asked_1 := dk_seg dksX16_asked_0 22 rfl rfl
theorem dksX16_asked_2 : cX16_asked.data.toList.drop 44 = dktX16_asked_2 := dk_seg dksX16_asked_1 22 rfl rfl
theorem dksX16_asked_3 : cX16_asked.data.toList.drop 68 = dktX16_asked_3 := dk_seg dksX16_asked_2 24 rfl rfl
theorem dksX16_asked_4 : cX16_asked.data.toList.drop 92 = dktX16_asked_4 := dk_seg dksX16_asked_3 24 rfl rfl
theorem dksX16_asked_5 : cX16_asked.data.toList.drop 114 = dktX16_asked_5 := dk_seg dksX16_asked_4 22 rfl rfl
theorem dX16_asked_0 : decode cX16_asked 0 = .ok (.aload_n 0, 1) := dk_42 (dk_at dksX16_asked_0 0 rfl rfl)
theorem dX16_asked_1 : decode cX16_asked 1 = .ok (.ldc 100, 2) := dk_18 100 (dk_at dksX16_asked_0 1 rfl rfl)
theorem dX16_asked_3 : decode cX16_asked 3 = .ok (.invokevirtual 44, 3) := dk_182 0 44 (dk_at dksX16_asked_0 3 rfl rfl)
theorem dX16_asked_6 : decode cX16_asked 6 = .ok (.ifCond .eq 32, 3) := dk_153 0 32 (dk_at dksX16_asked_0 6 rfl rfl)
theorem dX16_asked_9 : decode cX16_asked 9 = .ok (.aload_n 0, 1) := dk_42 (dk_at dksX16_asked_0 9 rfl rfl)
theorem dX16_asked_10 : decode cX16_asked 10 = .ok (.iconst 3, 1) := dk_6 (dk_at dksX16_asked_0 10 rfl rfl)
theorem dX16_asked_11 : decode cX16_asked 11 = .ok (.invokevirtual 102, 3) := dk_182 0 102 (dk_at dksX16_asked_0 11 rfl rfl)
theorem dX16_asked_14 : decode cX16_asked 14 = .ok (.new 105, 3) := dk_187 0 105 (dk_at dksX16_asked_0 14 rfl rfl)
theorem dX16_asked_17 : decode cX16_asked 17 = .ok (.dup, 1) := dk_89 (dk_at dksX16_asked_0 17 rfl rfl)
theorem dX16_asked_18 : decode cX16_asked 18 = .ok (.aload_n 0, 1) := dk_42 (dk_at dksX16_asked_0 18 rfl rfl)
theorem dX16_asked_19 : decode cX16_asked 19 = .ok (.invokevirtual 95, 3) := dk_182 0 95 (dk_at dksX16_asked_0 19 rfl rfl)
theorem dX16_asked_22 : decode cX16_asked 22 = .ok (.invokespecial 107, 3) := dk_183 0 107 (dk_at dksX16_asked_1 0 rfl rfl)
theorem dX16_asked_25 : decode cX16_asked 25 = .ok (.astore_n 1, 1) := dk_76 (dk_at dksX16_asked_1 3 rfl rfl)
theorem dX16_asked_26 : decode cX16_asked 26 = .ok (.aload_n 0, 1) := dk_42 (dk_at dksX16_asked_1 4 rfl rfl)
theorem dX16_asked_27 : decode cX16_asked 27 = .ok (.dup, 1) := dk_89 (dk_at dksX16_asked_1 5 rfl rfl)
theorem dX16_asked_28 : decode cX16_asked 28 = .ok (.getfield 110, 3) := dk_180 0 110 (dk_at dksX16_asked_1 6 rfl rfl)
theorem dX16_asked_31 : decode cX16_asked 31 = .ok (.iconst 1, 1) := dk_4 (dk_at dksX16_asked_1 9 rfl rfl)
theorem dX16_asked_32 : decode cX16_asked 32 = .ok (.isub, 1) := dk_100 (dk_at dksX16_asked_1 10 rfl rfl)
theorem dX16_asked_33 : decode cX16_asked 33 = .ok (.putfield 110, 3) := dk_181 0 110 (dk_at dksX16_asked_1 11 rfl rfl)
theorem dX16_asked_36 : decode cX16_asked 36 = .ok (.aload_n 1, 1) := dk_43 (dk_at dksX16_asked_1 14 rfl rfl)
theorem dX16_asked_37 : decode cX16_asked 37 = .ok (.areturn, 1) := dk_176 (dk_at dksX16_asked_1 15 rfl rfl)
theorem dX16_asked_38 : decode cX16_asked 38 = .ok (.aload_n 0, 1) := dk_42 (dk_at dksX16_asked_1 16 rfl rfl)
theorem dX16_asked_39 : decode cX16_asked 39 = .ok (.invokevirtual 38, 3) := dk_182 0 38 (dk_at dksX16_asked_1 17 rfl rfl)
theorem dX16_asked_42 : decode cX16_asked 42 = .ok (.bipush 91, 2) := dk_16 91 (dk_at dksX16_asked_1 20 rfl rfl)
theorem dX16_asked_44 : decode cX16_asked 44 = .ok (.if_icmp .ne 31, 3) := dk_160 0 31 (dk_at dksX16_asked_2 0 rfl rfl)
theorem dX16_asked_47 : decode cX16_asked 47 = .ok (.aload_n 0, 1) := dk_42 (dk_at dksX16_asked_2 3 rfl rfl)
theorem dX16_asked_48 : decode cX16_asked 48 = .ok (.iconst 1, 1) := dk_4 (dk_at dksX16_asked_2 4 rfl rfl)
theorem dX16_asked_49 : decode cX16_asked 49 = .ok (.invokevirtual 102, 3) := dk_182 0 102 (dk_at dksX16_asked_2 5 rfl rfl)
theorem dX16_asked_52 : decode cX16_asked 52 = .ok (.aload_n 0, 1) := dk_42 (dk_at dksX16_asked_2 8 rfl rfl)
theorem dX16_asked_53 : decode cX16_asked 53 = .ok (.invokevirtual 71, 3) := dk_182 0 71 (dk_at dksX16_asked_2 9 rfl rfl)
theorem dX16_asked_56 : decode cX16_asked 56 = .ok (.astore_n 1, 1) := dk_76 (dk_at dksX16_asked_2 12 rfl rfl)
theorem dX16_asked_57 : decode cX16_asked 57 = .ok (.aload_n 0, 1) := dk_42 (dk_at dksX16_asked_2 13 rfl rfl)
theorem dX16_asked_58 : decode cX16_asked 58 = .ok (.bipush 93, 2) := dk_16 93 (dk_at dksX16_asked_2 14 rfl rfl)
theorem dX16_asked_60 : decode cX16_asked 60 = .ok (.invokevirtual 82, 3) := dk_182 0 82 (dk_at dksX16_asked_2 16 rfl rfl)
theorem dX16_asked_63 : decode cX16_asked 63 = .ok (.aload_n 0, 1) := dk_42 (dk_at dksX16_asked_2 19 rfl rfl)
theorem dX16_asked_64 : decode cX16_asked 64 = .ok (.dup, 1) := dk_89 (dk_at dksX16_asked_2 20 rfl rfl)
theorem dX16_asked_65 : decode cX16_asked 65 = .ok (.getfield 110, 3) := dk_180 0 110 (dk_at dksX16_asked_2 21 rfl rfl)
theorem dX16_asked_68 : decode cX16_asked 68 = .ok (.iconst 1, 1) := dk_4 (dk_at dksX16_asked_3 0 rfl rfl)
theorem dX16_asked_69 : decode cX16_asked 69 = .ok (.isub, 1) := dk_100 (dk_at dksX16_asked_3 1 rfl rfl)
theorem dX16_asked_70 : decode cX16_asked 70 = .ok (.putfield 110, 3) := dk_181 0 110 (dk_at dksX16_asked_3 2 rfl rfl)
theorem dX16_asked_73 : decode cX16_asked 73 = .ok (.aload_n 1, 1) := dk_43 (dk_at dksX16_asked_3 5 rfl rfl)
theorem dX16_asked_74 : decode cX16_asked 74 = .ok (.areturn, 1) := dk_176 (dk_at dksX16_asked_3 6 rfl rfl)
theorem dX16_asked_75 : decode cX16_asked 75 = .ok (.aload_n 0, 1) := dk_42 (dk_at dksX16_asked_3 7 rfl rfl)
theorem dX16_asked_76 : decode cX16_asked 76 = .ok (.invokevirtual 114, 3) := dk_182 0 114 (dk_at dksX16_asked_3 8 rfl rfl)
theorem dX16_asked_79 : decode cX16_asked 79 = .ok (.astore_n 1, 1) := dk_76 (dk_at dksX16_asked_3 11 rfl rfl)
theorem dX16_asked_80 : decode cX16_asked 80 = .ok (.aload_n 0, 1) := dk_42 (dk_at dksX16_asked_3 12 rfl rfl)
theorem dX16_asked_81 : decode cX16_asked 81 = .ok (.invokevirtual 38, 3) := dk_182 0 38 (dk_at dksX16_asked_3 13 rfl rfl)
theorem dX16_asked_84 : decode cX16_asked 84 = .ok (.istore_n 2, 1) := dk_61 (dk_at dksX16_asked_3 16 rfl rfl)
theorem dX16_asked_85 : decode cX16_asked 85 = .ok (.aload_n 0, 1) := dk_42 (dk_at dksX16_asked_3 17 rfl rfl)
theorem dX16_asked_86 : decode cX16_asked 86 = .ok (.iload_n 2, 1) := dk_28 (dk_at dksX16_asked_3 18 rfl rfl)
theorem dX16_asked_87 : decode cX16_asked 87 = .ok (.bipush 60, 2) := dk_16 60 (dk_at dksX16_asked_3 19 rfl rfl)
theorem dX16_asked_89 : decode cX16_asked 89 = .ok (.if_icmp .eq 15, 3) := dk_159 0 15 (dk_at dksX16_asked_3 21 rfl rfl)
theorem dX16_asked_92 : decode cX16_asked 92 = .ok (.iload_n 2, 1) := dk_28 (dk_at dksX16_asked_4 0 rfl rfl)
theorem dX16_asked_93 : decode cX16_asked 93 = .ok (.bipush 62, 2) := dk_16 62 (dk_at dksX16_asked_4 1 rfl rfl)
theorem dX16_asked_95 : decode cX16_asked 95 = .ok (.if_icmp .eq 9, 3) := dk_159 0 9 (dk_at dksX16_asked_4 3 rfl rfl)
theorem dX16_asked_98 : decode cX16_asked 98 = .ok (.iload_n 2, 1) := dk_28 (dk_at dksX16_asked_4 6 rfl rfl)
theorem dX16_asked_99 : decode cX16_asked 99 = .ok (.bipush 61, 2) := dk_16 61 (dk_at dksX16_asked_4 7 rfl rfl)
theorem dX16_asked_101 : decode cX16_asked 101 = .ok (.if_icmp .ne 7, 3) := dk_160 0 7 (dk_at dksX16_asked_4 9 rfl rfl)
theorem dX16_asked_104 : decode cX16_asked 104 = .ok (.iconst 1, 1) := dk_4 (dk_at dksX16_asked_4 12 rfl rfl)
theorem dX16_asked_105 : decode cX16_asked 105 = .ok (.goto 4, 3) := dk_167 0 4 (dk_at dksX16_asked_4 13 rfl rfl)
theorem dX16_asked_108 : decode cX16_asked 108 = .ok (.iconst 0, 1) := dk_3 (dk_at dksX16_asked_4 16 rfl rfl)
theorem dX16_asked_109 : decode cX16_asked 109 = .ok (.invokevirtual 50, 3) := dk_182 0 50 (dk_at dksX16_asked_4 17 rfl rfl)
theorem dX16_asked_112 : decode cX16_asked 112 = .ok (.aload_n 0, 1) := dk_42 (dk_at dksX16_asked_4 20 rfl rfl)
theorem dX16_asked_113 : decode cX16_asked 113 = .ok (.iconst 1, 1) := dk_4 (dk_at dksX16_asked_4 21 rfl rfl)
theorem dX16_asked_114 : decode cX16_asked 114 = .ok (.invokevirtual 60, 3) := dk_182 0 60 (dk_at dksX16_asked_5 0 rfl rfl)
theorem dX16_asked_117 : decode cX16_asked 117 = .ok (.new 118, 3) := dk_187 0 118 (dk_at dksX16_asked_5 3 rfl rfl)
theorem dX16_asked_120 : decode cX16_asked 120 = .ok (.dup, 1) := dk_89 (dk_at dksX16_asked_5 6 rfl rfl)
theorem dX16_asked_121 : decode cX16_asked 121 = .ok (.iload_n 2, 1) := dk_28 (dk_at dksX16_asked_5 7 rfl rfl)
theorem dX16_asked_122 : decode cX16_asked 122 = .ok (.aload_n 1, 1) := dk_43 (dk_at dksX16_asked_5 8 rfl rfl)
theorem dX16_asked_123 : decode cX16_asked 123 = .ok (.aload_n 0, 1) := dk_42 (dk_at dksX16_asked_5 9 rfl rfl)
theorem dX16_asked_124 : decode cX16_asked 124 = .ok (.invokevirtual 114, 3) := dk_182 0 114 (dk_at dksX16_asked_5 10 rfl rfl)
theorem dX16_asked_127 : decode cX16_asked 127 = .ok (.invokespecial 120, 3) := dk_183 0 120 (dk_at dksX16_asked_5 13 rfl rfl)
theorem dX16_asked_130 : decode cX16_asked 130 = .ok (.areturn, 1) := dk_176 (dk_at dksX16_asked_5 16 rfl rfl)
abbrev cX16_opens : ByteArray := prog_11_method_9_code
def yX16_opens : MethodName := ⟨RX16, "opens", "(I)V"⟩
def dkwX16_opens_1 : List UInt8 := [96, 181, 0, 110, 42, 27, 182, 0, 60, 177]
abbrev dktX16_opens_1 : List UInt8 := dkwX16_opens_1 ++ []
def dkwX16_opens_0 : List UInt8 := [42, 42, 180, 0, 110, 16, 6, 162, 0, 7, 4, 167, 0, 4, 3, 182, 0, 57, 42, 89, 180, 0, 110, 4]
abbrev dktX16_opens_0 : List UInt8 := dkwX16_opens_0 ++ dktX16_opens_1
theorem dksX16_opens_0 : cX16_opens.data.toList.drop 0 = dktX16_opens_0 := by decide +kernel
theorem dksX16_opens_1 : cX16_opens.data.toList.drop 24 = dktX16_opens_1 := dk_seg dksX16_opens_0 24 rfl rfl
theorem dX16_opens_0 : decode cX16_opens 0 = .ok (.aload_n 0, 1) := dk_42 (dk_at dksX16_opens_0 0 rfl rfl)
theorem dX16_opens_1 : decode cX16_opens 1 = .ok (.aload_n 0, 1) := dk_42 (dk_at dksX16_opens_0 1 rfl rfl)
theorem dX16_opens_2 : decode cX16_opens 2 = .ok (.getfield 110, 3) := dk_180 0 110 (dk_at dksX16_opens_0 2 rfl rfl)
theorem dX16_opens_5 : decode cX16_opens 5 = .ok (.bipush 6, 2) := dk_16 6 (dk_at dksX16_opens_0 5 rfl rfl)
theorem dX16_opens_7 : decode cX16_opens 7 = .ok (.if_icmp .ge 7, 3) := dk_162 0 7 (dk_at dksX16_opens_0 7 rfl rfl)
theorem dX16_opens_10 : decode cX16_opens 10 = .ok (.iconst 1, 1) := dk_4 (dk_at dksX16_opens_0 10 rfl rfl)
theorem dX16_opens_11 : decode cX16_opens 11 = .ok (.goto 4, 3) := dk_167 0 4 (dk_at dksX16_opens_0 11 rfl rfl)
theorem dX16_opens_14 : decode cX16_opens 14 = .ok (.iconst 0, 1) := dk_3 (dk_at dksX16_opens_0 14 rfl rfl)
theorem dX16_opens_15 : decode cX16_opens 15 = .ok (.invokevirtual 57, 3) := dk_182 0 57 (dk_at dksX16_opens_0 15 rfl rfl)
theorem dX16_opens_18 : decode cX16_opens 18 = .ok (.aload_n 0, 1) := dk_42 (dk_at dksX16_opens_0 18 rfl rfl)
theorem dX16_opens_19 : decode cX16_opens 19 = .ok (.dup, 1) := dk_89 (dk_at dksX16_opens_0 19 rfl rfl)
theorem dX16_opens_20 : decode cX16_opens 20 = .ok (.getfield 110, 3) := dk_180 0 110 (dk_at dksX16_opens_0 20 rfl rfl)
theorem dX16_opens_23 : decode cX16_opens 23 = .ok (.iconst 1, 1) := dk_4 (dk_at dksX16_opens_0 23 rfl rfl)
theorem dX16_opens_24 : decode cX16_opens 24 = .ok (.iadd, 1) := dk_96 (dk_at dksX16_opens_1 0 rfl rfl)
theorem dX16_opens_25 : decode cX16_opens 25 = .ok (.putfield 110, 3) := dk_181 0 110 (dk_at dksX16_opens_1 1 rfl rfl)
theorem dX16_opens_28 : decode cX16_opens 28 = .ok (.aload_n 0, 1) := dk_42 (dk_at dksX16_opens_1 4 rfl rfl)
theorem dX16_opens_29 : decode cX16_opens 29 = .ok (.iload_n 1, 1) := dk_27 (dk_at dksX16_opens_1 5 rfl rfl)
theorem dX16_opens_30 : decode cX16_opens 30 = .ok (.invokevirtual 60, 3) := dk_182 0 60 (dk_at dksX16_opens_1 6 rfl rfl)
theorem dX16_opens_33 : decode cX16_opens 33 = .ok (.return_, 1) := dk_177 (dk_at dksX16_opens_1 9 rfl rfl)
abbrev cX16_sum : ByteArray := prog_11_method_6_code
def yX16_sum : MethodName := ⟨RX16, "sum", "()LGlassLeaders$Term;"⟩
def dkwX16_sum_2 : List UInt8 := [167, 255, 220, 43, 176]
abbrev dktX16_sum_2 : List UInt8 := dkwX16_sum_2 ++ []
def dkwX16_sum_1 : List UInt8 := [182, 0, 60, 187, 0, 126, 89, 28, 43, 42, 182, 0, 123, 183, 0, 128, 76, 42, 182, 0, 38, 61]
abbrev dktX16_sum_1 : List UInt8 := dkwX16_sum_1 ++ dktX16_sum_2
def dkwX16_sum_0 : List UInt8 := [42, 182, 0, 123, 76, 42, 182, 0, 38, 61, 28, 16, 43, 159, 0, 9, 28, 16, 45, 160, 0, 30, 42, 4]
abbrev dktX16_sum_0 : List UInt8 := dkwX16_sum_0 ++ dktX16_sum_1
theorem dksX16_sum_0 : cX16_sum.data.toList.drop 0 = dktX16_sum_0 := by decide +kernel
theorem dksX16_sum_1 : cX16_sum.data.toList.drop 24 = dktX16_sum_1 := dk_seg dksX16_sum_0 24 rfl rfl
theorem dksX16_sum_2 : cX16_sum.data.toList.drop 46 = dktX16_sum_2 := dk_seg dksX16_sum_1 22 rfl rfl
theorem dX16_sum_0 : decode cX16_sum 0 = .ok (.aload_n 0, 1) := dk_42 (dk_at dksX16_sum_0 0 rfl rfl)
theorem dX16_sum_1 : decode cX16_sum 1 = .ok (.invokevirtual 123, 3) := dk_182 0 123 (dk_at dksX16_sum_0 1 rfl rfl)
theorem dX16_sum_4 : decode cX16_sum 4 = .ok (.astore_n 1, 1) := dk_76 (dk_at dksX16_sum_0 4 rfl rfl)
theorem dX16_sum_5 : decode cX16_sum 5 = .ok (.aload_n 0, 1) := dk_42 (dk_at dksX16_sum_0 5 rfl rfl)
theorem dX16_sum_6 : decode cX16_sum 6 = .ok (.invokevirtual 38, 3) := dk_182 0 38 (dk_at dksX16_sum_0 6 rfl rfl)
theorem dX16_sum_9 : decode cX16_sum 9 = .ok (.istore_n 2, 1) := dk_61 (dk_at dksX16_sum_0 9 rfl rfl)
theorem dX16_sum_10 : decode cX16_sum 10 = .ok (.iload_n 2, 1) := dk_28 (dk_at dksX16_sum_0 10 rfl rfl)
theorem dX16_sum_11 : decode cX16_sum 11 = .ok (.bipush 43, 2) := dk_16 43 (dk_at dksX16_sum_0 11 rfl rfl)
theorem dX16_sum_13 : decode cX16_sum 13 = .ok (.if_icmp .eq 9, 3) := dk_159 0 9 (dk_at dksX16_sum_0 13 rfl rfl)
theorem dX16_sum_16 : decode cX16_sum 16 = .ok (.iload_n 2, 1) := dk_28 (dk_at dksX16_sum_0 16 rfl rfl)
theorem dX16_sum_17 : decode cX16_sum 17 = .ok (.bipush 45, 2) := dk_16 45 (dk_at dksX16_sum_0 17 rfl rfl)
theorem dX16_sum_19 : decode cX16_sum 19 = .ok (.if_icmp .ne 30, 3) := dk_160 0 30 (dk_at dksX16_sum_0 19 rfl rfl)
theorem dX16_sum_22 : decode cX16_sum 22 = .ok (.aload_n 0, 1) := dk_42 (dk_at dksX16_sum_0 22 rfl rfl)
theorem dX16_sum_23 : decode cX16_sum 23 = .ok (.iconst 1, 1) := dk_4 (dk_at dksX16_sum_0 23 rfl rfl)
theorem dX16_sum_24 : decode cX16_sum 24 = .ok (.invokevirtual 60, 3) := dk_182 0 60 (dk_at dksX16_sum_1 0 rfl rfl)
theorem dX16_sum_27 : decode cX16_sum 27 = .ok (.new 126, 3) := dk_187 0 126 (dk_at dksX16_sum_1 3 rfl rfl)
theorem dX16_sum_30 : decode cX16_sum 30 = .ok (.dup, 1) := dk_89 (dk_at dksX16_sum_1 6 rfl rfl)
theorem dX16_sum_31 : decode cX16_sum 31 = .ok (.iload_n 2, 1) := dk_28 (dk_at dksX16_sum_1 7 rfl rfl)
theorem dX16_sum_32 : decode cX16_sum 32 = .ok (.aload_n 1, 1) := dk_43 (dk_at dksX16_sum_1 8 rfl rfl)
theorem dX16_sum_33 : decode cX16_sum 33 = .ok (.aload_n 0, 1) := dk_42 (dk_at dksX16_sum_1 9 rfl rfl)
theorem dX16_sum_34 : decode cX16_sum 34 = .ok (.invokevirtual 123, 3) := dk_182 0 123 (dk_at dksX16_sum_1 10 rfl rfl)
theorem dX16_sum_37 : decode cX16_sum 37 = .ok (.invokespecial 128, 3) := dk_183 0 128 (dk_at dksX16_sum_1 13 rfl rfl)
theorem dX16_sum_40 : decode cX16_sum 40 = .ok (.astore_n 1, 1) := dk_76 (dk_at dksX16_sum_1 16 rfl rfl)
theorem dX16_sum_41 : decode cX16_sum 41 = .ok (.aload_n 0, 1) := dk_42 (dk_at dksX16_sum_1 17 rfl rfl)
theorem dX16_sum_42 : decode cX16_sum 42 = .ok (.invokevirtual 38, 3) := dk_182 0 38 (dk_at dksX16_sum_1 18 rfl rfl)
theorem dX16_sum_45 : decode cX16_sum 45 = .ok (.istore_n 2, 1) := dk_61 (dk_at dksX16_sum_1 21 rfl rfl)
theorem dX16_sum_46 : decode cX16_sum 46 = .ok (.goto (-36), 3) := dk_167 255 220 (dk_at dksX16_sum_2 0 rfl rfl)
theorem dX16_sum_49 : decode cX16_sum 49 = .ok (.aload_n 1, 1) := dk_43 (dk_at dksX16_sum_2 3 rfl rfl)
theorem dX16_sum_50 : decode cX16_sum 50 = .ok (.areturn, 1) := dk_176 (dk_at dksX16_sum_2 4 rfl rfl)
abbrev cX16_product : ByteArray := prog_11_method_7_code
def yX16_product : MethodName := ⟨RX16, "product", "()LGlassLeaders$Term;"⟩
def dkwX16_product_2 : List UInt8 := [167, 255, 220, 43, 176]
abbrev dktX16_product_2 : List UInt8 := dkwX16_product_2 ++ []
def dkwX16_product_1 : List UInt8 := [182, 0, 60, 187, 0, 126, 89, 28, 43, 42, 182, 0, 129, 183, 0, 128, 76, 42, 182, 0, 38, 61]
abbrev dktX16_product_1 : List UInt8 := dkwX16_product_1 ++ dktX16_product_2
def dkwX16_product_0 : List UInt8 := [42, 182, 0, 129, 76, 42, 182, 0, 38, 61, 28, 16, 42, 159, 0, 9, 28, 16, 47, 160, 0, 30, 42, 4]
abbrev dktX16_product_0 : List UInt8 := dkwX16_product_0 ++ dktX16_product_1
theorem dksX16_product_0 : cX16_product.data.toList.drop 0 = dktX16_product_0 := by decide +kernel
theorem dksX16_product_1 : cX16_product.data.toList.drop 24 = dktX16_product_1 := dk_seg dksX16_product_0 24 rfl rfl
theorem dksX16_product_2 : cX16_product.data.toList.drop 46 = dktX16_product_2 := dk_seg dksX16_product_1 22 rfl rfl
theorem dX16_product_0 : decode cX16_product 0 = .ok (.aload_n 0, 1) := dk_42 (dk_at dksX16_product_0 0 rfl rfl)
theorem dX16_product_1 : decode cX16_product 1 = .ok (.invokevirtual 129, 3) := dk_182 0 129 (dk_at dksX16_product_0 1 rfl rfl)
theorem dX16_product_4 : decode cX16_product 4 = .ok (.astore_n 1, 1) := dk_76 (dk_at dksX16_product_0 4 rfl rfl)
theorem dX16_product_5 : decode cX16_product 5 = .ok (.aload_n 0, 1) := dk_42 (dk_at dksX16_product_0 5 rfl rfl)
theorem dX16_product_6 : decode cX16_product 6 = .ok (.invokevirtual 38, 3) := dk_182 0 38 (dk_at dksX16_product_0 6 rfl rfl)
theorem dX16_product_9 : decode cX16_product 9 = .ok (.istore_n 2, 1) := dk_61 (dk_at dksX16_product_0 9 rfl rfl)
theorem dX16_product_10 : decode cX16_product 10 = .ok (.iload_n 2, 1) := dk_28 (dk_at dksX16_product_0 10 rfl rfl)
theorem dX16_product_11 : decode cX16_product 11 = .ok (.bipush 42, 2) := dk_16 42 (dk_at dksX16_product_0 11 rfl rfl)
theorem dX16_product_13 : decode cX16_product 13 = .ok (.if_icmp .eq 9, 3) := dk_159 0 9 (dk_at dksX16_product_0 13 rfl rfl)
theorem dX16_product_16 : decode cX16_product 16 = .ok (.iload_n 2, 1) := dk_28 (dk_at dksX16_product_0 16 rfl rfl)
theorem dX16_product_17 : decode cX16_product 17 = .ok (.bipush 47, 2) := dk_16 47 (dk_at dksX16_product_0 17 rfl rfl)
theorem dX16_product_19 : decode cX16_product 19 = .ok (.if_icmp .ne 30, 3) := dk_160 0 30 (dk_at dksX16_product_0 19 rfl rfl)
theorem dX16_product_22 : decode cX16_product 22 = .ok (.aload_n 0, 1) := dk_42 (dk_at dksX16_product_0 22 rfl rfl)
theorem dX16_product_23 : decode cX16_product 23 = .ok (.iconst 1, 1) := dk_4 (dk_at dksX16_product_0 23 rfl rfl)
theorem dX16_product_24 : decode cX16_product 24 = .ok (.invokevirtual 60, 3) := dk_182 0 60 (dk_at dksX16_product_1 0 rfl rfl)
theorem dX16_product_27 : decode cX16_product 27 = .ok (.new 126, 3) := dk_187 0 126 (dk_at dksX16_product_1 3 rfl rfl)
theorem dX16_product_30 : decode cX16_product 30 = .ok (.dup, 1) := dk_89 (dk_at dksX16_product_1 6 rfl rfl)
theorem dX16_product_31 : decode cX16_product 31 = .ok (.iload_n 2, 1) := dk_28 (dk_at dksX16_product_1 7 rfl rfl)
theorem dX16_product_32 : decode cX16_product 32 = .ok (.aload_n 1, 1) := dk_43 (dk_at dksX16_product_1 8 rfl rfl)
theorem dX16_product_33 : decode cX16_product 33 = .ok (.aload_n 0, 1) := dk_42 (dk_at dksX16_product_1 9 rfl rfl)
theorem dX16_product_34 : decode cX16_product 34 = .ok (.invokevirtual 129, 3) := dk_182 0 129 (dk_at dksX16_product_1 10 rfl rfl)
theorem dX16_product_37 : decode cX16_product 37 = .ok (.invokespecial 128, 3) := dk_183 0 128 (dk_at dksX16_product_1 13 rfl rfl)
theorem dX16_product_40 : decode cX16_product 40 = .ok (.astore_n 1, 1) := dk_76 (dk_at dksX16_product_1 16 rfl rfl)
theorem dX16_product_41 : decode cX16_product 41 = .ok (.aload_n 0, 1) := dk_42 (dk_at dksX16_product_1 17 rfl rfl)
theorem dX16_product_42 : decode cX16_product 42 = .ok (.invokevirtual 38, 3) := dk_182 0 38 (dk_at dksX16_product_1 18 rfl rfl)
theorem dX16_product_45 : decode cX16_product 45 = .ok (.istore_n 2, 1) := dk_61 (dk_at dksX16_product_1 21 rfl rfl)
theorem dX16_product_46 : decode cX16_product 46 = .ok (.goto (-36), 3) := dk_167 255 220 (dk_at dksX16_product_2 0 rfl rfl)
theorem dX16_product_49 : decode cX16_product 49 = .ok (.aload_n 1, 1) := dk_43 (dk_at dksX16_product_2 3 rfl rfl)
theorem dX16_product_50 : decode cX16_product 50 = .ok (.areturn, 1) := dk_176 (dk_at dksX16_product_2 4 rfl rfl)
abbrev cX16_unit : ByteArray := prog_11_method_8_code
def yX16_unit : MethodName := ⟨RX16, "unit", "()LGlassLeaders$Term;"⟩
def dkwX16_unit_4 : List UInt8 := [182, 0, 114, 77, 42, 16, 41, 182, 0, 82, 42, 89, 180, 0, 110, 4, 100, 181, 0, 110, 44, 176]
abbrev dktX16_unit_4 : List UInt8 := dkwX16_unit_4 ++ []
def dkwX16_unit_3 : List UInt8 := [182, 0, 38, 16, 40, 160, 0, 7, 4, 167, 0, 4, 3, 182, 0, 50, 42, 4, 182, 0, 102, 42]
abbrev dktX16_unit_3 : List UInt8 := dkwX16_unit_3 ++ dktX16_unit_4
def dkwX16_unit_2 : List UInt8 := [180, 0, 27, 27, 50, 182, 0, 148, 182, 0, 60, 187, 0, 151, 89, 27, 183, 0, 153, 176, 42, 42]
abbrev dktX16_unit_2 : List UInt8 := dkwX16_unit_2 ++ dktX16_unit_3
def dkwX16_unit_1 : List UInt8 := [182, 0, 138, 183, 0, 142, 176, 42, 42, 180, 0, 27, 182, 0, 144, 60, 27, 2, 159, 0, 25, 42, 42]
abbrev dktX16_unit_1 : List UInt8 := dkwX16_unit_1 ++ dktX16_unit_2
def dkwX16_unit_0 : List UInt8 := [42, 182, 0, 38, 87, 42, 182, 0, 132, 153, 0, 20, 187, 0, 136, 89, 42, 3, 17, 39, 15, 2]
abbrev dktX16_unit_0 : List UInt8 := dkwX16_unit_0 ++ dktX16_unit_1
theorem dksX16_unit_0 : cX16_unit.data.toList.drop 0 = dktX16_unit_0 := by decide +kernel
theorem dksX16_unit_1 : cX16_unit.data.toList.drop 22 = dktX16_unit_1 := dk_seg dksX16_unit_0 22 rfl rfl
theorem dksX16_unit_2 : cX16_unit.data.toList.drop 45 = dktX16_unit_2 := dk_seg dksX16_unit_1 23 rfl rfl
theorem dksX16_unit_3 : cX16_unit.data.toList.drop 67 = dktX16_unit_3 := dk_seg dksX16_unit_2 22 rfl rfl
theorem dksX16_unit_4 : cX16_unit.data.toList.drop 89 = dktX16_unit_4 := dk_seg dksX16_unit_3 22 rfl rfl
theorem dX16_unit_0 : decode cX16_unit 0 = .ok (.aload_n 0, 1) := dk_42 (dk_at dksX16_unit_0 0 rfl rfl)
theorem dX16_unit_1 : decode cX16_unit 1 = .ok (.invokevirtual 38, 3) := dk_182 0 38 (dk_at dksX16_unit_0 1 rfl rfl)
theorem dX16_unit_4 : decode cX16_unit 4 = .ok (.pop, 1) := dk_87 (dk_at dksX16_unit_0 4 rfl rfl)
theorem dX16_unit_5 : decode cX16_unit 5 = .ok (.aload_n 0, 1) := dk_42 (dk_at dksX16_unit_0 5 rfl rfl)
theorem dX16_unit_6 : decode cX16_unit 6 = .ok (.invokevirtual 132, 3) := dk_182 0 132 (dk_at dksX16_unit_0 6 rfl rfl)
theorem dX16_unit_9 : decode cX16_unit 9 = .ok (.ifCond .eq 20, 3) := dk_153 0 20 (dk_at dksX16_unit_0 9 rfl rfl)
theorem dX16_unit_12 : decode cX16_unit 12 = .ok (.new 136, 3) := dk_187 0 136 (dk_at dksX16_unit_0 12 rfl rfl)
theorem dX16_unit_15 : decode cX16_unit 15 = .ok (.dup, 1) := dk_89 (dk_at dksX16_unit_0 15 rfl rfl)
theorem dX16_unit_16 : decode cX16_unit 16 = .ok (.aload_n 0, 1) := dk_42 (dk_at dksX16_unit_0 16 rfl rfl)
theorem dX16_unit_17 : decode cX16_unit 17 = .ok (.iconst 0, 1) := dk_3 (dk_at dksX16_unit_0 17 rfl rfl)
theorem dX16_unit_18 : decode cX16_unit 18 = .ok (.sipush 9999, 3) := dk_17 39 15 (dk_at dksX16_unit_0 18 rfl rfl)
theorem dX16_unit_21 : decode cX16_unit 21 = .ok (.iconst (-1), 1) := dk_2 (dk_at dksX16_unit_0 21 rfl rfl)
theorem dX16_unit_22 : decode cX16_unit 22 = .ok (.invokevirtual 138, 3) := dk_182 0 138 (dk_at dksX16_unit_1 0 rfl rfl)
theorem dX16_unit_25 : decode cX16_unit 25 = .ok (.invokespecial 142, 3) := dk_183 0 142 (dk_at dksX16_unit_1 3 rfl rfl)
theorem dX16_unit_28 : decode cX16_unit 28 = .ok (.areturn, 1) := dk_176 (dk_at dksX16_unit_1 6 rfl rfl)
theorem dX16_unit_29 : decode cX16_unit 29 = .ok (.aload_n 0, 1) := dk_42 (dk_at dksX16_unit_1 7 rfl rfl)
theorem dX16_unit_30 : decode cX16_unit 30 = .ok (.aload_n 0, 1) := dk_42 (dk_at dksX16_unit_1 8 rfl rfl)
theorem dX16_unit_31 : decode cX16_unit 31 = .ok (.getfield 27, 3) := dk_180 0 27 (dk_at dksX16_unit_1 9 rfl rfl)
theorem dX16_unit_34 : decode cX16_unit 34 = .ok (.invokevirtual 144, 3) := dk_182 0 144 (dk_at dksX16_unit_1 12 rfl rfl)
theorem dX16_unit_37 : decode cX16_unit 37 = .ok (.istore_n 1, 1) := dk_60 (dk_at dksX16_unit_1 15 rfl rfl)
theorem dX16_unit_38 : decode cX16_unit 38 = .ok (.iload_n 1, 1) := dk_27 (dk_at dksX16_unit_1 16 rfl rfl)
theorem dX16_unit_39 : decode cX16_unit 39 = .ok (.iconst (-1), 1) := dk_2 (dk_at dksX16_unit_1 17 rfl rfl)
theorem dX16_unit_40 : decode cX16_unit 40 = .ok (.if_icmp .eq 25, 3) := dk_159 0 25 (dk_at dksX16_unit_1 18 rfl rfl)
theorem dX16_unit_43 : decode cX16_unit 43 = .ok (.aload_n 0, 1) := dk_42 (dk_at dksX16_unit_1 21 rfl rfl)
theorem dX16_unit_44 : decode cX16_unit 44 = .ok (.aload_n 0, 1) := dk_42 (dk_at dksX16_unit_1 22 rfl rfl)
theorem dX16_unit_45 : decode cX16_unit 45 = .ok (.getfield 27, 3) := dk_180 0 27 (dk_at dksX16_unit_2 0 rfl rfl)
theorem dX16_unit_48 : decode cX16_unit 48 = .ok (.iload_n 1, 1) := dk_27 (dk_at dksX16_unit_2 3 rfl rfl)
theorem dX16_unit_49 : decode cX16_unit 49 = .ok (.aaload, 1) := dk_50 (dk_at dksX16_unit_2 4 rfl rfl)
theorem dX16_unit_50 : decode cX16_unit 50 = .ok (.invokevirtual 148, 3) := dk_182 0 148 (dk_at dksX16_unit_2 5 rfl rfl)
theorem dX16_unit_53 : decode cX16_unit 53 = .ok (.invokevirtual 60, 3) := dk_182 0 60 (dk_at dksX16_unit_2 8 rfl rfl)
theorem dX16_unit_56 : decode cX16_unit 56 = .ok (.new 151, 3) := dk_187 0 151 (dk_at dksX16_unit_2 11 rfl rfl)
theorem dX16_unit_59 : decode cX16_unit 59 = .ok (.dup, 1) := dk_89 (dk_at dksX16_unit_2 14 rfl rfl)
theorem dX16_unit_60 : decode cX16_unit 60 = .ok (.iload_n 1, 1) := dk_27 (dk_at dksX16_unit_2 15 rfl rfl)
theorem dX16_unit_61 : decode cX16_unit 61 = .ok (.invokespecial 153, 3) := dk_183 0 153 (dk_at dksX16_unit_2 16 rfl rfl)
theorem dX16_unit_64 : decode cX16_unit 64 = .ok (.areturn, 1) := dk_176 (dk_at dksX16_unit_2 19 rfl rfl)
theorem dX16_unit_65 : decode cX16_unit 65 = .ok (.aload_n 0, 1) := dk_42 (dk_at dksX16_unit_2 20 rfl rfl)
theorem dX16_unit_66 : decode cX16_unit 66 = .ok (.aload_n 0, 1) := dk_42 (dk_at dksX16_unit_2 21 rfl rfl)
theorem dX16_unit_67 : decode cX16_unit 67 = .ok (.invokevirtual 38, 3) := dk_182 0 38 (dk_at dksX16_unit_3 0 rfl rfl)
theorem dX16_unit_70 : decode cX16_unit 70 = .ok (.bipush 40, 2) := dk_16 40 (dk_at dksX16_unit_3 3 rfl rfl)
theorem dX16_unit_72 : decode cX16_unit 72 = .ok (.if_icmp .ne 7, 3) := dk_160 0 7 (dk_at dksX16_unit_3 5 rfl rfl)
theorem dX16_unit_75 : decode cX16_unit 75 = .ok (.iconst 1, 1) := dk_4 (dk_at dksX16_unit_3 8 rfl rfl)
theorem dX16_unit_76 : decode cX16_unit 76 = .ok (.goto 4, 3) := dk_167 0 4 (dk_at dksX16_unit_3 9 rfl rfl)
theorem dX16_unit_79 : decode cX16_unit 79 = .ok (.iconst 0, 1) := dk_3 (dk_at dksX16_unit_3 12 rfl rfl)
theorem dX16_unit_80 : decode cX16_unit 80 = .ok (.invokevirtual 50, 3) := dk_182 0 50 (dk_at dksX16_unit_3 13 rfl rfl)
theorem dX16_unit_83 : decode cX16_unit 83 = .ok (.aload_n 0, 1) := dk_42 (dk_at dksX16_unit_3 16 rfl rfl)
theorem dX16_unit_84 : decode cX16_unit 84 = .ok (.iconst 1, 1) := dk_4 (dk_at dksX16_unit_3 17 rfl rfl)
theorem dX16_unit_85 : decode cX16_unit 85 = .ok (.invokevirtual 102, 3) := dk_182 0 102 (dk_at dksX16_unit_3 18 rfl rfl)
theorem dX16_unit_88 : decode cX16_unit 88 = .ok (.aload_n 0, 1) := dk_42 (dk_at dksX16_unit_3 21 rfl rfl)
theorem dX16_unit_89 : decode cX16_unit 89 = .ok (.invokevirtual 114, 3) := dk_182 0 114 (dk_at dksX16_unit_4 0 rfl rfl)
theorem dX16_unit_92 : decode cX16_unit 92 = .ok (.astore_n 2, 1) := dk_77 (dk_at dksX16_unit_4 3 rfl rfl)
theorem dX16_unit_93 : decode cX16_unit 93 = .ok (.aload_n 0, 1) := dk_42 (dk_at dksX16_unit_4 4 rfl rfl)
theorem dX16_unit_94 : decode cX16_unit 94 = .ok (.bipush 41, 2) := dk_16 41 (dk_at dksX16_unit_4 5 rfl rfl)
theorem dX16_unit_96 : decode cX16_unit 96 = .ok (.invokevirtual 82, 3) := dk_182 0 82 (dk_at dksX16_unit_4 7 rfl rfl)
theorem dX16_unit_99 : decode cX16_unit 99 = .ok (.aload_n 0, 1) := dk_42 (dk_at dksX16_unit_4 10 rfl rfl)
theorem dX16_unit_100 : decode cX16_unit 100 = .ok (.dup, 1) := dk_89 (dk_at dksX16_unit_4 11 rfl rfl)
theorem dX16_unit_101 : decode cX16_unit 101 = .ok (.getfield 110, 3) := dk_180 0 110 (dk_at dksX16_unit_4 12 rfl rfl)
theorem dX16_unit_104 : decode cX16_unit 104 = .ok (.iconst 1, 1) := dk_4 (dk_at dksX16_unit_4 15 rfl rfl)
theorem dX16_unit_105 : decode cX16_unit 105 = .ok (.isub, 1) := dk_100 (dk_at dksX16_unit_4 16 rfl rfl)
theorem dX16_unit_106 : decode cX16_unit 106 = .ok (.putfield 110, 3) := dk_181 0 110 (dk_at dksX16_unit_4 17 rfl rfl)
theorem dX16_unit_109 : decode cX16_unit 109 = .ok (.aload_n 2, 1) := dk_44 (dk_at dksX16_unit_4 20 rfl rfl)
theorem dX16_unit_110 : decode cX16_unit 110 = .ok (.areturn, 1) := dk_176 (dk_at dksX16_unit_4 21 rfl rfl)
theorem q162 : (Jvm.Cond.initialized "GlassLeaders$LawReader") ∈ lw_all := lw_g (lw_at lw_m1 29 rfl) rfl
theorem q639 : (Jvm.Cond.selects "GlassLeaders$LawReader" ({ cls := "java/lang/Object", name := "getClass", desc := "()Ljava/lang/Class;" } : Jvm.MethodName) ({ cls := "java/lang/Object", name := "getClass", desc := "()Ljava/lang/Class;" } : Jvm.MethodName)) ∈ lw_all := lw_g (lw_at lw_m3 26 rfl) rfl
theorem q853 : (Jvm.Cond.selects "GlassLeaders$LawReader" ({ cls := "GlassLeaders$Bytes", name := "isWord", desc := "(Ljava/lang/String;)Z" } : Jvm.MethodName) ({ cls := "GlassLeaders$Bytes", name := "isWord", desc := "(Ljava/lang/String;)Z" } : Jvm.MethodName)) ∈ lw_all := lw_g (lw_at lw_m4 0 rfl) rfl
theorem q979 : (Jvm.Cond.selects "GlassLeaders$LawReader" ({ cls := "GlassLeaders$Bytes", name := "isDigit", desc := "()Z" } : Jvm.MethodName) ({ cls := "GlassLeaders$Bytes", name := "isDigit", desc := "()Z" } : Jvm.MethodName)) ∈ lw_all := lw_g (lw_at lw_m4 126 rfl) rfl
theorem q1028 : (Jvm.Cond.instantiable "GlassLeaders$LawReader" (5 : Nat)) ∈ lw_all := lw_g (lw_at lw_m4 175 rfl) rfl
theorem q1030 : (Jvm.Cond.instanceMethod ({ cls := "GlassLeaders$LawReader", name := "<init>", desc := "([BI)V" } : Jvm.MethodName)) ∈ lw_all := lw_g (lw_at lw_m4 177 rfl) rfl
theorem q1031 : (Jvm.Cond.code ({ cls := "GlassLeaders$LawReader", name := "<init>", desc := "([BI)V" } : Jvm.MethodName) prog_11_method_1_code (3 : Nat) (Option.none : Option Jvm.ClassFile.FieldType)) ∈ lw_all := lw_g (lw_at lw_m4 178 rfl) rfl
theorem q1032 : (Jvm.Cond.methodLink "GlassLeaders$LawReader" (3 : Nat) ({ cls := "GlassLeaders$Bytes", name := "<init>", desc := "([BI)V" } : Jvm.MethodName)) ∈ lw_all := lw_g (lw_at lw_m4 179 rfl) rfl
theorem q1033 : (Jvm.Cond.classLink "GlassLeaders$LawReader" (9 : Nat) "java/lang/String") ∈ lw_all := lw_g (lw_at lw_m4 180 rfl) rfl
theorem q1034 : (Jvm.Cond.stringRef "GlassLeaders$LawReader" (11 : Nat) "hour") ∈ lw_tbl := lw_at lw_m4 181 rfl
theorem q1035 : (Jvm.Cond.stringRef "GlassLeaders$LawReader" (13 : Nat) "left") ∈ lw_tbl := lw_at lw_m4 182 rfl
theorem q1036 : (Jvm.Cond.stringRef "GlassLeaders$LawReader" (15 : Nat) "stores") ∈ lw_tbl := lw_at lw_m4 183 rfl
theorem q1037 : (Jvm.Cond.stringRef "GlassLeaders$LawReader" (17 : Nat) "hut") ∈ lw_tbl := lw_at lw_m4 184 rfl
theorem q1038 : (Jvm.Cond.stringRef "GlassLeaders$LawReader" (19 : Nat) "leader") ∈ lw_tbl := lw_at lw_m4 185 rfl
theorem q1039 : (Jvm.Cond.stringRef "GlassLeaders$LawReader" (21 : Nat) "place") ∈ lw_tbl := lw_at lw_m4 186 rfl
theorem q1040 : (Jvm.Cond.stringRef "GlassLeaders$LawReader" (23 : Nat) "to") ∈ lw_tbl := lw_at lw_m4 187 rfl
theorem q1041 : (Jvm.Cond.stringRef "GlassLeaders$LawReader" (25 : Nat) "snow") ∈ lw_tbl := lw_at lw_m4 188 rfl
theorem q1042 : (Jvm.Cond.fieldLink "GlassLeaders$LawReader" (27 : Nat) "GlassLeaders$LawReader" "names" "[Ljava/lang/String;") ∈ lw_all := lw_g (lw_at lw_m4 189 rfl) rfl
theorem q1043 : (Jvm.Cond.fieldLink "GlassLeaders$LawReader" (110 : Nat) "GlassLeaders$LawReader" "open" "I") ∈ lw_all := lw_g (lw_at lw_m4 190 rfl) rfl
theorem q1044 : (Jvm.Cond.laysFinal "GlassLeaders$LawReader" "GlassLeaders$LawReader" "names" "[Ljava/lang/String;") ∈ lw_all := lw_g (lw_at lw_m4 191 rfl) rfl
theorem q1045 : (Jvm.Cond.soleField "GlassLeaders$LawReader" "names") ∈ lw_all := lw_g (lw_at lw_m4 192 rfl) rfl
theorem q1046 : (Jvm.Cond.lays "GlassLeaders$LawReader" "GlassLeaders$LawReader" "open" "I") ∈ lw_all := lw_g (lw_at lw_m4 193 rfl) rfl
theorem q1047 : (Jvm.Cond.soleField "GlassLeaders$LawReader" "open") ∈ lw_all := lw_g (lw_at lw_m4 194 rfl) rfl
theorem q1048 : (Jvm.Cond.laysFinal "GlassLeaders$LawReader" "GlassLeaders$Bytes" "bytes" "[B") ∈ lw_all := lw_g (lw_at lw_m4 195 rfl) rfl
theorem q1049 : (Jvm.Cond.laysFinal "GlassLeaders$LawReader" "GlassLeaders$Bytes" "size" "I") ∈ lw_all := lw_g (lw_at lw_m4 196 rfl) rfl
theorem q1050 : (Jvm.Cond.lays "GlassLeaders$LawReader" "GlassLeaders$Bytes" "at" "I") ∈ lw_all := lw_g (lw_at lw_m4 197 rfl) rfl
theorem q1051 : (Jvm.Cond.superclass "GlassLeaders$LawReader" "GlassLeaders$Bytes") ∈ lw_all := lw_g (lw_at lw_m4 198 rfl) rfl
theorem q1053 : (Jvm.Cond.instanceMethod ({ cls := "GlassLeaders$LawReader", name := "law", desc := "()Ljava/util/ArrayList;" } : Jvm.MethodName)) ∈ lw_all := lw_g (lw_at lw_m4 200 rfl) rfl
theorem q1054 : (Jvm.Cond.selects "GlassLeaders$LawReader" ({ cls := "GlassLeaders$LawReader", name := "law", desc := "()Ljava/util/ArrayList;" } : Jvm.MethodName) ({ cls := "GlassLeaders$LawReader", name := "law", desc := "()Ljava/util/ArrayList;" } : Jvm.MethodName)) ∈ lw_all := lw_g (lw_at lw_m4 201 rfl) rfl
theorem q1055 : (Jvm.Cond.code ({ cls := "GlassLeaders$LawReader", name := "law", desc := "()Ljava/util/ArrayList;" } : Jvm.MethodName) prog_11_method_2_code (3 : Nat) (Option.some (Jvm.ClassFile.FieldType.object "java/util/ArrayList"))) ∈ lw_all := lw_g (lw_at lw_m4 202 rfl) rfl
theorem q1056 : (Jvm.Cond.classLink "GlassLeaders$LawReader" (33 : Nat) "java/util/ArrayList") ∈ lw_all := lw_g (lw_at lw_m4 203 rfl) rfl
theorem q1057 : (Jvm.Cond.methodLink "GlassLeaders$LawReader" (35 : Nat) ({ cls := "java/util/ArrayList", name := "<init>", desc := "()V" } : Jvm.MethodName)) ∈ lw_all := lw_g (lw_at lw_m4 204 rfl) rfl
theorem q1058 : (Jvm.Cond.methodLink "GlassLeaders$LawReader" (38 : Nat) ({ cls := "GlassLeaders$LawReader", name := "now", desc := "()I" } : Jvm.MethodName)) ∈ lw_all := lw_g (lw_at lw_m4 205 rfl) rfl
theorem q1059 : (Jvm.Cond.sameMethod "GlassLeaders$LawReader" "GlassLeaders$Bytes" "now" "()I") ∈ lw_all := lw_g (lw_at lw_m4 206 rfl) rfl
theorem q1060 : (Jvm.Cond.selects "GlassLeaders$LawReader" ({ cls := "GlassLeaders$LawReader", name := "now", desc := "()I" } : Jvm.MethodName) ({ cls := "GlassLeaders$Bytes", name := "now", desc := "()I" } : Jvm.MethodName)) ∈ lw_all := lw_g (lw_at lw_m4 207 rfl) rfl
theorem q1061 : (Jvm.Cond.stringRef "GlassLeaders$LawReader" (42 : Nat) "rest") ∈ lw_tbl := lw_at lw_m4 208 rfl
theorem q1062 : (Jvm.Cond.methodLink "GlassLeaders$LawReader" (44 : Nat) ({ cls := "GlassLeaders$LawReader", name := "isWord", desc := "(Ljava/lang/String;)Z" } : Jvm.MethodName)) ∈ lw_all := lw_g (lw_at lw_m4 209 rfl) rfl
theorem q1063 : (Jvm.Cond.sameMethod "GlassLeaders$LawReader" "GlassLeaders$Bytes" "isWord" "(Ljava/lang/String;)Z") ∈ lw_all := lw_g (lw_at lw_m4 210 rfl) rfl
theorem q1065 : (Jvm.Cond.selects "GlassLeaders$LawReader" ({ cls := "GlassLeaders$LawReader", name := "isWord", desc := "(Ljava/lang/String;)Z" } : Jvm.MethodName) ({ cls := "GlassLeaders$Bytes", name := "isWord", desc := "(Ljava/lang/String;)Z" } : Jvm.MethodName)) ∈ lw_all := lw_g (lw_at lw_m4 212 rfl) rfl
theorem q1066 : (Jvm.Cond.stringRef "GlassLeaders$LawReader" (48 : Nat) "go") ∈ lw_tbl := lw_at lw_m4 213 rfl
theorem q1067 : (Jvm.Cond.methodLink "GlassLeaders$LawReader" (50 : Nat) ({ cls := "GlassLeaders$LawReader", name := "right", desc := "(Z)V" } : Jvm.MethodName)) ∈ lw_all := lw_g (lw_at lw_m4 214 rfl) rfl
theorem q1068 : (Jvm.Cond.sameMethod "GlassLeaders$LawReader" "GlassLeaders$Bytes" "right" "(Z)V") ∈ lw_all := lw_g (lw_at lw_m4 215 rfl) rfl
theorem q1069 : (Jvm.Cond.selects "GlassLeaders$LawReader" ({ cls := "GlassLeaders$LawReader", name := "right", desc := "(Z)V" } : Jvm.MethodName) ({ cls := "GlassLeaders$Bytes", name := "right", desc := "(Z)V" } : Jvm.MethodName)) ∈ lw_all := lw_g (lw_at lw_m4 216 rfl) rfl
theorem q1070 : (Jvm.Cond.methodLink "GlassLeaders$LawReader" (54 : Nat) ({ cls := "java/util/ArrayList", name := "size", desc := "()I" } : Jvm.MethodName)) ∈ lw_all := lw_g (lw_at lw_m4 217 rfl) rfl
theorem q1071 : (Jvm.Cond.methodLink "GlassLeaders$LawReader" (57 : Nat) ({ cls := "GlassLeaders$LawReader", name := "few", desc := "(Z)V" } : Jvm.MethodName)) ∈ lw_all := lw_g (lw_at lw_m4 218 rfl) rfl
theorem q1072 : (Jvm.Cond.sameMethod "GlassLeaders$LawReader" "GlassLeaders$Bytes" "few" "(Z)V") ∈ lw_all := lw_g (lw_at lw_m4 219 rfl) rfl
theorem q1073 : (Jvm.Cond.selects "GlassLeaders$LawReader" ({ cls := "GlassLeaders$LawReader", name := "few", desc := "(Z)V" } : Jvm.MethodName) ({ cls := "GlassLeaders$Bytes", name := "few", desc := "(Z)V" } : Jvm.MethodName)) ∈ lw_all := lw_g (lw_at lw_m4 220 rfl) rfl
theorem q1074 : (Jvm.Cond.methodLink "GlassLeaders$LawReader" (60 : Nat) ({ cls := "GlassLeaders$LawReader", name := "skip", desc := "(I)V" } : Jvm.MethodName)) ∈ lw_all := lw_g (lw_at lw_m4 221 rfl) rfl
theorem q1075 : (Jvm.Cond.sameMethod "GlassLeaders$LawReader" "GlassLeaders$Bytes" "skip" "(I)V") ∈ lw_all := lw_g (lw_at lw_m4 222 rfl) rfl
theorem q1076 : (Jvm.Cond.selects "GlassLeaders$LawReader" ({ cls := "GlassLeaders$LawReader", name := "skip", desc := "(I)V" } : Jvm.MethodName) ({ cls := "GlassLeaders$Bytes", name := "skip", desc := "(I)V" } : Jvm.MethodName)) ∈ lw_all := lw_g (lw_at lw_m4 223 rfl) rfl
theorem q1077 : (Jvm.Cond.stringRef "GlassLeaders$LawReader" (64 : Nat) "if") ∈ lw_tbl := lw_at lw_m4 224 rfl
theorem q1078 : (Jvm.Cond.methodLink "GlassLeaders$LawReader" (66 : Nat) ({ cls := "GlassLeaders$LawReader", name := "eats", desc := "(Ljava/lang/String;)Z" } : Jvm.MethodName)) ∈ lw_all := lw_g (lw_at lw_m4 225 rfl) rfl
theorem q1079 : (Jvm.Cond.sameMethod "GlassLeaders$LawReader" "GlassLeaders$Bytes" "eats" "(Ljava/lang/String;)Z") ∈ lw_all := lw_g (lw_at lw_m4 226 rfl) rfl
theorem q1080 : (Jvm.Cond.selects "GlassLeaders$LawReader" ({ cls := "GlassLeaders$LawReader", name := "eats", desc := "(Ljava/lang/String;)Z" } : Jvm.MethodName) ({ cls := "GlassLeaders$Bytes", name := "eats", desc := "(Ljava/lang/String;)Z" } : Jvm.MethodName)) ∈ lw_all := lw_g (lw_at lw_m4 227 rfl) rfl
theorem q1081 : (Jvm.Cond.classLink "GlassLeaders$LawReader" (69 : Nat) "GlassLeaders$Rule") ∈ lw_all := lw_g (lw_at lw_m4 228 rfl) rfl
theorem q1083 : (Jvm.Cond.methodLink "GlassLeaders$LawReader" (71 : Nat) ({ cls := "GlassLeaders$LawReader", name := "ors", desc := "()LGlassLeaders$Asked;" } : Jvm.MethodName)) ∈ lw_all := lw_g (lw_at lw_m4 230 rfl) rfl
theorem q1084 : (Jvm.Cond.privateMethod ({ cls := "GlassLeaders$LawReader", name := "ors", desc := "()LGlassLeaders$Asked;" } : Jvm.MethodName)) ∈ lw_tbl := lw_at lw_m4 231 rfl
theorem q1085 : (Jvm.Cond.instanceMethod ({ cls := "GlassLeaders$LawReader", name := "ors", desc := "()LGlassLeaders$Asked;" } : Jvm.MethodName)) ∈ lw_all := lw_g (lw_at lw_m4 232 rfl) rfl
theorem q1086 : (Jvm.Cond.code ({ cls := "GlassLeaders$LawReader", name := "ors", desc := "()LGlassLeaders$Asked;" } : Jvm.MethodName) prog_11_method_3_code (2 : Nat) (Option.some (Jvm.ClassFile.FieldType.object "GlassLeaders$Asked"))) ∈ lw_all := lw_g (lw_at lw_m4 233 rfl) rfl
theorem q1087 : (Jvm.Cond.methodLink "GlassLeaders$LawReader" (85 : Nat) ({ cls := "GlassLeaders$LawReader", name := "ands", desc := "()LGlassLeaders$Asked;" } : Jvm.MethodName)) ∈ lw_all := lw_g (lw_at lw_m4 234 rfl) rfl
theorem q1088 : (Jvm.Cond.privateMethod ({ cls := "GlassLeaders$LawReader", name := "ands", desc := "()LGlassLeaders$Asked;" } : Jvm.MethodName)) ∈ lw_tbl := lw_at lw_m4 235 rfl
theorem q1089 : (Jvm.Cond.instanceMethod ({ cls := "GlassLeaders$LawReader", name := "ands", desc := "()LGlassLeaders$Asked;" } : Jvm.MethodName)) ∈ lw_all := lw_g (lw_at lw_m4 236 rfl) rfl
theorem q1090 : (Jvm.Cond.code ({ cls := "GlassLeaders$LawReader", name := "ands", desc := "()LGlassLeaders$Asked;" } : Jvm.MethodName) prog_11_method_4_code (2 : Nat) (Option.some (Jvm.ClassFile.FieldType.object "GlassLeaders$Asked"))) ∈ lw_all := lw_g (lw_at lw_m4 237 rfl) rfl
theorem q1091 : (Jvm.Cond.methodLink "GlassLeaders$LawReader" (95 : Nat) ({ cls := "GlassLeaders$LawReader", name := "asked", desc := "()LGlassLeaders$Asked;" } : Jvm.MethodName)) ∈ lw_all := lw_g (lw_at lw_m4 238 rfl) rfl
theorem q1092 : (Jvm.Cond.privateMethod ({ cls := "GlassLeaders$LawReader", name := "asked", desc := "()LGlassLeaders$Asked;" } : Jvm.MethodName)) ∈ lw_tbl := lw_at lw_m4 239 rfl
theorem q1093 : (Jvm.Cond.instanceMethod ({ cls := "GlassLeaders$LawReader", name := "asked", desc := "()LGlassLeaders$Asked;" } : Jvm.MethodName)) ∈ lw_all := lw_g (lw_at lw_m5 0 rfl) rfl
theorem q1094 : (Jvm.Cond.code ({ cls := "GlassLeaders$LawReader", name := "asked", desc := "()LGlassLeaders$Asked;" } : Jvm.MethodName) prog_11_method_5_code (3 : Nat) (Option.some (Jvm.ClassFile.FieldType.object "GlassLeaders$Asked"))) ∈ lw_all := lw_g (lw_at lw_m5 1 rfl) rfl
theorem q1095 : (Jvm.Cond.stringRef "GlassLeaders$LawReader" (100 : Nat) "not") ∈ lw_tbl := lw_at lw_m5 2 rfl
theorem q1096 : (Jvm.Cond.methodLink "GlassLeaders$LawReader" (102 : Nat) ({ cls := "GlassLeaders$LawReader", name := "opens", desc := "(I)V" } : Jvm.MethodName)) ∈ lw_all := lw_g (lw_at lw_m5 3 rfl) rfl
theorem q1097 : (Jvm.Cond.privateMethod ({ cls := "GlassLeaders$LawReader", name := "opens", desc := "(I)V" } : Jvm.MethodName)) ∈ lw_tbl := lw_at lw_m5 4 rfl
theorem q1098 : (Jvm.Cond.instanceMethod ({ cls := "GlassLeaders$LawReader", name := "opens", desc := "(I)V" } : Jvm.MethodName)) ∈ lw_all := lw_g (lw_at lw_m5 5 rfl) rfl
theorem q1099 : (Jvm.Cond.code ({ cls := "GlassLeaders$LawReader", name := "opens", desc := "(I)V" } : Jvm.MethodName) prog_11_method_9_code (2 : Nat) (Option.none : Option Jvm.ClassFile.FieldType)) ∈ lw_all := lw_g (lw_at lw_m5 6 rfl) rfl
theorem q1100 : (Jvm.Cond.classLink "GlassLeaders$LawReader" (105 : Nat) "GlassLeaders$Not") ∈ lw_all := lw_g (lw_at lw_m5 7 rfl) rfl
theorem q1102 : (Jvm.Cond.methodLink "GlassLeaders$LawReader" (107 : Nat) ({ cls := "GlassLeaders$Not", name := "<init>", desc := "(LGlassLeaders$Asked;)V" } : Jvm.MethodName)) ∈ lw_all := lw_g (lw_at lw_m5 9 rfl) rfl
theorem q1113 : (Jvm.Cond.methodLink "GlassLeaders$LawReader" (82 : Nat) ({ cls := "GlassLeaders$LawReader", name := "sign", desc := "(I)V" } : Jvm.MethodName)) ∈ lw_all := lw_g (lw_at lw_m5 20 rfl) rfl
theorem q1114 : (Jvm.Cond.sameMethod "GlassLeaders$LawReader" "GlassLeaders$Bytes" "sign" "(I)V") ∈ lw_all := lw_g (lw_at lw_m5 21 rfl) rfl
theorem q1115 : (Jvm.Cond.selects "GlassLeaders$LawReader" ({ cls := "GlassLeaders$LawReader", name := "sign", desc := "(I)V" } : Jvm.MethodName) ({ cls := "GlassLeaders$Bytes", name := "sign", desc := "(I)V" } : Jvm.MethodName)) ∈ lw_all := lw_g (lw_at lw_m5 22 rfl) rfl
theorem q1116 : (Jvm.Cond.methodLink "GlassLeaders$LawReader" (114 : Nat) ({ cls := "GlassLeaders$LawReader", name := "sum", desc := "()LGlassLeaders$Term;" } : Jvm.MethodName)) ∈ lw_all := lw_g (lw_at lw_m5 23 rfl) rfl
theorem q1117 : (Jvm.Cond.privateMethod ({ cls := "GlassLeaders$LawReader", name := "sum", desc := "()LGlassLeaders$Term;" } : Jvm.MethodName)) ∈ lw_tbl := lw_at lw_m5 24 rfl
theorem q1118 : (Jvm.Cond.instanceMethod ({ cls := "GlassLeaders$LawReader", name := "sum", desc := "()LGlassLeaders$Term;" } : Jvm.MethodName)) ∈ lw_all := lw_g (lw_at lw_m5 25 rfl) rfl
theorem q1119 : (Jvm.Cond.code ({ cls := "GlassLeaders$LawReader", name := "sum", desc := "()LGlassLeaders$Term;" } : Jvm.MethodName) prog_11_method_6_code (3 : Nat) (Option.some (Jvm.ClassFile.FieldType.object "GlassLeaders$Term"))) ∈ lw_all := lw_g (lw_at lw_m5 26 rfl) rfl
theorem q1120 : (Jvm.Cond.methodLink "GlassLeaders$LawReader" (123 : Nat) ({ cls := "GlassLeaders$LawReader", name := "product", desc := "()LGlassLeaders$Term;" } : Jvm.MethodName)) ∈ lw_all := lw_g (lw_at lw_m5 27 rfl) rfl
theorem q1121 : (Jvm.Cond.privateMethod ({ cls := "GlassLeaders$LawReader", name := "product", desc := "()LGlassLeaders$Term;" } : Jvm.MethodName)) ∈ lw_tbl := lw_at lw_m5 28 rfl
theorem q1122 : (Jvm.Cond.instanceMethod ({ cls := "GlassLeaders$LawReader", name := "product", desc := "()LGlassLeaders$Term;" } : Jvm.MethodName)) ∈ lw_all := lw_g (lw_at lw_m5 29 rfl) rfl
theorem q1123 : (Jvm.Cond.code ({ cls := "GlassLeaders$LawReader", name := "product", desc := "()LGlassLeaders$Term;" } : Jvm.MethodName) prog_11_method_7_code (3 : Nat) (Option.some (Jvm.ClassFile.FieldType.object "GlassLeaders$Term"))) ∈ lw_all := lw_g (lw_at lw_m5 30 rfl) rfl
theorem q1124 : (Jvm.Cond.methodLink "GlassLeaders$LawReader" (129 : Nat) ({ cls := "GlassLeaders$LawReader", name := "unit", desc := "()LGlassLeaders$Term;" } : Jvm.MethodName)) ∈ lw_all := lw_g (lw_at lw_m5 31 rfl) rfl
theorem q1125 : (Jvm.Cond.privateMethod ({ cls := "GlassLeaders$LawReader", name := "unit", desc := "()LGlassLeaders$Term;" } : Jvm.MethodName)) ∈ lw_tbl := lw_at lw_m5 32 rfl
theorem q1126 : (Jvm.Cond.instanceMethod ({ cls := "GlassLeaders$LawReader", name := "unit", desc := "()LGlassLeaders$Term;" } : Jvm.MethodName)) ∈ lw_all := lw_g (lw_at lw_m5 33 rfl) rfl
theorem q1127 : (Jvm.Cond.code ({ cls := "GlassLeaders$LawReader", name := "unit", desc := "()LGlassLeaders$Term;" } : Jvm.MethodName) prog_11_method_8_code (3 : Nat) (Option.some (Jvm.ClassFile.FieldType.object "GlassLeaders$Term"))) ∈ lw_all := lw_g (lw_at lw_m5 34 rfl) rfl
theorem q1128 : (Jvm.Cond.methodLink "GlassLeaders$LawReader" (132 : Nat) ({ cls := "GlassLeaders$LawReader", name := "isDigit", desc := "()Z" } : Jvm.MethodName)) ∈ lw_all := lw_g (lw_at lw_m5 35 rfl) rfl
theorem q1129 : (Jvm.Cond.sameMethod "GlassLeaders$LawReader" "GlassLeaders$Bytes" "isDigit" "()Z") ∈ lw_all := lw_g (lw_at lw_m5 36 rfl) rfl
theorem q1131 : (Jvm.Cond.selects "GlassLeaders$LawReader" ({ cls := "GlassLeaders$LawReader", name := "isDigit", desc := "()Z" } : Jvm.MethodName) ({ cls := "GlassLeaders$Bytes", name := "isDigit", desc := "()Z" } : Jvm.MethodName)) ∈ lw_all := lw_g (lw_at lw_m5 38 rfl) rfl
theorem q1132 : (Jvm.Cond.classLink "GlassLeaders$LawReader" (136 : Nat) "GlassLeaders$Plain") ∈ lw_all := lw_g (lw_at lw_m5 39 rfl) rfl
theorem q1134 : (Jvm.Cond.methodLink "GlassLeaders$LawReader" (138 : Nat) ({ cls := "GlassLeaders$LawReader", name := "number", desc := "(III)I" } : Jvm.MethodName)) ∈ lw_all := lw_g (lw_at lw_m5 41 rfl) rfl
theorem q1135 : (Jvm.Cond.sameMethod "GlassLeaders$LawReader" "GlassLeaders$Bytes" "number" "(III)I") ∈ lw_all := lw_g (lw_at lw_m5 42 rfl) rfl
theorem q1136 : (Jvm.Cond.selects "GlassLeaders$LawReader" ({ cls := "GlassLeaders$LawReader", name := "number", desc := "(III)I" } : Jvm.MethodName) ({ cls := "GlassLeaders$Bytes", name := "number", desc := "(III)I" } : Jvm.MethodName)) ∈ lw_all := lw_g (lw_at lw_m5 43 rfl) rfl
theorem q1137 : (Jvm.Cond.methodLink "GlassLeaders$LawReader" (142 : Nat) ({ cls := "GlassLeaders$Plain", name := "<init>", desc := "(I)V" } : Jvm.MethodName)) ∈ lw_all := lw_g (lw_at lw_m5 44 rfl) rfl
theorem q1148 : (Jvm.Cond.methodLink "GlassLeaders$LawReader" (144 : Nat) ({ cls := "GlassLeaders$LawReader", name := "which", desc := "([Ljava/lang/String;)I" } : Jvm.MethodName)) ∈ lw_all := lw_g (lw_at lw_m5 55 rfl) rfl
theorem q1149 : (Jvm.Cond.sameMethod "GlassLeaders$LawReader" "GlassLeaders$Bytes" "which" "([Ljava/lang/String;)I") ∈ lw_all := lw_g (lw_at lw_m5 56 rfl) rfl
theorem q1150 : (Jvm.Cond.selects "GlassLeaders$LawReader" ({ cls := "GlassLeaders$LawReader", name := "which", desc := "([Ljava/lang/String;)I" } : Jvm.MethodName) ({ cls := "GlassLeaders$Bytes", name := "which", desc := "([Ljava/lang/String;)I" } : Jvm.MethodName)) ∈ lw_all := lw_g (lw_at lw_m5 57 rfl) rfl
theorem q1151 : (Jvm.Cond.methodLink "GlassLeaders$LawReader" (148 : Nat) ({ cls := "java/lang/String", name := "length", desc := "()I" } : Jvm.MethodName)) ∈ lw_all := lw_g (lw_at lw_m5 58 rfl) rfl
theorem q1152 : (Jvm.Cond.classLink "GlassLeaders$LawReader" (151 : Nat) "GlassLeaders$Name") ∈ lw_all := lw_g (lw_at lw_m5 59 rfl) rfl
theorem q1154 : (Jvm.Cond.methodLink "GlassLeaders$LawReader" (153 : Nat) ({ cls := "GlassLeaders$Name", name := "<init>", desc := "(I)V" } : Jvm.MethodName)) ∈ lw_all := lw_g (lw_at lw_m5 61 rfl) rfl
theorem q1162 : (Jvm.Cond.classLink "GlassLeaders$LawReader" (126 : Nat) "GlassLeaders$Two") ∈ lw_all := lw_g (lw_at lw_m5 69 rfl) rfl
theorem q1164 : (Jvm.Cond.methodLink "GlassLeaders$LawReader" (128 : Nat) ({ cls := "GlassLeaders$Two", name := "<init>", desc := "(ILGlassLeaders$Term;LGlassLeaders$Term;)V" } : Jvm.MethodName)) ∈ lw_all := lw_g (lw_at lw_m5 71 rfl) rfl
theorem q1178 : (Jvm.Cond.classLink "GlassLeaders$LawReader" (118 : Nat) "GlassLeaders$Compare") ∈ lw_all := lw_g (lw_at lw_m5 85 rfl) rfl
theorem q1180 : (Jvm.Cond.methodLink "GlassLeaders$LawReader" (120 : Nat) ({ cls := "GlassLeaders$Compare", name := "<init>", desc := "(ILGlassLeaders$Term;LGlassLeaders$Term;)V" } : Jvm.MethodName)) ∈ lw_all := lw_g (lw_at lw_m5 87 rfl) rfl
theorem q1194 : (Jvm.Cond.stringRef "GlassLeaders$LawReader" (98 : Nat) "and") ∈ lw_tbl := lw_at lw_m5 101 rfl
theorem q1195 : (Jvm.Cond.classLink "GlassLeaders$LawReader" (90 : Nat) "GlassLeaders$Both") ∈ lw_all := lw_g (lw_at lw_m5 102 rfl) rfl
theorem q1197 : (Jvm.Cond.methodLink "GlassLeaders$LawReader" (92 : Nat) ({ cls := "GlassLeaders$Both", name := "<init>", desc := "(ZLGlassLeaders$Asked;LGlassLeaders$Asked;)V" } : Jvm.MethodName)) ∈ lw_all := lw_g (lw_at lw_m5 104 rfl) rfl
theorem q1211 : (Jvm.Cond.stringRef "GlassLeaders$LawReader" (88 : Nat) "or") ∈ lw_tbl := lw_at lw_m5 118 rfl
theorem q1212 : (Jvm.Cond.methodLink "GlassLeaders$LawReader" (75 : Nat) ({ cls := "GlassLeaders$Rule", name := "<init>", desc := "(ZLGlassLeaders$Asked;)V" } : Jvm.MethodName)) ∈ lw_all := lw_g (lw_at lw_m5 119 rfl) rfl
theorem q1225 : (Jvm.Cond.methodLink "GlassLeaders$LawReader" (78 : Nat) ({ cls := "java/util/ArrayList", name := "add", desc := "(Ljava/lang/Object;)Z" } : Jvm.MethodName)) ∈ lw_all := lw_g (lw_at lw_m5 132 rfl) rfl
theorem q2839 : (Jvm.Cond.selects "GlassLeaders$LawReader" ({ cls := "GlassLeaders$Bytes", name := "now", desc := "()I" } : Jvm.MethodName) ({ cls := "GlassLeaders$Bytes", name := "now", desc := "()I" } : Jvm.MethodName)) ∈ lw_all := lw_g (lw_at lw_m12 66 rfl) rfl
theorem q2843 : (Jvm.Cond.selects "GlassLeaders$LawReader" ({ cls := "GlassLeaders$Bytes", name := "right", desc := "(Z)V" } : Jvm.MethodName) ({ cls := "GlassLeaders$Bytes", name := "right", desc := "(Z)V" } : Jvm.MethodName)) ∈ lw_all := lw_g (lw_at lw_m12 70 rfl) rfl
theorem q2874 : (Jvm.Cond.castable "GlassLeaders$LawReader" "java/lang/Object") ∈ lw_tbl := lw_at lw_m12 101 rfl
theorem in_X16 : ∀ w ∈ wsX160, w ∈ lw_all := lw_in wsX160 [1048, 1049, 1050, 1044, 1046] (by decide +kernel) (by decide +kernel)
/-! GlassLeaders$Rule -/
set_option maxRecDepth 100000
def RX17 : String := "GlassLeaders$Rule"
def TX17 : u_T := fun k => match k with
  | 0 => ("GlassLeaders$Rule", "isRest", "Z", true)
  | _ => ("GlassLeaders$Rule", "asked", "LGlassLeaders$Asked;", true)
def tyX17 : Nat → FieldType := fun k => match k with
  | 0 => .boolean
  | _ => .object "GlassLeaders$Asked"
abbrev wsX170 : List Cond := u_ws RX17 TX17 2
theorem nmX17 : ∀ a, a < 2 → ∀ b, b < 2 → a ≠ b → (TX17 a).2.1 ≠ (TX17 b).2.1 := by decide +kernel
theorem tyX17_ok : ∀ k, k < 2 → parseFieldDescriptor (TX17 k).2.2.1 = some (tyX17 k) := by decide +kernel
abbrev cX17_init : ByteArray := prog_19_method_1_code
def yX17_init : MethodName := ⟨RX17, "<init>", "(ZLGlassLeaders$Asked;)V"⟩
def dkwX17_init_0 : List UInt8 := [42, 183, 0, 1, 42, 27, 181, 0, 7, 42, 44, 181, 0, 13, 177]
abbrev dktX17_init_0 : List UInt8 := dkwX17_init_0 ++ []
theorem dksX17_init_0 : cX17_init.data.toList.drop 0 = dktX17_init_0 := by decide +kernel
theorem dX17_init_0 : decode cX17_init 0 = .ok (.aload_n 0, 1) := dk_42 (dk_at dksX17_init_0 0 rfl rfl)
theorem dX17_init_1 : decode cX17_init 1 = .ok (.invokespecial 1, 3) := dk_183 0 1 (dk_at dksX17_init_0 1 rfl rfl)
theorem dX17_init_4 : decode cX17_init 4 = .ok (.aload_n 0, 1) := dk_42 (dk_at dksX17_init_0 4 rfl rfl)
theorem dX17_init_5 : decode cX17_init 5 = .ok (.iload_n 1, 1) := dk_27 (dk_at dksX17_init_0 5 rfl rfl)
theorem dX17_init_6 : decode cX17_init 6 = .ok (.putfield 7, 3) := dk_181 0 7 (dk_at dksX17_init_0 6 rfl rfl)
theorem dX17_init_9 : decode cX17_init 9 = .ok (.aload_n 0, 1) := dk_42 (dk_at dksX17_init_0 9 rfl rfl)
theorem dX17_init_10 : decode cX17_init 10 = .ok (.aload_n 2, 1) := dk_44 (dk_at dksX17_init_0 10 rfl rfl)
theorem dX17_init_11 : decode cX17_init 11 = .ok (.putfield 13, 3) := dk_181 0 13 (dk_at dksX17_init_0 11 rfl rfl)
theorem dX17_init_14 : decode cX17_init 14 = .ok (.return_, 1) := dk_177 (dk_at dksX17_init_0 14 rfl rfl)
theorem q163 : (Jvm.Cond.initialized "GlassLeaders$Rule") ∈ lw_all := lw_g (lw_at lw_m1 30 rfl) rfl
theorem q646 : (Jvm.Cond.selects "GlassLeaders$Rule" ({ cls := "java/lang/Object", name := "getClass", desc := "()Ljava/lang/Class;" } : Jvm.MethodName) ({ cls := "java/lang/Object", name := "getClass", desc := "()Ljava/lang/Class;" } : Jvm.MethodName)) ∈ lw_all := lw_g (lw_at lw_m3 33 rfl) rfl
theorem q1082 : (Jvm.Cond.instantiable "GlassLeaders$Rule" (2 : Nat)) ∈ lw_all := lw_g (lw_at lw_m4 229 rfl) rfl
theorem q1213 : (Jvm.Cond.instanceMethod ({ cls := "GlassLeaders$Rule", name := "<init>", desc := "(ZLGlassLeaders$Asked;)V" } : Jvm.MethodName)) ∈ lw_all := lw_g (lw_at lw_m5 120 rfl) rfl
theorem q1214 : (Jvm.Cond.code ({ cls := "GlassLeaders$Rule", name := "<init>", desc := "(ZLGlassLeaders$Asked;)V" } : Jvm.MethodName) prog_19_method_1_code (3 : Nat) (Option.none : Option Jvm.ClassFile.FieldType)) ∈ lw_all := lw_g (lw_at lw_m5 121 rfl) rfl
theorem q1215 : (Jvm.Cond.methodLink "GlassLeaders$Rule" (1 : Nat) ({ cls := "java/lang/Object", name := "<init>", desc := "()V" } : Jvm.MethodName)) ∈ lw_all := lw_g (lw_at lw_m5 122 rfl) rfl
theorem q1216 : (Jvm.Cond.fieldLink "GlassLeaders$Rule" (7 : Nat) "GlassLeaders$Rule" "isRest" "Z") ∈ lw_all := lw_g (lw_at lw_m5 123 rfl) rfl
theorem q1218 : (Jvm.Cond.fieldLink "GlassLeaders$Rule" (13 : Nat) "GlassLeaders$Rule" "asked" "LGlassLeaders$Asked;") ∈ lw_all := lw_g (lw_at lw_m5 125 rfl) rfl
theorem q1220 : (Jvm.Cond.laysFinal "GlassLeaders$Rule" "GlassLeaders$Rule" "isRest" "Z") ∈ lw_all := lw_g (lw_at lw_m5 127 rfl) rfl
theorem q1221 : (Jvm.Cond.soleField "GlassLeaders$Rule" "isRest") ∈ lw_all := lw_g (lw_at lw_m5 128 rfl) rfl
theorem q1222 : (Jvm.Cond.laysFinal "GlassLeaders$Rule" "GlassLeaders$Rule" "asked" "LGlassLeaders$Asked;") ∈ lw_all := lw_g (lw_at lw_m5 129 rfl) rfl
theorem q1223 : (Jvm.Cond.soleField "GlassLeaders$Rule" "asked") ∈ lw_all := lw_g (lw_at lw_m5 130 rfl) rfl
theorem q1224 : (Jvm.Cond.superclass "GlassLeaders$Rule" "java/lang/Object") ∈ lw_all := lw_g (lw_at lw_m5 131 rfl) rfl
theorem q2875 : (Jvm.Cond.castable "GlassLeaders$Rule" "java/lang/Object") ∈ lw_tbl := lw_at lw_m12 102 rfl
theorem in_X17 : ∀ w ∈ wsX170, w ∈ lw_all := lw_in wsX170 [1220, 1222] (by decide +kernel) (by decide +kernel)
/-! GlassLeaders$Asked -/
set_option maxRecDepth 100000
def RX18 : String := "GlassLeaders$Asked"
abbrev cX18_init : ByteArray := prog_3_method_1_code
def yX18_init : MethodName := ⟨RX18, "<init>", "()V"⟩
theorem dX18_init_0 : decode cX18_init 0 = .ok (.aload_n 0, 1) := by decide +kernel
theorem dX18_init_1 : decode cX18_init 1 = .ok (.invokespecial 1, 3) := by decide +kernel
theorem dX18_init_4 : decode cX18_init 4 = .ok (.return_, 1) := by decide +kernel
theorem q164 : (Jvm.Cond.initialized "GlassLeaders$Asked") ∈ lw_all := lw_g (lw_at lw_m1 31 rfl) rfl
theorem q1106 : (Jvm.Cond.instanceMethod ({ cls := "GlassLeaders$Asked", name := "<init>", desc := "()V" } : Jvm.MethodName)) ∈ lw_all := lw_g (lw_at lw_m5 13 rfl) rfl
theorem q1107 : (Jvm.Cond.code ({ cls := "GlassLeaders$Asked", name := "<init>", desc := "()V" } : Jvm.MethodName) prog_3_method_1_code (1 : Nat) (Option.none : Option Jvm.ClassFile.FieldType)) ∈ lw_all := lw_g (lw_at lw_m5 14 rfl) rfl
theorem q1108 : (Jvm.Cond.methodLink "GlassLeaders$Asked" (1 : Nat) ({ cls := "java/lang/Object", name := "<init>", desc := "()V" } : Jvm.MethodName)) ∈ lw_all := lw_g (lw_at lw_m5 15 rfl) rfl
theorem q1432 : (Jvm.Cond.declares ({ cls := "GlassLeaders$Asked", name := "is", desc := "([I)Z" } : Jvm.MethodName)) ∈ lw_tbl := lw_at lw_m6 99 rfl
theorem q1433 : (Jvm.Cond.sameMethod "GlassLeaders$Asked" "GlassLeaders$Asked" "is" "([I)Z") ∈ lw_all := lw_g (lw_at lw_m6 100 rfl) rfl
/-! GlassLeaders$Not -/
set_option maxRecDepth 100000
def RX19 : String := "GlassLeaders$Not"
def TX19 : u_T := fun k => match k with
  | _ => ("GlassLeaders$Not", "asked", "LGlassLeaders$Asked;", true)
def tyX19 : Nat → FieldType := fun k => match k with
  | _ => .object "GlassLeaders$Asked"
abbrev wsX190 : List Cond := u_ws RX19 TX19 1
theorem nmX19 : ∀ a, a < 1 → ∀ b, b < 1 → a ≠ b → (TX19 a).2.1 ≠ (TX19 b).2.1 := by decide +kernel
theorem tyX19_ok : ∀ k, k < 1 → parseFieldDescriptor (TX19 k).2.2.1 = some (tyX19 k) := by decide +kernel
abbrev cX19_init : ByteArray := prog_14_method_1_code
def yX19_init : MethodName := ⟨RX19, "<init>", "(LGlassLeaders$Asked;)V"⟩
def dkwX19_init_0 : List UInt8 := [42, 183, 0, 1, 42, 43, 181, 0, 7, 177]
abbrev dktX19_init_0 : List UInt8 := dkwX19_init_0 ++ []
theorem dksX19_init_0 : cX19_init.data.toList.drop 0 = dktX19_init_0 := by decide +kernel
theorem dX19_init_0 : decode cX19_init 0 = .ok (.aload_n 0, 1) := dk_42 (dk_at dksX19_init_0 0 rfl rfl)
theorem dX19_init_1 : decode cX19_init 1 = .ok (.invokespecial 1, 3) := dk_183 0 1 (dk_at dksX19_init_0 1 rfl rfl)
theorem dX19_init_4 : decode cX19_init 4 = .ok (.aload_n 0, 1) := dk_42 (dk_at dksX19_init_0 4 rfl rfl)
theorem dX19_init_5 : decode cX19_init 5 = .ok (.aload_n 1, 1) := dk_43 (dk_at dksX19_init_0 5 rfl rfl)
theorem dX19_init_6 : decode cX19_init 6 = .ok (.putfield 7, 3) := dk_181 0 7 (dk_at dksX19_init_0 6 rfl rfl)
theorem dX19_init_9 : decode cX19_init 9 = .ok (.return_, 1) := dk_177 (dk_at dksX19_init_0 9 rfl rfl)
abbrev cX19_is : ByteArray := prog_14_method_2_code
def yX19_is : MethodName := ⟨RX19, "is", "([I)Z"⟩
def dkwX19_is_0 : List UInt8 := [42, 180, 0, 7, 43, 182, 0, 13, 154, 0, 7, 4, 167, 0, 4, 3, 172]
abbrev dktX19_is_0 : List UInt8 := dkwX19_is_0 ++ []
theorem dksX19_is_0 : cX19_is.data.toList.drop 0 = dktX19_is_0 := by decide +kernel
theorem dX19_is_0 : decode cX19_is 0 = .ok (.aload_n 0, 1) := dk_42 (dk_at dksX19_is_0 0 rfl rfl)
theorem dX19_is_1 : decode cX19_is 1 = .ok (.getfield 7, 3) := dk_180 0 7 (dk_at dksX19_is_0 1 rfl rfl)
theorem dX19_is_4 : decode cX19_is 4 = .ok (.aload_n 1, 1) := dk_43 (dk_at dksX19_is_0 4 rfl rfl)
theorem dX19_is_5 : decode cX19_is 5 = .ok (.invokevirtual 13, 3) := dk_182 0 13 (dk_at dksX19_is_0 5 rfl rfl)
theorem dX19_is_8 : decode cX19_is 8 = .ok (.ifCond .ne 7, 3) := dk_154 0 7 (dk_at dksX19_is_0 8 rfl rfl)
theorem dX19_is_11 : decode cX19_is 11 = .ok (.iconst 1, 1) := dk_4 (dk_at dksX19_is_0 11 rfl rfl)
theorem dX19_is_12 : decode cX19_is 12 = .ok (.goto 4, 3) := dk_167 0 4 (dk_at dksX19_is_0 12 rfl rfl)
theorem dX19_is_15 : decode cX19_is 15 = .ok (.iconst 0, 1) := dk_3 (dk_at dksX19_is_0 15 rfl rfl)
theorem dX19_is_16 : decode cX19_is 16 = .ok (.ireturn, 1) := dk_172 (dk_at dksX19_is_0 16 rfl rfl)
theorem q165 : (Jvm.Cond.initialized "GlassLeaders$Not") ∈ lw_all := lw_g (lw_at lw_m1 32 rfl) rfl
theorem q641 : (Jvm.Cond.selects "GlassLeaders$Not" ({ cls := "java/lang/Object", name := "getClass", desc := "()Ljava/lang/Class;" } : Jvm.MethodName) ({ cls := "java/lang/Object", name := "getClass", desc := "()Ljava/lang/Class;" } : Jvm.MethodName)) ∈ lw_all := lw_g (lw_at lw_m3 28 rfl) rfl
theorem q1101 : (Jvm.Cond.instantiable "GlassLeaders$Not" (1 : Nat)) ∈ lw_all := lw_g (lw_at lw_m5 8 rfl) rfl
theorem q1103 : (Jvm.Cond.instanceMethod ({ cls := "GlassLeaders$Not", name := "<init>", desc := "(LGlassLeaders$Asked;)V" } : Jvm.MethodName)) ∈ lw_all := lw_g (lw_at lw_m5 10 rfl) rfl
theorem q1104 : (Jvm.Cond.code ({ cls := "GlassLeaders$Not", name := "<init>", desc := "(LGlassLeaders$Asked;)V" } : Jvm.MethodName) prog_14_method_1_code (2 : Nat) (Option.none : Option Jvm.ClassFile.FieldType)) ∈ lw_all := lw_g (lw_at lw_m5 11 rfl) rfl
theorem q1105 : (Jvm.Cond.methodLinkNest "GlassLeaders$Not" (1 : Nat) ({ cls := "GlassLeaders$Asked", name := "<init>", desc := "()V" } : Jvm.MethodName) "GlassLeaders") ∈ lw_tbl := lw_at lw_m5 12 rfl
theorem q1109 : (Jvm.Cond.fieldLink "GlassLeaders$Not" (7 : Nat) "GlassLeaders$Not" "asked" "LGlassLeaders$Asked;") ∈ lw_all := lw_g (lw_at lw_m5 16 rfl) rfl
theorem q1110 : (Jvm.Cond.laysFinal "GlassLeaders$Not" "GlassLeaders$Not" "asked" "LGlassLeaders$Asked;") ∈ lw_all := lw_g (lw_at lw_m5 17 rfl) rfl
theorem q1111 : (Jvm.Cond.soleField "GlassLeaders$Not" "asked") ∈ lw_all := lw_g (lw_at lw_m5 18 rfl) rfl
theorem q1112 : (Jvm.Cond.superclass "GlassLeaders$Not" "GlassLeaders$Asked") ∈ lw_all := lw_g (lw_at lw_m5 19 rfl) rfl
theorem q1453 : (Jvm.Cond.instanceMethod ({ cls := "GlassLeaders$Not", name := "is", desc := "([I)Z" } : Jvm.MethodName)) ∈ lw_all := lw_g (lw_at lw_m6 120 rfl) rfl
theorem q1454 : (Jvm.Cond.code ({ cls := "GlassLeaders$Not", name := "is", desc := "([I)Z" } : Jvm.MethodName) prog_14_method_2_code (2 : Nat) (Option.some Jvm.ClassFile.FieldType.boolean)) ∈ lw_all := lw_g (lw_at lw_m6 121 rfl) rfl
theorem q1455 : (Jvm.Cond.methodLink "GlassLeaders$Not" (13 : Nat) ({ cls := "GlassLeaders$Asked", name := "is", desc := "([I)Z" } : Jvm.MethodName)) ∈ lw_all := lw_g (lw_at lw_m6 122 rfl) rfl
theorem q1457 : (Jvm.Cond.selects "GlassLeaders$Not" ({ cls := "GlassLeaders$Asked", name := "is", desc := "([I)Z" } : Jvm.MethodName) ({ cls := "GlassLeaders$Not", name := "is", desc := "([I)Z" } : Jvm.MethodName)) ∈ lw_all := lw_g (lw_at lw_m6 124 rfl) rfl
theorem q2876 : (Jvm.Cond.castable "GlassLeaders$Not" "java/lang/Object") ∈ lw_tbl := lw_at lw_m12 103 rfl
theorem in_X19 : ∀ w ∈ wsX190, w ∈ lw_all := lw_in wsX190 [1110] (by decide +kernel) (by decide +kernel)
/-! GlassLeaders$Term -/
set_option maxRecDepth 100000
def RX20 : String := "GlassLeaders$Term"
abbrev cX20_init : ByteArray := prog_22_method_1_code
def yX20_init : MethodName := ⟨RX20, "<init>", "()V"⟩
theorem dX20_init_0 : decode cX20_init 0 = .ok (.aload_n 0, 1) := by decide +kernel
theorem dX20_init_1 : decode cX20_init 1 = .ok (.invokespecial 1, 3) := by decide +kernel
theorem dX20_init_4 : decode cX20_init 4 = .ok (.return_, 1) := by decide +kernel
theorem q166 : (Jvm.Cond.initialized "GlassLeaders$Term") ∈ lw_all := lw_g (lw_at lw_m1 33 rfl) rfl
theorem q1141 : (Jvm.Cond.instanceMethod ({ cls := "GlassLeaders$Term", name := "<init>", desc := "()V" } : Jvm.MethodName)) ∈ lw_all := lw_g (lw_at lw_m5 48 rfl) rfl
theorem q1142 : (Jvm.Cond.code ({ cls := "GlassLeaders$Term", name := "<init>", desc := "()V" } : Jvm.MethodName) prog_22_method_1_code (1 : Nat) (Option.none : Option Jvm.ClassFile.FieldType)) ∈ lw_all := lw_g (lw_at lw_m5 49 rfl) rfl
theorem q1143 : (Jvm.Cond.methodLink "GlassLeaders$Term" (1 : Nat) ({ cls := "java/lang/Object", name := "<init>", desc := "()V" } : Jvm.MethodName)) ∈ lw_all := lw_g (lw_at lw_m5 50 rfl) rfl
theorem q1441 : (Jvm.Cond.declares ({ cls := "GlassLeaders$Term", name := "of", desc := "([I)I" } : Jvm.MethodName)) ∈ lw_tbl := lw_at lw_m6 108 rfl
theorem q1442 : (Jvm.Cond.sameMethod "GlassLeaders$Term" "GlassLeaders$Term" "of" "([I)I") ∈ lw_all := lw_g (lw_at lw_m6 109 rfl) rfl
/-! GlassLeaders$Plain -/
set_option maxRecDepth 100000
def RX21 : String := "GlassLeaders$Plain"
def TX21 : u_T := fun k => match k with
  | _ => ("GlassLeaders$Plain", "number", "I", true)
def tyX21 : Nat → FieldType := fun k => match k with
  | _ => .int
abbrev wsX210 : List Cond := u_ws RX21 TX21 1
theorem nmX21 : ∀ a, a < 1 → ∀ b, b < 1 → a ≠ b → (TX21 a).2.1 ≠ (TX21 b).2.1 := by decide +kernel
theorem tyX21_ok : ∀ k, k < 1 → parseFieldDescriptor (TX21 k).2.2.1 = some (tyX21 k) := by decide +kernel
abbrev cX21_init : ByteArray := prog_17_method_1_code
def yX21_init : MethodName := ⟨RX21, "<init>", "(I)V"⟩
def dkwX21_init_0 : List UInt8 := [42, 183, 0, 1, 42, 27, 181, 0, 7, 177]
abbrev dktX21_init_0 : List UInt8 := dkwX21_init_0 ++ []
theorem dksX21_init_0 : cX21_init.data.toList.drop 0 = dktX21_init_0 := by decide +kernel
theorem dX21_init_0 : decode cX21_init 0 = .ok (.aload_n 0, 1) := dk_42 (dk_at dksX21_init_0 0 rfl rfl)
theorem dX21_init_1 : decode cX21_init 1 = .ok (.invokespecial 1, 3) := dk_183 0 1 (dk_at dksX21_init_0 1 rfl rfl)
theorem dX21_init_4 : decode cX21_init 4 = .ok (.aload_n 0, 1) := dk_42 (dk_at dksX21_init_0 4 rfl rfl)
theorem dX21_init_5 : decode cX21_init 5 = .ok (.iload_n 1, 1) := dk_27 (dk_at dksX21_init_0 5 rfl rfl)
theorem dX21_init_6 : decode cX21_init 6 = .ok (.putfield 7, 3) := dk_181 0 7 (dk_at dksX21_init_0 6 rfl rfl)
theorem dX21_init_9 : decode cX21_init 9 = .ok (.return_, 1) := dk_177 (dk_at dksX21_init_0 9 rfl rfl)
abbrev cX21_of : ByteArray := prog_17_method_2_code
def yX21_of : MethodName := ⟨RX21, "of", "([I)I"⟩
theorem dX21_of_0 : decode cX21_of 0 = .ok (.aload_n 0, 1) := by decide +kernel
theorem dX21_of_1 : decode cX21_of 1 = .ok (.getfield 7, 3) := by decide +kernel
theorem dX21_of_4 : decode cX21_of 4 = .ok (.ireturn, 1) := by decide +kernel
theorem q167 : (Jvm.Cond.initialized "GlassLeaders$Plain") ∈ lw_all := lw_g (lw_at lw_m1 34 rfl) rfl
theorem q644 : (Jvm.Cond.selects "GlassLeaders$Plain" ({ cls := "java/lang/Object", name := "getClass", desc := "()Ljava/lang/Class;" } : Jvm.MethodName) ({ cls := "java/lang/Object", name := "getClass", desc := "()Ljava/lang/Class;" } : Jvm.MethodName)) ∈ lw_all := lw_g (lw_at lw_m3 31 rfl) rfl
theorem q1133 : (Jvm.Cond.instantiable "GlassLeaders$Plain" (1 : Nat)) ∈ lw_all := lw_g (lw_at lw_m5 40 rfl) rfl
theorem q1138 : (Jvm.Cond.instanceMethod ({ cls := "GlassLeaders$Plain", name := "<init>", desc := "(I)V" } : Jvm.MethodName)) ∈ lw_all := lw_g (lw_at lw_m5 45 rfl) rfl
theorem q1139 : (Jvm.Cond.code ({ cls := "GlassLeaders$Plain", name := "<init>", desc := "(I)V" } : Jvm.MethodName) prog_17_method_1_code (2 : Nat) (Option.none : Option Jvm.ClassFile.FieldType)) ∈ lw_all := lw_g (lw_at lw_m5 46 rfl) rfl
theorem q1140 : (Jvm.Cond.methodLinkNest "GlassLeaders$Plain" (1 : Nat) ({ cls := "GlassLeaders$Term", name := "<init>", desc := "()V" } : Jvm.MethodName) "GlassLeaders") ∈ lw_tbl := lw_at lw_m5 47 rfl
theorem q1144 : (Jvm.Cond.fieldLink "GlassLeaders$Plain" (7 : Nat) "GlassLeaders$Plain" "number" "I") ∈ lw_all := lw_g (lw_at lw_m5 51 rfl) rfl
theorem q1145 : (Jvm.Cond.laysFinal "GlassLeaders$Plain" "GlassLeaders$Plain" "number" "I") ∈ lw_all := lw_g (lw_at lw_m5 52 rfl) rfl
theorem q1146 : (Jvm.Cond.soleField "GlassLeaders$Plain" "number") ∈ lw_all := lw_g (lw_at lw_m5 53 rfl) rfl
theorem q1147 : (Jvm.Cond.superclass "GlassLeaders$Plain" "GlassLeaders$Term") ∈ lw_all := lw_g (lw_at lw_m5 54 rfl) rfl
theorem q1446 : (Jvm.Cond.selects "GlassLeaders$Plain" ({ cls := "GlassLeaders$Term", name := "of", desc := "([I)I" } : Jvm.MethodName) ({ cls := "GlassLeaders$Plain", name := "of", desc := "([I)I" } : Jvm.MethodName)) ∈ lw_all := lw_g (lw_at lw_m6 113 rfl) rfl
theorem q1447 : (Jvm.Cond.instanceMethod ({ cls := "GlassLeaders$Plain", name := "of", desc := "([I)I" } : Jvm.MethodName)) ∈ lw_all := lw_g (lw_at lw_m6 114 rfl) rfl
theorem q1448 : (Jvm.Cond.code ({ cls := "GlassLeaders$Plain", name := "of", desc := "([I)I" } : Jvm.MethodName) prog_17_method_2_code (2 : Nat) (Option.some Jvm.ClassFile.FieldType.int)) ∈ lw_all := lw_g (lw_at lw_m6 115 rfl) rfl
theorem q2877 : (Jvm.Cond.castable "GlassLeaders$Plain" "java/lang/Object") ∈ lw_tbl := lw_at lw_m12 104 rfl
theorem in_X21 : ∀ w ∈ wsX210, w ∈ lw_all := lw_in wsX210 [1145] (by decide +kernel) (by decide +kernel)
/-! GlassLeaders$Name -/
set_option maxRecDepth 100000
def RX22 : String := "GlassLeaders$Name"
def TX22 : u_T := fun k => match k with
  | _ => ("GlassLeaders$Name", "which", "I", true)
def tyX22 : Nat → FieldType := fun k => match k with
  | _ => .int
abbrev wsX220 : List Cond := u_ws RX22 TX22 1
theorem nmX22 : ∀ a, a < 1 → ∀ b, b < 1 → a ≠ b → (TX22 a).2.1 ≠ (TX22 b).2.1 := by decide +kernel
theorem tyX22_ok : ∀ k, k < 1 → parseFieldDescriptor (TX22 k).2.2.1 = some (tyX22 k) := by decide +kernel
abbrev cX22_init : ByteArray := prog_13_method_1_code
def yX22_init : MethodName := ⟨RX22, "<init>", "(I)V"⟩
def dkwX22_init_0 : List UInt8 := [42, 183, 0, 1, 42, 27, 181, 0, 7, 177]
abbrev dktX22_init_0 : List UInt8 := dkwX22_init_0 ++ []
theorem dksX22_init_0 : cX22_init.data.toList.drop 0 = dktX22_init_0 := by decide +kernel
theorem dX22_init_0 : decode cX22_init 0 = .ok (.aload_n 0, 1) := dk_42 (dk_at dksX22_init_0 0 rfl rfl)
theorem dX22_init_1 : decode cX22_init 1 = .ok (.invokespecial 1, 3) := dk_183 0 1 (dk_at dksX22_init_0 1 rfl rfl)
theorem dX22_init_4 : decode cX22_init 4 = .ok (.aload_n 0, 1) := dk_42 (dk_at dksX22_init_0 4 rfl rfl)
theorem dX22_init_5 : decode cX22_init 5 = .ok (.iload_n 1, 1) := dk_27 (dk_at dksX22_init_0 5 rfl rfl)
theorem dX22_init_6 : decode cX22_init 6 = .ok (.putfield 7, 3) := dk_181 0 7 (dk_at dksX22_init_0 6 rfl rfl)
theorem dX22_init_9 : decode cX22_init 9 = .ok (.return_, 1) := dk_177 (dk_at dksX22_init_0 9 rfl rfl)
abbrev cX22_of : ByteArray := prog_13_method_2_code
def yX22_of : MethodName := ⟨RX22, "of", "([I)I"⟩
def dkwX22_of_0 : List UInt8 := [43, 42, 180, 0, 7, 46, 172]
abbrev dktX22_of_0 : List UInt8 := dkwX22_of_0 ++ []
theorem dksX22_of_0 : cX22_of.data.toList.drop 0 = dktX22_of_0 := by decide +kernel
theorem dX22_of_0 : decode cX22_of 0 = .ok (.aload_n 1, 1) := dk_43 (dk_at dksX22_of_0 0 rfl rfl)
theorem dX22_of_1 : decode cX22_of 1 = .ok (.aload_n 0, 1) := dk_42 (dk_at dksX22_of_0 1 rfl rfl)
theorem dX22_of_2 : decode cX22_of 2 = .ok (.getfield 7, 3) := dk_180 0 7 (dk_at dksX22_of_0 2 rfl rfl)
theorem dX22_of_5 : decode cX22_of 5 = .ok (.iaload, 1) := dk_46 (dk_at dksX22_of_0 5 rfl rfl)
theorem dX22_of_6 : decode cX22_of 6 = .ok (.ireturn, 1) := dk_172 (dk_at dksX22_of_0 6 rfl rfl)
theorem q168 : (Jvm.Cond.initialized "GlassLeaders$Name") ∈ lw_all := lw_g (lw_at lw_m1 35 rfl) rfl
theorem q640 : (Jvm.Cond.selects "GlassLeaders$Name" ({ cls := "java/lang/Object", name := "getClass", desc := "()Ljava/lang/Class;" } : Jvm.MethodName) ({ cls := "java/lang/Object", name := "getClass", desc := "()Ljava/lang/Class;" } : Jvm.MethodName)) ∈ lw_all := lw_g (lw_at lw_m3 27 rfl) rfl
theorem q1153 : (Jvm.Cond.instantiable "GlassLeaders$Name" (1 : Nat)) ∈ lw_all := lw_g (lw_at lw_m5 60 rfl) rfl
theorem q1155 : (Jvm.Cond.instanceMethod ({ cls := "GlassLeaders$Name", name := "<init>", desc := "(I)V" } : Jvm.MethodName)) ∈ lw_all := lw_g (lw_at lw_m5 62 rfl) rfl
theorem q1156 : (Jvm.Cond.code ({ cls := "GlassLeaders$Name", name := "<init>", desc := "(I)V" } : Jvm.MethodName) prog_13_method_1_code (2 : Nat) (Option.none : Option Jvm.ClassFile.FieldType)) ∈ lw_all := lw_g (lw_at lw_m5 63 rfl) rfl
theorem q1157 : (Jvm.Cond.methodLinkNest "GlassLeaders$Name" (1 : Nat) ({ cls := "GlassLeaders$Term", name := "<init>", desc := "()V" } : Jvm.MethodName) "GlassLeaders") ∈ lw_tbl := lw_at lw_m5 64 rfl
theorem q1158 : (Jvm.Cond.fieldLink "GlassLeaders$Name" (7 : Nat) "GlassLeaders$Name" "which" "I") ∈ lw_all := lw_g (lw_at lw_m5 65 rfl) rfl
theorem q1159 : (Jvm.Cond.laysFinal "GlassLeaders$Name" "GlassLeaders$Name" "which" "I") ∈ lw_all := lw_g (lw_at lw_m5 66 rfl) rfl
theorem q1160 : (Jvm.Cond.soleField "GlassLeaders$Name" "which") ∈ lw_all := lw_g (lw_at lw_m5 67 rfl) rfl
theorem q1161 : (Jvm.Cond.superclass "GlassLeaders$Name" "GlassLeaders$Term") ∈ lw_all := lw_g (lw_at lw_m5 68 rfl) rfl
theorem q1443 : (Jvm.Cond.selects "GlassLeaders$Name" ({ cls := "GlassLeaders$Term", name := "of", desc := "([I)I" } : Jvm.MethodName) ({ cls := "GlassLeaders$Name", name := "of", desc := "([I)I" } : Jvm.MethodName)) ∈ lw_all := lw_g (lw_at lw_m6 110 rfl) rfl
theorem q1444 : (Jvm.Cond.instanceMethod ({ cls := "GlassLeaders$Name", name := "of", desc := "([I)I" } : Jvm.MethodName)) ∈ lw_all := lw_g (lw_at lw_m6 111 rfl) rfl
theorem q1445 : (Jvm.Cond.code ({ cls := "GlassLeaders$Name", name := "of", desc := "([I)I" } : Jvm.MethodName) prog_13_method_2_code (2 : Nat) (Option.some Jvm.ClassFile.FieldType.int)) ∈ lw_all := lw_g (lw_at lw_m6 112 rfl) rfl
theorem q2878 : (Jvm.Cond.castable "GlassLeaders$Name" "java/lang/Object") ∈ lw_tbl := lw_at lw_m12 105 rfl
theorem in_X22 : ∀ w ∈ wsX220, w ∈ lw_all := lw_in wsX220 [1159] (by decide +kernel) (by decide +kernel)
/-! GlassLeaders$Two -/
set_option maxRecDepth 100000
def RX23 : String := "GlassLeaders$Two"
def TX23 : u_T := fun k => match k with
  | 0 => ("GlassLeaders$Two", "sign", "I", true)
  | 1 => ("GlassLeaders$Two", "one", "LGlassLeaders$Term;", true)
  | _ => ("GlassLeaders$Two", "other", "LGlassLeaders$Term;", true)
def tyX23 : Nat → FieldType := fun k => match k with
  | 0 => .int
  | 1 => .object "GlassLeaders$Term"
  | _ => .object "GlassLeaders$Term"
abbrev wsX230 : List Cond := u_ws RX23 TX23 3
theorem nmX23 : ∀ a, a < 3 → ∀ b, b < 3 → a ≠ b → (TX23 a).2.1 ≠ (TX23 b).2.1 := by decide +kernel
theorem tyX23_ok : ∀ k, k < 3 → parseFieldDescriptor (TX23 k).2.2.1 = some (tyX23 k) := by decide +kernel
abbrev cX23_init : ByteArray := prog_23_method_1_code
def yX23_init : MethodName := ⟨RX23, "<init>", "(ILGlassLeaders$Term;LGlassLeaders$Term;)V"⟩
def dkwX23_init_0 : List UInt8 := [42, 183, 0, 1, 42, 27, 181, 0, 7, 42, 44, 181, 0, 13, 42, 45, 181, 0, 17, 177]
abbrev dktX23_init_0 : List UInt8 := dkwX23_init_0 ++ []
theorem dksX23_init_0 : cX23_init.data.toList.drop 0 = dktX23_init_0 := by decide +kernel
theorem dX23_init_0 : decode cX23_init 0 = .ok (.aload_n 0, 1) := dk_42 (dk_at dksX23_init_0 0 rfl rfl)
theorem dX23_init_1 : decode cX23_init 1 = .ok (.invokespecial 1, 3) := dk_183 0 1 (dk_at dksX23_init_0 1 rfl rfl)
theorem dX23_init_4 : decode cX23_init 4 = .ok (.aload_n 0, 1) := dk_42 (dk_at dksX23_init_0 4 rfl rfl)
theorem dX23_init_5 : decode cX23_init 5 = .ok (.iload_n 1, 1) := dk_27 (dk_at dksX23_init_0 5 rfl rfl)
theorem dX23_init_6 : decode cX23_init 6 = .ok (.putfield 7, 3) := dk_181 0 7 (dk_at dksX23_init_0 6 rfl rfl)
theorem dX23_init_9 : decode cX23_init 9 = .ok (.aload_n 0, 1) := dk_42 (dk_at dksX23_init_0 9 rfl rfl)
theorem dX23_init_10 : decode cX23_init 10 = .ok (.aload_n 2, 1) := dk_44 (dk_at dksX23_init_0 10 rfl rfl)
theorem dX23_init_11 : decode cX23_init 11 = .ok (.putfield 13, 3) := dk_181 0 13 (dk_at dksX23_init_0 11 rfl rfl)
theorem dX23_init_14 : decode cX23_init 14 = .ok (.aload_n 0, 1) := dk_42 (dk_at dksX23_init_0 14 rfl rfl)
theorem dX23_init_15 : decode cX23_init 15 = .ok (.aload_n 3, 1) := dk_45 (dk_at dksX23_init_0 15 rfl rfl)
theorem dX23_init_16 : decode cX23_init 16 = .ok (.putfield 17, 3) := dk_181 0 17 (dk_at dksX23_init_0 16 rfl rfl)
theorem dX23_init_19 : decode cX23_init 19 = .ok (.return_, 1) := dk_177 (dk_at dksX23_init_0 19 rfl rfl)
abbrev cX23_of : ByteArray := prog_23_method_2_code
def yX23_of : MethodName := ⟨RX23, "of", "([I)I"⟩
def dkwX23_of_2 : List UInt8 := [28, 29, 96, 172, 28, 29, 100, 172, 28, 29, 104, 172, 29, 154, 0, 7, 3, 167, 0, 6, 28, 29, 108, 172]
abbrev dktX23_of_2 : List UInt8 := dkwX23_of_2 ++ []
def dkwX23_of_1 : List UInt8 := [170, 0, 0, 0, 0, 42, 0, 0, 0, 42, 0, 0, 0, 45, 0, 0, 0, 38, 0, 0, 0, 30, 0, 0, 0, 42, 0, 0, 0, 34]
abbrev dktX23_of_1 : List UInt8 := dkwX23_of_1 ++ dktX23_of_2
def dkwX23_of_0 : List UInt8 := [42, 180, 0, 13, 43, 182, 0, 20, 61, 42, 180, 0, 17, 43, 182, 0, 20, 62, 42, 180, 0, 7]
abbrev dktX23_of_0 : List UInt8 := dkwX23_of_0 ++ dktX23_of_1
theorem dksX23_of_0 : cX23_of.data.toList.drop 0 = dktX23_of_0 := by decide +kernel
theorem dksX23_of_1 : cX23_of.data.toList.drop 22 = dktX23_of_1 := dk_seg dksX23_of_0 22 rfl rfl
theorem dksX23_of_2 : cX23_of.data.toList.drop 52 = dktX23_of_2 := dk_seg dksX23_of_1 30 rfl rfl
theorem dX23_of_0 : decode cX23_of 0 = .ok (.aload_n 0, 1) := dk_42 (dk_at dksX23_of_0 0 rfl rfl)
theorem dX23_of_1 : decode cX23_of 1 = .ok (.getfield 13, 3) := dk_180 0 13 (dk_at dksX23_of_0 1 rfl rfl)
theorem dX23_of_4 : decode cX23_of 4 = .ok (.aload_n 1, 1) := dk_43 (dk_at dksX23_of_0 4 rfl rfl)
theorem dX23_of_5 : decode cX23_of 5 = .ok (.invokevirtual 20, 3) := dk_182 0 20 (dk_at dksX23_of_0 5 rfl rfl)
theorem dX23_of_8 : decode cX23_of 8 = .ok (.istore_n 2, 1) := dk_61 (dk_at dksX23_of_0 8 rfl rfl)
theorem dX23_of_9 : decode cX23_of 9 = .ok (.aload_n 0, 1) := dk_42 (dk_at dksX23_of_0 9 rfl rfl)
theorem dX23_of_10 : decode cX23_of 10 = .ok (.getfield 17, 3) := dk_180 0 17 (dk_at dksX23_of_0 10 rfl rfl)
theorem dX23_of_13 : decode cX23_of 13 = .ok (.aload_n 1, 1) := dk_43 (dk_at dksX23_of_0 13 rfl rfl)
theorem dX23_of_14 : decode cX23_of 14 = .ok (.invokevirtual 20, 3) := dk_182 0 20 (dk_at dksX23_of_0 14 rfl rfl)
theorem dX23_of_17 : decode cX23_of 17 = .ok (.istore_n 3, 1) := dk_62 (dk_at dksX23_of_0 17 rfl rfl)
theorem dX23_of_18 : decode cX23_of 18 = .ok (.aload_n 0, 1) := dk_42 (dk_at dksX23_of_0 18 rfl rfl)
theorem dX23_of_19 : decode cX23_of 19 = .ok (.getfield 7, 3) := dk_180 0 7 (dk_at dksX23_of_0 19 rfl rfl)
theorem dX23_of_22 : decode cX23_of 22 = .ok (.tableswitch 42 42 45 #[38, 30, 42, 34], 30) := by decide +kernel
theorem dX23_of_52 : decode cX23_of 52 = .ok (.iload_n 2, 1) := dk_28 (dk_at dksX23_of_2 0 rfl rfl)
theorem dX23_of_53 : decode cX23_of 53 = .ok (.iload_n 3, 1) := dk_29 (dk_at dksX23_of_2 1 rfl rfl)
theorem dX23_of_54 : decode cX23_of 54 = .ok (.iadd, 1) := dk_96 (dk_at dksX23_of_2 2 rfl rfl)
theorem dX23_of_55 : decode cX23_of 55 = .ok (.ireturn, 1) := dk_172 (dk_at dksX23_of_2 3 rfl rfl)
theorem dX23_of_56 : decode cX23_of 56 = .ok (.iload_n 2, 1) := dk_28 (dk_at dksX23_of_2 4 rfl rfl)
theorem dX23_of_57 : decode cX23_of 57 = .ok (.iload_n 3, 1) := dk_29 (dk_at dksX23_of_2 5 rfl rfl)
theorem dX23_of_58 : decode cX23_of 58 = .ok (.isub, 1) := dk_100 (dk_at dksX23_of_2 6 rfl rfl)
theorem dX23_of_59 : decode cX23_of 59 = .ok (.ireturn, 1) := dk_172 (dk_at dksX23_of_2 7 rfl rfl)
theorem dX23_of_60 : decode cX23_of 60 = .ok (.iload_n 2, 1) := dk_28 (dk_at dksX23_of_2 8 rfl rfl)
theorem dX23_of_61 : decode cX23_of 61 = .ok (.iload_n 3, 1) := dk_29 (dk_at dksX23_of_2 9 rfl rfl)
theorem dX23_of_62 : decode cX23_of 62 = .ok (.imul, 1) := dk_104 (dk_at dksX23_of_2 10 rfl rfl)
theorem dX23_of_63 : decode cX23_of 63 = .ok (.ireturn, 1) := dk_172 (dk_at dksX23_of_2 11 rfl rfl)
theorem dX23_of_64 : decode cX23_of 64 = .ok (.iload_n 3, 1) := dk_29 (dk_at dksX23_of_2 12 rfl rfl)
theorem dX23_of_65 : decode cX23_of 65 = .ok (.ifCond .ne 7, 3) := dk_154 0 7 (dk_at dksX23_of_2 13 rfl rfl)
theorem dX23_of_68 : decode cX23_of 68 = .ok (.iconst 0, 1) := dk_3 (dk_at dksX23_of_2 16 rfl rfl)
theorem dX23_of_69 : decode cX23_of 69 = .ok (.goto 6, 3) := dk_167 0 6 (dk_at dksX23_of_2 17 rfl rfl)
theorem dX23_of_72 : decode cX23_of 72 = .ok (.iload_n 2, 1) := dk_28 (dk_at dksX23_of_2 20 rfl rfl)
theorem dX23_of_73 : decode cX23_of 73 = .ok (.iload_n 3, 1) := dk_29 (dk_at dksX23_of_2 21 rfl rfl)
theorem dX23_of_74 : decode cX23_of 74 = .ok (.idiv, 1) := dk_108 (dk_at dksX23_of_2 22 rfl rfl)
theorem dX23_of_75 : decode cX23_of 75 = .ok (.ireturn, 1) := dk_172 (dk_at dksX23_of_2 23 rfl rfl)
theorem q169 : (Jvm.Cond.initialized "GlassLeaders$Two") ∈ lw_all := lw_g (lw_at lw_m1 36 rfl) rfl
theorem q649 : (Jvm.Cond.selects "GlassLeaders$Two" ({ cls := "java/lang/Object", name := "getClass", desc := "()Ljava/lang/Class;" } : Jvm.MethodName) ({ cls := "java/lang/Object", name := "getClass", desc := "()Ljava/lang/Class;" } : Jvm.MethodName)) ∈ lw_all := lw_g (lw_at lw_m3 36 rfl) rfl
theorem q1163 : (Jvm.Cond.instantiable "GlassLeaders$Two" (3 : Nat)) ∈ lw_all := lw_g (lw_at lw_m5 70 rfl) rfl
theorem q1165 : (Jvm.Cond.instanceMethod ({ cls := "GlassLeaders$Two", name := "<init>", desc := "(ILGlassLeaders$Term;LGlassLeaders$Term;)V" } : Jvm.MethodName)) ∈ lw_all := lw_g (lw_at lw_m5 72 rfl) rfl
theorem q1166 : (Jvm.Cond.code ({ cls := "GlassLeaders$Two", name := "<init>", desc := "(ILGlassLeaders$Term;LGlassLeaders$Term;)V" } : Jvm.MethodName) prog_23_method_1_code (4 : Nat) (Option.none : Option Jvm.ClassFile.FieldType)) ∈ lw_all := lw_g (lw_at lw_m5 73 rfl) rfl
theorem q1167 : (Jvm.Cond.methodLinkNest "GlassLeaders$Two" (1 : Nat) ({ cls := "GlassLeaders$Term", name := "<init>", desc := "()V" } : Jvm.MethodName) "GlassLeaders") ∈ lw_tbl := lw_at lw_m5 74 rfl
theorem q1168 : (Jvm.Cond.fieldLink "GlassLeaders$Two" (7 : Nat) "GlassLeaders$Two" "sign" "I") ∈ lw_all := lw_g (lw_at lw_m5 75 rfl) rfl
theorem q1169 : (Jvm.Cond.fieldLink "GlassLeaders$Two" (13 : Nat) "GlassLeaders$Two" "one" "LGlassLeaders$Term;") ∈ lw_all := lw_g (lw_at lw_m5 76 rfl) rfl
theorem q1170 : (Jvm.Cond.fieldLink "GlassLeaders$Two" (17 : Nat) "GlassLeaders$Two" "other" "LGlassLeaders$Term;") ∈ lw_all := lw_g (lw_at lw_m5 77 rfl) rfl
theorem q1171 : (Jvm.Cond.laysFinal "GlassLeaders$Two" "GlassLeaders$Two" "sign" "I") ∈ lw_all := lw_g (lw_at lw_m5 78 rfl) rfl
theorem q1172 : (Jvm.Cond.soleField "GlassLeaders$Two" "sign") ∈ lw_all := lw_g (lw_at lw_m5 79 rfl) rfl
theorem q1173 : (Jvm.Cond.laysFinal "GlassLeaders$Two" "GlassLeaders$Two" "one" "LGlassLeaders$Term;") ∈ lw_all := lw_g (lw_at lw_m5 80 rfl) rfl
theorem q1174 : (Jvm.Cond.soleField "GlassLeaders$Two" "one") ∈ lw_all := lw_g (lw_at lw_m5 81 rfl) rfl
theorem q1175 : (Jvm.Cond.laysFinal "GlassLeaders$Two" "GlassLeaders$Two" "other" "LGlassLeaders$Term;") ∈ lw_all := lw_g (lw_at lw_m5 82 rfl) rfl
theorem q1176 : (Jvm.Cond.soleField "GlassLeaders$Two" "other") ∈ lw_all := lw_g (lw_at lw_m5 83 rfl) rfl
theorem q1177 : (Jvm.Cond.superclass "GlassLeaders$Two" "GlassLeaders$Term") ∈ lw_all := lw_g (lw_at lw_m5 84 rfl) rfl
theorem q1449 : (Jvm.Cond.selects "GlassLeaders$Two" ({ cls := "GlassLeaders$Term", name := "of", desc := "([I)I" } : Jvm.MethodName) ({ cls := "GlassLeaders$Two", name := "of", desc := "([I)I" } : Jvm.MethodName)) ∈ lw_all := lw_g (lw_at lw_m6 116 rfl) rfl
theorem q1450 : (Jvm.Cond.instanceMethod ({ cls := "GlassLeaders$Two", name := "of", desc := "([I)I" } : Jvm.MethodName)) ∈ lw_all := lw_g (lw_at lw_m6 117 rfl) rfl
theorem q1451 : (Jvm.Cond.code ({ cls := "GlassLeaders$Two", name := "of", desc := "([I)I" } : Jvm.MethodName) prog_23_method_2_code (4 : Nat) (Option.some Jvm.ClassFile.FieldType.int)) ∈ lw_all := lw_g (lw_at lw_m6 118 rfl) rfl
theorem q1452 : (Jvm.Cond.methodLink "GlassLeaders$Two" (20 : Nat) ({ cls := "GlassLeaders$Term", name := "of", desc := "([I)I" } : Jvm.MethodName)) ∈ lw_all := lw_g (lw_at lw_m6 119 rfl) rfl
theorem q2879 : (Jvm.Cond.castable "GlassLeaders$Two" "java/lang/Object") ∈ lw_tbl := lw_at lw_m12 106 rfl
theorem in_X23 : ∀ w ∈ wsX230, w ∈ lw_all := lw_in wsX230 [1171, 1173, 1175] (by decide +kernel) (by decide +kernel)
/-! GlassLeaders$Compare -/
set_option maxRecDepth 100000
def RX24 : String := "GlassLeaders$Compare"
def TX24 : u_T := fun k => match k with
  | 0 => ("GlassLeaders$Compare", "sign", "I", true)
  | 1 => ("GlassLeaders$Compare", "one", "LGlassLeaders$Term;", true)
  | _ => ("GlassLeaders$Compare", "other", "LGlassLeaders$Term;", true)
def tyX24 : Nat → FieldType := fun k => match k with
  | 0 => .int
  | 1 => .object "GlassLeaders$Term"
  | _ => .object "GlassLeaders$Term"
abbrev wsX240 : List Cond := u_ws RX24 TX24 3
theorem nmX24 : ∀ a, a < 3 → ∀ b, b < 3 → a ≠ b → (TX24 a).2.1 ≠ (TX24 b).2.1 := by decide +kernel
theorem tyX24_ok : ∀ k, k < 3 → parseFieldDescriptor (TX24 k).2.2.1 = some (tyX24 k) := by decide +kernel
abbrev cX24_init : ByteArray := prog_6_method_1_code
def yX24_init : MethodName := ⟨RX24, "<init>", "(ILGlassLeaders$Term;LGlassLeaders$Term;)V"⟩
def dkwX24_init_0 : List UInt8 := [42, 183, 0, 1, 42, 27, 181, 0, 7, 42, 44, 181, 0, 13, 42, 45, 181, 0, 17, 177]
abbrev dktX24_init_0 : List UInt8 := dkwX24_init_0 ++ []
theorem dksX24_init_0 : cX24_init.data.toList.drop 0 = dktX24_init_0 := by decide +kernel
theorem dX24_init_0 : decode cX24_init 0 = .ok (.aload_n 0, 1) := dk_42 (dk_at dksX24_init_0 0 rfl rfl)
theorem dX24_init_1 : decode cX24_init 1 = .ok (.invokespecial 1, 3) := dk_183 0 1 (dk_at dksX24_init_0 1 rfl rfl)
theorem dX24_init_4 : decode cX24_init 4 = .ok (.aload_n 0, 1) := dk_42 (dk_at dksX24_init_0 4 rfl rfl)
theorem dX24_init_5 : decode cX24_init 5 = .ok (.iload_n 1, 1) := dk_27 (dk_at dksX24_init_0 5 rfl rfl)
theorem dX24_init_6 : decode cX24_init 6 = .ok (.putfield 7, 3) := dk_181 0 7 (dk_at dksX24_init_0 6 rfl rfl)
theorem dX24_init_9 : decode cX24_init 9 = .ok (.aload_n 0, 1) := dk_42 (dk_at dksX24_init_0 9 rfl rfl)
theorem dX24_init_10 : decode cX24_init 10 = .ok (.aload_n 2, 1) := dk_44 (dk_at dksX24_init_0 10 rfl rfl)
theorem dX24_init_11 : decode cX24_init 11 = .ok (.putfield 13, 3) := dk_181 0 13 (dk_at dksX24_init_0 11 rfl rfl)
theorem dX24_init_14 : decode cX24_init 14 = .ok (.aload_n 0, 1) := dk_42 (dk_at dksX24_init_0 14 rfl rfl)
theorem dX24_init_15 : decode cX24_init 15 = .ok (.aload_n 3, 1) := dk_45 (dk_at dksX24_init_0 15 rfl rfl)
theorem dX24_init_16 : decode cX24_init 16 = .ok (.putfield 17, 3) := dk_181 0 17 (dk_at dksX24_init_0 16 rfl rfl)
theorem dX24_init_19 : decode cX24_init 19 = .ok (.return_, 1) := dk_177 (dk_at dksX24_init_0 19 rfl rfl)
abbrev cX24_is : ByteArray := prog_6_method_2_code
def yX24_is : MethodName := ⟨RX24, "is", "([I)Z"⟩
def dkwX24_is_3 : List UInt8 := [167, 0, 4, 3, 172]
abbrev dktX24_is_3 : List UInt8 := dkwX24_is_3 ++ []
def dkwX24_is_2 : List UInt8 := [160, 0, 16, 28, 29, 164, 0, 7, 4, 167, 0, 17, 3, 167, 0, 13, 28, 29, 160, 0, 7, 4]
abbrev dktX24_is_2 : List UInt8 := dkwX24_is_2 ++ dktX24_is_3
def dkwX24_is_1 : List UInt8 := [160, 0, 16, 28, 29, 162, 0, 7, 4, 167, 0, 39, 3, 167, 0, 35, 42, 180, 0, 7, 16, 62]
abbrev dktX24_is_1 : List UInt8 := dkwX24_is_1 ++ dktX24_is_2
def dkwX24_is_0 : List UInt8 := [42, 180, 0, 13, 43, 182, 0, 20, 61, 42, 180, 0, 17, 43, 182, 0, 20, 62, 42, 180, 0, 7, 16, 60]
abbrev dktX24_is_0 : List UInt8 := dkwX24_is_0 ++ dktX24_is_1
theorem dksX24_is_0 : cX24_is.data.toList.drop 0 = dktX24_is_0 := by decide +kernel
theorem dksX24_is_1 : cX24_is.data.toList.drop 24 = dktX24_is_1 := dk_seg dksX24_is_0 24 rfl rfl
theorem dksX24_is_2 : cX24_is.data.toList.drop 46 = dktX24_is_2 := dk_seg dksX24_is_1 22 rfl rfl
theorem dksX24_is_3 : cX24_is.data.toList.drop 68 = dktX24_is_3 := dk_seg dksX24_is_2 22 rfl rfl
theorem dX24_is_0 : decode cX24_is 0 = .ok (.aload_n 0, 1) := dk_42 (dk_at dksX24_is_0 0 rfl rfl)
theorem dX24_is_1 : decode cX24_is 1 = .ok (.getfield 13, 3) := dk_180 0 13 (dk_at dksX24_is_0 1 rfl rfl)
theorem dX24_is_4 : decode cX24_is 4 = .ok (.aload_n 1, 1) := dk_43 (dk_at dksX24_is_0 4 rfl rfl)
theorem dX24_is_5 : decode cX24_is 5 = .ok (.invokevirtual 20, 3) := dk_182 0 20 (dk_at dksX24_is_0 5 rfl rfl)
theorem dX24_is_8 : decode cX24_is 8 = .ok (.istore_n 2, 1) := dk_61 (dk_at dksX24_is_0 8 rfl rfl)
theorem dX24_is_9 : decode cX24_is 9 = .ok (.aload_n 0, 1) := dk_42 (dk_at dksX24_is_0 9 rfl rfl)
theorem dX24_is_10 : decode cX24_is 10 = .ok (.getfield 17, 3) := dk_180 0 17 (dk_at dksX24_is_0 10 rfl rfl)
theorem dX24_is_13 : decode cX24_is 13 = .ok (.aload_n 1, 1) := dk_43 (dk_at dksX24_is_0 13 rfl rfl)
theorem dX24_is_14 : decode cX24_is 14 = .ok (.invokevirtual 20, 3) := dk_182 0 20 (dk_at dksX24_is_0 14 rfl rfl)
theorem dX24_is_17 : decode cX24_is 17 = .ok (.istore_n 3, 1) := dk_62 (dk_at dksX24_is_0 17 rfl rfl)
theorem dX24_is_18 : decode cX24_is 18 = .ok (.aload_n 0, 1) := dk_42 (dk_at dksX24_is_0 18 rfl rfl)
theorem dX24_is_19 : decode cX24_is 19 = .ok (.getfield 7, 3) := dk_180 0 7 (dk_at dksX24_is_0 19 rfl rfl)
theorem dX24_is_22 : decode cX24_is 22 = .ok (.bipush 60, 2) := dk_16 60 (dk_at dksX24_is_0 22 rfl rfl)
theorem dX24_is_24 : decode cX24_is 24 = .ok (.if_icmp .ne 16, 3) := dk_160 0 16 (dk_at dksX24_is_1 0 rfl rfl)
theorem dX24_is_27 : decode cX24_is 27 = .ok (.iload_n 2, 1) := dk_28 (dk_at dksX24_is_1 3 rfl rfl)
theorem dX24_is_28 : decode cX24_is 28 = .ok (.iload_n 3, 1) := dk_29 (dk_at dksX24_is_1 4 rfl rfl)
theorem dX24_is_29 : decode cX24_is 29 = .ok (.if_icmp .ge 7, 3) := dk_162 0 7 (dk_at dksX24_is_1 5 rfl rfl)
theorem dX24_is_32 : decode cX24_is 32 = .ok (.iconst 1, 1) := dk_4 (dk_at dksX24_is_1 8 rfl rfl)
theorem dX24_is_33 : decode cX24_is 33 = .ok (.goto 39, 3) := dk_167 0 39 (dk_at dksX24_is_1 9 rfl rfl)
theorem dX24_is_36 : decode cX24_is 36 = .ok (.iconst 0, 1) := dk_3 (dk_at dksX24_is_1 12 rfl rfl)
theorem dX24_is_37 : decode cX24_is 37 = .ok (.goto 35, 3) := dk_167 0 35 (dk_at dksX24_is_1 13 rfl rfl)
theorem dX24_is_40 : decode cX24_is 40 = .ok (.aload_n 0, 1) := dk_42 (dk_at dksX24_is_1 16 rfl rfl)
theorem dX24_is_41 : decode cX24_is 41 = .ok (.getfield 7, 3) := dk_180 0 7 (dk_at dksX24_is_1 17 rfl rfl)
theorem dX24_is_44 : decode cX24_is 44 = .ok (.bipush 62, 2) := dk_16 62 (dk_at dksX24_is_1 20 rfl rfl)
theorem dX24_is_46 : decode cX24_is 46 = .ok (.if_icmp .ne 16, 3) := dk_160 0 16 (dk_at dksX24_is_2 0 rfl rfl)
theorem dX24_is_49 : decode cX24_is 49 = .ok (.iload_n 2, 1) := dk_28 (dk_at dksX24_is_2 3 rfl rfl)
theorem dX24_is_50 : decode cX24_is 50 = .ok (.iload_n 3, 1) := dk_29 (dk_at dksX24_is_2 4 rfl rfl)
theorem dX24_is_51 : decode cX24_is 51 = .ok (.if_icmp .le 7, 3) := dk_164 0 7 (dk_at dksX24_is_2 5 rfl rfl)
theorem dX24_is_54 : decode cX24_is 54 = .ok (.iconst 1, 1) := dk_4 (dk_at dksX24_is_2 8 rfl rfl)
theorem dX24_is_55 : decode cX24_is 55 = .ok (.goto 17, 3) := dk_167 0 17 (dk_at dksX24_is_2 9 rfl rfl)
theorem dX24_is_58 : decode cX24_is 58 = .ok (.iconst 0, 1) := dk_3 (dk_at dksX24_is_2 12 rfl rfl)
theorem dX24_is_59 : decode cX24_is 59 = .ok (.goto 13, 3) := dk_167 0 13 (dk_at dksX24_is_2 13 rfl rfl)
theorem dX24_is_62 : decode cX24_is 62 = .ok (.iload_n 2, 1) := dk_28 (dk_at dksX24_is_2 16 rfl rfl)
theorem dX24_is_63 : decode cX24_is 63 = .ok (.iload_n 3, 1) := dk_29 (dk_at dksX24_is_2 17 rfl rfl)
theorem dX24_is_64 : decode cX24_is 64 = .ok (.if_icmp .ne 7, 3) := dk_160 0 7 (dk_at dksX24_is_2 18 rfl rfl)
theorem dX24_is_67 : decode cX24_is 67 = .ok (.iconst 1, 1) := dk_4 (dk_at dksX24_is_2 21 rfl rfl)
theorem dX24_is_68 : decode cX24_is 68 = .ok (.goto 4, 3) := dk_167 0 4 (dk_at dksX24_is_3 0 rfl rfl)
theorem dX24_is_71 : decode cX24_is 71 = .ok (.iconst 0, 1) := dk_3 (dk_at dksX24_is_3 3 rfl rfl)
theorem dX24_is_72 : decode cX24_is 72 = .ok (.ireturn, 1) := dk_172 (dk_at dksX24_is_3 4 rfl rfl)
theorem q170 : (Jvm.Cond.initialized "GlassLeaders$Compare") ∈ lw_all := lw_g (lw_at lw_m1 37 rfl) rfl
theorem q634 : (Jvm.Cond.selects "GlassLeaders$Compare" ({ cls := "java/lang/Object", name := "getClass", desc := "()Ljava/lang/Class;" } : Jvm.MethodName) ({ cls := "java/lang/Object", name := "getClass", desc := "()Ljava/lang/Class;" } : Jvm.MethodName)) ∈ lw_all := lw_g (lw_at lw_m3 21 rfl) rfl
theorem q1179 : (Jvm.Cond.instantiable "GlassLeaders$Compare" (3 : Nat)) ∈ lw_all := lw_g (lw_at lw_m5 86 rfl) rfl
theorem q1181 : (Jvm.Cond.instanceMethod ({ cls := "GlassLeaders$Compare", name := "<init>", desc := "(ILGlassLeaders$Term;LGlassLeaders$Term;)V" } : Jvm.MethodName)) ∈ lw_all := lw_g (lw_at lw_m5 88 rfl) rfl
theorem q1182 : (Jvm.Cond.code ({ cls := "GlassLeaders$Compare", name := "<init>", desc := "(ILGlassLeaders$Term;LGlassLeaders$Term;)V" } : Jvm.MethodName) prog_6_method_1_code (4 : Nat) (Option.none : Option Jvm.ClassFile.FieldType)) ∈ lw_all := lw_g (lw_at lw_m5 89 rfl) rfl
theorem q1183 : (Jvm.Cond.methodLinkNest "GlassLeaders$Compare" (1 : Nat) ({ cls := "GlassLeaders$Asked", name := "<init>", desc := "()V" } : Jvm.MethodName) "GlassLeaders") ∈ lw_tbl := lw_at lw_m5 90 rfl
theorem q1184 : (Jvm.Cond.fieldLink "GlassLeaders$Compare" (7 : Nat) "GlassLeaders$Compare" "sign" "I") ∈ lw_all := lw_g (lw_at lw_m5 91 rfl) rfl
theorem q1185 : (Jvm.Cond.fieldLink "GlassLeaders$Compare" (13 : Nat) "GlassLeaders$Compare" "one" "LGlassLeaders$Term;") ∈ lw_all := lw_g (lw_at lw_m5 92 rfl) rfl
theorem q1186 : (Jvm.Cond.fieldLink "GlassLeaders$Compare" (17 : Nat) "GlassLeaders$Compare" "other" "LGlassLeaders$Term;") ∈ lw_all := lw_g (lw_at lw_m5 93 rfl) rfl
theorem q1187 : (Jvm.Cond.laysFinal "GlassLeaders$Compare" "GlassLeaders$Compare" "sign" "I") ∈ lw_all := lw_g (lw_at lw_m5 94 rfl) rfl
theorem q1188 : (Jvm.Cond.soleField "GlassLeaders$Compare" "sign") ∈ lw_all := lw_g (lw_at lw_m5 95 rfl) rfl
theorem q1189 : (Jvm.Cond.laysFinal "GlassLeaders$Compare" "GlassLeaders$Compare" "one" "LGlassLeaders$Term;") ∈ lw_all := lw_g (lw_at lw_m5 96 rfl) rfl
theorem q1190 : (Jvm.Cond.soleField "GlassLeaders$Compare" "one") ∈ lw_all := lw_g (lw_at lw_m5 97 rfl) rfl
theorem q1191 : (Jvm.Cond.laysFinal "GlassLeaders$Compare" "GlassLeaders$Compare" "other" "LGlassLeaders$Term;") ∈ lw_all := lw_g (lw_at lw_m5 98 rfl) rfl
theorem q1192 : (Jvm.Cond.soleField "GlassLeaders$Compare" "other") ∈ lw_all := lw_g (lw_at lw_m5 99 rfl) rfl
theorem q1193 : (Jvm.Cond.superclass "GlassLeaders$Compare" "GlassLeaders$Asked") ∈ lw_all := lw_g (lw_at lw_m5 100 rfl) rfl
theorem q1438 : (Jvm.Cond.instanceMethod ({ cls := "GlassLeaders$Compare", name := "is", desc := "([I)Z" } : Jvm.MethodName)) ∈ lw_all := lw_g (lw_at lw_m6 105 rfl) rfl
theorem q1439 : (Jvm.Cond.code ({ cls := "GlassLeaders$Compare", name := "is", desc := "([I)Z" } : Jvm.MethodName) prog_6_method_2_code (4 : Nat) (Option.some Jvm.ClassFile.FieldType.boolean)) ∈ lw_all := lw_g (lw_at lw_m6 106 rfl) rfl
theorem q1440 : (Jvm.Cond.methodLink "GlassLeaders$Compare" (20 : Nat) ({ cls := "GlassLeaders$Term", name := "of", desc := "([I)I" } : Jvm.MethodName)) ∈ lw_all := lw_g (lw_at lw_m6 107 rfl) rfl
theorem q1456 : (Jvm.Cond.selects "GlassLeaders$Compare" ({ cls := "GlassLeaders$Asked", name := "is", desc := "([I)Z" } : Jvm.MethodName) ({ cls := "GlassLeaders$Compare", name := "is", desc := "([I)Z" } : Jvm.MethodName)) ∈ lw_all := lw_g (lw_at lw_m6 123 rfl) rfl
theorem q2880 : (Jvm.Cond.castable "GlassLeaders$Compare" "java/lang/Object") ∈ lw_tbl := lw_at lw_m12 107 rfl
theorem in_X24 : ∀ w ∈ wsX240, w ∈ lw_all := lw_in wsX240 [1187, 1189, 1191] (by decide +kernel) (by decide +kernel)
/-! GlassLeaders$Both -/
set_option maxRecDepth 100000
def RX25 : String := "GlassLeaders$Both"
def TX25 : u_T := fun k => match k with
  | 0 => ("GlassLeaders$Both", "isAnd", "Z", true)
  | 1 => ("GlassLeaders$Both", "one", "LGlassLeaders$Asked;", true)
  | _ => ("GlassLeaders$Both", "other", "LGlassLeaders$Asked;", true)
def tyX25 : Nat → FieldType := fun k => match k with
  | 0 => .boolean
  | 1 => .object "GlassLeaders$Asked"
  | _ => .object "GlassLeaders$Asked"
abbrev wsX250 : List Cond := u_ws RX25 TX25 3
theorem nmX25 : ∀ a, a < 3 → ∀ b, b < 3 → a ≠ b → (TX25 a).2.1 ≠ (TX25 b).2.1 := by decide +kernel
theorem tyX25_ok : ∀ k, k < 3 → parseFieldDescriptor (TX25 k).2.2.1 = some (tyX25 k) := by decide +kernel
abbrev cX25_init : ByteArray := prog_4_method_1_code
def yX25_init : MethodName := ⟨RX25, "<init>", "(ZLGlassLeaders$Asked;LGlassLeaders$Asked;)V"⟩
def dkwX25_init_0 : List UInt8 := [42, 183, 0, 1, 42, 27, 181, 0, 7, 42, 44, 181, 0, 13, 42, 45, 181, 0, 17, 177]
abbrev dktX25_init_0 : List UInt8 := dkwX25_init_0 ++ []
theorem dksX25_init_0 : cX25_init.data.toList.drop 0 = dktX25_init_0 := by decide +kernel
theorem dX25_init_0 : decode cX25_init 0 = .ok (.aload_n 0, 1) := dk_42 (dk_at dksX25_init_0 0 rfl rfl)
theorem dX25_init_1 : decode cX25_init 1 = .ok (.invokespecial 1, 3) := dk_183 0 1 (dk_at dksX25_init_0 1 rfl rfl)
theorem dX25_init_4 : decode cX25_init 4 = .ok (.aload_n 0, 1) := dk_42 (dk_at dksX25_init_0 4 rfl rfl)
theorem dX25_init_5 : decode cX25_init 5 = .ok (.iload_n 1, 1) := dk_27 (dk_at dksX25_init_0 5 rfl rfl)
theorem dX25_init_6 : decode cX25_init 6 = .ok (.putfield 7, 3) := dk_181 0 7 (dk_at dksX25_init_0 6 rfl rfl)
theorem dX25_init_9 : decode cX25_init 9 = .ok (.aload_n 0, 1) := dk_42 (dk_at dksX25_init_0 9 rfl rfl)
theorem dX25_init_10 : decode cX25_init 10 = .ok (.aload_n 2, 1) := dk_44 (dk_at dksX25_init_0 10 rfl rfl)
theorem dX25_init_11 : decode cX25_init 11 = .ok (.putfield 13, 3) := dk_181 0 13 (dk_at dksX25_init_0 11 rfl rfl)
theorem dX25_init_14 : decode cX25_init 14 = .ok (.aload_n 0, 1) := dk_42 (dk_at dksX25_init_0 14 rfl rfl)
theorem dX25_init_15 : decode cX25_init 15 = .ok (.aload_n 3, 1) := dk_45 (dk_at dksX25_init_0 15 rfl rfl)
theorem dX25_init_16 : decode cX25_init 16 = .ok (.putfield 17, 3) := dk_181 0 17 (dk_at dksX25_init_0 16 rfl rfl)
theorem dX25_init_19 : decode cX25_init 19 = .ok (.return_, 1) := dk_177 (dk_at dksX25_init_0 19 rfl rfl)
abbrev cX25_is : ByteArray := prog_4_method_2_code
def yX25_is : MethodName := ⟨RX25, "is", "([I)Z"⟩
def dkwX25_is_2 : List UInt8 := [153, 0, 7, 4, 167, 0, 4, 3, 172]
abbrev dktX25_is_2 : List UInt8 := dkwX25_is_2 ++ []
def dkwX25_is_1 : List UInt8 := [153, 0, 19, 28, 153, 0, 11, 29, 153, 0, 7, 4, 167, 0, 20, 3, 167, 0, 16, 28, 154, 0, 7, 29]
abbrev dktX25_is_1 : List UInt8 := dkwX25_is_1 ++ dktX25_is_2
def dkwX25_is_0 : List UInt8 := [42, 180, 0, 13, 43, 182, 0, 20, 61, 42, 180, 0, 17, 43, 182, 0, 20, 62, 42, 180, 0, 7]
abbrev dktX25_is_0 : List UInt8 := dkwX25_is_0 ++ dktX25_is_1
theorem dksX25_is_0 : cX25_is.data.toList.drop 0 = dktX25_is_0 := by decide +kernel
theorem dksX25_is_1 : cX25_is.data.toList.drop 22 = dktX25_is_1 := dk_seg dksX25_is_0 22 rfl rfl
theorem dksX25_is_2 : cX25_is.data.toList.drop 46 = dktX25_is_2 := dk_seg dksX25_is_1 24 rfl rfl
theorem dX25_is_0 : decode cX25_is 0 = .ok (.aload_n 0, 1) := dk_42 (dk_at dksX25_is_0 0 rfl rfl)
theorem dX25_is_1 : decode cX25_is 1 = .ok (.getfield 13, 3) := dk_180 0 13 (dk_at dksX25_is_0 1 rfl rfl)
theorem dX25_is_4 : decode cX25_is 4 = .ok (.aload_n 1, 1) := dk_43 (dk_at dksX25_is_0 4 rfl rfl)
theorem dX25_is_5 : decode cX25_is 5 = .ok (.invokevirtual 20, 3) := dk_182 0 20 (dk_at dksX25_is_0 5 rfl rfl)
theorem dX25_is_8 : decode cX25_is 8 = .ok (.istore_n 2, 1) := dk_61 (dk_at dksX25_is_0 8 rfl rfl)
theorem dX25_is_9 : decode cX25_is 9 = .ok (.aload_n 0, 1) := dk_42 (dk_at dksX25_is_0 9 rfl rfl)
theorem dX25_is_10 : decode cX25_is 10 = .ok (.getfield 17, 3) := dk_180 0 17 (dk_at dksX25_is_0 10 rfl rfl)
theorem dX25_is_13 : decode cX25_is 13 = .ok (.aload_n 1, 1) := dk_43 (dk_at dksX25_is_0 13 rfl rfl)
theorem dX25_is_14 : decode cX25_is 14 = .ok (.invokevirtual 20, 3) := dk_182 0 20 (dk_at dksX25_is_0 14 rfl rfl)
theorem dX25_is_17 : decode cX25_is 17 = .ok (.istore_n 3, 1) := dk_62 (dk_at dksX25_is_0 17 rfl rfl)
theorem dX25_is_18 : decode cX25_is 18 = .ok (.aload_n 0, 1) := dk_42 (dk_at dksX25_is_0 18 rfl rfl)
theorem dX25_is_19 : decode cX25_is 19 = .ok (.getfield 7, 3) := dk_180 0 7 (dk_at dksX25_is_0 19 rfl rfl)
theorem dX25_is_22 : decode cX25_is 22 = .ok (.ifCond .eq 19, 3) := dk_153 0 19 (dk_at dksX25_is_1 0 rfl rfl)
theorem dX25_is_25 : decode cX25_is 25 = .ok (.iload_n 2, 1) := dk_28 (dk_at dksX25_is_1 3 rfl rfl)
theorem dX25_is_26 : decode cX25_is 26 = .ok (.ifCond .eq 11, 3) := dk_153 0 11 (dk_at dksX25_is_1 4 rfl rfl)
theorem dX25_is_29 : decode cX25_is 29 = .ok (.iload_n 3, 1) := dk_29 (dk_at dksX25_is_1 7 rfl rfl)
theorem dX25_is_30 : decode cX25_is 30 = .ok (.ifCond .eq 7, 3) := dk_153 0 7 (dk_at dksX25_is_1 8 rfl rfl)
theorem dX25_is_33 : decode cX25_is 33 = .ok (.iconst 1, 1) := dk_4 (dk_at dksX25_is_1 11 rfl rfl)
theorem dX25_is_34 : decode cX25_is 34 = .ok (.goto 20, 3) := dk_167 0 20 (dk_at dksX25_is_1 12 rfl rfl)
theorem dX25_is_37 : decode cX25_is 37 = .ok (.iconst 0, 1) := dk_3 (dk_at dksX25_is_1 15 rfl rfl)
theorem dX25_is_38 : decode cX25_is 38 = .ok (.goto 16, 3) := dk_167 0 16 (dk_at dksX25_is_1 16 rfl rfl)
theorem dX25_is_41 : decode cX25_is 41 = .ok (.iload_n 2, 1) := dk_28 (dk_at dksX25_is_1 19 rfl rfl)
theorem dX25_is_42 : decode cX25_is 42 = .ok (.ifCond .ne 7, 3) := dk_154 0 7 (dk_at dksX25_is_1 20 rfl rfl)
theorem dX25_is_45 : decode cX25_is 45 = .ok (.iload_n 3, 1) := dk_29 (dk_at dksX25_is_1 23 rfl rfl)
theorem dX25_is_46 : decode cX25_is 46 = .ok (.ifCond .eq 7, 3) := dk_153 0 7 (dk_at dksX25_is_2 0 rfl rfl)
theorem dX25_is_49 : decode cX25_is 49 = .ok (.iconst 1, 1) := dk_4 (dk_at dksX25_is_2 3 rfl rfl)
theorem dX25_is_50 : decode cX25_is 50 = .ok (.goto 4, 3) := dk_167 0 4 (dk_at dksX25_is_2 4 rfl rfl)
theorem dX25_is_53 : decode cX25_is 53 = .ok (.iconst 0, 1) := dk_3 (dk_at dksX25_is_2 7 rfl rfl)
theorem dX25_is_54 : decode cX25_is 54 = .ok (.ireturn, 1) := dk_172 (dk_at dksX25_is_2 8 rfl rfl)
theorem q171 : (Jvm.Cond.initialized "GlassLeaders$Both") ∈ lw_all := lw_g (lw_at lw_m1 38 rfl) rfl
theorem q633 : (Jvm.Cond.selects "GlassLeaders$Both" ({ cls := "java/lang/Object", name := "getClass", desc := "()Ljava/lang/Class;" } : Jvm.MethodName) ({ cls := "java/lang/Object", name := "getClass", desc := "()Ljava/lang/Class;" } : Jvm.MethodName)) ∈ lw_all := lw_g (lw_at lw_m3 20 rfl) rfl
theorem q1196 : (Jvm.Cond.instantiable "GlassLeaders$Both" (3 : Nat)) ∈ lw_all := lw_g (lw_at lw_m5 103 rfl) rfl
theorem q1198 : (Jvm.Cond.instanceMethod ({ cls := "GlassLeaders$Both", name := "<init>", desc := "(ZLGlassLeaders$Asked;LGlassLeaders$Asked;)V" } : Jvm.MethodName)) ∈ lw_all := lw_g (lw_at lw_m5 105 rfl) rfl
theorem q1199 : (Jvm.Cond.code ({ cls := "GlassLeaders$Both", name := "<init>", desc := "(ZLGlassLeaders$Asked;LGlassLeaders$Asked;)V" } : Jvm.MethodName) prog_4_method_1_code (4 : Nat) (Option.none : Option Jvm.ClassFile.FieldType)) ∈ lw_all := lw_g (lw_at lw_m5 106 rfl) rfl
theorem q1200 : (Jvm.Cond.methodLinkNest "GlassLeaders$Both" (1 : Nat) ({ cls := "GlassLeaders$Asked", name := "<init>", desc := "()V" } : Jvm.MethodName) "GlassLeaders") ∈ lw_tbl := lw_at lw_m5 107 rfl
theorem q1201 : (Jvm.Cond.fieldLink "GlassLeaders$Both" (7 : Nat) "GlassLeaders$Both" "isAnd" "Z") ∈ lw_all := lw_g (lw_at lw_m5 108 rfl) rfl
theorem q1202 : (Jvm.Cond.fieldLink "GlassLeaders$Both" (13 : Nat) "GlassLeaders$Both" "one" "LGlassLeaders$Asked;") ∈ lw_all := lw_g (lw_at lw_m5 109 rfl) rfl
theorem q1203 : (Jvm.Cond.fieldLink "GlassLeaders$Both" (17 : Nat) "GlassLeaders$Both" "other" "LGlassLeaders$Asked;") ∈ lw_all := lw_g (lw_at lw_m5 110 rfl) rfl
theorem q1204 : (Jvm.Cond.laysFinal "GlassLeaders$Both" "GlassLeaders$Both" "isAnd" "Z") ∈ lw_all := lw_g (lw_at lw_m5 111 rfl) rfl
theorem q1205 : (Jvm.Cond.soleField "GlassLeaders$Both" "isAnd") ∈ lw_all := lw_g (lw_at lw_m5 112 rfl) rfl
theorem q1206 : (Jvm.Cond.laysFinal "GlassLeaders$Both" "GlassLeaders$Both" "one" "LGlassLeaders$Asked;") ∈ lw_all := lw_g (lw_at lw_m5 113 rfl) rfl
theorem q1207 : (Jvm.Cond.soleField "GlassLeaders$Both" "one") ∈ lw_all := lw_g (lw_at lw_m5 114 rfl) rfl
theorem q1208 : (Jvm.Cond.laysFinal "GlassLeaders$Both" "GlassLeaders$Both" "other" "LGlassLeaders$Asked;") ∈ lw_all := lw_g (lw_at lw_m5 115 rfl) rfl
theorem q1209 : (Jvm.Cond.soleField "GlassLeaders$Both" "other") ∈ lw_all := lw_g (lw_at lw_m5 116 rfl) rfl
theorem q1210 : (Jvm.Cond.superclass "GlassLeaders$Both" "GlassLeaders$Asked") ∈ lw_all := lw_g (lw_at lw_m5 117 rfl) rfl
theorem q1434 : (Jvm.Cond.selects "GlassLeaders$Both" ({ cls := "GlassLeaders$Asked", name := "is", desc := "([I)Z" } : Jvm.MethodName) ({ cls := "GlassLeaders$Both", name := "is", desc := "([I)Z" } : Jvm.MethodName)) ∈ lw_all := lw_g (lw_at lw_m6 101 rfl) rfl
theorem q1435 : (Jvm.Cond.instanceMethod ({ cls := "GlassLeaders$Both", name := "is", desc := "([I)Z" } : Jvm.MethodName)) ∈ lw_all := lw_g (lw_at lw_m6 102 rfl) rfl
theorem q1436 : (Jvm.Cond.code ({ cls := "GlassLeaders$Both", name := "is", desc := "([I)Z" } : Jvm.MethodName) prog_4_method_2_code (4 : Nat) (Option.some Jvm.ClassFile.FieldType.boolean)) ∈ lw_all := lw_g (lw_at lw_m6 103 rfl) rfl
theorem q1437 : (Jvm.Cond.methodLink "GlassLeaders$Both" (20 : Nat) ({ cls := "GlassLeaders$Asked", name := "is", desc := "([I)Z" } : Jvm.MethodName)) ∈ lw_all := lw_g (lw_at lw_m6 104 rfl) rfl
theorem q2881 : (Jvm.Cond.castable "GlassLeaders$Both" "java/lang/Object") ∈ lw_tbl := lw_at lw_m12 108 rfl
theorem in_X25 : ∀ w ∈ wsX250, w ∈ lw_all := lw_in wsX250 [1204, 1206, 1208] (by decide +kernel) (by decide +kernel)
/-! GlassLeaders$Leader -/
set_option maxRecDepth 100000
def RX26 : String := "GlassLeaders$Leader"
abbrev cX26_firstOf : ByteArray := prog_12_method_2_code
def yX26_firstOf : MethodName := ⟨RX26, "firstOf", "(I)I"⟩
theorem dX26_firstOf_0 : decode cX26_firstOf 0 = .ok (.iload_n 1, 1) := by decide +kernel
theorem dX26_firstOf_1 : decode cX26_firstOf 1 = .ok (.invokestatic 1, 3) := by decide +kernel
theorem dX26_firstOf_4 : decode cX26_firstOf 4 = .ok (.ireturn, 1) := by decide +kernel
theorem q1573 : (Jvm.Cond.interfaceMethod "GlassLeaders$Leader" "GlassLeaders$Leader" "takes" "(III)I") ∈ lw_tbl := lw_at lw_m7 0 rfl
theorem q1574 : (Jvm.Cond.declares ({ cls := "GlassLeaders$Leader", name := "takes", desc := "(III)I" } : Jvm.MethodName)) ∈ lw_tbl := lw_at lw_m7 1 rfl
theorem q1601 : (Jvm.Cond.declares ({ cls := "GlassLeaders$Leader", name := "firstOf", desc := "(I)I" } : Jvm.MethodName)) ∈ lw_tbl := lw_at lw_m7 28 rfl
theorem q1604 : (Jvm.Cond.instanceMethod ({ cls := "GlassLeaders$Leader", name := "firstOf", desc := "(I)I" } : Jvm.MethodName)) ∈ lw_all := lw_g (lw_at lw_m7 31 rfl) rfl
theorem q1605 : (Jvm.Cond.publicMethod ({ cls := "GlassLeaders$Leader", name := "firstOf", desc := "(I)I" } : Jvm.MethodName)) ∈ lw_tbl := lw_at lw_m7 32 rfl
theorem q1606 : (Jvm.Cond.code ({ cls := "GlassLeaders$Leader", name := "firstOf", desc := "(I)I" } : Jvm.MethodName) prog_12_method_2_code (2 : Nat) (Option.some Jvm.ClassFile.FieldType.int)) ∈ lw_all := lw_g (lw_at lw_m7 33 rfl) rfl
theorem q1607 : (Jvm.Cond.methodLink "GlassLeaders$Leader" (1 : Nat) ({ cls := "java/lang/Integer", name := "numberOfTrailingZeros", desc := "(I)I" } : Jvm.MethodName)) ∈ lw_all := lw_g (lw_at lw_m7 34 rfl) rfl
theorem q2855 : (Jvm.Cond.initialized "GlassLeaders$Leader") ∈ lw_all := lw_g (lw_at lw_m12 82 rfl) rfl
theorem q2857 : (Jvm.Cond.castable "GlassLeaders$Leader" "java/lang/Object") ∈ lw_tbl := lw_at lw_m12 84 rfl
