/-! ModuleGateLaw -/
set_option maxRecDepth 100000
def RX0 : String := "ModuleGateLaw"
abbrev cX0_feed : ByteArray := method_3_code
def yX0_feed : MethodName := ⟨RX0, "feed", "(LModuleGate;IIIII[J)I"⟩
def dkwX0_feed_1 : List UInt8 := [172]
abbrev dktX0_feed_1 : List UInt8 := dkwX0_feed_1 ++ []
def dkwX0_feed_0 : List UInt8 := [25, 6, 3, 42, 27, 28, 29, 21, 4, 21, 5, 182, 0, 7, 133, 80, 167, 0, 7, 58, 7, 4, 172, 3]
abbrev dktX0_feed_0 : List UInt8 := dkwX0_feed_0 ++ dktX0_feed_1
theorem dksX0_feed_0 : cX0_feed.data.toList.drop 0 = dktX0_feed_0 := by decide +kernel
theorem dksX0_feed_1 : cX0_feed.data.toList.drop 24 = dktX0_feed_1 := dk_seg dksX0_feed_0 24 rfl rfl
theorem dX0_feed_0 : decode cX0_feed 0 = .ok (.aload 6, 2) := dk_25 6 (dk_at dksX0_feed_0 0 rfl rfl)
theorem dX0_feed_2 : decode cX0_feed 2 = .ok (.iconst 0, 1) := dk_3 (dk_at dksX0_feed_0 2 rfl rfl)
theorem dX0_feed_3 : decode cX0_feed 3 = .ok (.aload_n 0, 1) := dk_42 (dk_at dksX0_feed_0 3 rfl rfl)
theorem dX0_feed_4 : decode cX0_feed 4 = .ok (.iload_n 1, 1) := dk_27 (dk_at dksX0_feed_0 4 rfl rfl)
theorem dX0_feed_5 : decode cX0_feed 5 = .ok (.iload_n 2, 1) := dk_28 (dk_at dksX0_feed_0 5 rfl rfl)
theorem dX0_feed_6 : decode cX0_feed 6 = .ok (.iload_n 3, 1) := dk_29 (dk_at dksX0_feed_0 6 rfl rfl)
theorem dX0_feed_7 : decode cX0_feed 7 = .ok (.iload 4, 2) := dk_21 4 (dk_at dksX0_feed_0 7 rfl rfl)
theorem dX0_feed_9 : decode cX0_feed 9 = .ok (.iload 5, 2) := dk_21 5 (dk_at dksX0_feed_0 9 rfl rfl)
theorem dX0_feed_11 : decode cX0_feed 11 = .ok (.invokevirtual 7, 3) := dk_182 0 7 (dk_at dksX0_feed_0 11 rfl rfl)
theorem dX0_feed_14 : decode cX0_feed 14 = .ok (.i2l, 1) := dk_133 (dk_at dksX0_feed_0 14 rfl rfl)
theorem dX0_feed_15 : decode cX0_feed 15 = .ok (.lastore, 1) := dk_80 (dk_at dksX0_feed_0 15 rfl rfl)
theorem dX0_feed_16 : decode cX0_feed 16 = .ok (.goto 7, 3) := dk_167 0 7 (dk_at dksX0_feed_0 16 rfl rfl)
theorem dX0_feed_19 : decode cX0_feed 19 = .ok (.astore 7, 2) := dk_58 7 (dk_at dksX0_feed_0 19 rfl rfl)
theorem dX0_feed_21 : decode cX0_feed 21 = .ok (.iconst 1, 1) := dk_4 (dk_at dksX0_feed_0 21 rfl rfl)
theorem dX0_feed_22 : decode cX0_feed 22 = .ok (.ireturn, 1) := dk_172 (dk_at dksX0_feed_0 22 rfl rfl)
theorem dX0_feed_23 : decode cX0_feed 23 = .ok (.iconst 0, 1) := dk_3 (dk_at dksX0_feed_0 23 rfl rfl)
theorem dX0_feed_24 : decode cX0_feed 24 = .ok (.ireturn, 1) := dk_172 (dk_at dksX0_feed_1 0 rfl rfl)
abbrev cX0_read : ByteArray := method_4_code
def yX0_read : MethodName := ⟨RX0, "read", "(LModuleGate;I[J)I"⟩
def dkwX0_read_0 : List UInt8 := [44, 3, 42, 27, 182, 0, 15, 133, 80, 167, 0, 9, 78, 4, 172, 78, 5, 172, 3, 172]
abbrev dktX0_read_0 : List UInt8 := dkwX0_read_0 ++ []
theorem dksX0_read_0 : cX0_read.data.toList.drop 0 = dktX0_read_0 := by decide +kernel
theorem dX0_read_0 : decode cX0_read 0 = .ok (.aload_n 2, 1) := dk_44 (dk_at dksX0_read_0 0 rfl rfl)
theorem dX0_read_1 : decode cX0_read 1 = .ok (.iconst 0, 1) := dk_3 (dk_at dksX0_read_0 1 rfl rfl)
theorem dX0_read_2 : decode cX0_read 2 = .ok (.aload_n 0, 1) := dk_42 (dk_at dksX0_read_0 2 rfl rfl)
theorem dX0_read_3 : decode cX0_read 3 = .ok (.iload_n 1, 1) := dk_27 (dk_at dksX0_read_0 3 rfl rfl)
theorem dX0_read_4 : decode cX0_read 4 = .ok (.invokevirtual 15, 3) := dk_182 0 15 (dk_at dksX0_read_0 4 rfl rfl)
theorem dX0_read_7 : decode cX0_read 7 = .ok (.i2l, 1) := dk_133 (dk_at dksX0_read_0 7 rfl rfl)
theorem dX0_read_8 : decode cX0_read 8 = .ok (.lastore, 1) := dk_80 (dk_at dksX0_read_0 8 rfl rfl)
theorem dX0_read_9 : decode cX0_read 9 = .ok (.goto 9, 3) := dk_167 0 9 (dk_at dksX0_read_0 9 rfl rfl)
theorem dX0_read_12 : decode cX0_read 12 = .ok (.astore_n 3, 1) := dk_78 (dk_at dksX0_read_0 12 rfl rfl)
theorem dX0_read_13 : decode cX0_read 13 = .ok (.iconst 1, 1) := dk_4 (dk_at dksX0_read_0 13 rfl rfl)
theorem dX0_read_14 : decode cX0_read 14 = .ok (.ireturn, 1) := dk_172 (dk_at dksX0_read_0 14 rfl rfl)
theorem dX0_read_15 : decode cX0_read 15 = .ok (.astore_n 3, 1) := dk_78 (dk_at dksX0_read_0 15 rfl rfl)
theorem dX0_read_16 : decode cX0_read 16 = .ok (.iconst 2, 1) := dk_5 (dk_at dksX0_read_0 16 rfl rfl)
theorem dX0_read_17 : decode cX0_read 17 = .ok (.ireturn, 1) := dk_172 (dk_at dksX0_read_0 17 rfl rfl)
theorem dX0_read_18 : decode cX0_read 18 = .ok (.iconst 0, 1) := dk_3 (dk_at dksX0_read_0 18 rfl rfl)
theorem dX0_read_19 : decode cX0_read 19 = .ok (.ireturn, 1) := dk_172 (dk_at dksX0_read_0 19 rfl rfl)
abbrev cX0_token : ByteArray := method_5_code
def yX0_token : MethodName := ⟨RX0, "token", "(LModuleGate;II[J)I"⟩
def dkwX0_token_0 : List UInt8 := [45, 3, 42, 27, 28, 182, 0, 21, 133, 80, 167, 0, 11, 58, 4, 4, 172, 58, 4, 5, 172, 3, 172]
abbrev dktX0_token_0 : List UInt8 := dkwX0_token_0 ++ []
theorem dksX0_token_0 : cX0_token.data.toList.drop 0 = dktX0_token_0 := by decide +kernel
theorem dX0_token_0 : decode cX0_token 0 = .ok (.aload_n 3, 1) := dk_45 (dk_at dksX0_token_0 0 rfl rfl)
theorem dX0_token_1 : decode cX0_token 1 = .ok (.iconst 0, 1) := dk_3 (dk_at dksX0_token_0 1 rfl rfl)
theorem dX0_token_2 : decode cX0_token 2 = .ok (.aload_n 0, 1) := dk_42 (dk_at dksX0_token_0 2 rfl rfl)
theorem dX0_token_3 : decode cX0_token 3 = .ok (.iload_n 1, 1) := dk_27 (dk_at dksX0_token_0 3 rfl rfl)
theorem dX0_token_4 : decode cX0_token 4 = .ok (.iload_n 2, 1) := dk_28 (dk_at dksX0_token_0 4 rfl rfl)
theorem dX0_token_5 : decode cX0_token 5 = .ok (.invokevirtual 21, 3) := dk_182 0 21 (dk_at dksX0_token_0 5 rfl rfl)
theorem dX0_token_8 : decode cX0_token 8 = .ok (.i2l, 1) := dk_133 (dk_at dksX0_token_0 8 rfl rfl)
theorem dX0_token_9 : decode cX0_token 9 = .ok (.lastore, 1) := dk_80 (dk_at dksX0_token_0 9 rfl rfl)
theorem dX0_token_10 : decode cX0_token 10 = .ok (.goto 11, 3) := dk_167 0 11 (dk_at dksX0_token_0 10 rfl rfl)
theorem dX0_token_13 : decode cX0_token 13 = .ok (.astore 4, 2) := dk_58 4 (dk_at dksX0_token_0 13 rfl rfl)
theorem dX0_token_15 : decode cX0_token 15 = .ok (.iconst 1, 1) := dk_4 (dk_at dksX0_token_0 15 rfl rfl)
theorem dX0_token_16 : decode cX0_token 16 = .ok (.ireturn, 1) := dk_172 (dk_at dksX0_token_0 16 rfl rfl)
theorem dX0_token_17 : decode cX0_token 17 = .ok (.astore 4, 2) := dk_58 4 (dk_at dksX0_token_0 17 rfl rfl)
theorem dX0_token_19 : decode cX0_token 19 = .ok (.iconst 2, 1) := dk_5 (dk_at dksX0_token_0 19 rfl rfl)
theorem dX0_token_20 : decode cX0_token 20 = .ok (.ireturn, 1) := dk_172 (dk_at dksX0_token_0 20 rfl rfl)
theorem dX0_token_21 : decode cX0_token 21 = .ok (.iconst 0, 1) := dk_3 (dk_at dksX0_token_0 21 rfl rfl)
theorem dX0_token_22 : decode cX0_token 22 = .ok (.ireturn, 1) := dk_172 (dk_at dksX0_token_0 22 rfl rfl)
abbrev cX0_count : ByteArray := method_6_code
def yX0_count : MethodName := ⟨RX0, "count", "(LModuleGate;I[J)I"⟩
def dkwX0_count_0 : List UInt8 := [44, 3, 42, 27, 182, 0, 25, 133, 80, 167, 0, 6, 78, 4, 172, 3, 172]
abbrev dktX0_count_0 : List UInt8 := dkwX0_count_0 ++ []
theorem dksX0_count_0 : cX0_count.data.toList.drop 0 = dktX0_count_0 := by decide +kernel
theorem dX0_count_0 : decode cX0_count 0 = .ok (.aload_n 2, 1) := dk_44 (dk_at dksX0_count_0 0 rfl rfl)
theorem dX0_count_1 : decode cX0_count 1 = .ok (.iconst 0, 1) := dk_3 (dk_at dksX0_count_0 1 rfl rfl)
theorem dX0_count_2 : decode cX0_count 2 = .ok (.aload_n 0, 1) := dk_42 (dk_at dksX0_count_0 2 rfl rfl)
theorem dX0_count_3 : decode cX0_count 3 = .ok (.iload_n 1, 1) := dk_27 (dk_at dksX0_count_0 3 rfl rfl)
theorem dX0_count_4 : decode cX0_count 4 = .ok (.invokevirtual 25, 3) := dk_182 0 25 (dk_at dksX0_count_0 4 rfl rfl)
theorem dX0_count_7 : decode cX0_count 7 = .ok (.i2l, 1) := dk_133 (dk_at dksX0_count_0 7 rfl rfl)
theorem dX0_count_8 : decode cX0_count 8 = .ok (.lastore, 1) := dk_80 (dk_at dksX0_count_0 8 rfl rfl)
theorem dX0_count_9 : decode cX0_count 9 = .ok (.goto 6, 3) := dk_167 0 6 (dk_at dksX0_count_0 9 rfl rfl)
theorem dX0_count_12 : decode cX0_count 12 = .ok (.astore_n 3, 1) := dk_78 (dk_at dksX0_count_0 12 rfl rfl)
theorem dX0_count_13 : decode cX0_count 13 = .ok (.iconst 1, 1) := dk_4 (dk_at dksX0_count_0 13 rfl rfl)
theorem dX0_count_14 : decode cX0_count 14 = .ok (.ireturn, 1) := dk_172 (dk_at dksX0_count_0 14 rfl rfl)
theorem dX0_count_15 : decode cX0_count 15 = .ok (.iconst 0, 1) := dk_3 (dk_at dksX0_count_0 15 rfl rfl)
theorem dX0_count_16 : decode cX0_count 16 = .ok (.ireturn, 1) := dk_172 (dk_at dksX0_count_0 16 rfl rfl)
theorem q235 : (Jvm.Cond.initialized "ModuleGateLaw") ∈ lw_all := lw_g (lw_at lw_m1 0 rfl) rfl
theorem q255 : (Jvm.Cond.classLink "ModuleGateLaw" (8 : Nat) "ModuleGate") ∈ lw_all := lw_g (lw_at lw_m1 20 rfl) rfl
theorem q257 : (Jvm.Cond.methodLink "ModuleGateLaw" (28 : Nat) ({ cls := "ModuleGate", name := "<init>", desc := "()V" } : Jvm.MethodName)) ∈ lw_all := lw_g (lw_at lw_m1 22 rfl) rfl
theorem q608 : (Jvm.Cond.methodLink "ModuleGateLaw" (32 : Nat) ({ cls := "ModuleGateLaw", name := "feed", desc := "(LModuleGate;IIIII[J)I" } : Jvm.MethodName)) ∈ lw_all := lw_g (lw_at lw_m2 133 rfl) rfl
theorem q609 : (Jvm.Cond.static ({ cls := "ModuleGateLaw", name := "feed", desc := "(LModuleGate;IIIII[J)I" } : Jvm.MethodName)) ∈ lw_all := lw_g (lw_at lw_m2 134 rfl) rfl
theorem q610 : (Jvm.Cond.codeWith ({ cls := "ModuleGateLaw", name := "feed", desc := "(LModuleGate;IIIII[J)I" } : Jvm.MethodName) method_3_code (8 : Nat) (Option.some Jvm.ClassFile.FieldType.int) [((0 : Nat), (16 : Nat), (19 : Nat), (13 : Nat))]) ∈ lw_all := lw_g (lw_at lw_m2 135 rfl) rfl
theorem q611 : (Jvm.Cond.classLink "ModuleGateLaw" (13 : Nat) "java/lang/IndexOutOfBoundsException") ∈ lw_all := lw_g (lw_at lw_m2 136 rfl) rfl
theorem q687 : (Jvm.Cond.methodLink "ModuleGateLaw" (7 : Nat) ({ cls := "ModuleGate", name := "feed", desc := "(IIIII)I" } : Jvm.MethodName)) ∈ lw_all := lw_g (lw_at lw_m2 212 rfl) rfl
theorem q712 : (Jvm.Cond.methodLink "ModuleGateLaw" (42 : Nat) ({ cls := "ModuleGateLaw", name := "read", desc := "(LModuleGate;I[J)I" } : Jvm.MethodName)) ∈ lw_all := lw_g (lw_at lw_m2 237 rfl) rfl
theorem q713 : (Jvm.Cond.static ({ cls := "ModuleGateLaw", name := "read", desc := "(LModuleGate;I[J)I" } : Jvm.MethodName)) ∈ lw_all := lw_g (lw_at lw_m2 238 rfl) rfl
theorem q714 : (Jvm.Cond.codeWith ({ cls := "ModuleGateLaw", name := "read", desc := "(LModuleGate;I[J)I" } : Jvm.MethodName) method_4_code (4 : Nat) (Option.some Jvm.ClassFile.FieldType.int) [((0 : Nat), (9 : Nat), (12 : Nat), (13 : Nat)), ((0 : Nat), (9 : Nat), (15 : Nat), (19 : Nat))]) ∈ lw_all := lw_g (lw_at lw_m2 239 rfl) rfl
theorem q715 : (Jvm.Cond.classLink "ModuleGateLaw" (19 : Nat) "java/lang/IllegalArgumentException") ∈ lw_all := lw_g (lw_at lw_m3 0 rfl) rfl
theorem q716 : (Jvm.Cond.methodLink "ModuleGateLaw" (15 : Nat) ({ cls := "ModuleGate", name := "read", desc := "(I)I" } : Jvm.MethodName)) ∈ lw_all := lw_g (lw_at lw_m3 1 rfl) rfl
theorem q1294 : (Jvm.Cond.methodLink "ModuleGateLaw" (46 : Nat) ({ cls := "ModuleGateLaw", name := "token", desc := "(LModuleGate;II[J)I" } : Jvm.MethodName)) ∈ lw_all := lw_g (lw_at lw_m5 99 rfl) rfl
theorem q1295 : (Jvm.Cond.static ({ cls := "ModuleGateLaw", name := "token", desc := "(LModuleGate;II[J)I" } : Jvm.MethodName)) ∈ lw_all := lw_g (lw_at lw_m5 100 rfl) rfl
theorem q1296 : (Jvm.Cond.codeWith ({ cls := "ModuleGateLaw", name := "token", desc := "(LModuleGate;II[J)I" } : Jvm.MethodName) method_5_code (5 : Nat) (Option.some Jvm.ClassFile.FieldType.int) [((0 : Nat), (10 : Nat), (13 : Nat), (13 : Nat)), ((0 : Nat), (10 : Nat), (17 : Nat), (19 : Nat))]) ∈ lw_all := lw_g (lw_at lw_m5 101 rfl) rfl
theorem q1297 : (Jvm.Cond.methodLink "ModuleGateLaw" (21 : Nat) ({ cls := "ModuleGate", name := "token", desc := "(II)I" } : Jvm.MethodName)) ∈ lw_all := lw_g (lw_at lw_m5 102 rfl) rfl
theorem q1301 : (Jvm.Cond.methodLink "ModuleGateLaw" (50 : Nat) ({ cls := "ModuleGateLaw", name := "count", desc := "(LModuleGate;I[J)I" } : Jvm.MethodName)) ∈ lw_all := lw_g (lw_at lw_m5 106 rfl) rfl
theorem q1302 : (Jvm.Cond.static ({ cls := "ModuleGateLaw", name := "count", desc := "(LModuleGate;I[J)I" } : Jvm.MethodName)) ∈ lw_all := lw_g (lw_at lw_m5 107 rfl) rfl
theorem q1303 : (Jvm.Cond.codeWith ({ cls := "ModuleGateLaw", name := "count", desc := "(LModuleGate;I[J)I" } : Jvm.MethodName) method_6_code (4 : Nat) (Option.some Jvm.ClassFile.FieldType.int) [((0 : Nat), (9 : Nat), (12 : Nat), (19 : Nat))]) ∈ lw_all := lw_g (lw_at lw_m5 108 rfl) rfl
theorem q1304 : (Jvm.Cond.methodLink "ModuleGateLaw" (25 : Nat) ({ cls := "ModuleGate", name := "count", desc := "(I)I" } : Jvm.MethodName)) ∈ lw_all := lw_g (lw_at lw_m5 109 rfl) rfl
theorem q1308 : (Jvm.Cond.classLink "ModuleGateLaw" (29 : Nat) "ModuleGateModel") ∈ lw_all := lw_g (lw_at lw_m5 113 rfl) rfl
theorem q1310 : (Jvm.Cond.methodLink "ModuleGateLaw" (31 : Nat) ({ cls := "ModuleGateModel", name := "<init>", desc := "()V" } : Jvm.MethodName)) ∈ lw_all := lw_g (lw_at lw_m5 115 rfl) rfl
theorem q1590 : (Jvm.Cond.methodLink "ModuleGateLaw" (38 : Nat) ({ cls := "ModuleGateModel", name := "thrown", desc := "()I" } : Jvm.MethodName)) ∈ lw_all := lw_g (lw_at lw_m6 155 rfl) rfl
theorem q1594 : (Jvm.Cond.methodLink "ModuleGateLaw" (37 : Nat) ({ cls := "ModuleGateModel", name := "feed", desc := "(IIIII)I" } : Jvm.MethodName)) ∈ lw_all := lw_g (lw_at lw_m6 159 rfl) rfl
theorem q1598 : (Jvm.Cond.methodLink "ModuleGateLaw" (45 : Nat) ({ cls := "ModuleGateModel", name := "read", desc := "(I)I" } : Jvm.MethodName)) ∈ lw_all := lw_g (lw_at lw_m6 163 rfl) rfl
theorem q2281 : (Jvm.Cond.methodLink "ModuleGateLaw" (49 : Nat) ({ cls := "ModuleGateModel", name := "token", desc := "(II)I" } : Jvm.MethodName)) ∈ lw_all := lw_g (lw_at lw_m9 126 rfl) rfl
theorem q2285 : (Jvm.Cond.methodLink "ModuleGateLaw" (52 : Nat) ({ cls := "ModuleGateModel", name := "count", desc := "(I)I" } : Jvm.MethodName)) ∈ lw_all := lw_g (lw_at lw_m9 130 rfl) rfl
/-! the law's own entry -/
set_option maxRecDepth 100000
abbrev cL_law : ByteArray := code
def dkwL_law_15 : List UInt8 := [167, 0, 3, 132, 4, 6, 167, 254, 180, 4, 172]
abbrev dktL_law_15 : List UInt8 := dkwL_law_15 ++ []
def dkwL_law_14 : List UInt8 := [159, 0, 5, 3, 172, 21, 5, 154, 0, 15, 45, 3, 47, 21, 6, 133, 148, 153, 0, 5, 3, 172]
abbrev dktL_law_14 : List UInt8 := dkwL_law_14 ++ dktL_law_15
def dkwL_law_13 : List UInt8 := [184, 0, 50, 54, 5, 44, 42, 21, 4, 4, 96, 46, 182, 0, 52, 54, 6, 44, 182, 0, 38, 21, 5]
abbrev dktL_law_13 : List UInt8 := dkwL_law_13 ++ dktL_law_14
def dkwL_law_12 : List UInt8 := [3, 47, 21, 6, 133, 148, 153, 0, 5, 3, 172, 167, 0, 59, 43, 42, 21, 4, 4, 96, 46, 45]
abbrev dktL_law_12 : List UInt8 := dkwL_law_12 ++ dktL_law_13
def dkwL_law_11 : List UInt8 := [96, 46, 182, 0, 49, 54, 6, 44, 182, 0, 38, 21, 5, 159, 0, 5, 3, 172, 21, 5, 154, 0, 15, 45]
abbrev dktL_law_11 : List UInt8 := dkwL_law_11 ++ dktL_law_12
def dkwL_law_10 : List UInt8 := [46, 42, 21, 4, 5, 96, 46, 45, 184, 0, 46, 54, 5, 44, 42, 21, 4, 4, 96, 46, 42, 21, 4, 5]
abbrev dktL_law_10 : List UInt8 := dkwL_law_10 ++ dktL_law_11
def dkwL_law_9 : List UInt8 := [154, 0, 15, 45, 3, 47, 21, 6, 133, 148, 153, 0, 5, 3, 172, 167, 0, 127, 43, 42, 21, 4, 4, 96]
abbrev dktL_law_9 : List UInt8 := dkwL_law_9 ++ dktL_law_10
def dkwL_law_8 : List UInt8 := [21, 4, 4, 96, 46, 182, 0, 45, 54, 6, 44, 182, 0, 38, 21, 5, 159, 0, 5, 3, 172, 21, 5]
abbrev dktL_law_8 : List UInt8 := dkwL_law_8 ++ dktL_law_9
def dkwL_law_7 : List UInt8 := [148, 153, 0, 5, 3, 172, 167, 0, 183, 43, 42, 21, 4, 4, 96, 46, 45, 184, 0, 42, 54, 5, 44, 42]
abbrev dktL_law_7 : List UInt8 := dkwL_law_7 ++ dktL_law_8
def dkwL_law_6 : List UInt8 := [54, 6, 44, 182, 0, 38, 21, 5, 159, 0, 5, 3, 172, 21, 5, 154, 0, 15, 45, 3, 47, 21, 6, 133]
abbrev dktL_law_6 : List UInt8 := dkwL_law_6 ++ dktL_law_7
def dkwL_law_5 : List UInt8 := [96, 46, 42, 21, 4, 6, 96, 46, 42, 21, 4, 7, 96, 46, 42, 21, 4, 8, 96, 46, 182, 0, 37]
abbrev dktL_law_5 : List UInt8 := dkwL_law_5 ++ dktL_law_6
def dkwL_law_4 : List UInt8 := [46, 42, 21, 4, 8, 96, 46, 45, 184, 0, 32, 54, 5, 44, 42, 21, 4, 4, 96, 46, 42, 21, 4, 5]
abbrev dktL_law_4 : List UInt8 := dkwL_law_4 ++ dktL_law_5
def dkwL_law_3 : List UInt8 := [43, 42, 21, 4, 4, 96, 46, 42, 21, 4, 5, 96, 46, 42, 21, 4, 6, 96, 46, 42, 21, 4, 7, 96]
abbrev dktL_law_3 : List UInt8 := dkwL_law_3 ++ dktL_law_4
def dkwL_law_2 : List UInt8 := [170, 0, 0, 1, 57, 0, 0, 0, 0, 0, 0, 0, 3, 0, 0, 0, 29, 0, 0, 0, 133, 0, 0, 0, 189, 0, 0, 1, 1]
abbrev dktL_law_2 : List UInt8 := dkwL_law_2 ++ dktL_law_3
def dkwL_law_1 : List UInt8 := [21, 4, 42, 190, 16, 6, 100, 163, 1, 72, 42, 21, 4, 46, 6, 126]
abbrev dktL_law_1 : List UInt8 := dkwL_law_1 ++ dktL_law_2
def dkwL_law_0 : List UInt8 := [187, 0, 8, 89, 183, 0, 28, 76, 187, 0, 29, 89, 183, 0, 31, 77, 4, 188, 11, 78, 3, 54, 4]
abbrev dktL_law_0 : List UInt8 := dkwL_law_0 ++ dktL_law_1
theorem dksL_law_0 : cL_law.data.toList.drop 0 = dktL_law_0 := by decide +kernel
theorem dksL_law_1 : cL_law.data.toList.drop 23 = dktL_law_1 := dk_seg dksL_law_0 23 rfl rfl
theorem dksL_law_2 : cL_law.data.toList.drop 39 = dktL_law_2 := dk_seg dksL_law_1 16 rfl rfl
theorem dksL_law_3 : cL_law.data.toList.drop 68 = dktL_law_3 := dk_seg dksL_law_2 29 rfl rfl
theorem dksL_law_4 : cL_law.data.toList.drop 92 = dktL_law_4 := dk_seg dksL_law_3 24 rfl rfl
theorem dksL_law_5 : cL_law.data.toList.drop 116 = dktL_law_5 := dk_seg dksL_law_4 24 rfl rfl
theorem dksL_law_6 : cL_law.data.toList.drop 139 = dktL_law_6 := dk_seg dksL_law_5 23 rfl rfl
theorem dksL_law_7 : cL_law.data.toList.drop 163 = dktL_law_7 := dk_seg dksL_law_6 24 rfl rfl
theorem dksL_law_8 : cL_law.data.toList.drop 187 = dktL_law_8 := dk_seg dksL_law_7 24 rfl rfl
theorem dksL_law_9 : cL_law.data.toList.drop 210 = dktL_law_9 := dk_seg dksL_law_8 23 rfl rfl
theorem dksL_law_10 : cL_law.data.toList.drop 234 = dktL_law_10 := dk_seg dksL_law_9 24 rfl rfl
theorem dksL_law_11 : cL_law.data.toList.drop 258 = dktL_law_11 := dk_seg dksL_law_10 24 rfl rfl
theorem dksL_law_12 : cL_law.data.toList.drop 282 = dktL_law_12 := dk_seg dksL_law_11 24 rfl rfl
theorem dksL_law_13 : cL_law.data.toList.drop 304 = dktL_law_13 := dk_seg dksL_law_12 22 rfl rfl
theorem dksL_law_14 : cL_law.data.toList.drop 327 = dktL_law_14 := dk_seg dksL_law_13 23 rfl rfl
theorem dksL_law_15 : cL_law.data.toList.drop 349 = dktL_law_15 := dk_seg dksL_law_14 22 rfl rfl
theorem dL_law_0 : decode cL_law 0 = .ok (.new 8, 3) := dk_187 0 8 (dk_at dksL_law_0 0 rfl rfl)
theorem dL_law_3 : decode cL_law 3 = .ok (.dup, 1) := dk_89 (dk_at dksL_law_0 3 rfl rfl)
theorem dL_law_4 : decode cL_law 4 = .ok (.invokespecial 28, 3) := dk_183 0 28 (dk_at dksL_law_0 4 rfl rfl)
theorem dL_law_7 : decode cL_law 7 = .ok (.astore_n 1, 1) := dk_76 (dk_at dksL_law_0 7 rfl rfl)
theorem dL_law_8 : decode cL_law 8 = .ok (.new 29, 3) := dk_187 0 29 (dk_at dksL_law_0 8 rfl rfl)
theorem dL_law_11 : decode cL_law 11 = .ok (.dup, 1) := dk_89 (dk_at dksL_law_0 11 rfl rfl)
theorem dL_law_12 : decode cL_law 12 = .ok (.invokespecial 31, 3) := dk_183 0 31 (dk_at dksL_law_0 12 rfl rfl)
theorem dL_law_15 : decode cL_law 15 = .ok (.astore_n 2, 1) := dk_77 (dk_at dksL_law_0 15 rfl rfl)
theorem dL_law_16 : decode cL_law 16 = .ok (.iconst 1, 1) := dk_4 (dk_at dksL_law_0 16 rfl rfl)
theorem dL_law_17 : decode cL_law 17 = .ok (.newarray .long, 2) := dk_188_11 (dk_at dksL_law_0 17 rfl rfl)
theorem dL_law_19 : decode cL_law 19 = .ok (.astore_n 3, 1) := dk_78 (dk_at dksL_law_0 19 rfl rfl)
theorem dL_law_20 : decode cL_law 20 = .ok (.iconst 0, 1) := dk_3 (dk_at dksL_law_0 20 rfl rfl)
theorem dL_law_21 : decode cL_law 21 = .ok (.istore 4, 2) := dk_54 4 (dk_at dksL_law_0 21 rfl rfl)
theorem dL_law_23 : decode cL_law 23 = .ok (.iload 4, 2) := dk_21 4 (dk_at dksL_law_1 0 rfl rfl)
theorem dL_law_25 : decode cL_law 25 = .ok (.aload_n 0, 1) := dk_42 (dk_at dksL_law_1 2 rfl rfl)
theorem dL_law_26 : decode cL_law 26 = .ok (.arraylength, 1) := dk_190 (dk_at dksL_law_1 3 rfl rfl)
theorem dL_law_27 : decode cL_law 27 = .ok (.bipush 6, 2) := dk_16 6 (dk_at dksL_law_1 4 rfl rfl)
theorem dL_law_29 : decode cL_law 29 = .ok (.isub, 1) := dk_100 (dk_at dksL_law_1 6 rfl rfl)
theorem dL_law_30 : decode cL_law 30 = .ok (.if_icmp .gt 328, 3) := dk_163 1 72 (dk_at dksL_law_1 7 rfl rfl)
theorem dL_law_33 : decode cL_law 33 = .ok (.aload_n 0, 1) := dk_42 (dk_at dksL_law_1 10 rfl rfl)
theorem dL_law_34 : decode cL_law 34 = .ok (.iload 4, 2) := dk_21 4 (dk_at dksL_law_1 11 rfl rfl)
theorem dL_law_36 : decode cL_law 36 = .ok (.iaload, 1) := dk_46 (dk_at dksL_law_1 13 rfl rfl)
theorem dL_law_37 : decode cL_law 37 = .ok (.iconst 3, 1) := dk_6 (dk_at dksL_law_1 14 rfl rfl)
theorem dL_law_38 : decode cL_law 38 = .ok (.iand, 1) := dk_126 (dk_at dksL_law_1 15 rfl rfl)
theorem dL_law_39 : decode cL_law 39 = .ok (.tableswitch 313 0 3 #[29, 133, 189, 257], 29) := by decide +kernel
theorem dL_law_68 : decode cL_law 68 = .ok (.aload_n 1, 1) := dk_43 (dk_at dksL_law_3 0 rfl rfl)
theorem dL_law_69 : decode cL_law 69 = .ok (.aload_n 0, 1) := dk_42 (dk_at dksL_law_3 1 rfl rfl)
theorem dL_law_70 : decode cL_law 70 = .ok (.iload 4, 2) := dk_21 4 (dk_at dksL_law_3 2 rfl rfl)
theorem dL_law_72 : decode cL_law 72 = .ok (.iconst 1, 1) := dk_4 (dk_at dksL_law_3 4 rfl rfl)
theorem dL_law_73 : decode cL_law 73 = .ok (.iadd, 1) := dk_96 (dk_at dksL_law_3 5 rfl rfl)
theorem dL_law_74 : decode cL_law 74 = .ok (.iaload, 1) := dk_46 (dk_at dksL_law_3 6 rfl rfl)
theorem dL_law_75 : decode cL_law 75 = .ok (.aload_n 0, 1) := dk_42 (dk_at dksL_law_3 7 rfl rfl)
theorem dL_law_76 : decode cL_law 76 = .ok (.iload 4, 2) := dk_21 4 (dk_at dksL_law_3 8 rfl rfl)
theorem dL_law_78 : decode cL_law 78 = .ok (.iconst 2, 1) := dk_5 (dk_at dksL_law_3 10 rfl rfl)
theorem dL_law_79 : decode cL_law 79 = .ok (.iadd, 1) := dk_96 (dk_at dksL_law_3 11 rfl rfl)
theorem dL_law_80 : decode cL_law 80 = .ok (.iaload, 1) := dk_46 (dk_at dksL_law_3 12 rfl rfl)
theorem dL_law_81 : decode cL_law 81 = .ok (.aload_n 0, 1) := dk_42 (dk_at dksL_law_3 13 rfl rfl)
theorem dL_law_82 : decode cL_law 82 = .ok (.iload 4, 2) := dk_21 4 (dk_at dksL_law_3 14 rfl rfl)
theorem dL_law_84 : decode cL_law 84 = .ok (.iconst 3, 1) := dk_6 (dk_at dksL_law_3 16 rfl rfl)
theorem dL_law_85 : decode cL_law 85 = .ok (.iadd, 1) := dk_96 (dk_at dksL_law_3 17 rfl rfl)
theorem dL_law_86 : decode cL_law 86 = .ok (.iaload, 1) := dk_46 (dk_at dksL_law_3 18 rfl rfl)
theorem dL_law_87 : decode cL_law 87 = .ok (.aload_n 0, 1) := dk_42 (dk_at dksL_law_3 19 rfl rfl)
theorem dL_law_88 : decode cL_law 88 = .ok (.iload 4, 2) := dk_21 4 (dk_at dksL_law_3 20 rfl rfl)
theorem dL_law_90 : decode cL_law 90 = .ok (.iconst 4, 1) := dk_7 (dk_at dksL_law_3 22 rfl rfl)
theorem dL_law_91 : decode cL_law 91 = .ok (.iadd, 1) := dk_96 (dk_at dksL_law_3 23 rfl rfl)
theorem dL_law_92 : decode cL_law 92 = .ok (.iaload, 1) := dk_46 (dk_at dksL_law_4 0 rfl rfl)
theorem dL_law_93 : decode cL_law 93 = .ok (.aload_n 0, 1) := dk_42 (dk_at dksL_law_4 1 rfl rfl)
theorem dL_law_94 : decode cL_law 94 = .ok (.iload 4, 2) := dk_21 4 (dk_at dksL_law_4 2 rfl rfl)
theorem dL_law_96 : decode cL_law 96 = .ok (.iconst 5, 1) := dk_8 (dk_at dksL_law_4 4 rfl rfl)
theorem dL_law_97 : decode cL_law 97 = .ok (.iadd, 1) := dk_96 (dk_at dksL_law_4 5 rfl rfl)
theorem dL_law_98 : decode cL_law 98 = .ok (.iaload, 1) := dk_46 (dk_at dksL_law_4 6 rfl rfl)
theorem dL_law_99 : decode cL_law 99 = .ok (.aload_n 3, 1) := dk_45 (dk_at dksL_law_4 7 rfl rfl)
theorem dL_law_100 : decode cL_law 100 = .ok (.invokestatic 32, 3) := dk_184 0 32 (dk_at dksL_law_4 8 rfl rfl)
theorem dL_law_103 : decode cL_law 103 = .ok (.istore 5, 2) := dk_54 5 (dk_at dksL_law_4 11 rfl rfl)
theorem dL_law_105 : decode cL_law 105 = .ok (.aload_n 2, 1) := dk_44 (dk_at dksL_law_4 13 rfl rfl)
theorem dL_law_106 : decode cL_law 106 = .ok (.aload_n 0, 1) := dk_42 (dk_at dksL_law_4 14 rfl rfl)
theorem dL_law_107 : decode cL_law 107 = .ok (.iload 4, 2) := dk_21 4 (dk_at dksL_law_4 15 rfl rfl)
theorem dL_law_109 : decode cL_law 109 = .ok (.iconst 1, 1) := dk_4 (dk_at dksL_law_4 17 rfl rfl)
theorem dL_law_110 : decode cL_law 110 = .ok (.iadd, 1) := dk_96 (dk_at dksL_law_4 18 rfl rfl)
theorem dL_law_111 : decode cL_law 111 = .ok (.iaload, 1) := dk_46 (dk_at dksL_law_4 19 rfl rfl)
theorem dL_law_112 : decode cL_law 112 = .ok (.aload_n 0, 1) := dk_42 (dk_at dksL_law_4 20 rfl rfl)
theorem dL_law_113 : decode cL_law 113 = .ok (.iload 4, 2) := dk_21 4 (dk_at dksL_law_4 21 rfl rfl)
theorem dL_law_115 : decode cL_law 115 = .ok (.iconst 2, 1) := dk_5 (dk_at dksL_law_4 23 rfl rfl)
theorem dL_law_116 : decode cL_law 116 = .ok (.iadd, 1) := dk_96 (dk_at dksL_law_5 0 rfl rfl)
theorem dL_law_117 : decode cL_law 117 = .ok (.iaload, 1) := dk_46 (dk_at dksL_law_5 1 rfl rfl)
theorem dL_law_118 : decode cL_law 118 = .ok (.aload_n 0, 1) := dk_42 (dk_at dksL_law_5 2 rfl rfl)
theorem dL_law_119 : decode cL_law 119 = .ok (.iload 4, 2) := dk_21 4 (dk_at dksL_law_5 3 rfl rfl)
theorem dL_law_121 : decode cL_law 121 = .ok (.iconst 3, 1) := dk_6 (dk_at dksL_law_5 5 rfl rfl)
theorem dL_law_122 : decode cL_law 122 = .ok (.iadd, 1) := dk_96 (dk_at dksL_law_5 6 rfl rfl)
theorem dL_law_123 : decode cL_law 123 = .ok (.iaload, 1) := dk_46 (dk_at dksL_law_5 7 rfl rfl)
theorem dL_law_124 : decode cL_law 124 = .ok (.aload_n 0, 1) := dk_42 (dk_at dksL_law_5 8 rfl rfl)
theorem dL_law_125 : decode cL_law 125 = .ok (.iload 4, 2) := dk_21 4 (dk_at dksL_law_5 9 rfl rfl)
theorem dL_law_127 : decode cL_law 127 = .ok (.iconst 4, 1) := dk_7 (dk_at dksL_law_5 11 rfl rfl)
theorem dL_law_128 : decode cL_law 128 = .ok (.iadd, 1) := dk_96 (dk_at dksL_law_5 12 rfl rfl)
theorem dL_law_129 : decode cL_law 129 = .ok (.iaload, 1) := dk_46 (dk_at dksL_law_5 13 rfl rfl)
theorem dL_law_130 : decode cL_law 130 = .ok (.aload_n 0, 1) := dk_42 (dk_at dksL_law_5 14 rfl rfl)
theorem dL_law_131 : decode cL_law 131 = .ok (.iload 4, 2) := dk_21 4 (dk_at dksL_law_5 15 rfl rfl)
theorem dL_law_133 : decode cL_law 133 = .ok (.iconst 5, 1) := dk_8 (dk_at dksL_law_5 17 rfl rfl)
theorem dL_law_134 : decode cL_law 134 = .ok (.iadd, 1) := dk_96 (dk_at dksL_law_5 18 rfl rfl)
theorem dL_law_135 : decode cL_law 135 = .ok (.iaload, 1) := dk_46 (dk_at dksL_law_5 19 rfl rfl)
theorem dL_law_136 : decode cL_law 136 = .ok (.invokevirtual 37, 3) := dk_182 0 37 (dk_at dksL_law_5 20 rfl rfl)
theorem dL_law_139 : decode cL_law 139 = .ok (.istore 6, 2) := dk_54 6 (dk_at dksL_law_6 0 rfl rfl)
theorem dL_law_141 : decode cL_law 141 = .ok (.aload_n 2, 1) := dk_44 (dk_at dksL_law_6 2 rfl rfl)
theorem dL_law_142 : decode cL_law 142 = .ok (.invokevirtual 38, 3) := dk_182 0 38 (dk_at dksL_law_6 3 rfl rfl)
theorem dL_law_145 : decode cL_law 145 = .ok (.iload 5, 2) := dk_21 5 (dk_at dksL_law_6 6 rfl rfl)
theorem dL_law_147 : decode cL_law 147 = .ok (.if_icmp .eq 5, 3) := dk_159 0 5 (dk_at dksL_law_6 8 rfl rfl)
theorem dL_law_150 : decode cL_law 150 = .ok (.iconst 0, 1) := dk_3 (dk_at dksL_law_6 11 rfl rfl)
theorem dL_law_151 : decode cL_law 151 = .ok (.ireturn, 1) := dk_172 (dk_at dksL_law_6 12 rfl rfl)
theorem dL_law_152 : decode cL_law 152 = .ok (.iload 5, 2) := dk_21 5 (dk_at dksL_law_6 13 rfl rfl)
theorem dL_law_154 : decode cL_law 154 = .ok (.ifCond .ne 15, 3) := dk_154 0 15 (dk_at dksL_law_6 15 rfl rfl)
theorem dL_law_157 : decode cL_law 157 = .ok (.aload_n 3, 1) := dk_45 (dk_at dksL_law_6 18 rfl rfl)
theorem dL_law_158 : decode cL_law 158 = .ok (.iconst 0, 1) := dk_3 (dk_at dksL_law_6 19 rfl rfl)
theorem dL_law_159 : decode cL_law 159 = .ok (.laload, 1) := dk_47 (dk_at dksL_law_6 20 rfl rfl)
theorem dL_law_160 : decode cL_law 160 = .ok (.iload 6, 2) := dk_21 6 (dk_at dksL_law_6 21 rfl rfl)
theorem dL_law_162 : decode cL_law 162 = .ok (.i2l, 1) := dk_133 (dk_at dksL_law_6 23 rfl rfl)
theorem dL_law_163 : decode cL_law 163 = .ok (.lcmp, 1) := dk_148 (dk_at dksL_law_7 0 rfl rfl)
theorem dL_law_164 : decode cL_law 164 = .ok (.ifCond .eq 5, 3) := dk_153 0 5 (dk_at dksL_law_7 1 rfl rfl)
theorem dL_law_167 : decode cL_law 167 = .ok (.iconst 0, 1) := dk_3 (dk_at dksL_law_7 4 rfl rfl)
theorem dL_law_168 : decode cL_law 168 = .ok (.ireturn, 1) := dk_172 (dk_at dksL_law_7 5 rfl rfl)
theorem dL_law_169 : decode cL_law 169 = .ok (.goto 183, 3) := dk_167 0 183 (dk_at dksL_law_7 6 rfl rfl)
theorem dL_law_172 : decode cL_law 172 = .ok (.aload_n 1, 1) := dk_43 (dk_at dksL_law_7 9 rfl rfl)
theorem dL_law_173 : decode cL_law 173 = .ok (.aload_n 0, 1) := dk_42 (dk_at dksL_law_7 10 rfl rfl)
theorem dL_law_174 : decode cL_law 174 = .ok (.iload 4, 2) := dk_21 4 (dk_at dksL_law_7 11 rfl rfl)
theorem dL_law_176 : decode cL_law 176 = .ok (.iconst 1, 1) := dk_4 (dk_at dksL_law_7 13 rfl rfl)
theorem dL_law_177 : decode cL_law 177 = .ok (.iadd, 1) := dk_96 (dk_at dksL_law_7 14 rfl rfl)
theorem dL_law_178 : decode cL_law 178 = .ok (.iaload, 1) := dk_46 (dk_at dksL_law_7 15 rfl rfl)
theorem dL_law_179 : decode cL_law 179 = .ok (.aload_n 3, 1) := dk_45 (dk_at dksL_law_7 16 rfl rfl)
theorem dL_law_180 : decode cL_law 180 = .ok (.invokestatic 42, 3) := dk_184 0 42 (dk_at dksL_law_7 17 rfl rfl)
theorem dL_law_183 : decode cL_law 183 = .ok (.istore 5, 2) := dk_54 5 (dk_at dksL_law_7 20 rfl rfl)
theorem dL_law_185 : decode cL_law 185 = .ok (.aload_n 2, 1) := dk_44 (dk_at dksL_law_7 22 rfl rfl)
theorem dL_law_186 : decode cL_law 186 = .ok (.aload_n 0, 1) := dk_42 (dk_at dksL_law_7 23 rfl rfl)
theorem dL_law_187 : decode cL_law 187 = .ok (.iload 4, 2) := dk_21 4 (dk_at dksL_law_8 0 rfl rfl)
theorem dL_law_189 : decode cL_law 189 = .ok (.iconst 1, 1) := dk_4 (dk_at dksL_law_8 2 rfl rfl)
theorem dL_law_190 : decode cL_law 190 = .ok (.iadd, 1) := dk_96 (dk_at dksL_law_8 3 rfl rfl)
theorem dL_law_191 : decode cL_law 191 = .ok (.iaload, 1) := dk_46 (dk_at dksL_law_8 4 rfl rfl)
theorem dL_law_192 : decode cL_law 192 = .ok (.invokevirtual 45, 3) := dk_182 0 45 (dk_at dksL_law_8 5 rfl rfl)
theorem dL_law_195 : decode cL_law 195 = .ok (.istore 6, 2) := dk_54 6 (dk_at dksL_law_8 8 rfl rfl)
theorem dL_law_197 : decode cL_law 197 = .ok (.aload_n 2, 1) := dk_44 (dk_at dksL_law_8 10 rfl rfl)
theorem dL_law_198 : decode cL_law 198 = .ok (.invokevirtual 38, 3) := dk_182 0 38 (dk_at dksL_law_8 11 rfl rfl)
theorem dL_law_201 : decode cL_law 201 = .ok (.iload 5, 2) := dk_21 5 (dk_at dksL_law_8 14 rfl rfl)
theorem dL_law_203 : decode cL_law 203 = .ok (.if_icmp .eq 5, 3) := dk_159 0 5 (dk_at dksL_law_8 16 rfl rfl)
theorem dL_law_206 : decode cL_law 206 = .ok (.iconst 0, 1) := dk_3 (dk_at dksL_law_8 19 rfl rfl)
theorem dL_law_207 : decode cL_law 207 = .ok (.ireturn, 1) := dk_172 (dk_at dksL_law_8 20 rfl rfl)
theorem dL_law_208 : decode cL_law 208 = .ok (.iload 5, 2) := dk_21 5 (dk_at dksL_law_8 21 rfl rfl)
theorem dL_law_210 : decode cL_law 210 = .ok (.ifCond .ne 15, 3) := dk_154 0 15 (dk_at dksL_law_9 0 rfl rfl)
theorem dL_law_213 : decode cL_law 213 = .ok (.aload_n 3, 1) := dk_45 (dk_at dksL_law_9 3 rfl rfl)
theorem dL_law_214 : decode cL_law 214 = .ok (.iconst 0, 1) := dk_3 (dk_at dksL_law_9 4 rfl rfl)
theorem dL_law_215 : decode cL_law 215 = .ok (.laload, 1) := dk_47 (dk_at dksL_law_9 5 rfl rfl)
theorem dL_law_216 : decode cL_law 216 = .ok (.iload 6, 2) := dk_21 6 (dk_at dksL_law_9 6 rfl rfl)
theorem dL_law_218 : decode cL_law 218 = .ok (.i2l, 1) := dk_133 (dk_at dksL_law_9 8 rfl rfl)
theorem dL_law_219 : decode cL_law 219 = .ok (.lcmp, 1) := dk_148 (dk_at dksL_law_9 9 rfl rfl)
theorem dL_law_220 : decode cL_law 220 = .ok (.ifCond .eq 5, 3) := dk_153 0 5 (dk_at dksL_law_9 10 rfl rfl)
theorem dL_law_223 : decode cL_law 223 = .ok (.iconst 0, 1) := dk_3 (dk_at dksL_law_9 13 rfl rfl)
theorem dL_law_224 : decode cL_law 224 = .ok (.ireturn, 1) := dk_172 (dk_at dksL_law_9 14 rfl rfl)
theorem dL_law_225 : decode cL_law 225 = .ok (.goto 127, 3) := dk_167 0 127 (dk_at dksL_law_9 15 rfl rfl)
theorem dL_law_228 : decode cL_law 228 = .ok (.aload_n 1, 1) := dk_43 (dk_at dksL_law_9 18 rfl rfl)
theorem dL_law_229 : decode cL_law 229 = .ok (.aload_n 0, 1) := dk_42 (dk_at dksL_law_9 19 rfl rfl)
theorem dL_law_230 : decode cL_law 230 = .ok (.iload 4, 2) := dk_21 4 (dk_at dksL_law_9 20 rfl rfl)
theorem dL_law_232 : decode cL_law 232 = .ok (.iconst 1, 1) := dk_4 (dk_at dksL_law_9 22 rfl rfl)
theorem dL_law_233 : decode cL_law 233 = .ok (.iadd, 1) := dk_96 (dk_at dksL_law_9 23 rfl rfl)
theorem dL_law_234 : decode cL_law 234 = .ok (.iaload, 1) := dk_46 (dk_at dksL_law_10 0 rfl rfl)
theorem dL_law_235 : decode cL_law 235 = .ok (.aload_n 0, 1) := dk_42 (dk_at dksL_law_10 1 rfl rfl)
theorem dL_law_236 : decode cL_law 236 = .ok (.iload 4, 2) := dk_21 4 (dk_at dksL_law_10 2 rfl rfl)
theorem dL_law_238 : decode cL_law 238 = .ok (.iconst 2, 1) := dk_5 (dk_at dksL_law_10 4 rfl rfl)
theorem dL_law_239 : decode cL_law 239 = .ok (.iadd, 1) := dk_96 (dk_at dksL_law_10 5 rfl rfl)
theorem dL_law_240 : decode cL_law 240 = .ok (.iaload, 1) := dk_46 (dk_at dksL_law_10 6 rfl rfl)
theorem dL_law_241 : decode cL_law 241 = .ok (.aload_n 3, 1) := dk_45 (dk_at dksL_law_10 7 rfl rfl)
theorem dL_law_242 : decode cL_law 242 = .ok (.invokestatic 46, 3) := dk_184 0 46 (dk_at dksL_law_10 8 rfl rfl)
theorem dL_law_245 : decode cL_law 245 = .ok (.istore 5, 2) := dk_54 5 (dk_at dksL_law_10 11 rfl rfl)
theorem dL_law_247 : decode cL_law 247 = .ok (.aload_n 2, 1) := dk_44 (dk_at dksL_law_10 13 rfl rfl)
theorem dL_law_248 : decode cL_law 248 = .ok (.aload_n 0, 1) := dk_42 (dk_at dksL_law_10 14 rfl rfl)
theorem dL_law_249 : decode cL_law 249 = .ok (.iload 4, 2) := dk_21 4 (dk_at dksL_law_10 15 rfl rfl)
theorem dL_law_251 : decode cL_law 251 = .ok (.iconst 1, 1) := dk_4 (dk_at dksL_law_10 17 rfl rfl)
theorem dL_law_252 : decode cL_law 252 = .ok (.iadd, 1) := dk_96 (dk_at dksL_law_10 18 rfl rfl)
theorem dL_law_253 : decode cL_law 253 = .ok (.iaload, 1) := dk_46 (dk_at dksL_law_10 19 rfl rfl)
theorem dL_law_254 : decode cL_law 254 = .ok (.aload_n 0, 1) := dk_42 (dk_at dksL_law_10 20 rfl rfl)
theorem dL_law_255 : decode cL_law 255 = .ok (.iload 4, 2) := dk_21 4 (dk_at dksL_law_10 21 rfl rfl)
theorem dL_law_257 : decode cL_law 257 = .ok (.iconst 2, 1) := dk_5 (dk_at dksL_law_10 23 rfl rfl)
theorem dL_law_258 : decode cL_law 258 = .ok (.iadd, 1) := dk_96 (dk_at dksL_law_11 0 rfl rfl)
theorem dL_law_259 : decode cL_law 259 = .ok (.iaload, 1) := dk_46 (dk_at dksL_law_11 1 rfl rfl)
theorem dL_law_260 : decode cL_law 260 = .ok (.invokevirtual 49, 3) := dk_182 0 49 (dk_at dksL_law_11 2 rfl rfl)
theorem dL_law_263 : decode cL_law 263 = .ok (.istore 6, 2) := dk_54 6 (dk_at dksL_law_11 5 rfl rfl)
theorem dL_law_265 : decode cL_law 265 = .ok (.aload_n 2, 1) := dk_44 (dk_at dksL_law_11 7 rfl rfl)
theorem dL_law_266 : decode cL_law 266 = .ok (.invokevirtual 38, 3) := dk_182 0 38 (dk_at dksL_law_11 8 rfl rfl)
theorem dL_law_269 : decode cL_law 269 = .ok (.iload 5, 2) := dk_21 5 (dk_at dksL_law_11 11 rfl rfl)
theorem dL_law_271 : decode cL_law 271 = .ok (.if_icmp .eq 5, 3) := dk_159 0 5 (dk_at dksL_law_11 13 rfl rfl)
theorem dL_law_274 : decode cL_law 274 = .ok (.iconst 0, 1) := dk_3 (dk_at dksL_law_11 16 rfl rfl)
theorem dL_law_275 : decode cL_law 275 = .ok (.ireturn, 1) := dk_172 (dk_at dksL_law_11 17 rfl rfl)
theorem dL_law_276 : decode cL_law 276 = .ok (.iload 5, 2) := dk_21 5 (dk_at dksL_law_11 18 rfl rfl)
theorem dL_law_278 : decode cL_law 278 = .ok (.ifCond .ne 15, 3) := dk_154 0 15 (dk_at dksL_law_11 20 rfl rfl)
theorem dL_law_281 : decode cL_law 281 = .ok (.aload_n 3, 1) := dk_45 (dk_at dksL_law_11 23 rfl rfl)
theorem dL_law_282 : decode cL_law 282 = .ok (.iconst 0, 1) := dk_3 (dk_at dksL_law_12 0 rfl rfl)
theorem dL_law_283 : decode cL_law 283 = .ok (.laload, 1) := dk_47 (dk_at dksL_law_12 1 rfl rfl)
theorem dL_law_284 : decode cL_law 284 = .ok (.iload 6, 2) := dk_21 6 (dk_at dksL_law_12 2 rfl rfl)
theorem dL_law_286 : decode cL_law 286 = .ok (.i2l, 1) := dk_133 (dk_at dksL_law_12 4 rfl rfl)
theorem dL_law_287 : decode cL_law 287 = .ok (.lcmp, 1) := dk_148 (dk_at dksL_law_12 5 rfl rfl)
theorem dL_law_288 : decode cL_law 288 = .ok (.ifCond .eq 5, 3) := dk_153 0 5 (dk_at dksL_law_12 6 rfl rfl)
theorem dL_law_291 : decode cL_law 291 = .ok (.iconst 0, 1) := dk_3 (dk_at dksL_law_12 9 rfl rfl)
theorem dL_law_292 : decode cL_law 292 = .ok (.ireturn, 1) := dk_172 (dk_at dksL_law_12 10 rfl rfl)
theorem dL_law_293 : decode cL_law 293 = .ok (.goto 59, 3) := dk_167 0 59 (dk_at dksL_law_12 11 rfl rfl)
theorem dL_law_296 : decode cL_law 296 = .ok (.aload_n 1, 1) := dk_43 (dk_at dksL_law_12 14 rfl rfl)
theorem dL_law_297 : decode cL_law 297 = .ok (.aload_n 0, 1) := dk_42 (dk_at dksL_law_12 15 rfl rfl)
theorem dL_law_298 : decode cL_law 298 = .ok (.iload 4, 2) := dk_21 4 (dk_at dksL_law_12 16 rfl rfl)
theorem dL_law_300 : decode cL_law 300 = .ok (.iconst 1, 1) := dk_4 (dk_at dksL_law_12 18 rfl rfl)
theorem dL_law_301 : decode cL_law 301 = .ok (.iadd, 1) := dk_96 (dk_at dksL_law_12 19 rfl rfl)
theorem dL_law_302 : decode cL_law 302 = .ok (.iaload, 1) := dk_46 (dk_at dksL_law_12 20 rfl rfl)
theorem dL_law_303 : decode cL_law 303 = .ok (.aload_n 3, 1) := dk_45 (dk_at dksL_law_12 21 rfl rfl)
theorem dL_law_304 : decode cL_law 304 = .ok (.invokestatic 50, 3) := dk_184 0 50 (dk_at dksL_law_13 0 rfl rfl)
theorem dL_law_307 : decode cL_law 307 = .ok (.istore 5, 2) := dk_54 5 (dk_at dksL_law_13 3 rfl rfl)
theorem dL_law_309 : decode cL_law 309 = .ok (.aload_n 2, 1) := dk_44 (dk_at dksL_law_13 5 rfl rfl)
theorem dL_law_310 : decode cL_law 310 = .ok (.aload_n 0, 1) := dk_42 (dk_at dksL_law_13 6 rfl rfl)
theorem dL_law_311 : decode cL_law 311 = .ok (.iload 4, 2) := dk_21 4 (dk_at dksL_law_13 7 rfl rfl)
theorem dL_law_313 : decode cL_law 313 = .ok (.iconst 1, 1) := dk_4 (dk_at dksL_law_13 9 rfl rfl)
theorem dL_law_314 : decode cL_law 314 = .ok (.iadd, 1) := dk_96 (dk_at dksL_law_13 10 rfl rfl)
theorem dL_law_315 : decode cL_law 315 = .ok (.iaload, 1) := dk_46 (dk_at dksL_law_13 11 rfl rfl)
theorem dL_law_316 : decode cL_law 316 = .ok (.invokevirtual 52, 3) := dk_182 0 52 (dk_at dksL_law_13 12 rfl rfl)
theorem dL_law_319 : decode cL_law 319 = .ok (.istore 6, 2) := dk_54 6 (dk_at dksL_law_13 15 rfl rfl)
theorem dL_law_321 : decode cL_law 321 = .ok (.aload_n 2, 1) := dk_44 (dk_at dksL_law_13 17 rfl rfl)
theorem dL_law_322 : decode cL_law 322 = .ok (.invokevirtual 38, 3) := dk_182 0 38 (dk_at dksL_law_13 18 rfl rfl)
theorem dL_law_325 : decode cL_law 325 = .ok (.iload 5, 2) := dk_21 5 (dk_at dksL_law_13 21 rfl rfl)
theorem dL_law_327 : decode cL_law 327 = .ok (.if_icmp .eq 5, 3) := dk_159 0 5 (dk_at dksL_law_14 0 rfl rfl)
theorem dL_law_330 : decode cL_law 330 = .ok (.iconst 0, 1) := dk_3 (dk_at dksL_law_14 3 rfl rfl)
theorem dL_law_331 : decode cL_law 331 = .ok (.ireturn, 1) := dk_172 (dk_at dksL_law_14 4 rfl rfl)
theorem dL_law_332 : decode cL_law 332 = .ok (.iload 5, 2) := dk_21 5 (dk_at dksL_law_14 5 rfl rfl)
theorem dL_law_334 : decode cL_law 334 = .ok (.ifCond .ne 15, 3) := dk_154 0 15 (dk_at dksL_law_14 7 rfl rfl)
theorem dL_law_337 : decode cL_law 337 = .ok (.aload_n 3, 1) := dk_45 (dk_at dksL_law_14 10 rfl rfl)
theorem dL_law_338 : decode cL_law 338 = .ok (.iconst 0, 1) := dk_3 (dk_at dksL_law_14 11 rfl rfl)
theorem dL_law_339 : decode cL_law 339 = .ok (.laload, 1) := dk_47 (dk_at dksL_law_14 12 rfl rfl)
theorem dL_law_340 : decode cL_law 340 = .ok (.iload 6, 2) := dk_21 6 (dk_at dksL_law_14 13 rfl rfl)
theorem dL_law_342 : decode cL_law 342 = .ok (.i2l, 1) := dk_133 (dk_at dksL_law_14 15 rfl rfl)
theorem dL_law_343 : decode cL_law 343 = .ok (.lcmp, 1) := dk_148 (dk_at dksL_law_14 16 rfl rfl)
theorem dL_law_344 : decode cL_law 344 = .ok (.ifCond .eq 5, 3) := dk_153 0 5 (dk_at dksL_law_14 17 rfl rfl)
theorem dL_law_347 : decode cL_law 347 = .ok (.iconst 0, 1) := dk_3 (dk_at dksL_law_14 20 rfl rfl)
theorem dL_law_348 : decode cL_law 348 = .ok (.ireturn, 1) := dk_172 (dk_at dksL_law_14 21 rfl rfl)
theorem dL_law_349 : decode cL_law 349 = .ok (.goto 3, 3) := dk_167 0 3 (dk_at dksL_law_15 0 rfl rfl)
theorem dL_law_352 : decode cL_law 352 = .ok (.iinc 4 6, 3) := dk_132 4 6 (dk_at dksL_law_15 3 rfl rfl)
theorem dL_law_355 : decode cL_law 355 = .ok (.goto (-332), 3) := dk_167 254 180 (dk_at dksL_law_15 6 rfl rfl)
theorem dL_law_358 : decode cL_law 358 = .ok (.iconst 1, 1) := dk_4 (dk_at dksL_law_15 9 rfl rfl)
theorem dL_law_359 : decode cL_law 359 = .ok (.ireturn, 1) := dk_172 (dk_at dksL_law_15 10 rfl rfl)
/-! ModuleGate -/
set_option maxRecDepth 100000
def RX1 : String := "ModuleGate"
def TX1 : u_T := fun k => match k with
  | 0 => ("ModuleGate", "fed", "[B", true)
  | 1 => ("ModuleGate", "fedCount", "I", false)
  | 2 => ("ModuleGate", "program", "LModuleGate$Program;", true)
  | 3 => ("ModuleGate", "reader", "LModuleGate$Reader;", true)
  | _ => ("ModuleGate", "there", "Z", false)
def tyX1 : Nat → FieldType := fun k => match k with
  | 0 => .array .byte
  | 1 => .int
  | 2 => .object "ModuleGate$Program"
  | 3 => .object "ModuleGate$Reader"
  | _ => .boolean
abbrev wsX10 : List Cond := u_ws RX1 TX1 5
theorem nmX1 : ∀ a, a < 5 → ∀ b, b < 5 → a ≠ b → (TX1 a).2.1 ≠ (TX1 b).2.1 := by decide +kernel
theorem tyX1_ok : ∀ k, k < 5 → parseFieldDescriptor (TX1 k).2.2.1 = some (tyX1 k) := by decide +kernel
abbrev cX1_init : ByteArray := prog_1_method_1_code
def yX1_init : MethodName := ⟨RX1, "<init>", "()V"⟩
def dkwX1_init_1 : List UInt8 := [42, 187, 0, 20, 89, 183, 0, 22, 181, 0, 23, 42, 180, 0, 16, 182, 0, 27, 177]
abbrev dktX1_init_1 : List UInt8 := dkwX1_init_1 ++ []
def dkwX1_init_0 : List UInt8 := [42, 183, 0, 1, 42, 17, 48, 12, 188, 8, 181, 0, 9, 42, 187, 0, 13, 89, 183, 0, 15, 181, 0, 16]
abbrev dktX1_init_0 : List UInt8 := dkwX1_init_0 ++ dktX1_init_1
theorem dksX1_init_0 : cX1_init.data.toList.drop 0 = dktX1_init_0 := by decide +kernel
theorem dksX1_init_1 : cX1_init.data.toList.drop 24 = dktX1_init_1 := dk_seg dksX1_init_0 24 rfl rfl
theorem dX1_init_0 : decode cX1_init 0 = .ok (.aload_n 0, 1) := dk_42 (dk_at dksX1_init_0 0 rfl rfl)
theorem dX1_init_1 : decode cX1_init 1 = .ok (.invokespecial 1, 3) := dk_183 0 1 (dk_at dksX1_init_0 1 rfl rfl)
theorem dX1_init_4 : decode cX1_init 4 = .ok (.aload_n 0, 1) := dk_42 (dk_at dksX1_init_0 4 rfl rfl)
theorem dX1_init_5 : decode cX1_init 5 = .ok (.sipush 12300, 3) := dk_17 48 12 (dk_at dksX1_init_0 5 rfl rfl)
theorem dX1_init_8 : decode cX1_init 8 = .ok (.newarray .byte, 2) := dk_188_8 (dk_at dksX1_init_0 8 rfl rfl)
theorem dX1_init_10 : decode cX1_init 10 = .ok (.putfield 9, 3) := dk_181 0 9 (dk_at dksX1_init_0 10 rfl rfl)
theorem dX1_init_13 : decode cX1_init 13 = .ok (.aload_n 0, 1) := dk_42 (dk_at dksX1_init_0 13 rfl rfl)
theorem dX1_init_14 : decode cX1_init 14 = .ok (.new 13, 3) := dk_187 0 13 (dk_at dksX1_init_0 14 rfl rfl)
theorem dX1_init_17 : decode cX1_init 17 = .ok (.dup, 1) := dk_89 (dk_at dksX1_init_0 17 rfl rfl)
theorem dX1_init_18 : decode cX1_init 18 = .ok (.invokespecial 15, 3) := dk_183 0 15 (dk_at dksX1_init_0 18 rfl rfl)
theorem dX1_init_21 : decode cX1_init 21 = .ok (.putfield 16, 3) := dk_181 0 16 (dk_at dksX1_init_0 21 rfl rfl)
theorem dX1_init_24 : decode cX1_init 24 = .ok (.aload_n 0, 1) := dk_42 (dk_at dksX1_init_1 0 rfl rfl)
theorem dX1_init_25 : decode cX1_init 25 = .ok (.new 20, 3) := dk_187 0 20 (dk_at dksX1_init_1 1 rfl rfl)
theorem dX1_init_28 : decode cX1_init 28 = .ok (.dup, 1) := dk_89 (dk_at dksX1_init_1 4 rfl rfl)
theorem dX1_init_29 : decode cX1_init 29 = .ok (.invokespecial 22, 3) := dk_183 0 22 (dk_at dksX1_init_1 5 rfl rfl)
theorem dX1_init_32 : decode cX1_init 32 = .ok (.putfield 23, 3) := dk_181 0 23 (dk_at dksX1_init_1 8 rfl rfl)
theorem dX1_init_35 : decode cX1_init 35 = .ok (.aload_n 0, 1) := dk_42 (dk_at dksX1_init_1 11 rfl rfl)
theorem dX1_init_36 : decode cX1_init 36 = .ok (.getfield 16, 3) := dk_180 0 16 (dk_at dksX1_init_1 12 rfl rfl)
theorem dX1_init_39 : decode cX1_init 39 = .ok (.invokevirtual 27, 3) := dk_182 0 27 (dk_at dksX1_init_1 15 rfl rfl)
theorem dX1_init_42 : decode cX1_init 42 = .ok (.return_, 1) := dk_177 (dk_at dksX1_init_1 18 rfl rfl)
abbrev cX1_feed : ByteArray := prog_1_method_2_code
def yX1_feed : MethodName := ⟨RX1, "feed", "(IIIII)I"⟩
def dkwX1_feed_5 : List UInt8 := [181, 0, 30, 42, 180, 0, 30, 172]
abbrev dktX1_feed_5 : List UInt8 := dkwX1_feed_5 ++ []
def dkwX1_feed_4 : List UInt8 := [21, 6, 7, 112, 104, 100, 122, 145, 84, 132, 6, 1, 167, 255, 172, 42, 89, 180, 0, 30, 16, 20, 96]
abbrev dktX1_feed_4 : List UInt8 := dkwX1_feed_4 ++ dktX1_feed_5
def dkwX1_feed_3 : List UInt8 := [167, 0, 5, 21, 5, 54, 7, 42, 180, 0, 9, 42, 180, 0, 30, 21, 6, 96, 21, 7, 16, 24, 16, 8]
abbrev dktX1_feed_3 : List UInt8 := dkwX1_feed_3 ++ dktX1_feed_4
def dkwX1_feed_2 : List UInt8 := [28, 167, 0, 28, 21, 6, 16, 12, 162, 0, 7, 29, 167, 0, 17, 21, 6, 16, 16, 162, 0, 8, 21, 4]
abbrev dktX1_feed_2 : List UInt8 := dkwX1_feed_2 ++ dktX1_feed_3
def dkwX1_feed_1 : List UInt8 := [21, 6, 16, 20, 162, 0, 83, 21, 6, 7, 162, 0, 7, 27, 167, 0, 39, 21, 6, 16, 8, 162, 0, 7]
abbrev dktX1_feed_1 : List UInt8 := dkwX1_feed_1 ++ dktX1_feed_2
def dkwX1_feed_0 : List UInt8 := [42, 180, 0, 30, 16, 20, 96, 17, 48, 12, 164, 0, 11, 187, 0, 34, 89, 183, 0, 36, 191, 3, 54, 6]
abbrev dktX1_feed_0 : List UInt8 := dkwX1_feed_0 ++ dktX1_feed_1
theorem dksX1_feed_0 : cX1_feed.data.toList.drop 0 = dktX1_feed_0 := by decide +kernel
theorem dksX1_feed_1 : cX1_feed.data.toList.drop 24 = dktX1_feed_1 := dk_seg dksX1_feed_0 24 rfl rfl
theorem dksX1_feed_2 : cX1_feed.data.toList.drop 48 = dktX1_feed_2 := dk_seg dksX1_feed_1 24 rfl rfl
theorem dksX1_feed_3 : cX1_feed.data.toList.drop 72 = dktX1_feed_3 := dk_seg dksX1_feed_2 24 rfl rfl
theorem dksX1_feed_4 : cX1_feed.data.toList.drop 96 = dktX1_feed_4 := dk_seg dksX1_feed_3 24 rfl rfl
theorem dksX1_feed_5 : cX1_feed.data.toList.drop 119 = dktX1_feed_5 := dk_seg dksX1_feed_4 23 rfl rfl
theorem dX1_feed_0 : decode cX1_feed 0 = .ok (.aload_n 0, 1) := dk_42 (dk_at dksX1_feed_0 0 rfl rfl)
theorem dX1_feed_1 : decode cX1_feed 1 = .ok (.getfield 30, 3) := dk_180 0 30 (dk_at dksX1_feed_0 1 rfl rfl)
theorem dX1_feed_4 : decode cX1_feed 4 = .ok (.bipush 20, 2) := dk_16 20 (dk_at dksX1_feed_0 4 rfl rfl)
theorem dX1_feed_6 : decode cX1_feed 6 = .ok (.iadd, 1) := dk_96 (dk_at dksX1_feed_0 6 rfl rfl)
theorem dX1_feed_7 : decode cX1_feed 7 = .ok (.sipush 12300, 3) := dk_17 48 12 (dk_at dksX1_feed_0 7 rfl rfl)
theorem dX1_feed_10 : decode cX1_feed 10 = .ok (.if_icmp .le 11, 3) := dk_164 0 11 (dk_at dksX1_feed_0 10 rfl rfl)
theorem dX1_feed_13 : decode cX1_feed 13 = .ok (.new 34, 3) := dk_187 0 34 (dk_at dksX1_feed_0 13 rfl rfl)
theorem dX1_feed_16 : decode cX1_feed 16 = .ok (.dup, 1) := dk_89 (dk_at dksX1_feed_0 16 rfl rfl)
theorem dX1_feed_17 : decode cX1_feed 17 = .ok (.invokespecial 36, 3) := dk_183 0 36 (dk_at dksX1_feed_0 17 rfl rfl)
theorem dX1_feed_20 : decode cX1_feed 20 = .ok (.athrow, 1) := dk_191 (dk_at dksX1_feed_0 20 rfl rfl)
theorem dX1_feed_21 : decode cX1_feed 21 = .ok (.iconst 0, 1) := dk_3 (dk_at dksX1_feed_0 21 rfl rfl)
theorem dX1_feed_22 : decode cX1_feed 22 = .ok (.istore 6, 2) := dk_54 6 (dk_at dksX1_feed_0 22 rfl rfl)
theorem dX1_feed_24 : decode cX1_feed 24 = .ok (.iload 6, 2) := dk_21 6 (dk_at dksX1_feed_1 0 rfl rfl)
theorem dX1_feed_26 : decode cX1_feed 26 = .ok (.bipush 20, 2) := dk_16 20 (dk_at dksX1_feed_1 2 rfl rfl)
theorem dX1_feed_28 : decode cX1_feed 28 = .ok (.if_icmp .ge 83, 3) := dk_162 0 83 (dk_at dksX1_feed_1 4 rfl rfl)
theorem dX1_feed_31 : decode cX1_feed 31 = .ok (.iload 6, 2) := dk_21 6 (dk_at dksX1_feed_1 7 rfl rfl)
theorem dX1_feed_33 : decode cX1_feed 33 = .ok (.iconst 4, 1) := dk_7 (dk_at dksX1_feed_1 9 rfl rfl)
theorem dX1_feed_34 : decode cX1_feed 34 = .ok (.if_icmp .ge 7, 3) := dk_162 0 7 (dk_at dksX1_feed_1 10 rfl rfl)
theorem dX1_feed_37 : decode cX1_feed 37 = .ok (.iload_n 1, 1) := dk_27 (dk_at dksX1_feed_1 13 rfl rfl)
theorem dX1_feed_38 : decode cX1_feed 38 = .ok (.goto 39, 3) := dk_167 0 39 (dk_at dksX1_feed_1 14 rfl rfl)
theorem dX1_feed_41 : decode cX1_feed 41 = .ok (.iload 6, 2) := dk_21 6 (dk_at dksX1_feed_1 17 rfl rfl)
theorem dX1_feed_43 : decode cX1_feed 43 = .ok (.bipush 8, 2) := dk_16 8 (dk_at dksX1_feed_1 19 rfl rfl)
theorem dX1_feed_45 : decode cX1_feed 45 = .ok (.if_icmp .ge 7, 3) := dk_162 0 7 (dk_at dksX1_feed_1 21 rfl rfl)
theorem dX1_feed_48 : decode cX1_feed 48 = .ok (.iload_n 2, 1) := dk_28 (dk_at dksX1_feed_2 0 rfl rfl)
theorem dX1_feed_49 : decode cX1_feed 49 = .ok (.goto 28, 3) := dk_167 0 28 (dk_at dksX1_feed_2 1 rfl rfl)
theorem dX1_feed_52 : decode cX1_feed 52 = .ok (.iload 6, 2) := dk_21 6 (dk_at dksX1_feed_2 4 rfl rfl)
theorem dX1_feed_54 : decode cX1_feed 54 = .ok (.bipush 12, 2) := dk_16 12 (dk_at dksX1_feed_2 6 rfl rfl)
theorem dX1_feed_56 : decode cX1_feed 56 = .ok (.if_icmp .ge 7, 3) := dk_162 0 7 (dk_at dksX1_feed_2 8 rfl rfl)
theorem dX1_feed_59 : decode cX1_feed 59 = .ok (.iload_n 3, 1) := dk_29 (dk_at dksX1_feed_2 11 rfl rfl)
theorem dX1_feed_60 : decode cX1_feed 60 = .ok (.goto 17, 3) := dk_167 0 17 (dk_at dksX1_feed_2 12 rfl rfl)
theorem dX1_feed_63 : decode cX1_feed 63 = .ok (.iload 6, 2) := dk_21 6 (dk_at dksX1_feed_2 15 rfl rfl)
theorem dX1_feed_65 : decode cX1_feed 65 = .ok (.bipush 16, 2) := dk_16 16 (dk_at dksX1_feed_2 17 rfl rfl)
theorem dX1_feed_67 : decode cX1_feed 67 = .ok (.if_icmp .ge 8, 3) := dk_162 0 8 (dk_at dksX1_feed_2 19 rfl rfl)
theorem dX1_feed_70 : decode cX1_feed 70 = .ok (.iload 4, 2) := dk_21 4 (dk_at dksX1_feed_2 22 rfl rfl)
theorem dX1_feed_72 : decode cX1_feed 72 = .ok (.goto 5, 3) := dk_167 0 5 (dk_at dksX1_feed_3 0 rfl rfl)
theorem dX1_feed_75 : decode cX1_feed 75 = .ok (.iload 5, 2) := dk_21 5 (dk_at dksX1_feed_3 3 rfl rfl)
theorem dX1_feed_77 : decode cX1_feed 77 = .ok (.istore 7, 2) := dk_54 7 (dk_at dksX1_feed_3 5 rfl rfl)
theorem dX1_feed_79 : decode cX1_feed 79 = .ok (.aload_n 0, 1) := dk_42 (dk_at dksX1_feed_3 7 rfl rfl)
theorem dX1_feed_80 : decode cX1_feed 80 = .ok (.getfield 9, 3) := dk_180 0 9 (dk_at dksX1_feed_3 8 rfl rfl)
theorem dX1_feed_83 : decode cX1_feed 83 = .ok (.aload_n 0, 1) := dk_42 (dk_at dksX1_feed_3 11 rfl rfl)
theorem dX1_feed_84 : decode cX1_feed 84 = .ok (.getfield 30, 3) := dk_180 0 30 (dk_at dksX1_feed_3 12 rfl rfl)
theorem dX1_feed_87 : decode cX1_feed 87 = .ok (.iload 6, 2) := dk_21 6 (dk_at dksX1_feed_3 15 rfl rfl)
theorem dX1_feed_89 : decode cX1_feed 89 = .ok (.iadd, 1) := dk_96 (dk_at dksX1_feed_3 17 rfl rfl)
theorem dX1_feed_90 : decode cX1_feed 90 = .ok (.iload 7, 2) := dk_21 7 (dk_at dksX1_feed_3 18 rfl rfl)
theorem dX1_feed_92 : decode cX1_feed 92 = .ok (.bipush 24, 2) := dk_16 24 (dk_at dksX1_feed_3 20 rfl rfl)
theorem dX1_feed_94 : decode cX1_feed 94 = .ok (.bipush 8, 2) := dk_16 8 (dk_at dksX1_feed_3 22 rfl rfl)
theorem dX1_feed_96 : decode cX1_feed 96 = .ok (.iload 6, 2) := dk_21 6 (dk_at dksX1_feed_4 0 rfl rfl)
theorem dX1_feed_98 : decode cX1_feed 98 = .ok (.iconst 4, 1) := dk_7 (dk_at dksX1_feed_4 2 rfl rfl)
theorem dX1_feed_99 : decode cX1_feed 99 = .ok (.irem, 1) := dk_112 (dk_at dksX1_feed_4 3 rfl rfl)
theorem dX1_feed_100 : decode cX1_feed 100 = .ok (.imul, 1) := dk_104 (dk_at dksX1_feed_4 4 rfl rfl)
theorem dX1_feed_101 : decode cX1_feed 101 = .ok (.isub, 1) := dk_100 (dk_at dksX1_feed_4 5 rfl rfl)
theorem dX1_feed_102 : decode cX1_feed 102 = .ok (.ishr, 1) := dk_122 (dk_at dksX1_feed_4 6 rfl rfl)
theorem dX1_feed_103 : decode cX1_feed 103 = .ok (.i2b, 1) := dk_145 (dk_at dksX1_feed_4 7 rfl rfl)
theorem dX1_feed_104 : decode cX1_feed 104 = .ok (.bastore, 1) := dk_84 (dk_at dksX1_feed_4 8 rfl rfl)
theorem dX1_feed_105 : decode cX1_feed 105 = .ok (.iinc 6 1, 3) := dk_132 6 1 (dk_at dksX1_feed_4 9 rfl rfl)
theorem dX1_feed_108 : decode cX1_feed 108 = .ok (.goto (-84), 3) := dk_167 255 172 (dk_at dksX1_feed_4 12 rfl rfl)
theorem dX1_feed_111 : decode cX1_feed 111 = .ok (.aload_n 0, 1) := dk_42 (dk_at dksX1_feed_4 15 rfl rfl)
theorem dX1_feed_112 : decode cX1_feed 112 = .ok (.dup, 1) := dk_89 (dk_at dksX1_feed_4 16 rfl rfl)
theorem dX1_feed_113 : decode cX1_feed 113 = .ok (.getfield 30, 3) := dk_180 0 30 (dk_at dksX1_feed_4 17 rfl rfl)
theorem dX1_feed_116 : decode cX1_feed 116 = .ok (.bipush 20, 2) := dk_16 20 (dk_at dksX1_feed_4 20 rfl rfl)
theorem dX1_feed_118 : decode cX1_feed 118 = .ok (.iadd, 1) := dk_96 (dk_at dksX1_feed_4 22 rfl rfl)
theorem dX1_feed_119 : decode cX1_feed 119 = .ok (.putfield 30, 3) := dk_181 0 30 (dk_at dksX1_feed_5 0 rfl rfl)
theorem dX1_feed_122 : decode cX1_feed 122 = .ok (.aload_n 0, 1) := dk_42 (dk_at dksX1_feed_5 3 rfl rfl)
theorem dX1_feed_123 : decode cX1_feed 123 = .ok (.getfield 30, 3) := dk_180 0 30 (dk_at dksX1_feed_5 4 rfl rfl)
theorem dX1_feed_126 : decode cX1_feed 126 = .ok (.ireturn, 1) := dk_172 (dk_at dksX1_feed_5 7 rfl rfl)
abbrev cX1_read : ByteArray := prog_1_method_3_code
def yX1_read : MethodName := ⟨RX1, "read", "(I)I"⟩
def dkwX1_read_3 : List UInt8 := [180, 0, 16, 180, 0, 48, 172]
abbrev dktX1_read_3 : List UInt8 := dkwX1_read_3 ++ []
def dkwX1_read_2 : List UInt8 := [182, 0, 37, 181, 0, 41, 42, 180, 0, 41, 154, 0, 11, 187, 0, 45, 89, 183, 0, 47, 191, 42]
abbrev dktX1_read_2 : List UInt8 := dkwX1_read_2 ++ dktX1_read_3
def dkwX1_read_1 : List UInt8 := [183, 0, 36, 191, 42, 3, 181, 0, 30, 42, 42, 180, 0, 23, 42, 180, 0, 16, 42, 180, 0, 9, 27]
abbrev dktX1_read_1 : List UInt8 := dkwX1_read_1 ++ dktX1_read_2
def dkwX1_read_0 : List UInt8 := [27, 155, 0, 18, 27, 17, 48, 0, 163, 0, 11, 27, 42, 180, 0, 30, 164, 0, 11, 187, 0, 34, 89]
abbrev dktX1_read_0 : List UInt8 := dkwX1_read_0 ++ dktX1_read_1
theorem dksX1_read_0 : cX1_read.data.toList.drop 0 = dktX1_read_0 := by decide +kernel
theorem dksX1_read_1 : cX1_read.data.toList.drop 23 = dktX1_read_1 := dk_seg dksX1_read_0 23 rfl rfl
theorem dksX1_read_2 : cX1_read.data.toList.drop 46 = dktX1_read_2 := dk_seg dksX1_read_1 23 rfl rfl
theorem dksX1_read_3 : cX1_read.data.toList.drop 68 = dktX1_read_3 := dk_seg dksX1_read_2 22 rfl rfl
theorem dX1_read_0 : decode cX1_read 0 = .ok (.iload_n 1, 1) := dk_27 (dk_at dksX1_read_0 0 rfl rfl)
theorem dX1_read_1 : decode cX1_read 1 = .ok (.ifCond .lt 18, 3) := dk_155 0 18 (dk_at dksX1_read_0 1 rfl rfl)
theorem dX1_read_4 : decode cX1_read 4 = .ok (.iload_n 1, 1) := dk_27 (dk_at dksX1_read_0 4 rfl rfl)
theorem dX1_read_5 : decode cX1_read 5 = .ok (.sipush 12288, 3) := dk_17 48 0 (dk_at dksX1_read_0 5 rfl rfl)
theorem dX1_read_8 : decode cX1_read 8 = .ok (.if_icmp .gt 11, 3) := dk_163 0 11 (dk_at dksX1_read_0 8 rfl rfl)
theorem dX1_read_11 : decode cX1_read 11 = .ok (.iload_n 1, 1) := dk_27 (dk_at dksX1_read_0 11 rfl rfl)
theorem dX1_read_12 : decode cX1_read 12 = .ok (.aload_n 0, 1) := dk_42 (dk_at dksX1_read_0 12 rfl rfl)
theorem dX1_read_13 : decode cX1_read 13 = .ok (.getfield 30, 3) := dk_180 0 30 (dk_at dksX1_read_0 13 rfl rfl)
theorem dX1_read_16 : decode cX1_read 16 = .ok (.if_icmp .le 11, 3) := dk_164 0 11 (dk_at dksX1_read_0 16 rfl rfl)
theorem dX1_read_19 : decode cX1_read 19 = .ok (.new 34, 3) := dk_187 0 34 (dk_at dksX1_read_0 19 rfl rfl)
theorem dX1_read_22 : decode cX1_read 22 = .ok (.dup, 1) := dk_89 (dk_at dksX1_read_0 22 rfl rfl)
theorem dX1_read_23 : decode cX1_read 23 = .ok (.invokespecial 36, 3) := dk_183 0 36 (dk_at dksX1_read_1 0 rfl rfl)
theorem dX1_read_26 : decode cX1_read 26 = .ok (.athrow, 1) := dk_191 (dk_at dksX1_read_1 3 rfl rfl)
theorem dX1_read_27 : decode cX1_read 27 = .ok (.aload_n 0, 1) := dk_42 (dk_at dksX1_read_1 4 rfl rfl)
theorem dX1_read_28 : decode cX1_read 28 = .ok (.iconst 0, 1) := dk_3 (dk_at dksX1_read_1 5 rfl rfl)
theorem dX1_read_29 : decode cX1_read 29 = .ok (.putfield 30, 3) := dk_181 0 30 (dk_at dksX1_read_1 6 rfl rfl)
theorem dX1_read_32 : decode cX1_read 32 = .ok (.aload_n 0, 1) := dk_42 (dk_at dksX1_read_1 9 rfl rfl)
theorem dX1_read_33 : decode cX1_read 33 = .ok (.aload_n 0, 1) := dk_42 (dk_at dksX1_read_1 10 rfl rfl)
theorem dX1_read_34 : decode cX1_read 34 = .ok (.getfield 23, 3) := dk_180 0 23 (dk_at dksX1_read_1 11 rfl rfl)
theorem dX1_read_37 : decode cX1_read 37 = .ok (.aload_n 0, 1) := dk_42 (dk_at dksX1_read_1 14 rfl rfl)
theorem dX1_read_38 : decode cX1_read 38 = .ok (.getfield 16, 3) := dk_180 0 16 (dk_at dksX1_read_1 15 rfl rfl)
theorem dX1_read_41 : decode cX1_read 41 = .ok (.aload_n 0, 1) := dk_42 (dk_at dksX1_read_1 18 rfl rfl)
theorem dX1_read_42 : decode cX1_read 42 = .ok (.getfield 9, 3) := dk_180 0 9 (dk_at dksX1_read_1 19 rfl rfl)
theorem dX1_read_45 : decode cX1_read 45 = .ok (.iload_n 1, 1) := dk_27 (dk_at dksX1_read_1 22 rfl rfl)
theorem dX1_read_46 : decode cX1_read 46 = .ok (.invokevirtual 37, 3) := dk_182 0 37 (dk_at dksX1_read_2 0 rfl rfl)
theorem dX1_read_49 : decode cX1_read 49 = .ok (.putfield 41, 3) := dk_181 0 41 (dk_at dksX1_read_2 3 rfl rfl)
theorem dX1_read_52 : decode cX1_read 52 = .ok (.aload_n 0, 1) := dk_42 (dk_at dksX1_read_2 6 rfl rfl)
theorem dX1_read_53 : decode cX1_read 53 = .ok (.getfield 41, 3) := dk_180 0 41 (dk_at dksX1_read_2 7 rfl rfl)
theorem dX1_read_56 : decode cX1_read 56 = .ok (.ifCond .ne 11, 3) := dk_154 0 11 (dk_at dksX1_read_2 10 rfl rfl)
theorem dX1_read_59 : decode cX1_read 59 = .ok (.new 45, 3) := dk_187 0 45 (dk_at dksX1_read_2 13 rfl rfl)
theorem dX1_read_62 : decode cX1_read 62 = .ok (.dup, 1) := dk_89 (dk_at dksX1_read_2 16 rfl rfl)
theorem dX1_read_63 : decode cX1_read 63 = .ok (.invokespecial 47, 3) := dk_183 0 47 (dk_at dksX1_read_2 17 rfl rfl)
theorem dX1_read_66 : decode cX1_read 66 = .ok (.athrow, 1) := dk_191 (dk_at dksX1_read_2 20 rfl rfl)
theorem dX1_read_67 : decode cX1_read 67 = .ok (.aload_n 0, 1) := dk_42 (dk_at dksX1_read_2 21 rfl rfl)
theorem dX1_read_68 : decode cX1_read 68 = .ok (.getfield 16, 3) := dk_180 0 16 (dk_at dksX1_read_3 0 rfl rfl)
theorem dX1_read_71 : decode cX1_read 71 = .ok (.getfield 48, 3) := dk_180 0 48 (dk_at dksX1_read_3 3 rfl rfl)
theorem dX1_read_74 : decode cX1_read 74 = .ok (.ireturn, 1) := dk_172 (dk_at dksX1_read_3 6 rfl rfl)
abbrev cX1_token : ByteArray := prog_1_method_4_code
def yX1_token : MethodName := ⟨RX1, "token", "(II)I"⟩
def dkwX1_token_3 : List UInt8 := [180, 0, 55, 27, 46, 4, 100, 167, 0, 14, 42, 180, 0, 23, 180, 0, 58, 27, 46, 4, 126, 172]
abbrev dktX1_token_3 : List UInt8 := dkwX1_token_3 ++ []
def dkwX1_token_2 : List UInt8 := [154, 0, 15, 42, 180, 0, 23, 180, 0, 51, 27, 46, 167, 0, 33, 28, 4, 160, 0, 17, 42, 180, 0, 23]
abbrev dktX1_token_2 : List UInt8 := dkwX1_token_2 ++ dktX1_token_3
def dkwX1_token_1 : List UInt8 := [27, 155, 0, 14, 27, 42, 180, 0, 16, 180, 0, 48, 161, 0, 11, 187, 0, 34, 89, 183, 0, 36, 191, 28]
abbrev dktX1_token_1 : List UInt8 := dkwX1_token_1 ++ dktX1_token_2
def dkwX1_token_0 : List UInt8 := [28, 155, 0, 8, 28, 5, 164, 0, 11, 187, 0, 45, 89, 183, 0, 47, 191, 42, 180, 0, 41, 153, 0, 18]
abbrev dktX1_token_0 : List UInt8 := dkwX1_token_0 ++ dktX1_token_1
theorem dksX1_token_0 : cX1_token.data.toList.drop 0 = dktX1_token_0 := by decide +kernel
theorem dksX1_token_1 : cX1_token.data.toList.drop 24 = dktX1_token_1 := dk_seg dksX1_token_0 24 rfl rfl
theorem dksX1_token_2 : cX1_token.data.toList.drop 48 = dktX1_token_2 := dk_seg dksX1_token_1 24 rfl rfl
theorem dksX1_token_3 : cX1_token.data.toList.drop 72 = dktX1_token_3 := dk_seg dksX1_token_2 24 rfl rfl
theorem dX1_token_0 : decode cX1_token 0 = .ok (.iload_n 2, 1) := dk_28 (dk_at dksX1_token_0 0 rfl rfl)
theorem dX1_token_1 : decode cX1_token 1 = .ok (.ifCond .lt 8, 3) := dk_155 0 8 (dk_at dksX1_token_0 1 rfl rfl)
theorem dX1_token_4 : decode cX1_token 4 = .ok (.iload_n 2, 1) := dk_28 (dk_at dksX1_token_0 4 rfl rfl)
theorem dX1_token_5 : decode cX1_token 5 = .ok (.iconst 2, 1) := dk_5 (dk_at dksX1_token_0 5 rfl rfl)
theorem dX1_token_6 : decode cX1_token 6 = .ok (.if_icmp .le 11, 3) := dk_164 0 11 (dk_at dksX1_token_0 6 rfl rfl)
theorem dX1_token_9 : decode cX1_token 9 = .ok (.new 45, 3) := dk_187 0 45 (dk_at dksX1_token_0 9 rfl rfl)
theorem dX1_token_12 : decode cX1_token 12 = .ok (.dup, 1) := dk_89 (dk_at dksX1_token_0 12 rfl rfl)
theorem dX1_token_13 : decode cX1_token 13 = .ok (.invokespecial 47, 3) := dk_183 0 47 (dk_at dksX1_token_0 13 rfl rfl)
theorem dX1_token_16 : decode cX1_token 16 = .ok (.athrow, 1) := dk_191 (dk_at dksX1_token_0 16 rfl rfl)
theorem dX1_token_17 : decode cX1_token 17 = .ok (.aload_n 0, 1) := dk_42 (dk_at dksX1_token_0 17 rfl rfl)
theorem dX1_token_18 : decode cX1_token 18 = .ok (.getfield 41, 3) := dk_180 0 41 (dk_at dksX1_token_0 18 rfl rfl)
theorem dX1_token_21 : decode cX1_token 21 = .ok (.ifCond .eq 18, 3) := dk_153 0 18 (dk_at dksX1_token_0 21 rfl rfl)
theorem dX1_token_24 : decode cX1_token 24 = .ok (.iload_n 1, 1) := dk_27 (dk_at dksX1_token_1 0 rfl rfl)
theorem dX1_token_25 : decode cX1_token 25 = .ok (.ifCond .lt 14, 3) := dk_155 0 14 (dk_at dksX1_token_1 1 rfl rfl)
theorem dX1_token_28 : decode cX1_token 28 = .ok (.iload_n 1, 1) := dk_27 (dk_at dksX1_token_1 4 rfl rfl)
theorem dX1_token_29 : decode cX1_token 29 = .ok (.aload_n 0, 1) := dk_42 (dk_at dksX1_token_1 5 rfl rfl)
theorem dX1_token_30 : decode cX1_token 30 = .ok (.getfield 16, 3) := dk_180 0 16 (dk_at dksX1_token_1 6 rfl rfl)
theorem dX1_token_33 : decode cX1_token 33 = .ok (.getfield 48, 3) := dk_180 0 48 (dk_at dksX1_token_1 9 rfl rfl)
theorem dX1_token_36 : decode cX1_token 36 = .ok (.if_icmp .lt 11, 3) := dk_161 0 11 (dk_at dksX1_token_1 12 rfl rfl)
theorem dX1_token_39 : decode cX1_token 39 = .ok (.new 34, 3) := dk_187 0 34 (dk_at dksX1_token_1 15 rfl rfl)
theorem dX1_token_42 : decode cX1_token 42 = .ok (.dup, 1) := dk_89 (dk_at dksX1_token_1 18 rfl rfl)
theorem dX1_token_43 : decode cX1_token 43 = .ok (.invokespecial 36, 3) := dk_183 0 36 (dk_at dksX1_token_1 19 rfl rfl)
theorem dX1_token_46 : decode cX1_token 46 = .ok (.athrow, 1) := dk_191 (dk_at dksX1_token_1 22 rfl rfl)
theorem dX1_token_47 : decode cX1_token 47 = .ok (.iload_n 2, 1) := dk_28 (dk_at dksX1_token_1 23 rfl rfl)
theorem dX1_token_48 : decode cX1_token 48 = .ok (.ifCond .ne 15, 3) := dk_154 0 15 (dk_at dksX1_token_2 0 rfl rfl)
theorem dX1_token_51 : decode cX1_token 51 = .ok (.aload_n 0, 1) := dk_42 (dk_at dksX1_token_2 3 rfl rfl)
theorem dX1_token_52 : decode cX1_token 52 = .ok (.getfield 23, 3) := dk_180 0 23 (dk_at dksX1_token_2 4 rfl rfl)
theorem dX1_token_55 : decode cX1_token 55 = .ok (.getfield 51, 3) := dk_180 0 51 (dk_at dksX1_token_2 7 rfl rfl)
theorem dX1_token_58 : decode cX1_token 58 = .ok (.iload_n 1, 1) := dk_27 (dk_at dksX1_token_2 10 rfl rfl)
theorem dX1_token_59 : decode cX1_token 59 = .ok (.iaload, 1) := dk_46 (dk_at dksX1_token_2 11 rfl rfl)
theorem dX1_token_60 : decode cX1_token 60 = .ok (.goto 33, 3) := dk_167 0 33 (dk_at dksX1_token_2 12 rfl rfl)
theorem dX1_token_63 : decode cX1_token 63 = .ok (.iload_n 2, 1) := dk_28 (dk_at dksX1_token_2 15 rfl rfl)
theorem dX1_token_64 : decode cX1_token 64 = .ok (.iconst 1, 1) := dk_4 (dk_at dksX1_token_2 16 rfl rfl)
theorem dX1_token_65 : decode cX1_token 65 = .ok (.if_icmp .ne 17, 3) := dk_160 0 17 (dk_at dksX1_token_2 17 rfl rfl)
theorem dX1_token_68 : decode cX1_token 68 = .ok (.aload_n 0, 1) := dk_42 (dk_at dksX1_token_2 20 rfl rfl)
theorem dX1_token_69 : decode cX1_token 69 = .ok (.getfield 23, 3) := dk_180 0 23 (dk_at dksX1_token_2 21 rfl rfl)
theorem dX1_token_72 : decode cX1_token 72 = .ok (.getfield 55, 3) := dk_180 0 55 (dk_at dksX1_token_3 0 rfl rfl)
theorem dX1_token_75 : decode cX1_token 75 = .ok (.iload_n 1, 1) := dk_27 (dk_at dksX1_token_3 3 rfl rfl)
theorem dX1_token_76 : decode cX1_token 76 = .ok (.iaload, 1) := dk_46 (dk_at dksX1_token_3 4 rfl rfl)
theorem dX1_token_77 : decode cX1_token 77 = .ok (.iconst 1, 1) := dk_4 (dk_at dksX1_token_3 5 rfl rfl)
theorem dX1_token_78 : decode cX1_token 78 = .ok (.isub, 1) := dk_100 (dk_at dksX1_token_3 6 rfl rfl)
theorem dX1_token_79 : decode cX1_token 79 = .ok (.goto 14, 3) := dk_167 0 14 (dk_at dksX1_token_3 7 rfl rfl)
theorem dX1_token_82 : decode cX1_token 82 = .ok (.aload_n 0, 1) := dk_42 (dk_at dksX1_token_3 10 rfl rfl)
theorem dX1_token_83 : decode cX1_token 83 = .ok (.getfield 23, 3) := dk_180 0 23 (dk_at dksX1_token_3 11 rfl rfl)
theorem dX1_token_86 : decode cX1_token 86 = .ok (.getfield 58, 3) := dk_180 0 58 (dk_at dksX1_token_3 14 rfl rfl)
theorem dX1_token_89 : decode cX1_token 89 = .ok (.iload_n 1, 1) := dk_27 (dk_at dksX1_token_3 17 rfl rfl)
theorem dX1_token_90 : decode cX1_token 90 = .ok (.iaload, 1) := dk_46 (dk_at dksX1_token_3 18 rfl rfl)
theorem dX1_token_91 : decode cX1_token 91 = .ok (.iconst 1, 1) := dk_4 (dk_at dksX1_token_3 19 rfl rfl)
theorem dX1_token_92 : decode cX1_token 92 = .ok (.iand, 1) := dk_126 (dk_at dksX1_token_3 20 rfl rfl)
theorem dX1_token_93 : decode cX1_token 93 = .ok (.ireturn, 1) := dk_172 (dk_at dksX1_token_3 21 rfl rfl)
abbrev cX1_count : ByteArray := prog_1_method_5_code
def yX1_count : MethodName := ⟨RX1, "count", "(I)I"⟩
def dkwX1_count_8 : List UInt8 := [7, 29, 104, 46, 155, 0, 6, 132, 2, 1, 132, 3, 1, 167, 255, 225, 28, 172]
abbrev dktX1_count_8 : List UInt8 := dkwX1_count_8 ++ []
def dkwX1_count_7 : List UInt8 := [180, 0, 76, 172, 3, 62, 29, 42, 180, 0, 16, 180, 0, 79, 162, 0, 26, 42, 180, 0, 16, 180, 0, 82]
abbrev dktX1_count_7 : List UInt8 := dkwX1_count_7 ++ dktX1_count_8
def dkwX1_count_6 : List UInt8 := [132, 2, 1, 42, 180, 0, 23, 180, 0, 73, 29, 46, 62, 167, 255, 239, 28, 172, 42, 180, 0, 16]
abbrev dktX1_count_6 : List UInt8 := dkwX1_count_6 ++ dktX1_count_7
def dkwX1_count_5 : List UInt8 := [42, 180, 0, 23, 180, 0, 67, 172, 42, 180, 0, 23, 180, 0, 70, 3, 46, 62, 29, 155, 0, 19]
abbrev dktX1_count_5 : List UInt8 := dkwX1_count_5 ++ dktX1_count_6
def dkwX1_count_4 : List UInt8 := [180, 0, 23, 180, 0, 64, 29, 46, 16, 7, 162, 0, 6, 132, 2, 1, 132, 3, 1, 167, 255, 225, 28, 172]
abbrev dktX1_count_4 : List UInt8 := dkwX1_count_4 ++ dktX1_count_5
def dkwX1_count_3 : List UInt8 := [42, 180, 0, 16, 180, 0, 48, 172, 3, 62, 29, 42, 180, 0, 23, 180, 0, 61, 162, 0, 26, 42]
abbrev dktX1_count_3 : List UInt8 := dkwX1_count_3 ++ dktX1_count_4
def dkwX1_count_2 : List UInt8 := [170, 0, 0, 0, 0, 0, 129, 0, 0, 0, 0, 0, 0, 0, 4, 0, 0, 0, 35, 0, 0, 0, 43, 0, 0, 0, 81, 0, 0, 0, 89, 0, 0, 0, 121]
abbrev dktX1_count_2 : List UInt8 := dkwX1_count_2 ++ dktX1_count_3
def dkwX1_count_1 : List UInt8 := [3, 172, 3, 61, 27]
abbrev dktX1_count_1 : List UInt8 := dkwX1_count_1 ++ dktX1_count_2
def dkwX1_count_0 : List UInt8 := [27, 155, 0, 8, 27, 8, 164, 0, 11, 187, 0, 45, 89, 183, 0, 47, 191, 42, 180, 0, 41, 154, 0, 5]
abbrev dktX1_count_0 : List UInt8 := dkwX1_count_0 ++ dktX1_count_1
theorem dksX1_count_0 : cX1_count.data.toList.drop 0 = dktX1_count_0 := by decide +kernel
theorem dksX1_count_1 : cX1_count.data.toList.drop 24 = dktX1_count_1 := dk_seg dksX1_count_0 24 rfl rfl
theorem dksX1_count_2 : cX1_count.data.toList.drop 29 = dktX1_count_2 := dk_seg dksX1_count_1 5 rfl rfl
theorem dksX1_count_3 : cX1_count.data.toList.drop 64 = dktX1_count_3 := dk_seg dksX1_count_2 35 rfl rfl
theorem dksX1_count_4 : cX1_count.data.toList.drop 86 = dktX1_count_4 := dk_seg dksX1_count_3 22 rfl rfl
theorem dksX1_count_5 : cX1_count.data.toList.drop 110 = dktX1_count_5 := dk_seg dksX1_count_4 24 rfl rfl
theorem dksX1_count_6 : cX1_count.data.toList.drop 132 = dktX1_count_6 := dk_seg dksX1_count_5 22 rfl rfl
theorem dksX1_count_7 : cX1_count.data.toList.drop 154 = dktX1_count_7 := dk_seg dksX1_count_6 22 rfl rfl
theorem dksX1_count_8 : cX1_count.data.toList.drop 178 = dktX1_count_8 := dk_seg dksX1_count_7 24 rfl rfl
theorem dX1_count_0 : decode cX1_count 0 = .ok (.iload_n 1, 1) := dk_27 (dk_at dksX1_count_0 0 rfl rfl)
theorem dX1_count_1 : decode cX1_count 1 = .ok (.ifCond .lt 8, 3) := dk_155 0 8 (dk_at dksX1_count_0 1 rfl rfl)
theorem dX1_count_4 : decode cX1_count 4 = .ok (.iload_n 1, 1) := dk_27 (dk_at dksX1_count_0 4 rfl rfl)
theorem dX1_count_5 : decode cX1_count 5 = .ok (.iconst 5, 1) := dk_8 (dk_at dksX1_count_0 5 rfl rfl)
theorem dX1_count_6 : decode cX1_count 6 = .ok (.if_icmp .le 11, 3) := dk_164 0 11 (dk_at dksX1_count_0 6 rfl rfl)
theorem dX1_count_9 : decode cX1_count 9 = .ok (.new 45, 3) := dk_187 0 45 (dk_at dksX1_count_0 9 rfl rfl)
theorem dX1_count_12 : decode cX1_count 12 = .ok (.dup, 1) := dk_89 (dk_at dksX1_count_0 12 rfl rfl)
theorem dX1_count_13 : decode cX1_count 13 = .ok (.invokespecial 47, 3) := dk_183 0 47 (dk_at dksX1_count_0 13 rfl rfl)
theorem dX1_count_16 : decode cX1_count 16 = .ok (.athrow, 1) := dk_191 (dk_at dksX1_count_0 16 rfl rfl)
theorem dX1_count_17 : decode cX1_count 17 = .ok (.aload_n 0, 1) := dk_42 (dk_at dksX1_count_0 17 rfl rfl)
theorem dX1_count_18 : decode cX1_count 18 = .ok (.getfield 41, 3) := dk_180 0 41 (dk_at dksX1_count_0 18 rfl rfl)
theorem dX1_count_21 : decode cX1_count 21 = .ok (.ifCond .ne 5, 3) := dk_154 0 5 (dk_at dksX1_count_0 21 rfl rfl)
theorem dX1_count_24 : decode cX1_count 24 = .ok (.iconst 0, 1) := dk_3 (dk_at dksX1_count_1 0 rfl rfl)
theorem dX1_count_25 : decode cX1_count 25 = .ok (.ireturn, 1) := dk_172 (dk_at dksX1_count_1 1 rfl rfl)
theorem dX1_count_26 : decode cX1_count 26 = .ok (.iconst 0, 1) := dk_3 (dk_at dksX1_count_1 2 rfl rfl)
theorem dX1_count_27 : decode cX1_count 27 = .ok (.istore_n 2, 1) := dk_61 (dk_at dksX1_count_1 3 rfl rfl)
theorem dX1_count_28 : decode cX1_count 28 = .ok (.iload_n 1, 1) := dk_27 (dk_at dksX1_count_1 4 rfl rfl)
theorem dX1_count_29 : decode cX1_count 29 = .ok (.tableswitch 129 0 4 #[35, 43, 81, 89, 121], 35) := by decide +kernel
theorem dX1_count_64 : decode cX1_count 64 = .ok (.aload_n 0, 1) := dk_42 (dk_at dksX1_count_3 0 rfl rfl)
theorem dX1_count_65 : decode cX1_count 65 = .ok (.getfield 16, 3) := dk_180 0 16 (dk_at dksX1_count_3 1 rfl rfl)
theorem dX1_count_68 : decode cX1_count 68 = .ok (.getfield 48, 3) := dk_180 0 48 (dk_at dksX1_count_3 4 rfl rfl)
theorem dX1_count_71 : decode cX1_count 71 = .ok (.ireturn, 1) := dk_172 (dk_at dksX1_count_3 7 rfl rfl)
theorem dX1_count_72 : decode cX1_count 72 = .ok (.iconst 0, 1) := dk_3 (dk_at dksX1_count_3 8 rfl rfl)
theorem dX1_count_73 : decode cX1_count 73 = .ok (.istore_n 3, 1) := dk_62 (dk_at dksX1_count_3 9 rfl rfl)
theorem dX1_count_74 : decode cX1_count 74 = .ok (.iload_n 3, 1) := dk_29 (dk_at dksX1_count_3 10 rfl rfl)
theorem dX1_count_75 : decode cX1_count 75 = .ok (.aload_n 0, 1) := dk_42 (dk_at dksX1_count_3 11 rfl rfl)
theorem dX1_count_76 : decode cX1_count 76 = .ok (.getfield 23, 3) := dk_180 0 23 (dk_at dksX1_count_3 12 rfl rfl)
theorem dX1_count_79 : decode cX1_count 79 = .ok (.getfield 61, 3) := dk_180 0 61 (dk_at dksX1_count_3 15 rfl rfl)
theorem dX1_count_82 : decode cX1_count 82 = .ok (.if_icmp .ge 26, 3) := dk_162 0 26 (dk_at dksX1_count_3 18 rfl rfl)
theorem dX1_count_85 : decode cX1_count 85 = .ok (.aload_n 0, 1) := dk_42 (dk_at dksX1_count_3 21 rfl rfl)
theorem dX1_count_86 : decode cX1_count 86 = .ok (.getfield 23, 3) := dk_180 0 23 (dk_at dksX1_count_4 0 rfl rfl)
theorem dX1_count_89 : decode cX1_count 89 = .ok (.getfield 64, 3) := dk_180 0 64 (dk_at dksX1_count_4 3 rfl rfl)
theorem dX1_count_92 : decode cX1_count 92 = .ok (.iload_n 3, 1) := dk_29 (dk_at dksX1_count_4 6 rfl rfl)
theorem dX1_count_93 : decode cX1_count 93 = .ok (.iaload, 1) := dk_46 (dk_at dksX1_count_4 7 rfl rfl)
theorem dX1_count_94 : decode cX1_count 94 = .ok (.bipush 7, 2) := dk_16 7 (dk_at dksX1_count_4 8 rfl rfl)
theorem dX1_count_96 : decode cX1_count 96 = .ok (.if_icmp .ge 6, 3) := dk_162 0 6 (dk_at dksX1_count_4 10 rfl rfl)
theorem dX1_count_99 : decode cX1_count 99 = .ok (.iinc 2 1, 3) := dk_132 2 1 (dk_at dksX1_count_4 13 rfl rfl)
theorem dX1_count_102 : decode cX1_count 102 = .ok (.iinc 3 1, 3) := dk_132 3 1 (dk_at dksX1_count_4 16 rfl rfl)
theorem dX1_count_105 : decode cX1_count 105 = .ok (.goto (-31), 3) := dk_167 255 225 (dk_at dksX1_count_4 19 rfl rfl)
theorem dX1_count_108 : decode cX1_count 108 = .ok (.iload_n 2, 1) := dk_28 (dk_at dksX1_count_4 22 rfl rfl)
theorem dX1_count_109 : decode cX1_count 109 = .ok (.ireturn, 1) := dk_172 (dk_at dksX1_count_4 23 rfl rfl)
theorem dX1_count_110 : decode cX1_count 110 = .ok (.aload_n 0, 1) := dk_42 (dk_at dksX1_count_5 0 rfl rfl)
theorem dX1_count_111 : decode cX1_count 111 = .ok (.getfield 23, 3) := dk_180 0 23 (dk_at dksX1_count_5 1 rfl rfl)
theorem dX1_count_114 : decode cX1_count 114 = .ok (.getfield 67, 3) := dk_180 0 67 (dk_at dksX1_count_5 4 rfl rfl)
theorem dX1_count_117 : decode cX1_count 117 = .ok (.ireturn, 1) := dk_172 (dk_at dksX1_count_5 7 rfl rfl)
theorem dX1_count_118 : decode cX1_count 118 = .ok (.aload_n 0, 1) := dk_42 (dk_at dksX1_count_5 8 rfl rfl)
theorem dX1_count_119 : decode cX1_count 119 = .ok (.getfield 23, 3) := dk_180 0 23 (dk_at dksX1_count_5 9 rfl rfl)
theorem dX1_count_122 : decode cX1_count 122 = .ok (.getfield 70, 3) := dk_180 0 70 (dk_at dksX1_count_5 12 rfl rfl)
theorem dX1_count_125 : decode cX1_count 125 = .ok (.iconst 0, 1) := dk_3 (dk_at dksX1_count_5 15 rfl rfl)
theorem dX1_count_126 : decode cX1_count 126 = .ok (.iaload, 1) := dk_46 (dk_at dksX1_count_5 16 rfl rfl)
theorem dX1_count_127 : decode cX1_count 127 = .ok (.istore_n 3, 1) := dk_62 (dk_at dksX1_count_5 17 rfl rfl)
theorem dX1_count_128 : decode cX1_count 128 = .ok (.iload_n 3, 1) := dk_29 (dk_at dksX1_count_5 18 rfl rfl)
theorem dX1_count_129 : decode cX1_count 129 = .ok (.ifCond .lt 19, 3) := dk_155 0 19 (dk_at dksX1_count_5 19 rfl rfl)
theorem dX1_count_132 : decode cX1_count 132 = .ok (.iinc 2 1, 3) := dk_132 2 1 (dk_at dksX1_count_6 0 rfl rfl)
theorem dX1_count_135 : decode cX1_count 135 = .ok (.aload_n 0, 1) := dk_42 (dk_at dksX1_count_6 3 rfl rfl)
theorem dX1_count_136 : decode cX1_count 136 = .ok (.getfield 23, 3) := dk_180 0 23 (dk_at dksX1_count_6 4 rfl rfl)
theorem dX1_count_139 : decode cX1_count 139 = .ok (.getfield 73, 3) := dk_180 0 73 (dk_at dksX1_count_6 7 rfl rfl)
theorem dX1_count_142 : decode cX1_count 142 = .ok (.iload_n 3, 1) := dk_29 (dk_at dksX1_count_6 10 rfl rfl)
theorem dX1_count_143 : decode cX1_count 143 = .ok (.iaload, 1) := dk_46 (dk_at dksX1_count_6 11 rfl rfl)
theorem dX1_count_144 : decode cX1_count 144 = .ok (.istore_n 3, 1) := dk_62 (dk_at dksX1_count_6 12 rfl rfl)
theorem dX1_count_145 : decode cX1_count 145 = .ok (.goto (-17), 3) := dk_167 255 239 (dk_at dksX1_count_6 13 rfl rfl)
theorem dX1_count_148 : decode cX1_count 148 = .ok (.iload_n 2, 1) := dk_28 (dk_at dksX1_count_6 16 rfl rfl)
theorem dX1_count_149 : decode cX1_count 149 = .ok (.ireturn, 1) := dk_172 (dk_at dksX1_count_6 17 rfl rfl)
theorem dX1_count_150 : decode cX1_count 150 = .ok (.aload_n 0, 1) := dk_42 (dk_at dksX1_count_6 18 rfl rfl)
theorem dX1_count_151 : decode cX1_count 151 = .ok (.getfield 16, 3) := dk_180 0 16 (dk_at dksX1_count_6 19 rfl rfl)
theorem dX1_count_154 : decode cX1_count 154 = .ok (.getfield 76, 3) := dk_180 0 76 (dk_at dksX1_count_7 0 rfl rfl)
theorem dX1_count_157 : decode cX1_count 157 = .ok (.ireturn, 1) := dk_172 (dk_at dksX1_count_7 3 rfl rfl)
theorem dX1_count_158 : decode cX1_count 158 = .ok (.iconst 0, 1) := dk_3 (dk_at dksX1_count_7 4 rfl rfl)
theorem dX1_count_159 : decode cX1_count 159 = .ok (.istore_n 3, 1) := dk_62 (dk_at dksX1_count_7 5 rfl rfl)
theorem dX1_count_160 : decode cX1_count 160 = .ok (.iload_n 3, 1) := dk_29 (dk_at dksX1_count_7 6 rfl rfl)
theorem dX1_count_161 : decode cX1_count 161 = .ok (.aload_n 0, 1) := dk_42 (dk_at dksX1_count_7 7 rfl rfl)
theorem dX1_count_162 : decode cX1_count 162 = .ok (.getfield 16, 3) := dk_180 0 16 (dk_at dksX1_count_7 8 rfl rfl)
theorem dX1_count_165 : decode cX1_count 165 = .ok (.getfield 79, 3) := dk_180 0 79 (dk_at dksX1_count_7 11 rfl rfl)
theorem dX1_count_168 : decode cX1_count 168 = .ok (.if_icmp .ge 26, 3) := dk_162 0 26 (dk_at dksX1_count_7 14 rfl rfl)
theorem dX1_count_171 : decode cX1_count 171 = .ok (.aload_n 0, 1) := dk_42 (dk_at dksX1_count_7 17 rfl rfl)
theorem dX1_count_172 : decode cX1_count 172 = .ok (.getfield 16, 3) := dk_180 0 16 (dk_at dksX1_count_7 18 rfl rfl)
theorem dX1_count_175 : decode cX1_count 175 = .ok (.getfield 82, 3) := dk_180 0 82 (dk_at dksX1_count_7 21 rfl rfl)
theorem dX1_count_178 : decode cX1_count 178 = .ok (.iconst 4, 1) := dk_7 (dk_at dksX1_count_8 0 rfl rfl)
theorem dX1_count_179 : decode cX1_count 179 = .ok (.iload_n 3, 1) := dk_29 (dk_at dksX1_count_8 1 rfl rfl)
theorem dX1_count_180 : decode cX1_count 180 = .ok (.imul, 1) := dk_104 (dk_at dksX1_count_8 2 rfl rfl)
theorem dX1_count_181 : decode cX1_count 181 = .ok (.iaload, 1) := dk_46 (dk_at dksX1_count_8 3 rfl rfl)
theorem dX1_count_182 : decode cX1_count 182 = .ok (.ifCond .lt 6, 3) := dk_155 0 6 (dk_at dksX1_count_8 4 rfl rfl)
theorem dX1_count_185 : decode cX1_count 185 = .ok (.iinc 2 1, 3) := dk_132 2 1 (dk_at dksX1_count_8 7 rfl rfl)
theorem dX1_count_188 : decode cX1_count 188 = .ok (.iinc 3 1, 3) := dk_132 3 1 (dk_at dksX1_count_8 10 rfl rfl)
theorem dX1_count_191 : decode cX1_count 191 = .ok (.goto (-31), 3) := dk_167 255 225 (dk_at dksX1_count_8 13 rfl rfl)
theorem dX1_count_194 : decode cX1_count 194 = .ok (.iload_n 2, 1) := dk_28 (dk_at dksX1_count_8 16 rfl rfl)
theorem dX1_count_195 : decode cX1_count 195 = .ok (.ireturn, 1) := dk_172 (dk_at dksX1_count_8 17 rfl rfl)
theorem q236 : (Jvm.Cond.initialized "ModuleGate") ∈ lw_all := lw_g (lw_at lw_m1 1 rfl) rfl
theorem q256 : (Jvm.Cond.instantiable "ModuleGate" (5 : Nat)) ∈ lw_all := lw_g (lw_at lw_m1 21 rfl) rfl
theorem q258 : (Jvm.Cond.instanceMethod ({ cls := "ModuleGate", name := "<init>", desc := "()V" } : Jvm.MethodName)) ∈ lw_all := lw_g (lw_at lw_m1 23 rfl) rfl
theorem q259 : (Jvm.Cond.code ({ cls := "ModuleGate", name := "<init>", desc := "()V" } : Jvm.MethodName) prog_1_method_1_code (1 : Nat) (Option.none : Option Jvm.ClassFile.FieldType)) ∈ lw_all := lw_g (lw_at lw_m1 24 rfl) rfl
theorem q260 : (Jvm.Cond.methodLink "ModuleGate" (1 : Nat) ({ cls := "java/lang/Object", name := "<init>", desc := "()V" } : Jvm.MethodName)) ∈ lw_all := lw_g (lw_at lw_m1 25 rfl) rfl
theorem q263 : (Jvm.Cond.classLink "ModuleGate" (13 : Nat) "ModuleGate$Program") ∈ lw_all := lw_g (lw_at lw_m1 28 rfl) rfl
theorem q265 : (Jvm.Cond.methodLinkNest "ModuleGate" (15 : Nat) ({ cls := "ModuleGate$Program", name := "<init>", desc := "()V" } : Jvm.MethodName) "ModuleGate") ∈ lw_tbl := lw_at lw_m1 30 rfl
theorem q270 : (Jvm.Cond.fieldLinkNest "ModuleGate" (48 : Nat) "ModuleGate$Program" "tokens" "I" "ModuleGate") ∈ lw_tbl := lw_at lw_m1 35 rfl
theorem q290 : (Jvm.Cond.fieldLinkNest "ModuleGate" (76 : Nat) "ModuleGate$Program" "requests" "I" "ModuleGate") ∈ lw_tbl := lw_at lw_m1 55 rfl
theorem q297 : (Jvm.Cond.fieldLinkNest "ModuleGate" (82 : Nat) "ModuleGate$Program" "out" "[I" "ModuleGate") ∈ lw_tbl := lw_at lw_m1 62 rfl
theorem q300 : (Jvm.Cond.fieldLinkNest "ModuleGate" (79 : Nat) "ModuleGate$Program" "outs" "I" "ModuleGate") ∈ lw_tbl := lw_at lw_m1 65 rfl
theorem q354 : (Jvm.Cond.classLink "ModuleGate" (20 : Nat) "ModuleGate$Reader") ∈ lw_all := lw_g (lw_at lw_m1 119 rfl) rfl
theorem q356 : (Jvm.Cond.methodLinkNest "ModuleGate" (22 : Nat) ({ cls := "ModuleGate$Reader", name := "<init>", desc := "()V" } : Jvm.MethodName) "ModuleGate") ∈ lw_tbl := lw_at lw_m1 121 rfl
theorem q365 : (Jvm.Cond.fieldLinkNest "ModuleGate" (55 : Nat) "ModuleGate$Reader" "kind" "[I" "ModuleGate") ∈ lw_tbl := lw_at lw_m1 130 rfl
theorem q369 : (Jvm.Cond.fieldLinkNest "ModuleGate" (51 : Nat) "ModuleGate$Reader" "from" "[I" "ModuleGate") ∈ lw_tbl := lw_at lw_m1 134 rfl
theorem q371 : (Jvm.Cond.fieldLinkNest "ModuleGate" (58 : Nat) "ModuleGate$Reader" "flag" "[I" "ModuleGate") ∈ lw_tbl := lw_at lw_m1 136 rfl
theorem q392 : (Jvm.Cond.fieldLinkNest "ModuleGate" (70 : Nat) "ModuleGate$Reader" "first" "[I" "ModuleGate") ∈ lw_tbl := lw_at lw_m1 157 rfl
theorem q399 : (Jvm.Cond.fieldLinkNest "ModuleGate" (73 : Nat) "ModuleGate$Reader" "after" "[I" "ModuleGate") ∈ lw_tbl := lw_at lw_m1 164 rfl
theorem q401 : (Jvm.Cond.fieldLinkNest "ModuleGate" (61 : Nat) "ModuleGate$Reader" "functions" "I" "ModuleGate") ∈ lw_tbl := lw_at lw_m1 166 rfl
theorem q404 : (Jvm.Cond.fieldLinkNest "ModuleGate" (64 : Nat) "ModuleGate$Reader" "fKind" "[I" "ModuleGate") ∈ lw_tbl := lw_at lw_m1 169 rfl
theorem q426 : (Jvm.Cond.fieldLinkNest "ModuleGate" (67 : Nat) "ModuleGate$Reader" "classesSeen" "I" "ModuleGate") ∈ lw_tbl := lw_at lw_m1 191 rfl
theorem q585 : (Jvm.Cond.methodLinkNest "ModuleGate" (27 : Nat) ({ cls := "ModuleGate$Program", name := "clear", desc := "()V" } : Jvm.MethodName) "ModuleGate") ∈ lw_tbl := lw_at lw_m2 110 rfl
theorem q592 : (Jvm.Cond.fieldLink "ModuleGate" (9 : Nat) "ModuleGate" "fed" "[B") ∈ lw_all := lw_g (lw_at lw_m2 117 rfl) rfl
theorem q593 : (Jvm.Cond.fieldLink "ModuleGate" (30 : Nat) "ModuleGate" "fedCount" "I") ∈ lw_all := lw_g (lw_at lw_m2 118 rfl) rfl
theorem q594 : (Jvm.Cond.fieldLink "ModuleGate" (16 : Nat) "ModuleGate" "program" "LModuleGate$Program;") ∈ lw_all := lw_g (lw_at lw_m2 119 rfl) rfl
theorem q595 : (Jvm.Cond.fieldLink "ModuleGate" (23 : Nat) "ModuleGate" "reader" "LModuleGate$Reader;") ∈ lw_all := lw_g (lw_at lw_m2 120 rfl) rfl
theorem q596 : (Jvm.Cond.fieldLink "ModuleGate" (41 : Nat) "ModuleGate" "there" "Z") ∈ lw_all := lw_g (lw_at lw_m2 121 rfl) rfl
theorem q597 : (Jvm.Cond.laysFinal "ModuleGate" "ModuleGate" "fed" "[B") ∈ lw_all := lw_g (lw_at lw_m2 122 rfl) rfl
theorem q598 : (Jvm.Cond.soleField "ModuleGate" "fed") ∈ lw_all := lw_g (lw_at lw_m2 123 rfl) rfl
theorem q599 : (Jvm.Cond.lays "ModuleGate" "ModuleGate" "fedCount" "I") ∈ lw_all := lw_g (lw_at lw_m2 124 rfl) rfl
theorem q600 : (Jvm.Cond.soleField "ModuleGate" "fedCount") ∈ lw_all := lw_g (lw_at lw_m2 125 rfl) rfl
theorem q601 : (Jvm.Cond.laysFinal "ModuleGate" "ModuleGate" "program" "LModuleGate$Program;") ∈ lw_all := lw_g (lw_at lw_m2 126 rfl) rfl
theorem q602 : (Jvm.Cond.soleField "ModuleGate" "program") ∈ lw_all := lw_g (lw_at lw_m2 127 rfl) rfl
theorem q603 : (Jvm.Cond.laysFinal "ModuleGate" "ModuleGate" "reader" "LModuleGate$Reader;") ∈ lw_all := lw_g (lw_at lw_m2 128 rfl) rfl
theorem q604 : (Jvm.Cond.soleField "ModuleGate" "reader") ∈ lw_all := lw_g (lw_at lw_m2 129 rfl) rfl
theorem q605 : (Jvm.Cond.lays "ModuleGate" "ModuleGate" "there" "Z") ∈ lw_all := lw_g (lw_at lw_m2 130 rfl) rfl
theorem q606 : (Jvm.Cond.soleField "ModuleGate" "there") ∈ lw_all := lw_g (lw_at lw_m2 131 rfl) rfl
theorem q607 : (Jvm.Cond.superclass "ModuleGate" "java/lang/Object") ∈ lw_all := lw_g (lw_at lw_m2 132 rfl) rfl
theorem q688 : (Jvm.Cond.instanceMethod ({ cls := "ModuleGate", name := "feed", desc := "(IIIII)I" } : Jvm.MethodName)) ∈ lw_all := lw_g (lw_at lw_m2 213 rfl) rfl
theorem q689 : (Jvm.Cond.selects "ModuleGate" ({ cls := "ModuleGate", name := "feed", desc := "(IIIII)I" } : Jvm.MethodName) ({ cls := "ModuleGate", name := "feed", desc := "(IIIII)I" } : Jvm.MethodName)) ∈ lw_all := lw_g (lw_at lw_m2 214 rfl) rfl
theorem q690 : (Jvm.Cond.code ({ cls := "ModuleGate", name := "feed", desc := "(IIIII)I" } : Jvm.MethodName) prog_1_method_2_code (8 : Nat) (Option.some Jvm.ClassFile.FieldType.int)) ∈ lw_all := lw_g (lw_at lw_m2 215 rfl) rfl
theorem q691 : (Jvm.Cond.classLink "ModuleGate" (34 : Nat) "java/lang/IndexOutOfBoundsException") ∈ lw_all := lw_g (lw_at lw_m2 216 rfl) rfl
theorem q700 : (Jvm.Cond.methodLink "ModuleGate" (36 : Nat) ({ cls := "java/lang/IndexOutOfBoundsException", name := "<init>", desc := "()V" } : Jvm.MethodName)) ∈ lw_all := lw_g (lw_at lw_m2 225 rfl) rfl
theorem q717 : (Jvm.Cond.instanceMethod ({ cls := "ModuleGate", name := "read", desc := "(I)I" } : Jvm.MethodName)) ∈ lw_all := lw_g (lw_at lw_m3 2 rfl) rfl
theorem q718 : (Jvm.Cond.selects "ModuleGate" ({ cls := "ModuleGate", name := "read", desc := "(I)I" } : Jvm.MethodName) ({ cls := "ModuleGate", name := "read", desc := "(I)I" } : Jvm.MethodName)) ∈ lw_all := lw_g (lw_at lw_m3 3 rfl) rfl
theorem q719 : (Jvm.Cond.code ({ cls := "ModuleGate", name := "read", desc := "(I)I" } : Jvm.MethodName) prog_1_method_3_code (2 : Nat) (Option.some Jvm.ClassFile.FieldType.int)) ∈ lw_all := lw_g (lw_at lw_m3 4 rfl) rfl
theorem q720 : (Jvm.Cond.methodLinkNest "ModuleGate" (37 : Nat) ({ cls := "ModuleGate$Reader", name := "read", desc := "(LModuleGate$Program;[BI)Z" } : Jvm.MethodName) "ModuleGate") ∈ lw_tbl := lw_at lw_m3 5 rfl
theorem q1279 : (Jvm.Cond.classLink "ModuleGate" (45 : Nat) "java/lang/IllegalArgumentException") ∈ lw_all := lw_g (lw_at lw_m5 84 rfl) rfl
theorem q1288 : (Jvm.Cond.methodLink "ModuleGate" (47 : Nat) ({ cls := "java/lang/IllegalArgumentException", name := "<init>", desc := "()V" } : Jvm.MethodName)) ∈ lw_all := lw_g (lw_at lw_m5 93 rfl) rfl
theorem q1298 : (Jvm.Cond.instanceMethod ({ cls := "ModuleGate", name := "token", desc := "(II)I" } : Jvm.MethodName)) ∈ lw_all := lw_g (lw_at lw_m5 103 rfl) rfl
theorem q1299 : (Jvm.Cond.selects "ModuleGate" ({ cls := "ModuleGate", name := "token", desc := "(II)I" } : Jvm.MethodName) ({ cls := "ModuleGate", name := "token", desc := "(II)I" } : Jvm.MethodName)) ∈ lw_all := lw_g (lw_at lw_m5 104 rfl) rfl
theorem q1300 : (Jvm.Cond.code ({ cls := "ModuleGate", name := "token", desc := "(II)I" } : Jvm.MethodName) prog_1_method_4_code (3 : Nat) (Option.some Jvm.ClassFile.FieldType.int)) ∈ lw_all := lw_g (lw_at lw_m5 105 rfl) rfl
theorem q1305 : (Jvm.Cond.instanceMethod ({ cls := "ModuleGate", name := "count", desc := "(I)I" } : Jvm.MethodName)) ∈ lw_all := lw_g (lw_at lw_m5 110 rfl) rfl
theorem q1306 : (Jvm.Cond.selects "ModuleGate" ({ cls := "ModuleGate", name := "count", desc := "(I)I" } : Jvm.MethodName) ({ cls := "ModuleGate", name := "count", desc := "(I)I" } : Jvm.MethodName)) ∈ lw_all := lw_g (lw_at lw_m5 111 rfl) rfl
theorem q1307 : (Jvm.Cond.code ({ cls := "ModuleGate", name := "count", desc := "(I)I" } : Jvm.MethodName) prog_1_method_5_code (4 : Nat) (Option.some Jvm.ClassFile.FieldType.int)) ∈ lw_all := lw_g (lw_at lw_m5 112 rfl) rfl
theorem in_X1 : ∀ w ∈ wsX10, w ∈ lw_all := lw_in wsX10 [597, 599, 601, 603, 605] (by decide +kernel) (by decide +kernel)
/-! ModuleGate$Program -/
set_option maxRecDepth 100000
def RX2 : String := "ModuleGate$Program"
def TX2 : u_T := fun k => match k with
  | 0 => ("ModuleGate$Program", "there", "Z", false)
  | 1 => ("ModuleGate$Program", "tokens", "I", false)
  | 2 => ("ModuleGate$Program", "code", "[I", false)
  | 3 => ("ModuleGate$Program", "codes", "I", false)
  | 4 => ("ModuleGate$Program", "units", "[C", false)
  | 5 => ("ModuleGate$Program", "unitCount", "I", false)
  | 6 => ("ModuleGate$Program", "constKind", "[I", false)
  | 7 => ("ModuleGate$Program", "constA", "[I", false)
  | 8 => ("ModuleGate$Program", "constB", "[I", false)
  | 9 => ("ModuleGate$Program", "constBits", "[J", false)
  | 10 => ("ModuleGate$Program", "consts", "I", false)
  | 11 => ("ModuleGate$Program", "buckets", "[I", true)
  | 12 => ("ModuleGate$Program", "chain", "[I", false)
  | 13 => ("ModuleGate$Program", "function", "[I", false)
  | 14 => ("ModuleGate$Program", "functions", "I", false)
  | 15 => ("ModuleGate$Program", "request", "[I", false)
  | 16 => ("ModuleGate$Program", "requests", "I", false)
  | 17 => ("ModuleGate$Program", "in", "[I", false)
  | 18 => ("ModuleGate$Program", "ins", "I", false)
  | 19 => ("ModuleGate$Program", "out", "[I", false)
  | 20 => ("ModuleGate$Program", "outs", "I", false)
  | 21 => ("ModuleGate$Program", "slots", "I", false)
  | _ => ("ModuleGate$Program", "sites", "I", false)
def tyX2 : Nat → FieldType := fun k => match k with
  | 0 => .boolean
  | 1 => .int
  | 2 => .array .int
  | 3 => .int
  | 4 => .array .char
  | 5 => .int
  | 6 => .array .int
  | 7 => .array .int
  | 8 => .array .int
  | 9 => .array .long
  | 10 => .int
  | 11 => .array .int
  | 12 => .array .int
  | 13 => .array .int
  | 14 => .int
  | 15 => .array .int
  | 16 => .int
  | 17 => .array .int
  | 18 => .int
  | 19 => .array .int
  | 20 => .int
  | 21 => .int
  | _ => .int
abbrev wsX20 : List Cond := u_ws RX2 TX2 23
set_option maxRecDepth 100000 in
theorem nmX2 : ∀ a, a < 23 → ∀ b, b < 23 → a ≠ b → (TX2 a).2.1 ≠ (TX2 b).2.1 := by decide +kernel
set_option maxRecDepth 100000 in
theorem tyX2_ok : ∀ k, k < 23 → parseFieldDescriptor (TX2 k).2.2.1 = some (tyX2 k) := by decide +kernel
abbrev cX2_init : ByteArray := prog_2_method_1_code
def yX2_init : MethodName := ⟨RX2, "<init>", "()V"⟩
def dkwX2_init_4 : List UInt8 := [181, 0, 39, 42, 16, 48, 188, 10, 181, 0, 42, 42, 16, 64, 188, 10, 181, 0, 45, 177]
abbrev dktX2_init_4 : List UInt8 := dkwX2_init_4 ++ []
def dkwX2_init_3 : List UInt8 := [17, 2, 0, 188, 10, 181, 0, 33, 42, 17, 2, 128, 188, 10, 181, 0, 36, 42, 16, 16, 188, 10]
abbrev dktX2_init_3 : List UInt8 := dkwX2_init_3 ++ dktX2_init_4
def dkwX2_init_2 : List UInt8 := [181, 0, 23, 42, 17, 2, 0, 188, 11, 181, 0, 26, 42, 17, 4, 0, 188, 10, 181, 0, 30, 42]
abbrev dktX2_init_2 : List UInt8 := dkwX2_init_2 ++ dktX2_init_3
def dkwX2_init_1 : List UInt8 := [17, 2, 0, 188, 10, 181, 0, 17, 42, 17, 2, 0, 188, 10, 181, 0, 20, 42, 17, 2, 0, 188, 10]
abbrev dktX2_init_1 : List UInt8 := dkwX2_init_1 ++ dktX2_init_2
def dkwX2_init_0 : List UInt8 := [42, 183, 0, 1, 42, 17, 8, 0, 188, 10, 181, 0, 7, 42, 17, 16, 0, 188, 5, 181, 0, 13, 42]
abbrev dktX2_init_0 : List UInt8 := dkwX2_init_0 ++ dktX2_init_1
theorem dksX2_init_0 : cX2_init.data.toList.drop 0 = dktX2_init_0 := by decide +kernel
theorem dksX2_init_1 : cX2_init.data.toList.drop 23 = dktX2_init_1 := dk_seg dksX2_init_0 23 rfl rfl
theorem dksX2_init_2 : cX2_init.data.toList.drop 46 = dktX2_init_2 := dk_seg dksX2_init_1 23 rfl rfl
theorem dksX2_init_3 : cX2_init.data.toList.drop 68 = dktX2_init_3 := dk_seg dksX2_init_2 22 rfl rfl
theorem dksX2_init_4 : cX2_init.data.toList.drop 90 = dktX2_init_4 := dk_seg dksX2_init_3 22 rfl rfl
theorem dX2_init_0 : decode cX2_init 0 = .ok (.aload_n 0, 1) := dk_42 (dk_at dksX2_init_0 0 rfl rfl)
theorem dX2_init_1 : decode cX2_init 1 = .ok (.invokespecial 1, 3) := dk_183 0 1 (dk_at dksX2_init_0 1 rfl rfl)
theorem dX2_init_4 : decode cX2_init 4 = .ok (.aload_n 0, 1) := dk_42 (dk_at dksX2_init_0 4 rfl rfl)
theorem dX2_init_5 : decode cX2_init 5 = .ok (.sipush 2048, 3) := dk_17 8 0 (dk_at dksX2_init_0 5 rfl rfl)
theorem dX2_init_8 : decode cX2_init 8 = .ok (.newarray .int, 2) := dk_188_10 (dk_at dksX2_init_0 8 rfl rfl)
theorem dX2_init_10 : decode cX2_init 10 = .ok (.putfield 7, 3) := dk_181 0 7 (dk_at dksX2_init_0 10 rfl rfl)
theorem dX2_init_13 : decode cX2_init 13 = .ok (.aload_n 0, 1) := dk_42 (dk_at dksX2_init_0 13 rfl rfl)
theorem dX2_init_14 : decode cX2_init 14 = .ok (.sipush 4096, 3) := dk_17 16 0 (dk_at dksX2_init_0 14 rfl rfl)
theorem dX2_init_17 : decode cX2_init 17 = .ok (.newarray .char, 2) := dk_188_5 (dk_at dksX2_init_0 17 rfl rfl)
theorem dX2_init_19 : decode cX2_init 19 = .ok (.putfield 13, 3) := dk_181 0 13 (dk_at dksX2_init_0 19 rfl rfl)
theorem dX2_init_22 : decode cX2_init 22 = .ok (.aload_n 0, 1) := dk_42 (dk_at dksX2_init_0 22 rfl rfl)
theorem dX2_init_23 : decode cX2_init 23 = .ok (.sipush 512, 3) := dk_17 2 0 (dk_at dksX2_init_1 0 rfl rfl)
theorem dX2_init_26 : decode cX2_init 26 = .ok (.newarray .int, 2) := dk_188_10 (dk_at dksX2_init_1 3 rfl rfl)
theorem dX2_init_28 : decode cX2_init 28 = .ok (.putfield 17, 3) := dk_181 0 17 (dk_at dksX2_init_1 5 rfl rfl)
theorem dX2_init_31 : decode cX2_init 31 = .ok (.aload_n 0, 1) := dk_42 (dk_at dksX2_init_1 8 rfl rfl)
theorem dX2_init_32 : decode cX2_init 32 = .ok (.sipush 512, 3) := dk_17 2 0 (dk_at dksX2_init_1 9 rfl rfl)
theorem dX2_init_35 : decode cX2_init 35 = .ok (.newarray .int, 2) := dk_188_10 (dk_at dksX2_init_1 12 rfl rfl)
theorem dX2_init_37 : decode cX2_init 37 = .ok (.putfield 20, 3) := dk_181 0 20 (dk_at dksX2_init_1 14 rfl rfl)
theorem dX2_init_40 : decode cX2_init 40 = .ok (.aload_n 0, 1) := dk_42 (dk_at dksX2_init_1 17 rfl rfl)
theorem dX2_init_41 : decode cX2_init 41 = .ok (.sipush 512, 3) := dk_17 2 0 (dk_at dksX2_init_1 18 rfl rfl)
theorem dX2_init_44 : decode cX2_init 44 = .ok (.newarray .int, 2) := dk_188_10 (dk_at dksX2_init_1 21 rfl rfl)
theorem dX2_init_46 : decode cX2_init 46 = .ok (.putfield 23, 3) := dk_181 0 23 (dk_at dksX2_init_2 0 rfl rfl)
theorem dX2_init_49 : decode cX2_init 49 = .ok (.aload_n 0, 1) := dk_42 (dk_at dksX2_init_2 3 rfl rfl)
theorem dX2_init_50 : decode cX2_init 50 = .ok (.sipush 512, 3) := dk_17 2 0 (dk_at dksX2_init_2 4 rfl rfl)
theorem dX2_init_53 : decode cX2_init 53 = .ok (.newarray .long, 2) := dk_188_11 (dk_at dksX2_init_2 7 rfl rfl)
theorem dX2_init_55 : decode cX2_init 55 = .ok (.putfield 26, 3) := dk_181 0 26 (dk_at dksX2_init_2 9 rfl rfl)
theorem dX2_init_58 : decode cX2_init 58 = .ok (.aload_n 0, 1) := dk_42 (dk_at dksX2_init_2 12 rfl rfl)
theorem dX2_init_59 : decode cX2_init 59 = .ok (.sipush 1024, 3) := dk_17 4 0 (dk_at dksX2_init_2 13 rfl rfl)
theorem dX2_init_62 : decode cX2_init 62 = .ok (.newarray .int, 2) := dk_188_10 (dk_at dksX2_init_2 16 rfl rfl)
theorem dX2_init_64 : decode cX2_init 64 = .ok (.putfield 30, 3) := dk_181 0 30 (dk_at dksX2_init_2 18 rfl rfl)
theorem dX2_init_67 : decode cX2_init 67 = .ok (.aload_n 0, 1) := dk_42 (dk_at dksX2_init_2 21 rfl rfl)
theorem dX2_init_68 : decode cX2_init 68 = .ok (.sipush 512, 3) := dk_17 2 0 (dk_at dksX2_init_3 0 rfl rfl)
theorem dX2_init_71 : decode cX2_init 71 = .ok (.newarray .int, 2) := dk_188_10 (dk_at dksX2_init_3 3 rfl rfl)
theorem dX2_init_73 : decode cX2_init 73 = .ok (.putfield 33, 3) := dk_181 0 33 (dk_at dksX2_init_3 5 rfl rfl)
theorem dX2_init_76 : decode cX2_init 76 = .ok (.aload_n 0, 1) := dk_42 (dk_at dksX2_init_3 8 rfl rfl)
theorem dX2_init_77 : decode cX2_init 77 = .ok (.sipush 640, 3) := dk_17 2 128 (dk_at dksX2_init_3 9 rfl rfl)
theorem dX2_init_80 : decode cX2_init 80 = .ok (.newarray .int, 2) := dk_188_10 (dk_at dksX2_init_3 12 rfl rfl)
theorem dX2_init_82 : decode cX2_init 82 = .ok (.putfield 36, 3) := dk_181 0 36 (dk_at dksX2_init_3 14 rfl rfl)
theorem dX2_init_85 : decode cX2_init 85 = .ok (.aload_n 0, 1) := dk_42 (dk_at dksX2_init_3 17 rfl rfl)
theorem dX2_init_86 : decode cX2_init 86 = .ok (.bipush 16, 2) := dk_16 16 (dk_at dksX2_init_3 18 rfl rfl)
theorem dX2_init_88 : decode cX2_init 88 = .ok (.newarray .int, 2) := dk_188_10 (dk_at dksX2_init_3 20 rfl rfl)
theorem dX2_init_90 : decode cX2_init 90 = .ok (.putfield 39, 3) := dk_181 0 39 (dk_at dksX2_init_4 0 rfl rfl)
theorem dX2_init_93 : decode cX2_init 93 = .ok (.aload_n 0, 1) := dk_42 (dk_at dksX2_init_4 3 rfl rfl)
theorem dX2_init_94 : decode cX2_init 94 = .ok (.bipush 48, 2) := dk_16 48 (dk_at dksX2_init_4 4 rfl rfl)
theorem dX2_init_96 : decode cX2_init 96 = .ok (.newarray .int, 2) := dk_188_10 (dk_at dksX2_init_4 6 rfl rfl)
theorem dX2_init_98 : decode cX2_init 98 = .ok (.putfield 42, 3) := dk_181 0 42 (dk_at dksX2_init_4 8 rfl rfl)
theorem dX2_init_101 : decode cX2_init 101 = .ok (.aload_n 0, 1) := dk_42 (dk_at dksX2_init_4 11 rfl rfl)
theorem dX2_init_102 : decode cX2_init 102 = .ok (.bipush 64, 2) := dk_16 64 (dk_at dksX2_init_4 12 rfl rfl)
theorem dX2_init_104 : decode cX2_init 104 = .ok (.newarray .int, 2) := dk_188_10 (dk_at dksX2_init_4 14 rfl rfl)
theorem dX2_init_106 : decode cX2_init 106 = .ok (.putfield 45, 3) := dk_181 0 45 (dk_at dksX2_init_4 16 rfl rfl)
theorem dX2_init_109 : decode cX2_init 109 = .ok (.return_, 1) := dk_177 (dk_at dksX2_init_4 19 rfl rfl)
abbrev cX2_clear : ByteArray := prog_2_method_2_code
def yX2_clear : MethodName := ⟨RX2, "clear", "()V"⟩
def dkwX2_clear_2 : List UInt8 := [180, 0, 30, 2, 184, 0, 77, 177]
abbrev dktX2_clear_2 : List UInt8 := dkwX2_clear_2 ++ []
def dkwX2_clear_1 : List UInt8 := [181, 0, 62, 42, 3, 181, 0, 65, 42, 3, 181, 0, 68, 42, 3, 181, 0, 71, 42, 3, 181, 0, 74, 42]
abbrev dktX2_clear_1 : List UInt8 := dkwX2_clear_1 ++ dktX2_clear_2
def dkwX2_clear_0 : List UInt8 := [42, 3, 181, 0, 48, 42, 3, 181, 0, 52, 42, 3, 181, 0, 56, 42, 3, 181, 0, 59, 42, 3]
abbrev dktX2_clear_0 : List UInt8 := dkwX2_clear_0 ++ dktX2_clear_1
theorem dksX2_clear_0 : cX2_clear.data.toList.drop 0 = dktX2_clear_0 := by decide +kernel
theorem dksX2_clear_1 : cX2_clear.data.toList.drop 22 = dktX2_clear_1 := dk_seg dksX2_clear_0 22 rfl rfl
theorem dksX2_clear_2 : cX2_clear.data.toList.drop 46 = dktX2_clear_2 := dk_seg dksX2_clear_1 24 rfl rfl
theorem dX2_clear_0 : decode cX2_clear 0 = .ok (.aload_n 0, 1) := dk_42 (dk_at dksX2_clear_0 0 rfl rfl)
theorem dX2_clear_1 : decode cX2_clear 1 = .ok (.iconst 0, 1) := dk_3 (dk_at dksX2_clear_0 1 rfl rfl)
theorem dX2_clear_2 : decode cX2_clear 2 = .ok (.putfield 48, 3) := dk_181 0 48 (dk_at dksX2_clear_0 2 rfl rfl)
theorem dX2_clear_5 : decode cX2_clear 5 = .ok (.aload_n 0, 1) := dk_42 (dk_at dksX2_clear_0 5 rfl rfl)
theorem dX2_clear_6 : decode cX2_clear 6 = .ok (.iconst 0, 1) := dk_3 (dk_at dksX2_clear_0 6 rfl rfl)
theorem dX2_clear_7 : decode cX2_clear 7 = .ok (.putfield 52, 3) := dk_181 0 52 (dk_at dksX2_clear_0 7 rfl rfl)
theorem dX2_clear_10 : decode cX2_clear 10 = .ok (.aload_n 0, 1) := dk_42 (dk_at dksX2_clear_0 10 rfl rfl)
theorem dX2_clear_11 : decode cX2_clear 11 = .ok (.iconst 0, 1) := dk_3 (dk_at dksX2_clear_0 11 rfl rfl)
theorem dX2_clear_12 : decode cX2_clear 12 = .ok (.putfield 56, 3) := dk_181 0 56 (dk_at dksX2_clear_0 12 rfl rfl)
theorem dX2_clear_15 : decode cX2_clear 15 = .ok (.aload_n 0, 1) := dk_42 (dk_at dksX2_clear_0 15 rfl rfl)
theorem dX2_clear_16 : decode cX2_clear 16 = .ok (.iconst 0, 1) := dk_3 (dk_at dksX2_clear_0 16 rfl rfl)
theorem dX2_clear_17 : decode cX2_clear 17 = .ok (.putfield 59, 3) := dk_181 0 59 (dk_at dksX2_clear_0 17 rfl rfl)
theorem dX2_clear_20 : decode cX2_clear 20 = .ok (.aload_n 0, 1) := dk_42 (dk_at dksX2_clear_0 20 rfl rfl)
theorem dX2_clear_21 : decode cX2_clear 21 = .ok (.iconst 0, 1) := dk_3 (dk_at dksX2_clear_0 21 rfl rfl)
theorem dX2_clear_22 : decode cX2_clear 22 = .ok (.putfield 62, 3) := dk_181 0 62 (dk_at dksX2_clear_1 0 rfl rfl)
theorem dX2_clear_25 : decode cX2_clear 25 = .ok (.aload_n 0, 1) := dk_42 (dk_at dksX2_clear_1 3 rfl rfl)
theorem dX2_clear_26 : decode cX2_clear 26 = .ok (.iconst 0, 1) := dk_3 (dk_at dksX2_clear_1 4 rfl rfl)
theorem dX2_clear_27 : decode cX2_clear 27 = .ok (.putfield 65, 3) := dk_181 0 65 (dk_at dksX2_clear_1 5 rfl rfl)
theorem dX2_clear_30 : decode cX2_clear 30 = .ok (.aload_n 0, 1) := dk_42 (dk_at dksX2_clear_1 8 rfl rfl)
theorem dX2_clear_31 : decode cX2_clear 31 = .ok (.iconst 0, 1) := dk_3 (dk_at dksX2_clear_1 9 rfl rfl)
theorem dX2_clear_32 : decode cX2_clear 32 = .ok (.putfield 68, 3) := dk_181 0 68 (dk_at dksX2_clear_1 10 rfl rfl)
theorem dX2_clear_35 : decode cX2_clear 35 = .ok (.aload_n 0, 1) := dk_42 (dk_at dksX2_clear_1 13 rfl rfl)
theorem dX2_clear_36 : decode cX2_clear 36 = .ok (.iconst 0, 1) := dk_3 (dk_at dksX2_clear_1 14 rfl rfl)
theorem dX2_clear_37 : decode cX2_clear 37 = .ok (.putfield 71, 3) := dk_181 0 71 (dk_at dksX2_clear_1 15 rfl rfl)
theorem dX2_clear_40 : decode cX2_clear 40 = .ok (.aload_n 0, 1) := dk_42 (dk_at dksX2_clear_1 18 rfl rfl)
theorem dX2_clear_41 : decode cX2_clear 41 = .ok (.iconst 0, 1) := dk_3 (dk_at dksX2_clear_1 19 rfl rfl)
theorem dX2_clear_42 : decode cX2_clear 42 = .ok (.putfield 74, 3) := dk_181 0 74 (dk_at dksX2_clear_1 20 rfl rfl)
theorem dX2_clear_45 : decode cX2_clear 45 = .ok (.aload_n 0, 1) := dk_42 (dk_at dksX2_clear_1 23 rfl rfl)
theorem dX2_clear_46 : decode cX2_clear 46 = .ok (.getfield 30, 3) := dk_180 0 30 (dk_at dksX2_clear_2 0 rfl rfl)
theorem dX2_clear_49 : decode cX2_clear 49 = .ok (.iconst (-1), 1) := dk_2 (dk_at dksX2_clear_2 3 rfl rfl)
theorem dX2_clear_50 : decode cX2_clear 50 = .ok (.invokestatic 77, 3) := dk_184 0 77 (dk_at dksX2_clear_2 4 rfl rfl)
theorem dX2_clear_53 : decode cX2_clear 53 = .ok (.return_, 1) := dk_177 (dk_at dksX2_clear_2 7 rfl rfl)
abbrev cX2_text : ByteArray := prog_2_method_6_code
def yX2_text : MethodName := ⟨RX2, "text", "(I)I"⟩
def dkwX2_text_8 : List UInt8 := [21, 4, 21, 5, 79, 21, 5, 172]
abbrev dktX2_text_8 : List UInt8 := dkwX2_text_8 ++ []
def dkwX2_text_7 : List UInt8 := [182, 0, 93, 54, 5, 42, 180, 0, 33, 21, 5, 42, 180, 0, 30, 21, 4, 46, 79, 42, 180, 0, 30]
abbrev dktX2_text_7 : List UInt8 := dkwX2_text_7 ++ dktX2_text_8
def dkwX2_text_6 : List UInt8 := [181, 0, 56, 21, 5, 172, 42, 180, 0, 33, 21, 5, 46, 54, 5, 167, 255, 157, 42, 3, 27, 28, 9]
abbrev dktX2_text_6 : List UInt8 := dkwX2_text_6 ++ dktX2_text_7
def dkwX2_text_5 : List UInt8 := [160, 0, 7, 4, 167, 0, 4, 3, 54, 6, 132, 7, 1, 167, 255, 208, 21, 6, 153, 0, 11, 42, 27]
abbrev dktX2_text_5 : List UInt8 := dkwX2_text_5 ++ dktX2_text_6
def dkwX2_text_4 : List UInt8 := [42, 180, 0, 13, 42, 180, 0, 20, 21, 5, 46, 21, 7, 96, 52, 42, 180, 0, 13, 27, 21, 7, 96, 52]
abbrev dktX2_text_4 : List UInt8 := dkwX2_text_4 ++ dktX2_text_5
def dkwX2_text_3 : List UInt8 := [160, 0, 7, 4, 167, 0, 4, 3, 54, 6, 3, 54, 7, 21, 7, 28, 162, 0, 48, 21, 6, 153, 0, 43]
abbrev dktX2_text_3 : List UInt8 := dkwX2_text_3 ++ dktX2_text_4
def dkwX2_text_2 : List UInt8 := [54, 4, 42, 180, 0, 30, 21, 4, 46, 54, 5, 21, 5, 155, 0, 100, 42, 180, 0, 23, 21, 5, 46, 28]
abbrev dktX2_text_2 : List UInt8 := dkwX2_text_2 ++ dktX2_text_3
def dkwX2_text_1 : List UInt8 := [104, 42, 180, 0, 13, 21, 4, 52, 96, 62, 132, 4, 1, 167, 255, 231, 29, 16, 7, 124, 17, 3, 255, 126]
abbrev dktX2_text_1 : List UInt8 := dkwX2_text_1 ++ dktX2_text_2
def dkwX2_text_0 : List UInt8 := [42, 180, 0, 56, 27, 100, 61, 28, 62, 27, 54, 4, 21, 4, 42, 180, 0, 56, 162, 0, 22, 16, 31, 29]
abbrev dktX2_text_0 : List UInt8 := dkwX2_text_0 ++ dktX2_text_1
theorem dksX2_text_0 : cX2_text.data.toList.drop 0 = dktX2_text_0 := by decide +kernel
theorem dksX2_text_1 : cX2_text.data.toList.drop 24 = dktX2_text_1 := dk_seg dksX2_text_0 24 rfl rfl
theorem dksX2_text_2 : cX2_text.data.toList.drop 48 = dktX2_text_2 := dk_seg dksX2_text_1 24 rfl rfl
theorem dksX2_text_3 : cX2_text.data.toList.drop 72 = dktX2_text_3 := dk_seg dksX2_text_2 24 rfl rfl
theorem dksX2_text_4 : cX2_text.data.toList.drop 96 = dktX2_text_4 := dk_seg dksX2_text_3 24 rfl rfl
theorem dksX2_text_5 : cX2_text.data.toList.drop 120 = dktX2_text_5 := dk_seg dksX2_text_4 24 rfl rfl
theorem dksX2_text_6 : cX2_text.data.toList.drop 143 = dktX2_text_6 := dk_seg dksX2_text_5 23 rfl rfl
theorem dksX2_text_7 : cX2_text.data.toList.drop 166 = dktX2_text_7 := dk_seg dksX2_text_6 23 rfl rfl
theorem dksX2_text_8 : cX2_text.data.toList.drop 189 = dktX2_text_8 := dk_seg dksX2_text_7 23 rfl rfl
theorem dX2_text_0 : decode cX2_text 0 = .ok (.aload_n 0, 1) := dk_42 (dk_at dksX2_text_0 0 rfl rfl)
theorem dX2_text_1 : decode cX2_text 1 = .ok (.getfield 56, 3) := dk_180 0 56 (dk_at dksX2_text_0 1 rfl rfl)
theorem dX2_text_4 : decode cX2_text 4 = .ok (.iload_n 1, 1) := dk_27 (dk_at dksX2_text_0 4 rfl rfl)
theorem dX2_text_5 : decode cX2_text 5 = .ok (.isub, 1) := dk_100 (dk_at dksX2_text_0 5 rfl rfl)
theorem dX2_text_6 : decode cX2_text 6 = .ok (.istore_n 2, 1) := dk_61 (dk_at dksX2_text_0 6 rfl rfl)
theorem dX2_text_7 : decode cX2_text 7 = .ok (.iload_n 2, 1) := dk_28 (dk_at dksX2_text_0 7 rfl rfl)
theorem dX2_text_8 : decode cX2_text 8 = .ok (.istore_n 3, 1) := dk_62 (dk_at dksX2_text_0 8 rfl rfl)
theorem dX2_text_9 : decode cX2_text 9 = .ok (.iload_n 1, 1) := dk_27 (dk_at dksX2_text_0 9 rfl rfl)
theorem dX2_text_10 : decode cX2_text 10 = .ok (.istore 4, 2) := dk_54 4 (dk_at dksX2_text_0 10 rfl rfl)
theorem dX2_text_12 : decode cX2_text 12 = .ok (.iload 4, 2) := dk_21 4 (dk_at dksX2_text_0 12 rfl rfl)
theorem dX2_text_14 : decode cX2_text 14 = .ok (.aload_n 0, 1) := dk_42 (dk_at dksX2_text_0 14 rfl rfl)
theorem dX2_text_15 : decode cX2_text 15 = .ok (.getfield 56, 3) := dk_180 0 56 (dk_at dksX2_text_0 15 rfl rfl)
theorem dX2_text_18 : decode cX2_text 18 = .ok (.if_icmp .ge 22, 3) := dk_162 0 22 (dk_at dksX2_text_0 18 rfl rfl)
theorem dX2_text_21 : decode cX2_text 21 = .ok (.bipush 31, 2) := dk_16 31 (dk_at dksX2_text_0 21 rfl rfl)
theorem dX2_text_23 : decode cX2_text 23 = .ok (.iload_n 3, 1) := dk_29 (dk_at dksX2_text_0 23 rfl rfl)
theorem dX2_text_24 : decode cX2_text 24 = .ok (.imul, 1) := dk_104 (dk_at dksX2_text_1 0 rfl rfl)
theorem dX2_text_25 : decode cX2_text 25 = .ok (.aload_n 0, 1) := dk_42 (dk_at dksX2_text_1 1 rfl rfl)
theorem dX2_text_26 : decode cX2_text 26 = .ok (.getfield 13, 3) := dk_180 0 13 (dk_at dksX2_text_1 2 rfl rfl)
theorem dX2_text_29 : decode cX2_text 29 = .ok (.iload 4, 2) := dk_21 4 (dk_at dksX2_text_1 5 rfl rfl)
theorem dX2_text_31 : decode cX2_text 31 = .ok (.caload, 1) := dk_52 (dk_at dksX2_text_1 7 rfl rfl)
theorem dX2_text_32 : decode cX2_text 32 = .ok (.iadd, 1) := dk_96 (dk_at dksX2_text_1 8 rfl rfl)
theorem dX2_text_33 : decode cX2_text 33 = .ok (.istore_n 3, 1) := dk_62 (dk_at dksX2_text_1 9 rfl rfl)
theorem dX2_text_34 : decode cX2_text 34 = .ok (.iinc 4 1, 3) := dk_132 4 1 (dk_at dksX2_text_1 10 rfl rfl)
theorem dX2_text_37 : decode cX2_text 37 = .ok (.goto (-25), 3) := dk_167 255 231 (dk_at dksX2_text_1 13 rfl rfl)
theorem dX2_text_40 : decode cX2_text 40 = .ok (.iload_n 3, 1) := dk_29 (dk_at dksX2_text_1 16 rfl rfl)
theorem dX2_text_41 : decode cX2_text 41 = .ok (.bipush 7, 2) := dk_16 7 (dk_at dksX2_text_1 17 rfl rfl)
theorem dX2_text_43 : decode cX2_text 43 = .ok (.iushr, 1) := dk_124 (dk_at dksX2_text_1 19 rfl rfl)
theorem dX2_text_44 : decode cX2_text 44 = .ok (.sipush 1023, 3) := dk_17 3 255 (dk_at dksX2_text_1 20 rfl rfl)
theorem dX2_text_47 : decode cX2_text 47 = .ok (.iand, 1) := dk_126 (dk_at dksX2_text_1 23 rfl rfl)
theorem dX2_text_48 : decode cX2_text 48 = .ok (.istore 4, 2) := dk_54 4 (dk_at dksX2_text_2 0 rfl rfl)
theorem dX2_text_50 : decode cX2_text 50 = .ok (.aload_n 0, 1) := dk_42 (dk_at dksX2_text_2 2 rfl rfl)
theorem dX2_text_51 : decode cX2_text 51 = .ok (.getfield 30, 3) := dk_180 0 30 (dk_at dksX2_text_2 3 rfl rfl)
theorem dX2_text_54 : decode cX2_text 54 = .ok (.iload 4, 2) := dk_21 4 (dk_at dksX2_text_2 6 rfl rfl)
theorem dX2_text_56 : decode cX2_text 56 = .ok (.iaload, 1) := dk_46 (dk_at dksX2_text_2 8 rfl rfl)
theorem dX2_text_57 : decode cX2_text 57 = .ok (.istore 5, 2) := dk_54 5 (dk_at dksX2_text_2 9 rfl rfl)
theorem dX2_text_59 : decode cX2_text 59 = .ok (.iload 5, 2) := dk_21 5 (dk_at dksX2_text_2 11 rfl rfl)
theorem dX2_text_61 : decode cX2_text 61 = .ok (.ifCond .lt 100, 3) := dk_155 0 100 (dk_at dksX2_text_2 13 rfl rfl)
theorem dX2_text_64 : decode cX2_text 64 = .ok (.aload_n 0, 1) := dk_42 (dk_at dksX2_text_2 16 rfl rfl)
theorem dX2_text_65 : decode cX2_text 65 = .ok (.getfield 23, 3) := dk_180 0 23 (dk_at dksX2_text_2 17 rfl rfl)
theorem dX2_text_68 : decode cX2_text 68 = .ok (.iload 5, 2) := dk_21 5 (dk_at dksX2_text_2 20 rfl rfl)
theorem dX2_text_70 : decode cX2_text 70 = .ok (.iaload, 1) := dk_46 (dk_at dksX2_text_2 22 rfl rfl)
theorem dX2_text_71 : decode cX2_text 71 = .ok (.iload_n 2, 1) := dk_28 (dk_at dksX2_text_2 23 rfl rfl)
theorem dX2_text_72 : decode cX2_text 72 = .ok (.if_icmp .ne 7, 3) := dk_160 0 7 (dk_at dksX2_text_3 0 rfl rfl)
theorem dX2_text_75 : decode cX2_text 75 = .ok (.iconst 1, 1) := dk_4 (dk_at dksX2_text_3 3 rfl rfl)
theorem dX2_text_76 : decode cX2_text 76 = .ok (.goto 4, 3) := dk_167 0 4 (dk_at dksX2_text_3 4 rfl rfl)
theorem dX2_text_79 : decode cX2_text 79 = .ok (.iconst 0, 1) := dk_3 (dk_at dksX2_text_3 7 rfl rfl)
theorem dX2_text_80 : decode cX2_text 80 = .ok (.istore 6, 2) := dk_54 6 (dk_at dksX2_text_3 8 rfl rfl)
theorem dX2_text_82 : decode cX2_text 82 = .ok (.iconst 0, 1) := dk_3 (dk_at dksX2_text_3 10 rfl rfl)
theorem dX2_text_83 : decode cX2_text 83 = .ok (.istore 7, 2) := dk_54 7 (dk_at dksX2_text_3 11 rfl rfl)
theorem dX2_text_85 : decode cX2_text 85 = .ok (.iload 7, 2) := dk_21 7 (dk_at dksX2_text_3 13 rfl rfl)
theorem dX2_text_87 : decode cX2_text 87 = .ok (.iload_n 2, 1) := dk_28 (dk_at dksX2_text_3 15 rfl rfl)
theorem dX2_text_88 : decode cX2_text 88 = .ok (.if_icmp .ge 48, 3) := dk_162 0 48 (dk_at dksX2_text_3 16 rfl rfl)
theorem dX2_text_91 : decode cX2_text 91 = .ok (.iload 6, 2) := dk_21 6 (dk_at dksX2_text_3 19 rfl rfl)
theorem dX2_text_93 : decode cX2_text 93 = .ok (.ifCond .eq 43, 3) := dk_153 0 43 (dk_at dksX2_text_3 21 rfl rfl)
theorem dX2_text_96 : decode cX2_text 96 = .ok (.aload_n 0, 1) := dk_42 (dk_at dksX2_text_4 0 rfl rfl)
theorem dX2_text_97 : decode cX2_text 97 = .ok (.getfield 13, 3) := dk_180 0 13 (dk_at dksX2_text_4 1 rfl rfl)
theorem dX2_text_100 : decode cX2_text 100 = .ok (.aload_n 0, 1) := dk_42 (dk_at dksX2_text_4 4 rfl rfl)
theorem dX2_text_101 : decode cX2_text 101 = .ok (.getfield 20, 3) := dk_180 0 20 (dk_at dksX2_text_4 5 rfl rfl)
theorem dX2_text_104 : decode cX2_text 104 = .ok (.iload 5, 2) := dk_21 5 (dk_at dksX2_text_4 8 rfl rfl)
theorem dX2_text_106 : decode cX2_text 106 = .ok (.iaload, 1) := dk_46 (dk_at dksX2_text_4 10 rfl rfl)
theorem dX2_text_107 : decode cX2_text 107 = .ok (.iload 7, 2) := dk_21 7 (dk_at dksX2_text_4 11 rfl rfl)
theorem dX2_text_109 : decode cX2_text 109 = .ok (.iadd, 1) := dk_96 (dk_at dksX2_text_4 13 rfl rfl)
theorem dX2_text_110 : decode cX2_text 110 = .ok (.caload, 1) := dk_52 (dk_at dksX2_text_4 14 rfl rfl)
theorem dX2_text_111 : decode cX2_text 111 = .ok (.aload_n 0, 1) := dk_42 (dk_at dksX2_text_4 15 rfl rfl)
theorem dX2_text_112 : decode cX2_text 112 = .ok (.getfield 13, 3) := dk_180 0 13 (dk_at dksX2_text_4 16 rfl rfl)
theorem dX2_text_115 : decode cX2_text 115 = .ok (.iload_n 1, 1) := dk_27 (dk_at dksX2_text_4 19 rfl rfl)
theorem dX2_text_116 : decode cX2_text 116 = .ok (.iload 7, 2) := dk_21 7 (dk_at dksX2_text_4 20 rfl rfl)
theorem dX2_text_118 : decode cX2_text 118 = .ok (.iadd, 1) := dk_96 (dk_at dksX2_text_4 22 rfl rfl)
theorem dX2_text_119 : decode cX2_text 119 = .ok (.caload, 1) := dk_52 (dk_at dksX2_text_4 23 rfl rfl)
theorem dX2_text_120 : decode cX2_text 120 = .ok (.if_icmp .ne 7, 3) := dk_160 0 7 (dk_at dksX2_text_5 0 rfl rfl)
theorem dX2_text_123 : decode cX2_text 123 = .ok (.iconst 1, 1) := dk_4 (dk_at dksX2_text_5 3 rfl rfl)
theorem dX2_text_124 : decode cX2_text 124 = .ok (.goto 4, 3) := dk_167 0 4 (dk_at dksX2_text_5 4 rfl rfl)
theorem dX2_text_127 : decode cX2_text 127 = .ok (.iconst 0, 1) := dk_3 (dk_at dksX2_text_5 7 rfl rfl)
theorem dX2_text_128 : decode cX2_text 128 = .ok (.istore 6, 2) := dk_54 6 (dk_at dksX2_text_5 8 rfl rfl)
theorem dX2_text_130 : decode cX2_text 130 = .ok (.iinc 7 1, 3) := dk_132 7 1 (dk_at dksX2_text_5 10 rfl rfl)
theorem dX2_text_133 : decode cX2_text 133 = .ok (.goto (-48), 3) := dk_167 255 208 (dk_at dksX2_text_5 13 rfl rfl)
theorem dX2_text_136 : decode cX2_text 136 = .ok (.iload 6, 2) := dk_21 6 (dk_at dksX2_text_5 16 rfl rfl)
theorem dX2_text_138 : decode cX2_text 138 = .ok (.ifCond .eq 11, 3) := dk_153 0 11 (dk_at dksX2_text_5 18 rfl rfl)
theorem dX2_text_141 : decode cX2_text 141 = .ok (.aload_n 0, 1) := dk_42 (dk_at dksX2_text_5 21 rfl rfl)
theorem dX2_text_142 : decode cX2_text 142 = .ok (.iload_n 1, 1) := dk_27 (dk_at dksX2_text_5 22 rfl rfl)
theorem dX2_text_143 : decode cX2_text 143 = .ok (.putfield 56, 3) := dk_181 0 56 (dk_at dksX2_text_6 0 rfl rfl)
theorem dX2_text_146 : decode cX2_text 146 = .ok (.iload 5, 2) := dk_21 5 (dk_at dksX2_text_6 3 rfl rfl)
theorem dX2_text_148 : decode cX2_text 148 = .ok (.ireturn, 1) := dk_172 (dk_at dksX2_text_6 5 rfl rfl)
theorem dX2_text_149 : decode cX2_text 149 = .ok (.aload_n 0, 1) := dk_42 (dk_at dksX2_text_6 6 rfl rfl)
theorem dX2_text_150 : decode cX2_text 150 = .ok (.getfield 33, 3) := dk_180 0 33 (dk_at dksX2_text_6 7 rfl rfl)
theorem dX2_text_153 : decode cX2_text 153 = .ok (.iload 5, 2) := dk_21 5 (dk_at dksX2_text_6 10 rfl rfl)
theorem dX2_text_155 : decode cX2_text 155 = .ok (.iaload, 1) := dk_46 (dk_at dksX2_text_6 12 rfl rfl)
theorem dX2_text_156 : decode cX2_text 156 = .ok (.istore 5, 2) := dk_54 5 (dk_at dksX2_text_6 13 rfl rfl)
theorem dX2_text_158 : decode cX2_text 158 = .ok (.goto (-99), 3) := dk_167 255 157 (dk_at dksX2_text_6 15 rfl rfl)
theorem dX2_text_161 : decode cX2_text 161 = .ok (.aload_n 0, 1) := dk_42 (dk_at dksX2_text_6 18 rfl rfl)
theorem dX2_text_162 : decode cX2_text 162 = .ok (.iconst 0, 1) := dk_3 (dk_at dksX2_text_6 19 rfl rfl)
theorem dX2_text_163 : decode cX2_text 163 = .ok (.iload_n 1, 1) := dk_27 (dk_at dksX2_text_6 20 rfl rfl)
theorem dX2_text_164 : decode cX2_text 164 = .ok (.iload_n 2, 1) := dk_28 (dk_at dksX2_text_6 21 rfl rfl)
theorem dX2_text_165 : decode cX2_text 165 = .ok (.lconst 0, 1) := dk_9 (dk_at dksX2_text_6 22 rfl rfl)
theorem dX2_text_166 : decode cX2_text 166 = .ok (.invokevirtual 93, 3) := dk_182 0 93 (dk_at dksX2_text_7 0 rfl rfl)
theorem dX2_text_169 : decode cX2_text 169 = .ok (.istore 5, 2) := dk_54 5 (dk_at dksX2_text_7 3 rfl rfl)
theorem dX2_text_171 : decode cX2_text 171 = .ok (.aload_n 0, 1) := dk_42 (dk_at dksX2_text_7 5 rfl rfl)
theorem dX2_text_172 : decode cX2_text 172 = .ok (.getfield 33, 3) := dk_180 0 33 (dk_at dksX2_text_7 6 rfl rfl)
theorem dX2_text_175 : decode cX2_text 175 = .ok (.iload 5, 2) := dk_21 5 (dk_at dksX2_text_7 9 rfl rfl)
theorem dX2_text_177 : decode cX2_text 177 = .ok (.aload_n 0, 1) := dk_42 (dk_at dksX2_text_7 11 rfl rfl)
theorem dX2_text_178 : decode cX2_text 178 = .ok (.getfield 30, 3) := dk_180 0 30 (dk_at dksX2_text_7 12 rfl rfl)
theorem dX2_text_181 : decode cX2_text 181 = .ok (.iload 4, 2) := dk_21 4 (dk_at dksX2_text_7 15 rfl rfl)
theorem dX2_text_183 : decode cX2_text 183 = .ok (.iaload, 1) := dk_46 (dk_at dksX2_text_7 17 rfl rfl)
theorem dX2_text_184 : decode cX2_text 184 = .ok (.iastore, 1) := dk_79 (dk_at dksX2_text_7 18 rfl rfl)
theorem dX2_text_185 : decode cX2_text 185 = .ok (.aload_n 0, 1) := dk_42 (dk_at dksX2_text_7 19 rfl rfl)
theorem dX2_text_186 : decode cX2_text 186 = .ok (.getfield 30, 3) := dk_180 0 30 (dk_at dksX2_text_7 20 rfl rfl)
theorem dX2_text_189 : decode cX2_text 189 = .ok (.iload 4, 2) := dk_21 4 (dk_at dksX2_text_8 0 rfl rfl)
theorem dX2_text_191 : decode cX2_text 191 = .ok (.iload 5, 2) := dk_21 5 (dk_at dksX2_text_8 2 rfl rfl)
theorem dX2_text_193 : decode cX2_text 193 = .ok (.iastore, 1) := dk_79 (dk_at dksX2_text_8 4 rfl rfl)
theorem dX2_text_194 : decode cX2_text 194 = .ok (.iload 5, 2) := dk_21 5 (dk_at dksX2_text_8 5 rfl rfl)
theorem dX2_text_196 : decode cX2_text 196 = .ok (.ireturn, 1) := dk_172 (dk_at dksX2_text_8 7 rfl rfl)
abbrev cX2_constant : ByteArray := prog_2_method_5_code
def yX2_constant : MethodName := ⟨RX2, "constant", "(IIIJ)I"⟩
def dkwX2_constant_6 : List UInt8 := [180, 0, 59, 4, 96, 181, 0, 59, 42, 180, 0, 59, 4, 100, 172]
abbrev dktX2_constant_6 : List UInt8 := dkwX2_constant_6 ++ []
def dkwX2_constant_5 : List UInt8 := [180, 0, 23, 42, 180, 0, 59, 29, 79, 42, 180, 0, 26, 42, 180, 0, 59, 22, 4, 80, 42, 89]
abbrev dktX2_constant_5 : List UInt8 := dkwX2_constant_5 ++ dktX2_constant_6
def dkwX2_constant_4 : List UInt8 := [181, 0, 33, 42, 180, 0, 17, 42, 180, 0, 59, 27, 79, 42, 180, 0, 20, 42, 180, 0, 59, 28, 79, 42]
abbrev dktX2_constant_4 : List UInt8 := dkwX2_constant_4 ++ dktX2_constant_5
def dkwX2_constant_3 : List UInt8 := [180, 0, 59, 104, 184, 0, 90, 181, 0, 26, 42, 42, 180, 0, 33, 5, 42, 180, 0, 59, 104, 184, 0, 83]
abbrev dktX2_constant_3 : List UInt8 := dkwX2_constant_3 ++ dktX2_constant_4
def dkwX2_constant_2 : List UInt8 := [42, 180, 0, 23, 5, 42, 180, 0, 59, 104, 184, 0, 83, 181, 0, 23, 42, 42, 180, 0, 26, 5, 42]
abbrev dktX2_constant_2 : List UInt8 := dkwX2_constant_2 ++ dktX2_constant_3
def dkwX2_constant_1 : List UInt8 := [184, 0, 83, 181, 0, 17, 42, 42, 180, 0, 20, 5, 42, 180, 0, 59, 104, 184, 0, 83, 181, 0, 20, 42]
abbrev dktX2_constant_1 : List UInt8 := dkwX2_constant_1 ++ dktX2_constant_2
def dkwX2_constant_0 : List UInt8 := [42, 180, 0, 59, 42, 180, 0, 17, 190, 160, 0, 88, 42, 42, 180, 0, 17, 5, 42, 180, 0, 59, 104]
abbrev dktX2_constant_0 : List UInt8 := dkwX2_constant_0 ++ dktX2_constant_1
theorem dksX2_constant_0 : cX2_constant.data.toList.drop 0 = dktX2_constant_0 := by decide +kernel
theorem dksX2_constant_1 : cX2_constant.data.toList.drop 23 = dktX2_constant_1 := dk_seg dksX2_constant_0 23 rfl rfl
theorem dksX2_constant_2 : cX2_constant.data.toList.drop 47 = dktX2_constant_2 := dk_seg dksX2_constant_1 24 rfl rfl
theorem dksX2_constant_3 : cX2_constant.data.toList.drop 70 = dktX2_constant_3 := dk_seg dksX2_constant_2 23 rfl rfl
theorem dksX2_constant_4 : cX2_constant.data.toList.drop 94 = dktX2_constant_4 := dk_seg dksX2_constant_3 24 rfl rfl
theorem dksX2_constant_5 : cX2_constant.data.toList.drop 118 = dktX2_constant_5 := dk_seg dksX2_constant_4 24 rfl rfl
theorem dksX2_constant_6 : cX2_constant.data.toList.drop 140 = dktX2_constant_6 := dk_seg dksX2_constant_5 22 rfl rfl
theorem dX2_constant_0 : decode cX2_constant 0 = .ok (.aload_n 0, 1) := dk_42 (dk_at dksX2_constant_0 0 rfl rfl)
theorem dX2_constant_1 : decode cX2_constant 1 = .ok (.getfield 59, 3) := dk_180 0 59 (dk_at dksX2_constant_0 1 rfl rfl)
theorem dX2_constant_4 : decode cX2_constant 4 = .ok (.aload_n 0, 1) := dk_42 (dk_at dksX2_constant_0 4 rfl rfl)
theorem dX2_constant_5 : decode cX2_constant 5 = .ok (.getfield 17, 3) := dk_180 0 17 (dk_at dksX2_constant_0 5 rfl rfl)
theorem dX2_constant_8 : decode cX2_constant 8 = .ok (.arraylength, 1) := dk_190 (dk_at dksX2_constant_0 8 rfl rfl)
theorem dX2_constant_9 : decode cX2_constant 9 = .ok (.if_icmp .ne 88, 3) := dk_160 0 88 (dk_at dksX2_constant_0 9 rfl rfl)
theorem dX2_constant_12 : decode cX2_constant 12 = .ok (.aload_n 0, 1) := dk_42 (dk_at dksX2_constant_0 12 rfl rfl)
theorem dX2_constant_13 : decode cX2_constant 13 = .ok (.aload_n 0, 1) := dk_42 (dk_at dksX2_constant_0 13 rfl rfl)
theorem dX2_constant_14 : decode cX2_constant 14 = .ok (.getfield 17, 3) := dk_180 0 17 (dk_at dksX2_constant_0 14 rfl rfl)
theorem dX2_constant_17 : decode cX2_constant 17 = .ok (.iconst 2, 1) := dk_5 (dk_at dksX2_constant_0 17 rfl rfl)
theorem dX2_constant_18 : decode cX2_constant 18 = .ok (.aload_n 0, 1) := dk_42 (dk_at dksX2_constant_0 18 rfl rfl)
theorem dX2_constant_19 : decode cX2_constant 19 = .ok (.getfield 59, 3) := dk_180 0 59 (dk_at dksX2_constant_0 19 rfl rfl)
theorem dX2_constant_22 : decode cX2_constant 22 = .ok (.imul, 1) := dk_104 (dk_at dksX2_constant_0 22 rfl rfl)
theorem dX2_constant_23 : decode cX2_constant 23 = .ok (.invokestatic 83, 3) := dk_184 0 83 (dk_at dksX2_constant_1 0 rfl rfl)
theorem dX2_constant_26 : decode cX2_constant 26 = .ok (.putfield 17, 3) := dk_181 0 17 (dk_at dksX2_constant_1 3 rfl rfl)
theorem dX2_constant_29 : decode cX2_constant 29 = .ok (.aload_n 0, 1) := dk_42 (dk_at dksX2_constant_1 6 rfl rfl)
theorem dX2_constant_30 : decode cX2_constant 30 = .ok (.aload_n 0, 1) := dk_42 (dk_at dksX2_constant_1 7 rfl rfl)
theorem dX2_constant_31 : decode cX2_constant 31 = .ok (.getfield 20, 3) := dk_180 0 20 (dk_at dksX2_constant_1 8 rfl rfl)
theorem dX2_constant_34 : decode cX2_constant 34 = .ok (.iconst 2, 1) := dk_5 (dk_at dksX2_constant_1 11 rfl rfl)
theorem dX2_constant_35 : decode cX2_constant 35 = .ok (.aload_n 0, 1) := dk_42 (dk_at dksX2_constant_1 12 rfl rfl)
theorem dX2_constant_36 : decode cX2_constant 36 = .ok (.getfield 59, 3) := dk_180 0 59 (dk_at dksX2_constant_1 13 rfl rfl)
theorem dX2_constant_39 : decode cX2_constant 39 = .ok (.imul, 1) := dk_104 (dk_at dksX2_constant_1 16 rfl rfl)
theorem dX2_constant_40 : decode cX2_constant 40 = .ok (.invokestatic 83, 3) := dk_184 0 83 (dk_at dksX2_constant_1 17 rfl rfl)
theorem dX2_constant_43 : decode cX2_constant 43 = .ok (.putfield 20, 3) := dk_181 0 20 (dk_at dksX2_constant_1 20 rfl rfl)
theorem dX2_constant_46 : decode cX2_constant 46 = .ok (.aload_n 0, 1) := dk_42 (dk_at dksX2_constant_1 23 rfl rfl)
theorem dX2_constant_47 : decode cX2_constant 47 = .ok (.aload_n 0, 1) := dk_42 (dk_at dksX2_constant_2 0 rfl rfl)
theorem dX2_constant_48 : decode cX2_constant 48 = .ok (.getfield 23, 3) := dk_180 0 23 (dk_at dksX2_constant_2 1 rfl rfl)
theorem dX2_constant_51 : decode cX2_constant 51 = .ok (.iconst 2, 1) := dk_5 (dk_at dksX2_constant_2 4 rfl rfl)
theorem dX2_constant_52 : decode cX2_constant 52 = .ok (.aload_n 0, 1) := dk_42 (dk_at dksX2_constant_2 5 rfl rfl)
theorem dX2_constant_53 : decode cX2_constant 53 = .ok (.getfield 59, 3) := dk_180 0 59 (dk_at dksX2_constant_2 6 rfl rfl)
theorem dX2_constant_56 : decode cX2_constant 56 = .ok (.imul, 1) := dk_104 (dk_at dksX2_constant_2 9 rfl rfl)
theorem dX2_constant_57 : decode cX2_constant 57 = .ok (.invokestatic 83, 3) := dk_184 0 83 (dk_at dksX2_constant_2 10 rfl rfl)
theorem dX2_constant_60 : decode cX2_constant 60 = .ok (.putfield 23, 3) := dk_181 0 23 (dk_at dksX2_constant_2 13 rfl rfl)
theorem dX2_constant_63 : decode cX2_constant 63 = .ok (.aload_n 0, 1) := dk_42 (dk_at dksX2_constant_2 16 rfl rfl)
theorem dX2_constant_64 : decode cX2_constant 64 = .ok (.aload_n 0, 1) := dk_42 (dk_at dksX2_constant_2 17 rfl rfl)
theorem dX2_constant_65 : decode cX2_constant 65 = .ok (.getfield 26, 3) := dk_180 0 26 (dk_at dksX2_constant_2 18 rfl rfl)
theorem dX2_constant_68 : decode cX2_constant 68 = .ok (.iconst 2, 1) := dk_5 (dk_at dksX2_constant_2 21 rfl rfl)
theorem dX2_constant_69 : decode cX2_constant 69 = .ok (.aload_n 0, 1) := dk_42 (dk_at dksX2_constant_2 22 rfl rfl)
theorem dX2_constant_70 : decode cX2_constant 70 = .ok (.getfield 59, 3) := dk_180 0 59 (dk_at dksX2_constant_3 0 rfl rfl)
theorem dX2_constant_73 : decode cX2_constant 73 = .ok (.imul, 1) := dk_104 (dk_at dksX2_constant_3 3 rfl rfl)
theorem dX2_constant_74 : decode cX2_constant 74 = .ok (.invokestatic 90, 3) := dk_184 0 90 (dk_at dksX2_constant_3 4 rfl rfl)
theorem dX2_constant_77 : decode cX2_constant 77 = .ok (.putfield 26, 3) := dk_181 0 26 (dk_at dksX2_constant_3 7 rfl rfl)
theorem dX2_constant_80 : decode cX2_constant 80 = .ok (.aload_n 0, 1) := dk_42 (dk_at dksX2_constant_3 10 rfl rfl)
theorem dX2_constant_81 : decode cX2_constant 81 = .ok (.aload_n 0, 1) := dk_42 (dk_at dksX2_constant_3 11 rfl rfl)
theorem dX2_constant_82 : decode cX2_constant 82 = .ok (.getfield 33, 3) := dk_180 0 33 (dk_at dksX2_constant_3 12 rfl rfl)
theorem dX2_constant_85 : decode cX2_constant 85 = .ok (.iconst 2, 1) := dk_5 (dk_at dksX2_constant_3 15 rfl rfl)
theorem dX2_constant_86 : decode cX2_constant 86 = .ok (.aload_n 0, 1) := dk_42 (dk_at dksX2_constant_3 16 rfl rfl)
theorem dX2_constant_87 : decode cX2_constant 87 = .ok (.getfield 59, 3) := dk_180 0 59 (dk_at dksX2_constant_3 17 rfl rfl)
theorem dX2_constant_90 : decode cX2_constant 90 = .ok (.imul, 1) := dk_104 (dk_at dksX2_constant_3 20 rfl rfl)
theorem dX2_constant_91 : decode cX2_constant 91 = .ok (.invokestatic 83, 3) := dk_184 0 83 (dk_at dksX2_constant_3 21 rfl rfl)
theorem dX2_constant_94 : decode cX2_constant 94 = .ok (.putfield 33, 3) := dk_181 0 33 (dk_at dksX2_constant_4 0 rfl rfl)
theorem dX2_constant_97 : decode cX2_constant 97 = .ok (.aload_n 0, 1) := dk_42 (dk_at dksX2_constant_4 3 rfl rfl)
theorem dX2_constant_98 : decode cX2_constant 98 = .ok (.getfield 17, 3) := dk_180 0 17 (dk_at dksX2_constant_4 4 rfl rfl)
theorem dX2_constant_101 : decode cX2_constant 101 = .ok (.aload_n 0, 1) := dk_42 (dk_at dksX2_constant_4 7 rfl rfl)
theorem dX2_constant_102 : decode cX2_constant 102 = .ok (.getfield 59, 3) := dk_180 0 59 (dk_at dksX2_constant_4 8 rfl rfl)
theorem dX2_constant_105 : decode cX2_constant 105 = .ok (.iload_n 1, 1) := dk_27 (dk_at dksX2_constant_4 11 rfl rfl)
theorem dX2_constant_106 : decode cX2_constant 106 = .ok (.iastore, 1) := dk_79 (dk_at dksX2_constant_4 12 rfl rfl)
theorem dX2_constant_107 : decode cX2_constant 107 = .ok (.aload_n 0, 1) := dk_42 (dk_at dksX2_constant_4 13 rfl rfl)
theorem dX2_constant_108 : decode cX2_constant 108 = .ok (.getfield 20, 3) := dk_180 0 20 (dk_at dksX2_constant_4 14 rfl rfl)
theorem dX2_constant_111 : decode cX2_constant 111 = .ok (.aload_n 0, 1) := dk_42 (dk_at dksX2_constant_4 17 rfl rfl)
theorem dX2_constant_112 : decode cX2_constant 112 = .ok (.getfield 59, 3) := dk_180 0 59 (dk_at dksX2_constant_4 18 rfl rfl)
theorem dX2_constant_115 : decode cX2_constant 115 = .ok (.iload_n 2, 1) := dk_28 (dk_at dksX2_constant_4 21 rfl rfl)
theorem dX2_constant_116 : decode cX2_constant 116 = .ok (.iastore, 1) := dk_79 (dk_at dksX2_constant_4 22 rfl rfl)
theorem dX2_constant_117 : decode cX2_constant 117 = .ok (.aload_n 0, 1) := dk_42 (dk_at dksX2_constant_4 23 rfl rfl)
theorem dX2_constant_118 : decode cX2_constant 118 = .ok (.getfield 23, 3) := dk_180 0 23 (dk_at dksX2_constant_5 0 rfl rfl)
theorem dX2_constant_121 : decode cX2_constant 121 = .ok (.aload_n 0, 1) := dk_42 (dk_at dksX2_constant_5 3 rfl rfl)
theorem dX2_constant_122 : decode cX2_constant 122 = .ok (.getfield 59, 3) := dk_180 0 59 (dk_at dksX2_constant_5 4 rfl rfl)
theorem dX2_constant_125 : decode cX2_constant 125 = .ok (.iload_n 3, 1) := dk_29 (dk_at dksX2_constant_5 7 rfl rfl)
theorem dX2_constant_126 : decode cX2_constant 126 = .ok (.iastore, 1) := dk_79 (dk_at dksX2_constant_5 8 rfl rfl)
theorem dX2_constant_127 : decode cX2_constant 127 = .ok (.aload_n 0, 1) := dk_42 (dk_at dksX2_constant_5 9 rfl rfl)
theorem dX2_constant_128 : decode cX2_constant 128 = .ok (.getfield 26, 3) := dk_180 0 26 (dk_at dksX2_constant_5 10 rfl rfl)
theorem dX2_constant_131 : decode cX2_constant 131 = .ok (.aload_n 0, 1) := dk_42 (dk_at dksX2_constant_5 13 rfl rfl)
theorem dX2_constant_132 : decode cX2_constant 132 = .ok (.getfield 59, 3) := dk_180 0 59 (dk_at dksX2_constant_5 14 rfl rfl)
theorem dX2_constant_135 : decode cX2_constant 135 = .ok (.lload 4, 2) := dk_22 4 (dk_at dksX2_constant_5 17 rfl rfl)
theorem dX2_constant_137 : decode cX2_constant 137 = .ok (.lastore, 1) := dk_80 (dk_at dksX2_constant_5 19 rfl rfl)
theorem dX2_constant_138 : decode cX2_constant 138 = .ok (.aload_n 0, 1) := dk_42 (dk_at dksX2_constant_5 20 rfl rfl)
theorem dX2_constant_139 : decode cX2_constant 139 = .ok (.dup, 1) := dk_89 (dk_at dksX2_constant_5 21 rfl rfl)
theorem dX2_constant_140 : decode cX2_constant 140 = .ok (.getfield 59, 3) := dk_180 0 59 (dk_at dksX2_constant_6 0 rfl rfl)
theorem dX2_constant_143 : decode cX2_constant 143 = .ok (.iconst 1, 1) := dk_4 (dk_at dksX2_constant_6 3 rfl rfl)
theorem dX2_constant_144 : decode cX2_constant 144 = .ok (.iadd, 1) := dk_96 (dk_at dksX2_constant_6 4 rfl rfl)
theorem dX2_constant_145 : decode cX2_constant 145 = .ok (.putfield 59, 3) := dk_181 0 59 (dk_at dksX2_constant_6 5 rfl rfl)
theorem dX2_constant_148 : decode cX2_constant 148 = .ok (.aload_n 0, 1) := dk_42 (dk_at dksX2_constant_6 8 rfl rfl)
theorem dX2_constant_149 : decode cX2_constant 149 = .ok (.getfield 59, 3) := dk_180 0 59 (dk_at dksX2_constant_6 9 rfl rfl)
theorem dX2_constant_152 : decode cX2_constant 152 = .ok (.iconst 1, 1) := dk_4 (dk_at dksX2_constant_6 12 rfl rfl)
theorem dX2_constant_153 : decode cX2_constant 153 = .ok (.isub, 1) := dk_100 (dk_at dksX2_constant_6 13 rfl rfl)
theorem dX2_constant_154 : decode cX2_constant 154 = .ok (.ireturn, 1) := dk_172 (dk_at dksX2_constant_6 14 rfl rfl)
abbrev cX2_unit : ByteArray := prog_2_method_4_code
def yX2_unit : MethodName := ⟨RX2, "unit", "(I)V"⟩
def dkwX2_unit_2 : List UInt8 := [181, 0, 56, 177]
abbrev dktX2_unit_2 : List UInt8 := dkwX2_unit_2 ++ []
def dkwX2_unit_1 : List UInt8 := [184, 0, 87, 181, 0, 13, 42, 180, 0, 13, 42, 180, 0, 56, 27, 146, 85, 42, 89, 180, 0, 56, 4, 96]
abbrev dktX2_unit_1 : List UInt8 := dkwX2_unit_1 ++ dktX2_unit_2
def dkwX2_unit_0 : List UInt8 := [42, 180, 0, 56, 42, 180, 0, 13, 190, 160, 0, 20, 42, 42, 180, 0, 13, 5, 42, 180, 0, 56, 104]
abbrev dktX2_unit_0 : List UInt8 := dkwX2_unit_0 ++ dktX2_unit_1
theorem dksX2_unit_0 : cX2_unit.data.toList.drop 0 = dktX2_unit_0 := by decide +kernel
theorem dksX2_unit_1 : cX2_unit.data.toList.drop 23 = dktX2_unit_1 := dk_seg dksX2_unit_0 23 rfl rfl
theorem dksX2_unit_2 : cX2_unit.data.toList.drop 47 = dktX2_unit_2 := dk_seg dksX2_unit_1 24 rfl rfl
theorem dX2_unit_0 : decode cX2_unit 0 = .ok (.aload_n 0, 1) := dk_42 (dk_at dksX2_unit_0 0 rfl rfl)
theorem dX2_unit_1 : decode cX2_unit 1 = .ok (.getfield 56, 3) := dk_180 0 56 (dk_at dksX2_unit_0 1 rfl rfl)
theorem dX2_unit_4 : decode cX2_unit 4 = .ok (.aload_n 0, 1) := dk_42 (dk_at dksX2_unit_0 4 rfl rfl)
theorem dX2_unit_5 : decode cX2_unit 5 = .ok (.getfield 13, 3) := dk_180 0 13 (dk_at dksX2_unit_0 5 rfl rfl)
theorem dX2_unit_8 : decode cX2_unit 8 = .ok (.arraylength, 1) := dk_190 (dk_at dksX2_unit_0 8 rfl rfl)
theorem dX2_unit_9 : decode cX2_unit 9 = .ok (.if_icmp .ne 20, 3) := dk_160 0 20 (dk_at dksX2_unit_0 9 rfl rfl)
theorem dX2_unit_12 : decode cX2_unit 12 = .ok (.aload_n 0, 1) := dk_42 (dk_at dksX2_unit_0 12 rfl rfl)
theorem dX2_unit_13 : decode cX2_unit 13 = .ok (.aload_n 0, 1) := dk_42 (dk_at dksX2_unit_0 13 rfl rfl)
theorem dX2_unit_14 : decode cX2_unit 14 = .ok (.getfield 13, 3) := dk_180 0 13 (dk_at dksX2_unit_0 14 rfl rfl)
theorem dX2_unit_17 : decode cX2_unit 17 = .ok (.iconst 2, 1) := dk_5 (dk_at dksX2_unit_0 17 rfl rfl)
theorem dX2_unit_18 : decode cX2_unit 18 = .ok (.aload_n 0, 1) := dk_42 (dk_at dksX2_unit_0 18 rfl rfl)
theorem dX2_unit_19 : decode cX2_unit 19 = .ok (.getfield 56, 3) := dk_180 0 56 (dk_at dksX2_unit_0 19 rfl rfl)
theorem dX2_unit_22 : decode cX2_unit 22 = .ok (.imul, 1) := dk_104 (dk_at dksX2_unit_0 22 rfl rfl)
theorem dX2_unit_23 : decode cX2_unit 23 = .ok (.invokestatic 87, 3) := dk_184 0 87 (dk_at dksX2_unit_1 0 rfl rfl)
theorem dX2_unit_26 : decode cX2_unit 26 = .ok (.putfield 13, 3) := dk_181 0 13 (dk_at dksX2_unit_1 3 rfl rfl)
theorem dX2_unit_29 : decode cX2_unit 29 = .ok (.aload_n 0, 1) := dk_42 (dk_at dksX2_unit_1 6 rfl rfl)
theorem dX2_unit_30 : decode cX2_unit 30 = .ok (.getfield 13, 3) := dk_180 0 13 (dk_at dksX2_unit_1 7 rfl rfl)
theorem dX2_unit_33 : decode cX2_unit 33 = .ok (.aload_n 0, 1) := dk_42 (dk_at dksX2_unit_1 10 rfl rfl)
theorem dX2_unit_34 : decode cX2_unit 34 = .ok (.getfield 56, 3) := dk_180 0 56 (dk_at dksX2_unit_1 11 rfl rfl)
theorem dX2_unit_37 : decode cX2_unit 37 = .ok (.iload_n 1, 1) := dk_27 (dk_at dksX2_unit_1 14 rfl rfl)
theorem dX2_unit_38 : decode cX2_unit 38 = .ok (.i2c, 1) := dk_146 (dk_at dksX2_unit_1 15 rfl rfl)
theorem dX2_unit_39 : decode cX2_unit 39 = .ok (.castore, 1) := dk_85 (dk_at dksX2_unit_1 16 rfl rfl)
theorem dX2_unit_40 : decode cX2_unit 40 = .ok (.aload_n 0, 1) := dk_42 (dk_at dksX2_unit_1 17 rfl rfl)
theorem dX2_unit_41 : decode cX2_unit 41 = .ok (.dup, 1) := dk_89 (dk_at dksX2_unit_1 18 rfl rfl)
theorem dX2_unit_42 : decode cX2_unit 42 = .ok (.getfield 56, 3) := dk_180 0 56 (dk_at dksX2_unit_1 19 rfl rfl)
theorem dX2_unit_45 : decode cX2_unit 45 = .ok (.iconst 1, 1) := dk_4 (dk_at dksX2_unit_1 22 rfl rfl)
theorem dX2_unit_46 : decode cX2_unit 46 = .ok (.iadd, 1) := dk_96 (dk_at dksX2_unit_1 23 rfl rfl)
theorem dX2_unit_47 : decode cX2_unit 47 = .ok (.putfield 56, 3) := dk_181 0 56 (dk_at dksX2_unit_2 0 rfl rfl)
theorem dX2_unit_50 : decode cX2_unit 50 = .ok (.return_, 1) := dk_177 (dk_at dksX2_unit_2 3 rfl rfl)
abbrev cX2_grown : ByteArray := prog_2_method_8_code
def yX2_grown : MethodName := ⟨RX2, "grown", "([II)[I"⟩
def dkwX2_grown_0 : List UInt8 := [28, 43, 190, 163, 0, 7, 43, 167, 0, 11, 43, 5, 43, 190, 104, 184, 0, 83, 176]
abbrev dktX2_grown_0 : List UInt8 := dkwX2_grown_0 ++ []
theorem dksX2_grown_0 : cX2_grown.data.toList.drop 0 = dktX2_grown_0 := by decide +kernel
theorem dX2_grown_0 : decode cX2_grown 0 = .ok (.iload_n 2, 1) := dk_28 (dk_at dksX2_grown_0 0 rfl rfl)
theorem dX2_grown_1 : decode cX2_grown 1 = .ok (.aload_n 1, 1) := dk_43 (dk_at dksX2_grown_0 1 rfl rfl)
theorem dX2_grown_2 : decode cX2_grown 2 = .ok (.arraylength, 1) := dk_190 (dk_at dksX2_grown_0 2 rfl rfl)
theorem dX2_grown_3 : decode cX2_grown 3 = .ok (.if_icmp .gt 7, 3) := dk_163 0 7 (dk_at dksX2_grown_0 3 rfl rfl)
theorem dX2_grown_6 : decode cX2_grown 6 = .ok (.aload_n 1, 1) := dk_43 (dk_at dksX2_grown_0 6 rfl rfl)
theorem dX2_grown_7 : decode cX2_grown 7 = .ok (.goto 11, 3) := dk_167 0 11 (dk_at dksX2_grown_0 7 rfl rfl)
theorem dX2_grown_10 : decode cX2_grown 10 = .ok (.aload_n 1, 1) := dk_43 (dk_at dksX2_grown_0 10 rfl rfl)
theorem dX2_grown_11 : decode cX2_grown 11 = .ok (.iconst 2, 1) := dk_5 (dk_at dksX2_grown_0 11 rfl rfl)
theorem dX2_grown_12 : decode cX2_grown 12 = .ok (.aload_n 1, 1) := dk_43 (dk_at dksX2_grown_0 12 rfl rfl)
theorem dX2_grown_13 : decode cX2_grown 13 = .ok (.arraylength, 1) := dk_190 (dk_at dksX2_grown_0 13 rfl rfl)
theorem dX2_grown_14 : decode cX2_grown 14 = .ok (.imul, 1) := dk_104 (dk_at dksX2_grown_0 14 rfl rfl)
theorem dX2_grown_15 : decode cX2_grown 15 = .ok (.invokestatic 83, 3) := dk_184 0 83 (dk_at dksX2_grown_0 15 rfl rfl)
theorem dX2_grown_18 : decode cX2_grown 18 = .ok (.areturn, 1) := dk_176 (dk_at dksX2_grown_0 18 rfl rfl)
abbrev cX2_isText : ByteArray := prog_2_method_7_code
def yX2_isText : MethodName := ⟨RX2, "isText", "(ILjava/lang/String;)Z"⟩
def dkwX2_isText_2 : List UInt8 := [159, 0, 5, 3, 172, 132, 3, 1, 167, 255, 222, 4, 172]
abbrev dktX2_isText_2 : List UInt8 := dkwX2_isText_2 ++ []
def dkwX2_isText_1 : List UInt8 := [182, 0, 97, 162, 0, 32, 42, 180, 0, 13, 42, 180, 0, 20, 27, 46, 29, 96, 52, 44, 29, 182, 0, 103]
abbrev dktX2_isText_1 : List UInt8 := dkwX2_isText_1 ++ dktX2_isText_2
def dkwX2_isText_0 : List UInt8 := [27, 155, 0, 16, 42, 180, 0, 23, 27, 46, 44, 182, 0, 97, 159, 0, 5, 3, 172, 3, 62, 29, 44]
abbrev dktX2_isText_0 : List UInt8 := dkwX2_isText_0 ++ dktX2_isText_1
theorem dksX2_isText_0 : cX2_isText.data.toList.drop 0 = dktX2_isText_0 := by decide +kernel
theorem dksX2_isText_1 : cX2_isText.data.toList.drop 23 = dktX2_isText_1 := dk_seg dksX2_isText_0 23 rfl rfl
theorem dksX2_isText_2 : cX2_isText.data.toList.drop 47 = dktX2_isText_2 := dk_seg dksX2_isText_1 24 rfl rfl
theorem dX2_isText_0 : decode cX2_isText 0 = .ok (.iload_n 1, 1) := dk_27 (dk_at dksX2_isText_0 0 rfl rfl)
theorem dX2_isText_1 : decode cX2_isText 1 = .ok (.ifCond .lt 16, 3) := dk_155 0 16 (dk_at dksX2_isText_0 1 rfl rfl)
theorem dX2_isText_4 : decode cX2_isText 4 = .ok (.aload_n 0, 1) := dk_42 (dk_at dksX2_isText_0 4 rfl rfl)
theorem dX2_isText_5 : decode cX2_isText 5 = .ok (.getfield 23, 3) := dk_180 0 23 (dk_at dksX2_isText_0 5 rfl rfl)
theorem dX2_isText_8 : decode cX2_isText 8 = .ok (.iload_n 1, 1) := dk_27 (dk_at dksX2_isText_0 8 rfl rfl)
theorem dX2_isText_9 : decode cX2_isText 9 = .ok (.iaload, 1) := dk_46 (dk_at dksX2_isText_0 9 rfl rfl)
theorem dX2_isText_10 : decode cX2_isText 10 = .ok (.aload_n 2, 1) := dk_44 (dk_at dksX2_isText_0 10 rfl rfl)
theorem dX2_isText_11 : decode cX2_isText 11 = .ok (.invokevirtual 97, 3) := dk_182 0 97 (dk_at dksX2_isText_0 11 rfl rfl)
theorem dX2_isText_14 : decode cX2_isText 14 = .ok (.if_icmp .eq 5, 3) := dk_159 0 5 (dk_at dksX2_isText_0 14 rfl rfl)
theorem dX2_isText_17 : decode cX2_isText 17 = .ok (.iconst 0, 1) := dk_3 (dk_at dksX2_isText_0 17 rfl rfl)
theorem dX2_isText_18 : decode cX2_isText 18 = .ok (.ireturn, 1) := dk_172 (dk_at dksX2_isText_0 18 rfl rfl)
theorem dX2_isText_19 : decode cX2_isText 19 = .ok (.iconst 0, 1) := dk_3 (dk_at dksX2_isText_0 19 rfl rfl)
theorem dX2_isText_20 : decode cX2_isText 20 = .ok (.istore_n 3, 1) := dk_62 (dk_at dksX2_isText_0 20 rfl rfl)
theorem dX2_isText_21 : decode cX2_isText 21 = .ok (.iload_n 3, 1) := dk_29 (dk_at dksX2_isText_0 21 rfl rfl)
theorem dX2_isText_22 : decode cX2_isText 22 = .ok (.aload_n 2, 1) := dk_44 (dk_at dksX2_isText_0 22 rfl rfl)
theorem dX2_isText_23 : decode cX2_isText 23 = .ok (.invokevirtual 97, 3) := dk_182 0 97 (dk_at dksX2_isText_1 0 rfl rfl)
theorem dX2_isText_26 : decode cX2_isText 26 = .ok (.if_icmp .ge 32, 3) := dk_162 0 32 (dk_at dksX2_isText_1 3 rfl rfl)
theorem dX2_isText_29 : decode cX2_isText 29 = .ok (.aload_n 0, 1) := dk_42 (dk_at dksX2_isText_1 6 rfl rfl)
theorem dX2_isText_30 : decode cX2_isText 30 = .ok (.getfield 13, 3) := dk_180 0 13 (dk_at dksX2_isText_1 7 rfl rfl)
theorem dX2_isText_33 : decode cX2_isText 33 = .ok (.aload_n 0, 1) := dk_42 (dk_at dksX2_isText_1 10 rfl rfl)
theorem dX2_isText_34 : decode cX2_isText 34 = .ok (.getfield 20, 3) := dk_180 0 20 (dk_at dksX2_isText_1 11 rfl rfl)
theorem dX2_isText_37 : decode cX2_isText 37 = .ok (.iload_n 1, 1) := dk_27 (dk_at dksX2_isText_1 14 rfl rfl)
theorem dX2_isText_38 : decode cX2_isText 38 = .ok (.iaload, 1) := dk_46 (dk_at dksX2_isText_1 15 rfl rfl)
theorem dX2_isText_39 : decode cX2_isText 39 = .ok (.iload_n 3, 1) := dk_29 (dk_at dksX2_isText_1 16 rfl rfl)
theorem dX2_isText_40 : decode cX2_isText 40 = .ok (.iadd, 1) := dk_96 (dk_at dksX2_isText_1 17 rfl rfl)
theorem dX2_isText_41 : decode cX2_isText 41 = .ok (.caload, 1) := dk_52 (dk_at dksX2_isText_1 18 rfl rfl)
theorem dX2_isText_42 : decode cX2_isText 42 = .ok (.aload_n 2, 1) := dk_44 (dk_at dksX2_isText_1 19 rfl rfl)
theorem dX2_isText_43 : decode cX2_isText 43 = .ok (.iload_n 3, 1) := dk_29 (dk_at dksX2_isText_1 20 rfl rfl)
theorem dX2_isText_44 : decode cX2_isText 44 = .ok (.invokevirtual 103, 3) := dk_182 0 103 (dk_at dksX2_isText_1 21 rfl rfl)
theorem dX2_isText_47 : decode cX2_isText 47 = .ok (.if_icmp .eq 5, 3) := dk_159 0 5 (dk_at dksX2_isText_2 0 rfl rfl)
theorem dX2_isText_50 : decode cX2_isText 50 = .ok (.iconst 0, 1) := dk_3 (dk_at dksX2_isText_2 3 rfl rfl)
theorem dX2_isText_51 : decode cX2_isText 51 = .ok (.ireturn, 1) := dk_172 (dk_at dksX2_isText_2 4 rfl rfl)
theorem dX2_isText_52 : decode cX2_isText 52 = .ok (.iinc 3 1, 3) := dk_132 3 1 (dk_at dksX2_isText_2 5 rfl rfl)
theorem dX2_isText_55 : decode cX2_isText 55 = .ok (.goto (-34), 3) := dk_167 255 222 (dk_at dksX2_isText_2 8 rfl rfl)
theorem dX2_isText_58 : decode cX2_isText 58 = .ok (.iconst 1, 1) := dk_4 (dk_at dksX2_isText_2 11 rfl rfl)
theorem dX2_isText_59 : decode cX2_isText 59 = .ok (.ireturn, 1) := dk_172 (dk_at dksX2_isText_2 12 rfl rfl)
theorem q237 : (Jvm.Cond.initialized "ModuleGate$Program") ∈ lw_all := lw_g (lw_at lw_m1 2 rfl) rfl
theorem q264 : (Jvm.Cond.instantiable "ModuleGate$Program" (23 : Nat)) ∈ lw_all := lw_g (lw_at lw_m1 29 rfl) rfl
theorem q266 : (Jvm.Cond.instanceMethod ({ cls := "ModuleGate$Program", name := "<init>", desc := "()V" } : Jvm.MethodName)) ∈ lw_all := lw_g (lw_at lw_m1 31 rfl) rfl
theorem q267 : (Jvm.Cond.code ({ cls := "ModuleGate$Program", name := "<init>", desc := "()V" } : Jvm.MethodName) prog_2_method_1_code (1 : Nat) (Option.none : Option Jvm.ClassFile.FieldType)) ∈ lw_all := lw_g (lw_at lw_m1 32 rfl) rfl
theorem q268 : (Jvm.Cond.methodLink "ModuleGate$Program" (1 : Nat) ({ cls := "java/lang/Object", name := "<init>", desc := "()V" } : Jvm.MethodName)) ∈ lw_all := lw_g (lw_at lw_m1 33 rfl) rfl
theorem q269 : (Jvm.Cond.fieldLink "ModuleGate$Program" (48 : Nat) "ModuleGate$Program" "there" "Z") ∈ lw_all := lw_g (lw_at lw_m1 34 rfl) rfl
theorem q272 : (Jvm.Cond.fieldLink "ModuleGate$Program" (7 : Nat) "ModuleGate$Program" "code" "[I") ∈ lw_all := lw_g (lw_at lw_m1 37 rfl) rfl
theorem q273 : (Jvm.Cond.fieldLink "ModuleGate$Program" (52 : Nat) "ModuleGate$Program" "codes" "I") ∈ lw_all := lw_g (lw_at lw_m1 38 rfl) rfl
theorem q274 : (Jvm.Cond.fieldLink "ModuleGate$Program" (13 : Nat) "ModuleGate$Program" "units" "[C") ∈ lw_all := lw_g (lw_at lw_m1 39 rfl) rfl
theorem q276 : (Jvm.Cond.fieldLink "ModuleGate$Program" (56 : Nat) "ModuleGate$Program" "unitCount" "I") ∈ lw_all := lw_g (lw_at lw_m1 41 rfl) rfl
theorem q278 : (Jvm.Cond.fieldLink "ModuleGate$Program" (17 : Nat) "ModuleGate$Program" "constKind" "[I") ∈ lw_all := lw_g (lw_at lw_m1 43 rfl) rfl
theorem q279 : (Jvm.Cond.fieldLink "ModuleGate$Program" (20 : Nat) "ModuleGate$Program" "constA" "[I") ∈ lw_all := lw_g (lw_at lw_m1 44 rfl) rfl
theorem q280 : (Jvm.Cond.fieldLink "ModuleGate$Program" (23 : Nat) "ModuleGate$Program" "constB" "[I") ∈ lw_all := lw_g (lw_at lw_m1 45 rfl) rfl
theorem q281 : (Jvm.Cond.fieldLink "ModuleGate$Program" (26 : Nat) "ModuleGate$Program" "constBits" "[J") ∈ lw_all := lw_g (lw_at lw_m1 46 rfl) rfl
theorem q282 : (Jvm.Cond.fieldLink "ModuleGate$Program" (59 : Nat) "ModuleGate$Program" "consts" "I") ∈ lw_all := lw_g (lw_at lw_m1 47 rfl) rfl
theorem q283 : (Jvm.Cond.fieldLink "ModuleGate$Program" (30 : Nat) "ModuleGate$Program" "buckets" "[I") ∈ lw_all := lw_g (lw_at lw_m1 48 rfl) rfl
theorem q284 : (Jvm.Cond.fieldLink "ModuleGate$Program" (33 : Nat) "ModuleGate$Program" "chain" "[I") ∈ lw_all := lw_g (lw_at lw_m1 49 rfl) rfl
theorem q285 : (Jvm.Cond.fieldLink "ModuleGate$Program" (36 : Nat) "ModuleGate$Program" "function" "[I") ∈ lw_all := lw_g (lw_at lw_m1 50 rfl) rfl
theorem q286 : (Jvm.Cond.fieldLink "ModuleGate$Program" (62 : Nat) "ModuleGate$Program" "functions" "I") ∈ lw_all := lw_g (lw_at lw_m1 51 rfl) rfl
theorem q287 : (Jvm.Cond.fieldLink "ModuleGate$Program" (39 : Nat) "ModuleGate$Program" "request" "[I") ∈ lw_all := lw_g (lw_at lw_m1 52 rfl) rfl
theorem q289 : (Jvm.Cond.fieldLink "ModuleGate$Program" (65 : Nat) "ModuleGate$Program" "requests" "I") ∈ lw_all := lw_g (lw_at lw_m1 54 rfl) rfl
theorem q292 : (Jvm.Cond.fieldLink "ModuleGate$Program" (42 : Nat) "ModuleGate$Program" "in" "[I") ∈ lw_all := lw_g (lw_at lw_m1 57 rfl) rfl
theorem q294 : (Jvm.Cond.fieldLink "ModuleGate$Program" (68 : Nat) "ModuleGate$Program" "ins" "I") ∈ lw_all := lw_g (lw_at lw_m1 59 rfl) rfl
theorem q296 : (Jvm.Cond.fieldLink "ModuleGate$Program" (45 : Nat) "ModuleGate$Program" "out" "[I") ∈ lw_all := lw_g (lw_at lw_m1 61 rfl) rfl
theorem q299 : (Jvm.Cond.fieldLink "ModuleGate$Program" (71 : Nat) "ModuleGate$Program" "outs" "I") ∈ lw_all := lw_g (lw_at lw_m1 64 rfl) rfl
theorem q302 : (Jvm.Cond.fieldLink "ModuleGate$Program" (74 : Nat) "ModuleGate$Program" "sites" "I") ∈ lw_all := lw_g (lw_at lw_m1 67 rfl) rfl
theorem q303 : (Jvm.Cond.lays "ModuleGate$Program" "ModuleGate$Program" "there" "Z") ∈ lw_all := lw_g (lw_at lw_m1 68 rfl) rfl
theorem q304 : (Jvm.Cond.soleField "ModuleGate$Program" "there") ∈ lw_all := lw_g (lw_at lw_m1 69 rfl) rfl
theorem q305 : (Jvm.Cond.lays "ModuleGate$Program" "ModuleGate$Program" "tokens" "I") ∈ lw_all := lw_g (lw_at lw_m1 70 rfl) rfl
theorem q306 : (Jvm.Cond.soleField "ModuleGate$Program" "tokens") ∈ lw_all := lw_g (lw_at lw_m1 71 rfl) rfl
theorem q307 : (Jvm.Cond.lays "ModuleGate$Program" "ModuleGate$Program" "code" "[I") ∈ lw_all := lw_g (lw_at lw_m1 72 rfl) rfl
theorem q308 : (Jvm.Cond.soleField "ModuleGate$Program" "code") ∈ lw_all := lw_g (lw_at lw_m1 73 rfl) rfl
theorem q309 : (Jvm.Cond.lays "ModuleGate$Program" "ModuleGate$Program" "codes" "I") ∈ lw_all := lw_g (lw_at lw_m1 74 rfl) rfl
theorem q310 : (Jvm.Cond.soleField "ModuleGate$Program" "codes") ∈ lw_all := lw_g (lw_at lw_m1 75 rfl) rfl
theorem q311 : (Jvm.Cond.lays "ModuleGate$Program" "ModuleGate$Program" "units" "[C") ∈ lw_all := lw_g (lw_at lw_m1 76 rfl) rfl
theorem q312 : (Jvm.Cond.soleField "ModuleGate$Program" "units") ∈ lw_all := lw_g (lw_at lw_m1 77 rfl) rfl
theorem q313 : (Jvm.Cond.lays "ModuleGate$Program" "ModuleGate$Program" "unitCount" "I") ∈ lw_all := lw_g (lw_at lw_m1 78 rfl) rfl
theorem q314 : (Jvm.Cond.soleField "ModuleGate$Program" "unitCount") ∈ lw_all := lw_g (lw_at lw_m1 79 rfl) rfl
theorem q315 : (Jvm.Cond.lays "ModuleGate$Program" "ModuleGate$Program" "constKind" "[I") ∈ lw_all := lw_g (lw_at lw_m1 80 rfl) rfl
theorem q316 : (Jvm.Cond.soleField "ModuleGate$Program" "constKind") ∈ lw_all := lw_g (lw_at lw_m1 81 rfl) rfl
theorem q317 : (Jvm.Cond.lays "ModuleGate$Program" "ModuleGate$Program" "constA" "[I") ∈ lw_all := lw_g (lw_at lw_m1 82 rfl) rfl
theorem q318 : (Jvm.Cond.soleField "ModuleGate$Program" "constA") ∈ lw_all := lw_g (lw_at lw_m1 83 rfl) rfl
theorem q319 : (Jvm.Cond.lays "ModuleGate$Program" "ModuleGate$Program" "constB" "[I") ∈ lw_all := lw_g (lw_at lw_m1 84 rfl) rfl
theorem q320 : (Jvm.Cond.soleField "ModuleGate$Program" "constB") ∈ lw_all := lw_g (lw_at lw_m1 85 rfl) rfl
theorem q321 : (Jvm.Cond.lays "ModuleGate$Program" "ModuleGate$Program" "constBits" "[J") ∈ lw_all := lw_g (lw_at lw_m1 86 rfl) rfl
theorem q322 : (Jvm.Cond.soleField "ModuleGate$Program" "constBits") ∈ lw_all := lw_g (lw_at lw_m1 87 rfl) rfl
theorem q323 : (Jvm.Cond.lays "ModuleGate$Program" "ModuleGate$Program" "consts" "I") ∈ lw_all := lw_g (lw_at lw_m1 88 rfl) rfl
theorem q324 : (Jvm.Cond.soleField "ModuleGate$Program" "consts") ∈ lw_all := lw_g (lw_at lw_m1 89 rfl) rfl
theorem q325 : (Jvm.Cond.laysFinal "ModuleGate$Program" "ModuleGate$Program" "buckets" "[I") ∈ lw_all := lw_g (lw_at lw_m1 90 rfl) rfl
theorem q326 : (Jvm.Cond.soleField "ModuleGate$Program" "buckets") ∈ lw_all := lw_g (lw_at lw_m1 91 rfl) rfl
theorem q327 : (Jvm.Cond.lays "ModuleGate$Program" "ModuleGate$Program" "chain" "[I") ∈ lw_all := lw_g (lw_at lw_m1 92 rfl) rfl
theorem q328 : (Jvm.Cond.soleField "ModuleGate$Program" "chain") ∈ lw_all := lw_g (lw_at lw_m1 93 rfl) rfl
theorem q329 : (Jvm.Cond.lays "ModuleGate$Program" "ModuleGate$Program" "function" "[I") ∈ lw_all := lw_g (lw_at lw_m1 94 rfl) rfl
theorem q330 : (Jvm.Cond.soleField "ModuleGate$Program" "function") ∈ lw_all := lw_g (lw_at lw_m1 95 rfl) rfl
theorem q331 : (Jvm.Cond.lays "ModuleGate$Program" "ModuleGate$Program" "functions" "I") ∈ lw_all := lw_g (lw_at lw_m1 96 rfl) rfl
theorem q332 : (Jvm.Cond.soleField "ModuleGate$Program" "functions") ∈ lw_all := lw_g (lw_at lw_m1 97 rfl) rfl
theorem q333 : (Jvm.Cond.lays "ModuleGate$Program" "ModuleGate$Program" "request" "[I") ∈ lw_all := lw_g (lw_at lw_m1 98 rfl) rfl
theorem q334 : (Jvm.Cond.soleField "ModuleGate$Program" "request") ∈ lw_all := lw_g (lw_at lw_m1 99 rfl) rfl
theorem q335 : (Jvm.Cond.lays "ModuleGate$Program" "ModuleGate$Program" "requests" "I") ∈ lw_all := lw_g (lw_at lw_m1 100 rfl) rfl
theorem q336 : (Jvm.Cond.soleField "ModuleGate$Program" "requests") ∈ lw_all := lw_g (lw_at lw_m1 101 rfl) rfl
theorem q337 : (Jvm.Cond.lays "ModuleGate$Program" "ModuleGate$Program" "in" "[I") ∈ lw_all := lw_g (lw_at lw_m1 102 rfl) rfl
theorem q338 : (Jvm.Cond.soleField "ModuleGate$Program" "in") ∈ lw_all := lw_g (lw_at lw_m1 103 rfl) rfl
theorem q339 : (Jvm.Cond.lays "ModuleGate$Program" "ModuleGate$Program" "ins" "I") ∈ lw_all := lw_g (lw_at lw_m1 104 rfl) rfl
theorem q340 : (Jvm.Cond.soleField "ModuleGate$Program" "ins") ∈ lw_all := lw_g (lw_at lw_m1 105 rfl) rfl
theorem q341 : (Jvm.Cond.lays "ModuleGate$Program" "ModuleGate$Program" "out" "[I") ∈ lw_all := lw_g (lw_at lw_m1 106 rfl) rfl
theorem q342 : (Jvm.Cond.soleField "ModuleGate$Program" "out") ∈ lw_all := lw_g (lw_at lw_m1 107 rfl) rfl
theorem q343 : (Jvm.Cond.lays "ModuleGate$Program" "ModuleGate$Program" "outs" "I") ∈ lw_all := lw_g (lw_at lw_m1 108 rfl) rfl
theorem q344 : (Jvm.Cond.soleField "ModuleGate$Program" "outs") ∈ lw_all := lw_g (lw_at lw_m1 109 rfl) rfl
theorem q345 : (Jvm.Cond.lays "ModuleGate$Program" "ModuleGate$Program" "slots" "I") ∈ lw_all := lw_g (lw_at lw_m1 110 rfl) rfl
theorem q346 : (Jvm.Cond.soleField "ModuleGate$Program" "slots") ∈ lw_all := lw_g (lw_at lw_m1 111 rfl) rfl
theorem q347 : (Jvm.Cond.lays "ModuleGate$Program" "ModuleGate$Program" "sites" "I") ∈ lw_all := lw_g (lw_at lw_m1 112 rfl) rfl
theorem q348 : (Jvm.Cond.soleField "ModuleGate$Program" "sites") ∈ lw_all := lw_g (lw_at lw_m1 113 rfl) rfl
theorem q349 : (Jvm.Cond.superclass "ModuleGate$Program" "java/lang/Object") ∈ lw_all := lw_g (lw_at lw_m1 114 rfl) rfl
theorem q586 : (Jvm.Cond.privateMethod ({ cls := "ModuleGate$Program", name := "clear", desc := "()V" } : Jvm.MethodName)) ∈ lw_tbl := lw_at lw_m2 111 rfl
theorem q587 : (Jvm.Cond.instanceMethod ({ cls := "ModuleGate$Program", name := "clear", desc := "()V" } : Jvm.MethodName)) ∈ lw_all := lw_g (lw_at lw_m2 112 rfl) rfl
theorem q588 : (Jvm.Cond.code ({ cls := "ModuleGate$Program", name := "clear", desc := "()V" } : Jvm.MethodName) prog_2_method_2_code (1 : Nat) (Option.none : Option Jvm.ClassFile.FieldType)) ∈ lw_all := lw_g (lw_at lw_m2 113 rfl) rfl
theorem q589 : (Jvm.Cond.methodLink "ModuleGate$Program" (77 : Nat) ({ cls := "java/util/Arrays", name := "fill", desc := "([II)V" } : Jvm.MethodName)) ∈ lw_all := lw_g (lw_at lw_m2 114 rfl) rfl
theorem q775 : (Jvm.Cond.privateMethod ({ cls := "ModuleGate$Program", name := "text", desc := "(I)I" } : Jvm.MethodName)) ∈ lw_tbl := lw_at lw_m3 60 rfl
theorem q776 : (Jvm.Cond.instanceMethod ({ cls := "ModuleGate$Program", name := "text", desc := "(I)I" } : Jvm.MethodName)) ∈ lw_all := lw_g (lw_at lw_m3 61 rfl) rfl
theorem q777 : (Jvm.Cond.code ({ cls := "ModuleGate$Program", name := "text", desc := "(I)I" } : Jvm.MethodName) prog_2_method_6_code (8 : Nat) (Option.some Jvm.ClassFile.FieldType.int)) ∈ lw_all := lw_g (lw_at lw_m3 62 rfl) rfl
theorem q778 : (Jvm.Cond.methodLink "ModuleGate$Program" (93 : Nat) ({ cls := "ModuleGate$Program", name := "constant", desc := "(IIIJ)I" } : Jvm.MethodName)) ∈ lw_all := lw_g (lw_at lw_m3 63 rfl) rfl
theorem q779 : (Jvm.Cond.privateMethod ({ cls := "ModuleGate$Program", name := "constant", desc := "(IIIJ)I" } : Jvm.MethodName)) ∈ lw_tbl := lw_at lw_m3 64 rfl
theorem q780 : (Jvm.Cond.instanceMethod ({ cls := "ModuleGate$Program", name := "constant", desc := "(IIIJ)I" } : Jvm.MethodName)) ∈ lw_all := lw_g (lw_at lw_m3 65 rfl) rfl
theorem q781 : (Jvm.Cond.code ({ cls := "ModuleGate$Program", name := "constant", desc := "(IIIJ)I" } : Jvm.MethodName) prog_2_method_5_code (6 : Nat) (Option.some Jvm.ClassFile.FieldType.int)) ∈ lw_all := lw_g (lw_at lw_m3 66 rfl) rfl
theorem q782 : (Jvm.Cond.methodLink "ModuleGate$Program" (83 : Nat) ({ cls := "java/util/Arrays", name := "copyOf", desc := "([II)[I" } : Jvm.MethodName)) ∈ lw_all := lw_g (lw_at lw_m3 67 rfl) rfl
theorem q798 : (Jvm.Cond.methodLink "ModuleGate$Program" (90 : Nat) ({ cls := "java/util/Arrays", name := "copyOf", desc := "([JI)[J" } : Jvm.MethodName)) ∈ lw_all := lw_g (lw_at lw_m3 83 rfl) rfl
theorem q807 : (Jvm.Cond.privateMethod ({ cls := "ModuleGate$Program", name := "unit", desc := "(I)V" } : Jvm.MethodName)) ∈ lw_tbl := lw_at lw_m3 92 rfl
theorem q808 : (Jvm.Cond.instanceMethod ({ cls := "ModuleGate$Program", name := "unit", desc := "(I)V" } : Jvm.MethodName)) ∈ lw_all := lw_g (lw_at lw_m3 93 rfl) rfl
theorem q809 : (Jvm.Cond.code ({ cls := "ModuleGate$Program", name := "unit", desc := "(I)V" } : Jvm.MethodName) prog_2_method_4_code (2 : Nat) (Option.none : Option Jvm.ClassFile.FieldType)) ∈ lw_all := lw_g (lw_at lw_m3 94 rfl) rfl
theorem q810 : (Jvm.Cond.methodLink "ModuleGate$Program" (87 : Nat) ({ cls := "java/util/Arrays", name := "copyOf", desc := "([CI)[C" } : Jvm.MethodName)) ∈ lw_all := lw_g (lw_at lw_m3 95 rfl) rfl
theorem q896 : (Jvm.Cond.privateMethod ({ cls := "ModuleGate$Program", name := "grown", desc := "([II)[I" } : Jvm.MethodName)) ∈ lw_tbl := lw_at lw_m3 181 rfl
theorem q897 : (Jvm.Cond.instanceMethod ({ cls := "ModuleGate$Program", name := "grown", desc := "([II)[I" } : Jvm.MethodName)) ∈ lw_all := lw_g (lw_at lw_m3 182 rfl) rfl
theorem q898 : (Jvm.Cond.code ({ cls := "ModuleGate$Program", name := "grown", desc := "([II)[I" } : Jvm.MethodName) prog_2_method_8_code (3 : Nat) (Option.some (Jvm.ClassFile.FieldType.array Jvm.ClassFile.FieldType.int))) ∈ lw_all := lw_g (lw_at lw_m3 183 rfl) rfl
theorem q1074 : (Jvm.Cond.privateMethod ({ cls := "ModuleGate$Program", name := "isText", desc := "(ILjava/lang/String;)Z" } : Jvm.MethodName)) ∈ lw_tbl := lw_at lw_m4 119 rfl
theorem q1075 : (Jvm.Cond.instanceMethod ({ cls := "ModuleGate$Program", name := "isText", desc := "(ILjava/lang/String;)Z" } : Jvm.MethodName)) ∈ lw_all := lw_g (lw_at lw_m4 120 rfl) rfl
theorem q1076 : (Jvm.Cond.code ({ cls := "ModuleGate$Program", name := "isText", desc := "(ILjava/lang/String;)Z" } : Jvm.MethodName) prog_2_method_7_code (4 : Nat) (Option.some Jvm.ClassFile.FieldType.boolean)) ∈ lw_all := lw_g (lw_at lw_m4 121 rfl) rfl
theorem q1077 : (Jvm.Cond.methodLink "ModuleGate$Program" (97 : Nat) ({ cls := "java/lang/String", name := "length", desc := "()I" } : Jvm.MethodName)) ∈ lw_all := lw_g (lw_at lw_m4 122 rfl) rfl
theorem q1078 : (Jvm.Cond.methodLink "ModuleGate$Program" (103 : Nat) ({ cls := "java/lang/String", name := "charAt", desc := "(I)C" } : Jvm.MethodName)) ∈ lw_all := lw_g (lw_at lw_m4 123 rfl) rfl
theorem in_X2 : ∀ w ∈ wsX20, w ∈ lw_all := lw_in wsX20 [303, 305, 307, 309, 311, 313, 315, 317, 319, 321, 323, 325, 327, 329, 331, 333, 335, 337, 339, 341, 343, 345, 347] (by decide +kernel) (by decide +kernel)
/-! ModuleGateModel$Bad -/
set_option maxRecDepth 100000
def RX5 : String := "ModuleGateModel$Bad"
def TX5 : u_T := fun k => match k with
  | 0 => ("java/lang/Throwable", "cause", "Ljava/lang/Throwable;", false)
  | 1 => ("java/lang/Throwable", "stackTrace", "[Ljava/lang/StackTraceElement;", false)
  | 2 => ("java/lang/Throwable", "suppressedExceptions", "Ljava/util/List;", false)
  | 3 => ("java/lang/Throwable", "detailMessage", "Ljava/lang/String;", false)
  | 4 => ("java/lang/Throwable", "backtrace", "Ljava/lang/Object;", false)
  | _ => ("java/lang/Throwable", "depth", "I", false)
def tyX5 : Nat → FieldType := fun k => match k with
  | 0 => .object "java/lang/Throwable"
  | 1 => .array (.object "java/lang/StackTraceElement")
  | 2 => .object "java/util/List"
  | 3 => .object "java/lang/String"
  | 4 => .object "java/lang/Object"
  | _ => .int
abbrev wsX50 : List Cond := u_ws RX5 TX5 6
theorem nmX5 : ∀ a, a < 6 → ∀ b, b < 6 → a ≠ b → (TX5 a).2.1 ≠ (TX5 b).2.1 := by decide +kernel
theorem tyX5_ok : ∀ k, k < 6 → parseFieldDescriptor (TX5 k).2.2.1 = some (tyX5 k) := by decide +kernel
abbrev cX5_init : ByteArray := prog_6_method_1_code
def yX5_init : MethodName := ⟨RX5, "<init>", "()V"⟩
def dkwX5_init_0 : List UInt8 := [42, 1, 1, 3, 3, 183, 0, 1, 177]
abbrev dktX5_init_0 : List UInt8 := dkwX5_init_0 ++ []
theorem dksX5_init_0 : cX5_init.data.toList.drop 0 = dktX5_init_0 := by decide +kernel
theorem dX5_init_0 : decode cX5_init 0 = .ok (.aload_n 0, 1) := dk_42 (dk_at dksX5_init_0 0 rfl rfl)
theorem dX5_init_1 : decode cX5_init 1 = .ok (.aconst_null, 1) := dk_1 (dk_at dksX5_init_0 1 rfl rfl)
theorem dX5_init_2 : decode cX5_init 2 = .ok (.aconst_null, 1) := dk_1 (dk_at dksX5_init_0 2 rfl rfl)
theorem dX5_init_3 : decode cX5_init 3 = .ok (.iconst 0, 1) := dk_3 (dk_at dksX5_init_0 3 rfl rfl)
theorem dX5_init_4 : decode cX5_init 4 = .ok (.iconst 0, 1) := dk_3 (dk_at dksX5_init_0 4 rfl rfl)
theorem dX5_init_5 : decode cX5_init 5 = .ok (.invokespecial 1, 3) := dk_183 0 1 (dk_at dksX5_init_0 5 rfl rfl)
theorem dX5_init_8 : decode cX5_init 8 = .ok (.return_, 1) := dk_177 (dk_at dksX5_init_0 8 rfl rfl)
theorem q244 : (Jvm.Cond.initialized "ModuleGateModel$Bad") ∈ lw_all := lw_g (lw_at lw_m1 9 rfl) rfl
theorem q635 : (Jvm.Cond.selects "ModuleGateModel$Bad" ({ cls := "java/lang/Throwable", name := "fillInStackTrace", desc := "()Ljava/lang/Throwable;" } : Jvm.MethodName) ({ cls := "java/lang/Throwable", name := "fillInStackTrace", desc := "()Ljava/lang/Throwable;" } : Jvm.MethodName)) ∈ lw_all := lw_g (lw_at lw_m2 160 rfl) rfl
theorem q1315 : (Jvm.Cond.instantiable "ModuleGateModel$Bad" (6 : Nat)) ∈ lw_all := lw_g (lw_at lw_m5 120 rfl) rfl
theorem q1316 : (Jvm.Cond.castable "ModuleGateModel$Bad" "ModuleGateModel$Bad") ∈ lw_tbl := lw_at lw_m5 121 rfl
theorem q1317 : (Jvm.Cond.selects "ModuleGateModel$Bad" ({ cls := "java/lang/Throwable", name := "fillInStackTrace", desc := "(I)Ljava/lang/Throwable;" } : Jvm.MethodName) ({ cls := "java/lang/Throwable", name := "fillInStackTrace", desc := "(I)Ljava/lang/Throwable;" } : Jvm.MethodName)) ∈ lw_all := lw_g (lw_at lw_m5 122 rfl) rfl
theorem q1318 : (Jvm.Cond.lays "ModuleGateModel$Bad" "java/lang/Throwable" "cause" "Ljava/lang/Throwable;") ∈ lw_all := lw_g (lw_at lw_m5 123 rfl) rfl
theorem q1319 : (Jvm.Cond.lays "ModuleGateModel$Bad" "java/lang/Throwable" "stackTrace" "[Ljava/lang/StackTraceElement;") ∈ lw_all := lw_g (lw_at lw_m5 124 rfl) rfl
theorem q1320 : (Jvm.Cond.lays "ModuleGateModel$Bad" "java/lang/Throwable" "suppressedExceptions" "Ljava/util/List;") ∈ lw_all := lw_g (lw_at lw_m5 125 rfl) rfl
theorem q1321 : (Jvm.Cond.lays "ModuleGateModel$Bad" "java/lang/Throwable" "detailMessage" "Ljava/lang/String;") ∈ lw_all := lw_g (lw_at lw_m5 126 rfl) rfl
theorem q1322 : (Jvm.Cond.lays "ModuleGateModel$Bad" "java/lang/Throwable" "backtrace" "Ljava/lang/Object;") ∈ lw_all := lw_g (lw_at lw_m5 127 rfl) rfl
theorem q1324 : (Jvm.Cond.instanceMethod ({ cls := "ModuleGateModel$Bad", name := "<init>", desc := "()V" } : Jvm.MethodName)) ∈ lw_all := lw_g (lw_at lw_m5 129 rfl) rfl
theorem q1325 : (Jvm.Cond.code ({ cls := "ModuleGateModel$Bad", name := "<init>", desc := "()V" } : Jvm.MethodName) prog_6_method_1_code (1 : Nat) (Option.none : Option Jvm.ClassFile.FieldType)) ∈ lw_all := lw_g (lw_at lw_m5 130 rfl) rfl
theorem q1326 : (Jvm.Cond.methodLink "ModuleGateModel$Bad" (1 : Nat) ({ cls := "java/lang/RuntimeException", name := "<init>", desc := "(Ljava/lang/String;Ljava/lang/Throwable;ZZ)V" } : Jvm.MethodName)) ∈ lw_all := lw_g (lw_at lw_m5 131 rfl) rfl
theorem q1335 : (Jvm.Cond.lays "ModuleGateModel$Bad" "java/lang/Throwable" "depth" "I") ∈ lw_all := lw_g (lw_at lw_m5 140 rfl) rfl
theorem q1336 : (Jvm.Cond.superclass "ModuleGateModel$Bad" "java/lang/RuntimeException") ∈ lw_all := lw_g (lw_at lw_m5 141 rfl) rfl
theorem in_X5 : ∀ w ∈ wsX50, w ∈ lw_all := lw_in wsX50 [1318, 1319, 1320, 1321, 1322, 1335] (by decide +kernel) (by decide +kernel)
/-! java/util/Arrays -/
set_option maxRecDepth 100000
def RJ0 : String := "java/util/Arrays"
abbrev cJ0_fill : ByteArray := prog_20_method_103_code
def yJ0_fill : MethodName := ⟨RJ0, "fill", "([II)V"⟩
def dkwJ0_fill_0 : List UInt8 := [3, 61, 42, 190, 62, 28, 29, 162, 0, 13, 42, 28, 27, 79, 132, 2, 1, 167, 255, 244, 177]
abbrev dktJ0_fill_0 : List UInt8 := dkwJ0_fill_0 ++ []
theorem dksJ0_fill_0 : cJ0_fill.data.toList.drop 0 = dktJ0_fill_0 := by decide +kernel
theorem dJ0_fill_0 : decode cJ0_fill 0 = .ok (.iconst 0, 1) := dk_3 (dk_at dksJ0_fill_0 0 rfl rfl)
theorem dJ0_fill_1 : decode cJ0_fill 1 = .ok (.istore_n 2, 1) := dk_61 (dk_at dksJ0_fill_0 1 rfl rfl)
theorem dJ0_fill_2 : decode cJ0_fill 2 = .ok (.aload_n 0, 1) := dk_42 (dk_at dksJ0_fill_0 2 rfl rfl)
theorem dJ0_fill_3 : decode cJ0_fill 3 = .ok (.arraylength, 1) := dk_190 (dk_at dksJ0_fill_0 3 rfl rfl)
theorem dJ0_fill_4 : decode cJ0_fill 4 = .ok (.istore_n 3, 1) := dk_62 (dk_at dksJ0_fill_0 4 rfl rfl)
theorem dJ0_fill_5 : decode cJ0_fill 5 = .ok (.iload_n 2, 1) := dk_28 (dk_at dksJ0_fill_0 5 rfl rfl)
theorem dJ0_fill_6 : decode cJ0_fill 6 = .ok (.iload_n 3, 1) := dk_29 (dk_at dksJ0_fill_0 6 rfl rfl)
theorem dJ0_fill_7 : decode cJ0_fill 7 = .ok (.if_icmp .ge 13, 3) := dk_162 0 13 (dk_at dksJ0_fill_0 7 rfl rfl)
theorem dJ0_fill_10 : decode cJ0_fill 10 = .ok (.aload_n 0, 1) := dk_42 (dk_at dksJ0_fill_0 10 rfl rfl)
theorem dJ0_fill_11 : decode cJ0_fill 11 = .ok (.iload_n 2, 1) := dk_28 (dk_at dksJ0_fill_0 11 rfl rfl)
theorem dJ0_fill_12 : decode cJ0_fill 12 = .ok (.iload_n 1, 1) := dk_27 (dk_at dksJ0_fill_0 12 rfl rfl)
theorem dJ0_fill_13 : decode cJ0_fill 13 = .ok (.iastore, 1) := dk_79 (dk_at dksJ0_fill_0 13 rfl rfl)
theorem dJ0_fill_14 : decode cJ0_fill 14 = .ok (.iinc 2 1, 3) := dk_132 2 1 (dk_at dksJ0_fill_0 14 rfl rfl)
theorem dJ0_fill_17 : decode cJ0_fill 17 = .ok (.goto (-12), 3) := dk_167 255 244 (dk_at dksJ0_fill_0 17 rfl rfl)
theorem dJ0_fill_20 : decode cJ0_fill 20 = .ok (.return_, 1) := dk_177 (dk_at dksJ0_fill_0 20 rfl rfl)
abbrev cJ0_copyOf : ByteArray := prog_20_method_123_code
def yJ0_copyOf : MethodName := ⟨RJ0, "copyOf", "([II)[I"⟩
def dkwJ0_copyOf_1 : List UInt8 := [27, 184, 1, 48, 184, 0, 150, 44, 176]
abbrev dktJ0_copyOf_1 : List UInt8 := dkwJ0_copyOf_1 ++ []
def dkwJ0_copyOf_0 : List UInt8 := [27, 42, 190, 160, 0, 11, 42, 182, 1, 60, 192, 1, 61, 176, 27, 188, 10, 77, 42, 3, 44, 3, 42, 190]
abbrev dktJ0_copyOf_0 : List UInt8 := dkwJ0_copyOf_0 ++ dktJ0_copyOf_1
theorem dksJ0_copyOf_0 : cJ0_copyOf.data.toList.drop 0 = dktJ0_copyOf_0 := by decide +kernel
theorem dksJ0_copyOf_1 : cJ0_copyOf.data.toList.drop 24 = dktJ0_copyOf_1 := dk_seg dksJ0_copyOf_0 24 rfl rfl
theorem dJ0_copyOf_0 : decode cJ0_copyOf 0 = .ok (.iload_n 1, 1) := dk_27 (dk_at dksJ0_copyOf_0 0 rfl rfl)
theorem dJ0_copyOf_1 : decode cJ0_copyOf 1 = .ok (.aload_n 0, 1) := dk_42 (dk_at dksJ0_copyOf_0 1 rfl rfl)
theorem dJ0_copyOf_2 : decode cJ0_copyOf 2 = .ok (.arraylength, 1) := dk_190 (dk_at dksJ0_copyOf_0 2 rfl rfl)
theorem dJ0_copyOf_3 : decode cJ0_copyOf 3 = .ok (.if_icmp .ne 11, 3) := dk_160 0 11 (dk_at dksJ0_copyOf_0 3 rfl rfl)
theorem dJ0_copyOf_6 : decode cJ0_copyOf 6 = .ok (.aload_n 0, 1) := dk_42 (dk_at dksJ0_copyOf_0 6 rfl rfl)
theorem dJ0_copyOf_7 : decode cJ0_copyOf 7 = .ok (.invokevirtual 316, 3) := dk_182 1 60 (dk_at dksJ0_copyOf_0 7 rfl rfl)
theorem dJ0_copyOf_10 : decode cJ0_copyOf 10 = .ok (.checkcast 317, 3) := dk_192 1 61 (dk_at dksJ0_copyOf_0 10 rfl rfl)
theorem dJ0_copyOf_13 : decode cJ0_copyOf 13 = .ok (.areturn, 1) := dk_176 (dk_at dksJ0_copyOf_0 13 rfl rfl)
theorem dJ0_copyOf_14 : decode cJ0_copyOf 14 = .ok (.iload_n 1, 1) := dk_27 (dk_at dksJ0_copyOf_0 14 rfl rfl)
theorem dJ0_copyOf_15 : decode cJ0_copyOf 15 = .ok (.newarray .int, 2) := dk_188_10 (dk_at dksJ0_copyOf_0 15 rfl rfl)
theorem dJ0_copyOf_17 : decode cJ0_copyOf 17 = .ok (.astore_n 2, 1) := dk_77 (dk_at dksJ0_copyOf_0 17 rfl rfl)
theorem dJ0_copyOf_18 : decode cJ0_copyOf 18 = .ok (.aload_n 0, 1) := dk_42 (dk_at dksJ0_copyOf_0 18 rfl rfl)
theorem dJ0_copyOf_19 : decode cJ0_copyOf 19 = .ok (.iconst 0, 1) := dk_3 (dk_at dksJ0_copyOf_0 19 rfl rfl)
theorem dJ0_copyOf_20 : decode cJ0_copyOf 20 = .ok (.aload_n 2, 1) := dk_44 (dk_at dksJ0_copyOf_0 20 rfl rfl)
theorem dJ0_copyOf_21 : decode cJ0_copyOf 21 = .ok (.iconst 0, 1) := dk_3 (dk_at dksJ0_copyOf_0 21 rfl rfl)
theorem dJ0_copyOf_22 : decode cJ0_copyOf 22 = .ok (.aload_n 0, 1) := dk_42 (dk_at dksJ0_copyOf_0 22 rfl rfl)
theorem dJ0_copyOf_23 : decode cJ0_copyOf 23 = .ok (.arraylength, 1) := dk_190 (dk_at dksJ0_copyOf_0 23 rfl rfl)
theorem dJ0_copyOf_24 : decode cJ0_copyOf 24 = .ok (.iload_n 1, 1) := dk_27 (dk_at dksJ0_copyOf_1 0 rfl rfl)
theorem dJ0_copyOf_25 : decode cJ0_copyOf 25 = .ok (.invokestatic 304, 3) := dk_184 1 48 (dk_at dksJ0_copyOf_1 1 rfl rfl)
theorem dJ0_copyOf_28 : decode cJ0_copyOf 28 = .ok (.invokestatic 150, 3) := dk_184 0 150 (dk_at dksJ0_copyOf_1 4 rfl rfl)
theorem dJ0_copyOf_31 : decode cJ0_copyOf 31 = .ok (.aload_n 2, 1) := dk_44 (dk_at dksJ0_copyOf_1 7 rfl rfl)
theorem dJ0_copyOf_32 : decode cJ0_copyOf 32 = .ok (.areturn, 1) := dk_176 (dk_at dksJ0_copyOf_1 8 rfl rfl)
abbrev cJ0_copyOf_2 : ByteArray := prog_20_method_124_code
def yJ0_copyOf_2 : MethodName := ⟨RJ0, "copyOf", "([JI)[J"⟩
def dkwJ0_copyOf_2_1 : List UInt8 := [27, 184, 1, 48, 184, 0, 150, 44, 176]
abbrev dktJ0_copyOf_2_1 : List UInt8 := dkwJ0_copyOf_2_1 ++ []
def dkwJ0_copyOf_2_0 : List UInt8 := [27, 42, 190, 160, 0, 11, 42, 182, 1, 63, 192, 1, 64, 176, 27, 188, 11, 77, 42, 3, 44, 3, 42, 190]
abbrev dktJ0_copyOf_2_0 : List UInt8 := dkwJ0_copyOf_2_0 ++ dktJ0_copyOf_2_1
theorem dksJ0_copyOf_2_0 : cJ0_copyOf_2.data.toList.drop 0 = dktJ0_copyOf_2_0 := by decide +kernel
theorem dksJ0_copyOf_2_1 : cJ0_copyOf_2.data.toList.drop 24 = dktJ0_copyOf_2_1 := dk_seg dksJ0_copyOf_2_0 24 rfl rfl
theorem dJ0_copyOf_2_0 : decode cJ0_copyOf_2 0 = .ok (.iload_n 1, 1) := dk_27 (dk_at dksJ0_copyOf_2_0 0 rfl rfl)
theorem dJ0_copyOf_2_1 : decode cJ0_copyOf_2 1 = .ok (.aload_n 0, 1) := dk_42 (dk_at dksJ0_copyOf_2_0 1 rfl rfl)
theorem dJ0_copyOf_2_2 : decode cJ0_copyOf_2 2 = .ok (.arraylength, 1) := dk_190 (dk_at dksJ0_copyOf_2_0 2 rfl rfl)
theorem dJ0_copyOf_2_3 : decode cJ0_copyOf_2 3 = .ok (.if_icmp .ne 11, 3) := dk_160 0 11 (dk_at dksJ0_copyOf_2_0 3 rfl rfl)
theorem dJ0_copyOf_2_6 : decode cJ0_copyOf_2 6 = .ok (.aload_n 0, 1) := dk_42 (dk_at dksJ0_copyOf_2_0 6 rfl rfl)
theorem dJ0_copyOf_2_7 : decode cJ0_copyOf_2 7 = .ok (.invokevirtual 319, 3) := dk_182 1 63 (dk_at dksJ0_copyOf_2_0 7 rfl rfl)
theorem dJ0_copyOf_2_10 : decode cJ0_copyOf_2 10 = .ok (.checkcast 320, 3) := dk_192 1 64 (dk_at dksJ0_copyOf_2_0 10 rfl rfl)
theorem dJ0_copyOf_2_13 : decode cJ0_copyOf_2 13 = .ok (.areturn, 1) := dk_176 (dk_at dksJ0_copyOf_2_0 13 rfl rfl)
theorem dJ0_copyOf_2_14 : decode cJ0_copyOf_2 14 = .ok (.iload_n 1, 1) := dk_27 (dk_at dksJ0_copyOf_2_0 14 rfl rfl)
theorem dJ0_copyOf_2_15 : decode cJ0_copyOf_2 15 = .ok (.newarray .long, 2) := dk_188_11 (dk_at dksJ0_copyOf_2_0 15 rfl rfl)
theorem dJ0_copyOf_2_17 : decode cJ0_copyOf_2 17 = .ok (.astore_n 2, 1) := dk_77 (dk_at dksJ0_copyOf_2_0 17 rfl rfl)
theorem dJ0_copyOf_2_18 : decode cJ0_copyOf_2 18 = .ok (.aload_n 0, 1) := dk_42 (dk_at dksJ0_copyOf_2_0 18 rfl rfl)
theorem dJ0_copyOf_2_19 : decode cJ0_copyOf_2 19 = .ok (.iconst 0, 1) := dk_3 (dk_at dksJ0_copyOf_2_0 19 rfl rfl)
theorem dJ0_copyOf_2_20 : decode cJ0_copyOf_2 20 = .ok (.aload_n 2, 1) := dk_44 (dk_at dksJ0_copyOf_2_0 20 rfl rfl)
theorem dJ0_copyOf_2_21 : decode cJ0_copyOf_2 21 = .ok (.iconst 0, 1) := dk_3 (dk_at dksJ0_copyOf_2_0 21 rfl rfl)
theorem dJ0_copyOf_2_22 : decode cJ0_copyOf_2 22 = .ok (.aload_n 0, 1) := dk_42 (dk_at dksJ0_copyOf_2_0 22 rfl rfl)
theorem dJ0_copyOf_2_23 : decode cJ0_copyOf_2 23 = .ok (.arraylength, 1) := dk_190 (dk_at dksJ0_copyOf_2_0 23 rfl rfl)
theorem dJ0_copyOf_2_24 : decode cJ0_copyOf_2 24 = .ok (.iload_n 1, 1) := dk_27 (dk_at dksJ0_copyOf_2_1 0 rfl rfl)
theorem dJ0_copyOf_2_25 : decode cJ0_copyOf_2 25 = .ok (.invokestatic 304, 3) := dk_184 1 48 (dk_at dksJ0_copyOf_2_1 1 rfl rfl)
theorem dJ0_copyOf_2_28 : decode cJ0_copyOf_2 28 = .ok (.invokestatic 150, 3) := dk_184 0 150 (dk_at dksJ0_copyOf_2_1 4 rfl rfl)
theorem dJ0_copyOf_2_31 : decode cJ0_copyOf_2 31 = .ok (.aload_n 2, 1) := dk_44 (dk_at dksJ0_copyOf_2_1 7 rfl rfl)
theorem dJ0_copyOf_2_32 : decode cJ0_copyOf_2 32 = .ok (.areturn, 1) := dk_176 (dk_at dksJ0_copyOf_2_1 8 rfl rfl)
abbrev cJ0_copyOf_3 : ByteArray := prog_20_method_125_code
def yJ0_copyOf_3 : MethodName := ⟨RJ0, "copyOf", "([CI)[C"⟩
def dkwJ0_copyOf_3_1 : List UInt8 := [27, 184, 1, 48, 184, 0, 150, 44, 176]
abbrev dktJ0_copyOf_3_1 : List UInt8 := dkwJ0_copyOf_3_1 ++ []
def dkwJ0_copyOf_3_0 : List UInt8 := [27, 42, 190, 160, 0, 11, 42, 182, 1, 66, 192, 1, 67, 176, 27, 188, 5, 77, 42, 3, 44, 3, 42, 190]
abbrev dktJ0_copyOf_3_0 : List UInt8 := dkwJ0_copyOf_3_0 ++ dktJ0_copyOf_3_1
theorem dksJ0_copyOf_3_0 : cJ0_copyOf_3.data.toList.drop 0 = dktJ0_copyOf_3_0 := by decide +kernel
theorem dksJ0_copyOf_3_1 : cJ0_copyOf_3.data.toList.drop 24 = dktJ0_copyOf_3_1 := dk_seg dksJ0_copyOf_3_0 24 rfl rfl
theorem dJ0_copyOf_3_0 : decode cJ0_copyOf_3 0 = .ok (.iload_n 1, 1) := dk_27 (dk_at dksJ0_copyOf_3_0 0 rfl rfl)
theorem dJ0_copyOf_3_1 : decode cJ0_copyOf_3 1 = .ok (.aload_n 0, 1) := dk_42 (dk_at dksJ0_copyOf_3_0 1 rfl rfl)
theorem dJ0_copyOf_3_2 : decode cJ0_copyOf_3 2 = .ok (.arraylength, 1) := dk_190 (dk_at dksJ0_copyOf_3_0 2 rfl rfl)
theorem dJ0_copyOf_3_3 : decode cJ0_copyOf_3 3 = .ok (.if_icmp .ne 11, 3) := dk_160 0 11 (dk_at dksJ0_copyOf_3_0 3 rfl rfl)
theorem dJ0_copyOf_3_6 : decode cJ0_copyOf_3 6 = .ok (.aload_n 0, 1) := dk_42 (dk_at dksJ0_copyOf_3_0 6 rfl rfl)
theorem dJ0_copyOf_3_7 : decode cJ0_copyOf_3 7 = .ok (.invokevirtual 322, 3) := dk_182 1 66 (dk_at dksJ0_copyOf_3_0 7 rfl rfl)
theorem dJ0_copyOf_3_10 : decode cJ0_copyOf_3 10 = .ok (.checkcast 323, 3) := dk_192 1 67 (dk_at dksJ0_copyOf_3_0 10 rfl rfl)
theorem dJ0_copyOf_3_13 : decode cJ0_copyOf_3 13 = .ok (.areturn, 1) := dk_176 (dk_at dksJ0_copyOf_3_0 13 rfl rfl)
theorem dJ0_copyOf_3_14 : decode cJ0_copyOf_3 14 = .ok (.iload_n 1, 1) := dk_27 (dk_at dksJ0_copyOf_3_0 14 rfl rfl)
theorem dJ0_copyOf_3_15 : decode cJ0_copyOf_3 15 = .ok (.newarray .char, 2) := dk_188_5 (dk_at dksJ0_copyOf_3_0 15 rfl rfl)
theorem dJ0_copyOf_3_17 : decode cJ0_copyOf_3 17 = .ok (.astore_n 2, 1) := dk_77 (dk_at dksJ0_copyOf_3_0 17 rfl rfl)
theorem dJ0_copyOf_3_18 : decode cJ0_copyOf_3 18 = .ok (.aload_n 0, 1) := dk_42 (dk_at dksJ0_copyOf_3_0 18 rfl rfl)
theorem dJ0_copyOf_3_19 : decode cJ0_copyOf_3 19 = .ok (.iconst 0, 1) := dk_3 (dk_at dksJ0_copyOf_3_0 19 rfl rfl)
theorem dJ0_copyOf_3_20 : decode cJ0_copyOf_3 20 = .ok (.aload_n 2, 1) := dk_44 (dk_at dksJ0_copyOf_3_0 20 rfl rfl)
theorem dJ0_copyOf_3_21 : decode cJ0_copyOf_3 21 = .ok (.iconst 0, 1) := dk_3 (dk_at dksJ0_copyOf_3_0 21 rfl rfl)
theorem dJ0_copyOf_3_22 : decode cJ0_copyOf_3 22 = .ok (.aload_n 0, 1) := dk_42 (dk_at dksJ0_copyOf_3_0 22 rfl rfl)
theorem dJ0_copyOf_3_23 : decode cJ0_copyOf_3 23 = .ok (.arraylength, 1) := dk_190 (dk_at dksJ0_copyOf_3_0 23 rfl rfl)
theorem dJ0_copyOf_3_24 : decode cJ0_copyOf_3 24 = .ok (.iload_n 1, 1) := dk_27 (dk_at dksJ0_copyOf_3_1 0 rfl rfl)
theorem dJ0_copyOf_3_25 : decode cJ0_copyOf_3 25 = .ok (.invokestatic 304, 3) := dk_184 1 48 (dk_at dksJ0_copyOf_3_1 1 rfl rfl)
theorem dJ0_copyOf_3_28 : decode cJ0_copyOf_3 28 = .ok (.invokestatic 150, 3) := dk_184 0 150 (dk_at dksJ0_copyOf_3_1 4 rfl rfl)
theorem dJ0_copyOf_3_31 : decode cJ0_copyOf_3 31 = .ok (.aload_n 2, 1) := dk_44 (dk_at dksJ0_copyOf_3_1 7 rfl rfl)
theorem dJ0_copyOf_3_32 : decode cJ0_copyOf_3 32 = .ok (.areturn, 1) := dk_176 (dk_at dksJ0_copyOf_3_1 8 rfl rfl)
theorem q239 : (Jvm.Cond.initialized "java/util/Arrays") ∈ lw_all := lw_g (lw_at lw_m1 4 rfl) rfl
theorem q590 : (Jvm.Cond.static ({ cls := "java/util/Arrays", name := "fill", desc := "([II)V" } : Jvm.MethodName)) ∈ lw_all := lw_g (lw_at lw_m2 115 rfl) rfl
theorem q591 : (Jvm.Cond.code ({ cls := "java/util/Arrays", name := "fill", desc := "([II)V" } : Jvm.MethodName) prog_20_method_103_code (4 : Nat) (Option.none : Option Jvm.ClassFile.FieldType)) ∈ lw_all := lw_g (lw_at lw_m2 116 rfl) rfl
theorem q783 : (Jvm.Cond.static ({ cls := "java/util/Arrays", name := "copyOf", desc := "([II)[I" } : Jvm.MethodName)) ∈ lw_all := lw_g (lw_at lw_m3 68 rfl) rfl
theorem q784 : (Jvm.Cond.code ({ cls := "java/util/Arrays", name := "copyOf", desc := "([II)[I" } : Jvm.MethodName) prog_20_method_123_code (3 : Nat) (Option.some (Jvm.ClassFile.FieldType.array Jvm.ClassFile.FieldType.int))) ∈ lw_all := lw_g (lw_at lw_m3 69 rfl) rfl
theorem q785 : (Jvm.Cond.methodLink "java/util/Arrays" (316 : Nat) ({ cls := "[I", name := "clone", desc := "()Ljava/lang/Object;" } : Jvm.MethodName)) ∈ lw_all := lw_g (lw_at lw_m3 70 rfl) rfl
theorem q791 : (Jvm.Cond.classLink "java/util/Arrays" (317 : Nat) "[I") ∈ lw_all := lw_g (lw_at lw_m3 76 rfl) rfl
theorem q792 : (Jvm.Cond.methodLink "java/util/Arrays" (304 : Nat) ({ cls := "java/lang/Math", name := "min", desc := "(II)I" } : Jvm.MethodName)) ∈ lw_all := lw_g (lw_at lw_m3 77 rfl) rfl
theorem q795 : (Jvm.Cond.methodLink "java/util/Arrays" (150 : Nat) ({ cls := "java/lang/System", name := "arraycopy", desc := "(Ljava/lang/Object;ILjava/lang/Object;II)V" } : Jvm.MethodName)) ∈ lw_all := lw_g (lw_at lw_m3 80 rfl) rfl
theorem q799 : (Jvm.Cond.static ({ cls := "java/util/Arrays", name := "copyOf", desc := "([JI)[J" } : Jvm.MethodName)) ∈ lw_all := lw_g (lw_at lw_m3 84 rfl) rfl
theorem q800 : (Jvm.Cond.code ({ cls := "java/util/Arrays", name := "copyOf", desc := "([JI)[J" } : Jvm.MethodName) prog_20_method_124_code (3 : Nat) (Option.some (Jvm.ClassFile.FieldType.array Jvm.ClassFile.FieldType.long))) ∈ lw_all := lw_g (lw_at lw_m3 85 rfl) rfl
theorem q801 : (Jvm.Cond.methodLink "java/util/Arrays" (319 : Nat) ({ cls := "[J", name := "clone", desc := "()Ljava/lang/Object;" } : Jvm.MethodName)) ∈ lw_all := lw_g (lw_at lw_m3 86 rfl) rfl
theorem q805 : (Jvm.Cond.classLink "java/util/Arrays" (320 : Nat) "[J") ∈ lw_all := lw_g (lw_at lw_m3 90 rfl) rfl
theorem q811 : (Jvm.Cond.static ({ cls := "java/util/Arrays", name := "copyOf", desc := "([CI)[C" } : Jvm.MethodName)) ∈ lw_all := lw_g (lw_at lw_m3 96 rfl) rfl
theorem q812 : (Jvm.Cond.code ({ cls := "java/util/Arrays", name := "copyOf", desc := "([CI)[C" } : Jvm.MethodName) prog_20_method_125_code (3 : Nat) (Option.some (Jvm.ClassFile.FieldType.array Jvm.ClassFile.FieldType.char))) ∈ lw_all := lw_g (lw_at lw_m3 97 rfl) rfl
theorem q813 : (Jvm.Cond.methodLink "java/util/Arrays" (322 : Nat) ({ cls := "[C", name := "clone", desc := "()Ljava/lang/Object;" } : Jvm.MethodName)) ∈ lw_all := lw_g (lw_at lw_m3 98 rfl) rfl
theorem q817 : (Jvm.Cond.classLink "java/util/Arrays" (323 : Nat) "[C") ∈ lw_all := lw_g (lw_at lw_m3 102 rfl) rfl
/-! java/lang/Throwable -/
set_option maxRecDepth 100000
def RJ1 : String := "java/lang/Throwable"
def TJ1 : u_T := fun k => match k with
  | 0 => ("java/lang/Throwable", "cause", "Ljava/lang/Throwable;", false)
  | 1 => ("java/lang/Throwable", "stackTrace", "[Ljava/lang/StackTraceElement;", false)
  | 2 => ("java/lang/Throwable", "suppressedExceptions", "Ljava/util/List;", false)
  | 3 => ("java/lang/Throwable", "detailMessage", "Ljava/lang/String;", false)
  | _ => ("java/lang/Throwable", "backtrace", "Ljava/lang/Object;", false)
def tyJ1 : Nat → FieldType := fun k => match k with
  | 0 => .object "java/lang/Throwable"
  | 1 => .array (.object "java/lang/StackTraceElement")
  | 2 => .object "java/util/List"
  | 3 => .object "java/lang/String"
  | _ => .object "java/lang/Object"
abbrev wsJ10 : List Cond := u_ws RJ1 TJ1 5
theorem nmJ1 : ∀ a, a < 5 → ∀ b, b < 5 → a ≠ b → (TJ1 a).2.1 ≠ (TJ1 b).2.1 := by decide +kernel
theorem tyJ1_ok : ∀ k, k < 5 → parseFieldDescriptor (TJ1 k).2.2.1 = some (tyJ1 k) := by decide +kernel
abbrev cJ1_init : ByteArray := prog_19_method_2_code
def yJ1_init : MethodName := ⟨RJ1, "<init>", "(Ljava/lang/String;)V"⟩
def dkwJ1_init_1 : List UInt8 := [182, 0, 27, 87, 42, 43, 181, 0, 31, 177]
abbrev dktJ1_init_1 : List UInt8 := dkwJ1_init_1 ++ []
def dkwJ1_init_0 : List UInt8 := [42, 183, 0, 1, 42, 42, 181, 0, 7, 42, 178, 0, 13, 181, 0, 17, 42, 178, 0, 20, 181, 0, 24, 42]
abbrev dktJ1_init_0 : List UInt8 := dkwJ1_init_0 ++ dktJ1_init_1
theorem dksJ1_init_0 : cJ1_init.data.toList.drop 0 = dktJ1_init_0 := by decide +kernel
theorem dksJ1_init_1 : cJ1_init.data.toList.drop 24 = dktJ1_init_1 := dk_seg dksJ1_init_0 24 rfl rfl
theorem dJ1_init_0 : decode cJ1_init 0 = .ok (.aload_n 0, 1) := dk_42 (dk_at dksJ1_init_0 0 rfl rfl)
theorem dJ1_init_1 : decode cJ1_init 1 = .ok (.invokespecial 1, 3) := dk_183 0 1 (dk_at dksJ1_init_0 1 rfl rfl)
theorem dJ1_init_4 : decode cJ1_init 4 = .ok (.aload_n 0, 1) := dk_42 (dk_at dksJ1_init_0 4 rfl rfl)
theorem dJ1_init_5 : decode cJ1_init 5 = .ok (.aload_n 0, 1) := dk_42 (dk_at dksJ1_init_0 5 rfl rfl)
theorem dJ1_init_6 : decode cJ1_init 6 = .ok (.putfield 7, 3) := dk_181 0 7 (dk_at dksJ1_init_0 6 rfl rfl)
theorem dJ1_init_9 : decode cJ1_init 9 = .ok (.aload_n 0, 1) := dk_42 (dk_at dksJ1_init_0 9 rfl rfl)
theorem dJ1_init_10 : decode cJ1_init 10 = .ok (.getstatic 13, 3) := dk_178 0 13 (dk_at dksJ1_init_0 10 rfl rfl)
theorem dJ1_init_13 : decode cJ1_init 13 = .ok (.putfield 17, 3) := dk_181 0 17 (dk_at dksJ1_init_0 13 rfl rfl)
theorem dJ1_init_16 : decode cJ1_init 16 = .ok (.aload_n 0, 1) := dk_42 (dk_at dksJ1_init_0 16 rfl rfl)
theorem dJ1_init_17 : decode cJ1_init 17 = .ok (.getstatic 20, 3) := dk_178 0 20 (dk_at dksJ1_init_0 17 rfl rfl)
theorem dJ1_init_20 : decode cJ1_init 20 = .ok (.putfield 24, 3) := dk_181 0 24 (dk_at dksJ1_init_0 20 rfl rfl)
theorem dJ1_init_23 : decode cJ1_init 23 = .ok (.aload_n 0, 1) := dk_42 (dk_at dksJ1_init_0 23 rfl rfl)
theorem dJ1_init_24 : decode cJ1_init 24 = .ok (.invokevirtual 27, 3) := dk_182 0 27 (dk_at dksJ1_init_1 0 rfl rfl)
theorem dJ1_init_27 : decode cJ1_init 27 = .ok (.pop, 1) := dk_87 (dk_at dksJ1_init_1 3 rfl rfl)
theorem dJ1_init_28 : decode cJ1_init 28 = .ok (.aload_n 0, 1) := dk_42 (dk_at dksJ1_init_1 4 rfl rfl)
theorem dJ1_init_29 : decode cJ1_init 29 = .ok (.aload_n 1, 1) := dk_43 (dk_at dksJ1_init_1 5 rfl rfl)
theorem dJ1_init_30 : decode cJ1_init 30 = .ok (.putfield 31, 3) := dk_181 0 31 (dk_at dksJ1_init_1 6 rfl rfl)
theorem dJ1_init_33 : decode cJ1_init 33 = .ok (.return_, 1) := dk_177 (dk_at dksJ1_init_1 9 rfl rfl)
abbrev cJ1_init_2 : ByteArray := prog_19_method_1_code
def yJ1_init_2 : MethodName := ⟨RJ1, "<init>", "()V"⟩
def dkwJ1_init_2_1 : List UInt8 := [182, 0, 27, 87, 177]
abbrev dktJ1_init_2_1 : List UInt8 := dkwJ1_init_2_1 ++ []
def dkwJ1_init_2_0 : List UInt8 := [42, 183, 0, 1, 42, 42, 181, 0, 7, 42, 178, 0, 13, 181, 0, 17, 42, 178, 0, 20, 181, 0, 24, 42]
abbrev dktJ1_init_2_0 : List UInt8 := dkwJ1_init_2_0 ++ dktJ1_init_2_1
theorem dksJ1_init_2_0 : cJ1_init_2.data.toList.drop 0 = dktJ1_init_2_0 := by decide +kernel
theorem dksJ1_init_2_1 : cJ1_init_2.data.toList.drop 24 = dktJ1_init_2_1 := dk_seg dksJ1_init_2_0 24 rfl rfl
theorem dJ1_init_2_0 : decode cJ1_init_2 0 = .ok (.aload_n 0, 1) := dk_42 (dk_at dksJ1_init_2_0 0 rfl rfl)
theorem dJ1_init_2_1 : decode cJ1_init_2 1 = .ok (.invokespecial 1, 3) := dk_183 0 1 (dk_at dksJ1_init_2_0 1 rfl rfl)
theorem dJ1_init_2_4 : decode cJ1_init_2 4 = .ok (.aload_n 0, 1) := dk_42 (dk_at dksJ1_init_2_0 4 rfl rfl)
theorem dJ1_init_2_5 : decode cJ1_init_2 5 = .ok (.aload_n 0, 1) := dk_42 (dk_at dksJ1_init_2_0 5 rfl rfl)
theorem dJ1_init_2_6 : decode cJ1_init_2 6 = .ok (.putfield 7, 3) := dk_181 0 7 (dk_at dksJ1_init_2_0 6 rfl rfl)
theorem dJ1_init_2_9 : decode cJ1_init_2 9 = .ok (.aload_n 0, 1) := dk_42 (dk_at dksJ1_init_2_0 9 rfl rfl)
theorem dJ1_init_2_10 : decode cJ1_init_2 10 = .ok (.getstatic 13, 3) := dk_178 0 13 (dk_at dksJ1_init_2_0 10 rfl rfl)
theorem dJ1_init_2_13 : decode cJ1_init_2 13 = .ok (.putfield 17, 3) := dk_181 0 17 (dk_at dksJ1_init_2_0 13 rfl rfl)
theorem dJ1_init_2_16 : decode cJ1_init_2 16 = .ok (.aload_n 0, 1) := dk_42 (dk_at dksJ1_init_2_0 16 rfl rfl)
theorem dJ1_init_2_17 : decode cJ1_init_2 17 = .ok (.getstatic 20, 3) := dk_178 0 20 (dk_at dksJ1_init_2_0 17 rfl rfl)
theorem dJ1_init_2_20 : decode cJ1_init_2 20 = .ok (.putfield 24, 3) := dk_181 0 24 (dk_at dksJ1_init_2_0 20 rfl rfl)
theorem dJ1_init_2_23 : decode cJ1_init_2 23 = .ok (.aload_n 0, 1) := dk_42 (dk_at dksJ1_init_2_0 23 rfl rfl)
theorem dJ1_init_2_24 : decode cJ1_init_2 24 = .ok (.invokevirtual 27, 3) := dk_182 0 27 (dk_at dksJ1_init_2_1 0 rfl rfl)
theorem dJ1_init_2_27 : decode cJ1_init_2 27 = .ok (.pop, 1) := dk_87 (dk_at dksJ1_init_2_1 3 rfl rfl)
theorem dJ1_init_2_28 : decode cJ1_init_2 28 = .ok (.return_, 1) := dk_177 (dk_at dksJ1_init_2_1 4 rfl rfl)
abbrev cJ1_init_3 : ByteArray := prog_19_method_5_code
def yJ1_init_3 : MethodName := ⟨RJ1, "<init>", "(Ljava/lang/String;Ljava/lang/Throwable;ZZ)V"⟩
def dkwJ1_init_3_2 : List UInt8 := [44, 181, 0, 7, 29, 154, 0, 8, 42, 1, 181, 0, 24, 177]
abbrev dktJ1_init_3_2 : List UInt8 := dkwJ1_init_3_2 ++ []
def dkwJ1_init_3_1 : List UInt8 := [21, 4, 153, 0, 11, 42, 182, 0, 27, 87, 167, 0, 8, 42, 1, 181, 0, 17, 42, 43, 181, 0, 31, 42]
abbrev dktJ1_init_3_1 : List UInt8 := dkwJ1_init_3_1 ++ dktJ1_init_3_2
def dkwJ1_init_3_0 : List UInt8 := [42, 183, 0, 1, 42, 42, 181, 0, 7, 42, 178, 0, 13, 181, 0, 17, 42, 178, 0, 20, 181, 0, 24]
abbrev dktJ1_init_3_0 : List UInt8 := dkwJ1_init_3_0 ++ dktJ1_init_3_1
theorem dksJ1_init_3_0 : cJ1_init_3.data.toList.drop 0 = dktJ1_init_3_0 := by decide +kernel
theorem dksJ1_init_3_1 : cJ1_init_3.data.toList.drop 23 = dktJ1_init_3_1 := dk_seg dksJ1_init_3_0 23 rfl rfl
theorem dksJ1_init_3_2 : cJ1_init_3.data.toList.drop 47 = dktJ1_init_3_2 := dk_seg dksJ1_init_3_1 24 rfl rfl
theorem dJ1_init_3_0 : decode cJ1_init_3 0 = .ok (.aload_n 0, 1) := dk_42 (dk_at dksJ1_init_3_0 0 rfl rfl)
theorem dJ1_init_3_1 : decode cJ1_init_3 1 = .ok (.invokespecial 1, 3) := dk_183 0 1 (dk_at dksJ1_init_3_0 1 rfl rfl)
theorem dJ1_init_3_4 : decode cJ1_init_3 4 = .ok (.aload_n 0, 1) := dk_42 (dk_at dksJ1_init_3_0 4 rfl rfl)
theorem dJ1_init_3_5 : decode cJ1_init_3 5 = .ok (.aload_n 0, 1) := dk_42 (dk_at dksJ1_init_3_0 5 rfl rfl)
theorem dJ1_init_3_6 : decode cJ1_init_3 6 = .ok (.putfield 7, 3) := dk_181 0 7 (dk_at dksJ1_init_3_0 6 rfl rfl)
theorem dJ1_init_3_9 : decode cJ1_init_3 9 = .ok (.aload_n 0, 1) := dk_42 (dk_at dksJ1_init_3_0 9 rfl rfl)
theorem dJ1_init_3_10 : decode cJ1_init_3 10 = .ok (.getstatic 13, 3) := dk_178 0 13 (dk_at dksJ1_init_3_0 10 rfl rfl)
theorem dJ1_init_3_13 : decode cJ1_init_3 13 = .ok (.putfield 17, 3) := dk_181 0 17 (dk_at dksJ1_init_3_0 13 rfl rfl)
theorem dJ1_init_3_16 : decode cJ1_init_3 16 = .ok (.aload_n 0, 1) := dk_42 (dk_at dksJ1_init_3_0 16 rfl rfl)
theorem dJ1_init_3_17 : decode cJ1_init_3 17 = .ok (.getstatic 20, 3) := dk_178 0 20 (dk_at dksJ1_init_3_0 17 rfl rfl)
theorem dJ1_init_3_20 : decode cJ1_init_3 20 = .ok (.putfield 24, 3) := dk_181 0 24 (dk_at dksJ1_init_3_0 20 rfl rfl)
theorem dJ1_init_3_23 : decode cJ1_init_3 23 = .ok (.iload 4, 2) := dk_21 4 (dk_at dksJ1_init_3_1 0 rfl rfl)
theorem dJ1_init_3_25 : decode cJ1_init_3 25 = .ok (.ifCond .eq 11, 3) := dk_153 0 11 (dk_at dksJ1_init_3_1 2 rfl rfl)
theorem dJ1_init_3_28 : decode cJ1_init_3 28 = .ok (.aload_n 0, 1) := dk_42 (dk_at dksJ1_init_3_1 5 rfl rfl)
theorem dJ1_init_3_29 : decode cJ1_init_3 29 = .ok (.invokevirtual 27, 3) := dk_182 0 27 (dk_at dksJ1_init_3_1 6 rfl rfl)
theorem dJ1_init_3_32 : decode cJ1_init_3 32 = .ok (.pop, 1) := dk_87 (dk_at dksJ1_init_3_1 9 rfl rfl)
theorem dJ1_init_3_33 : decode cJ1_init_3 33 = .ok (.goto 8, 3) := dk_167 0 8 (dk_at dksJ1_init_3_1 10 rfl rfl)
theorem dJ1_init_3_36 : decode cJ1_init_3 36 = .ok (.aload_n 0, 1) := dk_42 (dk_at dksJ1_init_3_1 13 rfl rfl)
theorem dJ1_init_3_37 : decode cJ1_init_3 37 = .ok (.aconst_null, 1) := dk_1 (dk_at dksJ1_init_3_1 14 rfl rfl)
theorem dJ1_init_3_38 : decode cJ1_init_3 38 = .ok (.putfield 17, 3) := dk_181 0 17 (dk_at dksJ1_init_3_1 15 rfl rfl)
theorem dJ1_init_3_41 : decode cJ1_init_3 41 = .ok (.aload_n 0, 1) := dk_42 (dk_at dksJ1_init_3_1 18 rfl rfl)
theorem dJ1_init_3_42 : decode cJ1_init_3 42 = .ok (.aload_n 1, 1) := dk_43 (dk_at dksJ1_init_3_1 19 rfl rfl)
theorem dJ1_init_3_43 : decode cJ1_init_3 43 = .ok (.putfield 31, 3) := dk_181 0 31 (dk_at dksJ1_init_3_1 20 rfl rfl)
theorem dJ1_init_3_46 : decode cJ1_init_3 46 = .ok (.aload_n 0, 1) := dk_42 (dk_at dksJ1_init_3_1 23 rfl rfl)
theorem dJ1_init_3_47 : decode cJ1_init_3 47 = .ok (.aload_n 2, 1) := dk_44 (dk_at dksJ1_init_3_2 0 rfl rfl)
theorem dJ1_init_3_48 : decode cJ1_init_3 48 = .ok (.putfield 7, 3) := dk_181 0 7 (dk_at dksJ1_init_3_2 1 rfl rfl)
theorem dJ1_init_3_51 : decode cJ1_init_3 51 = .ok (.iload_n 3, 1) := dk_29 (dk_at dksJ1_init_3_2 4 rfl rfl)
theorem dJ1_init_3_52 : decode cJ1_init_3 52 = .ok (.ifCond .ne 8, 3) := dk_154 0 8 (dk_at dksJ1_init_3_2 5 rfl rfl)
theorem dJ1_init_3_55 : decode cJ1_init_3 55 = .ok (.aload_n 0, 1) := dk_42 (dk_at dksJ1_init_3_2 8 rfl rfl)
theorem dJ1_init_3_56 : decode cJ1_init_3 56 = .ok (.aconst_null, 1) := dk_1 (dk_at dksJ1_init_3_2 9 rfl rfl)
theorem dJ1_init_3_57 : decode cJ1_init_3 57 = .ok (.putfield 24, 3) := dk_181 0 24 (dk_at dksJ1_init_3_2 10 rfl rfl)
theorem dJ1_init_3_60 : decode cJ1_init_3 60 = .ok (.return_, 1) := dk_177 (dk_at dksJ1_init_3_2 13 rfl rfl)
theorem q241 : (Jvm.Cond.initialized "java/lang/Throwable") ∈ lw_all := lw_g (lw_at lw_m1 6 rfl) rfl
theorem q625 : (Jvm.Cond.instanceMethod ({ cls := "java/lang/Throwable", name := "<init>", desc := "(Ljava/lang/String;)V" } : Jvm.MethodName)) ∈ lw_all := lw_g (lw_at lw_m2 150 rfl) rfl
theorem q626 : (Jvm.Cond.code ({ cls := "java/lang/Throwable", name := "<init>", desc := "(Ljava/lang/String;)V" } : Jvm.MethodName) prog_19_method_2_code (2 : Nat) (Option.none : Option Jvm.ClassFile.FieldType)) ∈ lw_all := lw_g (lw_at lw_m2 151 rfl) rfl
theorem q627 : (Jvm.Cond.methodLink "java/lang/Throwable" (1 : Nat) ({ cls := "java/lang/Object", name := "<init>", desc := "()V" } : Jvm.MethodName)) ∈ lw_all := lw_g (lw_at lw_m2 152 rfl) rfl
theorem q628 : (Jvm.Cond.fieldLink "java/lang/Throwable" (13 : Nat) "java/lang/Throwable" "UNASSIGNED_STACK" "[Ljava/lang/StackTraceElement;") ∈ lw_all := lw_g (lw_at lw_m2 153 rfl) rfl
theorem q629 : (Jvm.Cond.laysStatic "java/lang/Throwable" "UNASSIGNED_STACK" "[Ljava/lang/StackTraceElement;") ∈ lw_tbl := lw_at lw_m2 154 rfl
theorem q630 : (Jvm.Cond.fieldLink "java/lang/Throwable" (20 : Nat) "java/lang/Throwable" "SUPPRESSED_SENTINEL" "Ljava/util/List;") ∈ lw_all := lw_g (lw_at lw_m2 155 rfl) rfl
theorem q631 : (Jvm.Cond.laysStatic "java/lang/Throwable" "SUPPRESSED_SENTINEL" "Ljava/util/List;") ∈ lw_tbl := lw_at lw_m2 156 rfl
theorem q632 : (Jvm.Cond.methodLink "java/lang/Throwable" (27 : Nat) ({ cls := "java/lang/Throwable", name := "fillInStackTrace", desc := "()Ljava/lang/Throwable;" } : Jvm.MethodName)) ∈ lw_all := lw_g (lw_at lw_m2 157 rfl) rfl
theorem q633 : (Jvm.Cond.instanceMethod ({ cls := "java/lang/Throwable", name := "fillInStackTrace", desc := "()Ljava/lang/Throwable;" } : Jvm.MethodName)) ∈ lw_all := lw_g (lw_at lw_m2 158 rfl) rfl
theorem q634 : (Jvm.Cond.sameMethod "java/lang/Throwable" "java/lang/Throwable" "fillInStackTrace" "()Ljava/lang/Throwable;") ∈ lw_all := lw_g (lw_at lw_m2 159 rfl) rfl
theorem q639 : (Jvm.Cond.codeSync ({ cls := "java/lang/Throwable", name := "fillInStackTrace", desc := "()Ljava/lang/Throwable;" } : Jvm.MethodName) prog_19_method_18_code (1 : Nat) (Option.some (Jvm.ClassFile.FieldType.object "java/lang/Throwable"))) ∈ lw_all := lw_g (lw_at lw_m2 164 rfl) rfl
theorem q640 : (Jvm.Cond.methodLink "java/lang/Throwable" (202 : Nat) ({ cls := "java/lang/Throwable", name := "fillInStackTrace", desc := "(I)Ljava/lang/Throwable;" } : Jvm.MethodName)) ∈ lw_all := lw_g (lw_at lw_m2 165 rfl) rfl
theorem q641 : (Jvm.Cond.privateMethod ({ cls := "java/lang/Throwable", name := "fillInStackTrace", desc := "(I)Ljava/lang/Throwable;" } : Jvm.MethodName)) ∈ lw_tbl := lw_at lw_m2 166 rfl
theorem q642 : (Jvm.Cond.instanceMethod ({ cls := "java/lang/Throwable", name := "fillInStackTrace", desc := "(I)Ljava/lang/Throwable;" } : Jvm.MethodName)) ∈ lw_all := lw_g (lw_at lw_m2 167 rfl) rfl
theorem q643 : (Jvm.Cond.instantiable "java/lang/Throwable" (6 : Nat)) ∈ lw_all := lw_g (lw_at lw_m2 168 rfl) rfl
theorem q644 : (Jvm.Cond.native ({ cls := "java/lang/Throwable", name := "fillInStackTrace", desc := "(I)Ljava/lang/Throwable;" } : Jvm.MethodName)) ∈ lw_all := lw_g (lw_at lw_m2 169 rfl) rfl
theorem q645 : (Jvm.Cond.fieldLink "java/lang/Throwable" (198 : Nat) "java/lang/Throwable" "backtrace" "Ljava/lang/Object;") ∈ lw_all := lw_g (lw_at lw_m2 170 rfl) rfl
theorem q646 : (Jvm.Cond.fieldLink "java/lang/Throwable" (31 : Nat) "java/lang/Throwable" "detailMessage" "Ljava/lang/String;") ∈ lw_all := lw_g (lw_at lw_m2 171 rfl) rfl
theorem q647 : (Jvm.Cond.fieldLink "java/lang/Throwable" (7 : Nat) "java/lang/Throwable" "cause" "Ljava/lang/Throwable;") ∈ lw_all := lw_g (lw_at lw_m2 172 rfl) rfl
theorem q648 : (Jvm.Cond.fieldLink "java/lang/Throwable" (17 : Nat) "java/lang/Throwable" "stackTrace" "[Ljava/lang/StackTraceElement;") ∈ lw_all := lw_g (lw_at lw_m2 173 rfl) rfl
theorem q649 : (Jvm.Cond.fieldLink "java/lang/Throwable" (24 : Nat) "java/lang/Throwable" "suppressedExceptions" "Ljava/util/List;") ∈ lw_all := lw_g (lw_at lw_m2 174 rfl) rfl
theorem q651 : (Jvm.Cond.soleField "java/lang/Throwable" "backtrace") ∈ lw_all := lw_g (lw_at lw_m2 176 rfl) rfl
theorem q653 : (Jvm.Cond.soleField "java/lang/Throwable" "detailMessage") ∈ lw_all := lw_g (lw_at lw_m2 178 rfl) rfl
theorem q655 : (Jvm.Cond.soleField "java/lang/Throwable" "cause") ∈ lw_all := lw_g (lw_at lw_m2 180 rfl) rfl
theorem q657 : (Jvm.Cond.soleField "java/lang/Throwable" "stackTrace") ∈ lw_all := lw_g (lw_at lw_m2 182 rfl) rfl
theorem q659 : (Jvm.Cond.soleField "java/lang/Throwable" "depth") ∈ lw_all := lw_g (lw_at lw_m2 184 rfl) rfl
theorem q661 : (Jvm.Cond.soleField "java/lang/Throwable" "suppressedExceptions") ∈ lw_all := lw_g (lw_at lw_m2 186 rfl) rfl
theorem q670 : (Jvm.Cond.declares ({ cls := "java/lang/Throwable", name := "<init>", desc := "()V" } : Jvm.MethodName)) ∈ lw_tbl := lw_at lw_m2 195 rfl
theorem q671 : (Jvm.Cond.declares ({ cls := "java/lang/Throwable", name := "<init>", desc := "(Ljava/lang/String;)V" } : Jvm.MethodName)) ∈ lw_tbl := lw_at lw_m2 196 rfl
theorem q673 : (Jvm.Cond.lays "java/lang/Throwable" "java/lang/Throwable" "cause" "Ljava/lang/Throwable;") ∈ lw_all := lw_g (lw_at lw_m2 198 rfl) rfl
theorem q674 : (Jvm.Cond.lays "java/lang/Throwable" "java/lang/Throwable" "stackTrace" "[Ljava/lang/StackTraceElement;") ∈ lw_all := lw_g (lw_at lw_m2 199 rfl) rfl
theorem q675 : (Jvm.Cond.lays "java/lang/Throwable" "java/lang/Throwable" "suppressedExceptions" "Ljava/util/List;") ∈ lw_all := lw_g (lw_at lw_m2 200 rfl) rfl
theorem q676 : (Jvm.Cond.lays "java/lang/Throwable" "java/lang/Throwable" "detailMessage" "Ljava/lang/String;") ∈ lw_all := lw_g (lw_at lw_m2 201 rfl) rfl
theorem q677 : (Jvm.Cond.lays "java/lang/Throwable" "java/lang/Throwable" "backtrace" "Ljava/lang/Object;") ∈ lw_all := lw_g (lw_at lw_m2 202 rfl) rfl
theorem q678 : (Jvm.Cond.fieldLink "java/lang/Throwable" (198 : Nat) "java/lang/Throwable" "backtrace" "Ljava/lang/Object;") ∈ lw_all := lw_g (lw_at lw_m2 203 rfl) rfl
theorem q679 : (Jvm.Cond.superclass "java/lang/Throwable" "java/lang/Object") ∈ lw_all := lw_g (lw_at lw_m2 204 rfl) rfl
theorem q680 : (Jvm.Cond.instanceMethod ({ cls := "java/lang/Throwable", name := "<init>", desc := "()V" } : Jvm.MethodName)) ∈ lw_all := lw_g (lw_at lw_m2 205 rfl) rfl
theorem q681 : (Jvm.Cond.code ({ cls := "java/lang/Throwable", name := "<init>", desc := "()V" } : Jvm.MethodName) prog_19_method_1_code (1 : Nat) (Option.none : Option Jvm.ClassFile.FieldType)) ∈ lw_all := lw_g (lw_at lw_m2 206 rfl) rfl
theorem q1333 : (Jvm.Cond.instanceMethod ({ cls := "java/lang/Throwable", name := "<init>", desc := "(Ljava/lang/String;Ljava/lang/Throwable;ZZ)V" } : Jvm.MethodName)) ∈ lw_all := lw_g (lw_at lw_m5 138 rfl) rfl
theorem q1334 : (Jvm.Cond.code ({ cls := "java/lang/Throwable", name := "<init>", desc := "(Ljava/lang/String;Ljava/lang/Throwable;ZZ)V" } : Jvm.MethodName) prog_19_method_5_code (5 : Nat) (Option.none : Option Jvm.ClassFile.FieldType)) ∈ lw_all := lw_g (lw_at lw_m5 139 rfl) rfl
theorem q2289 : (Jvm.Cond.sameMethod "java/lang/Throwable" "java/lang/Throwable" "fillInStackTrace" "(I)Ljava/lang/Throwable;") ∈ lw_all := lw_g (lw_at lw_m9 134 rfl) rfl
theorem in_J1 : ∀ w ∈ wsJ10, w ∈ lw_all := lw_in wsJ10 [673, 674, 675, 676, 677] (by decide +kernel) (by decide +kernel)
/-! java/lang/Math -/
set_option maxRecDepth 100000
def RJ10 : String := "java/lang/Math"
abbrev cJ10_min : ByteArray := prog_13_method_69_code
def yJ10_min : MethodName := ⟨RJ10, "min", "(II)I"⟩
def dkwJ10_min_0 : List UInt8 := [26, 27, 163, 0, 7, 26, 167, 0, 4, 27, 172]
abbrev dktJ10_min_0 : List UInt8 := dkwJ10_min_0 ++ []
theorem dksJ10_min_0 : cJ10_min.data.toList.drop 0 = dktJ10_min_0 := by decide +kernel
theorem dJ10_min_0 : decode cJ10_min 0 = .ok (.iload_n 0, 1) := dk_26 (dk_at dksJ10_min_0 0 rfl rfl)
theorem dJ10_min_1 : decode cJ10_min 1 = .ok (.iload_n 1, 1) := dk_27 (dk_at dksJ10_min_0 1 rfl rfl)
theorem dJ10_min_2 : decode cJ10_min 2 = .ok (.if_icmp .gt 7, 3) := dk_163 0 7 (dk_at dksJ10_min_0 2 rfl rfl)
theorem dJ10_min_5 : decode cJ10_min 5 = .ok (.iload_n 0, 1) := dk_26 (dk_at dksJ10_min_0 5 rfl rfl)
theorem dJ10_min_6 : decode cJ10_min 6 = .ok (.goto 4, 3) := dk_167 0 4 (dk_at dksJ10_min_0 6 rfl rfl)
theorem dJ10_min_9 : decode cJ10_min 9 = .ok (.iload_n 1, 1) := dk_27 (dk_at dksJ10_min_0 9 rfl rfl)
theorem dJ10_min_10 : decode cJ10_min 10 = .ok (.ireturn, 1) := dk_172 (dk_at dksJ10_min_0 10 rfl rfl)
abbrev cJ10_max : ByteArray := prog_13_method_65_code
def yJ10_max : MethodName := ⟨RJ10, "max", "(II)I"⟩
def dkwJ10_max_0 : List UInt8 := [26, 27, 161, 0, 7, 26, 167, 0, 4, 27, 172]
abbrev dktJ10_max_0 : List UInt8 := dkwJ10_max_0 ++ []
theorem dksJ10_max_0 : cJ10_max.data.toList.drop 0 = dktJ10_max_0 := by decide +kernel
theorem dJ10_max_0 : decode cJ10_max 0 = .ok (.iload_n 0, 1) := dk_26 (dk_at dksJ10_max_0 0 rfl rfl)
theorem dJ10_max_1 : decode cJ10_max 1 = .ok (.iload_n 1, 1) := dk_27 (dk_at dksJ10_max_0 1 rfl rfl)
theorem dJ10_max_2 : decode cJ10_max 2 = .ok (.if_icmp .lt 7, 3) := dk_161 0 7 (dk_at dksJ10_max_0 2 rfl rfl)
theorem dJ10_max_5 : decode cJ10_max 5 = .ok (.iload_n 0, 1) := dk_26 (dk_at dksJ10_max_0 5 rfl rfl)
theorem dJ10_max_6 : decode cJ10_max 6 = .ok (.goto 4, 3) := dk_167 0 4 (dk_at dksJ10_max_0 6 rfl rfl)
theorem dJ10_max_9 : decode cJ10_max 9 = .ok (.iload_n 1, 1) := dk_27 (dk_at dksJ10_max_0 9 rfl rfl)
theorem dJ10_max_10 : decode cJ10_max 10 = .ok (.ireturn, 1) := dk_172 (dk_at dksJ10_max_0 10 rfl rfl)
theorem q251 : (Jvm.Cond.initialized "java/lang/Math") ∈ lw_all := lw_g (lw_at lw_m1 16 rfl) rfl
theorem q793 : (Jvm.Cond.static ({ cls := "java/lang/Math", name := "min", desc := "(II)I" } : Jvm.MethodName)) ∈ lw_all := lw_g (lw_at lw_m3 78 rfl) rfl
theorem q794 : (Jvm.Cond.code ({ cls := "java/lang/Math", name := "min", desc := "(II)I" } : Jvm.MethodName) prog_13_method_69_code (2 : Nat) (Option.some Jvm.ClassFile.FieldType.int)) ∈ lw_all := lw_g (lw_at lw_m3 79 rfl) rfl
theorem q1709 : (Jvm.Cond.static ({ cls := "java/lang/Math", name := "max", desc := "(II)I" } : Jvm.MethodName)) ∈ lw_all := lw_g (lw_at lw_m7 34 rfl) rfl
theorem q1710 : (Jvm.Cond.code ({ cls := "java/lang/Math", name := "max", desc := "(II)I" } : Jvm.MethodName) prog_13_method_65_code (2 : Nat) (Option.some Jvm.ClassFile.FieldType.int)) ∈ lw_all := lw_g (lw_at lw_m7 35 rfl) rfl
/-! java/lang/IllegalArgumentException -/
set_option maxRecDepth 100000
def RJ11 : String := "java/lang/IllegalArgumentException"
def TJ11 : u_T := fun k => match k with
  | 0 => ("java/lang/Throwable", "cause", "Ljava/lang/Throwable;", false)
  | 1 => ("java/lang/Throwable", "stackTrace", "[Ljava/lang/StackTraceElement;", false)
  | 2 => ("java/lang/Throwable", "suppressedExceptions", "Ljava/util/List;", false)
  | 3 => ("java/lang/Throwable", "detailMessage", "Ljava/lang/String;", false)
  | 4 => ("java/lang/Throwable", "backtrace", "Ljava/lang/Object;", false)
  | _ => ("java/lang/Throwable", "depth", "I", false)
def tyJ11 : Nat → FieldType := fun k => match k with
  | 0 => .object "java/lang/Throwable"
  | 1 => .array (.object "java/lang/StackTraceElement")
  | 2 => .object "java/util/List"
  | 3 => .object "java/lang/String"
  | 4 => .object "java/lang/Object"
  | _ => .int
abbrev wsJ110 : List Cond := u_ws RJ11 TJ11 6
theorem nmJ11 : ∀ a, a < 6 → ∀ b, b < 6 → a ≠ b → (TJ11 a).2.1 ≠ (TJ11 b).2.1 := by decide +kernel
theorem tyJ11_ok : ∀ k, k < 6 → parseFieldDescriptor (TJ11 k).2.2.1 = some (tyJ11 k) := by decide +kernel
abbrev cJ11_init : ByteArray := prog_11_method_1_code
def yJ11_init : MethodName := ⟨RJ11, "<init>", "()V"⟩
theorem dJ11_init_0 : decode cJ11_init 0 = .ok (.aload_n 0, 1) := by decide +kernel
theorem dJ11_init_1 : decode cJ11_init 1 = .ok (.invokespecial 1, 3) := by decide +kernel
theorem dJ11_init_4 : decode cJ11_init 4 = .ok (.return_, 1) := by decide +kernel
theorem q253 : (Jvm.Cond.initialized "java/lang/IllegalArgumentException") ∈ lw_all := lw_g (lw_at lw_m1 18 rfl) rfl
theorem q637 : (Jvm.Cond.selects "java/lang/IllegalArgumentException" ({ cls := "java/lang/Throwable", name := "fillInStackTrace", desc := "()Ljava/lang/Throwable;" } : Jvm.MethodName) ({ cls := "java/lang/Throwable", name := "fillInStackTrace", desc := "()Ljava/lang/Throwable;" } : Jvm.MethodName)) ∈ lw_all := lw_g (lw_at lw_m2 162 rfl) rfl
theorem q1280 : (Jvm.Cond.instantiable "java/lang/IllegalArgumentException" (6 : Nat)) ∈ lw_all := lw_g (lw_at lw_m5 85 rfl) rfl
theorem q1281 : (Jvm.Cond.castable "java/lang/IllegalArgumentException" "java/lang/IllegalArgumentException") ∈ lw_tbl := lw_at lw_m5 86 rfl
theorem q1282 : (Jvm.Cond.selects "java/lang/IllegalArgumentException" ({ cls := "java/lang/Throwable", name := "fillInStackTrace", desc := "(I)Ljava/lang/Throwable;" } : Jvm.MethodName) ({ cls := "java/lang/Throwable", name := "fillInStackTrace", desc := "(I)Ljava/lang/Throwable;" } : Jvm.MethodName)) ∈ lw_all := lw_g (lw_at lw_m5 87 rfl) rfl
theorem q1283 : (Jvm.Cond.lays "java/lang/IllegalArgumentException" "java/lang/Throwable" "cause" "Ljava/lang/Throwable;") ∈ lw_all := lw_g (lw_at lw_m5 88 rfl) rfl
theorem q1284 : (Jvm.Cond.lays "java/lang/IllegalArgumentException" "java/lang/Throwable" "stackTrace" "[Ljava/lang/StackTraceElement;") ∈ lw_all := lw_g (lw_at lw_m5 89 rfl) rfl
theorem q1285 : (Jvm.Cond.lays "java/lang/IllegalArgumentException" "java/lang/Throwable" "suppressedExceptions" "Ljava/util/List;") ∈ lw_all := lw_g (lw_at lw_m5 90 rfl) rfl
theorem q1286 : (Jvm.Cond.lays "java/lang/IllegalArgumentException" "java/lang/Throwable" "detailMessage" "Ljava/lang/String;") ∈ lw_all := lw_g (lw_at lw_m5 91 rfl) rfl
theorem q1287 : (Jvm.Cond.lays "java/lang/IllegalArgumentException" "java/lang/Throwable" "backtrace" "Ljava/lang/Object;") ∈ lw_all := lw_g (lw_at lw_m5 92 rfl) rfl
theorem q1289 : (Jvm.Cond.instanceMethod ({ cls := "java/lang/IllegalArgumentException", name := "<init>", desc := "()V" } : Jvm.MethodName)) ∈ lw_all := lw_g (lw_at lw_m5 94 rfl) rfl
theorem q1290 : (Jvm.Cond.code ({ cls := "java/lang/IllegalArgumentException", name := "<init>", desc := "()V" } : Jvm.MethodName) prog_11_method_1_code (1 : Nat) (Option.none : Option Jvm.ClassFile.FieldType)) ∈ lw_all := lw_g (lw_at lw_m5 95 rfl) rfl
theorem q1291 : (Jvm.Cond.methodLink "java/lang/IllegalArgumentException" (1 : Nat) ({ cls := "java/lang/RuntimeException", name := "<init>", desc := "()V" } : Jvm.MethodName)) ∈ lw_all := lw_g (lw_at lw_m5 96 rfl) rfl
theorem q1292 : (Jvm.Cond.lays "java/lang/IllegalArgumentException" "java/lang/Throwable" "depth" "I") ∈ lw_all := lw_g (lw_at lw_m5 97 rfl) rfl
theorem q1293 : (Jvm.Cond.superclass "java/lang/IllegalArgumentException" "java/lang/RuntimeException") ∈ lw_all := lw_g (lw_at lw_m5 98 rfl) rfl
theorem in_J11 : ∀ w ∈ wsJ110, w ∈ lw_all := lw_in wsJ110 [1283, 1284, 1285, 1286, 1287, 1292] (by decide +kernel) (by decide +kernel)
/-! java/lang/Character -/
set_option maxRecDepth 100000
def RJ12 : String := "java/lang/Character"
abbrev cJ12_isValidCodePoint : ByteArray := prog_8_method_11_code
def yJ12_isValidCodePoint : MethodName := ⟨RJ12, "isValidCodePoint", "(I)Z"⟩
def dkwJ12_isValidCodePoint_0 : List UInt8 := [26, 16, 16, 124, 60, 27, 16, 17, 162, 0, 7, 4, 167, 0, 4, 3, 172]
abbrev dktJ12_isValidCodePoint_0 : List UInt8 := dkwJ12_isValidCodePoint_0 ++ []
theorem dksJ12_isValidCodePoint_0 : cJ12_isValidCodePoint.data.toList.drop 0 = dktJ12_isValidCodePoint_0 := by decide +kernel
theorem dJ12_isValidCodePoint_0 : decode cJ12_isValidCodePoint 0 = .ok (.iload_n 0, 1) := dk_26 (dk_at dksJ12_isValidCodePoint_0 0 rfl rfl)
theorem dJ12_isValidCodePoint_1 : decode cJ12_isValidCodePoint 1 = .ok (.bipush 16, 2) := dk_16 16 (dk_at dksJ12_isValidCodePoint_0 1 rfl rfl)
theorem dJ12_isValidCodePoint_3 : decode cJ12_isValidCodePoint 3 = .ok (.iushr, 1) := dk_124 (dk_at dksJ12_isValidCodePoint_0 3 rfl rfl)
theorem dJ12_isValidCodePoint_4 : decode cJ12_isValidCodePoint 4 = .ok (.istore_n 1, 1) := dk_60 (dk_at dksJ12_isValidCodePoint_0 4 rfl rfl)
theorem dJ12_isValidCodePoint_5 : decode cJ12_isValidCodePoint 5 = .ok (.iload_n 1, 1) := dk_27 (dk_at dksJ12_isValidCodePoint_0 5 rfl rfl)
theorem dJ12_isValidCodePoint_6 : decode cJ12_isValidCodePoint 6 = .ok (.bipush 17, 2) := dk_16 17 (dk_at dksJ12_isValidCodePoint_0 6 rfl rfl)
theorem dJ12_isValidCodePoint_8 : decode cJ12_isValidCodePoint 8 = .ok (.if_icmp .ge 7, 3) := dk_162 0 7 (dk_at dksJ12_isValidCodePoint_0 8 rfl rfl)
theorem dJ12_isValidCodePoint_11 : decode cJ12_isValidCodePoint 11 = .ok (.iconst 1, 1) := dk_4 (dk_at dksJ12_isValidCodePoint_0 11 rfl rfl)
theorem dJ12_isValidCodePoint_12 : decode cJ12_isValidCodePoint 12 = .ok (.goto 4, 3) := dk_167 0 4 (dk_at dksJ12_isValidCodePoint_0 12 rfl rfl)
theorem dJ12_isValidCodePoint_15 : decode cJ12_isValidCodePoint 15 = .ok (.iconst 0, 1) := dk_3 (dk_at dksJ12_isValidCodePoint_0 15 rfl rfl)
theorem dJ12_isValidCodePoint_16 : decode cJ12_isValidCodePoint 16 = .ok (.ireturn, 1) := dk_172 (dk_at dksJ12_isValidCodePoint_0 16 rfl rfl)
abbrev cJ12_highSurrogate : ByteArray := prog_8_method_28_code
def yJ12_highSurrogate : MethodName := ⟨RJ12, "highSurrogate", "(I)C"⟩
def dkwJ12_highSurrogate_0 : List UInt8 := [26, 16, 10, 124, 18, 110, 96, 146, 172]
abbrev dktJ12_highSurrogate_0 : List UInt8 := dkwJ12_highSurrogate_0 ++ []
theorem dksJ12_highSurrogate_0 : cJ12_highSurrogate.data.toList.drop 0 = dktJ12_highSurrogate_0 := by decide +kernel
theorem dJ12_highSurrogate_0 : decode cJ12_highSurrogate 0 = .ok (.iload_n 0, 1) := dk_26 (dk_at dksJ12_highSurrogate_0 0 rfl rfl)
theorem dJ12_highSurrogate_1 : decode cJ12_highSurrogate 1 = .ok (.bipush 10, 2) := dk_16 10 (dk_at dksJ12_highSurrogate_0 1 rfl rfl)
theorem dJ12_highSurrogate_3 : decode cJ12_highSurrogate 3 = .ok (.iushr, 1) := dk_124 (dk_at dksJ12_highSurrogate_0 3 rfl rfl)
theorem dJ12_highSurrogate_4 : decode cJ12_highSurrogate 4 = .ok (.ldc 110, 2) := dk_18 110 (dk_at dksJ12_highSurrogate_0 4 rfl rfl)
theorem dJ12_highSurrogate_6 : decode cJ12_highSurrogate 6 = .ok (.iadd, 1) := dk_96 (dk_at dksJ12_highSurrogate_0 6 rfl rfl)
theorem dJ12_highSurrogate_7 : decode cJ12_highSurrogate 7 = .ok (.i2c, 1) := dk_146 (dk_at dksJ12_highSurrogate_0 7 rfl rfl)
theorem dJ12_highSurrogate_8 : decode cJ12_highSurrogate 8 = .ok (.ireturn, 1) := dk_172 (dk_at dksJ12_highSurrogate_0 8 rfl rfl)
abbrev cJ12_lowSurrogate : ByteArray := prog_8_method_29_code
def yJ12_lowSurrogate : MethodName := ⟨RJ12, "lowSurrogate", "(I)C"⟩
def dkwJ12_lowSurrogate_0 : List UInt8 := [26, 17, 3, 255, 126, 18, 76, 96, 146, 172]
abbrev dktJ12_lowSurrogate_0 : List UInt8 := dkwJ12_lowSurrogate_0 ++ []
theorem dksJ12_lowSurrogate_0 : cJ12_lowSurrogate.data.toList.drop 0 = dktJ12_lowSurrogate_0 := by decide +kernel
theorem dJ12_lowSurrogate_0 : decode cJ12_lowSurrogate 0 = .ok (.iload_n 0, 1) := dk_26 (dk_at dksJ12_lowSurrogate_0 0 rfl rfl)
theorem dJ12_lowSurrogate_1 : decode cJ12_lowSurrogate 1 = .ok (.sipush 1023, 3) := dk_17 3 255 (dk_at dksJ12_lowSurrogate_0 1 rfl rfl)
theorem dJ12_lowSurrogate_4 : decode cJ12_lowSurrogate 4 = .ok (.iand, 1) := dk_126 (dk_at dksJ12_lowSurrogate_0 4 rfl rfl)
theorem dJ12_lowSurrogate_5 : decode cJ12_lowSurrogate 5 = .ok (.ldc 76, 2) := dk_18 76 (dk_at dksJ12_lowSurrogate_0 5 rfl rfl)
theorem dJ12_lowSurrogate_7 : decode cJ12_lowSurrogate 7 = .ok (.iadd, 1) := dk_96 (dk_at dksJ12_lowSurrogate_0 7 rfl rfl)
theorem dJ12_lowSurrogate_8 : decode cJ12_lowSurrogate 8 = .ok (.i2c, 1) := dk_146 (dk_at dksJ12_lowSurrogate_0 8 rfl rfl)
theorem dJ12_lowSurrogate_9 : decode cJ12_lowSurrogate 9 = .ok (.ireturn, 1) := dk_172 (dk_at dksJ12_lowSurrogate_0 9 rfl rfl)
theorem q254 : (Jvm.Cond.initialized "java/lang/Character") ∈ lw_all := lw_g (lw_at lw_m1 19 rfl) rfl
theorem q1740 : (Jvm.Cond.static ({ cls := "java/lang/Character", name := "isValidCodePoint", desc := "(I)Z" } : Jvm.MethodName)) ∈ lw_all := lw_g (lw_at lw_m7 65 rfl) rfl
theorem q1741 : (Jvm.Cond.code ({ cls := "java/lang/Character", name := "isValidCodePoint", desc := "(I)Z" } : Jvm.MethodName) prog_8_method_11_code (2 : Nat) (Option.some Jvm.ClassFile.FieldType.boolean)) ∈ lw_all := lw_g (lw_at lw_m7 66 rfl) rfl
theorem q1743 : (Jvm.Cond.static ({ cls := "java/lang/Character", name := "highSurrogate", desc := "(I)C" } : Jvm.MethodName)) ∈ lw_all := lw_g (lw_at lw_m7 68 rfl) rfl
theorem q1744 : (Jvm.Cond.code ({ cls := "java/lang/Character", name := "highSurrogate", desc := "(I)C" } : Jvm.MethodName) prog_8_method_28_code (1 : Nat) (Option.some Jvm.ClassFile.FieldType.char)) ∈ lw_all := lw_g (lw_at lw_m7 69 rfl) rfl
theorem q1745 : (Jvm.Cond.constant "java/lang/Character" (110 : Nat) (55232 : Int32)) ∈ lw_all := lw_g (lw_at lw_m7 70 rfl) rfl
theorem q1747 : (Jvm.Cond.static ({ cls := "java/lang/Character", name := "lowSurrogate", desc := "(I)C" } : Jvm.MethodName)) ∈ lw_all := lw_g (lw_at lw_m7 72 rfl) rfl
theorem q1748 : (Jvm.Cond.code ({ cls := "java/lang/Character", name := "lowSurrogate", desc := "(I)C" } : Jvm.MethodName) prog_8_method_29_code (1 : Nat) (Option.some Jvm.ClassFile.FieldType.char)) ∈ lw_all := lw_g (lw_at lw_m7 73 rfl) rfl
theorem q1749 : (Jvm.Cond.constant "java/lang/Character" (76 : Nat) (56320 : Int32)) ∈ lw_all := lw_g (lw_at lw_m7 74 rfl) rfl
/-! java/lang/Object -/
set_option maxRecDepth 100000
def RJ13 : String := "java/lang/Object"
abbrev cJ13_init : ByteArray := object_method_1_code
def yJ13_init : MethodName := ⟨RJ13, "<init>", "()V"⟩
theorem dJ13_init_0 : decode cJ13_init 0 = .ok (.return_, 1) := by decide +kernel
theorem q261 : (Jvm.Cond.instanceMethod ({ cls := "java/lang/Object", name := "<init>", desc := "()V" } : Jvm.MethodName)) ∈ lw_all := lw_g (lw_at lw_m1 26 rfl) rfl
theorem q262 : (Jvm.Cond.code ({ cls := "java/lang/Object", name := "<init>", desc := "()V" } : Jvm.MethodName) object_method_1_code (1 : Nat) (Option.none : Option Jvm.ClassFile.FieldType)) ∈ lw_all := lw_g (lw_at lw_m1 27 rfl) rfl
theorem q787 : (Jvm.Cond.native ({ cls := "java/lang/Object", name := "clone", desc := "()Ljava/lang/Object;" } : Jvm.MethodName)) ∈ lw_all := lw_g (lw_at lw_m3 72 rfl) rfl
theorem q788 : (Jvm.Cond.instanceMethod ({ cls := "java/lang/Object", name := "clone", desc := "()Ljava/lang/Object;" } : Jvm.MethodName)) ∈ lw_all := lw_g (lw_at lw_m3 73 rfl) rfl
theorem q2290 : (Jvm.Cond.initialized "java/lang/Object") ∈ lw_all := lw_g (lw_at lw_m9 135 rfl) rfl
/-! java/lang/Exception -/
set_option maxRecDepth 100000
def RJ2 : String := "java/lang/Exception"
abbrev cJ2_init : ByteArray := prog_10_method_2_code
def yJ2_init : MethodName := ⟨RJ2, "<init>", "(Ljava/lang/String;)V"⟩
def dkwJ2_init_0 : List UInt8 := [42, 43, 183, 0, 7, 177]
abbrev dktJ2_init_0 : List UInt8 := dkwJ2_init_0 ++ []
theorem dksJ2_init_0 : cJ2_init.data.toList.drop 0 = dktJ2_init_0 := by decide +kernel
theorem dJ2_init_0 : decode cJ2_init 0 = .ok (.aload_n 0, 1) := dk_42 (dk_at dksJ2_init_0 0 rfl rfl)
theorem dJ2_init_1 : decode cJ2_init 1 = .ok (.aload_n 1, 1) := dk_43 (dk_at dksJ2_init_0 1 rfl rfl)
theorem dJ2_init_2 : decode cJ2_init 2 = .ok (.invokespecial 7, 3) := dk_183 0 7 (dk_at dksJ2_init_0 2 rfl rfl)
theorem dJ2_init_5 : decode cJ2_init 5 = .ok (.return_, 1) := dk_177 (dk_at dksJ2_init_0 5 rfl rfl)
abbrev cJ2_init_2 : ByteArray := prog_10_method_1_code
def yJ2_init_2 : MethodName := ⟨RJ2, "<init>", "()V"⟩
theorem dJ2_init_2_0 : decode cJ2_init_2 0 = .ok (.aload_n 0, 1) := by decide +kernel
theorem dJ2_init_2_1 : decode cJ2_init_2 1 = .ok (.invokespecial 1, 3) := by decide +kernel
theorem dJ2_init_2_4 : decode cJ2_init_2 4 = .ok (.return_, 1) := by decide +kernel
abbrev cJ2_init_3 : ByteArray := prog_10_method_5_code
def yJ2_init_3 : MethodName := ⟨RJ2, "<init>", "(Ljava/lang/String;Ljava/lang/Throwable;ZZ)V"⟩
def dkwJ2_init_3_0 : List UInt8 := [42, 43, 44, 29, 21, 4, 183, 0, 16, 177]
abbrev dktJ2_init_3_0 : List UInt8 := dkwJ2_init_3_0 ++ []
theorem dksJ2_init_3_0 : cJ2_init_3.data.toList.drop 0 = dktJ2_init_3_0 := by decide +kernel
theorem dJ2_init_3_0 : decode cJ2_init_3 0 = .ok (.aload_n 0, 1) := dk_42 (dk_at dksJ2_init_3_0 0 rfl rfl)
theorem dJ2_init_3_1 : decode cJ2_init_3 1 = .ok (.aload_n 1, 1) := dk_43 (dk_at dksJ2_init_3_0 1 rfl rfl)
theorem dJ2_init_3_2 : decode cJ2_init_3 2 = .ok (.aload_n 2, 1) := dk_44 (dk_at dksJ2_init_3_0 2 rfl rfl)
theorem dJ2_init_3_3 : decode cJ2_init_3 3 = .ok (.iload_n 3, 1) := dk_29 (dk_at dksJ2_init_3_0 3 rfl rfl)
theorem dJ2_init_3_4 : decode cJ2_init_3 4 = .ok (.iload 4, 2) := dk_21 4 (dk_at dksJ2_init_3_0 4 rfl rfl)
theorem dJ2_init_3_6 : decode cJ2_init_3 6 = .ok (.invokespecial 16, 3) := dk_183 0 16 (dk_at dksJ2_init_3_0 6 rfl rfl)
theorem dJ2_init_3_9 : decode cJ2_init_3 9 = .ok (.return_, 1) := dk_177 (dk_at dksJ2_init_3_0 9 rfl rfl)
theorem q242 : (Jvm.Cond.initialized "java/lang/Exception") ∈ lw_all := lw_g (lw_at lw_m1 7 rfl) rfl
theorem q622 : (Jvm.Cond.instanceMethod ({ cls := "java/lang/Exception", name := "<init>", desc := "(Ljava/lang/String;)V" } : Jvm.MethodName)) ∈ lw_all := lw_g (lw_at lw_m2 147 rfl) rfl
theorem q623 : (Jvm.Cond.code ({ cls := "java/lang/Exception", name := "<init>", desc := "(Ljava/lang/String;)V" } : Jvm.MethodName) prog_10_method_2_code (2 : Nat) (Option.none : Option Jvm.ClassFile.FieldType)) ∈ lw_all := lw_g (lw_at lw_m2 148 rfl) rfl
theorem q624 : (Jvm.Cond.methodLink "java/lang/Exception" (7 : Nat) ({ cls := "java/lang/Throwable", name := "<init>", desc := "(Ljava/lang/String;)V" } : Jvm.MethodName)) ∈ lw_all := lw_g (lw_at lw_m2 149 rfl) rfl
theorem q668 : (Jvm.Cond.declares ({ cls := "java/lang/Exception", name := "<init>", desc := "()V" } : Jvm.MethodName)) ∈ lw_tbl := lw_at lw_m2 193 rfl
theorem q669 : (Jvm.Cond.declares ({ cls := "java/lang/Exception", name := "<init>", desc := "(Ljava/lang/String;)V" } : Jvm.MethodName)) ∈ lw_tbl := lw_at lw_m2 194 rfl
theorem q707 : (Jvm.Cond.instanceMethod ({ cls := "java/lang/Exception", name := "<init>", desc := "()V" } : Jvm.MethodName)) ∈ lw_all := lw_g (lw_at lw_m2 232 rfl) rfl
theorem q708 : (Jvm.Cond.code ({ cls := "java/lang/Exception", name := "<init>", desc := "()V" } : Jvm.MethodName) prog_10_method_1_code (1 : Nat) (Option.none : Option Jvm.ClassFile.FieldType)) ∈ lw_all := lw_g (lw_at lw_m2 233 rfl) rfl
theorem q709 : (Jvm.Cond.methodLink "java/lang/Exception" (1 : Nat) ({ cls := "java/lang/Throwable", name := "<init>", desc := "()V" } : Jvm.MethodName)) ∈ lw_all := lw_g (lw_at lw_m2 234 rfl) rfl
theorem q1330 : (Jvm.Cond.instanceMethod ({ cls := "java/lang/Exception", name := "<init>", desc := "(Ljava/lang/String;Ljava/lang/Throwable;ZZ)V" } : Jvm.MethodName)) ∈ lw_all := lw_g (lw_at lw_m5 135 rfl) rfl
theorem q1331 : (Jvm.Cond.code ({ cls := "java/lang/Exception", name := "<init>", desc := "(Ljava/lang/String;Ljava/lang/Throwable;ZZ)V" } : Jvm.MethodName) prog_10_method_5_code (5 : Nat) (Option.none : Option Jvm.ClassFile.FieldType)) ∈ lw_all := lw_g (lw_at lw_m5 136 rfl) rfl
theorem q1332 : (Jvm.Cond.methodLink "java/lang/Exception" (16 : Nat) ({ cls := "java/lang/Throwable", name := "<init>", desc := "(Ljava/lang/String;Ljava/lang/Throwable;ZZ)V" } : Jvm.MethodName)) ∈ lw_all := lw_g (lw_at lw_m5 137 rfl) rfl
/-! java/lang/RuntimeException -/
set_option maxRecDepth 100000
def RJ3 : String := "java/lang/RuntimeException"
abbrev cJ3_init : ByteArray := prog_14_method_2_code
def yJ3_init : MethodName := ⟨RJ3, "<init>", "(Ljava/lang/String;)V"⟩
def dkwJ3_init_0 : List UInt8 := [42, 43, 183, 0, 7, 177]
abbrev dktJ3_init_0 : List UInt8 := dkwJ3_init_0 ++ []
theorem dksJ3_init_0 : cJ3_init.data.toList.drop 0 = dktJ3_init_0 := by decide +kernel
theorem dJ3_init_0 : decode cJ3_init 0 = .ok (.aload_n 0, 1) := dk_42 (dk_at dksJ3_init_0 0 rfl rfl)
theorem dJ3_init_1 : decode cJ3_init 1 = .ok (.aload_n 1, 1) := dk_43 (dk_at dksJ3_init_0 1 rfl rfl)
theorem dJ3_init_2 : decode cJ3_init 2 = .ok (.invokespecial 7, 3) := dk_183 0 7 (dk_at dksJ3_init_0 2 rfl rfl)
theorem dJ3_init_5 : decode cJ3_init 5 = .ok (.return_, 1) := dk_177 (dk_at dksJ3_init_0 5 rfl rfl)
abbrev cJ3_init_2 : ByteArray := prog_14_method_1_code
def yJ3_init_2 : MethodName := ⟨RJ3, "<init>", "()V"⟩
theorem dJ3_init_2_0 : decode cJ3_init_2 0 = .ok (.aload_n 0, 1) := by decide +kernel
theorem dJ3_init_2_1 : decode cJ3_init_2 1 = .ok (.invokespecial 1, 3) := by decide +kernel
theorem dJ3_init_2_4 : decode cJ3_init_2 4 = .ok (.return_, 1) := by decide +kernel
abbrev cJ3_init_3 : ByteArray := prog_14_method_5_code
def yJ3_init_3 : MethodName := ⟨RJ3, "<init>", "(Ljava/lang/String;Ljava/lang/Throwable;ZZ)V"⟩
def dkwJ3_init_3_0 : List UInt8 := [42, 43, 44, 29, 21, 4, 183, 0, 16, 177]
abbrev dktJ3_init_3_0 : List UInt8 := dkwJ3_init_3_0 ++ []
theorem dksJ3_init_3_0 : cJ3_init_3.data.toList.drop 0 = dktJ3_init_3_0 := by decide +kernel
theorem dJ3_init_3_0 : decode cJ3_init_3 0 = .ok (.aload_n 0, 1) := dk_42 (dk_at dksJ3_init_3_0 0 rfl rfl)
theorem dJ3_init_3_1 : decode cJ3_init_3 1 = .ok (.aload_n 1, 1) := dk_43 (dk_at dksJ3_init_3_0 1 rfl rfl)
theorem dJ3_init_3_2 : decode cJ3_init_3 2 = .ok (.aload_n 2, 1) := dk_44 (dk_at dksJ3_init_3_0 2 rfl rfl)
theorem dJ3_init_3_3 : decode cJ3_init_3 3 = .ok (.iload_n 3, 1) := dk_29 (dk_at dksJ3_init_3_0 3 rfl rfl)
theorem dJ3_init_3_4 : decode cJ3_init_3 4 = .ok (.iload 4, 2) := dk_21 4 (dk_at dksJ3_init_3_0 4 rfl rfl)
theorem dJ3_init_3_6 : decode cJ3_init_3 6 = .ok (.invokespecial 16, 3) := dk_183 0 16 (dk_at dksJ3_init_3_0 6 rfl rfl)
theorem dJ3_init_3_9 : decode cJ3_init_3 9 = .ok (.return_, 1) := dk_177 (dk_at dksJ3_init_3_0 9 rfl rfl)
theorem q243 : (Jvm.Cond.initialized "java/lang/RuntimeException") ∈ lw_all := lw_g (lw_at lw_m1 8 rfl) rfl
theorem q619 : (Jvm.Cond.instanceMethod ({ cls := "java/lang/RuntimeException", name := "<init>", desc := "(Ljava/lang/String;)V" } : Jvm.MethodName)) ∈ lw_all := lw_g (lw_at lw_m2 144 rfl) rfl
theorem q620 : (Jvm.Cond.code ({ cls := "java/lang/RuntimeException", name := "<init>", desc := "(Ljava/lang/String;)V" } : Jvm.MethodName) prog_14_method_2_code (2 : Nat) (Option.none : Option Jvm.ClassFile.FieldType)) ∈ lw_all := lw_g (lw_at lw_m2 145 rfl) rfl
theorem q621 : (Jvm.Cond.methodLink "java/lang/RuntimeException" (7 : Nat) ({ cls := "java/lang/Exception", name := "<init>", desc := "(Ljava/lang/String;)V" } : Jvm.MethodName)) ∈ lw_all := lw_g (lw_at lw_m2 146 rfl) rfl
theorem q666 : (Jvm.Cond.declares ({ cls := "java/lang/RuntimeException", name := "<init>", desc := "()V" } : Jvm.MethodName)) ∈ lw_tbl := lw_at lw_m2 191 rfl
theorem q667 : (Jvm.Cond.declares ({ cls := "java/lang/RuntimeException", name := "<init>", desc := "(Ljava/lang/String;)V" } : Jvm.MethodName)) ∈ lw_tbl := lw_at lw_m2 192 rfl
theorem q704 : (Jvm.Cond.instanceMethod ({ cls := "java/lang/RuntimeException", name := "<init>", desc := "()V" } : Jvm.MethodName)) ∈ lw_all := lw_g (lw_at lw_m2 229 rfl) rfl
theorem q705 : (Jvm.Cond.code ({ cls := "java/lang/RuntimeException", name := "<init>", desc := "()V" } : Jvm.MethodName) prog_14_method_1_code (1 : Nat) (Option.none : Option Jvm.ClassFile.FieldType)) ∈ lw_all := lw_g (lw_at lw_m2 230 rfl) rfl
theorem q706 : (Jvm.Cond.methodLink "java/lang/RuntimeException" (1 : Nat) ({ cls := "java/lang/Exception", name := "<init>", desc := "()V" } : Jvm.MethodName)) ∈ lw_all := lw_g (lw_at lw_m2 231 rfl) rfl
theorem q1327 : (Jvm.Cond.instanceMethod ({ cls := "java/lang/RuntimeException", name := "<init>", desc := "(Ljava/lang/String;Ljava/lang/Throwable;ZZ)V" } : Jvm.MethodName)) ∈ lw_all := lw_g (lw_at lw_m5 132 rfl) rfl
theorem q1328 : (Jvm.Cond.code ({ cls := "java/lang/RuntimeException", name := "<init>", desc := "(Ljava/lang/String;Ljava/lang/Throwable;ZZ)V" } : Jvm.MethodName) prog_14_method_5_code (5 : Nat) (Option.none : Option Jvm.ClassFile.FieldType)) ∈ lw_all := lw_g (lw_at lw_m5 133 rfl) rfl
theorem q1329 : (Jvm.Cond.methodLink "java/lang/RuntimeException" (16 : Nat) ({ cls := "java/lang/Exception", name := "<init>", desc := "(Ljava/lang/String;Ljava/lang/Throwable;ZZ)V" } : Jvm.MethodName)) ∈ lw_all := lw_g (lw_at lw_m5 134 rfl) rfl
/-! java/lang/IndexOutOfBoundsException -/
set_option maxRecDepth 100000
def RJ4 : String := "java/lang/IndexOutOfBoundsException"
def TJ4 : u_T := fun k => match k with
  | 0 => ("java/lang/Throwable", "cause", "Ljava/lang/Throwable;", false)
  | 1 => ("java/lang/Throwable", "stackTrace", "[Ljava/lang/StackTraceElement;", false)
  | 2 => ("java/lang/Throwable", "suppressedExceptions", "Ljava/util/List;", false)
  | 3 => ("java/lang/Throwable", "detailMessage", "Ljava/lang/String;", false)
  | 4 => ("java/lang/Throwable", "backtrace", "Ljava/lang/Object;", false)
  | _ => ("java/lang/Throwable", "depth", "I", false)
def tyJ4 : Nat → FieldType := fun k => match k with
  | 0 => .object "java/lang/Throwable"
  | 1 => .array (.object "java/lang/StackTraceElement")
  | 2 => .object "java/util/List"
  | 3 => .object "java/lang/String"
  | 4 => .object "java/lang/Object"
  | _ => .int
abbrev wsJ40 : List Cond := u_ws RJ4 TJ4 6
theorem nmJ4 : ∀ a, a < 6 → ∀ b, b < 6 → a ≠ b → (TJ4 a).2.1 ≠ (TJ4 b).2.1 := by decide +kernel
theorem tyJ4_ok : ∀ k, k < 6 → parseFieldDescriptor (TJ4 k).2.2.1 = some (tyJ4 k) := by decide +kernel
abbrev cJ4_init : ByteArray := prog_12_method_2_code
def yJ4_init : MethodName := ⟨RJ4, "<init>", "(Ljava/lang/String;)V"⟩
def dkwJ4_init_0 : List UInt8 := [42, 43, 183, 0, 7, 177]
abbrev dktJ4_init_0 : List UInt8 := dkwJ4_init_0 ++ []
theorem dksJ4_init_0 : cJ4_init.data.toList.drop 0 = dktJ4_init_0 := by decide +kernel
theorem dJ4_init_0 : decode cJ4_init 0 = .ok (.aload_n 0, 1) := dk_42 (dk_at dksJ4_init_0 0 rfl rfl)
theorem dJ4_init_1 : decode cJ4_init 1 = .ok (.aload_n 1, 1) := dk_43 (dk_at dksJ4_init_0 1 rfl rfl)
theorem dJ4_init_2 : decode cJ4_init 2 = .ok (.invokespecial 7, 3) := dk_183 0 7 (dk_at dksJ4_init_0 2 rfl rfl)
theorem dJ4_init_5 : decode cJ4_init 5 = .ok (.return_, 1) := dk_177 (dk_at dksJ4_init_0 5 rfl rfl)
abbrev cJ4_init_2 : ByteArray := prog_12_method_1_code
def yJ4_init_2 : MethodName := ⟨RJ4, "<init>", "()V"⟩
theorem dJ4_init_2_0 : decode cJ4_init_2 0 = .ok (.aload_n 0, 1) := by decide +kernel
theorem dJ4_init_2_1 : decode cJ4_init_2 1 = .ok (.invokespecial 1, 3) := by decide +kernel
theorem dJ4_init_2_4 : decode cJ4_init_2 4 = .ok (.return_, 1) := by decide +kernel
theorem q245 : (Jvm.Cond.initialized "java/lang/IndexOutOfBoundsException") ∈ lw_all := lw_g (lw_at lw_m1 10 rfl) rfl
theorem q616 : (Jvm.Cond.instanceMethod ({ cls := "java/lang/IndexOutOfBoundsException", name := "<init>", desc := "(Ljava/lang/String;)V" } : Jvm.MethodName)) ∈ lw_all := lw_g (lw_at lw_m2 141 rfl) rfl
theorem q617 : (Jvm.Cond.code ({ cls := "java/lang/IndexOutOfBoundsException", name := "<init>", desc := "(Ljava/lang/String;)V" } : Jvm.MethodName) prog_12_method_2_code (2 : Nat) (Option.none : Option Jvm.ClassFile.FieldType)) ∈ lw_all := lw_g (lw_at lw_m2 142 rfl) rfl
theorem q618 : (Jvm.Cond.methodLink "java/lang/IndexOutOfBoundsException" (7 : Nat) ({ cls := "java/lang/RuntimeException", name := "<init>", desc := "(Ljava/lang/String;)V" } : Jvm.MethodName)) ∈ lw_all := lw_g (lw_at lw_m2 143 rfl) rfl
theorem q638 : (Jvm.Cond.selects "java/lang/IndexOutOfBoundsException" ({ cls := "java/lang/Throwable", name := "fillInStackTrace", desc := "()Ljava/lang/Throwable;" } : Jvm.MethodName) ({ cls := "java/lang/Throwable", name := "fillInStackTrace", desc := "()Ljava/lang/Throwable;" } : Jvm.MethodName)) ∈ lw_all := lw_g (lw_at lw_m2 163 rfl) rfl
theorem q664 : (Jvm.Cond.declares ({ cls := "java/lang/IndexOutOfBoundsException", name := "<init>", desc := "()V" } : Jvm.MethodName)) ∈ lw_tbl := lw_at lw_m2 189 rfl
theorem q665 : (Jvm.Cond.declares ({ cls := "java/lang/IndexOutOfBoundsException", name := "<init>", desc := "(Ljava/lang/String;)V" } : Jvm.MethodName)) ∈ lw_tbl := lw_at lw_m2 190 rfl
theorem q692 : (Jvm.Cond.instantiable "java/lang/IndexOutOfBoundsException" (6 : Nat)) ∈ lw_all := lw_g (lw_at lw_m2 217 rfl) rfl
theorem q693 : (Jvm.Cond.castable "java/lang/IndexOutOfBoundsException" "java/lang/IndexOutOfBoundsException") ∈ lw_tbl := lw_at lw_m2 218 rfl
theorem q694 : (Jvm.Cond.selects "java/lang/IndexOutOfBoundsException" ({ cls := "java/lang/Throwable", name := "fillInStackTrace", desc := "(I)Ljava/lang/Throwable;" } : Jvm.MethodName) ({ cls := "java/lang/Throwable", name := "fillInStackTrace", desc := "(I)Ljava/lang/Throwable;" } : Jvm.MethodName)) ∈ lw_all := lw_g (lw_at lw_m2 219 rfl) rfl
theorem q695 : (Jvm.Cond.lays "java/lang/IndexOutOfBoundsException" "java/lang/Throwable" "cause" "Ljava/lang/Throwable;") ∈ lw_all := lw_g (lw_at lw_m2 220 rfl) rfl
theorem q696 : (Jvm.Cond.lays "java/lang/IndexOutOfBoundsException" "java/lang/Throwable" "stackTrace" "[Ljava/lang/StackTraceElement;") ∈ lw_all := lw_g (lw_at lw_m2 221 rfl) rfl
theorem q697 : (Jvm.Cond.lays "java/lang/IndexOutOfBoundsException" "java/lang/Throwable" "suppressedExceptions" "Ljava/util/List;") ∈ lw_all := lw_g (lw_at lw_m2 222 rfl) rfl
theorem q698 : (Jvm.Cond.lays "java/lang/IndexOutOfBoundsException" "java/lang/Throwable" "detailMessage" "Ljava/lang/String;") ∈ lw_all := lw_g (lw_at lw_m2 223 rfl) rfl
theorem q699 : (Jvm.Cond.lays "java/lang/IndexOutOfBoundsException" "java/lang/Throwable" "backtrace" "Ljava/lang/Object;") ∈ lw_all := lw_g (lw_at lw_m2 224 rfl) rfl
theorem q701 : (Jvm.Cond.instanceMethod ({ cls := "java/lang/IndexOutOfBoundsException", name := "<init>", desc := "()V" } : Jvm.MethodName)) ∈ lw_all := lw_g (lw_at lw_m2 226 rfl) rfl
theorem q702 : (Jvm.Cond.code ({ cls := "java/lang/IndexOutOfBoundsException", name := "<init>", desc := "()V" } : Jvm.MethodName) prog_12_method_1_code (1 : Nat) (Option.none : Option Jvm.ClassFile.FieldType)) ∈ lw_all := lw_g (lw_at lw_m2 227 rfl) rfl
theorem q703 : (Jvm.Cond.methodLink "java/lang/IndexOutOfBoundsException" (1 : Nat) ({ cls := "java/lang/RuntimeException", name := "<init>", desc := "()V" } : Jvm.MethodName)) ∈ lw_all := lw_g (lw_at lw_m2 228 rfl) rfl
theorem q710 : (Jvm.Cond.lays "java/lang/IndexOutOfBoundsException" "java/lang/Throwable" "depth" "I") ∈ lw_all := lw_g (lw_at lw_m2 235 rfl) rfl
theorem q711 : (Jvm.Cond.superclass "java/lang/IndexOutOfBoundsException" "java/lang/RuntimeException") ∈ lw_all := lw_g (lw_at lw_m2 236 rfl) rfl
theorem in_J4 : ∀ w ∈ wsJ40, w ∈ lw_all := lw_in wsJ40 [695, 696, 697, 698, 699, 710] (by decide +kernel) (by decide +kernel)
/-! java/lang/ArrayIndexOutOfBoundsException -/
set_option maxRecDepth 100000
def RJ5 : String := "java/lang/ArrayIndexOutOfBoundsException"
def TJ5 : u_T := fun k => match k with
  | 0 => ("java/lang/Throwable", "backtrace", "Ljava/lang/Object;", false)
  | 1 => ("java/lang/Throwable", "detailMessage", "Ljava/lang/String;", false)
  | 2 => ("java/lang/Throwable", "cause", "Ljava/lang/Throwable;", false)
  | 3 => ("java/lang/Throwable", "stackTrace", "[Ljava/lang/StackTraceElement;", false)
  | 4 => ("java/lang/Throwable", "depth", "I", false)
  | _ => ("java/lang/Throwable", "suppressedExceptions", "Ljava/util/List;", false)
def tyJ5 : Nat → FieldType := fun k => match k with
  | 0 => .object "java/lang/Object"
  | 1 => .object "java/lang/String"
  | 2 => .object "java/lang/Throwable"
  | 3 => .array (.object "java/lang/StackTraceElement")
  | 4 => .int
  | _ => .object "java/util/List"
abbrev wsJ50 : List Cond := u_ws RJ5 TJ5 6
theorem nmJ5 : ∀ a, a < 6 → ∀ b, b < 6 → a ≠ b → (TJ5 a).2.1 ≠ (TJ5 b).2.1 := by decide +kernel
theorem tyJ5_ok : ∀ k, k < 6 → parseFieldDescriptor (TJ5 k).2.2.1 = some (tyJ5 k) := by decide +kernel
abbrev cJ5_init : ByteArray := prog_7_method_2_code
def yJ5_init : MethodName := ⟨RJ5, "<init>", "(Ljava/lang/String;)V"⟩
def dkwJ5_init_0 : List UInt8 := [42, 43, 183, 0, 7, 177]
abbrev dktJ5_init_0 : List UInt8 := dkwJ5_init_0 ++ []
theorem dksJ5_init_0 : cJ5_init.data.toList.drop 0 = dktJ5_init_0 := by decide +kernel
theorem dJ5_init_0 : decode cJ5_init 0 = .ok (.aload_n 0, 1) := dk_42 (dk_at dksJ5_init_0 0 rfl rfl)
theorem dJ5_init_1 : decode cJ5_init 1 = .ok (.aload_n 1, 1) := dk_43 (dk_at dksJ5_init_0 1 rfl rfl)
theorem dJ5_init_2 : decode cJ5_init 2 = .ok (.invokespecial 7, 3) := dk_183 0 7 (dk_at dksJ5_init_0 2 rfl rfl)
theorem dJ5_init_5 : decode cJ5_init 5 = .ok (.return_, 1) := dk_177 (dk_at dksJ5_init_0 5 rfl rfl)
theorem q246 : (Jvm.Cond.initialized "java/lang/ArrayIndexOutOfBoundsException") ∈ lw_all := lw_g (lw_at lw_m1 11 rfl) rfl
theorem q612 : (Jvm.Cond.instantiable "java/lang/ArrayIndexOutOfBoundsException" (6 : Nat)) ∈ lw_all := lw_g (lw_at lw_m2 137 rfl) rfl
theorem q613 : (Jvm.Cond.instanceMethod ({ cls := "java/lang/ArrayIndexOutOfBoundsException", name := "<init>", desc := "(Ljava/lang/String;)V" } : Jvm.MethodName)) ∈ lw_all := lw_g (lw_at lw_m2 138 rfl) rfl
theorem q614 : (Jvm.Cond.code ({ cls := "java/lang/ArrayIndexOutOfBoundsException", name := "<init>", desc := "(Ljava/lang/String;)V" } : Jvm.MethodName) prog_7_method_2_code (2 : Nat) (Option.none : Option Jvm.ClassFile.FieldType)) ∈ lw_all := lw_g (lw_at lw_m2 139 rfl) rfl
theorem q615 : (Jvm.Cond.methodLink "java/lang/ArrayIndexOutOfBoundsException" (7 : Nat) ({ cls := "java/lang/IndexOutOfBoundsException", name := "<init>", desc := "(Ljava/lang/String;)V" } : Jvm.MethodName)) ∈ lw_all := lw_g (lw_at lw_m2 140 rfl) rfl
theorem q636 : (Jvm.Cond.selects "java/lang/ArrayIndexOutOfBoundsException" ({ cls := "java/lang/Throwable", name := "fillInStackTrace", desc := "()Ljava/lang/Throwable;" } : Jvm.MethodName) ({ cls := "java/lang/Throwable", name := "fillInStackTrace", desc := "()Ljava/lang/Throwable;" } : Jvm.MethodName)) ∈ lw_all := lw_g (lw_at lw_m2 161 rfl) rfl
theorem q650 : (Jvm.Cond.lays "java/lang/ArrayIndexOutOfBoundsException" "java/lang/Throwable" "backtrace" "Ljava/lang/Object;") ∈ lw_all := lw_g (lw_at lw_m2 175 rfl) rfl
theorem q652 : (Jvm.Cond.lays "java/lang/ArrayIndexOutOfBoundsException" "java/lang/Throwable" "detailMessage" "Ljava/lang/String;") ∈ lw_all := lw_g (lw_at lw_m2 177 rfl) rfl
theorem q654 : (Jvm.Cond.lays "java/lang/ArrayIndexOutOfBoundsException" "java/lang/Throwable" "cause" "Ljava/lang/Throwable;") ∈ lw_all := lw_g (lw_at lw_m2 179 rfl) rfl
theorem q656 : (Jvm.Cond.lays "java/lang/ArrayIndexOutOfBoundsException" "java/lang/Throwable" "stackTrace" "[Ljava/lang/StackTraceElement;") ∈ lw_all := lw_g (lw_at lw_m2 181 rfl) rfl
theorem q658 : (Jvm.Cond.lays "java/lang/ArrayIndexOutOfBoundsException" "java/lang/Throwable" "depth" "I") ∈ lw_all := lw_g (lw_at lw_m2 183 rfl) rfl
theorem q660 : (Jvm.Cond.lays "java/lang/ArrayIndexOutOfBoundsException" "java/lang/Throwable" "suppressedExceptions" "Ljava/util/List;") ∈ lw_all := lw_g (lw_at lw_m2 185 rfl) rfl
theorem q662 : (Jvm.Cond.superclass "java/lang/ArrayIndexOutOfBoundsException" "java/lang/IndexOutOfBoundsException") ∈ lw_all := lw_g (lw_at lw_m2 187 rfl) rfl
theorem q663 : (Jvm.Cond.castable "java/lang/ArrayIndexOutOfBoundsException" "java/lang/ArrayIndexOutOfBoundsException") ∈ lw_tbl := lw_at lw_m2 188 rfl
theorem q672 : (Jvm.Cond.selects "java/lang/ArrayIndexOutOfBoundsException" ({ cls := "java/lang/Throwable", name := "fillInStackTrace", desc := "(I)Ljava/lang/Throwable;" } : Jvm.MethodName) ({ cls := "java/lang/Throwable", name := "fillInStackTrace", desc := "(I)Ljava/lang/Throwable;" } : Jvm.MethodName)) ∈ lw_all := lw_g (lw_at lw_m2 197 rfl) rfl
theorem q2291 : (Jvm.Cond.castable "java/lang/ArrayIndexOutOfBoundsException" "java/lang/IndexOutOfBoundsException") ∈ lw_tbl := lw_at lw_m9 136 rfl
theorem in_J5 : ∀ w ∈ wsJ50, w ∈ lw_all := lw_in wsJ50 [650, 652, 654, 656, 658, 660] (by decide +kernel) (by decide +kernel)
/-! java/lang/String -/
set_option maxRecDepth 100000
def RJ6 : String := "java/lang/String"
def TJ6 : u_T := fun k => match k with
  | 0 => ("java/lang/String", "value", "[B", true)
  | _ => ("java/lang/String", "coder", "B", true)
def tyJ6 : Nat → FieldType := fun k => match k with
  | 0 => .array .byte
  | _ => .byte
abbrev wsJ60 : List Cond := u_ws RJ6 TJ6 2
theorem nmJ6 : ∀ a, a < 2 → ∀ b, b < 2 → a ≠ b → (TJ6 a).2.1 ≠ (TJ6 b).2.1 := by decide +kernel
theorem tyJ6_ok : ∀ k, k < 2 → parseFieldDescriptor (TJ6 k).2.2.1 = some (tyJ6 k) := by decide +kernel
abbrev cJ6_length : ByteArray := prog_15_method_54_code
def yJ6_length : MethodName := ⟨RJ6, "length", "()I"⟩
def dkwJ6_length_0 : List UInt8 := [42, 180, 0, 9, 190, 42, 182, 1, 79, 122, 172]
abbrev dktJ6_length_0 : List UInt8 := dkwJ6_length_0 ++ []
theorem dksJ6_length_0 : cJ6_length.data.toList.drop 0 = dktJ6_length_0 := by decide +kernel
theorem dJ6_length_0 : decode cJ6_length 0 = .ok (.aload_n 0, 1) := dk_42 (dk_at dksJ6_length_0 0 rfl rfl)
theorem dJ6_length_1 : decode cJ6_length 1 = .ok (.getfield 9, 3) := dk_180 0 9 (dk_at dksJ6_length_0 1 rfl rfl)
theorem dJ6_length_4 : decode cJ6_length 4 = .ok (.arraylength, 1) := dk_190 (dk_at dksJ6_length_0 4 rfl rfl)
theorem dJ6_length_5 : decode cJ6_length 5 = .ok (.aload_n 0, 1) := dk_42 (dk_at dksJ6_length_0 5 rfl rfl)
theorem dJ6_length_6 : decode cJ6_length 6 = .ok (.invokevirtual 335, 3) := dk_182 1 79 (dk_at dksJ6_length_0 6 rfl rfl)
theorem dJ6_length_9 : decode cJ6_length 9 = .ok (.ishr, 1) := dk_122 (dk_at dksJ6_length_0 9 rfl rfl)
theorem dJ6_length_10 : decode cJ6_length 10 = .ok (.ireturn, 1) := dk_172 (dk_at dksJ6_length_0 10 rfl rfl)
abbrev cJ6_coder : ByteArray := prog_15_method_152_code
def yJ6_coder : MethodName := ⟨RJ6, "coder", "()B"⟩
def dkwJ6_coder_0 : List UInt8 := [178, 0, 38, 153, 0, 10, 42, 180, 0, 15, 167, 0, 4, 4, 172]
abbrev dktJ6_coder_0 : List UInt8 := dkwJ6_coder_0 ++ []
theorem dksJ6_coder_0 : cJ6_coder.data.toList.drop 0 = dktJ6_coder_0 := by decide +kernel
theorem dJ6_coder_0 : decode cJ6_coder 0 = .ok (.getstatic 38, 3) := dk_178 0 38 (dk_at dksJ6_coder_0 0 rfl rfl)
theorem dJ6_coder_3 : decode cJ6_coder 3 = .ok (.ifCond .eq 10, 3) := dk_153 0 10 (dk_at dksJ6_coder_0 3 rfl rfl)
theorem dJ6_coder_6 : decode cJ6_coder 6 = .ok (.aload_n 0, 1) := dk_42 (dk_at dksJ6_coder_0 6 rfl rfl)
theorem dJ6_coder_7 : decode cJ6_coder 7 = .ok (.getfield 15, 3) := dk_180 0 15 (dk_at dksJ6_coder_0 7 rfl rfl)
theorem dJ6_coder_10 : decode cJ6_coder 10 = .ok (.goto 4, 3) := dk_167 0 4 (dk_at dksJ6_coder_0 10 rfl rfl)
theorem dJ6_coder_13 : decode cJ6_coder 13 = .ok (.iconst 1, 1) := dk_4 (dk_at dksJ6_coder_0 13 rfl rfl)
theorem dJ6_coder_14 : decode cJ6_coder 14 = .ok (.ireturn, 1) := dk_172 (dk_at dksJ6_coder_0 14 rfl rfl)
abbrev cJ6_charAt : ByteArray := prog_15_method_56_code
def yJ6_charAt : MethodName := ⟨RJ6, "charAt", "(I)C"⟩
def dkwJ6_charAt_1 : List UInt8 := [172]
abbrev dktJ6_charAt_1 : List UInt8 := dkwJ6_charAt_1 ++ []
def dkwJ6_charAt_0 : List UInt8 := [42, 182, 1, 236, 153, 0, 12, 42, 180, 0, 9, 27, 184, 1, 239, 172, 42, 180, 0, 9, 27, 184, 1, 242]
abbrev dktJ6_charAt_0 : List UInt8 := dkwJ6_charAt_0 ++ dktJ6_charAt_1
theorem dksJ6_charAt_0 : cJ6_charAt.data.toList.drop 0 = dktJ6_charAt_0 := by decide +kernel
theorem dksJ6_charAt_1 : cJ6_charAt.data.toList.drop 24 = dktJ6_charAt_1 := dk_seg dksJ6_charAt_0 24 rfl rfl
theorem dJ6_charAt_0 : decode cJ6_charAt 0 = .ok (.aload_n 0, 1) := dk_42 (dk_at dksJ6_charAt_0 0 rfl rfl)
theorem dJ6_charAt_1 : decode cJ6_charAt 1 = .ok (.invokevirtual 492, 3) := dk_182 1 236 (dk_at dksJ6_charAt_0 1 rfl rfl)
theorem dJ6_charAt_4 : decode cJ6_charAt 4 = .ok (.ifCond .eq 12, 3) := dk_153 0 12 (dk_at dksJ6_charAt_0 4 rfl rfl)
theorem dJ6_charAt_7 : decode cJ6_charAt 7 = .ok (.aload_n 0, 1) := dk_42 (dk_at dksJ6_charAt_0 7 rfl rfl)
theorem dJ6_charAt_8 : decode cJ6_charAt 8 = .ok (.getfield 9, 3) := dk_180 0 9 (dk_at dksJ6_charAt_0 8 rfl rfl)
theorem dJ6_charAt_11 : decode cJ6_charAt 11 = .ok (.iload_n 1, 1) := dk_27 (dk_at dksJ6_charAt_0 11 rfl rfl)
theorem dJ6_charAt_12 : decode cJ6_charAt 12 = .ok (.invokestatic 495, 3) := dk_184 1 239 (dk_at dksJ6_charAt_0 12 rfl rfl)
theorem dJ6_charAt_15 : decode cJ6_charAt 15 = .ok (.ireturn, 1) := dk_172 (dk_at dksJ6_charAt_0 15 rfl rfl)
theorem dJ6_charAt_16 : decode cJ6_charAt 16 = .ok (.aload_n 0, 1) := dk_42 (dk_at dksJ6_charAt_0 16 rfl rfl)
theorem dJ6_charAt_17 : decode cJ6_charAt 17 = .ok (.getfield 9, 3) := dk_180 0 9 (dk_at dksJ6_charAt_0 17 rfl rfl)
theorem dJ6_charAt_20 : decode cJ6_charAt 20 = .ok (.iload_n 1, 1) := dk_27 (dk_at dksJ6_charAt_0 20 rfl rfl)
theorem dJ6_charAt_21 : decode cJ6_charAt 21 = .ok (.invokestatic 498, 3) := dk_184 1 242 (dk_at dksJ6_charAt_0 21 rfl rfl)
theorem dJ6_charAt_24 : decode cJ6_charAt 24 = .ok (.ireturn, 1) := dk_172 (dk_at dksJ6_charAt_1 0 rfl rfl)
abbrev cJ6_isLatin1 : ByteArray := prog_15_method_154_code
def yJ6_isLatin1 : MethodName := ⟨RJ6, "isLatin1", "()Z"⟩
def dkwJ6_isLatin1_0 : List UInt8 := [178, 0, 38, 153, 0, 14, 42, 180, 0, 15, 154, 0, 7, 4, 167, 0, 4, 3, 172]
abbrev dktJ6_isLatin1_0 : List UInt8 := dkwJ6_isLatin1_0 ++ []
theorem dksJ6_isLatin1_0 : cJ6_isLatin1.data.toList.drop 0 = dktJ6_isLatin1_0 := by decide +kernel
theorem dJ6_isLatin1_0 : decode cJ6_isLatin1 0 = .ok (.getstatic 38, 3) := dk_178 0 38 (dk_at dksJ6_isLatin1_0 0 rfl rfl)
theorem dJ6_isLatin1_3 : decode cJ6_isLatin1 3 = .ok (.ifCond .eq 14, 3) := dk_153 0 14 (dk_at dksJ6_isLatin1_0 3 rfl rfl)
theorem dJ6_isLatin1_6 : decode cJ6_isLatin1 6 = .ok (.aload_n 0, 1) := dk_42 (dk_at dksJ6_isLatin1_0 6 rfl rfl)
theorem dJ6_isLatin1_7 : decode cJ6_isLatin1 7 = .ok (.getfield 15, 3) := dk_180 0 15 (dk_at dksJ6_isLatin1_0 7 rfl rfl)
theorem dJ6_isLatin1_10 : decode cJ6_isLatin1 10 = .ok (.ifCond .ne 7, 3) := dk_154 0 7 (dk_at dksJ6_isLatin1_0 10 rfl rfl)
theorem dJ6_isLatin1_13 : decode cJ6_isLatin1 13 = .ok (.iconst 1, 1) := dk_4 (dk_at dksJ6_isLatin1_0 13 rfl rfl)
theorem dJ6_isLatin1_14 : decode cJ6_isLatin1 14 = .ok (.goto 4, 3) := dk_167 0 4 (dk_at dksJ6_isLatin1_0 14 rfl rfl)
theorem dJ6_isLatin1_17 : decode cJ6_isLatin1 17 = .ok (.iconst 0, 1) := dk_3 (dk_at dksJ6_isLatin1_0 17 rfl rfl)
theorem dJ6_isLatin1_18 : decode cJ6_isLatin1 18 = .ok (.ireturn, 1) := dk_172 (dk_at dksJ6_isLatin1_0 18 rfl rfl)
abbrev cJ6_checkIndex : ByteArray := prog_15_method_155_code
def yJ6_checkIndex : MethodName := ⟨RJ6, "checkIndex", "(II)V"⟩
def dkwJ6_checkIndex_0 : List UInt8 := [26, 27, 178, 4, 29, 184, 4, 35, 87, 177]
abbrev dktJ6_checkIndex_0 : List UInt8 := dkwJ6_checkIndex_0 ++ []
theorem dksJ6_checkIndex_0 : cJ6_checkIndex.data.toList.drop 0 = dktJ6_checkIndex_0 := by decide +kernel
theorem dJ6_checkIndex_0 : decode cJ6_checkIndex 0 = .ok (.iload_n 0, 1) := dk_26 (dk_at dksJ6_checkIndex_0 0 rfl rfl)
theorem dJ6_checkIndex_1 : decode cJ6_checkIndex 1 = .ok (.iload_n 1, 1) := dk_27 (dk_at dksJ6_checkIndex_0 1 rfl rfl)
theorem dJ6_checkIndex_2 : decode cJ6_checkIndex 2 = .ok (.getstatic 1053, 3) := dk_178 4 29 (dk_at dksJ6_checkIndex_0 2 rfl rfl)
theorem dJ6_checkIndex_5 : decode cJ6_checkIndex 5 = .ok (.invokestatic 1059, 3) := dk_184 4 35 (dk_at dksJ6_checkIndex_0 5 rfl rfl)
theorem dJ6_checkIndex_8 : decode cJ6_checkIndex 8 = .ok (.pop, 1) := dk_87 (dk_at dksJ6_checkIndex_0 8 rfl rfl)
theorem dJ6_checkIndex_9 : decode cJ6_checkIndex 9 = .ok (.return_, 1) := dk_177 (dk_at dksJ6_checkIndex_0 9 rfl rfl)
abbrev cJ6_indexOf : ByteArray := prog_15_method_79_code
def yJ6_indexOf : MethodName := ⟨RJ6, "indexOf", "(I)I"⟩
def dkwJ6_indexOf_0 : List UInt8 := [42, 27, 3, 182, 2, 121, 172]
abbrev dktJ6_indexOf_0 : List UInt8 := dkwJ6_indexOf_0 ++ []
theorem dksJ6_indexOf_0 : cJ6_indexOf.data.toList.drop 0 = dktJ6_indexOf_0 := by decide +kernel
theorem dJ6_indexOf_0 : decode cJ6_indexOf 0 = .ok (.aload_n 0, 1) := dk_42 (dk_at dksJ6_indexOf_0 0 rfl rfl)
theorem dJ6_indexOf_1 : decode cJ6_indexOf 1 = .ok (.iload_n 1, 1) := dk_27 (dk_at dksJ6_indexOf_0 1 rfl rfl)
theorem dJ6_indexOf_2 : decode cJ6_indexOf 2 = .ok (.iconst 0, 1) := dk_3 (dk_at dksJ6_indexOf_0 2 rfl rfl)
theorem dJ6_indexOf_3 : decode cJ6_indexOf 3 = .ok (.invokevirtual 633, 3) := dk_182 2 121 (dk_at dksJ6_indexOf_0 3 rfl rfl)
theorem dJ6_indexOf_6 : decode cJ6_indexOf 6 = .ok (.ireturn, 1) := dk_172 (dk_at dksJ6_indexOf_0 6 rfl rfl)
abbrev cJ6_indexOf_2 : ByteArray := prog_15_method_80_code
def yJ6_indexOf_2 : MethodName := ⟨RJ6, "indexOf", "(II)I"⟩
def dkwJ6_indexOf_2_1 : List UInt8 := [180, 0, 9, 27, 28, 42, 182, 1, 249, 184, 2, 128, 172]
abbrev dktJ6_indexOf_2_1 : List UInt8 := dkwJ6_indexOf_2_1 ++ []
def dkwJ6_indexOf_2_0 : List UInt8 := [42, 182, 1, 236, 153, 0, 19, 42, 180, 0, 9, 27, 28, 42, 182, 1, 249, 184, 2, 125, 167, 0, 16, 42]
abbrev dktJ6_indexOf_2_0 : List UInt8 := dkwJ6_indexOf_2_0 ++ dktJ6_indexOf_2_1
theorem dksJ6_indexOf_2_0 : cJ6_indexOf_2.data.toList.drop 0 = dktJ6_indexOf_2_0 := by decide +kernel
theorem dksJ6_indexOf_2_1 : cJ6_indexOf_2.data.toList.drop 24 = dktJ6_indexOf_2_1 := dk_seg dksJ6_indexOf_2_0 24 rfl rfl
theorem dJ6_indexOf_2_0 : decode cJ6_indexOf_2 0 = .ok (.aload_n 0, 1) := dk_42 (dk_at dksJ6_indexOf_2_0 0 rfl rfl)
theorem dJ6_indexOf_2_1 : decode cJ6_indexOf_2 1 = .ok (.invokevirtual 492, 3) := dk_182 1 236 (dk_at dksJ6_indexOf_2_0 1 rfl rfl)
theorem dJ6_indexOf_2_4 : decode cJ6_indexOf_2 4 = .ok (.ifCond .eq 19, 3) := dk_153 0 19 (dk_at dksJ6_indexOf_2_0 4 rfl rfl)
theorem dJ6_indexOf_2_7 : decode cJ6_indexOf_2 7 = .ok (.aload_n 0, 1) := dk_42 (dk_at dksJ6_indexOf_2_0 7 rfl rfl)
theorem dJ6_indexOf_2_8 : decode cJ6_indexOf_2 8 = .ok (.getfield 9, 3) := dk_180 0 9 (dk_at dksJ6_indexOf_2_0 8 rfl rfl)
theorem dJ6_indexOf_2_11 : decode cJ6_indexOf_2 11 = .ok (.iload_n 1, 1) := dk_27 (dk_at dksJ6_indexOf_2_0 11 rfl rfl)
theorem dJ6_indexOf_2_12 : decode cJ6_indexOf_2 12 = .ok (.iload_n 2, 1) := dk_28 (dk_at dksJ6_indexOf_2_0 12 rfl rfl)
theorem dJ6_indexOf_2_13 : decode cJ6_indexOf_2 13 = .ok (.aload_n 0, 1) := dk_42 (dk_at dksJ6_indexOf_2_0 13 rfl rfl)
theorem dJ6_indexOf_2_14 : decode cJ6_indexOf_2 14 = .ok (.invokevirtual 505, 3) := dk_182 1 249 (dk_at dksJ6_indexOf_2_0 14 rfl rfl)
theorem dJ6_indexOf_2_17 : decode cJ6_indexOf_2 17 = .ok (.invokestatic 637, 3) := dk_184 2 125 (dk_at dksJ6_indexOf_2_0 17 rfl rfl)
theorem dJ6_indexOf_2_20 : decode cJ6_indexOf_2 20 = .ok (.goto 16, 3) := dk_167 0 16 (dk_at dksJ6_indexOf_2_0 20 rfl rfl)
theorem dJ6_indexOf_2_23 : decode cJ6_indexOf_2 23 = .ok (.aload_n 0, 1) := dk_42 (dk_at dksJ6_indexOf_2_0 23 rfl rfl)
theorem dJ6_indexOf_2_24 : decode cJ6_indexOf_2 24 = .ok (.getfield 9, 3) := dk_180 0 9 (dk_at dksJ6_indexOf_2_1 0 rfl rfl)
theorem dJ6_indexOf_2_27 : decode cJ6_indexOf_2 27 = .ok (.iload_n 1, 1) := dk_27 (dk_at dksJ6_indexOf_2_1 3 rfl rfl)
theorem dJ6_indexOf_2_28 : decode cJ6_indexOf_2 28 = .ok (.iload_n 2, 1) := dk_28 (dk_at dksJ6_indexOf_2_1 4 rfl rfl)
theorem dJ6_indexOf_2_29 : decode cJ6_indexOf_2 29 = .ok (.aload_n 0, 1) := dk_42 (dk_at dksJ6_indexOf_2_1 5 rfl rfl)
theorem dJ6_indexOf_2_30 : decode cJ6_indexOf_2 30 = .ok (.invokevirtual 505, 3) := dk_182 1 249 (dk_at dksJ6_indexOf_2_1 6 rfl rfl)
theorem dJ6_indexOf_2_33 : decode cJ6_indexOf_2 33 = .ok (.invokestatic 640, 3) := dk_184 2 128 (dk_at dksJ6_indexOf_2_1 9 rfl rfl)
theorem dJ6_indexOf_2_36 : decode cJ6_indexOf_2 36 = .ok (.ireturn, 1) := dk_172 (dk_at dksJ6_indexOf_2_1 12 rfl rfl)
abbrev cJ6_checkBoundsBeginEnd : ByteArray := prog_15_method_158_code
def yJ6_checkBoundsBeginEnd : MethodName := ⟨RJ6, "checkBoundsBeginEnd", "(III)V"⟩
def dkwJ6_checkBoundsBeginEnd_0 : List UInt8 := [26, 27, 28, 178, 4, 29, 184, 4, 38, 87, 177]
abbrev dktJ6_checkBoundsBeginEnd_0 : List UInt8 := dkwJ6_checkBoundsBeginEnd_0 ++ []
theorem dksJ6_checkBoundsBeginEnd_0 : cJ6_checkBoundsBeginEnd.data.toList.drop 0 = dktJ6_checkBoundsBeginEnd_0 := by decide +kernel
theorem dJ6_checkBoundsBeginEnd_0 : decode cJ6_checkBoundsBeginEnd 0 = .ok (.iload_n 0, 1) := dk_26 (dk_at dksJ6_checkBoundsBeginEnd_0 0 rfl rfl)
theorem dJ6_checkBoundsBeginEnd_1 : decode cJ6_checkBoundsBeginEnd 1 = .ok (.iload_n 1, 1) := dk_27 (dk_at dksJ6_checkBoundsBeginEnd_0 1 rfl rfl)
theorem dJ6_checkBoundsBeginEnd_2 : decode cJ6_checkBoundsBeginEnd 2 = .ok (.iload_n 2, 1) := dk_28 (dk_at dksJ6_checkBoundsBeginEnd_0 2 rfl rfl)
theorem dJ6_checkBoundsBeginEnd_3 : decode cJ6_checkBoundsBeginEnd 3 = .ok (.getstatic 1053, 3) := dk_178 4 29 (dk_at dksJ6_checkBoundsBeginEnd_0 3 rfl rfl)
theorem dJ6_checkBoundsBeginEnd_6 : decode cJ6_checkBoundsBeginEnd 6 = .ok (.invokestatic 1062, 3) := dk_184 4 38 (dk_at dksJ6_checkBoundsBeginEnd_0 6 rfl rfl)
theorem dJ6_checkBoundsBeginEnd_9 : decode cJ6_checkBoundsBeginEnd 9 = .ok (.pop, 1) := dk_87 (dk_at dksJ6_checkBoundsBeginEnd_0 9 rfl rfl)
theorem dJ6_checkBoundsBeginEnd_10 : decode cJ6_checkBoundsBeginEnd 10 = .ok (.return_, 1) := dk_177 (dk_at dksJ6_checkBoundsBeginEnd_0 10 rfl rfl)
theorem q247 : (Jvm.Cond.initialized "java/lang/String") ∈ lw_all := lw_g (lw_at lw_m1 12 rfl) rfl
theorem q682 : (Jvm.Cond.instantiable "java/lang/String" (4 : Nat)) ∈ lw_all := lw_g (lw_at lw_m2 207 rfl) rfl
theorem q683 : (Jvm.Cond.laysFinal "java/lang/String" "java/lang/String" "value" "[B") ∈ lw_all := lw_g (lw_at lw_m2 208 rfl) rfl
theorem q684 : (Jvm.Cond.soleField "java/lang/String" "value") ∈ lw_all := lw_g (lw_at lw_m2 209 rfl) rfl
theorem q685 : (Jvm.Cond.laysFinal "java/lang/String" "java/lang/String" "coder" "B") ∈ lw_all := lw_g (lw_at lw_m2 210 rfl) rfl
theorem q686 : (Jvm.Cond.soleField "java/lang/String" "coder") ∈ lw_all := lw_g (lw_at lw_m2 211 rfl) rfl
theorem q727 : (Jvm.Cond.instanceMethod ({ cls := "java/lang/String", name := "length", desc := "()I" } : Jvm.MethodName)) ∈ lw_all := lw_g (lw_at lw_m3 12 rfl) rfl
theorem q728 : (Jvm.Cond.selects "java/lang/String" ({ cls := "java/lang/String", name := "length", desc := "()I" } : Jvm.MethodName) ({ cls := "java/lang/String", name := "length", desc := "()I" } : Jvm.MethodName)) ∈ lw_all := lw_g (lw_at lw_m3 13 rfl) rfl
theorem q729 : (Jvm.Cond.code ({ cls := "java/lang/String", name := "length", desc := "()I" } : Jvm.MethodName) prog_15_method_54_code (1 : Nat) (Option.some Jvm.ClassFile.FieldType.int)) ∈ lw_all := lw_g (lw_at lw_m3 14 rfl) rfl
theorem q730 : (Jvm.Cond.methodLink "java/lang/String" (335 : Nat) ({ cls := "java/lang/String", name := "coder", desc := "()B" } : Jvm.MethodName)) ∈ lw_all := lw_g (lw_at lw_m3 15 rfl) rfl
theorem q731 : (Jvm.Cond.instanceMethod ({ cls := "java/lang/String", name := "coder", desc := "()B" } : Jvm.MethodName)) ∈ lw_all := lw_g (lw_at lw_m3 16 rfl) rfl
theorem q732 : (Jvm.Cond.selects "java/lang/String" ({ cls := "java/lang/String", name := "coder", desc := "()B" } : Jvm.MethodName) ({ cls := "java/lang/String", name := "coder", desc := "()B" } : Jvm.MethodName)) ∈ lw_all := lw_g (lw_at lw_m3 17 rfl) rfl
theorem q733 : (Jvm.Cond.code ({ cls := "java/lang/String", name := "coder", desc := "()B" } : Jvm.MethodName) prog_15_method_152_code (1 : Nat) (Option.some Jvm.ClassFile.FieldType.byte)) ∈ lw_all := lw_g (lw_at lw_m3 18 rfl) rfl
theorem q734 : (Jvm.Cond.fieldLink "java/lang/String" (38 : Nat) "java/lang/String" "COMPACT_STRINGS" "Z") ∈ lw_all := lw_g (lw_at lw_m3 19 rfl) rfl
theorem q735 : (Jvm.Cond.laysStatic "java/lang/String" "COMPACT_STRINGS" "Z") ∈ lw_tbl := lw_at lw_m3 20 rfl
theorem q737 : (Jvm.Cond.instanceMethod ({ cls := "java/lang/String", name := "charAt", desc := "(I)C" } : Jvm.MethodName)) ∈ lw_all := lw_g (lw_at lw_m3 22 rfl) rfl
theorem q738 : (Jvm.Cond.selects "java/lang/String" ({ cls := "java/lang/String", name := "charAt", desc := "(I)C" } : Jvm.MethodName) ({ cls := "java/lang/String", name := "charAt", desc := "(I)C" } : Jvm.MethodName)) ∈ lw_all := lw_g (lw_at lw_m3 23 rfl) rfl
theorem q739 : (Jvm.Cond.code ({ cls := "java/lang/String", name := "charAt", desc := "(I)C" } : Jvm.MethodName) prog_15_method_56_code (2 : Nat) (Option.some Jvm.ClassFile.FieldType.char)) ∈ lw_all := lw_g (lw_at lw_m3 24 rfl) rfl
theorem q740 : (Jvm.Cond.methodLink "java/lang/String" (492 : Nat) ({ cls := "java/lang/String", name := "isLatin1", desc := "()Z" } : Jvm.MethodName)) ∈ lw_all := lw_g (lw_at lw_m3 25 rfl) rfl
theorem q741 : (Jvm.Cond.instanceMethod ({ cls := "java/lang/String", name := "isLatin1", desc := "()Z" } : Jvm.MethodName)) ∈ lw_all := lw_g (lw_at lw_m3 26 rfl) rfl
theorem q742 : (Jvm.Cond.selects "java/lang/String" ({ cls := "java/lang/String", name := "isLatin1", desc := "()Z" } : Jvm.MethodName) ({ cls := "java/lang/String", name := "isLatin1", desc := "()Z" } : Jvm.MethodName)) ∈ lw_all := lw_g (lw_at lw_m3 27 rfl) rfl
theorem q743 : (Jvm.Cond.code ({ cls := "java/lang/String", name := "isLatin1", desc := "()Z" } : Jvm.MethodName) prog_15_method_154_code (1 : Nat) (Option.some Jvm.ClassFile.FieldType.boolean)) ∈ lw_all := lw_g (lw_at lw_m3 28 rfl) rfl
theorem q744 : (Jvm.Cond.methodLink "java/lang/String" (495 : Nat) ({ cls := "java/lang/StringLatin1", name := "charAt", desc := "([BI)C" } : Jvm.MethodName)) ∈ lw_all := lw_g (lw_at lw_m3 29 rfl) rfl
theorem q748 : (Jvm.Cond.static ({ cls := "java/lang/String", name := "checkIndex", desc := "(II)V" } : Jvm.MethodName)) ∈ lw_all := lw_g (lw_at lw_m3 33 rfl) rfl
theorem q749 : (Jvm.Cond.code ({ cls := "java/lang/String", name := "checkIndex", desc := "(II)V" } : Jvm.MethodName) prog_15_method_155_code (2 : Nat) (Option.none : Option Jvm.ClassFile.FieldType)) ∈ lw_all := lw_g (lw_at lw_m3 34 rfl) rfl
theorem q750 : (Jvm.Cond.fieldLink "java/lang/String" (1053 : Nat) "jdk/internal/util/Preconditions" "SIOOBE_FORMATTER" "Ljava/util/function/BiFunction;") ∈ lw_all := lw_g (lw_at lw_m3 35 rfl) rfl
theorem q752 : (Jvm.Cond.methodLink "java/lang/String" (1059 : Nat) ({ cls := "jdk/internal/util/Preconditions", name := "checkIndex", desc := "(IILjava/util/function/BiFunction;)I" } : Jvm.MethodName)) ∈ lw_all := lw_g (lw_at lw_m3 37 rfl) rfl
theorem q755 : (Jvm.Cond.methodLink "java/lang/String" (498 : Nat) ({ cls := "java/lang/StringUTF16", name := "charAt", desc := "([BI)C" } : Jvm.MethodName)) ∈ lw_all := lw_g (lw_at lw_m3 40 rfl) rfl
theorem q1694 : (Jvm.Cond.instanceMethod ({ cls := "java/lang/String", name := "indexOf", desc := "(I)I" } : Jvm.MethodName)) ∈ lw_all := lw_g (lw_at lw_m7 19 rfl) rfl
theorem q1695 : (Jvm.Cond.selects "java/lang/String" ({ cls := "java/lang/String", name := "indexOf", desc := "(I)I" } : Jvm.MethodName) ({ cls := "java/lang/String", name := "indexOf", desc := "(I)I" } : Jvm.MethodName)) ∈ lw_all := lw_g (lw_at lw_m7 20 rfl) rfl
theorem q1696 : (Jvm.Cond.code ({ cls := "java/lang/String", name := "indexOf", desc := "(I)I" } : Jvm.MethodName) prog_15_method_79_code (2 : Nat) (Option.some Jvm.ClassFile.FieldType.int)) ∈ lw_all := lw_g (lw_at lw_m7 21 rfl) rfl
theorem q1697 : (Jvm.Cond.methodLink "java/lang/String" (633 : Nat) ({ cls := "java/lang/String", name := "indexOf", desc := "(II)I" } : Jvm.MethodName)) ∈ lw_all := lw_g (lw_at lw_m7 22 rfl) rfl
theorem q1698 : (Jvm.Cond.instanceMethod ({ cls := "java/lang/String", name := "indexOf", desc := "(II)I" } : Jvm.MethodName)) ∈ lw_all := lw_g (lw_at lw_m7 23 rfl) rfl
theorem q1699 : (Jvm.Cond.selects "java/lang/String" ({ cls := "java/lang/String", name := "indexOf", desc := "(II)I" } : Jvm.MethodName) ({ cls := "java/lang/String", name := "indexOf", desc := "(II)I" } : Jvm.MethodName)) ∈ lw_all := lw_g (lw_at lw_m7 24 rfl) rfl
theorem q1700 : (Jvm.Cond.code ({ cls := "java/lang/String", name := "indexOf", desc := "(II)I" } : Jvm.MethodName) prog_15_method_80_code (3 : Nat) (Option.some Jvm.ClassFile.FieldType.int)) ∈ lw_all := lw_g (lw_at lw_m7 25 rfl) rfl
theorem q1701 : (Jvm.Cond.methodLink "java/lang/String" (505 : Nat) ({ cls := "java/lang/String", name := "length", desc := "()I" } : Jvm.MethodName)) ∈ lw_all := lw_g (lw_at lw_m7 26 rfl) rfl
theorem q1702 : (Jvm.Cond.methodLink "java/lang/String" (637 : Nat) ({ cls := "java/lang/StringLatin1", name := "indexOf", desc := "([BIII)I" } : Jvm.MethodName)) ∈ lw_all := lw_g (lw_at lw_m7 27 rfl) rfl
theorem q1715 : (Jvm.Cond.methodLink "java/lang/String" (640 : Nat) ({ cls := "java/lang/StringUTF16", name := "indexOf", desc := "([BIII)I" } : Jvm.MethodName)) ∈ lw_all := lw_g (lw_at lw_m7 40 rfl) rfl
theorem q1728 : (Jvm.Cond.static ({ cls := "java/lang/String", name := "checkBoundsBeginEnd", desc := "(III)V" } : Jvm.MethodName)) ∈ lw_all := lw_g (lw_at lw_m7 53 rfl) rfl
theorem q1729 : (Jvm.Cond.code ({ cls := "java/lang/String", name := "checkBoundsBeginEnd", desc := "(III)V" } : Jvm.MethodName) prog_15_method_158_code (3 : Nat) (Option.none : Option Jvm.ClassFile.FieldType)) ∈ lw_all := lw_g (lw_at lw_m7 54 rfl) rfl
theorem q1730 : (Jvm.Cond.methodLink "java/lang/String" (1062 : Nat) ({ cls := "jdk/internal/util/Preconditions", name := "checkFromToIndex", desc := "(IIILjava/util/function/BiFunction;)I" } : Jvm.MethodName)) ∈ lw_all := lw_g (lw_at lw_m7 55 rfl) rfl
theorem q2292 : (Jvm.Cond.fieldLink "java/lang/String" (9 : Nat) "java/lang/String" "value" "[B") ∈ lw_all := lw_g (lw_at lw_m9 137 rfl) rfl
theorem q2293 : (Jvm.Cond.fieldLink "java/lang/String" (15 : Nat) "java/lang/String" "coder" "B") ∈ lw_all := lw_g (lw_at lw_m9 138 rfl) rfl
theorem in_J6 : ∀ w ∈ wsJ60, w ∈ lw_all := lw_in wsJ60 [683, 685] (by decide +kernel) (by decide +kernel)
/-! java/lang/StringLatin1 -/
set_option maxRecDepth 100000
def RJ7 : String := "java/lang/StringLatin1"
abbrev cJ7_charAt : ByteArray := prog_16_method_2_code
def yJ7_charAt : MethodName := ⟨RJ7, "charAt", "([BI)C"⟩
def dkwJ7_charAt_0 : List UInt8 := [27, 42, 190, 184, 0, 9, 42, 27, 51, 17, 0, 255, 126, 146, 172]
abbrev dktJ7_charAt_0 : List UInt8 := dkwJ7_charAt_0 ++ []
theorem dksJ7_charAt_0 : cJ7_charAt.data.toList.drop 0 = dktJ7_charAt_0 := by decide +kernel
theorem dJ7_charAt_0 : decode cJ7_charAt 0 = .ok (.iload_n 1, 1) := dk_27 (dk_at dksJ7_charAt_0 0 rfl rfl)
theorem dJ7_charAt_1 : decode cJ7_charAt 1 = .ok (.aload_n 0, 1) := dk_42 (dk_at dksJ7_charAt_0 1 rfl rfl)
theorem dJ7_charAt_2 : decode cJ7_charAt 2 = .ok (.arraylength, 1) := dk_190 (dk_at dksJ7_charAt_0 2 rfl rfl)
theorem dJ7_charAt_3 : decode cJ7_charAt 3 = .ok (.invokestatic 9, 3) := dk_184 0 9 (dk_at dksJ7_charAt_0 3 rfl rfl)
theorem dJ7_charAt_6 : decode cJ7_charAt 6 = .ok (.aload_n 0, 1) := dk_42 (dk_at dksJ7_charAt_0 6 rfl rfl)
theorem dJ7_charAt_7 : decode cJ7_charAt 7 = .ok (.iload_n 1, 1) := dk_27 (dk_at dksJ7_charAt_0 7 rfl rfl)
theorem dJ7_charAt_8 : decode cJ7_charAt 8 = .ok (.baload, 1) := dk_51 (dk_at dksJ7_charAt_0 8 rfl rfl)
theorem dJ7_charAt_9 : decode cJ7_charAt 9 = .ok (.sipush 255, 3) := dk_17 0 255 (dk_at dksJ7_charAt_0 9 rfl rfl)
theorem dJ7_charAt_12 : decode cJ7_charAt 12 = .ok (.iand, 1) := dk_126 (dk_at dksJ7_charAt_0 12 rfl rfl)
theorem dJ7_charAt_13 : decode cJ7_charAt 13 = .ok (.i2c, 1) := dk_146 (dk_at dksJ7_charAt_0 13 rfl rfl)
theorem dJ7_charAt_14 : decode cJ7_charAt 14 = .ok (.ireturn, 1) := dk_172 (dk_at dksJ7_charAt_0 14 rfl rfl)
abbrev cJ7_indexOf : ByteArray := prog_16_method_22_code
def yJ7_indexOf : MethodName := ⟨RJ7, "indexOf", "([BIII)I"⟩
def dkwJ7_indexOf_1 : List UInt8 := [161, 0, 5, 2, 172, 42, 27, 28, 29, 184, 0, 95, 172]
abbrev dktJ7_indexOf_1 : List UInt8 := dkwJ7_indexOf_1 ++ []
def dkwJ7_indexOf_0 : List UInt8 := [27, 184, 0, 88, 154, 0, 5, 2, 172, 28, 3, 184, 0, 92, 61, 29, 42, 190, 184, 0, 38, 62, 28, 29]
abbrev dktJ7_indexOf_0 : List UInt8 := dkwJ7_indexOf_0 ++ dktJ7_indexOf_1
theorem dksJ7_indexOf_0 : cJ7_indexOf.data.toList.drop 0 = dktJ7_indexOf_0 := by decide +kernel
theorem dksJ7_indexOf_1 : cJ7_indexOf.data.toList.drop 24 = dktJ7_indexOf_1 := dk_seg dksJ7_indexOf_0 24 rfl rfl
theorem dJ7_indexOf_0 : decode cJ7_indexOf 0 = .ok (.iload_n 1, 1) := dk_27 (dk_at dksJ7_indexOf_0 0 rfl rfl)
theorem dJ7_indexOf_1 : decode cJ7_indexOf 1 = .ok (.invokestatic 88, 3) := dk_184 0 88 (dk_at dksJ7_indexOf_0 1 rfl rfl)
theorem dJ7_indexOf_4 : decode cJ7_indexOf 4 = .ok (.ifCond .ne 5, 3) := dk_154 0 5 (dk_at dksJ7_indexOf_0 4 rfl rfl)
theorem dJ7_indexOf_7 : decode cJ7_indexOf 7 = .ok (.iconst (-1), 1) := dk_2 (dk_at dksJ7_indexOf_0 7 rfl rfl)
theorem dJ7_indexOf_8 : decode cJ7_indexOf 8 = .ok (.ireturn, 1) := dk_172 (dk_at dksJ7_indexOf_0 8 rfl rfl)
theorem dJ7_indexOf_9 : decode cJ7_indexOf 9 = .ok (.iload_n 2, 1) := dk_28 (dk_at dksJ7_indexOf_0 9 rfl rfl)
theorem dJ7_indexOf_10 : decode cJ7_indexOf 10 = .ok (.iconst 0, 1) := dk_3 (dk_at dksJ7_indexOf_0 10 rfl rfl)
theorem dJ7_indexOf_11 : decode cJ7_indexOf 11 = .ok (.invokestatic 92, 3) := dk_184 0 92 (dk_at dksJ7_indexOf_0 11 rfl rfl)
theorem dJ7_indexOf_14 : decode cJ7_indexOf 14 = .ok (.istore_n 2, 1) := dk_61 (dk_at dksJ7_indexOf_0 14 rfl rfl)
theorem dJ7_indexOf_15 : decode cJ7_indexOf 15 = .ok (.iload_n 3, 1) := dk_29 (dk_at dksJ7_indexOf_0 15 rfl rfl)
theorem dJ7_indexOf_16 : decode cJ7_indexOf 16 = .ok (.aload_n 0, 1) := dk_42 (dk_at dksJ7_indexOf_0 16 rfl rfl)
theorem dJ7_indexOf_17 : decode cJ7_indexOf 17 = .ok (.arraylength, 1) := dk_190 (dk_at dksJ7_indexOf_0 17 rfl rfl)
theorem dJ7_indexOf_18 : decode cJ7_indexOf 18 = .ok (.invokestatic 38, 3) := dk_184 0 38 (dk_at dksJ7_indexOf_0 18 rfl rfl)
theorem dJ7_indexOf_21 : decode cJ7_indexOf 21 = .ok (.istore_n 3, 1) := dk_62 (dk_at dksJ7_indexOf_0 21 rfl rfl)
theorem dJ7_indexOf_22 : decode cJ7_indexOf 22 = .ok (.iload_n 2, 1) := dk_28 (dk_at dksJ7_indexOf_0 22 rfl rfl)
theorem dJ7_indexOf_23 : decode cJ7_indexOf 23 = .ok (.iload_n 3, 1) := dk_29 (dk_at dksJ7_indexOf_0 23 rfl rfl)
theorem dJ7_indexOf_24 : decode cJ7_indexOf 24 = .ok (.if_icmp .lt 5, 3) := dk_161 0 5 (dk_at dksJ7_indexOf_1 0 rfl rfl)
theorem dJ7_indexOf_27 : decode cJ7_indexOf 27 = .ok (.iconst (-1), 1) := dk_2 (dk_at dksJ7_indexOf_1 3 rfl rfl)
theorem dJ7_indexOf_28 : decode cJ7_indexOf 28 = .ok (.ireturn, 1) := dk_172 (dk_at dksJ7_indexOf_1 4 rfl rfl)
theorem dJ7_indexOf_29 : decode cJ7_indexOf 29 = .ok (.aload_n 0, 1) := dk_42 (dk_at dksJ7_indexOf_1 5 rfl rfl)
theorem dJ7_indexOf_30 : decode cJ7_indexOf 30 = .ok (.iload_n 1, 1) := dk_27 (dk_at dksJ7_indexOf_1 6 rfl rfl)
theorem dJ7_indexOf_31 : decode cJ7_indexOf 31 = .ok (.iload_n 2, 1) := dk_28 (dk_at dksJ7_indexOf_1 7 rfl rfl)
theorem dJ7_indexOf_32 : decode cJ7_indexOf 32 = .ok (.iload_n 3, 1) := dk_29 (dk_at dksJ7_indexOf_1 8 rfl rfl)
theorem dJ7_indexOf_33 : decode cJ7_indexOf 33 = .ok (.invokestatic 95, 3) := dk_184 0 95 (dk_at dksJ7_indexOf_1 9 rfl rfl)
theorem dJ7_indexOf_36 : decode cJ7_indexOf 36 = .ok (.ireturn, 1) := dk_172 (dk_at dksJ7_indexOf_1 12 rfl rfl)
abbrev cJ7_canEncode : ByteArray := prog_16_method_4_code
def yJ7_canEncode : MethodName := ⟨RJ7, "canEncode", "(I)Z"⟩
def dkwJ7_canEncode_0 : List UInt8 := [26, 155, 0, 14, 26, 17, 0, 255, 163, 0, 7, 4, 167, 0, 4, 3, 172]
abbrev dktJ7_canEncode_0 : List UInt8 := dkwJ7_canEncode_0 ++ []
theorem dksJ7_canEncode_0 : cJ7_canEncode.data.toList.drop 0 = dktJ7_canEncode_0 := by decide +kernel
theorem dJ7_canEncode_0 : decode cJ7_canEncode 0 = .ok (.iload_n 0, 1) := dk_26 (dk_at dksJ7_canEncode_0 0 rfl rfl)
theorem dJ7_canEncode_1 : decode cJ7_canEncode 1 = .ok (.ifCond .lt 14, 3) := dk_155 0 14 (dk_at dksJ7_canEncode_0 1 rfl rfl)
theorem dJ7_canEncode_4 : decode cJ7_canEncode 4 = .ok (.iload_n 0, 1) := dk_26 (dk_at dksJ7_canEncode_0 4 rfl rfl)
theorem dJ7_canEncode_5 : decode cJ7_canEncode 5 = .ok (.sipush 255, 3) := dk_17 0 255 (dk_at dksJ7_canEncode_0 5 rfl rfl)
theorem dJ7_canEncode_8 : decode cJ7_canEncode 8 = .ok (.if_icmp .gt 7, 3) := dk_163 0 7 (dk_at dksJ7_canEncode_0 8 rfl rfl)
theorem dJ7_canEncode_11 : decode cJ7_canEncode 11 = .ok (.iconst 1, 1) := dk_4 (dk_at dksJ7_canEncode_0 11 rfl rfl)
theorem dJ7_canEncode_12 : decode cJ7_canEncode 12 = .ok (.goto 4, 3) := dk_167 0 4 (dk_at dksJ7_canEncode_0 12 rfl rfl)
theorem dJ7_canEncode_15 : decode cJ7_canEncode 15 = .ok (.iconst 0, 1) := dk_3 (dk_at dksJ7_canEncode_0 15 rfl rfl)
theorem dJ7_canEncode_16 : decode cJ7_canEncode 16 = .ok (.ireturn, 1) := dk_172 (dk_at dksJ7_canEncode_0 16 rfl rfl)
abbrev cJ7_indexOfChar : ByteArray := prog_16_method_23_code
def yJ7_indexOfChar : MethodName := ⟨RJ7, "indexOfChar", "([BIII)I"⟩
def dkwJ7_indexOfChar_1 : List UInt8 := [172, 132, 5, 1, 167, 255, 235, 2, 172]
abbrev dktJ7_indexOfChar_1 : List UInt8 := dkwJ7_indexOfChar_1 ++ []
def dkwJ7_indexOfChar_0 : List UInt8 := [27, 145, 54, 4, 28, 54, 5, 21, 5, 29, 162, 0, 21, 42, 21, 5, 51, 21, 4, 160, 0, 6, 21, 5]
abbrev dktJ7_indexOfChar_0 : List UInt8 := dkwJ7_indexOfChar_0 ++ dktJ7_indexOfChar_1
theorem dksJ7_indexOfChar_0 : cJ7_indexOfChar.data.toList.drop 0 = dktJ7_indexOfChar_0 := by decide +kernel
theorem dksJ7_indexOfChar_1 : cJ7_indexOfChar.data.toList.drop 24 = dktJ7_indexOfChar_1 := dk_seg dksJ7_indexOfChar_0 24 rfl rfl
theorem dJ7_indexOfChar_0 : decode cJ7_indexOfChar 0 = .ok (.iload_n 1, 1) := dk_27 (dk_at dksJ7_indexOfChar_0 0 rfl rfl)
theorem dJ7_indexOfChar_1 : decode cJ7_indexOfChar 1 = .ok (.i2b, 1) := dk_145 (dk_at dksJ7_indexOfChar_0 1 rfl rfl)
theorem dJ7_indexOfChar_2 : decode cJ7_indexOfChar 2 = .ok (.istore 4, 2) := dk_54 4 (dk_at dksJ7_indexOfChar_0 2 rfl rfl)
theorem dJ7_indexOfChar_4 : decode cJ7_indexOfChar 4 = .ok (.iload_n 2, 1) := dk_28 (dk_at dksJ7_indexOfChar_0 4 rfl rfl)
theorem dJ7_indexOfChar_5 : decode cJ7_indexOfChar 5 = .ok (.istore 5, 2) := dk_54 5 (dk_at dksJ7_indexOfChar_0 5 rfl rfl)
theorem dJ7_indexOfChar_7 : decode cJ7_indexOfChar 7 = .ok (.iload 5, 2) := dk_21 5 (dk_at dksJ7_indexOfChar_0 7 rfl rfl)
theorem dJ7_indexOfChar_9 : decode cJ7_indexOfChar 9 = .ok (.iload_n 3, 1) := dk_29 (dk_at dksJ7_indexOfChar_0 9 rfl rfl)
theorem dJ7_indexOfChar_10 : decode cJ7_indexOfChar 10 = .ok (.if_icmp .ge 21, 3) := dk_162 0 21 (dk_at dksJ7_indexOfChar_0 10 rfl rfl)
theorem dJ7_indexOfChar_13 : decode cJ7_indexOfChar 13 = .ok (.aload_n 0, 1) := dk_42 (dk_at dksJ7_indexOfChar_0 13 rfl rfl)
theorem dJ7_indexOfChar_14 : decode cJ7_indexOfChar 14 = .ok (.iload 5, 2) := dk_21 5 (dk_at dksJ7_indexOfChar_0 14 rfl rfl)
theorem dJ7_indexOfChar_16 : decode cJ7_indexOfChar 16 = .ok (.baload, 1) := dk_51 (dk_at dksJ7_indexOfChar_0 16 rfl rfl)
theorem dJ7_indexOfChar_17 : decode cJ7_indexOfChar 17 = .ok (.iload 4, 2) := dk_21 4 (dk_at dksJ7_indexOfChar_0 17 rfl rfl)
theorem dJ7_indexOfChar_19 : decode cJ7_indexOfChar 19 = .ok (.if_icmp .ne 6, 3) := dk_160 0 6 (dk_at dksJ7_indexOfChar_0 19 rfl rfl)
theorem dJ7_indexOfChar_22 : decode cJ7_indexOfChar 22 = .ok (.iload 5, 2) := dk_21 5 (dk_at dksJ7_indexOfChar_0 22 rfl rfl)
theorem dJ7_indexOfChar_24 : decode cJ7_indexOfChar 24 = .ok (.ireturn, 1) := dk_172 (dk_at dksJ7_indexOfChar_1 0 rfl rfl)
theorem dJ7_indexOfChar_25 : decode cJ7_indexOfChar 25 = .ok (.iinc 5 1, 3) := dk_132 5 1 (dk_at dksJ7_indexOfChar_1 1 rfl rfl)
theorem dJ7_indexOfChar_28 : decode cJ7_indexOfChar 28 = .ok (.goto (-21), 3) := dk_167 255 235 (dk_at dksJ7_indexOfChar_1 4 rfl rfl)
theorem dJ7_indexOfChar_31 : decode cJ7_indexOfChar 31 = .ok (.iconst (-1), 1) := dk_2 (dk_at dksJ7_indexOfChar_1 7 rfl rfl)
theorem dJ7_indexOfChar_32 : decode cJ7_indexOfChar 32 = .ok (.ireturn, 1) := dk_172 (dk_at dksJ7_indexOfChar_1 8 rfl rfl)
theorem q248 : (Jvm.Cond.initialized "java/lang/StringLatin1") ∈ lw_all := lw_g (lw_at lw_m1 13 rfl) rfl
theorem q745 : (Jvm.Cond.static ({ cls := "java/lang/StringLatin1", name := "charAt", desc := "([BI)C" } : Jvm.MethodName)) ∈ lw_all := lw_g (lw_at lw_m3 30 rfl) rfl
theorem q746 : (Jvm.Cond.code ({ cls := "java/lang/StringLatin1", name := "charAt", desc := "([BI)C" } : Jvm.MethodName) prog_16_method_2_code (2 : Nat) (Option.some Jvm.ClassFile.FieldType.char)) ∈ lw_all := lw_g (lw_at lw_m3 31 rfl) rfl
theorem q747 : (Jvm.Cond.methodLink "java/lang/StringLatin1" (9 : Nat) ({ cls := "java/lang/String", name := "checkIndex", desc := "(II)V" } : Jvm.MethodName)) ∈ lw_all := lw_g (lw_at lw_m3 32 rfl) rfl
theorem q1703 : (Jvm.Cond.static ({ cls := "java/lang/StringLatin1", name := "indexOf", desc := "([BIII)I" } : Jvm.MethodName)) ∈ lw_all := lw_g (lw_at lw_m7 28 rfl) rfl
theorem q1704 : (Jvm.Cond.code ({ cls := "java/lang/StringLatin1", name := "indexOf", desc := "([BIII)I" } : Jvm.MethodName) prog_16_method_22_code (4 : Nat) (Option.some Jvm.ClassFile.FieldType.int)) ∈ lw_all := lw_g (lw_at lw_m7 29 rfl) rfl
theorem q1705 : (Jvm.Cond.methodLink "java/lang/StringLatin1" (88 : Nat) ({ cls := "java/lang/StringLatin1", name := "canEncode", desc := "(I)Z" } : Jvm.MethodName)) ∈ lw_all := lw_g (lw_at lw_m7 30 rfl) rfl
theorem q1706 : (Jvm.Cond.static ({ cls := "java/lang/StringLatin1", name := "canEncode", desc := "(I)Z" } : Jvm.MethodName)) ∈ lw_all := lw_g (lw_at lw_m7 31 rfl) rfl
theorem q1707 : (Jvm.Cond.code ({ cls := "java/lang/StringLatin1", name := "canEncode", desc := "(I)Z" } : Jvm.MethodName) prog_16_method_4_code (1 : Nat) (Option.some Jvm.ClassFile.FieldType.boolean)) ∈ lw_all := lw_g (lw_at lw_m7 32 rfl) rfl
theorem q1708 : (Jvm.Cond.methodLink "java/lang/StringLatin1" (92 : Nat) ({ cls := "java/lang/Math", name := "max", desc := "(II)I" } : Jvm.MethodName)) ∈ lw_all := lw_g (lw_at lw_m7 33 rfl) rfl
theorem q1711 : (Jvm.Cond.methodLink "java/lang/StringLatin1" (38 : Nat) ({ cls := "java/lang/Math", name := "min", desc := "(II)I" } : Jvm.MethodName)) ∈ lw_all := lw_g (lw_at lw_m7 36 rfl) rfl
theorem q1712 : (Jvm.Cond.methodLink "java/lang/StringLatin1" (95 : Nat) ({ cls := "java/lang/StringLatin1", name := "indexOfChar", desc := "([BIII)I" } : Jvm.MethodName)) ∈ lw_all := lw_g (lw_at lw_m7 37 rfl) rfl
theorem q1713 : (Jvm.Cond.static ({ cls := "java/lang/StringLatin1", name := "indexOfChar", desc := "([BIII)I" } : Jvm.MethodName)) ∈ lw_all := lw_g (lw_at lw_m7 38 rfl) rfl
theorem q1714 : (Jvm.Cond.code ({ cls := "java/lang/StringLatin1", name := "indexOfChar", desc := "([BIII)I" } : Jvm.MethodName) prog_16_method_23_code (6 : Nat) (Option.some Jvm.ClassFile.FieldType.int)) ∈ lw_all := lw_g (lw_at lw_m7 39 rfl) rfl
/-! jdk/internal/util/Preconditions -/
set_option maxRecDepth 100000
def RJ8 : String := "jdk/internal/util/Preconditions"
abbrev cJ8_checkIndex : ByteArray := prog_21_method_11_code
def yJ8_checkIndex : MethodName := ⟨RJ8, "checkIndex", "(IILjava/util/function/BiFunction;)I"⟩
def dkwJ8_checkIndex_0 : List UInt8 := [26, 155, 0, 8, 26, 27, 161, 0, 10, 44, 26, 27, 184, 0, 95, 191, 26, 172]
abbrev dktJ8_checkIndex_0 : List UInt8 := dkwJ8_checkIndex_0 ++ []
theorem dksJ8_checkIndex_0 : cJ8_checkIndex.data.toList.drop 0 = dktJ8_checkIndex_0 := by decide +kernel
theorem dJ8_checkIndex_0 : decode cJ8_checkIndex 0 = .ok (.iload_n 0, 1) := dk_26 (dk_at dksJ8_checkIndex_0 0 rfl rfl)
theorem dJ8_checkIndex_1 : decode cJ8_checkIndex 1 = .ok (.ifCond .lt 8, 3) := dk_155 0 8 (dk_at dksJ8_checkIndex_0 1 rfl rfl)
theorem dJ8_checkIndex_4 : decode cJ8_checkIndex 4 = .ok (.iload_n 0, 1) := dk_26 (dk_at dksJ8_checkIndex_0 4 rfl rfl)
theorem dJ8_checkIndex_5 : decode cJ8_checkIndex 5 = .ok (.iload_n 1, 1) := dk_27 (dk_at dksJ8_checkIndex_0 5 rfl rfl)
theorem dJ8_checkIndex_6 : decode cJ8_checkIndex 6 = .ok (.if_icmp .lt 10, 3) := dk_161 0 10 (dk_at dksJ8_checkIndex_0 6 rfl rfl)
theorem dJ8_checkIndex_9 : decode cJ8_checkIndex 9 = .ok (.aload_n 2, 1) := dk_44 (dk_at dksJ8_checkIndex_0 9 rfl rfl)
theorem dJ8_checkIndex_10 : decode cJ8_checkIndex 10 = .ok (.iload_n 0, 1) := dk_26 (dk_at dksJ8_checkIndex_0 10 rfl rfl)
theorem dJ8_checkIndex_11 : decode cJ8_checkIndex 11 = .ok (.iload_n 1, 1) := dk_27 (dk_at dksJ8_checkIndex_0 11 rfl rfl)
theorem dJ8_checkIndex_12 : decode cJ8_checkIndex 12 = .ok (.invokestatic 95, 3) := dk_184 0 95 (dk_at dksJ8_checkIndex_0 12 rfl rfl)
theorem dJ8_checkIndex_15 : decode cJ8_checkIndex 15 = .ok (.athrow, 1) := dk_191 (dk_at dksJ8_checkIndex_0 15 rfl rfl)
theorem dJ8_checkIndex_16 : decode cJ8_checkIndex 16 = .ok (.iload_n 0, 1) := dk_26 (dk_at dksJ8_checkIndex_0 16 rfl rfl)
theorem dJ8_checkIndex_17 : decode cJ8_checkIndex 17 = .ok (.ireturn, 1) := dk_172 (dk_at dksJ8_checkIndex_0 17 rfl rfl)
abbrev cJ8_checkFromToIndex : ByteArray := prog_21_method_12_code
def yJ8_checkFromToIndex : MethodName := ⟨RJ8, "checkFromToIndex", "(IIILjava/util/function/BiFunction;)I"⟩
def dkwJ8_checkFromToIndex_0 : List UInt8 := [26, 155, 0, 13, 26, 27, 163, 0, 8, 27, 28, 164, 0, 11, 45, 26, 27, 28, 184, 0, 99, 191, 26, 172]
abbrev dktJ8_checkFromToIndex_0 : List UInt8 := dkwJ8_checkFromToIndex_0 ++ []
theorem dksJ8_checkFromToIndex_0 : cJ8_checkFromToIndex.data.toList.drop 0 = dktJ8_checkFromToIndex_0 := by decide +kernel
theorem dJ8_checkFromToIndex_0 : decode cJ8_checkFromToIndex 0 = .ok (.iload_n 0, 1) := dk_26 (dk_at dksJ8_checkFromToIndex_0 0 rfl rfl)
theorem dJ8_checkFromToIndex_1 : decode cJ8_checkFromToIndex 1 = .ok (.ifCond .lt 13, 3) := dk_155 0 13 (dk_at dksJ8_checkFromToIndex_0 1 rfl rfl)
theorem dJ8_checkFromToIndex_4 : decode cJ8_checkFromToIndex 4 = .ok (.iload_n 0, 1) := dk_26 (dk_at dksJ8_checkFromToIndex_0 4 rfl rfl)
theorem dJ8_checkFromToIndex_5 : decode cJ8_checkFromToIndex 5 = .ok (.iload_n 1, 1) := dk_27 (dk_at dksJ8_checkFromToIndex_0 5 rfl rfl)
theorem dJ8_checkFromToIndex_6 : decode cJ8_checkFromToIndex 6 = .ok (.if_icmp .gt 8, 3) := dk_163 0 8 (dk_at dksJ8_checkFromToIndex_0 6 rfl rfl)
theorem dJ8_checkFromToIndex_9 : decode cJ8_checkFromToIndex 9 = .ok (.iload_n 1, 1) := dk_27 (dk_at dksJ8_checkFromToIndex_0 9 rfl rfl)
theorem dJ8_checkFromToIndex_10 : decode cJ8_checkFromToIndex 10 = .ok (.iload_n 2, 1) := dk_28 (dk_at dksJ8_checkFromToIndex_0 10 rfl rfl)
theorem dJ8_checkFromToIndex_11 : decode cJ8_checkFromToIndex 11 = .ok (.if_icmp .le 11, 3) := dk_164 0 11 (dk_at dksJ8_checkFromToIndex_0 11 rfl rfl)
theorem dJ8_checkFromToIndex_14 : decode cJ8_checkFromToIndex 14 = .ok (.aload_n 3, 1) := dk_45 (dk_at dksJ8_checkFromToIndex_0 14 rfl rfl)
theorem dJ8_checkFromToIndex_15 : decode cJ8_checkFromToIndex 15 = .ok (.iload_n 0, 1) := dk_26 (dk_at dksJ8_checkFromToIndex_0 15 rfl rfl)
theorem dJ8_checkFromToIndex_16 : decode cJ8_checkFromToIndex 16 = .ok (.iload_n 1, 1) := dk_27 (dk_at dksJ8_checkFromToIndex_0 16 rfl rfl)
theorem dJ8_checkFromToIndex_17 : decode cJ8_checkFromToIndex 17 = .ok (.iload_n 2, 1) := dk_28 (dk_at dksJ8_checkFromToIndex_0 17 rfl rfl)
theorem dJ8_checkFromToIndex_18 : decode cJ8_checkFromToIndex 18 = .ok (.invokestatic 99, 3) := dk_184 0 99 (dk_at dksJ8_checkFromToIndex_0 18 rfl rfl)
theorem dJ8_checkFromToIndex_21 : decode cJ8_checkFromToIndex 21 = .ok (.athrow, 1) := dk_191 (dk_at dksJ8_checkFromToIndex_0 21 rfl rfl)
theorem dJ8_checkFromToIndex_22 : decode cJ8_checkFromToIndex 22 = .ok (.iload_n 0, 1) := dk_26 (dk_at dksJ8_checkFromToIndex_0 22 rfl rfl)
theorem dJ8_checkFromToIndex_23 : decode cJ8_checkFromToIndex 23 = .ok (.ireturn, 1) := dk_172 (dk_at dksJ8_checkFromToIndex_0 23 rfl rfl)
theorem q249 : (Jvm.Cond.initialized "jdk/internal/util/Preconditions") ∈ lw_all := lw_g (lw_at lw_m1 14 rfl) rfl
theorem q751 : (Jvm.Cond.laysStatic "jdk/internal/util/Preconditions" "SIOOBE_FORMATTER" "Ljava/util/function/BiFunction;") ∈ lw_tbl := lw_at lw_m3 36 rfl
theorem q753 : (Jvm.Cond.static ({ cls := "jdk/internal/util/Preconditions", name := "checkIndex", desc := "(IILjava/util/function/BiFunction;)I" } : Jvm.MethodName)) ∈ lw_all := lw_g (lw_at lw_m3 38 rfl) rfl
theorem q754 : (Jvm.Cond.code ({ cls := "jdk/internal/util/Preconditions", name := "checkIndex", desc := "(IILjava/util/function/BiFunction;)I" } : Jvm.MethodName) prog_21_method_11_code (3 : Nat) (Option.some Jvm.ClassFile.FieldType.int)) ∈ lw_all := lw_g (lw_at lw_m3 39 rfl) rfl
theorem q1731 : (Jvm.Cond.static ({ cls := "jdk/internal/util/Preconditions", name := "checkFromToIndex", desc := "(IIILjava/util/function/BiFunction;)I" } : Jvm.MethodName)) ∈ lw_all := lw_g (lw_at lw_m7 56 rfl) rfl
theorem q1732 : (Jvm.Cond.code ({ cls := "jdk/internal/util/Preconditions", name := "checkFromToIndex", desc := "(IIILjava/util/function/BiFunction;)I" } : Jvm.MethodName) prog_21_method_12_code (4 : Nat) (Option.some Jvm.ClassFile.FieldType.int)) ∈ lw_all := lw_g (lw_at lw_m7 57 rfl) rfl
/-! java/lang/StringUTF16 -/
set_option maxRecDepth 100000
def RJ9 : String := "java/lang/StringUTF16"
abbrev cJ9_charAt : ByteArray := prog_17_method_83_code
def yJ9_charAt : MethodName := ⟨RJ9, "charAt", "([BI)C"⟩
def dkwJ9_charAt_0 : List UInt8 := [27, 42, 184, 0, 67, 42, 27, 184, 0, 71, 172]
abbrev dktJ9_charAt_0 : List UInt8 := dkwJ9_charAt_0 ++ []
theorem dksJ9_charAt_0 : cJ9_charAt.data.toList.drop 0 = dktJ9_charAt_0 := by decide +kernel
theorem dJ9_charAt_0 : decode cJ9_charAt 0 = .ok (.iload_n 1, 1) := dk_27 (dk_at dksJ9_charAt_0 0 rfl rfl)
theorem dJ9_charAt_1 : decode cJ9_charAt 1 = .ok (.aload_n 0, 1) := dk_42 (dk_at dksJ9_charAt_0 1 rfl rfl)
theorem dJ9_charAt_2 : decode cJ9_charAt 2 = .ok (.invokestatic 67, 3) := dk_184 0 67 (dk_at dksJ9_charAt_0 2 rfl rfl)
theorem dJ9_charAt_5 : decode cJ9_charAt 5 = .ok (.aload_n 0, 1) := dk_42 (dk_at dksJ9_charAt_0 5 rfl rfl)
theorem dJ9_charAt_6 : decode cJ9_charAt 6 = .ok (.iload_n 1, 1) := dk_27 (dk_at dksJ9_charAt_0 6 rfl rfl)
theorem dJ9_charAt_7 : decode cJ9_charAt 7 = .ok (.invokestatic 71, 3) := dk_184 0 71 (dk_at dksJ9_charAt_0 7 rfl rfl)
theorem dJ9_charAt_10 : decode cJ9_charAt 10 = .ok (.ireturn, 1) := dk_172 (dk_at dksJ9_charAt_0 10 rfl rfl)
abbrev cJ9_checkIndex : ByteArray := prog_17_method_91_code
def yJ9_checkIndex : MethodName := ⟨RJ9, "checkIndex", "(I[B)V"⟩
def dkwJ9_checkIndex_0 : List UInt8 := [26, 43, 184, 0, 48, 184, 1, 158, 177]
abbrev dktJ9_checkIndex_0 : List UInt8 := dkwJ9_checkIndex_0 ++ []
theorem dksJ9_checkIndex_0 : cJ9_checkIndex.data.toList.drop 0 = dktJ9_checkIndex_0 := by decide +kernel
theorem dJ9_checkIndex_0 : decode cJ9_checkIndex 0 = .ok (.iload_n 0, 1) := dk_26 (dk_at dksJ9_checkIndex_0 0 rfl rfl)
theorem dJ9_checkIndex_1 : decode cJ9_checkIndex 1 = .ok (.aload_n 1, 1) := dk_43 (dk_at dksJ9_checkIndex_0 1 rfl rfl)
theorem dJ9_checkIndex_2 : decode cJ9_checkIndex 2 = .ok (.invokestatic 48, 3) := dk_184 0 48 (dk_at dksJ9_checkIndex_0 2 rfl rfl)
theorem dJ9_checkIndex_5 : decode cJ9_checkIndex 5 = .ok (.invokestatic 414, 3) := dk_184 1 158 (dk_at dksJ9_checkIndex_0 5 rfl rfl)
theorem dJ9_checkIndex_8 : decode cJ9_checkIndex 8 = .ok (.return_, 1) := dk_177 (dk_at dksJ9_checkIndex_0 8 rfl rfl)
abbrev cJ9_length : ByteArray := prog_17_method_6_code
def yJ9_length : MethodName := ⟨RJ9, "length", "([B)I"⟩
def dkwJ9_length_0 : List UInt8 := [42, 190, 4, 122, 172]
abbrev dktJ9_length_0 : List UInt8 := dkwJ9_length_0 ++ []
theorem dksJ9_length_0 : cJ9_length.data.toList.drop 0 = dktJ9_length_0 := by decide +kernel
theorem dJ9_length_0 : decode cJ9_length 0 = .ok (.aload_n 0, 1) := dk_42 (dk_at dksJ9_length_0 0 rfl rfl)
theorem dJ9_length_1 : decode cJ9_length 1 = .ok (.arraylength, 1) := dk_190 (dk_at dksJ9_length_0 1 rfl rfl)
theorem dJ9_length_2 : decode cJ9_length 2 = .ok (.iconst 1, 1) := dk_4 (dk_at dksJ9_length_0 2 rfl rfl)
theorem dJ9_length_3 : decode cJ9_length 3 = .ok (.ishr, 1) := dk_122 (dk_at dksJ9_length_0 3 rfl rfl)
theorem dJ9_length_4 : decode cJ9_length 4 = .ok (.ireturn, 1) := dk_172 (dk_at dksJ9_length_0 4 rfl rfl)
abbrev cJ9_getChar : ByteArray := prog_17_method_5_code
def yJ9_getChar : MethodName := ⟨RJ9, "getChar", "([BI)C"⟩
def dkwJ9_getChar_2 : List UInt8 := [51, 17, 0, 255, 126, 178, 0, 63, 120, 128, 146, 172]
abbrev dktJ9_getChar_2 : List UInt8 := dkwJ9_getChar_2 ++ []
def dkwJ9_getChar_1 : List UInt8 := [183, 0, 56, 191, 27, 4, 120, 60, 42, 27, 132, 1, 1, 51, 17, 0, 255, 126, 178, 0, 59, 120, 42, 27]
abbrev dktJ9_getChar_1 : List UInt8 := dkwJ9_getChar_1 ++ dktJ9_getChar_2
def dkwJ9_getChar_0 : List UInt8 := [178, 0, 44, 154, 0, 25, 27, 155, 0, 11, 27, 42, 184, 0, 48, 161, 0, 13, 187, 0, 52, 89, 18, 54]
abbrev dktJ9_getChar_0 : List UInt8 := dkwJ9_getChar_0 ++ dktJ9_getChar_1
theorem dksJ9_getChar_0 : cJ9_getChar.data.toList.drop 0 = dktJ9_getChar_0 := by decide +kernel
theorem dksJ9_getChar_1 : cJ9_getChar.data.toList.drop 24 = dktJ9_getChar_1 := dk_seg dksJ9_getChar_0 24 rfl rfl
theorem dksJ9_getChar_2 : cJ9_getChar.data.toList.drop 48 = dktJ9_getChar_2 := dk_seg dksJ9_getChar_1 24 rfl rfl
theorem dJ9_getChar_0 : decode cJ9_getChar 0 = .ok (.getstatic 44, 3) := dk_178 0 44 (dk_at dksJ9_getChar_0 0 rfl rfl)
theorem dJ9_getChar_3 : decode cJ9_getChar 3 = .ok (.ifCond .ne 25, 3) := dk_154 0 25 (dk_at dksJ9_getChar_0 3 rfl rfl)
theorem dJ9_getChar_6 : decode cJ9_getChar 6 = .ok (.iload_n 1, 1) := dk_27 (dk_at dksJ9_getChar_0 6 rfl rfl)
theorem dJ9_getChar_7 : decode cJ9_getChar 7 = .ok (.ifCond .lt 11, 3) := dk_155 0 11 (dk_at dksJ9_getChar_0 7 rfl rfl)
theorem dJ9_getChar_10 : decode cJ9_getChar 10 = .ok (.iload_n 1, 1) := dk_27 (dk_at dksJ9_getChar_0 10 rfl rfl)
theorem dJ9_getChar_11 : decode cJ9_getChar 11 = .ok (.aload_n 0, 1) := dk_42 (dk_at dksJ9_getChar_0 11 rfl rfl)
theorem dJ9_getChar_12 : decode cJ9_getChar 12 = .ok (.invokestatic 48, 3) := dk_184 0 48 (dk_at dksJ9_getChar_0 12 rfl rfl)
theorem dJ9_getChar_15 : decode cJ9_getChar 15 = .ok (.if_icmp .lt 13, 3) := dk_161 0 13 (dk_at dksJ9_getChar_0 15 rfl rfl)
theorem dJ9_getChar_18 : decode cJ9_getChar 18 = .ok (.new 52, 3) := dk_187 0 52 (dk_at dksJ9_getChar_0 18 rfl rfl)
theorem dJ9_getChar_21 : decode cJ9_getChar 21 = .ok (.dup, 1) := dk_89 (dk_at dksJ9_getChar_0 21 rfl rfl)
theorem dJ9_getChar_22 : decode cJ9_getChar 22 = .ok (.ldc 54, 2) := dk_18 54 (dk_at dksJ9_getChar_0 22 rfl rfl)
theorem dJ9_getChar_24 : decode cJ9_getChar 24 = .ok (.invokespecial 56, 3) := dk_183 0 56 (dk_at dksJ9_getChar_1 0 rfl rfl)
theorem dJ9_getChar_27 : decode cJ9_getChar 27 = .ok (.athrow, 1) := dk_191 (dk_at dksJ9_getChar_1 3 rfl rfl)
theorem dJ9_getChar_28 : decode cJ9_getChar 28 = .ok (.iload_n 1, 1) := dk_27 (dk_at dksJ9_getChar_1 4 rfl rfl)
theorem dJ9_getChar_29 : decode cJ9_getChar 29 = .ok (.iconst 1, 1) := dk_4 (dk_at dksJ9_getChar_1 5 rfl rfl)
theorem dJ9_getChar_30 : decode cJ9_getChar 30 = .ok (.ishl, 1) := dk_120 (dk_at dksJ9_getChar_1 6 rfl rfl)
theorem dJ9_getChar_31 : decode cJ9_getChar 31 = .ok (.istore_n 1, 1) := dk_60 (dk_at dksJ9_getChar_1 7 rfl rfl)
theorem dJ9_getChar_32 : decode cJ9_getChar 32 = .ok (.aload_n 0, 1) := dk_42 (dk_at dksJ9_getChar_1 8 rfl rfl)
theorem dJ9_getChar_33 : decode cJ9_getChar 33 = .ok (.iload_n 1, 1) := dk_27 (dk_at dksJ9_getChar_1 9 rfl rfl)
theorem dJ9_getChar_34 : decode cJ9_getChar 34 = .ok (.iinc 1 1, 3) := dk_132 1 1 (dk_at dksJ9_getChar_1 10 rfl rfl)
theorem dJ9_getChar_37 : decode cJ9_getChar 37 = .ok (.baload, 1) := dk_51 (dk_at dksJ9_getChar_1 13 rfl rfl)
theorem dJ9_getChar_38 : decode cJ9_getChar 38 = .ok (.sipush 255, 3) := dk_17 0 255 (dk_at dksJ9_getChar_1 14 rfl rfl)
theorem dJ9_getChar_41 : decode cJ9_getChar 41 = .ok (.iand, 1) := dk_126 (dk_at dksJ9_getChar_1 17 rfl rfl)
theorem dJ9_getChar_42 : decode cJ9_getChar 42 = .ok (.getstatic 59, 3) := dk_178 0 59 (dk_at dksJ9_getChar_1 18 rfl rfl)
theorem dJ9_getChar_45 : decode cJ9_getChar 45 = .ok (.ishl, 1) := dk_120 (dk_at dksJ9_getChar_1 21 rfl rfl)
theorem dJ9_getChar_46 : decode cJ9_getChar 46 = .ok (.aload_n 0, 1) := dk_42 (dk_at dksJ9_getChar_1 22 rfl rfl)
theorem dJ9_getChar_47 : decode cJ9_getChar 47 = .ok (.iload_n 1, 1) := dk_27 (dk_at dksJ9_getChar_1 23 rfl rfl)
theorem dJ9_getChar_48 : decode cJ9_getChar 48 = .ok (.baload, 1) := dk_51 (dk_at dksJ9_getChar_2 0 rfl rfl)
theorem dJ9_getChar_49 : decode cJ9_getChar 49 = .ok (.sipush 255, 3) := dk_17 0 255 (dk_at dksJ9_getChar_2 1 rfl rfl)
theorem dJ9_getChar_52 : decode cJ9_getChar 52 = .ok (.iand, 1) := dk_126 (dk_at dksJ9_getChar_2 4 rfl rfl)
theorem dJ9_getChar_53 : decode cJ9_getChar 53 = .ok (.getstatic 63, 3) := dk_178 0 63 (dk_at dksJ9_getChar_2 5 rfl rfl)
theorem dJ9_getChar_56 : decode cJ9_getChar 56 = .ok (.ishl, 1) := dk_120 (dk_at dksJ9_getChar_2 8 rfl rfl)
theorem dJ9_getChar_57 : decode cJ9_getChar 57 = .ok (.ior, 1) := dk_128 (dk_at dksJ9_getChar_2 9 rfl rfl)
theorem dJ9_getChar_58 : decode cJ9_getChar 58 = .ok (.i2c, 1) := dk_146 (dk_at dksJ9_getChar_2 10 rfl rfl)
theorem dJ9_getChar_59 : decode cJ9_getChar 59 = .ok (.ireturn, 1) := dk_172 (dk_at dksJ9_getChar_2 11 rfl rfl)
abbrev cJ9_indexOf : ByteArray := prog_17_method_40_code
def yJ9_indexOf : MethodName := ⟨RJ9, "indexOf", "([BIII)I"⟩
def dkwJ9_indexOf_1 : List UInt8 := [18, 227, 162, 0, 11, 42, 27, 28, 29, 184, 0, 228, 172, 42, 27, 28, 29, 184, 0, 232, 172]
abbrev dktJ9_indexOf_1 : List UInt8 := dkwJ9_indexOf_1 ++ []
def dkwJ9_indexOf_0 : List UInt8 := [28, 3, 184, 0, 224, 61, 29, 42, 190, 4, 122, 184, 0, 183, 62, 28, 29, 161, 0, 5, 2, 172, 27]
abbrev dktJ9_indexOf_0 : List UInt8 := dkwJ9_indexOf_0 ++ dktJ9_indexOf_1
theorem dksJ9_indexOf_0 : cJ9_indexOf.data.toList.drop 0 = dktJ9_indexOf_0 := by decide +kernel
theorem dksJ9_indexOf_1 : cJ9_indexOf.data.toList.drop 23 = dktJ9_indexOf_1 := dk_seg dksJ9_indexOf_0 23 rfl rfl
theorem dJ9_indexOf_0 : decode cJ9_indexOf 0 = .ok (.iload_n 2, 1) := dk_28 (dk_at dksJ9_indexOf_0 0 rfl rfl)
theorem dJ9_indexOf_1 : decode cJ9_indexOf 1 = .ok (.iconst 0, 1) := dk_3 (dk_at dksJ9_indexOf_0 1 rfl rfl)
theorem dJ9_indexOf_2 : decode cJ9_indexOf 2 = .ok (.invokestatic 224, 3) := dk_184 0 224 (dk_at dksJ9_indexOf_0 2 rfl rfl)
theorem dJ9_indexOf_5 : decode cJ9_indexOf 5 = .ok (.istore_n 2, 1) := dk_61 (dk_at dksJ9_indexOf_0 5 rfl rfl)
theorem dJ9_indexOf_6 : decode cJ9_indexOf 6 = .ok (.iload_n 3, 1) := dk_29 (dk_at dksJ9_indexOf_0 6 rfl rfl)
theorem dJ9_indexOf_7 : decode cJ9_indexOf 7 = .ok (.aload_n 0, 1) := dk_42 (dk_at dksJ9_indexOf_0 7 rfl rfl)
theorem dJ9_indexOf_8 : decode cJ9_indexOf 8 = .ok (.arraylength, 1) := dk_190 (dk_at dksJ9_indexOf_0 8 rfl rfl)
theorem dJ9_indexOf_9 : decode cJ9_indexOf 9 = .ok (.iconst 1, 1) := dk_4 (dk_at dksJ9_indexOf_0 9 rfl rfl)
theorem dJ9_indexOf_10 : decode cJ9_indexOf 10 = .ok (.ishr, 1) := dk_122 (dk_at dksJ9_indexOf_0 10 rfl rfl)
theorem dJ9_indexOf_11 : decode cJ9_indexOf 11 = .ok (.invokestatic 183, 3) := dk_184 0 183 (dk_at dksJ9_indexOf_0 11 rfl rfl)
theorem dJ9_indexOf_14 : decode cJ9_indexOf 14 = .ok (.istore_n 3, 1) := dk_62 (dk_at dksJ9_indexOf_0 14 rfl rfl)
theorem dJ9_indexOf_15 : decode cJ9_indexOf 15 = .ok (.iload_n 2, 1) := dk_28 (dk_at dksJ9_indexOf_0 15 rfl rfl)
theorem dJ9_indexOf_16 : decode cJ9_indexOf 16 = .ok (.iload_n 3, 1) := dk_29 (dk_at dksJ9_indexOf_0 16 rfl rfl)
theorem dJ9_indexOf_17 : decode cJ9_indexOf 17 = .ok (.if_icmp .lt 5, 3) := dk_161 0 5 (dk_at dksJ9_indexOf_0 17 rfl rfl)
theorem dJ9_indexOf_20 : decode cJ9_indexOf 20 = .ok (.iconst (-1), 1) := dk_2 (dk_at dksJ9_indexOf_0 20 rfl rfl)
theorem dJ9_indexOf_21 : decode cJ9_indexOf 21 = .ok (.ireturn, 1) := dk_172 (dk_at dksJ9_indexOf_0 21 rfl rfl)
theorem dJ9_indexOf_22 : decode cJ9_indexOf 22 = .ok (.iload_n 1, 1) := dk_27 (dk_at dksJ9_indexOf_0 22 rfl rfl)
theorem dJ9_indexOf_23 : decode cJ9_indexOf 23 = .ok (.ldc 227, 2) := dk_18 227 (dk_at dksJ9_indexOf_1 0 rfl rfl)
theorem dJ9_indexOf_25 : decode cJ9_indexOf 25 = .ok (.if_icmp .ge 11, 3) := dk_162 0 11 (dk_at dksJ9_indexOf_1 2 rfl rfl)
theorem dJ9_indexOf_28 : decode cJ9_indexOf 28 = .ok (.aload_n 0, 1) := dk_42 (dk_at dksJ9_indexOf_1 5 rfl rfl)
theorem dJ9_indexOf_29 : decode cJ9_indexOf 29 = .ok (.iload_n 1, 1) := dk_27 (dk_at dksJ9_indexOf_1 6 rfl rfl)
theorem dJ9_indexOf_30 : decode cJ9_indexOf 30 = .ok (.iload_n 2, 1) := dk_28 (dk_at dksJ9_indexOf_1 7 rfl rfl)
theorem dJ9_indexOf_31 : decode cJ9_indexOf 31 = .ok (.iload_n 3, 1) := dk_29 (dk_at dksJ9_indexOf_1 8 rfl rfl)
theorem dJ9_indexOf_32 : decode cJ9_indexOf 32 = .ok (.invokestatic 228, 3) := dk_184 0 228 (dk_at dksJ9_indexOf_1 9 rfl rfl)
theorem dJ9_indexOf_35 : decode cJ9_indexOf 35 = .ok (.ireturn, 1) := dk_172 (dk_at dksJ9_indexOf_1 12 rfl rfl)
theorem dJ9_indexOf_36 : decode cJ9_indexOf 36 = .ok (.aload_n 0, 1) := dk_42 (dk_at dksJ9_indexOf_1 13 rfl rfl)
theorem dJ9_indexOf_37 : decode cJ9_indexOf 37 = .ok (.iload_n 1, 1) := dk_27 (dk_at dksJ9_indexOf_1 14 rfl rfl)
theorem dJ9_indexOf_38 : decode cJ9_indexOf 38 = .ok (.iload_n 2, 1) := dk_28 (dk_at dksJ9_indexOf_1 15 rfl rfl)
theorem dJ9_indexOf_39 : decode cJ9_indexOf 39 = .ok (.iload_n 3, 1) := dk_29 (dk_at dksJ9_indexOf_1 16 rfl rfl)
theorem dJ9_indexOf_40 : decode cJ9_indexOf 40 = .ok (.invokestatic 232, 3) := dk_184 0 232 (dk_at dksJ9_indexOf_1 17 rfl rfl)
theorem dJ9_indexOf_43 : decode cJ9_indexOf 43 = .ok (.ireturn, 1) := dk_172 (dk_at dksJ9_indexOf_1 20 rfl rfl)
abbrev cJ9_indexOfChar : ByteArray := prog_17_method_47_code
def yJ9_indexOfChar : MethodName := ⟨RJ9, "indexOfChar", "([BIII)I"⟩
def dkwJ9_indexOfChar_0 : List UInt8 := [28, 29, 42, 184, 0, 96, 42, 27, 28, 29, 184, 0, 244, 172]
abbrev dktJ9_indexOfChar_0 : List UInt8 := dkwJ9_indexOfChar_0 ++ []
theorem dksJ9_indexOfChar_0 : cJ9_indexOfChar.data.toList.drop 0 = dktJ9_indexOfChar_0 := by decide +kernel
theorem dJ9_indexOfChar_0 : decode cJ9_indexOfChar 0 = .ok (.iload_n 2, 1) := dk_28 (dk_at dksJ9_indexOfChar_0 0 rfl rfl)
theorem dJ9_indexOfChar_1 : decode cJ9_indexOfChar 1 = .ok (.iload_n 3, 1) := dk_29 (dk_at dksJ9_indexOfChar_0 1 rfl rfl)
theorem dJ9_indexOfChar_2 : decode cJ9_indexOfChar 2 = .ok (.aload_n 0, 1) := dk_42 (dk_at dksJ9_indexOfChar_0 2 rfl rfl)
theorem dJ9_indexOfChar_3 : decode cJ9_indexOfChar 3 = .ok (.invokestatic 96, 3) := dk_184 0 96 (dk_at dksJ9_indexOfChar_0 3 rfl rfl)
theorem dJ9_indexOfChar_6 : decode cJ9_indexOfChar 6 = .ok (.aload_n 0, 1) := dk_42 (dk_at dksJ9_indexOfChar_0 6 rfl rfl)
theorem dJ9_indexOfChar_7 : decode cJ9_indexOfChar 7 = .ok (.iload_n 1, 1) := dk_27 (dk_at dksJ9_indexOfChar_0 7 rfl rfl)
theorem dJ9_indexOfChar_8 : decode cJ9_indexOfChar 8 = .ok (.iload_n 2, 1) := dk_28 (dk_at dksJ9_indexOfChar_0 8 rfl rfl)
theorem dJ9_indexOfChar_9 : decode cJ9_indexOfChar 9 = .ok (.iload_n 3, 1) := dk_29 (dk_at dksJ9_indexOfChar_0 9 rfl rfl)
theorem dJ9_indexOfChar_10 : decode cJ9_indexOfChar 10 = .ok (.invokestatic 244, 3) := dk_184 0 244 (dk_at dksJ9_indexOfChar_0 10 rfl rfl)
theorem dJ9_indexOfChar_13 : decode cJ9_indexOfChar 13 = .ok (.ireturn, 1) := dk_172 (dk_at dksJ9_indexOfChar_0 13 rfl rfl)
abbrev cJ9_checkBoundsBeginEnd : ByteArray := prog_17_method_93_code
def yJ9_checkBoundsBeginEnd : MethodName := ⟨RJ9, "checkBoundsBeginEnd", "(II[B)V"⟩
def dkwJ9_checkBoundsBeginEnd_0 : List UInt8 := [26, 27, 44, 184, 0, 48, 184, 0, 241, 177]
abbrev dktJ9_checkBoundsBeginEnd_0 : List UInt8 := dkwJ9_checkBoundsBeginEnd_0 ++ []
theorem dksJ9_checkBoundsBeginEnd_0 : cJ9_checkBoundsBeginEnd.data.toList.drop 0 = dktJ9_checkBoundsBeginEnd_0 := by decide +kernel
theorem dJ9_checkBoundsBeginEnd_0 : decode cJ9_checkBoundsBeginEnd 0 = .ok (.iload_n 0, 1) := dk_26 (dk_at dksJ9_checkBoundsBeginEnd_0 0 rfl rfl)
theorem dJ9_checkBoundsBeginEnd_1 : decode cJ9_checkBoundsBeginEnd 1 = .ok (.iload_n 1, 1) := dk_27 (dk_at dksJ9_checkBoundsBeginEnd_0 1 rfl rfl)
theorem dJ9_checkBoundsBeginEnd_2 : decode cJ9_checkBoundsBeginEnd 2 = .ok (.aload_n 2, 1) := dk_44 (dk_at dksJ9_checkBoundsBeginEnd_0 2 rfl rfl)
theorem dJ9_checkBoundsBeginEnd_3 : decode cJ9_checkBoundsBeginEnd 3 = .ok (.invokestatic 48, 3) := dk_184 0 48 (dk_at dksJ9_checkBoundsBeginEnd_0 3 rfl rfl)
theorem dJ9_checkBoundsBeginEnd_6 : decode cJ9_checkBoundsBeginEnd 6 = .ok (.invokestatic 241, 3) := dk_184 0 241 (dk_at dksJ9_checkBoundsBeginEnd_0 6 rfl rfl)
theorem dJ9_checkBoundsBeginEnd_9 : decode cJ9_checkBoundsBeginEnd 9 = .ok (.return_, 1) := dk_177 (dk_at dksJ9_checkBoundsBeginEnd_0 9 rfl rfl)
abbrev cJ9_indexOfCharUnsafe : ByteArray := prog_17_method_48_code
def yJ9_indexOfCharUnsafe : MethodName := ⟨RJ9, "indexOfCharUnsafe", "([BIII)I"⟩
def dkwJ9_indexOfCharUnsafe_1 : List UInt8 := [132, 4, 1, 167, 255, 234, 2, 172]
abbrev dktJ9_indexOfCharUnsafe_1 : List UInt8 := dkwJ9_indexOfCharUnsafe_1 ++ []
def dkwJ9_indexOfCharUnsafe_0 : List UInt8 := [28, 54, 4, 21, 4, 29, 162, 0, 22, 42, 21, 4, 184, 0, 71, 27, 160, 0, 6, 21, 4, 172]
abbrev dktJ9_indexOfCharUnsafe_0 : List UInt8 := dkwJ9_indexOfCharUnsafe_0 ++ dktJ9_indexOfCharUnsafe_1
theorem dksJ9_indexOfCharUnsafe_0 : cJ9_indexOfCharUnsafe.data.toList.drop 0 = dktJ9_indexOfCharUnsafe_0 := by decide +kernel
theorem dksJ9_indexOfCharUnsafe_1 : cJ9_indexOfCharUnsafe.data.toList.drop 22 = dktJ9_indexOfCharUnsafe_1 := dk_seg dksJ9_indexOfCharUnsafe_0 22 rfl rfl
theorem dJ9_indexOfCharUnsafe_0 : decode cJ9_indexOfCharUnsafe 0 = .ok (.iload_n 2, 1) := dk_28 (dk_at dksJ9_indexOfCharUnsafe_0 0 rfl rfl)
theorem dJ9_indexOfCharUnsafe_1 : decode cJ9_indexOfCharUnsafe 1 = .ok (.istore 4, 2) := dk_54 4 (dk_at dksJ9_indexOfCharUnsafe_0 1 rfl rfl)
theorem dJ9_indexOfCharUnsafe_3 : decode cJ9_indexOfCharUnsafe 3 = .ok (.iload 4, 2) := dk_21 4 (dk_at dksJ9_indexOfCharUnsafe_0 3 rfl rfl)
theorem dJ9_indexOfCharUnsafe_5 : decode cJ9_indexOfCharUnsafe 5 = .ok (.iload_n 3, 1) := dk_29 (dk_at dksJ9_indexOfCharUnsafe_0 5 rfl rfl)
theorem dJ9_indexOfCharUnsafe_6 : decode cJ9_indexOfCharUnsafe 6 = .ok (.if_icmp .ge 22, 3) := dk_162 0 22 (dk_at dksJ9_indexOfCharUnsafe_0 6 rfl rfl)
theorem dJ9_indexOfCharUnsafe_9 : decode cJ9_indexOfCharUnsafe 9 = .ok (.aload_n 0, 1) := dk_42 (dk_at dksJ9_indexOfCharUnsafe_0 9 rfl rfl)
theorem dJ9_indexOfCharUnsafe_10 : decode cJ9_indexOfCharUnsafe 10 = .ok (.iload 4, 2) := dk_21 4 (dk_at dksJ9_indexOfCharUnsafe_0 10 rfl rfl)
theorem dJ9_indexOfCharUnsafe_12 : decode cJ9_indexOfCharUnsafe 12 = .ok (.invokestatic 71, 3) := dk_184 0 71 (dk_at dksJ9_indexOfCharUnsafe_0 12 rfl rfl)
theorem dJ9_indexOfCharUnsafe_15 : decode cJ9_indexOfCharUnsafe 15 = .ok (.iload_n 1, 1) := dk_27 (dk_at dksJ9_indexOfCharUnsafe_0 15 rfl rfl)
theorem dJ9_indexOfCharUnsafe_16 : decode cJ9_indexOfCharUnsafe 16 = .ok (.if_icmp .ne 6, 3) := dk_160 0 6 (dk_at dksJ9_indexOfCharUnsafe_0 16 rfl rfl)
theorem dJ9_indexOfCharUnsafe_19 : decode cJ9_indexOfCharUnsafe 19 = .ok (.iload 4, 2) := dk_21 4 (dk_at dksJ9_indexOfCharUnsafe_0 19 rfl rfl)
theorem dJ9_indexOfCharUnsafe_21 : decode cJ9_indexOfCharUnsafe 21 = .ok (.ireturn, 1) := dk_172 (dk_at dksJ9_indexOfCharUnsafe_0 21 rfl rfl)
theorem dJ9_indexOfCharUnsafe_22 : decode cJ9_indexOfCharUnsafe 22 = .ok (.iinc 4 1, 3) := dk_132 4 1 (dk_at dksJ9_indexOfCharUnsafe_1 0 rfl rfl)
theorem dJ9_indexOfCharUnsafe_25 : decode cJ9_indexOfCharUnsafe 25 = .ok (.goto (-22), 3) := dk_167 255 234 (dk_at dksJ9_indexOfCharUnsafe_1 3 rfl rfl)
theorem dJ9_indexOfCharUnsafe_28 : decode cJ9_indexOfCharUnsafe 28 = .ok (.iconst (-1), 1) := dk_2 (dk_at dksJ9_indexOfCharUnsafe_1 6 rfl rfl)
theorem dJ9_indexOfCharUnsafe_29 : decode cJ9_indexOfCharUnsafe 29 = .ok (.ireturn, 1) := dk_172 (dk_at dksJ9_indexOfCharUnsafe_1 7 rfl rfl)
abbrev cJ9_indexOfSupplementary : ByteArray := prog_17_method_49_code
def yJ9_indexOfSupplementary : MethodName := ⟨RJ9, "indexOfSupplementary", "([BIII)I"⟩
def dkwJ9_indexOfSupplementary_3 : List UInt8 := [167, 255, 218, 2, 172]
abbrev dktJ9_indexOfSupplementary_3 : List UInt8 := dkwJ9_indexOfSupplementary_3 ++ []
def dkwJ9_indexOfSupplementary_2 : List UInt8 := [160, 0, 19, 42, 21, 6, 4, 96, 184, 0, 71, 21, 5, 160, 0, 6, 21, 6, 172, 132, 6, 1]
abbrev dktJ9_indexOfSupplementary_2 : List UInt8 := dkwJ9_indexOfSupplementary_2 ++ dktJ9_indexOfSupplementary_3
def dkwJ9_indexOfSupplementary_1 : List UInt8 := [184, 0, 96, 28, 54, 6, 21, 6, 29, 4, 100, 162, 0, 36, 42, 21, 6, 184, 0, 71, 21, 4]
abbrev dktJ9_indexOfSupplementary_1 : List UInt8 := dkwJ9_indexOfSupplementary_1 ++ dktJ9_indexOfSupplementary_2
def dkwJ9_indexOfSupplementary_0 : List UInt8 := [27, 184, 0, 164, 153, 0, 65, 27, 184, 0, 157, 54, 4, 27, 184, 0, 161, 54, 5, 28, 29, 42]
abbrev dktJ9_indexOfSupplementary_0 : List UInt8 := dkwJ9_indexOfSupplementary_0 ++ dktJ9_indexOfSupplementary_1
theorem dksJ9_indexOfSupplementary_0 : cJ9_indexOfSupplementary.data.toList.drop 0 = dktJ9_indexOfSupplementary_0 := by decide +kernel
theorem dksJ9_indexOfSupplementary_1 : cJ9_indexOfSupplementary.data.toList.drop 22 = dktJ9_indexOfSupplementary_1 := dk_seg dksJ9_indexOfSupplementary_0 22 rfl rfl
theorem dksJ9_indexOfSupplementary_2 : cJ9_indexOfSupplementary.data.toList.drop 44 = dktJ9_indexOfSupplementary_2 := dk_seg dksJ9_indexOfSupplementary_1 22 rfl rfl
theorem dksJ9_indexOfSupplementary_3 : cJ9_indexOfSupplementary.data.toList.drop 66 = dktJ9_indexOfSupplementary_3 := dk_seg dksJ9_indexOfSupplementary_2 22 rfl rfl
theorem dJ9_indexOfSupplementary_0 : decode cJ9_indexOfSupplementary 0 = .ok (.iload_n 1, 1) := dk_27 (dk_at dksJ9_indexOfSupplementary_0 0 rfl rfl)
theorem dJ9_indexOfSupplementary_1 : decode cJ9_indexOfSupplementary 1 = .ok (.invokestatic 164, 3) := dk_184 0 164 (dk_at dksJ9_indexOfSupplementary_0 1 rfl rfl)
theorem dJ9_indexOfSupplementary_4 : decode cJ9_indexOfSupplementary 4 = .ok (.ifCond .eq 65, 3) := dk_153 0 65 (dk_at dksJ9_indexOfSupplementary_0 4 rfl rfl)
theorem dJ9_indexOfSupplementary_7 : decode cJ9_indexOfSupplementary 7 = .ok (.iload_n 1, 1) := dk_27 (dk_at dksJ9_indexOfSupplementary_0 7 rfl rfl)
theorem dJ9_indexOfSupplementary_8 : decode cJ9_indexOfSupplementary 8 = .ok (.invokestatic 157, 3) := dk_184 0 157 (dk_at dksJ9_indexOfSupplementary_0 8 rfl rfl)
theorem dJ9_indexOfSupplementary_11 : decode cJ9_indexOfSupplementary 11 = .ok (.istore 4, 2) := dk_54 4 (dk_at dksJ9_indexOfSupplementary_0 11 rfl rfl)
theorem dJ9_indexOfSupplementary_13 : decode cJ9_indexOfSupplementary 13 = .ok (.iload_n 1, 1) := dk_27 (dk_at dksJ9_indexOfSupplementary_0 13 rfl rfl)
theorem dJ9_indexOfSupplementary_14 : decode cJ9_indexOfSupplementary 14 = .ok (.invokestatic 161, 3) := dk_184 0 161 (dk_at dksJ9_indexOfSupplementary_0 14 rfl rfl)
theorem dJ9_indexOfSupplementary_17 : decode cJ9_indexOfSupplementary 17 = .ok (.istore 5, 2) := dk_54 5 (dk_at dksJ9_indexOfSupplementary_0 17 rfl rfl)
theorem dJ9_indexOfSupplementary_19 : decode cJ9_indexOfSupplementary 19 = .ok (.iload_n 2, 1) := dk_28 (dk_at dksJ9_indexOfSupplementary_0 19 rfl rfl)
theorem dJ9_indexOfSupplementary_20 : decode cJ9_indexOfSupplementary 20 = .ok (.iload_n 3, 1) := dk_29 (dk_at dksJ9_indexOfSupplementary_0 20 rfl rfl)
theorem dJ9_indexOfSupplementary_21 : decode cJ9_indexOfSupplementary 21 = .ok (.aload_n 0, 1) := dk_42 (dk_at dksJ9_indexOfSupplementary_0 21 rfl rfl)
theorem dJ9_indexOfSupplementary_22 : decode cJ9_indexOfSupplementary 22 = .ok (.invokestatic 96, 3) := dk_184 0 96 (dk_at dksJ9_indexOfSupplementary_1 0 rfl rfl)
theorem dJ9_indexOfSupplementary_25 : decode cJ9_indexOfSupplementary 25 = .ok (.iload_n 2, 1) := dk_28 (dk_at dksJ9_indexOfSupplementary_1 3 rfl rfl)
theorem dJ9_indexOfSupplementary_26 : decode cJ9_indexOfSupplementary 26 = .ok (.istore 6, 2) := dk_54 6 (dk_at dksJ9_indexOfSupplementary_1 4 rfl rfl)
theorem dJ9_indexOfSupplementary_28 : decode cJ9_indexOfSupplementary 28 = .ok (.iload 6, 2) := dk_21 6 (dk_at dksJ9_indexOfSupplementary_1 6 rfl rfl)
theorem dJ9_indexOfSupplementary_30 : decode cJ9_indexOfSupplementary 30 = .ok (.iload_n 3, 1) := dk_29 (dk_at dksJ9_indexOfSupplementary_1 8 rfl rfl)
theorem dJ9_indexOfSupplementary_31 : decode cJ9_indexOfSupplementary 31 = .ok (.iconst 1, 1) := dk_4 (dk_at dksJ9_indexOfSupplementary_1 9 rfl rfl)
theorem dJ9_indexOfSupplementary_32 : decode cJ9_indexOfSupplementary 32 = .ok (.isub, 1) := dk_100 (dk_at dksJ9_indexOfSupplementary_1 10 rfl rfl)
theorem dJ9_indexOfSupplementary_33 : decode cJ9_indexOfSupplementary 33 = .ok (.if_icmp .ge 36, 3) := dk_162 0 36 (dk_at dksJ9_indexOfSupplementary_1 11 rfl rfl)
theorem dJ9_indexOfSupplementary_36 : decode cJ9_indexOfSupplementary 36 = .ok (.aload_n 0, 1) := dk_42 (dk_at dksJ9_indexOfSupplementary_1 14 rfl rfl)
theorem dJ9_indexOfSupplementary_37 : decode cJ9_indexOfSupplementary 37 = .ok (.iload 6, 2) := dk_21 6 (dk_at dksJ9_indexOfSupplementary_1 15 rfl rfl)
theorem dJ9_indexOfSupplementary_39 : decode cJ9_indexOfSupplementary 39 = .ok (.invokestatic 71, 3) := dk_184 0 71 (dk_at dksJ9_indexOfSupplementary_1 17 rfl rfl)
theorem dJ9_indexOfSupplementary_42 : decode cJ9_indexOfSupplementary 42 = .ok (.iload 4, 2) := dk_21 4 (dk_at dksJ9_indexOfSupplementary_1 20 rfl rfl)
theorem dJ9_indexOfSupplementary_44 : decode cJ9_indexOfSupplementary 44 = .ok (.if_icmp .ne 19, 3) := dk_160 0 19 (dk_at dksJ9_indexOfSupplementary_2 0 rfl rfl)
theorem dJ9_indexOfSupplementary_47 : decode cJ9_indexOfSupplementary 47 = .ok (.aload_n 0, 1) := dk_42 (dk_at dksJ9_indexOfSupplementary_2 3 rfl rfl)
theorem dJ9_indexOfSupplementary_48 : decode cJ9_indexOfSupplementary 48 = .ok (.iload 6, 2) := dk_21 6 (dk_at dksJ9_indexOfSupplementary_2 4 rfl rfl)
theorem dJ9_indexOfSupplementary_50 : decode cJ9_indexOfSupplementary 50 = .ok (.iconst 1, 1) := dk_4 (dk_at dksJ9_indexOfSupplementary_2 6 rfl rfl)
theorem dJ9_indexOfSupplementary_51 : decode cJ9_indexOfSupplementary 51 = .ok (.iadd, 1) := dk_96 (dk_at dksJ9_indexOfSupplementary_2 7 rfl rfl)
theorem dJ9_indexOfSupplementary_52 : decode cJ9_indexOfSupplementary 52 = .ok (.invokestatic 71, 3) := dk_184 0 71 (dk_at dksJ9_indexOfSupplementary_2 8 rfl rfl)
theorem dJ9_indexOfSupplementary_55 : decode cJ9_indexOfSupplementary 55 = .ok (.iload 5, 2) := dk_21 5 (dk_at dksJ9_indexOfSupplementary_2 11 rfl rfl)
theorem dJ9_indexOfSupplementary_57 : decode cJ9_indexOfSupplementary 57 = .ok (.if_icmp .ne 6, 3) := dk_160 0 6 (dk_at dksJ9_indexOfSupplementary_2 13 rfl rfl)
theorem dJ9_indexOfSupplementary_60 : decode cJ9_indexOfSupplementary 60 = .ok (.iload 6, 2) := dk_21 6 (dk_at dksJ9_indexOfSupplementary_2 16 rfl rfl)
theorem dJ9_indexOfSupplementary_62 : decode cJ9_indexOfSupplementary 62 = .ok (.ireturn, 1) := dk_172 (dk_at dksJ9_indexOfSupplementary_2 18 rfl rfl)
theorem dJ9_indexOfSupplementary_63 : decode cJ9_indexOfSupplementary 63 = .ok (.iinc 6 1, 3) := dk_132 6 1 (dk_at dksJ9_indexOfSupplementary_2 19 rfl rfl)
theorem dJ9_indexOfSupplementary_66 : decode cJ9_indexOfSupplementary 66 = .ok (.goto (-38), 3) := dk_167 255 218 (dk_at dksJ9_indexOfSupplementary_3 0 rfl rfl)
theorem dJ9_indexOfSupplementary_69 : decode cJ9_indexOfSupplementary 69 = .ok (.iconst (-1), 1) := dk_2 (dk_at dksJ9_indexOfSupplementary_3 3 rfl rfl)
theorem dJ9_indexOfSupplementary_70 : decode cJ9_indexOfSupplementary 70 = .ok (.ireturn, 1) := dk_172 (dk_at dksJ9_indexOfSupplementary_3 4 rfl rfl)
theorem q250 : (Jvm.Cond.initialized "java/lang/StringUTF16") ∈ lw_all := lw_g (lw_at lw_m1 15 rfl) rfl
theorem q756 : (Jvm.Cond.static ({ cls := "java/lang/StringUTF16", name := "charAt", desc := "([BI)C" } : Jvm.MethodName)) ∈ lw_all := lw_g (lw_at lw_m3 41 rfl) rfl
theorem q757 : (Jvm.Cond.code ({ cls := "java/lang/StringUTF16", name := "charAt", desc := "([BI)C" } : Jvm.MethodName) prog_17_method_83_code (2 : Nat) (Option.some Jvm.ClassFile.FieldType.char)) ∈ lw_all := lw_g (lw_at lw_m3 42 rfl) rfl
theorem q758 : (Jvm.Cond.methodLink "java/lang/StringUTF16" (67 : Nat) ({ cls := "java/lang/StringUTF16", name := "checkIndex", desc := "(I[B)V" } : Jvm.MethodName)) ∈ lw_all := lw_g (lw_at lw_m3 43 rfl) rfl
theorem q759 : (Jvm.Cond.static ({ cls := "java/lang/StringUTF16", name := "checkIndex", desc := "(I[B)V" } : Jvm.MethodName)) ∈ lw_all := lw_g (lw_at lw_m3 44 rfl) rfl
theorem q760 : (Jvm.Cond.code ({ cls := "java/lang/StringUTF16", name := "checkIndex", desc := "(I[B)V" } : Jvm.MethodName) prog_17_method_91_code (2 : Nat) (Option.none : Option Jvm.ClassFile.FieldType)) ∈ lw_all := lw_g (lw_at lw_m3 45 rfl) rfl
theorem q761 : (Jvm.Cond.methodLink "java/lang/StringUTF16" (48 : Nat) ({ cls := "java/lang/StringUTF16", name := "length", desc := "([B)I" } : Jvm.MethodName)) ∈ lw_all := lw_g (lw_at lw_m3 46 rfl) rfl
theorem q762 : (Jvm.Cond.static ({ cls := "java/lang/StringUTF16", name := "length", desc := "([B)I" } : Jvm.MethodName)) ∈ lw_all := lw_g (lw_at lw_m3 47 rfl) rfl
theorem q763 : (Jvm.Cond.code ({ cls := "java/lang/StringUTF16", name := "length", desc := "([B)I" } : Jvm.MethodName) prog_17_method_6_code (1 : Nat) (Option.some Jvm.ClassFile.FieldType.int)) ∈ lw_all := lw_g (lw_at lw_m3 48 rfl) rfl
theorem q764 : (Jvm.Cond.methodLink "java/lang/StringUTF16" (414 : Nat) ({ cls := "java/lang/String", name := "checkIndex", desc := "(II)V" } : Jvm.MethodName)) ∈ lw_all := lw_g (lw_at lw_m3 49 rfl) rfl
theorem q765 : (Jvm.Cond.methodLink "java/lang/StringUTF16" (71 : Nat) ({ cls := "java/lang/StringUTF16", name := "getChar", desc := "([BI)C" } : Jvm.MethodName)) ∈ lw_all := lw_g (lw_at lw_m3 50 rfl) rfl
theorem q766 : (Jvm.Cond.static ({ cls := "java/lang/StringUTF16", name := "getChar", desc := "([BI)C" } : Jvm.MethodName)) ∈ lw_all := lw_g (lw_at lw_m3 51 rfl) rfl
theorem q767 : (Jvm.Cond.code ({ cls := "java/lang/StringUTF16", name := "getChar", desc := "([BI)C" } : Jvm.MethodName) prog_17_method_5_code (2 : Nat) (Option.some Jvm.ClassFile.FieldType.char)) ∈ lw_all := lw_g (lw_at lw_m3 52 rfl) rfl
theorem q768 : (Jvm.Cond.fieldLink "java/lang/StringUTF16" (44 : Nat) "java/lang/StringUTF16" "$assertionsDisabled" "Z") ∈ lw_all := lw_g (lw_at lw_m3 53 rfl) rfl
theorem q769 : (Jvm.Cond.laysStatic "java/lang/StringUTF16" "$assertionsDisabled" "Z") ∈ lw_tbl := lw_at lw_m3 54 rfl
theorem q770 : (Jvm.Cond.fieldLink "java/lang/StringUTF16" (59 : Nat) "java/lang/StringUTF16" "HI_BYTE_SHIFT" "I") ∈ lw_all := lw_g (lw_at lw_m3 55 rfl) rfl
theorem q771 : (Jvm.Cond.laysStatic "java/lang/StringUTF16" "HI_BYTE_SHIFT" "I") ∈ lw_tbl := lw_at lw_m3 56 rfl
theorem q772 : (Jvm.Cond.fieldLink "java/lang/StringUTF16" (63 : Nat) "java/lang/StringUTF16" "LO_BYTE_SHIFT" "I") ∈ lw_all := lw_g (lw_at lw_m3 57 rfl) rfl
theorem q773 : (Jvm.Cond.laysStatic "java/lang/StringUTF16" "LO_BYTE_SHIFT" "I") ∈ lw_tbl := lw_at lw_m3 58 rfl
theorem q1716 : (Jvm.Cond.static ({ cls := "java/lang/StringUTF16", name := "indexOf", desc := "([BIII)I" } : Jvm.MethodName)) ∈ lw_all := lw_g (lw_at lw_m7 41 rfl) rfl
theorem q1717 : (Jvm.Cond.code ({ cls := "java/lang/StringUTF16", name := "indexOf", desc := "([BIII)I" } : Jvm.MethodName) prog_17_method_40_code (4 : Nat) (Option.some Jvm.ClassFile.FieldType.int)) ∈ lw_all := lw_g (lw_at lw_m7 42 rfl) rfl
theorem q1718 : (Jvm.Cond.methodLink "java/lang/StringUTF16" (224 : Nat) ({ cls := "java/lang/Math", name := "max", desc := "(II)I" } : Jvm.MethodName)) ∈ lw_all := lw_g (lw_at lw_m7 43 rfl) rfl
theorem q1719 : (Jvm.Cond.methodLink "java/lang/StringUTF16" (183 : Nat) ({ cls := "java/lang/Math", name := "min", desc := "(II)I" } : Jvm.MethodName)) ∈ lw_all := lw_g (lw_at lw_m7 44 rfl) rfl
theorem q1720 : (Jvm.Cond.constant "java/lang/StringUTF16" (227 : Nat) (65536 : Int32)) ∈ lw_all := lw_g (lw_at lw_m7 45 rfl) rfl
theorem q1721 : (Jvm.Cond.methodLink "java/lang/StringUTF16" (228 : Nat) ({ cls := "java/lang/StringUTF16", name := "indexOfChar", desc := "([BIII)I" } : Jvm.MethodName)) ∈ lw_all := lw_g (lw_at lw_m7 46 rfl) rfl
theorem q1722 : (Jvm.Cond.static ({ cls := "java/lang/StringUTF16", name := "indexOfChar", desc := "([BIII)I" } : Jvm.MethodName)) ∈ lw_all := lw_g (lw_at lw_m7 47 rfl) rfl
theorem q1723 : (Jvm.Cond.code ({ cls := "java/lang/StringUTF16", name := "indexOfChar", desc := "([BIII)I" } : Jvm.MethodName) prog_17_method_47_code (4 : Nat) (Option.some Jvm.ClassFile.FieldType.int)) ∈ lw_all := lw_g (lw_at lw_m7 48 rfl) rfl
theorem q1724 : (Jvm.Cond.methodLink "java/lang/StringUTF16" (96 : Nat) ({ cls := "java/lang/StringUTF16", name := "checkBoundsBeginEnd", desc := "(II[B)V" } : Jvm.MethodName)) ∈ lw_all := lw_g (lw_at lw_m7 49 rfl) rfl
theorem q1725 : (Jvm.Cond.static ({ cls := "java/lang/StringUTF16", name := "checkBoundsBeginEnd", desc := "(II[B)V" } : Jvm.MethodName)) ∈ lw_all := lw_g (lw_at lw_m7 50 rfl) rfl
theorem q1726 : (Jvm.Cond.code ({ cls := "java/lang/StringUTF16", name := "checkBoundsBeginEnd", desc := "(II[B)V" } : Jvm.MethodName) prog_17_method_93_code (3 : Nat) (Option.none : Option Jvm.ClassFile.FieldType)) ∈ lw_all := lw_g (lw_at lw_m7 51 rfl) rfl
theorem q1727 : (Jvm.Cond.methodLink "java/lang/StringUTF16" (241 : Nat) ({ cls := "java/lang/String", name := "checkBoundsBeginEnd", desc := "(III)V" } : Jvm.MethodName)) ∈ lw_all := lw_g (lw_at lw_m7 52 rfl) rfl
theorem q1733 : (Jvm.Cond.methodLink "java/lang/StringUTF16" (244 : Nat) ({ cls := "java/lang/StringUTF16", name := "indexOfCharUnsafe", desc := "([BIII)I" } : Jvm.MethodName)) ∈ lw_all := lw_g (lw_at lw_m7 58 rfl) rfl
theorem q1734 : (Jvm.Cond.static ({ cls := "java/lang/StringUTF16", name := "indexOfCharUnsafe", desc := "([BIII)I" } : Jvm.MethodName)) ∈ lw_all := lw_g (lw_at lw_m7 59 rfl) rfl
theorem q1735 : (Jvm.Cond.code ({ cls := "java/lang/StringUTF16", name := "indexOfCharUnsafe", desc := "([BIII)I" } : Jvm.MethodName) prog_17_method_48_code (5 : Nat) (Option.some Jvm.ClassFile.FieldType.int)) ∈ lw_all := lw_g (lw_at lw_m7 60 rfl) rfl
theorem q1736 : (Jvm.Cond.methodLink "java/lang/StringUTF16" (232 : Nat) ({ cls := "java/lang/StringUTF16", name := "indexOfSupplementary", desc := "([BIII)I" } : Jvm.MethodName)) ∈ lw_all := lw_g (lw_at lw_m7 61 rfl) rfl
theorem q1737 : (Jvm.Cond.static ({ cls := "java/lang/StringUTF16", name := "indexOfSupplementary", desc := "([BIII)I" } : Jvm.MethodName)) ∈ lw_all := lw_g (lw_at lw_m7 62 rfl) rfl
theorem q1738 : (Jvm.Cond.code ({ cls := "java/lang/StringUTF16", name := "indexOfSupplementary", desc := "([BIII)I" } : Jvm.MethodName) prog_17_method_49_code (7 : Nat) (Option.some Jvm.ClassFile.FieldType.int)) ∈ lw_all := lw_g (lw_at lw_m7 63 rfl) rfl
theorem q1739 : (Jvm.Cond.methodLink "java/lang/StringUTF16" (164 : Nat) ({ cls := "java/lang/Character", name := "isValidCodePoint", desc := "(I)Z" } : Jvm.MethodName)) ∈ lw_all := lw_g (lw_at lw_m7 64 rfl) rfl
theorem q1742 : (Jvm.Cond.methodLink "java/lang/StringUTF16" (157 : Nat) ({ cls := "java/lang/Character", name := "highSurrogate", desc := "(I)C" } : Jvm.MethodName)) ∈ lw_all := lw_g (lw_at lw_m7 67 rfl) rfl
theorem q1746 : (Jvm.Cond.methodLink "java/lang/StringUTF16" (161 : Nat) ({ cls := "java/lang/Character", name := "lowSurrogate", desc := "(I)C" } : Jvm.MethodName)) ∈ lw_all := lw_g (lw_at lw_m7 71 rfl) rfl
theorem q814 : (Jvm.Cond.sameMethod "[C" "java/lang/Object" "clone" "()Ljava/lang/Object;") ∈ lw_all := lw_g (lw_at lw_m3 99 rfl) rfl
set_option maxRecDepth 100000
theorem q815 : (Jvm.Cond.selects "[C" ({ cls := "[C", name := "clone", desc := "()Ljava/lang/Object;" } : Jvm.MethodName) ({ cls := "java/lang/Object", name := "clone", desc := "()Ljava/lang/Object;" } : Jvm.MethodName)) ∈ lw_all := lw_g (lw_at lw_m3 100 rfl) rfl
theorem q816 : (Jvm.Cond.castable "[C" "java/lang/Cloneable") ∈ lw_tbl := lw_at lw_m3 101 rfl
theorem q786 : (Jvm.Cond.sameMethod "[I" "java/lang/Object" "clone" "()Ljava/lang/Object;") ∈ lw_all := lw_g (lw_at lw_m3 71 rfl) rfl
set_option maxRecDepth 100000
theorem q789 : (Jvm.Cond.selects "[I" ({ cls := "[I", name := "clone", desc := "()Ljava/lang/Object;" } : Jvm.MethodName) ({ cls := "java/lang/Object", name := "clone", desc := "()Ljava/lang/Object;" } : Jvm.MethodName)) ∈ lw_all := lw_g (lw_at lw_m3 74 rfl) rfl
theorem q790 : (Jvm.Cond.castable "[I" "java/lang/Cloneable") ∈ lw_tbl := lw_at lw_m3 75 rfl
theorem q802 : (Jvm.Cond.sameMethod "[J" "java/lang/Object" "clone" "()Ljava/lang/Object;") ∈ lw_all := lw_g (lw_at lw_m3 87 rfl) rfl
set_option maxRecDepth 100000
theorem q803 : (Jvm.Cond.selects "[J" ({ cls := "[J", name := "clone", desc := "()Ljava/lang/Object;" } : Jvm.MethodName) ({ cls := "java/lang/Object", name := "clone", desc := "()Ljava/lang/Object;" } : Jvm.MethodName)) ∈ lw_all := lw_g (lw_at lw_m3 88 rfl) rfl
theorem q804 : (Jvm.Cond.castable "[J" "java/lang/Cloneable") ∈ lw_tbl := lw_at lw_m3 89 rfl
theorem q252 : (Jvm.Cond.initialized "java/lang/System") ∈ lw_all := lw_g (lw_at lw_m1 17 rfl) rfl
set_option maxRecDepth 100000
theorem q796 : (Jvm.Cond.static ({ cls := "java/lang/System", name := "arraycopy", desc := "(Ljava/lang/Object;ILjava/lang/Object;II)V" } : Jvm.MethodName)) ∈ lw_all := lw_g (lw_at lw_m3 81 rfl) rfl
theorem q797 : (Jvm.Cond.native ({ cls := "java/lang/System", name := "arraycopy", desc := "(Ljava/lang/Object;ILjava/lang/Object;II)V" } : Jvm.MethodName)) ∈ lw_all := lw_g (lw_at lw_m3 82 rfl) rfl
theorem q350 : (Jvm.Cond.arrayClass Jvm.ClassFile.FieldType.byte) ∈ lw_all := lw_g (lw_at lw_m1 115 rfl) rfl
set_option maxRecDepth 100000
theorem q351 : (Jvm.Cond.arrayClass Jvm.ClassFile.FieldType.int) ∈ lw_all := lw_g (lw_at lw_m1 116 rfl) rfl
theorem q352 : (Jvm.Cond.arrayClass Jvm.ClassFile.FieldType.char) ∈ lw_all := lw_g (lw_at lw_m1 117 rfl) rfl
theorem q353 : (Jvm.Cond.arrayClass Jvm.ClassFile.FieldType.long) ∈ lw_all := lw_g (lw_at lw_m1 118 rfl) rfl
theorem q584 : (Jvm.Cond.arrayClass Jvm.ClassFile.FieldType.boolean) ∈ lw_all := lw_g (lw_at lw_m2 109 rfl) rfl
