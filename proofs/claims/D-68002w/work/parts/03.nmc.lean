/-! VaryStoreLaw -/
set_option maxRecDepth 100000
def RX0 : String := "VaryStoreLaw"
abbrev cX0_ask : ByteArray := method_3_code
def yX0_ask : MethodName := ⟨RX0, "ask", "(LVaryStore;I[J)I"⟩
def dkwX0_ask_0 : List UInt8 := [44, 3, 42, 27, 182, 0, 7, 133, 80, 167, 0, 6, 78, 4, 172, 3, 172]
abbrev dktX0_ask_0 : List UInt8 := dkwX0_ask_0 ++ []
theorem dksX0_ask_0 : cX0_ask.data.toList.drop 0 = dktX0_ask_0 := by decide +kernel
theorem dX0_ask_0 : decode cX0_ask 0 = .ok (.aload_n 2, 1) := dk_44 (dk_at dksX0_ask_0 0 rfl rfl)
theorem dX0_ask_1 : decode cX0_ask 1 = .ok (.iconst 0, 1) := dk_3 (dk_at dksX0_ask_0 1 rfl rfl)
theorem dX0_ask_2 : decode cX0_ask 2 = .ok (.aload_n 0, 1) := dk_42 (dk_at dksX0_ask_0 2 rfl rfl)
theorem dX0_ask_3 : decode cX0_ask 3 = .ok (.iload_n 1, 1) := dk_27 (dk_at dksX0_ask_0 3 rfl rfl)
theorem dX0_ask_4 : decode cX0_ask 4 = .ok (.invokevirtual 7, 3) := dk_182 0 7 (dk_at dksX0_ask_0 4 rfl rfl)
theorem dX0_ask_7 : decode cX0_ask 7 = .ok (.i2l, 1) := dk_133 (dk_at dksX0_ask_0 7 rfl rfl)
theorem dX0_ask_8 : decode cX0_ask 8 = .ok (.lastore, 1) := dk_80 (dk_at dksX0_ask_0 8 rfl rfl)
theorem dX0_ask_9 : decode cX0_ask 9 = .ok (.goto 6, 3) := dk_167 0 6 (dk_at dksX0_ask_0 9 rfl rfl)
theorem dX0_ask_12 : decode cX0_ask 12 = .ok (.astore_n 3, 1) := dk_78 (dk_at dksX0_ask_0 12 rfl rfl)
theorem dX0_ask_13 : decode cX0_ask 13 = .ok (.iconst 1, 1) := dk_4 (dk_at dksX0_ask_0 13 rfl rfl)
theorem dX0_ask_14 : decode cX0_ask 14 = .ok (.ireturn, 1) := dk_172 (dk_at dksX0_ask_0 14 rfl rfl)
theorem dX0_ask_15 : decode cX0_ask 15 = .ok (.iconst 0, 1) := dk_3 (dk_at dksX0_ask_0 15 rfl rfl)
theorem dX0_ask_16 : decode cX0_ask 16 = .ok (.ireturn, 1) := dk_172 (dk_at dksX0_ask_0 16 rfl rfl)
abbrev cX0_keep : ByteArray := method_4_code
def yX0_keep : MethodName := ⟨RX0, "keep", "(LVaryStore;I[J)I"⟩
def dkwX0_keep_0 : List UInt8 := [44, 3, 42, 27, 182, 0, 15, 153, 0, 7, 10, 167, 0, 4, 9, 80, 167, 0, 6, 78, 4, 172, 3, 172]
abbrev dktX0_keep_0 : List UInt8 := dkwX0_keep_0 ++ []
theorem dksX0_keep_0 : cX0_keep.data.toList.drop 0 = dktX0_keep_0 := by decide +kernel
theorem dX0_keep_0 : decode cX0_keep 0 = .ok (.aload_n 2, 1) := dk_44 (dk_at dksX0_keep_0 0 rfl rfl)
theorem dX0_keep_1 : decode cX0_keep 1 = .ok (.iconst 0, 1) := dk_3 (dk_at dksX0_keep_0 1 rfl rfl)
theorem dX0_keep_2 : decode cX0_keep 2 = .ok (.aload_n 0, 1) := dk_42 (dk_at dksX0_keep_0 2 rfl rfl)
theorem dX0_keep_3 : decode cX0_keep 3 = .ok (.iload_n 1, 1) := dk_27 (dk_at dksX0_keep_0 3 rfl rfl)
theorem dX0_keep_4 : decode cX0_keep 4 = .ok (.invokevirtual 15, 3) := dk_182 0 15 (dk_at dksX0_keep_0 4 rfl rfl)
theorem dX0_keep_7 : decode cX0_keep 7 = .ok (.ifCond .eq 7, 3) := dk_153 0 7 (dk_at dksX0_keep_0 7 rfl rfl)
theorem dX0_keep_10 : decode cX0_keep 10 = .ok (.lconst 1, 1) := dk_10 (dk_at dksX0_keep_0 10 rfl rfl)
theorem dX0_keep_11 : decode cX0_keep 11 = .ok (.goto 4, 3) := dk_167 0 4 (dk_at dksX0_keep_0 11 rfl rfl)
theorem dX0_keep_14 : decode cX0_keep 14 = .ok (.lconst 0, 1) := dk_9 (dk_at dksX0_keep_0 14 rfl rfl)
theorem dX0_keep_15 : decode cX0_keep 15 = .ok (.lastore, 1) := dk_80 (dk_at dksX0_keep_0 15 rfl rfl)
theorem dX0_keep_16 : decode cX0_keep 16 = .ok (.goto 6, 3) := dk_167 0 6 (dk_at dksX0_keep_0 16 rfl rfl)
theorem dX0_keep_19 : decode cX0_keep 19 = .ok (.astore_n 3, 1) := dk_78 (dk_at dksX0_keep_0 19 rfl rfl)
theorem dX0_keep_20 : decode cX0_keep 20 = .ok (.iconst 1, 1) := dk_4 (dk_at dksX0_keep_0 20 rfl rfl)
theorem dX0_keep_21 : decode cX0_keep 21 = .ok (.ireturn, 1) := dk_172 (dk_at dksX0_keep_0 21 rfl rfl)
theorem dX0_keep_22 : decode cX0_keep 22 = .ok (.iconst 0, 1) := dk_3 (dk_at dksX0_keep_0 22 rfl rfl)
theorem dX0_keep_23 : decode cX0_keep 23 = .ok (.ireturn, 1) := dk_172 (dk_at dksX0_keep_0 23 rfl rfl)
abbrev cX0_again : ByteArray := method_5_code
def yX0_again : MethodName := ⟨RX0, "again", "(LVaryStore;I[J)I"⟩
def dkwX0_again_0 : List UInt8 := [44, 3, 42, 27, 182, 0, 19, 153, 0, 7, 10, 167, 0, 4, 9, 80, 167, 0, 6, 78, 4, 172, 3, 172]
abbrev dktX0_again_0 : List UInt8 := dkwX0_again_0 ++ []
theorem dksX0_again_0 : cX0_again.data.toList.drop 0 = dktX0_again_0 := by decide +kernel
theorem dX0_again_0 : decode cX0_again 0 = .ok (.aload_n 2, 1) := dk_44 (dk_at dksX0_again_0 0 rfl rfl)
theorem dX0_again_1 : decode cX0_again 1 = .ok (.iconst 0, 1) := dk_3 (dk_at dksX0_again_0 1 rfl rfl)
theorem dX0_again_2 : decode cX0_again 2 = .ok (.aload_n 0, 1) := dk_42 (dk_at dksX0_again_0 2 rfl rfl)
theorem dX0_again_3 : decode cX0_again 3 = .ok (.iload_n 1, 1) := dk_27 (dk_at dksX0_again_0 3 rfl rfl)
theorem dX0_again_4 : decode cX0_again 4 = .ok (.invokevirtual 19, 3) := dk_182 0 19 (dk_at dksX0_again_0 4 rfl rfl)
theorem dX0_again_7 : decode cX0_again 7 = .ok (.ifCond .eq 7, 3) := dk_153 0 7 (dk_at dksX0_again_0 7 rfl rfl)
theorem dX0_again_10 : decode cX0_again 10 = .ok (.lconst 1, 1) := dk_10 (dk_at dksX0_again_0 10 rfl rfl)
theorem dX0_again_11 : decode cX0_again 11 = .ok (.goto 4, 3) := dk_167 0 4 (dk_at dksX0_again_0 11 rfl rfl)
theorem dX0_again_14 : decode cX0_again 14 = .ok (.lconst 0, 1) := dk_9 (dk_at dksX0_again_0 14 rfl rfl)
theorem dX0_again_15 : decode cX0_again 15 = .ok (.lastore, 1) := dk_80 (dk_at dksX0_again_0 15 rfl rfl)
theorem dX0_again_16 : decode cX0_again 16 = .ok (.goto 6, 3) := dk_167 0 6 (dk_at dksX0_again_0 16 rfl rfl)
theorem dX0_again_19 : decode cX0_again 19 = .ok (.astore_n 3, 1) := dk_78 (dk_at dksX0_again_0 19 rfl rfl)
theorem dX0_again_20 : decode cX0_again 20 = .ok (.iconst 1, 1) := dk_4 (dk_at dksX0_again_0 20 rfl rfl)
theorem dX0_again_21 : decode cX0_again 21 = .ok (.ireturn, 1) := dk_172 (dk_at dksX0_again_0 21 rfl rfl)
theorem dX0_again_22 : decode cX0_again 22 = .ok (.iconst 0, 1) := dk_3 (dk_at dksX0_again_0 22 rfl rfl)
theorem dX0_again_23 : decode cX0_again 23 = .ok (.ireturn, 1) := dk_172 (dk_at dksX0_again_0 23 rfl rfl)
abbrev cX0_pass : ByteArray := method_6_code
def yX0_pass : MethodName := ⟨RX0, "pass", "(LVaryStore;I[J)I"⟩
def dkwX0_pass_0 : List UInt8 := [44, 3, 42, 27, 182, 0, 22, 133, 80, 167, 0, 6, 78, 4, 172, 3, 172]
abbrev dktX0_pass_0 : List UInt8 := dkwX0_pass_0 ++ []
theorem dksX0_pass_0 : cX0_pass.data.toList.drop 0 = dktX0_pass_0 := by decide +kernel
theorem dX0_pass_0 : decode cX0_pass 0 = .ok (.aload_n 2, 1) := dk_44 (dk_at dksX0_pass_0 0 rfl rfl)
theorem dX0_pass_1 : decode cX0_pass 1 = .ok (.iconst 0, 1) := dk_3 (dk_at dksX0_pass_0 1 rfl rfl)
theorem dX0_pass_2 : decode cX0_pass 2 = .ok (.aload_n 0, 1) := dk_42 (dk_at dksX0_pass_0 2 rfl rfl)
theorem dX0_pass_3 : decode cX0_pass 3 = .ok (.iload_n 1, 1) := dk_27 (dk_at dksX0_pass_0 3 rfl rfl)
theorem dX0_pass_4 : decode cX0_pass 4 = .ok (.invokevirtual 22, 3) := dk_182 0 22 (dk_at dksX0_pass_0 4 rfl rfl)
theorem dX0_pass_7 : decode cX0_pass 7 = .ok (.i2l, 1) := dk_133 (dk_at dksX0_pass_0 7 rfl rfl)
theorem dX0_pass_8 : decode cX0_pass 8 = .ok (.lastore, 1) := dk_80 (dk_at dksX0_pass_0 8 rfl rfl)
theorem dX0_pass_9 : decode cX0_pass 9 = .ok (.goto 6, 3) := dk_167 0 6 (dk_at dksX0_pass_0 9 rfl rfl)
theorem dX0_pass_12 : decode cX0_pass 12 = .ok (.astore_n 3, 1) := dk_78 (dk_at dksX0_pass_0 12 rfl rfl)
theorem dX0_pass_13 : decode cX0_pass 13 = .ok (.iconst 1, 1) := dk_4 (dk_at dksX0_pass_0 13 rfl rfl)
theorem dX0_pass_14 : decode cX0_pass 14 = .ok (.ireturn, 1) := dk_172 (dk_at dksX0_pass_0 14 rfl rfl)
theorem dX0_pass_15 : decode cX0_pass 15 = .ok (.iconst 0, 1) := dk_3 (dk_at dksX0_pass_0 15 rfl rfl)
theorem dX0_pass_16 : decode cX0_pass 16 = .ok (.ireturn, 1) := dk_172 (dk_at dksX0_pass_0 16 rfl rfl)
abbrev cX0_thing : ByteArray := method_7_code
def yX0_thing : MethodName := ⟨RX0, "thing", "(LVaryStore;II[J)I"⟩
def dkwX0_thing_0 : List UInt8 := [45, 3, 42, 27, 28, 182, 0, 25, 133, 80, 167, 0, 7, 58, 4, 4, 172, 3, 172]
abbrev dktX0_thing_0 : List UInt8 := dkwX0_thing_0 ++ []
theorem dksX0_thing_0 : cX0_thing.data.toList.drop 0 = dktX0_thing_0 := by decide +kernel
theorem dX0_thing_0 : decode cX0_thing 0 = .ok (.aload_n 3, 1) := dk_45 (dk_at dksX0_thing_0 0 rfl rfl)
theorem dX0_thing_1 : decode cX0_thing 1 = .ok (.iconst 0, 1) := dk_3 (dk_at dksX0_thing_0 1 rfl rfl)
theorem dX0_thing_2 : decode cX0_thing 2 = .ok (.aload_n 0, 1) := dk_42 (dk_at dksX0_thing_0 2 rfl rfl)
theorem dX0_thing_3 : decode cX0_thing 3 = .ok (.iload_n 1, 1) := dk_27 (dk_at dksX0_thing_0 3 rfl rfl)
theorem dX0_thing_4 : decode cX0_thing 4 = .ok (.iload_n 2, 1) := dk_28 (dk_at dksX0_thing_0 4 rfl rfl)
theorem dX0_thing_5 : decode cX0_thing 5 = .ok (.invokevirtual 25, 3) := dk_182 0 25 (dk_at dksX0_thing_0 5 rfl rfl)
theorem dX0_thing_8 : decode cX0_thing 8 = .ok (.i2l, 1) := dk_133 (dk_at dksX0_thing_0 8 rfl rfl)
theorem dX0_thing_9 : decode cX0_thing 9 = .ok (.lastore, 1) := dk_80 (dk_at dksX0_thing_0 9 rfl rfl)
theorem dX0_thing_10 : decode cX0_thing 10 = .ok (.goto 7, 3) := dk_167 0 7 (dk_at dksX0_thing_0 10 rfl rfl)
theorem dX0_thing_13 : decode cX0_thing 13 = .ok (.astore 4, 2) := dk_58 4 (dk_at dksX0_thing_0 13 rfl rfl)
theorem dX0_thing_15 : decode cX0_thing 15 = .ok (.iconst 1, 1) := dk_4 (dk_at dksX0_thing_0 15 rfl rfl)
theorem dX0_thing_16 : decode cX0_thing 16 = .ok (.ireturn, 1) := dk_172 (dk_at dksX0_thing_0 16 rfl rfl)
theorem dX0_thing_17 : decode cX0_thing 17 = .ok (.iconst 0, 1) := dk_3 (dk_at dksX0_thing_0 17 rfl rfl)
theorem dX0_thing_18 : decode cX0_thing 18 = .ok (.ireturn, 1) := dk_172 (dk_at dksX0_thing_0 18 rfl rfl)
theorem q31 : (Jvm.Cond.initialized "VaryStoreLaw") ∈ lw_all := lw_g (lw_at lw_m1 0 rfl) rfl
theorem q64 : (Jvm.Cond.classLink "VaryStoreLaw" (8 : Nat) "VaryStore") ∈ lw_all := lw_g (lw_at lw_m1 33 rfl) rfl
theorem q66 : (Jvm.Cond.methodLink "VaryStoreLaw" (31 : Nat) ({ cls := "VaryStore", name := "<init>", desc := "()V" } : Jvm.MethodName)) ∈ lw_all := lw_g (lw_at lw_m1 35 rfl) rfl
theorem q697 : (Jvm.Cond.methodLink "VaryStoreLaw" (37 : Nat) ({ cls := "VaryStore", name := "type", desc := "(JI)Z" } : Jvm.MethodName)) ∈ lw_all := lw_g (lw_at lw_m3 186 rfl) rfl
theorem q702 : (Jvm.Cond.methodLink "VaryStoreLaw" (58 : Nat) ({ cls := "VaryStore", name := "fault", desc := "()I" } : Jvm.MethodName)) ∈ lw_all := lw_g (lw_at lw_m3 191 rfl) rfl
theorem q706 : (Jvm.Cond.methodLink "VaryStoreLaw" (62 : Nat) ({ cls := "VaryStore", name := "purge", desc := "(I)I" } : Jvm.MethodName)) ∈ lw_all := lw_g (lw_at lw_m3 195 rfl) rfl
theorem q714 : (Jvm.Cond.methodLink "VaryStoreLaw" (73 : Nat) ({ cls := "VaryStore", name := "things", desc := "()I" } : Jvm.MethodName)) ∈ lw_all := lw_g (lw_at lw_m3 203 rfl) rfl
theorem q718 : (Jvm.Cond.methodLink "VaryStoreLaw" (42 : Nat) ({ cls := "VaryStoreLaw", name := "ask", desc := "(LVaryStore;I[J)I" } : Jvm.MethodName)) ∈ lw_all := lw_g (lw_at lw_m3 207 rfl) rfl
theorem q719 : (Jvm.Cond.static ({ cls := "VaryStoreLaw", name := "ask", desc := "(LVaryStore;I[J)I" } : Jvm.MethodName)) ∈ lw_all := lw_g (lw_at lw_m3 208 rfl) rfl
theorem q720 : (Jvm.Cond.codeWith ({ cls := "VaryStoreLaw", name := "ask", desc := "(LVaryStore;I[J)I" } : Jvm.MethodName) method_3_code (4 : Nat) (Option.some Jvm.ClassFile.FieldType.int) [((0 : Nat), (9 : Nat), (12 : Nat), (13 : Nat))]) ∈ lw_all := lw_g (lw_at lw_m3 209 rfl) rfl
theorem q721 : (Jvm.Cond.classLink "VaryStoreLaw" (13 : Nat) "java/lang/IllegalArgumentException") ∈ lw_all := lw_g (lw_at lw_m3 210 rfl) rfl
theorem q722 : (Jvm.Cond.methodLink "VaryStoreLaw" (7 : Nat) ({ cls := "VaryStore", name := "ask", desc := "(I)I" } : Jvm.MethodName)) ∈ lw_all := lw_g (lw_at lw_m3 211 rfl) rfl
theorem q868 : (Jvm.Cond.methodLink "VaryStoreLaw" (52 : Nat) ({ cls := "VaryStoreLaw", name := "keep", desc := "(LVaryStore;I[J)I" } : Jvm.MethodName)) ∈ lw_all := lw_g (lw_at lw_m4 117 rfl) rfl
theorem q869 : (Jvm.Cond.static ({ cls := "VaryStoreLaw", name := "keep", desc := "(LVaryStore;I[J)I" } : Jvm.MethodName)) ∈ lw_all := lw_g (lw_at lw_m4 118 rfl) rfl
theorem q870 : (Jvm.Cond.codeWith ({ cls := "VaryStoreLaw", name := "keep", desc := "(LVaryStore;I[J)I" } : Jvm.MethodName) method_4_code (4 : Nat) (Option.some Jvm.ClassFile.FieldType.int) [((0 : Nat), (16 : Nat), (19 : Nat), (13 : Nat))]) ∈ lw_all := lw_g (lw_at lw_m4 119 rfl) rfl
theorem q871 : (Jvm.Cond.methodLink "VaryStoreLaw" (15 : Nat) ({ cls := "VaryStore", name := "keep", desc := "(I)Z" } : Jvm.MethodName)) ∈ lw_all := lw_g (lw_at lw_m4 120 rfl) rfl
theorem q1086 : (Jvm.Cond.methodLink "VaryStoreLaw" (55 : Nat) ({ cls := "VaryStoreLaw", name := "again", desc := "(LVaryStore;I[J)I" } : Jvm.MethodName)) ∈ lw_all := lw_g (lw_at lw_m5 95 rfl) rfl
theorem q1087 : (Jvm.Cond.static ({ cls := "VaryStoreLaw", name := "again", desc := "(LVaryStore;I[J)I" } : Jvm.MethodName)) ∈ lw_all := lw_g (lw_at lw_m5 96 rfl) rfl
theorem q1088 : (Jvm.Cond.codeWith ({ cls := "VaryStoreLaw", name := "again", desc := "(LVaryStore;I[J)I" } : Jvm.MethodName) method_5_code (4 : Nat) (Option.some Jvm.ClassFile.FieldType.int) [((0 : Nat), (16 : Nat), (19 : Nat), (13 : Nat))]) ∈ lw_all := lw_g (lw_at lw_m5 97 rfl) rfl
theorem q1089 : (Jvm.Cond.methodLink "VaryStoreLaw" (19 : Nat) ({ cls := "VaryStore", name := "again", desc := "(I)Z" } : Jvm.MethodName)) ∈ lw_all := lw_g (lw_at lw_m5 98 rfl) rfl
theorem q1093 : (Jvm.Cond.methodLink "VaryStoreLaw" (66 : Nat) ({ cls := "VaryStoreLaw", name := "pass", desc := "(LVaryStore;I[J)I" } : Jvm.MethodName)) ∈ lw_all := lw_g (lw_at lw_m5 102 rfl) rfl
theorem q1094 : (Jvm.Cond.static ({ cls := "VaryStoreLaw", name := "pass", desc := "(LVaryStore;I[J)I" } : Jvm.MethodName)) ∈ lw_all := lw_g (lw_at lw_m5 103 rfl) rfl
theorem q1095 : (Jvm.Cond.codeWith ({ cls := "VaryStoreLaw", name := "pass", desc := "(LVaryStore;I[J)I" } : Jvm.MethodName) method_6_code (4 : Nat) (Option.some Jvm.ClassFile.FieldType.int) [((0 : Nat), (9 : Nat), (12 : Nat), (13 : Nat))]) ∈ lw_all := lw_g (lw_at lw_m5 104 rfl) rfl
theorem q1096 : (Jvm.Cond.methodLink "VaryStoreLaw" (22 : Nat) ({ cls := "VaryStore", name := "pass", desc := "(I)I" } : Jvm.MethodName)) ∈ lw_all := lw_g (lw_at lw_m5 105 rfl) rfl
theorem q1103 : (Jvm.Cond.methodLink "VaryStoreLaw" (69 : Nat) ({ cls := "VaryStoreLaw", name := "thing", desc := "(LVaryStore;II[J)I" } : Jvm.MethodName)) ∈ lw_all := lw_g (lw_at lw_m5 112 rfl) rfl
theorem q1104 : (Jvm.Cond.static ({ cls := "VaryStoreLaw", name := "thing", desc := "(LVaryStore;II[J)I" } : Jvm.MethodName)) ∈ lw_all := lw_g (lw_at lw_m5 113 rfl) rfl
theorem q1105 : (Jvm.Cond.codeWith ({ cls := "VaryStoreLaw", name := "thing", desc := "(LVaryStore;II[J)I" } : Jvm.MethodName) method_7_code (5 : Nat) (Option.some Jvm.ClassFile.FieldType.int) [((0 : Nat), (10 : Nat), (13 : Nat), (29 : Nat))]) ∈ lw_all := lw_g (lw_at lw_m5 114 rfl) rfl
theorem q1106 : (Jvm.Cond.classLink "VaryStoreLaw" (29 : Nat) "java/util/NoSuchElementException") ∈ lw_all := lw_g (lw_at lw_m5 115 rfl) rfl
theorem q1107 : (Jvm.Cond.methodLink "VaryStoreLaw" (25 : Nat) ({ cls := "VaryStore", name := "thing", desc := "(II)I" } : Jvm.MethodName)) ∈ lw_all := lw_g (lw_at lw_m5 116 rfl) rfl
theorem q1120 : (Jvm.Cond.classLink "VaryStoreLaw" (32 : Nat) "VaryStoreModel") ∈ lw_all := lw_g (lw_at lw_m5 129 rfl) rfl
theorem q1122 : (Jvm.Cond.methodLink "VaryStoreLaw" (34 : Nat) ({ cls := "VaryStoreModel", name := "<init>", desc := "()V" } : Jvm.MethodName)) ∈ lw_all := lw_g (lw_at lw_m5 131 rfl) rfl
theorem q1183 : (Jvm.Cond.methodLink "VaryStoreLaw" (48 : Nat) ({ cls := "VaryStoreModel", name := "thrown", desc := "()I" } : Jvm.MethodName)) ∈ lw_all := lw_g (lw_at lw_m5 192 rfl) rfl
theorem q1187 : (Jvm.Cond.methodLink "VaryStoreLaw" (41 : Nat) ({ cls := "VaryStoreModel", name := "type", desc := "(JI)Z" } : Jvm.MethodName)) ∈ lw_all := lw_g (lw_at lw_m5 196 rfl) rfl
theorem q1192 : (Jvm.Cond.methodLink "VaryStoreLaw" (47 : Nat) ({ cls := "VaryStoreModel", name := "ask", desc := "(I)I" } : Jvm.MethodName)) ∈ lw_all := lw_g (lw_at lw_m5 201 rfl) rfl
theorem q1286 : (Jvm.Cond.methodLink "VaryStoreLaw" (54 : Nat) ({ cls := "VaryStoreModel", name := "keep", desc := "(I)Z" } : Jvm.MethodName)) ∈ lw_all := lw_g (lw_at lw_m6 55 rfl) rfl
theorem q1379 : (Jvm.Cond.methodLink "VaryStoreLaw" (57 : Nat) ({ cls := "VaryStoreModel", name := "again", desc := "(I)Z" } : Jvm.MethodName)) ∈ lw_all := lw_g (lw_at lw_m6 148 rfl) rfl
theorem q1383 : (Jvm.Cond.methodLink "VaryStoreLaw" (61 : Nat) ({ cls := "VaryStoreModel", name := "fault", desc := "()I" } : Jvm.MethodName)) ∈ lw_all := lw_g (lw_at lw_m6 152 rfl) rfl
theorem q1387 : (Jvm.Cond.methodLink "VaryStoreLaw" (65 : Nat) ({ cls := "VaryStoreModel", name := "purge", desc := "(I)I" } : Jvm.MethodName)) ∈ lw_all := lw_g (lw_at lw_m6 156 rfl) rfl
theorem q1391 : (Jvm.Cond.methodLink "VaryStoreLaw" (68 : Nat) ({ cls := "VaryStoreModel", name := "pass", desc := "(I)I" } : Jvm.MethodName)) ∈ lw_all := lw_g (lw_at lw_m6 160 rfl) rfl
theorem q1397 : (Jvm.Cond.methodLink "VaryStoreLaw" (72 : Nat) ({ cls := "VaryStoreModel", name := "thing", desc := "(II)I" } : Jvm.MethodName)) ∈ lw_all := lw_g (lw_at lw_m6 166 rfl) rfl
theorem q1401 : (Jvm.Cond.methodLink "VaryStoreLaw" (76 : Nat) ({ cls := "VaryStoreModel", name := "things", desc := "()I" } : Jvm.MethodName)) ∈ lw_all := lw_g (lw_at lw_m6 170 rfl) rfl
theorem q1405 : (Jvm.Cond.constantLong "VaryStoreLaw" (35 : Nat) (4294967295 : Int64)) ∈ lw_all := lw_g (lw_at lw_m6 174 rfl) rfl
/-! VaryStore -/
set_option maxRecDepth 100000
def RX1 : String := "VaryStore"
def TX1 : u_T := fun k => match k with
  | 0 => ("VaryStore", "tape", "[B", true)
  | 1 => ("VaryStore", "things", "Ljava/util/ArrayList;", true)
  | 2 => ("VaryStore", "request", "LVaryStore$Headers;", false)
  | 3 => ("VaryStore", "wish", "LVaryStore$Control;", false)
  | 4 => ("VaryStore", "taped", "I", false)
  | 5 => ("VaryStore", "faultAt", "I", false)
  | 6 => ("VaryStore", "time", "I", false)
  | _ => ("VaryStore", "uses", "I", false)
def tyX1 : Nat → FieldType := fun k => match k with
  | 0 => .array .byte
  | 1 => .object "java/util/ArrayList"
  | 2 => .object "VaryStore$Headers"
  | 3 => .object "VaryStore$Control"
  | 4 => .int
  | 5 => .int
  | 6 => .int
  | _ => .int
abbrev wsX10 : List Cond := u_ws RX1 TX1 8
theorem nmX1 : ∀ a, a < 8 → ∀ b, b < 8 → a ≠ b → (TX1 a).2.1 ≠ (TX1 b).2.1 := by decide +kernel
theorem tyX1_ok : ∀ k, k < 8 → parseFieldDescriptor (TX1 k).2.2.1 = some (tyX1 k) := by decide +kernel
abbrev cX1_init : ByteArray := prog_1_method_6_code
def yX1_init : MethodName := ⟨RX1, "<init>", "()V"⟩
def dkwX1_init_2 : List UInt8 := [2, 181, 0, 69, 177]
abbrev dktX1_init_2 : List UInt8 := dkwX1_init_2 ++ []
def dkwX1_init_1 : List UInt8 := [42, 187, 0, 53, 89, 183, 0, 55, 181, 0, 56, 42, 187, 0, 60, 89, 1, 183, 0, 62, 181, 0, 65, 42]
abbrev dktX1_init_1 : List UInt8 := dkwX1_init_1 ++ dktX1_init_2
def dkwX1_init_0 : List UInt8 := [42, 183, 0, 42, 42, 17, 1, 44, 188, 8, 181, 0, 45, 42, 187, 0, 29, 89, 183, 0, 31, 181, 0, 49]
abbrev dktX1_init_0 : List UInt8 := dkwX1_init_0 ++ dktX1_init_1
theorem dksX1_init_0 : cX1_init.data.toList.drop 0 = dktX1_init_0 := by decide +kernel
theorem dksX1_init_1 : cX1_init.data.toList.drop 24 = dktX1_init_1 := dk_seg dksX1_init_0 24 rfl rfl
theorem dksX1_init_2 : cX1_init.data.toList.drop 48 = dktX1_init_2 := dk_seg dksX1_init_1 24 rfl rfl
theorem dX1_init_0 : decode cX1_init 0 = .ok (.aload_n 0, 1) := dk_42 (dk_at dksX1_init_0 0 rfl rfl)
theorem dX1_init_1 : decode cX1_init 1 = .ok (.invokespecial 42, 3) := dk_183 0 42 (dk_at dksX1_init_0 1 rfl rfl)
theorem dX1_init_4 : decode cX1_init 4 = .ok (.aload_n 0, 1) := dk_42 (dk_at dksX1_init_0 4 rfl rfl)
theorem dX1_init_5 : decode cX1_init 5 = .ok (.sipush 300, 3) := dk_17 1 44 (dk_at dksX1_init_0 5 rfl rfl)
theorem dX1_init_8 : decode cX1_init 8 = .ok (.newarray .byte, 2) := dk_188_8 (dk_at dksX1_init_0 8 rfl rfl)
theorem dX1_init_10 : decode cX1_init 10 = .ok (.putfield 45, 3) := dk_181 0 45 (dk_at dksX1_init_0 10 rfl rfl)
theorem dX1_init_13 : decode cX1_init 13 = .ok (.aload_n 0, 1) := dk_42 (dk_at dksX1_init_0 13 rfl rfl)
theorem dX1_init_14 : decode cX1_init 14 = .ok (.new 29, 3) := dk_187 0 29 (dk_at dksX1_init_0 14 rfl rfl)
theorem dX1_init_17 : decode cX1_init 17 = .ok (.dup, 1) := dk_89 (dk_at dksX1_init_0 17 rfl rfl)
theorem dX1_init_18 : decode cX1_init 18 = .ok (.invokespecial 31, 3) := dk_183 0 31 (dk_at dksX1_init_0 18 rfl rfl)
theorem dX1_init_21 : decode cX1_init 21 = .ok (.putfield 49, 3) := dk_181 0 49 (dk_at dksX1_init_0 21 rfl rfl)
theorem dX1_init_24 : decode cX1_init 24 = .ok (.aload_n 0, 1) := dk_42 (dk_at dksX1_init_1 0 rfl rfl)
theorem dX1_init_25 : decode cX1_init 25 = .ok (.new 53, 3) := dk_187 0 53 (dk_at dksX1_init_1 1 rfl rfl)
theorem dX1_init_28 : decode cX1_init 28 = .ok (.dup, 1) := dk_89 (dk_at dksX1_init_1 4 rfl rfl)
theorem dX1_init_29 : decode cX1_init 29 = .ok (.invokespecial 55, 3) := dk_183 0 55 (dk_at dksX1_init_1 5 rfl rfl)
theorem dX1_init_32 : decode cX1_init 32 = .ok (.putfield 56, 3) := dk_181 0 56 (dk_at dksX1_init_1 8 rfl rfl)
theorem dX1_init_35 : decode cX1_init 35 = .ok (.aload_n 0, 1) := dk_42 (dk_at dksX1_init_1 11 rfl rfl)
theorem dX1_init_36 : decode cX1_init 36 = .ok (.new 60, 3) := dk_187 0 60 (dk_at dksX1_init_1 12 rfl rfl)
theorem dX1_init_39 : decode cX1_init 39 = .ok (.dup, 1) := dk_89 (dk_at dksX1_init_1 15 rfl rfl)
theorem dX1_init_40 : decode cX1_init 40 = .ok (.aconst_null, 1) := dk_1 (dk_at dksX1_init_1 16 rfl rfl)
theorem dX1_init_41 : decode cX1_init 41 = .ok (.invokespecial 62, 3) := dk_183 0 62 (dk_at dksX1_init_1 17 rfl rfl)
theorem dX1_init_44 : decode cX1_init 44 = .ok (.putfield 65, 3) := dk_181 0 65 (dk_at dksX1_init_1 20 rfl rfl)
theorem dX1_init_47 : decode cX1_init 47 = .ok (.aload_n 0, 1) := dk_42 (dk_at dksX1_init_1 23 rfl rfl)
theorem dX1_init_48 : decode cX1_init 48 = .ok (.iconst (-1), 1) := dk_2 (dk_at dksX1_init_2 0 rfl rfl)
theorem dX1_init_49 : decode cX1_init 49 = .ok (.putfield 69, 3) := dk_181 0 69 (dk_at dksX1_init_2 1 rfl rfl)
theorem dX1_init_52 : decode cX1_init 52 = .ok (.return_, 1) := dk_177 (dk_at dksX1_init_2 4 rfl rfl)
abbrev cX1_small : ByteArray := prog_1_method_1_code
def yX1_small : MethodName := ⟨RX1, "small", "(Ljava/lang/String;)Ljava/lang/String;"⟩
def dkwX1_small_2 : List UInt8 := [182, 0, 17, 87, 132, 2, 1, 167, 255, 213, 43, 182, 0, 21, 176]
abbrev dktX1_small_2 : List UInt8 := dkwX1_small_2 ++ []
def dkwX1_small_1 : List UInt8 := [43, 29, 16, 65, 161, 0, 17, 29, 16, 90, 163, 0, 11, 29, 16, 32, 96, 146, 167, 0, 4, 29]
abbrev dktX1_small_1 : List UInt8 := dkwX1_small_1 ++ dktX1_small_2
def dkwX1_small_0 : List UInt8 := [187, 0, 1, 89, 183, 0, 3, 76, 3, 61, 28, 42, 182, 0, 7, 162, 0, 41, 42, 28, 182, 0, 13, 62]
abbrev dktX1_small_0 : List UInt8 := dkwX1_small_0 ++ dktX1_small_1
theorem dksX1_small_0 : cX1_small.data.toList.drop 0 = dktX1_small_0 := by decide +kernel
theorem dksX1_small_1 : cX1_small.data.toList.drop 24 = dktX1_small_1 := dk_seg dksX1_small_0 24 rfl rfl
theorem dksX1_small_2 : cX1_small.data.toList.drop 46 = dktX1_small_2 := dk_seg dksX1_small_1 22 rfl rfl
theorem dX1_small_0 : decode cX1_small 0 = .ok (.new 1, 3) := dk_187 0 1 (dk_at dksX1_small_0 0 rfl rfl)
theorem dX1_small_3 : decode cX1_small 3 = .ok (.dup, 1) := dk_89 (dk_at dksX1_small_0 3 rfl rfl)
theorem dX1_small_4 : decode cX1_small 4 = .ok (.invokespecial 3, 3) := dk_183 0 3 (dk_at dksX1_small_0 4 rfl rfl)
theorem dX1_small_7 : decode cX1_small 7 = .ok (.astore_n 1, 1) := dk_76 (dk_at dksX1_small_0 7 rfl rfl)
theorem dX1_small_8 : decode cX1_small 8 = .ok (.iconst 0, 1) := dk_3 (dk_at dksX1_small_0 8 rfl rfl)
theorem dX1_small_9 : decode cX1_small 9 = .ok (.istore_n 2, 1) := dk_61 (dk_at dksX1_small_0 9 rfl rfl)
theorem dX1_small_10 : decode cX1_small 10 = .ok (.iload_n 2, 1) := dk_28 (dk_at dksX1_small_0 10 rfl rfl)
theorem dX1_small_11 : decode cX1_small 11 = .ok (.aload_n 0, 1) := dk_42 (dk_at dksX1_small_0 11 rfl rfl)
theorem dX1_small_12 : decode cX1_small 12 = .ok (.invokevirtual 7, 3) := dk_182 0 7 (dk_at dksX1_small_0 12 rfl rfl)
theorem dX1_small_15 : decode cX1_small 15 = .ok (.if_icmp .ge 41, 3) := dk_162 0 41 (dk_at dksX1_small_0 15 rfl rfl)
theorem dX1_small_18 : decode cX1_small 18 = .ok (.aload_n 0, 1) := dk_42 (dk_at dksX1_small_0 18 rfl rfl)
theorem dX1_small_19 : decode cX1_small 19 = .ok (.iload_n 2, 1) := dk_28 (dk_at dksX1_small_0 19 rfl rfl)
theorem dX1_small_20 : decode cX1_small 20 = .ok (.invokevirtual 13, 3) := dk_182 0 13 (dk_at dksX1_small_0 20 rfl rfl)
theorem dX1_small_23 : decode cX1_small 23 = .ok (.istore_n 3, 1) := dk_62 (dk_at dksX1_small_0 23 rfl rfl)
theorem dX1_small_24 : decode cX1_small 24 = .ok (.aload_n 1, 1) := dk_43 (dk_at dksX1_small_1 0 rfl rfl)
theorem dX1_small_25 : decode cX1_small 25 = .ok (.iload_n 3, 1) := dk_29 (dk_at dksX1_small_1 1 rfl rfl)
theorem dX1_small_26 : decode cX1_small 26 = .ok (.bipush 65, 2) := dk_16 65 (dk_at dksX1_small_1 2 rfl rfl)
theorem dX1_small_28 : decode cX1_small 28 = .ok (.if_icmp .lt 17, 3) := dk_161 0 17 (dk_at dksX1_small_1 4 rfl rfl)
theorem dX1_small_31 : decode cX1_small 31 = .ok (.iload_n 3, 1) := dk_29 (dk_at dksX1_small_1 7 rfl rfl)
theorem dX1_small_32 : decode cX1_small 32 = .ok (.bipush 90, 2) := dk_16 90 (dk_at dksX1_small_1 8 rfl rfl)
theorem dX1_small_34 : decode cX1_small 34 = .ok (.if_icmp .gt 11, 3) := dk_163 0 11 (dk_at dksX1_small_1 10 rfl rfl)
theorem dX1_small_37 : decode cX1_small 37 = .ok (.iload_n 3, 1) := dk_29 (dk_at dksX1_small_1 13 rfl rfl)
theorem dX1_small_38 : decode cX1_small 38 = .ok (.bipush 32, 2) := dk_16 32 (dk_at dksX1_small_1 14 rfl rfl)
theorem dX1_small_40 : decode cX1_small 40 = .ok (.iadd, 1) := dk_96 (dk_at dksX1_small_1 16 rfl rfl)
theorem dX1_small_41 : decode cX1_small 41 = .ok (.i2c, 1) := dk_146 (dk_at dksX1_small_1 17 rfl rfl)
theorem dX1_small_42 : decode cX1_small 42 = .ok (.goto 4, 3) := dk_167 0 4 (dk_at dksX1_small_1 18 rfl rfl)
theorem dX1_small_45 : decode cX1_small 45 = .ok (.iload_n 3, 1) := dk_29 (dk_at dksX1_small_1 21 rfl rfl)
theorem dX1_small_46 : decode cX1_small 46 = .ok (.invokevirtual 17, 3) := dk_182 0 17 (dk_at dksX1_small_2 0 rfl rfl)
theorem dX1_small_49 : decode cX1_small 49 = .ok (.pop, 1) := dk_87 (dk_at dksX1_small_2 3 rfl rfl)
theorem dX1_small_50 : decode cX1_small 50 = .ok (.iinc 2 1, 3) := dk_132 2 1 (dk_at dksX1_small_2 4 rfl rfl)
theorem dX1_small_53 : decode cX1_small 53 = .ok (.goto (-43), 3) := dk_167 255 213 (dk_at dksX1_small_2 7 rfl rfl)
theorem dX1_small_56 : decode cX1_small 56 = .ok (.aload_n 1, 1) := dk_43 (dk_at dksX1_small_2 10 rfl rfl)
theorem dX1_small_57 : decode cX1_small 57 = .ok (.invokevirtual 21, 3) := dk_182 0 21 (dk_at dksX1_small_2 11 rfl rfl)
theorem dX1_small_60 : decode cX1_small 60 = .ok (.areturn, 1) := dk_176 (dk_at dksX1_small_2 14 rfl rfl)
abbrev cX1_cut : ByteArray := prog_1_method_3_code
def yX1_cut : MethodName := ⟨RX1, "cut", "(Ljava/lang/String;)Ljava/util/ArrayList;"⟩
def dkwX1_cut_3 : List UInt8 := [4, 96, 61, 132, 3, 1, 167, 255, 194, 43, 176]
abbrev dktX1_cut_3 : List UInt8 := dkwX1_cut_3 ++ []
def dkwX1_cut_2 : List UInt8 := [182, 0, 25, 184, 0, 32, 58, 4, 25, 4, 182, 0, 7, 158, 0, 10, 43, 25, 4, 182, 0, 38, 87, 29]
abbrev dktX1_cut_2 : List UInt8 := dkwX1_cut_2 ++ dktX1_cut_3
def dkwX1_cut_1 : List UInt8 := [182, 0, 7, 162, 0, 16, 42, 29, 182, 0, 13, 16, 44, 159, 0, 6, 167, 0, 33, 42, 28, 29]
abbrev dktX1_cut_1 : List UInt8 := dkwX1_cut_1 ++ dktX1_cut_2
def dkwX1_cut_0 : List UInt8 := [187, 0, 29, 89, 183, 0, 31, 76, 3, 61, 3, 62, 29, 42, 182, 0, 7, 163, 0, 60, 29, 42]
abbrev dktX1_cut_0 : List UInt8 := dkwX1_cut_0 ++ dktX1_cut_1
theorem dksX1_cut_0 : cX1_cut.data.toList.drop 0 = dktX1_cut_0 := by decide +kernel
theorem dksX1_cut_1 : cX1_cut.data.toList.drop 22 = dktX1_cut_1 := dk_seg dksX1_cut_0 22 rfl rfl
theorem dksX1_cut_2 : cX1_cut.data.toList.drop 44 = dktX1_cut_2 := dk_seg dksX1_cut_1 22 rfl rfl
theorem dksX1_cut_3 : cX1_cut.data.toList.drop 68 = dktX1_cut_3 := dk_seg dksX1_cut_2 24 rfl rfl
theorem dX1_cut_0 : decode cX1_cut 0 = .ok (.new 29, 3) := dk_187 0 29 (dk_at dksX1_cut_0 0 rfl rfl)
theorem dX1_cut_3 : decode cX1_cut 3 = .ok (.dup, 1) := dk_89 (dk_at dksX1_cut_0 3 rfl rfl)
theorem dX1_cut_4 : decode cX1_cut 4 = .ok (.invokespecial 31, 3) := dk_183 0 31 (dk_at dksX1_cut_0 4 rfl rfl)
theorem dX1_cut_7 : decode cX1_cut 7 = .ok (.astore_n 1, 1) := dk_76 (dk_at dksX1_cut_0 7 rfl rfl)
theorem dX1_cut_8 : decode cX1_cut 8 = .ok (.iconst 0, 1) := dk_3 (dk_at dksX1_cut_0 8 rfl rfl)
theorem dX1_cut_9 : decode cX1_cut 9 = .ok (.istore_n 2, 1) := dk_61 (dk_at dksX1_cut_0 9 rfl rfl)
theorem dX1_cut_10 : decode cX1_cut 10 = .ok (.iconst 0, 1) := dk_3 (dk_at dksX1_cut_0 10 rfl rfl)
theorem dX1_cut_11 : decode cX1_cut 11 = .ok (.istore_n 3, 1) := dk_62 (dk_at dksX1_cut_0 11 rfl rfl)
theorem dX1_cut_12 : decode cX1_cut 12 = .ok (.iload_n 3, 1) := dk_29 (dk_at dksX1_cut_0 12 rfl rfl)
theorem dX1_cut_13 : decode cX1_cut 13 = .ok (.aload_n 0, 1) := dk_42 (dk_at dksX1_cut_0 13 rfl rfl)
theorem dX1_cut_14 : decode cX1_cut 14 = .ok (.invokevirtual 7, 3) := dk_182 0 7 (dk_at dksX1_cut_0 14 rfl rfl)
theorem dX1_cut_17 : decode cX1_cut 17 = .ok (.if_icmp .gt 60, 3) := dk_163 0 60 (dk_at dksX1_cut_0 17 rfl rfl)
theorem dX1_cut_20 : decode cX1_cut 20 = .ok (.iload_n 3, 1) := dk_29 (dk_at dksX1_cut_0 20 rfl rfl)
theorem dX1_cut_21 : decode cX1_cut 21 = .ok (.aload_n 0, 1) := dk_42 (dk_at dksX1_cut_0 21 rfl rfl)
theorem dX1_cut_22 : decode cX1_cut 22 = .ok (.invokevirtual 7, 3) := dk_182 0 7 (dk_at dksX1_cut_1 0 rfl rfl)
theorem dX1_cut_25 : decode cX1_cut 25 = .ok (.if_icmp .ge 16, 3) := dk_162 0 16 (dk_at dksX1_cut_1 3 rfl rfl)
theorem dX1_cut_28 : decode cX1_cut 28 = .ok (.aload_n 0, 1) := dk_42 (dk_at dksX1_cut_1 6 rfl rfl)
theorem dX1_cut_29 : decode cX1_cut 29 = .ok (.iload_n 3, 1) := dk_29 (dk_at dksX1_cut_1 7 rfl rfl)
theorem dX1_cut_30 : decode cX1_cut 30 = .ok (.invokevirtual 13, 3) := dk_182 0 13 (dk_at dksX1_cut_1 8 rfl rfl)
theorem dX1_cut_33 : decode cX1_cut 33 = .ok (.bipush 44, 2) := dk_16 44 (dk_at dksX1_cut_1 11 rfl rfl)
theorem dX1_cut_35 : decode cX1_cut 35 = .ok (.if_icmp .eq 6, 3) := dk_159 0 6 (dk_at dksX1_cut_1 13 rfl rfl)
theorem dX1_cut_38 : decode cX1_cut 38 = .ok (.goto 33, 3) := dk_167 0 33 (dk_at dksX1_cut_1 16 rfl rfl)
theorem dX1_cut_41 : decode cX1_cut 41 = .ok (.aload_n 0, 1) := dk_42 (dk_at dksX1_cut_1 19 rfl rfl)
theorem dX1_cut_42 : decode cX1_cut 42 = .ok (.iload_n 2, 1) := dk_28 (dk_at dksX1_cut_1 20 rfl rfl)
theorem dX1_cut_43 : decode cX1_cut 43 = .ok (.iload_n 3, 1) := dk_29 (dk_at dksX1_cut_1 21 rfl rfl)
theorem dX1_cut_44 : decode cX1_cut 44 = .ok (.invokevirtual 25, 3) := dk_182 0 25 (dk_at dksX1_cut_2 0 rfl rfl)
theorem dX1_cut_47 : decode cX1_cut 47 = .ok (.invokestatic 32, 3) := dk_184 0 32 (dk_at dksX1_cut_2 3 rfl rfl)
theorem dX1_cut_50 : decode cX1_cut 50 = .ok (.astore 4, 2) := dk_58 4 (dk_at dksX1_cut_2 6 rfl rfl)
theorem dX1_cut_52 : decode cX1_cut 52 = .ok (.aload 4, 2) := dk_25 4 (dk_at dksX1_cut_2 8 rfl rfl)
theorem dX1_cut_54 : decode cX1_cut 54 = .ok (.invokevirtual 7, 3) := dk_182 0 7 (dk_at dksX1_cut_2 10 rfl rfl)
theorem dX1_cut_57 : decode cX1_cut 57 = .ok (.ifCond .le 10, 3) := dk_158 0 10 (dk_at dksX1_cut_2 13 rfl rfl)
theorem dX1_cut_60 : decode cX1_cut 60 = .ok (.aload_n 1, 1) := dk_43 (dk_at dksX1_cut_2 16 rfl rfl)
theorem dX1_cut_61 : decode cX1_cut 61 = .ok (.aload 4, 2) := dk_25 4 (dk_at dksX1_cut_2 17 rfl rfl)
theorem dX1_cut_63 : decode cX1_cut 63 = .ok (.invokevirtual 38, 3) := dk_182 0 38 (dk_at dksX1_cut_2 19 rfl rfl)
theorem dX1_cut_66 : decode cX1_cut 66 = .ok (.pop, 1) := dk_87 (dk_at dksX1_cut_2 22 rfl rfl)
theorem dX1_cut_67 : decode cX1_cut 67 = .ok (.iload_n 3, 1) := dk_29 (dk_at dksX1_cut_2 23 rfl rfl)
theorem dX1_cut_68 : decode cX1_cut 68 = .ok (.iconst 1, 1) := dk_4 (dk_at dksX1_cut_3 0 rfl rfl)
theorem dX1_cut_69 : decode cX1_cut 69 = .ok (.iadd, 1) := dk_96 (dk_at dksX1_cut_3 1 rfl rfl)
theorem dX1_cut_70 : decode cX1_cut 70 = .ok (.istore_n 2, 1) := dk_61 (dk_at dksX1_cut_3 2 rfl rfl)
theorem dX1_cut_71 : decode cX1_cut 71 = .ok (.iinc 3 1, 3) := dk_132 3 1 (dk_at dksX1_cut_3 3 rfl rfl)
theorem dX1_cut_74 : decode cX1_cut 74 = .ok (.goto (-62), 3) := dk_167 255 194 (dk_at dksX1_cut_3 6 rfl rfl)
theorem dX1_cut_77 : decode cX1_cut 77 = .ok (.aload_n 1, 1) := dk_43 (dk_at dksX1_cut_3 9 rfl rfl)
theorem dX1_cut_78 : decode cX1_cut 78 = .ok (.areturn, 1) := dk_176 (dk_at dksX1_cut_3 10 rfl rfl)
abbrev cX1_trimmed : ByteArray := prog_1_method_2_code
def yX1_trimmed : MethodName := ⟨RX1, "trimmed", "(Ljava/lang/String;)Ljava/lang/String;"⟩
def dkwX1_trimmed_2 : List UInt8 := [132, 2, 255, 167, 255, 236, 42, 27, 28, 182, 0, 25, 176]
abbrev dktX1_trimmed_2 : List UInt8 := dkwX1_trimmed_2 ++ []
def dkwX1_trimmed_1 : List UInt8 := [132, 1, 1, 167, 255, 238, 28, 27, 164, 0, 21, 42, 28, 4, 100, 182, 0, 13, 16, 32, 160, 0, 9]
abbrev dktX1_trimmed_1 : List UInt8 := dkwX1_trimmed_1 ++ dktX1_trimmed_2
def dkwX1_trimmed_0 : List UInt8 := [3, 60, 42, 182, 0, 7, 61, 27, 28, 162, 0, 19, 42, 27, 182, 0, 13, 16, 32, 160, 0, 9]
abbrev dktX1_trimmed_0 : List UInt8 := dkwX1_trimmed_0 ++ dktX1_trimmed_1
theorem dksX1_trimmed_0 : cX1_trimmed.data.toList.drop 0 = dktX1_trimmed_0 := by decide +kernel
theorem dksX1_trimmed_1 : cX1_trimmed.data.toList.drop 22 = dktX1_trimmed_1 := dk_seg dksX1_trimmed_0 22 rfl rfl
theorem dksX1_trimmed_2 : cX1_trimmed.data.toList.drop 45 = dktX1_trimmed_2 := dk_seg dksX1_trimmed_1 23 rfl rfl
theorem dX1_trimmed_0 : decode cX1_trimmed 0 = .ok (.iconst 0, 1) := dk_3 (dk_at dksX1_trimmed_0 0 rfl rfl)
theorem dX1_trimmed_1 : decode cX1_trimmed 1 = .ok (.istore_n 1, 1) := dk_60 (dk_at dksX1_trimmed_0 1 rfl rfl)
theorem dX1_trimmed_2 : decode cX1_trimmed 2 = .ok (.aload_n 0, 1) := dk_42 (dk_at dksX1_trimmed_0 2 rfl rfl)
theorem dX1_trimmed_3 : decode cX1_trimmed 3 = .ok (.invokevirtual 7, 3) := dk_182 0 7 (dk_at dksX1_trimmed_0 3 rfl rfl)
theorem dX1_trimmed_6 : decode cX1_trimmed 6 = .ok (.istore_n 2, 1) := dk_61 (dk_at dksX1_trimmed_0 6 rfl rfl)
theorem dX1_trimmed_7 : decode cX1_trimmed 7 = .ok (.iload_n 1, 1) := dk_27 (dk_at dksX1_trimmed_0 7 rfl rfl)
theorem dX1_trimmed_8 : decode cX1_trimmed 8 = .ok (.iload_n 2, 1) := dk_28 (dk_at dksX1_trimmed_0 8 rfl rfl)
theorem dX1_trimmed_9 : decode cX1_trimmed 9 = .ok (.if_icmp .ge 19, 3) := dk_162 0 19 (dk_at dksX1_trimmed_0 9 rfl rfl)
theorem dX1_trimmed_12 : decode cX1_trimmed 12 = .ok (.aload_n 0, 1) := dk_42 (dk_at dksX1_trimmed_0 12 rfl rfl)
theorem dX1_trimmed_13 : decode cX1_trimmed 13 = .ok (.iload_n 1, 1) := dk_27 (dk_at dksX1_trimmed_0 13 rfl rfl)
theorem dX1_trimmed_14 : decode cX1_trimmed 14 = .ok (.invokevirtual 13, 3) := dk_182 0 13 (dk_at dksX1_trimmed_0 14 rfl rfl)
theorem dX1_trimmed_17 : decode cX1_trimmed 17 = .ok (.bipush 32, 2) := dk_16 32 (dk_at dksX1_trimmed_0 17 rfl rfl)
theorem dX1_trimmed_19 : decode cX1_trimmed 19 = .ok (.if_icmp .ne 9, 3) := dk_160 0 9 (dk_at dksX1_trimmed_0 19 rfl rfl)
theorem dX1_trimmed_22 : decode cX1_trimmed 22 = .ok (.iinc 1 1, 3) := dk_132 1 1 (dk_at dksX1_trimmed_1 0 rfl rfl)
theorem dX1_trimmed_25 : decode cX1_trimmed 25 = .ok (.goto (-18), 3) := dk_167 255 238 (dk_at dksX1_trimmed_1 3 rfl rfl)
theorem dX1_trimmed_28 : decode cX1_trimmed 28 = .ok (.iload_n 2, 1) := dk_28 (dk_at dksX1_trimmed_1 6 rfl rfl)
theorem dX1_trimmed_29 : decode cX1_trimmed 29 = .ok (.iload_n 1, 1) := dk_27 (dk_at dksX1_trimmed_1 7 rfl rfl)
theorem dX1_trimmed_30 : decode cX1_trimmed 30 = .ok (.if_icmp .le 21, 3) := dk_164 0 21 (dk_at dksX1_trimmed_1 8 rfl rfl)
theorem dX1_trimmed_33 : decode cX1_trimmed 33 = .ok (.aload_n 0, 1) := dk_42 (dk_at dksX1_trimmed_1 11 rfl rfl)
theorem dX1_trimmed_34 : decode cX1_trimmed 34 = .ok (.iload_n 2, 1) := dk_28 (dk_at dksX1_trimmed_1 12 rfl rfl)
theorem dX1_trimmed_35 : decode cX1_trimmed 35 = .ok (.iconst 1, 1) := dk_4 (dk_at dksX1_trimmed_1 13 rfl rfl)
theorem dX1_trimmed_36 : decode cX1_trimmed 36 = .ok (.isub, 1) := dk_100 (dk_at dksX1_trimmed_1 14 rfl rfl)
theorem dX1_trimmed_37 : decode cX1_trimmed 37 = .ok (.invokevirtual 13, 3) := dk_182 0 13 (dk_at dksX1_trimmed_1 15 rfl rfl)
theorem dX1_trimmed_40 : decode cX1_trimmed 40 = .ok (.bipush 32, 2) := dk_16 32 (dk_at dksX1_trimmed_1 18 rfl rfl)
theorem dX1_trimmed_42 : decode cX1_trimmed 42 = .ok (.if_icmp .ne 9, 3) := dk_160 0 9 (dk_at dksX1_trimmed_1 20 rfl rfl)
theorem dX1_trimmed_45 : decode cX1_trimmed 45 = .ok (.iinc 2 (-1), 3) := dk_132 2 255 (dk_at dksX1_trimmed_2 0 rfl rfl)
theorem dX1_trimmed_48 : decode cX1_trimmed 48 = .ok (.goto (-20), 3) := dk_167 255 236 (dk_at dksX1_trimmed_2 3 rfl rfl)
theorem dX1_trimmed_51 : decode cX1_trimmed 51 = .ok (.aload_n 0, 1) := dk_42 (dk_at dksX1_trimmed_2 6 rfl rfl)
theorem dX1_trimmed_52 : decode cX1_trimmed 52 = .ok (.iload_n 1, 1) := dk_27 (dk_at dksX1_trimmed_2 7 rfl rfl)
theorem dX1_trimmed_53 : decode cX1_trimmed 53 = .ok (.iload_n 2, 1) := dk_28 (dk_at dksX1_trimmed_2 8 rfl rfl)
theorem dX1_trimmed_54 : decode cX1_trimmed 54 = .ok (.invokevirtual 25, 3) := dk_182 0 25 (dk_at dksX1_trimmed_2 9 rfl rfl)
theorem dX1_trimmed_57 : decode cX1_trimmed 57 = .ok (.areturn, 1) := dk_176 (dk_at dksX1_trimmed_2 12 rfl rfl)
abbrev cX1_number : ByteArray := prog_1_method_4_code
def yX1_number : MethodName := ⟨RX1, "number", "(Ljava/lang/String;)I"⟩
def dkwX1_number_2 : List UInt8 := [164, 0, 5, 2, 172, 16, 10, 27, 104, 29, 96, 16, 48, 100, 60, 132, 2, 1, 167, 255, 215, 27, 172]
abbrev dktX1_number_2 : List UInt8 := dkwX1_number_2 ++ []
def dkwX1_number_1 : List UInt8 := [42, 182, 0, 7, 162, 0, 39, 42, 28, 182, 0, 13, 62, 29, 16, 48, 161, 0, 9, 29, 16, 57]
abbrev dktX1_number_1 : List UInt8 := dkwX1_number_1 ++ dktX1_number_2
def dkwX1_number_0 : List UInt8 := [42, 182, 0, 7, 4, 161, 0, 12, 42, 182, 0, 7, 16, 6, 164, 0, 5, 2, 172, 3, 60, 3, 61, 28]
abbrev dktX1_number_0 : List UInt8 := dkwX1_number_0 ++ dktX1_number_1
theorem dksX1_number_0 : cX1_number.data.toList.drop 0 = dktX1_number_0 := by decide +kernel
theorem dksX1_number_1 : cX1_number.data.toList.drop 24 = dktX1_number_1 := dk_seg dksX1_number_0 24 rfl rfl
theorem dksX1_number_2 : cX1_number.data.toList.drop 46 = dktX1_number_2 := dk_seg dksX1_number_1 22 rfl rfl
theorem dX1_number_0 : decode cX1_number 0 = .ok (.aload_n 0, 1) := dk_42 (dk_at dksX1_number_0 0 rfl rfl)
theorem dX1_number_1 : decode cX1_number 1 = .ok (.invokevirtual 7, 3) := dk_182 0 7 (dk_at dksX1_number_0 1 rfl rfl)
theorem dX1_number_4 : decode cX1_number 4 = .ok (.iconst 1, 1) := dk_4 (dk_at dksX1_number_0 4 rfl rfl)
theorem dX1_number_5 : decode cX1_number 5 = .ok (.if_icmp .lt 12, 3) := dk_161 0 12 (dk_at dksX1_number_0 5 rfl rfl)
theorem dX1_number_8 : decode cX1_number 8 = .ok (.aload_n 0, 1) := dk_42 (dk_at dksX1_number_0 8 rfl rfl)
theorem dX1_number_9 : decode cX1_number 9 = .ok (.invokevirtual 7, 3) := dk_182 0 7 (dk_at dksX1_number_0 9 rfl rfl)
theorem dX1_number_12 : decode cX1_number 12 = .ok (.bipush 6, 2) := dk_16 6 (dk_at dksX1_number_0 12 rfl rfl)
theorem dX1_number_14 : decode cX1_number 14 = .ok (.if_icmp .le 5, 3) := dk_164 0 5 (dk_at dksX1_number_0 14 rfl rfl)
theorem dX1_number_17 : decode cX1_number 17 = .ok (.iconst (-1), 1) := dk_2 (dk_at dksX1_number_0 17 rfl rfl)
theorem dX1_number_18 : decode cX1_number 18 = .ok (.ireturn, 1) := dk_172 (dk_at dksX1_number_0 18 rfl rfl)
theorem dX1_number_19 : decode cX1_number 19 = .ok (.iconst 0, 1) := dk_3 (dk_at dksX1_number_0 19 rfl rfl)
theorem dX1_number_20 : decode cX1_number 20 = .ok (.istore_n 1, 1) := dk_60 (dk_at dksX1_number_0 20 rfl rfl)
theorem dX1_number_21 : decode cX1_number 21 = .ok (.iconst 0, 1) := dk_3 (dk_at dksX1_number_0 21 rfl rfl)
theorem dX1_number_22 : decode cX1_number 22 = .ok (.istore_n 2, 1) := dk_61 (dk_at dksX1_number_0 22 rfl rfl)
theorem dX1_number_23 : decode cX1_number 23 = .ok (.iload_n 2, 1) := dk_28 (dk_at dksX1_number_0 23 rfl rfl)
theorem dX1_number_24 : decode cX1_number 24 = .ok (.aload_n 0, 1) := dk_42 (dk_at dksX1_number_1 0 rfl rfl)
theorem dX1_number_25 : decode cX1_number 25 = .ok (.invokevirtual 7, 3) := dk_182 0 7 (dk_at dksX1_number_1 1 rfl rfl)
theorem dX1_number_28 : decode cX1_number 28 = .ok (.if_icmp .ge 39, 3) := dk_162 0 39 (dk_at dksX1_number_1 4 rfl rfl)
theorem dX1_number_31 : decode cX1_number 31 = .ok (.aload_n 0, 1) := dk_42 (dk_at dksX1_number_1 7 rfl rfl)
theorem dX1_number_32 : decode cX1_number 32 = .ok (.iload_n 2, 1) := dk_28 (dk_at dksX1_number_1 8 rfl rfl)
theorem dX1_number_33 : decode cX1_number 33 = .ok (.invokevirtual 13, 3) := dk_182 0 13 (dk_at dksX1_number_1 9 rfl rfl)
theorem dX1_number_36 : decode cX1_number 36 = .ok (.istore_n 3, 1) := dk_62 (dk_at dksX1_number_1 12 rfl rfl)
theorem dX1_number_37 : decode cX1_number 37 = .ok (.iload_n 3, 1) := dk_29 (dk_at dksX1_number_1 13 rfl rfl)
theorem dX1_number_38 : decode cX1_number 38 = .ok (.bipush 48, 2) := dk_16 48 (dk_at dksX1_number_1 14 rfl rfl)
theorem dX1_number_40 : decode cX1_number 40 = .ok (.if_icmp .lt 9, 3) := dk_161 0 9 (dk_at dksX1_number_1 16 rfl rfl)
theorem dX1_number_43 : decode cX1_number 43 = .ok (.iload_n 3, 1) := dk_29 (dk_at dksX1_number_1 19 rfl rfl)
theorem dX1_number_44 : decode cX1_number 44 = .ok (.bipush 57, 2) := dk_16 57 (dk_at dksX1_number_1 20 rfl rfl)
theorem dX1_number_46 : decode cX1_number 46 = .ok (.if_icmp .le 5, 3) := dk_164 0 5 (dk_at dksX1_number_2 0 rfl rfl)
theorem dX1_number_49 : decode cX1_number 49 = .ok (.iconst (-1), 1) := dk_2 (dk_at dksX1_number_2 3 rfl rfl)
theorem dX1_number_50 : decode cX1_number 50 = .ok (.ireturn, 1) := dk_172 (dk_at dksX1_number_2 4 rfl rfl)
theorem dX1_number_51 : decode cX1_number 51 = .ok (.bipush 10, 2) := dk_16 10 (dk_at dksX1_number_2 5 rfl rfl)
theorem dX1_number_53 : decode cX1_number 53 = .ok (.iload_n 1, 1) := dk_27 (dk_at dksX1_number_2 7 rfl rfl)
theorem dX1_number_54 : decode cX1_number 54 = .ok (.imul, 1) := dk_104 (dk_at dksX1_number_2 8 rfl rfl)
theorem dX1_number_55 : decode cX1_number 55 = .ok (.iload_n 3, 1) := dk_29 (dk_at dksX1_number_2 9 rfl rfl)
theorem dX1_number_56 : decode cX1_number 56 = .ok (.iadd, 1) := dk_96 (dk_at dksX1_number_2 10 rfl rfl)
theorem dX1_number_57 : decode cX1_number 57 = .ok (.bipush 48, 2) := dk_16 48 (dk_at dksX1_number_2 11 rfl rfl)
theorem dX1_number_59 : decode cX1_number 59 = .ok (.isub, 1) := dk_100 (dk_at dksX1_number_2 13 rfl rfl)
theorem dX1_number_60 : decode cX1_number 60 = .ok (.istore_n 1, 1) := dk_60 (dk_at dksX1_number_2 14 rfl rfl)
theorem dX1_number_61 : decode cX1_number 61 = .ok (.iinc 2 1, 3) := dk_132 2 1 (dk_at dksX1_number_2 15 rfl rfl)
theorem dX1_number_64 : decode cX1_number 64 = .ok (.goto (-41), 3) := dk_167 255 215 (dk_at dksX1_number_2 18 rfl rfl)
theorem dX1_number_67 : decode cX1_number 67 = .ok (.iload_n 1, 1) := dk_27 (dk_at dksX1_number_2 21 rfl rfl)
theorem dX1_number_68 : decode cX1_number 68 = .ok (.ireturn, 1) := dk_172 (dk_at dksX1_number_2 22 rfl rfl)
abbrev cX1_isName : ByteArray := prog_1_method_5_code
def yX1_isName : MethodName := ⟨RX1, "isName", "(Ljava/lang/String;)Z"⟩
def dkwX1_isName_4 : List UInt8 := [27, 172]
abbrev dktX1_isName_4 : List UInt8 := dkwX1_isName_4 ++ []
def dkwX1_isName_3 : List UInt8 := [29, 16, 57, 164, 0, 9, 29, 16, 45, 160, 0, 7, 4, 167, 0, 4, 3, 60, 132, 2, 1, 167, 255, 187]
abbrev dktX1_isName_3 : List UInt8 := dkwX1_isName_3 ++ dktX1_isName_4
def dkwX1_isName_2 : List UInt8 := [29, 16, 122, 164, 0, 33, 29, 16, 65, 161, 0, 9, 29, 16, 90, 164, 0, 21, 29, 16, 48, 161, 0, 9]
abbrev dktX1_isName_2 : List UInt8 := dkwX1_isName_2 ++ dktX1_isName_3
def dkwX1_isName_1 : List UInt8 := [28, 42, 182, 0, 7, 162, 0, 67, 42, 28, 182, 0, 13, 62, 27, 153, 0, 49, 29, 16, 97, 161, 0, 9]
abbrev dktX1_isName_1 : List UInt8 := dkwX1_isName_1 ++ dktX1_isName_2
def dkwX1_isName_0 : List UInt8 := [42, 182, 0, 7, 158, 0, 16, 42, 182, 0, 7, 16, 16, 163, 0, 7, 4, 167, 0, 4, 3, 60, 3, 61]
abbrev dktX1_isName_0 : List UInt8 := dkwX1_isName_0 ++ dktX1_isName_1
theorem dksX1_isName_0 : cX1_isName.data.toList.drop 0 = dktX1_isName_0 := by decide +kernel
theorem dksX1_isName_1 : cX1_isName.data.toList.drop 24 = dktX1_isName_1 := dk_seg dksX1_isName_0 24 rfl rfl
theorem dksX1_isName_2 : cX1_isName.data.toList.drop 48 = dktX1_isName_2 := dk_seg dksX1_isName_1 24 rfl rfl
theorem dksX1_isName_3 : cX1_isName.data.toList.drop 72 = dktX1_isName_3 := dk_seg dksX1_isName_2 24 rfl rfl
theorem dksX1_isName_4 : cX1_isName.data.toList.drop 96 = dktX1_isName_4 := dk_seg dksX1_isName_3 24 rfl rfl
theorem dX1_isName_0 : decode cX1_isName 0 = .ok (.aload_n 0, 1) := dk_42 (dk_at dksX1_isName_0 0 rfl rfl)
theorem dX1_isName_1 : decode cX1_isName 1 = .ok (.invokevirtual 7, 3) := dk_182 0 7 (dk_at dksX1_isName_0 1 rfl rfl)
theorem dX1_isName_4 : decode cX1_isName 4 = .ok (.ifCond .le 16, 3) := dk_158 0 16 (dk_at dksX1_isName_0 4 rfl rfl)
theorem dX1_isName_7 : decode cX1_isName 7 = .ok (.aload_n 0, 1) := dk_42 (dk_at dksX1_isName_0 7 rfl rfl)
theorem dX1_isName_8 : decode cX1_isName 8 = .ok (.invokevirtual 7, 3) := dk_182 0 7 (dk_at dksX1_isName_0 8 rfl rfl)
theorem dX1_isName_11 : decode cX1_isName 11 = .ok (.bipush 16, 2) := dk_16 16 (dk_at dksX1_isName_0 11 rfl rfl)
theorem dX1_isName_13 : decode cX1_isName 13 = .ok (.if_icmp .gt 7, 3) := dk_163 0 7 (dk_at dksX1_isName_0 13 rfl rfl)
theorem dX1_isName_16 : decode cX1_isName 16 = .ok (.iconst 1, 1) := dk_4 (dk_at dksX1_isName_0 16 rfl rfl)
theorem dX1_isName_17 : decode cX1_isName 17 = .ok (.goto 4, 3) := dk_167 0 4 (dk_at dksX1_isName_0 17 rfl rfl)
theorem dX1_isName_20 : decode cX1_isName 20 = .ok (.iconst 0, 1) := dk_3 (dk_at dksX1_isName_0 20 rfl rfl)
theorem dX1_isName_21 : decode cX1_isName 21 = .ok (.istore_n 1, 1) := dk_60 (dk_at dksX1_isName_0 21 rfl rfl)
theorem dX1_isName_22 : decode cX1_isName 22 = .ok (.iconst 0, 1) := dk_3 (dk_at dksX1_isName_0 22 rfl rfl)
theorem dX1_isName_23 : decode cX1_isName 23 = .ok (.istore_n 2, 1) := dk_61 (dk_at dksX1_isName_0 23 rfl rfl)
theorem dX1_isName_24 : decode cX1_isName 24 = .ok (.iload_n 2, 1) := dk_28 (dk_at dksX1_isName_1 0 rfl rfl)
theorem dX1_isName_25 : decode cX1_isName 25 = .ok (.aload_n 0, 1) := dk_42 (dk_at dksX1_isName_1 1 rfl rfl)
theorem dX1_isName_26 : decode cX1_isName 26 = .ok (.invokevirtual 7, 3) := dk_182 0 7 (dk_at dksX1_isName_1 2 rfl rfl)
theorem dX1_isName_29 : decode cX1_isName 29 = .ok (.if_icmp .ge 67, 3) := dk_162 0 67 (dk_at dksX1_isName_1 5 rfl rfl)
theorem dX1_isName_32 : decode cX1_isName 32 = .ok (.aload_n 0, 1) := dk_42 (dk_at dksX1_isName_1 8 rfl rfl)
theorem dX1_isName_33 : decode cX1_isName 33 = .ok (.iload_n 2, 1) := dk_28 (dk_at dksX1_isName_1 9 rfl rfl)
theorem dX1_isName_34 : decode cX1_isName 34 = .ok (.invokevirtual 13, 3) := dk_182 0 13 (dk_at dksX1_isName_1 10 rfl rfl)
theorem dX1_isName_37 : decode cX1_isName 37 = .ok (.istore_n 3, 1) := dk_62 (dk_at dksX1_isName_1 13 rfl rfl)
theorem dX1_isName_38 : decode cX1_isName 38 = .ok (.iload_n 1, 1) := dk_27 (dk_at dksX1_isName_1 14 rfl rfl)
theorem dX1_isName_39 : decode cX1_isName 39 = .ok (.ifCond .eq 49, 3) := dk_153 0 49 (dk_at dksX1_isName_1 15 rfl rfl)
theorem dX1_isName_42 : decode cX1_isName 42 = .ok (.iload_n 3, 1) := dk_29 (dk_at dksX1_isName_1 18 rfl rfl)
theorem dX1_isName_43 : decode cX1_isName 43 = .ok (.bipush 97, 2) := dk_16 97 (dk_at dksX1_isName_1 19 rfl rfl)
theorem dX1_isName_45 : decode cX1_isName 45 = .ok (.if_icmp .lt 9, 3) := dk_161 0 9 (dk_at dksX1_isName_1 21 rfl rfl)
theorem dX1_isName_48 : decode cX1_isName 48 = .ok (.iload_n 3, 1) := dk_29 (dk_at dksX1_isName_2 0 rfl rfl)
theorem dX1_isName_49 : decode cX1_isName 49 = .ok (.bipush 122, 2) := dk_16 122 (dk_at dksX1_isName_2 1 rfl rfl)
theorem dX1_isName_51 : decode cX1_isName 51 = .ok (.if_icmp .le 33, 3) := dk_164 0 33 (dk_at dksX1_isName_2 3 rfl rfl)
theorem dX1_isName_54 : decode cX1_isName 54 = .ok (.iload_n 3, 1) := dk_29 (dk_at dksX1_isName_2 6 rfl rfl)
theorem dX1_isName_55 : decode cX1_isName 55 = .ok (.bipush 65, 2) := dk_16 65 (dk_at dksX1_isName_2 7 rfl rfl)
theorem dX1_isName_57 : decode cX1_isName 57 = .ok (.if_icmp .lt 9, 3) := dk_161 0 9 (dk_at dksX1_isName_2 9 rfl rfl)
theorem dX1_isName_60 : decode cX1_isName 60 = .ok (.iload_n 3, 1) := dk_29 (dk_at dksX1_isName_2 12 rfl rfl)
theorem dX1_isName_61 : decode cX1_isName 61 = .ok (.bipush 90, 2) := dk_16 90 (dk_at dksX1_isName_2 13 rfl rfl)
theorem dX1_isName_63 : decode cX1_isName 63 = .ok (.if_icmp .le 21, 3) := dk_164 0 21 (dk_at dksX1_isName_2 15 rfl rfl)
theorem dX1_isName_66 : decode cX1_isName 66 = .ok (.iload_n 3, 1) := dk_29 (dk_at dksX1_isName_2 18 rfl rfl)
theorem dX1_isName_67 : decode cX1_isName 67 = .ok (.bipush 48, 2) := dk_16 48 (dk_at dksX1_isName_2 19 rfl rfl)
theorem dX1_isName_69 : decode cX1_isName 69 = .ok (.if_icmp .lt 9, 3) := dk_161 0 9 (dk_at dksX1_isName_2 21 rfl rfl)
theorem dX1_isName_72 : decode cX1_isName 72 = .ok (.iload_n 3, 1) := dk_29 (dk_at dksX1_isName_3 0 rfl rfl)
theorem dX1_isName_73 : decode cX1_isName 73 = .ok (.bipush 57, 2) := dk_16 57 (dk_at dksX1_isName_3 1 rfl rfl)
theorem dX1_isName_75 : decode cX1_isName 75 = .ok (.if_icmp .le 9, 3) := dk_164 0 9 (dk_at dksX1_isName_3 3 rfl rfl)
theorem dX1_isName_78 : decode cX1_isName 78 = .ok (.iload_n 3, 1) := dk_29 (dk_at dksX1_isName_3 6 rfl rfl)
theorem dX1_isName_79 : decode cX1_isName 79 = .ok (.bipush 45, 2) := dk_16 45 (dk_at dksX1_isName_3 7 rfl rfl)
theorem dX1_isName_81 : decode cX1_isName 81 = .ok (.if_icmp .ne 7, 3) := dk_160 0 7 (dk_at dksX1_isName_3 9 rfl rfl)
theorem dX1_isName_84 : decode cX1_isName 84 = .ok (.iconst 1, 1) := dk_4 (dk_at dksX1_isName_3 12 rfl rfl)
theorem dX1_isName_85 : decode cX1_isName 85 = .ok (.goto 4, 3) := dk_167 0 4 (dk_at dksX1_isName_3 13 rfl rfl)
theorem dX1_isName_88 : decode cX1_isName 88 = .ok (.iconst 0, 1) := dk_3 (dk_at dksX1_isName_3 16 rfl rfl)
theorem dX1_isName_89 : decode cX1_isName 89 = .ok (.istore_n 1, 1) := dk_60 (dk_at dksX1_isName_3 17 rfl rfl)
theorem dX1_isName_90 : decode cX1_isName 90 = .ok (.iinc 2 1, 3) := dk_132 2 1 (dk_at dksX1_isName_3 18 rfl rfl)
theorem dX1_isName_93 : decode cX1_isName 93 = .ok (.goto (-69), 3) := dk_167 255 187 (dk_at dksX1_isName_3 21 rfl rfl)
theorem dX1_isName_96 : decode cX1_isName 96 = .ok (.iload_n 1, 1) := dk_27 (dk_at dksX1_isName_4 0 rfl rfl)
theorem dX1_isName_97 : decode cX1_isName 97 = .ok (.ireturn, 1) := dk_172 (dk_at dksX1_isName_4 1 rfl rfl)
abbrev cX1_type : ByteArray := prog_1_method_7_code
def yX1_type : MethodName := ⟨RX1, "type", "(JI)Z"⟩
def dkwX1_type_5 : List UInt8 := [167, 255, 220, 4, 172]
abbrev dktX1_type_5 : List UInt8 := dkwX1_type_5 ++ []
def dkwX1_type_4 : List UInt8 := [31, 16, 8, 21, 4, 104, 123, 136, 145, 84, 42, 89, 180, 0, 73, 4, 96, 181, 0, 73, 132, 4, 255]
abbrev dktX1_type_4 : List UInt8 := dkwX1_type_4 ++ dktX1_type_5
def dkwX1_type_3 : List UInt8 := [132, 4, 1, 167, 255, 210, 29, 4, 100, 54, 4, 21, 4, 155, 0, 37, 42, 180, 0, 45, 42, 180, 0, 73]
abbrev dktX1_type_3 : List UInt8 := dkwX1_type_3 ++ dktX1_type_4
def dkwX1_type_2 : List UInt8 := [21, 5, 16, 10, 159, 0, 19, 21, 5, 16, 32, 161, 0, 10, 21, 5, 16, 126, 164, 0, 5, 3, 172]
abbrev dktX1_type_2 : List UInt8 := dkwX1_type_2 ++ dktX1_type_3
def dkwX1_type_1 : List UInt8 := [172, 3, 54, 4, 21, 4, 29, 162, 0, 46, 31, 16, 8, 21, 4, 104, 123, 20, 0, 76, 127, 136, 54, 5]
abbrev dktX1_type_1 : List UInt8 := dkwX1_type_1 ++ dktX1_type_2
def dkwX1_type_0 : List UInt8 := [29, 4, 161, 0, 21, 29, 16, 8, 163, 0, 15, 42, 180, 0, 73, 29, 96, 17, 1, 44, 164, 0, 5, 3]
abbrev dktX1_type_0 : List UInt8 := dkwX1_type_0 ++ dktX1_type_1
theorem dksX1_type_0 : cX1_type.data.toList.drop 0 = dktX1_type_0 := by decide +kernel
theorem dksX1_type_1 : cX1_type.data.toList.drop 24 = dktX1_type_1 := dk_seg dksX1_type_0 24 rfl rfl
theorem dksX1_type_2 : cX1_type.data.toList.drop 48 = dktX1_type_2 := dk_seg dksX1_type_1 24 rfl rfl
theorem dksX1_type_3 : cX1_type.data.toList.drop 71 = dktX1_type_3 := dk_seg dksX1_type_2 23 rfl rfl
theorem dksX1_type_4 : cX1_type.data.toList.drop 95 = dktX1_type_4 := dk_seg dksX1_type_3 24 rfl rfl
theorem dksX1_type_5 : cX1_type.data.toList.drop 118 = dktX1_type_5 := dk_seg dksX1_type_4 23 rfl rfl
theorem dX1_type_0 : decode cX1_type 0 = .ok (.iload_n 3, 1) := dk_29 (dk_at dksX1_type_0 0 rfl rfl)
theorem dX1_type_1 : decode cX1_type 1 = .ok (.iconst 1, 1) := dk_4 (dk_at dksX1_type_0 1 rfl rfl)
theorem dX1_type_2 : decode cX1_type 2 = .ok (.if_icmp .lt 21, 3) := dk_161 0 21 (dk_at dksX1_type_0 2 rfl rfl)
theorem dX1_type_5 : decode cX1_type 5 = .ok (.iload_n 3, 1) := dk_29 (dk_at dksX1_type_0 5 rfl rfl)
theorem dX1_type_6 : decode cX1_type 6 = .ok (.bipush 8, 2) := dk_16 8 (dk_at dksX1_type_0 6 rfl rfl)
theorem dX1_type_8 : decode cX1_type 8 = .ok (.if_icmp .gt 15, 3) := dk_163 0 15 (dk_at dksX1_type_0 8 rfl rfl)
theorem dX1_type_11 : decode cX1_type 11 = .ok (.aload_n 0, 1) := dk_42 (dk_at dksX1_type_0 11 rfl rfl)
theorem dX1_type_12 : decode cX1_type 12 = .ok (.getfield 73, 3) := dk_180 0 73 (dk_at dksX1_type_0 12 rfl rfl)
theorem dX1_type_15 : decode cX1_type 15 = .ok (.iload_n 3, 1) := dk_29 (dk_at dksX1_type_0 15 rfl rfl)
theorem dX1_type_16 : decode cX1_type 16 = .ok (.iadd, 1) := dk_96 (dk_at dksX1_type_0 16 rfl rfl)
theorem dX1_type_17 : decode cX1_type 17 = .ok (.sipush 300, 3) := dk_17 1 44 (dk_at dksX1_type_0 17 rfl rfl)
theorem dX1_type_20 : decode cX1_type 20 = .ok (.if_icmp .le 5, 3) := dk_164 0 5 (dk_at dksX1_type_0 20 rfl rfl)
theorem dX1_type_23 : decode cX1_type 23 = .ok (.iconst 0, 1) := dk_3 (dk_at dksX1_type_0 23 rfl rfl)
theorem dX1_type_24 : decode cX1_type 24 = .ok (.ireturn, 1) := dk_172 (dk_at dksX1_type_1 0 rfl rfl)
theorem dX1_type_25 : decode cX1_type 25 = .ok (.iconst 0, 1) := dk_3 (dk_at dksX1_type_1 1 rfl rfl)
theorem dX1_type_26 : decode cX1_type 26 = .ok (.istore 4, 2) := dk_54 4 (dk_at dksX1_type_1 2 rfl rfl)
theorem dX1_type_28 : decode cX1_type 28 = .ok (.iload 4, 2) := dk_21 4 (dk_at dksX1_type_1 4 rfl rfl)
theorem dX1_type_30 : decode cX1_type 30 = .ok (.iload_n 3, 1) := dk_29 (dk_at dksX1_type_1 6 rfl rfl)
theorem dX1_type_31 : decode cX1_type 31 = .ok (.if_icmp .ge 46, 3) := dk_162 0 46 (dk_at dksX1_type_1 7 rfl rfl)
theorem dX1_type_34 : decode cX1_type 34 = .ok (.lload_n 1, 1) := dk_31 (dk_at dksX1_type_1 10 rfl rfl)
theorem dX1_type_35 : decode cX1_type 35 = .ok (.bipush 8, 2) := dk_16 8 (dk_at dksX1_type_1 11 rfl rfl)
theorem dX1_type_37 : decode cX1_type 37 = .ok (.iload 4, 2) := dk_21 4 (dk_at dksX1_type_1 13 rfl rfl)
theorem dX1_type_39 : decode cX1_type 39 = .ok (.imul, 1) := dk_104 (dk_at dksX1_type_1 15 rfl rfl)
theorem dX1_type_40 : decode cX1_type 40 = .ok (.lshr, 1) := dk_123 (dk_at dksX1_type_1 16 rfl rfl)
theorem dX1_type_41 : decode cX1_type 41 = .ok (.ldc2_w 76, 3) := dk_20 0 76 (dk_at dksX1_type_1 17 rfl rfl)
theorem dX1_type_44 : decode cX1_type 44 = .ok (.land, 1) := dk_127 (dk_at dksX1_type_1 20 rfl rfl)
theorem dX1_type_45 : decode cX1_type 45 = .ok (.l2i, 1) := dk_136 (dk_at dksX1_type_1 21 rfl rfl)
theorem dX1_type_46 : decode cX1_type 46 = .ok (.istore 5, 2) := dk_54 5 (dk_at dksX1_type_1 22 rfl rfl)
theorem dX1_type_48 : decode cX1_type 48 = .ok (.iload 5, 2) := dk_21 5 (dk_at dksX1_type_2 0 rfl rfl)
theorem dX1_type_50 : decode cX1_type 50 = .ok (.bipush 10, 2) := dk_16 10 (dk_at dksX1_type_2 2 rfl rfl)
theorem dX1_type_52 : decode cX1_type 52 = .ok (.if_icmp .eq 19, 3) := dk_159 0 19 (dk_at dksX1_type_2 4 rfl rfl)
theorem dX1_type_55 : decode cX1_type 55 = .ok (.iload 5, 2) := dk_21 5 (dk_at dksX1_type_2 7 rfl rfl)
theorem dX1_type_57 : decode cX1_type 57 = .ok (.bipush 32, 2) := dk_16 32 (dk_at dksX1_type_2 9 rfl rfl)
theorem dX1_type_59 : decode cX1_type 59 = .ok (.if_icmp .lt 10, 3) := dk_161 0 10 (dk_at dksX1_type_2 11 rfl rfl)
theorem dX1_type_62 : decode cX1_type 62 = .ok (.iload 5, 2) := dk_21 5 (dk_at dksX1_type_2 14 rfl rfl)
theorem dX1_type_64 : decode cX1_type 64 = .ok (.bipush 126, 2) := dk_16 126 (dk_at dksX1_type_2 16 rfl rfl)
theorem dX1_type_66 : decode cX1_type 66 = .ok (.if_icmp .le 5, 3) := dk_164 0 5 (dk_at dksX1_type_2 18 rfl rfl)
theorem dX1_type_69 : decode cX1_type 69 = .ok (.iconst 0, 1) := dk_3 (dk_at dksX1_type_2 21 rfl rfl)
theorem dX1_type_70 : decode cX1_type 70 = .ok (.ireturn, 1) := dk_172 (dk_at dksX1_type_2 22 rfl rfl)
theorem dX1_type_71 : decode cX1_type 71 = .ok (.iinc 4 1, 3) := dk_132 4 1 (dk_at dksX1_type_3 0 rfl rfl)
theorem dX1_type_74 : decode cX1_type 74 = .ok (.goto (-46), 3) := dk_167 255 210 (dk_at dksX1_type_3 3 rfl rfl)
theorem dX1_type_77 : decode cX1_type 77 = .ok (.iload_n 3, 1) := dk_29 (dk_at dksX1_type_3 6 rfl rfl)
theorem dX1_type_78 : decode cX1_type 78 = .ok (.iconst 1, 1) := dk_4 (dk_at dksX1_type_3 7 rfl rfl)
theorem dX1_type_79 : decode cX1_type 79 = .ok (.isub, 1) := dk_100 (dk_at dksX1_type_3 8 rfl rfl)
theorem dX1_type_80 : decode cX1_type 80 = .ok (.istore 4, 2) := dk_54 4 (dk_at dksX1_type_3 9 rfl rfl)
theorem dX1_type_82 : decode cX1_type 82 = .ok (.iload 4, 2) := dk_21 4 (dk_at dksX1_type_3 11 rfl rfl)
theorem dX1_type_84 : decode cX1_type 84 = .ok (.ifCond .lt 37, 3) := dk_155 0 37 (dk_at dksX1_type_3 13 rfl rfl)
theorem dX1_type_87 : decode cX1_type 87 = .ok (.aload_n 0, 1) := dk_42 (dk_at dksX1_type_3 16 rfl rfl)
theorem dX1_type_88 : decode cX1_type 88 = .ok (.getfield 45, 3) := dk_180 0 45 (dk_at dksX1_type_3 17 rfl rfl)
theorem dX1_type_91 : decode cX1_type 91 = .ok (.aload_n 0, 1) := dk_42 (dk_at dksX1_type_3 20 rfl rfl)
theorem dX1_type_92 : decode cX1_type 92 = .ok (.getfield 73, 3) := dk_180 0 73 (dk_at dksX1_type_3 21 rfl rfl)
theorem dX1_type_95 : decode cX1_type 95 = .ok (.lload_n 1, 1) := dk_31 (dk_at dksX1_type_4 0 rfl rfl)
theorem dX1_type_96 : decode cX1_type 96 = .ok (.bipush 8, 2) := dk_16 8 (dk_at dksX1_type_4 1 rfl rfl)
theorem dX1_type_98 : decode cX1_type 98 = .ok (.iload 4, 2) := dk_21 4 (dk_at dksX1_type_4 3 rfl rfl)
theorem dX1_type_100 : decode cX1_type 100 = .ok (.imul, 1) := dk_104 (dk_at dksX1_type_4 5 rfl rfl)
theorem dX1_type_101 : decode cX1_type 101 = .ok (.lshr, 1) := dk_123 (dk_at dksX1_type_4 6 rfl rfl)
theorem dX1_type_102 : decode cX1_type 102 = .ok (.l2i, 1) := dk_136 (dk_at dksX1_type_4 7 rfl rfl)
theorem dX1_type_103 : decode cX1_type 103 = .ok (.i2b, 1) := dk_145 (dk_at dksX1_type_4 8 rfl rfl)
theorem dX1_type_104 : decode cX1_type 104 = .ok (.bastore, 1) := dk_84 (dk_at dksX1_type_4 9 rfl rfl)
theorem dX1_type_105 : decode cX1_type 105 = .ok (.aload_n 0, 1) := dk_42 (dk_at dksX1_type_4 10 rfl rfl)
theorem dX1_type_106 : decode cX1_type 106 = .ok (.dup, 1) := dk_89 (dk_at dksX1_type_4 11 rfl rfl)
theorem dX1_type_107 : decode cX1_type 107 = .ok (.getfield 73, 3) := dk_180 0 73 (dk_at dksX1_type_4 12 rfl rfl)
theorem dX1_type_110 : decode cX1_type 110 = .ok (.iconst 1, 1) := dk_4 (dk_at dksX1_type_4 15 rfl rfl)
theorem dX1_type_111 : decode cX1_type 111 = .ok (.iadd, 1) := dk_96 (dk_at dksX1_type_4 16 rfl rfl)
theorem dX1_type_112 : decode cX1_type 112 = .ok (.putfield 73, 3) := dk_181 0 73 (dk_at dksX1_type_4 17 rfl rfl)
theorem dX1_type_115 : decode cX1_type 115 = .ok (.iinc 4 (-1), 3) := dk_132 4 255 (dk_at dksX1_type_4 20 rfl rfl)
theorem dX1_type_118 : decode cX1_type 118 = .ok (.goto (-36), 3) := dk_167 255 220 (dk_at dksX1_type_5 0 rfl rfl)
theorem dX1_type_121 : decode cX1_type 121 = .ok (.iconst 1, 1) := dk_4 (dk_at dksX1_type_5 3 rfl rfl)
theorem dX1_type_122 : decode cX1_type 122 = .ok (.ireturn, 1) := dk_172 (dk_at dksX1_type_5 4 rfl rfl)
abbrev cX1_fault : ByteArray := prog_1_method_20_code
def yX1_fault : MethodName := ⟨RX1, "fault", "()I"⟩
theorem dX1_fault_0 : decode cX1_fault 0 = .ok (.aload_n 0, 1) := by decide +kernel
theorem dX1_fault_1 : decode cX1_fault 1 = .ok (.getfield 69, 3) := by decide +kernel
theorem dX1_fault_4 : decode cX1_fault 4 = .ok (.ireturn, 1) := by decide +kernel
abbrev cX1_purge : ByteArray := prog_1_method_21_code
def yX1_purge : MethodName := ⟨RX1, "purge", "(I)I"⟩
def dkwX1_purge_2 : List UInt8 := [167, 255, 222, 28, 42, 180, 0, 49, 182, 0, 114, 100, 172]
abbrev dktX1_purge_2 : List UInt8 := dkwX1_purge_2 ++ []
def dkwX1_purge_1 : List UInt8 := [192, 0, 125, 180, 0, 135, 27, 160, 0, 12, 42, 180, 0, 49, 29, 182, 0, 227, 87, 132, 3, 255]
abbrev dktX1_purge_1 : List UInt8 := dkwX1_purge_1 ++ dktX1_purge_2
def dkwX1_purge_0 : List UInt8 := [42, 180, 0, 49, 182, 0, 114, 61, 28, 4, 100, 62, 29, 155, 0, 36, 42, 180, 0, 49, 29, 182, 0, 117]
abbrev dktX1_purge_0 : List UInt8 := dkwX1_purge_0 ++ dktX1_purge_1
theorem dksX1_purge_0 : cX1_purge.data.toList.drop 0 = dktX1_purge_0 := by decide +kernel
theorem dksX1_purge_1 : cX1_purge.data.toList.drop 24 = dktX1_purge_1 := dk_seg dksX1_purge_0 24 rfl rfl
theorem dksX1_purge_2 : cX1_purge.data.toList.drop 46 = dktX1_purge_2 := dk_seg dksX1_purge_1 22 rfl rfl
theorem dX1_purge_0 : decode cX1_purge 0 = .ok (.aload_n 0, 1) := dk_42 (dk_at dksX1_purge_0 0 rfl rfl)
theorem dX1_purge_1 : decode cX1_purge 1 = .ok (.getfield 49, 3) := dk_180 0 49 (dk_at dksX1_purge_0 1 rfl rfl)
theorem dX1_purge_4 : decode cX1_purge 4 = .ok (.invokevirtual 114, 3) := dk_182 0 114 (dk_at dksX1_purge_0 4 rfl rfl)
theorem dX1_purge_7 : decode cX1_purge 7 = .ok (.istore_n 2, 1) := dk_61 (dk_at dksX1_purge_0 7 rfl rfl)
theorem dX1_purge_8 : decode cX1_purge 8 = .ok (.iload_n 2, 1) := dk_28 (dk_at dksX1_purge_0 8 rfl rfl)
theorem dX1_purge_9 : decode cX1_purge 9 = .ok (.iconst 1, 1) := dk_4 (dk_at dksX1_purge_0 9 rfl rfl)
theorem dX1_purge_10 : decode cX1_purge 10 = .ok (.isub, 1) := dk_100 (dk_at dksX1_purge_0 10 rfl rfl)
theorem dX1_purge_11 : decode cX1_purge 11 = .ok (.istore_n 3, 1) := dk_62 (dk_at dksX1_purge_0 11 rfl rfl)
theorem dX1_purge_12 : decode cX1_purge 12 = .ok (.iload_n 3, 1) := dk_29 (dk_at dksX1_purge_0 12 rfl rfl)
theorem dX1_purge_13 : decode cX1_purge 13 = .ok (.ifCond .lt 36, 3) := dk_155 0 36 (dk_at dksX1_purge_0 13 rfl rfl)
theorem dX1_purge_16 : decode cX1_purge 16 = .ok (.aload_n 0, 1) := dk_42 (dk_at dksX1_purge_0 16 rfl rfl)
theorem dX1_purge_17 : decode cX1_purge 17 = .ok (.getfield 49, 3) := dk_180 0 49 (dk_at dksX1_purge_0 17 rfl rfl)
theorem dX1_purge_20 : decode cX1_purge 20 = .ok (.iload_n 3, 1) := dk_29 (dk_at dksX1_purge_0 20 rfl rfl)
theorem dX1_purge_21 : decode cX1_purge 21 = .ok (.invokevirtual 117, 3) := dk_182 0 117 (dk_at dksX1_purge_0 21 rfl rfl)
theorem dX1_purge_24 : decode cX1_purge 24 = .ok (.checkcast 125, 3) := dk_192 0 125 (dk_at dksX1_purge_1 0 rfl rfl)
theorem dX1_purge_27 : decode cX1_purge 27 = .ok (.getfield 135, 3) := dk_180 0 135 (dk_at dksX1_purge_1 3 rfl rfl)
theorem dX1_purge_30 : decode cX1_purge 30 = .ok (.iload_n 1, 1) := dk_27 (dk_at dksX1_purge_1 6 rfl rfl)
theorem dX1_purge_31 : decode cX1_purge 31 = .ok (.if_icmp .ne 12, 3) := dk_160 0 12 (dk_at dksX1_purge_1 7 rfl rfl)
theorem dX1_purge_34 : decode cX1_purge 34 = .ok (.aload_n 0, 1) := dk_42 (dk_at dksX1_purge_1 10 rfl rfl)
theorem dX1_purge_35 : decode cX1_purge 35 = .ok (.getfield 49, 3) := dk_180 0 49 (dk_at dksX1_purge_1 11 rfl rfl)
theorem dX1_purge_38 : decode cX1_purge 38 = .ok (.iload_n 3, 1) := dk_29 (dk_at dksX1_purge_1 14 rfl rfl)
theorem dX1_purge_39 : decode cX1_purge 39 = .ok (.invokevirtual 227, 3) := dk_182 0 227 (dk_at dksX1_purge_1 15 rfl rfl)
theorem dX1_purge_42 : decode cX1_purge 42 = .ok (.pop, 1) := dk_87 (dk_at dksX1_purge_1 18 rfl rfl)
theorem dX1_purge_43 : decode cX1_purge 43 = .ok (.iinc 3 (-1), 3) := dk_132 3 255 (dk_at dksX1_purge_1 19 rfl rfl)
theorem dX1_purge_46 : decode cX1_purge 46 = .ok (.goto (-34), 3) := dk_167 255 222 (dk_at dksX1_purge_2 0 rfl rfl)
theorem dX1_purge_49 : decode cX1_purge 49 = .ok (.iload_n 2, 1) := dk_28 (dk_at dksX1_purge_2 3 rfl rfl)
theorem dX1_purge_50 : decode cX1_purge 50 = .ok (.aload_n 0, 1) := dk_42 (dk_at dksX1_purge_2 4 rfl rfl)
theorem dX1_purge_51 : decode cX1_purge 51 = .ok (.getfield 49, 3) := dk_180 0 49 (dk_at dksX1_purge_2 5 rfl rfl)
theorem dX1_purge_54 : decode cX1_purge 54 = .ok (.invokevirtual 114, 3) := dk_182 0 114 (dk_at dksX1_purge_2 8 rfl rfl)
theorem dX1_purge_57 : decode cX1_purge 57 = .ok (.isub, 1) := dk_100 (dk_at dksX1_purge_2 11 rfl rfl)
theorem dX1_purge_58 : decode cX1_purge 58 = .ok (.ireturn, 1) := dk_172 (dk_at dksX1_purge_2 12 rfl rfl)
abbrev cX1_things : ByteArray := prog_1_method_25_code
def yX1_things : MethodName := ⟨RX1, "things", "()I"⟩
def dkwX1_things_0 : List UInt8 := [42, 180, 0, 49, 182, 0, 114, 172]
abbrev dktX1_things_0 : List UInt8 := dkwX1_things_0 ++ []
theorem dksX1_things_0 : cX1_things.data.toList.drop 0 = dktX1_things_0 := by decide +kernel
theorem dX1_things_0 : decode cX1_things 0 = .ok (.aload_n 0, 1) := dk_42 (dk_at dksX1_things_0 0 rfl rfl)
theorem dX1_things_1 : decode cX1_things 1 = .ok (.getfield 49, 3) := dk_180 0 49 (dk_at dksX1_things_0 1 rfl rfl)
theorem dX1_things_4 : decode cX1_things 4 = .ok (.invokevirtual 114, 3) := dk_182 0 114 (dk_at dksX1_things_0 4 rfl rfl)
theorem dX1_things_7 : decode cX1_things 7 = .ok (.ireturn, 1) := dk_172 (dk_at dksX1_things_0 7 rfl rfl)
abbrev cX1_ask : ByteArray := prog_1_method_15_code
def yX1_ask : MethodName := ⟨RX1, "ask", "(I)I"⟩
def dkwX1_ask_3 : List UInt8 := [21, 4, 172, 44, 18, 169, 182, 0, 171, 153, 0, 7, 7, 167, 0, 5, 21, 4, 172]
abbrev dktX1_ask_3 : List UInt8 := dkwX1_ask_3 ++ []
def dkwX1_ask_2 : List UInt8 := [45, 44, 182, 0, 161, 54, 4, 21, 4, 4, 159, 0, 9, 21, 4, 5, 160, 0, 11, 42, 45, 182, 0, 165]
abbrev dktX1_ask_2 : List UInt8 := dkwX1_ask_2 ++ dktX1_ask_3
def dkwX1_ask_1 : List UInt8 := [183, 0, 62, 77, 42, 44, 181, 0, 65, 42, 27, 182, 0, 157, 78, 45, 199, 0, 7, 3, 167, 0, 9, 42]
abbrev dktX1_ask_1 : List UInt8 := dkwX1_ask_1 ++ dktX1_ask_2
def dkwX1_ask_0 : List UInt8 := [42, 42, 27, 182, 0, 148, 181, 0, 56, 187, 0, 60, 89, 42, 180, 0, 56, 18, 152, 182, 0, 154]
abbrev dktX1_ask_0 : List UInt8 := dkwX1_ask_0 ++ dktX1_ask_1
theorem dksX1_ask_0 : cX1_ask.data.toList.drop 0 = dktX1_ask_0 := by decide +kernel
theorem dksX1_ask_1 : cX1_ask.data.toList.drop 22 = dktX1_ask_1 := dk_seg dksX1_ask_0 22 rfl rfl
theorem dksX1_ask_2 : cX1_ask.data.toList.drop 46 = dktX1_ask_2 := dk_seg dksX1_ask_1 24 rfl rfl
theorem dksX1_ask_3 : cX1_ask.data.toList.drop 70 = dktX1_ask_3 := dk_seg dksX1_ask_2 24 rfl rfl
theorem dX1_ask_0 : decode cX1_ask 0 = .ok (.aload_n 0, 1) := dk_42 (dk_at dksX1_ask_0 0 rfl rfl)
theorem dX1_ask_1 : decode cX1_ask 1 = .ok (.aload_n 0, 1) := dk_42 (dk_at dksX1_ask_0 1 rfl rfl)
theorem dX1_ask_2 : decode cX1_ask 2 = .ok (.iload_n 1, 1) := dk_27 (dk_at dksX1_ask_0 2 rfl rfl)
theorem dX1_ask_3 : decode cX1_ask 3 = .ok (.invokevirtual 148, 3) := dk_182 0 148 (dk_at dksX1_ask_0 3 rfl rfl)
theorem dX1_ask_6 : decode cX1_ask 6 = .ok (.putfield 56, 3) := dk_181 0 56 (dk_at dksX1_ask_0 6 rfl rfl)
theorem dX1_ask_9 : decode cX1_ask 9 = .ok (.new 60, 3) := dk_187 0 60 (dk_at dksX1_ask_0 9 rfl rfl)
theorem dX1_ask_12 : decode cX1_ask 12 = .ok (.dup, 1) := dk_89 (dk_at dksX1_ask_0 12 rfl rfl)
theorem dX1_ask_13 : decode cX1_ask 13 = .ok (.aload_n 0, 1) := dk_42 (dk_at dksX1_ask_0 13 rfl rfl)
theorem dX1_ask_14 : decode cX1_ask 14 = .ok (.getfield 56, 3) := dk_180 0 56 (dk_at dksX1_ask_0 14 rfl rfl)
theorem dX1_ask_17 : decode cX1_ask 17 = .ok (.ldc 152, 2) := dk_18 152 (dk_at dksX1_ask_0 17 rfl rfl)
theorem dX1_ask_19 : decode cX1_ask 19 = .ok (.invokevirtual 154, 3) := dk_182 0 154 (dk_at dksX1_ask_0 19 rfl rfl)
theorem dX1_ask_22 : decode cX1_ask 22 = .ok (.invokespecial 62, 3) := dk_183 0 62 (dk_at dksX1_ask_1 0 rfl rfl)
theorem dX1_ask_25 : decode cX1_ask 25 = .ok (.astore_n 2, 1) := dk_77 (dk_at dksX1_ask_1 3 rfl rfl)
theorem dX1_ask_26 : decode cX1_ask 26 = .ok (.aload_n 0, 1) := dk_42 (dk_at dksX1_ask_1 4 rfl rfl)
theorem dX1_ask_27 : decode cX1_ask 27 = .ok (.aload_n 2, 1) := dk_44 (dk_at dksX1_ask_1 5 rfl rfl)
theorem dX1_ask_28 : decode cX1_ask 28 = .ok (.putfield 65, 3) := dk_181 0 65 (dk_at dksX1_ask_1 6 rfl rfl)
theorem dX1_ask_31 : decode cX1_ask 31 = .ok (.aload_n 0, 1) := dk_42 (dk_at dksX1_ask_1 9 rfl rfl)
theorem dX1_ask_32 : decode cX1_ask 32 = .ok (.iload_n 1, 1) := dk_27 (dk_at dksX1_ask_1 10 rfl rfl)
theorem dX1_ask_33 : decode cX1_ask 33 = .ok (.invokevirtual 157, 3) := dk_182 0 157 (dk_at dksX1_ask_1 11 rfl rfl)
theorem dX1_ask_36 : decode cX1_ask 36 = .ok (.astore_n 3, 1) := dk_78 (dk_at dksX1_ask_1 14 rfl rfl)
theorem dX1_ask_37 : decode cX1_ask 37 = .ok (.aload_n 3, 1) := dk_45 (dk_at dksX1_ask_1 15 rfl rfl)
theorem dX1_ask_38 : decode cX1_ask 38 = .ok (.ifnonnull 7, 3) := dk_199 0 7 (dk_at dksX1_ask_1 16 rfl rfl)
theorem dX1_ask_41 : decode cX1_ask 41 = .ok (.iconst 0, 1) := dk_3 (dk_at dksX1_ask_1 19 rfl rfl)
theorem dX1_ask_42 : decode cX1_ask 42 = .ok (.goto 9, 3) := dk_167 0 9 (dk_at dksX1_ask_1 20 rfl rfl)
theorem dX1_ask_45 : decode cX1_ask 45 = .ok (.aload_n 0, 1) := dk_42 (dk_at dksX1_ask_1 23 rfl rfl)
theorem dX1_ask_46 : decode cX1_ask 46 = .ok (.aload_n 3, 1) := dk_45 (dk_at dksX1_ask_2 0 rfl rfl)
theorem dX1_ask_47 : decode cX1_ask 47 = .ok (.aload_n 2, 1) := dk_44 (dk_at dksX1_ask_2 1 rfl rfl)
theorem dX1_ask_48 : decode cX1_ask 48 = .ok (.invokevirtual 161, 3) := dk_182 0 161 (dk_at dksX1_ask_2 2 rfl rfl)
theorem dX1_ask_51 : decode cX1_ask 51 = .ok (.istore 4, 2) := dk_54 4 (dk_at dksX1_ask_2 5 rfl rfl)
theorem dX1_ask_53 : decode cX1_ask 53 = .ok (.iload 4, 2) := dk_21 4 (dk_at dksX1_ask_2 7 rfl rfl)
theorem dX1_ask_55 : decode cX1_ask 55 = .ok (.iconst 1, 1) := dk_4 (dk_at dksX1_ask_2 9 rfl rfl)
theorem dX1_ask_56 : decode cX1_ask 56 = .ok (.if_icmp .eq 9, 3) := dk_159 0 9 (dk_at dksX1_ask_2 10 rfl rfl)
theorem dX1_ask_59 : decode cX1_ask 59 = .ok (.iload 4, 2) := dk_21 4 (dk_at dksX1_ask_2 13 rfl rfl)
theorem dX1_ask_61 : decode cX1_ask 61 = .ok (.iconst 2, 1) := dk_5 (dk_at dksX1_ask_2 15 rfl rfl)
theorem dX1_ask_62 : decode cX1_ask 62 = .ok (.if_icmp .ne 11, 3) := dk_160 0 11 (dk_at dksX1_ask_2 16 rfl rfl)
theorem dX1_ask_65 : decode cX1_ask 65 = .ok (.aload_n 0, 1) := dk_42 (dk_at dksX1_ask_2 19 rfl rfl)
theorem dX1_ask_66 : decode cX1_ask 66 = .ok (.aload_n 3, 1) := dk_45 (dk_at dksX1_ask_2 20 rfl rfl)
theorem dX1_ask_67 : decode cX1_ask 67 = .ok (.invokevirtual 165, 3) := dk_182 0 165 (dk_at dksX1_ask_2 21 rfl rfl)
theorem dX1_ask_70 : decode cX1_ask 70 = .ok (.iload 4, 2) := dk_21 4 (dk_at dksX1_ask_3 0 rfl rfl)
theorem dX1_ask_72 : decode cX1_ask 72 = .ok (.ireturn, 1) := dk_172 (dk_at dksX1_ask_3 2 rfl rfl)
theorem dX1_ask_73 : decode cX1_ask 73 = .ok (.aload_n 2, 1) := dk_44 (dk_at dksX1_ask_3 3 rfl rfl)
theorem dX1_ask_74 : decode cX1_ask 74 = .ok (.ldc 169, 2) := dk_18 169 (dk_at dksX1_ask_3 4 rfl rfl)
theorem dX1_ask_76 : decode cX1_ask 76 = .ok (.invokevirtual 171, 3) := dk_182 0 171 (dk_at dksX1_ask_3 6 rfl rfl)
theorem dX1_ask_79 : decode cX1_ask 79 = .ok (.ifCond .eq 7, 3) := dk_153 0 7 (dk_at dksX1_ask_3 9 rfl rfl)
theorem dX1_ask_82 : decode cX1_ask 82 = .ok (.iconst 4, 1) := dk_7 (dk_at dksX1_ask_3 12 rfl rfl)
theorem dX1_ask_83 : decode cX1_ask 83 = .ok (.goto 5, 3) := dk_167 0 5 (dk_at dksX1_ask_3 13 rfl rfl)
theorem dX1_ask_86 : decode cX1_ask 86 = .ok (.iload 4, 2) := dk_21 4 (dk_at dksX1_ask_3 16 rfl rfl)
theorem dX1_ask_88 : decode cX1_ask 88 = .ok (.ireturn, 1) := dk_172 (dk_at dksX1_ask_3 18 rfl rfl)
abbrev cX1_readFor : ByteArray := prog_1_method_10_code
def yX1_readFor : MethodName := ⟨RX1, "readFor", "(I)LVaryStore$Headers;"⟩
def dkwX1_readFor_1 : List UInt8 := [18, 111, 183, 0, 113, 191, 44, 176]
abbrev dktX1_readFor_1 : List UInt8 := dkwX1_readFor_1 ++ []
def dkwX1_readFor_0 : List UInt8 := [42, 182, 0, 105, 77, 44, 198, 0, 13, 27, 155, 0, 9, 27, 16, 16, 161, 0, 13, 187, 0, 109, 89]
abbrev dktX1_readFor_0 : List UInt8 := dkwX1_readFor_0 ++ dktX1_readFor_1
theorem dksX1_readFor_0 : cX1_readFor.data.toList.drop 0 = dktX1_readFor_0 := by decide +kernel
theorem dksX1_readFor_1 : cX1_readFor.data.toList.drop 23 = dktX1_readFor_1 := dk_seg dksX1_readFor_0 23 rfl rfl
theorem dX1_readFor_0 : decode cX1_readFor 0 = .ok (.aload_n 0, 1) := dk_42 (dk_at dksX1_readFor_0 0 rfl rfl)
theorem dX1_readFor_1 : decode cX1_readFor 1 = .ok (.invokevirtual 105, 3) := dk_182 0 105 (dk_at dksX1_readFor_0 1 rfl rfl)
theorem dX1_readFor_4 : decode cX1_readFor 4 = .ok (.astore_n 2, 1) := dk_77 (dk_at dksX1_readFor_0 4 rfl rfl)
theorem dX1_readFor_5 : decode cX1_readFor 5 = .ok (.aload_n 2, 1) := dk_44 (dk_at dksX1_readFor_0 5 rfl rfl)
theorem dX1_readFor_6 : decode cX1_readFor 6 = .ok (.ifnull 13, 3) := dk_198 0 13 (dk_at dksX1_readFor_0 6 rfl rfl)
theorem dX1_readFor_9 : decode cX1_readFor 9 = .ok (.iload_n 1, 1) := dk_27 (dk_at dksX1_readFor_0 9 rfl rfl)
theorem dX1_readFor_10 : decode cX1_readFor 10 = .ok (.ifCond .lt 9, 3) := dk_155 0 9 (dk_at dksX1_readFor_0 10 rfl rfl)
theorem dX1_readFor_13 : decode cX1_readFor 13 = .ok (.iload_n 1, 1) := dk_27 (dk_at dksX1_readFor_0 13 rfl rfl)
theorem dX1_readFor_14 : decode cX1_readFor 14 = .ok (.bipush 16, 2) := dk_16 16 (dk_at dksX1_readFor_0 14 rfl rfl)
theorem dX1_readFor_16 : decode cX1_readFor 16 = .ok (.if_icmp .lt 13, 3) := dk_161 0 13 (dk_at dksX1_readFor_0 16 rfl rfl)
theorem dX1_readFor_19 : decode cX1_readFor 19 = .ok (.new 109, 3) := dk_187 0 109 (dk_at dksX1_readFor_0 19 rfl rfl)
theorem dX1_readFor_22 : decode cX1_readFor 22 = .ok (.dup, 1) := dk_89 (dk_at dksX1_readFor_0 22 rfl rfl)
theorem dX1_readFor_23 : decode cX1_readFor 23 = .ok (.ldc 111, 2) := dk_18 111 (dk_at dksX1_readFor_1 0 rfl rfl)
theorem dX1_readFor_25 : decode cX1_readFor 25 = .ok (.invokespecial 113, 3) := dk_183 0 113 (dk_at dksX1_readFor_1 2 rfl rfl)
theorem dX1_readFor_28 : decode cX1_readFor 28 = .ok (.athrow, 1) := dk_191 (dk_at dksX1_readFor_1 5 rfl rfl)
theorem dX1_readFor_29 : decode cX1_readFor 29 = .ok (.aload_n 2, 1) := dk_44 (dk_at dksX1_readFor_1 6 rfl rfl)
theorem dX1_readFor_30 : decode cX1_readFor 30 = .ok (.areturn, 1) := dk_176 (dk_at dksX1_readFor_1 7 rfl rfl)
abbrev cX1_read : ByteArray := prog_1_method_8_code
def yX1_read : MethodName := ⟨RX1, "read", "()LVaryStore$Headers;"⟩
def dkwX1_read_2 : List UInt8 := [180, 0, 69, 2, 160, 0, 7, 43, 167, 0, 4, 1, 176]
abbrev dktX1_read_2 : List UInt8 := dkwX1_read_2 ++ []
def dkwX1_read_1 : List UInt8 := [180, 0, 69, 2, 160, 0, 13, 42, 43, 28, 182, 0, 78, 61, 167, 255, 233, 42, 3, 181, 0, 73, 42]
abbrev dktX1_read_1 : List UInt8 := dkwX1_read_1 ++ dktX1_read_2
def dkwX1_read_0 : List UInt8 := [187, 0, 53, 89, 183, 0, 55, 76, 3, 61, 42, 2, 181, 0, 69, 28, 42, 180, 0, 73, 162, 0, 21, 42]
abbrev dktX1_read_0 : List UInt8 := dkwX1_read_0 ++ dktX1_read_1
theorem dksX1_read_0 : cX1_read.data.toList.drop 0 = dktX1_read_0 := by decide +kernel
theorem dksX1_read_1 : cX1_read.data.toList.drop 24 = dktX1_read_1 := dk_seg dksX1_read_0 24 rfl rfl
theorem dksX1_read_2 : cX1_read.data.toList.drop 47 = dktX1_read_2 := dk_seg dksX1_read_1 23 rfl rfl
theorem dX1_read_0 : decode cX1_read 0 = .ok (.new 53, 3) := dk_187 0 53 (dk_at dksX1_read_0 0 rfl rfl)
theorem dX1_read_3 : decode cX1_read 3 = .ok (.dup, 1) := dk_89 (dk_at dksX1_read_0 3 rfl rfl)
theorem dX1_read_4 : decode cX1_read 4 = .ok (.invokespecial 55, 3) := dk_183 0 55 (dk_at dksX1_read_0 4 rfl rfl)
theorem dX1_read_7 : decode cX1_read 7 = .ok (.astore_n 1, 1) := dk_76 (dk_at dksX1_read_0 7 rfl rfl)
theorem dX1_read_8 : decode cX1_read 8 = .ok (.iconst 0, 1) := dk_3 (dk_at dksX1_read_0 8 rfl rfl)
theorem dX1_read_9 : decode cX1_read 9 = .ok (.istore_n 2, 1) := dk_61 (dk_at dksX1_read_0 9 rfl rfl)
theorem dX1_read_10 : decode cX1_read 10 = .ok (.aload_n 0, 1) := dk_42 (dk_at dksX1_read_0 10 rfl rfl)
theorem dX1_read_11 : decode cX1_read 11 = .ok (.iconst (-1), 1) := dk_2 (dk_at dksX1_read_0 11 rfl rfl)
theorem dX1_read_12 : decode cX1_read 12 = .ok (.putfield 69, 3) := dk_181 0 69 (dk_at dksX1_read_0 12 rfl rfl)
theorem dX1_read_15 : decode cX1_read 15 = .ok (.iload_n 2, 1) := dk_28 (dk_at dksX1_read_0 15 rfl rfl)
theorem dX1_read_16 : decode cX1_read 16 = .ok (.aload_n 0, 1) := dk_42 (dk_at dksX1_read_0 16 rfl rfl)
theorem dX1_read_17 : decode cX1_read 17 = .ok (.getfield 73, 3) := dk_180 0 73 (dk_at dksX1_read_0 17 rfl rfl)
theorem dX1_read_20 : decode cX1_read 20 = .ok (.if_icmp .ge 21, 3) := dk_162 0 21 (dk_at dksX1_read_0 20 rfl rfl)
theorem dX1_read_23 : decode cX1_read 23 = .ok (.aload_n 0, 1) := dk_42 (dk_at dksX1_read_0 23 rfl rfl)
theorem dX1_read_24 : decode cX1_read 24 = .ok (.getfield 69, 3) := dk_180 0 69 (dk_at dksX1_read_1 0 rfl rfl)
theorem dX1_read_27 : decode cX1_read 27 = .ok (.iconst (-1), 1) := dk_2 (dk_at dksX1_read_1 3 rfl rfl)
theorem dX1_read_28 : decode cX1_read 28 = .ok (.if_icmp .ne 13, 3) := dk_160 0 13 (dk_at dksX1_read_1 4 rfl rfl)
theorem dX1_read_31 : decode cX1_read 31 = .ok (.aload_n 0, 1) := dk_42 (dk_at dksX1_read_1 7 rfl rfl)
theorem dX1_read_32 : decode cX1_read 32 = .ok (.aload_n 1, 1) := dk_43 (dk_at dksX1_read_1 8 rfl rfl)
theorem dX1_read_33 : decode cX1_read 33 = .ok (.iload_n 2, 1) := dk_28 (dk_at dksX1_read_1 9 rfl rfl)
theorem dX1_read_34 : decode cX1_read 34 = .ok (.invokevirtual 78, 3) := dk_182 0 78 (dk_at dksX1_read_1 10 rfl rfl)
theorem dX1_read_37 : decode cX1_read 37 = .ok (.istore_n 2, 1) := dk_61 (dk_at dksX1_read_1 13 rfl rfl)
theorem dX1_read_38 : decode cX1_read 38 = .ok (.goto (-23), 3) := dk_167 255 233 (dk_at dksX1_read_1 14 rfl rfl)
theorem dX1_read_41 : decode cX1_read 41 = .ok (.aload_n 0, 1) := dk_42 (dk_at dksX1_read_1 17 rfl rfl)
theorem dX1_read_42 : decode cX1_read 42 = .ok (.iconst 0, 1) := dk_3 (dk_at dksX1_read_1 18 rfl rfl)
theorem dX1_read_43 : decode cX1_read 43 = .ok (.putfield 73, 3) := dk_181 0 73 (dk_at dksX1_read_1 19 rfl rfl)
theorem dX1_read_46 : decode cX1_read 46 = .ok (.aload_n 0, 1) := dk_42 (dk_at dksX1_read_1 22 rfl rfl)
theorem dX1_read_47 : decode cX1_read 47 = .ok (.getfield 69, 3) := dk_180 0 69 (dk_at dksX1_read_2 0 rfl rfl)
theorem dX1_read_50 : decode cX1_read 50 = .ok (.iconst (-1), 1) := dk_2 (dk_at dksX1_read_2 3 rfl rfl)
theorem dX1_read_51 : decode cX1_read 51 = .ok (.if_icmp .ne 7, 3) := dk_160 0 7 (dk_at dksX1_read_2 4 rfl rfl)
theorem dX1_read_54 : decode cX1_read 54 = .ok (.aload_n 1, 1) := dk_43 (dk_at dksX1_read_2 7 rfl rfl)
theorem dX1_read_55 : decode cX1_read 55 = .ok (.goto 4, 3) := dk_167 0 4 (dk_at dksX1_read_2 8 rfl rfl)
theorem dX1_read_58 : decode cX1_read 58 = .ok (.aconst_null, 1) := dk_1 (dk_at dksX1_read_2 11 rfl rfl)
theorem dX1_read_59 : decode cX1_read 59 = .ok (.areturn, 1) := dk_176 (dk_at dksX1_read_2 12 rfl rfl)
abbrev cX1_line : ByteArray := prog_1_method_9_code
def yX1_line : MethodName := ⟨RX1, "line", "(LVaryStore$Headers;I)I"⟩
def dkwX1_line_6 : List UInt8 := [181, 0, 69, 21, 4, 4, 96, 172]
abbrev dktX1_line_6 : List UInt8 := dkwX1_line_6 ++ []
def dkwX1_line_5 : List UInt8 := [184, 0, 96, 25, 5, 21, 6, 4, 96, 182, 0, 99, 184, 0, 32, 182, 0, 102, 167, 0, 8, 42, 28]
abbrev dktX1_line_5 : List UInt8 := dkwX1_line_5 ++ dktX1_line_6
def dkwX1_line_4 : List UInt8 := [153, 0, 7, 4, 167, 0, 4, 3, 54, 7, 21, 7, 153, 0, 33, 43, 25, 5, 3, 21, 6, 182, 0, 25]
abbrev dktX1_line_4 : List UInt8 := dkwX1_line_4 ++ dktX1_line_5
def dkwX1_line_3 : List UInt8 := [162, 0, 30, 21, 6, 155, 0, 25, 25, 5, 3, 3, 21, 6, 184, 0, 86, 182, 0, 25, 184, 0, 92]
abbrev dktX1_line_3 : List UInt8 := dkwX1_line_3 ++ dktX1_line_4
def dkwX1_line_2 : List UInt8 := [167, 255, 219, 45, 182, 0, 21, 58, 5, 25, 5, 16, 58, 182, 0, 82, 54, 6, 21, 4, 42, 180, 0, 73]
abbrev dktX1_line_2 : List UInt8 := dkwX1_line_2 ++ dktX1_line_3
def dkwX1_line_1 : List UInt8 := [21, 4, 51, 16, 10, 159, 0, 22, 45, 42, 180, 0, 45, 21, 4, 51, 146, 182, 0, 17, 87, 132, 4, 1]
abbrev dktX1_line_1 : List UInt8 := dkwX1_line_1 ++ dktX1_line_2
def dkwX1_line_0 : List UInt8 := [187, 0, 1, 89, 183, 0, 3, 78, 28, 54, 4, 21, 4, 42, 180, 0, 73, 162, 0, 34, 42, 180, 0, 45]
abbrev dktX1_line_0 : List UInt8 := dkwX1_line_0 ++ dktX1_line_1
theorem dksX1_line_0 : cX1_line.data.toList.drop 0 = dktX1_line_0 := by decide +kernel
theorem dksX1_line_1 : cX1_line.data.toList.drop 24 = dktX1_line_1 := dk_seg dksX1_line_0 24 rfl rfl
theorem dksX1_line_2 : cX1_line.data.toList.drop 48 = dktX1_line_2 := dk_seg dksX1_line_1 24 rfl rfl
theorem dksX1_line_3 : cX1_line.data.toList.drop 72 = dktX1_line_3 := dk_seg dksX1_line_2 24 rfl rfl
theorem dksX1_line_4 : cX1_line.data.toList.drop 95 = dktX1_line_4 := dk_seg dksX1_line_3 23 rfl rfl
theorem dksX1_line_5 : cX1_line.data.toList.drop 119 = dktX1_line_5 := dk_seg dksX1_line_4 24 rfl rfl
theorem dksX1_line_6 : cX1_line.data.toList.drop 142 = dktX1_line_6 := dk_seg dksX1_line_5 23 rfl rfl
theorem dX1_line_0 : decode cX1_line 0 = .ok (.new 1, 3) := dk_187 0 1 (dk_at dksX1_line_0 0 rfl rfl)
theorem dX1_line_3 : decode cX1_line 3 = .ok (.dup, 1) := dk_89 (dk_at dksX1_line_0 3 rfl rfl)
theorem dX1_line_4 : decode cX1_line 4 = .ok (.invokespecial 3, 3) := dk_183 0 3 (dk_at dksX1_line_0 4 rfl rfl)
theorem dX1_line_7 : decode cX1_line 7 = .ok (.astore_n 3, 1) := dk_78 (dk_at dksX1_line_0 7 rfl rfl)
theorem dX1_line_8 : decode cX1_line 8 = .ok (.iload_n 2, 1) := dk_28 (dk_at dksX1_line_0 8 rfl rfl)
theorem dX1_line_9 : decode cX1_line 9 = .ok (.istore 4, 2) := dk_54 4 (dk_at dksX1_line_0 9 rfl rfl)
theorem dX1_line_11 : decode cX1_line 11 = .ok (.iload 4, 2) := dk_21 4 (dk_at dksX1_line_0 11 rfl rfl)
theorem dX1_line_13 : decode cX1_line 13 = .ok (.aload_n 0, 1) := dk_42 (dk_at dksX1_line_0 13 rfl rfl)
theorem dX1_line_14 : decode cX1_line 14 = .ok (.getfield 73, 3) := dk_180 0 73 (dk_at dksX1_line_0 14 rfl rfl)
theorem dX1_line_17 : decode cX1_line 17 = .ok (.if_icmp .ge 34, 3) := dk_162 0 34 (dk_at dksX1_line_0 17 rfl rfl)
theorem dX1_line_20 : decode cX1_line 20 = .ok (.aload_n 0, 1) := dk_42 (dk_at dksX1_line_0 20 rfl rfl)
theorem dX1_line_21 : decode cX1_line 21 = .ok (.getfield 45, 3) := dk_180 0 45 (dk_at dksX1_line_0 21 rfl rfl)
theorem dX1_line_24 : decode cX1_line 24 = .ok (.iload 4, 2) := dk_21 4 (dk_at dksX1_line_1 0 rfl rfl)
theorem dX1_line_26 : decode cX1_line 26 = .ok (.baload, 1) := dk_51 (dk_at dksX1_line_1 2 rfl rfl)
theorem dX1_line_27 : decode cX1_line 27 = .ok (.bipush 10, 2) := dk_16 10 (dk_at dksX1_line_1 3 rfl rfl)
theorem dX1_line_29 : decode cX1_line 29 = .ok (.if_icmp .eq 22, 3) := dk_159 0 22 (dk_at dksX1_line_1 5 rfl rfl)
theorem dX1_line_32 : decode cX1_line 32 = .ok (.aload_n 3, 1) := dk_45 (dk_at dksX1_line_1 8 rfl rfl)
theorem dX1_line_33 : decode cX1_line 33 = .ok (.aload_n 0, 1) := dk_42 (dk_at dksX1_line_1 9 rfl rfl)
theorem dX1_line_34 : decode cX1_line 34 = .ok (.getfield 45, 3) := dk_180 0 45 (dk_at dksX1_line_1 10 rfl rfl)
theorem dX1_line_37 : decode cX1_line 37 = .ok (.iload 4, 2) := dk_21 4 (dk_at dksX1_line_1 13 rfl rfl)
theorem dX1_line_39 : decode cX1_line 39 = .ok (.baload, 1) := dk_51 (dk_at dksX1_line_1 15 rfl rfl)
theorem dX1_line_40 : decode cX1_line 40 = .ok (.i2c, 1) := dk_146 (dk_at dksX1_line_1 16 rfl rfl)
theorem dX1_line_41 : decode cX1_line 41 = .ok (.invokevirtual 17, 3) := dk_182 0 17 (dk_at dksX1_line_1 17 rfl rfl)
theorem dX1_line_44 : decode cX1_line 44 = .ok (.pop, 1) := dk_87 (dk_at dksX1_line_1 20 rfl rfl)
theorem dX1_line_45 : decode cX1_line 45 = .ok (.iinc 4 1, 3) := dk_132 4 1 (dk_at dksX1_line_1 21 rfl rfl)
theorem dX1_line_48 : decode cX1_line 48 = .ok (.goto (-37), 3) := dk_167 255 219 (dk_at dksX1_line_2 0 rfl rfl)
theorem dX1_line_51 : decode cX1_line 51 = .ok (.aload_n 3, 1) := dk_45 (dk_at dksX1_line_2 3 rfl rfl)
theorem dX1_line_52 : decode cX1_line 52 = .ok (.invokevirtual 21, 3) := dk_182 0 21 (dk_at dksX1_line_2 4 rfl rfl)
theorem dX1_line_55 : decode cX1_line 55 = .ok (.astore 5, 2) := dk_58 5 (dk_at dksX1_line_2 7 rfl rfl)
theorem dX1_line_57 : decode cX1_line 57 = .ok (.aload 5, 2) := dk_25 5 (dk_at dksX1_line_2 9 rfl rfl)
theorem dX1_line_59 : decode cX1_line 59 = .ok (.bipush 58, 2) := dk_16 58 (dk_at dksX1_line_2 11 rfl rfl)
theorem dX1_line_61 : decode cX1_line 61 = .ok (.invokevirtual 82, 3) := dk_182 0 82 (dk_at dksX1_line_2 13 rfl rfl)
theorem dX1_line_64 : decode cX1_line 64 = .ok (.istore 6, 2) := dk_54 6 (dk_at dksX1_line_2 16 rfl rfl)
theorem dX1_line_66 : decode cX1_line 66 = .ok (.iload 4, 2) := dk_21 4 (dk_at dksX1_line_2 18 rfl rfl)
theorem dX1_line_68 : decode cX1_line 68 = .ok (.aload_n 0, 1) := dk_42 (dk_at dksX1_line_2 20 rfl rfl)
theorem dX1_line_69 : decode cX1_line 69 = .ok (.getfield 73, 3) := dk_180 0 73 (dk_at dksX1_line_2 21 rfl rfl)
theorem dX1_line_72 : decode cX1_line 72 = .ok (.if_icmp .ge 30, 3) := dk_162 0 30 (dk_at dksX1_line_3 0 rfl rfl)
theorem dX1_line_75 : decode cX1_line 75 = .ok (.iload 6, 2) := dk_21 6 (dk_at dksX1_line_3 3 rfl rfl)
theorem dX1_line_77 : decode cX1_line 77 = .ok (.ifCond .lt 25, 3) := dk_155 0 25 (dk_at dksX1_line_3 5 rfl rfl)
theorem dX1_line_80 : decode cX1_line 80 = .ok (.aload 5, 2) := dk_25 5 (dk_at dksX1_line_3 8 rfl rfl)
theorem dX1_line_82 : decode cX1_line 82 = .ok (.iconst 0, 1) := dk_3 (dk_at dksX1_line_3 10 rfl rfl)
theorem dX1_line_83 : decode cX1_line 83 = .ok (.iconst 0, 1) := dk_3 (dk_at dksX1_line_3 11 rfl rfl)
theorem dX1_line_84 : decode cX1_line 84 = .ok (.iload 6, 2) := dk_21 6 (dk_at dksX1_line_3 12 rfl rfl)
theorem dX1_line_86 : decode cX1_line 86 = .ok (.invokestatic 86, 3) := dk_184 0 86 (dk_at dksX1_line_3 14 rfl rfl)
theorem dX1_line_89 : decode cX1_line 89 = .ok (.invokevirtual 25, 3) := dk_182 0 25 (dk_at dksX1_line_3 17 rfl rfl)
theorem dX1_line_92 : decode cX1_line 92 = .ok (.invokestatic 92, 3) := dk_184 0 92 (dk_at dksX1_line_3 20 rfl rfl)
theorem dX1_line_95 : decode cX1_line 95 = .ok (.ifCond .eq 7, 3) := dk_153 0 7 (dk_at dksX1_line_4 0 rfl rfl)
theorem dX1_line_98 : decode cX1_line 98 = .ok (.iconst 1, 1) := dk_4 (dk_at dksX1_line_4 3 rfl rfl)
theorem dX1_line_99 : decode cX1_line 99 = .ok (.goto 4, 3) := dk_167 0 4 (dk_at dksX1_line_4 4 rfl rfl)
theorem dX1_line_102 : decode cX1_line 102 = .ok (.iconst 0, 1) := dk_3 (dk_at dksX1_line_4 7 rfl rfl)
theorem dX1_line_103 : decode cX1_line 103 = .ok (.istore 7, 2) := dk_54 7 (dk_at dksX1_line_4 8 rfl rfl)
theorem dX1_line_105 : decode cX1_line 105 = .ok (.iload 7, 2) := dk_21 7 (dk_at dksX1_line_4 10 rfl rfl)
theorem dX1_line_107 : decode cX1_line 107 = .ok (.ifCond .eq 33, 3) := dk_153 0 33 (dk_at dksX1_line_4 12 rfl rfl)
theorem dX1_line_110 : decode cX1_line 110 = .ok (.aload_n 1, 1) := dk_43 (dk_at dksX1_line_4 15 rfl rfl)
theorem dX1_line_111 : decode cX1_line 111 = .ok (.aload 5, 2) := dk_25 5 (dk_at dksX1_line_4 16 rfl rfl)
theorem dX1_line_113 : decode cX1_line 113 = .ok (.iconst 0, 1) := dk_3 (dk_at dksX1_line_4 18 rfl rfl)
theorem dX1_line_114 : decode cX1_line 114 = .ok (.iload 6, 2) := dk_21 6 (dk_at dksX1_line_4 19 rfl rfl)
theorem dX1_line_116 : decode cX1_line 116 = .ok (.invokevirtual 25, 3) := dk_182 0 25 (dk_at dksX1_line_4 21 rfl rfl)
theorem dX1_line_119 : decode cX1_line 119 = .ok (.invokestatic 96, 3) := dk_184 0 96 (dk_at dksX1_line_5 0 rfl rfl)
theorem dX1_line_122 : decode cX1_line 122 = .ok (.aload 5, 2) := dk_25 5 (dk_at dksX1_line_5 3 rfl rfl)
theorem dX1_line_124 : decode cX1_line 124 = .ok (.iload 6, 2) := dk_21 6 (dk_at dksX1_line_5 5 rfl rfl)
theorem dX1_line_126 : decode cX1_line 126 = .ok (.iconst 1, 1) := dk_4 (dk_at dksX1_line_5 7 rfl rfl)
theorem dX1_line_127 : decode cX1_line 127 = .ok (.iadd, 1) := dk_96 (dk_at dksX1_line_5 8 rfl rfl)
theorem dX1_line_128 : decode cX1_line 128 = .ok (.invokevirtual 99, 3) := dk_182 0 99 (dk_at dksX1_line_5 9 rfl rfl)
theorem dX1_line_131 : decode cX1_line 131 = .ok (.invokestatic 32, 3) := dk_184 0 32 (dk_at dksX1_line_5 12 rfl rfl)
theorem dX1_line_134 : decode cX1_line 134 = .ok (.invokevirtual 102, 3) := dk_182 0 102 (dk_at dksX1_line_5 15 rfl rfl)
theorem dX1_line_137 : decode cX1_line 137 = .ok (.goto 8, 3) := dk_167 0 8 (dk_at dksX1_line_5 18 rfl rfl)
theorem dX1_line_140 : decode cX1_line 140 = .ok (.aload_n 0, 1) := dk_42 (dk_at dksX1_line_5 21 rfl rfl)
theorem dX1_line_141 : decode cX1_line 141 = .ok (.iload_n 2, 1) := dk_28 (dk_at dksX1_line_5 22 rfl rfl)
theorem dX1_line_142 : decode cX1_line 142 = .ok (.putfield 69, 3) := dk_181 0 69 (dk_at dksX1_line_6 0 rfl rfl)
theorem dX1_line_145 : decode cX1_line 145 = .ok (.iload 4, 2) := dk_21 4 (dk_at dksX1_line_6 3 rfl rfl)
theorem dX1_line_147 : decode cX1_line 147 = .ok (.iconst 1, 1) := dk_4 (dk_at dksX1_line_6 5 rfl rfl)
theorem dX1_line_148 : decode cX1_line 148 = .ok (.iadd, 1) := dk_96 (dk_at dksX1_line_6 6 rfl rfl)
theorem dX1_line_149 : decode cX1_line 149 = .ok (.ireturn, 1) := dk_172 (dk_at dksX1_line_6 7 rfl rfl)
abbrev cX1_theOne : ByteArray := prog_1_method_13_code
def yX1_theOne : MethodName := ⟨RX1, "theOne", "(I)LVaryStore$Thing;"⟩
def dkwX1_theOne_2 : List UInt8 := [132, 2, 255, 167, 255, 219, 1, 176]
abbrev dktX1_theOne_2 : List UInt8 := dkwX1_theOne_2 ++ []
def dkwX1_theOne_1 : List UInt8 := [192, 0, 125, 78, 45, 180, 0, 135, 27, 160, 0, 13, 42, 45, 182, 0, 138, 153, 0, 5, 45, 176]
abbrev dktX1_theOne_1 : List UInt8 := dkwX1_theOne_1 ++ dktX1_theOne_2
def dkwX1_theOne_0 : List UInt8 := [42, 180, 0, 49, 182, 0, 114, 4, 100, 61, 28, 155, 0, 39, 42, 180, 0, 49, 28, 182, 0, 117]
abbrev dktX1_theOne_0 : List UInt8 := dkwX1_theOne_0 ++ dktX1_theOne_1
theorem dksX1_theOne_0 : cX1_theOne.data.toList.drop 0 = dktX1_theOne_0 := by decide +kernel
theorem dksX1_theOne_1 : cX1_theOne.data.toList.drop 22 = dktX1_theOne_1 := dk_seg dksX1_theOne_0 22 rfl rfl
theorem dksX1_theOne_2 : cX1_theOne.data.toList.drop 44 = dktX1_theOne_2 := dk_seg dksX1_theOne_1 22 rfl rfl
theorem dX1_theOne_0 : decode cX1_theOne 0 = .ok (.aload_n 0, 1) := dk_42 (dk_at dksX1_theOne_0 0 rfl rfl)
theorem dX1_theOne_1 : decode cX1_theOne 1 = .ok (.getfield 49, 3) := dk_180 0 49 (dk_at dksX1_theOne_0 1 rfl rfl)
theorem dX1_theOne_4 : decode cX1_theOne 4 = .ok (.invokevirtual 114, 3) := dk_182 0 114 (dk_at dksX1_theOne_0 4 rfl rfl)
theorem dX1_theOne_7 : decode cX1_theOne 7 = .ok (.iconst 1, 1) := dk_4 (dk_at dksX1_theOne_0 7 rfl rfl)
theorem dX1_theOne_8 : decode cX1_theOne 8 = .ok (.isub, 1) := dk_100 (dk_at dksX1_theOne_0 8 rfl rfl)
theorem dX1_theOne_9 : decode cX1_theOne 9 = .ok (.istore_n 2, 1) := dk_61 (dk_at dksX1_theOne_0 9 rfl rfl)
theorem dX1_theOne_10 : decode cX1_theOne 10 = .ok (.iload_n 2, 1) := dk_28 (dk_at dksX1_theOne_0 10 rfl rfl)
theorem dX1_theOne_11 : decode cX1_theOne 11 = .ok (.ifCond .lt 39, 3) := dk_155 0 39 (dk_at dksX1_theOne_0 11 rfl rfl)
theorem dX1_theOne_14 : decode cX1_theOne 14 = .ok (.aload_n 0, 1) := dk_42 (dk_at dksX1_theOne_0 14 rfl rfl)
theorem dX1_theOne_15 : decode cX1_theOne 15 = .ok (.getfield 49, 3) := dk_180 0 49 (dk_at dksX1_theOne_0 15 rfl rfl)
theorem dX1_theOne_18 : decode cX1_theOne 18 = .ok (.iload_n 2, 1) := dk_28 (dk_at dksX1_theOne_0 18 rfl rfl)
theorem dX1_theOne_19 : decode cX1_theOne 19 = .ok (.invokevirtual 117, 3) := dk_182 0 117 (dk_at dksX1_theOne_0 19 rfl rfl)
theorem dX1_theOne_22 : decode cX1_theOne 22 = .ok (.checkcast 125, 3) := dk_192 0 125 (dk_at dksX1_theOne_1 0 rfl rfl)
theorem dX1_theOne_25 : decode cX1_theOne 25 = .ok (.astore_n 3, 1) := dk_78 (dk_at dksX1_theOne_1 3 rfl rfl)
theorem dX1_theOne_26 : decode cX1_theOne 26 = .ok (.aload_n 3, 1) := dk_45 (dk_at dksX1_theOne_1 4 rfl rfl)
theorem dX1_theOne_27 : decode cX1_theOne 27 = .ok (.getfield 135, 3) := dk_180 0 135 (dk_at dksX1_theOne_1 5 rfl rfl)
theorem dX1_theOne_30 : decode cX1_theOne 30 = .ok (.iload_n 1, 1) := dk_27 (dk_at dksX1_theOne_1 8 rfl rfl)
theorem dX1_theOne_31 : decode cX1_theOne 31 = .ok (.if_icmp .ne 13, 3) := dk_160 0 13 (dk_at dksX1_theOne_1 9 rfl rfl)
theorem dX1_theOne_34 : decode cX1_theOne 34 = .ok (.aload_n 0, 1) := dk_42 (dk_at dksX1_theOne_1 12 rfl rfl)
theorem dX1_theOne_35 : decode cX1_theOne 35 = .ok (.aload_n 3, 1) := dk_45 (dk_at dksX1_theOne_1 13 rfl rfl)
theorem dX1_theOne_36 : decode cX1_theOne 36 = .ok (.invokevirtual 138, 3) := dk_182 0 138 (dk_at dksX1_theOne_1 14 rfl rfl)
theorem dX1_theOne_39 : decode cX1_theOne 39 = .ok (.ifCond .eq 5, 3) := dk_153 0 5 (dk_at dksX1_theOne_1 17 rfl rfl)
theorem dX1_theOne_42 : decode cX1_theOne 42 = .ok (.aload_n 3, 1) := dk_45 (dk_at dksX1_theOne_1 20 rfl rfl)
theorem dX1_theOne_43 : decode cX1_theOne 43 = .ok (.areturn, 1) := dk_176 (dk_at dksX1_theOne_1 21 rfl rfl)
theorem dX1_theOne_44 : decode cX1_theOne 44 = .ok (.iinc 2 (-1), 3) := dk_132 2 255 (dk_at dksX1_theOne_2 0 rfl rfl)
theorem dX1_theOne_47 : decode cX1_theOne 47 = .ok (.goto (-37), 3) := dk_167 255 219 (dk_at dksX1_theOne_2 3 rfl rfl)
theorem dX1_theOne_50 : decode cX1_theOne 50 = .ok (.aconst_null, 1) := dk_1 (dk_at dksX1_theOne_2 6 rfl rfl)
theorem dX1_theOne_51 : decode cX1_theOne 51 = .ok (.areturn, 1) := dk_176 (dk_at dksX1_theOne_2 7 rfl rfl)
abbrev cX1_isFor : ByteArray := prog_1_method_12_code
def yX1_isFor : MethodName := ⟨RX1, "isFor", "(LVaryStore$Thing;)Z"⟩
def dkwX1_isFor_2 : List UInt8 := [61, 132, 3, 1, 167, 255, 208, 28, 172]
abbrev dktX1_isFor_2 : List UInt8 := dkwX1_isFor_2 ++ []
def dkwX1_isFor_1 : List UInt8 := [180, 0, 124, 29, 182, 0, 117, 192, 0, 8, 182, 0, 121, 43, 180, 0, 129, 29, 182, 0, 117, 182, 0, 132]
abbrev dktX1_isFor_1 : List UInt8 := dkwX1_isFor_1 ++ dktX1_isFor_2
def dkwX1_isFor_0 : List UInt8 := [4, 61, 3, 62, 29, 43, 180, 0, 124, 182, 0, 114, 162, 0, 43, 28, 153, 0, 39, 42, 180, 0, 56, 43]
abbrev dktX1_isFor_0 : List UInt8 := dkwX1_isFor_0 ++ dktX1_isFor_1
theorem dksX1_isFor_0 : cX1_isFor.data.toList.drop 0 = dktX1_isFor_0 := by decide +kernel
theorem dksX1_isFor_1 : cX1_isFor.data.toList.drop 24 = dktX1_isFor_1 := dk_seg dksX1_isFor_0 24 rfl rfl
theorem dksX1_isFor_2 : cX1_isFor.data.toList.drop 48 = dktX1_isFor_2 := dk_seg dksX1_isFor_1 24 rfl rfl
theorem dX1_isFor_0 : decode cX1_isFor 0 = .ok (.iconst 1, 1) := dk_4 (dk_at dksX1_isFor_0 0 rfl rfl)
theorem dX1_isFor_1 : decode cX1_isFor 1 = .ok (.istore_n 2, 1) := dk_61 (dk_at dksX1_isFor_0 1 rfl rfl)
theorem dX1_isFor_2 : decode cX1_isFor 2 = .ok (.iconst 0, 1) := dk_3 (dk_at dksX1_isFor_0 2 rfl rfl)
theorem dX1_isFor_3 : decode cX1_isFor 3 = .ok (.istore_n 3, 1) := dk_62 (dk_at dksX1_isFor_0 3 rfl rfl)
theorem dX1_isFor_4 : decode cX1_isFor 4 = .ok (.iload_n 3, 1) := dk_29 (dk_at dksX1_isFor_0 4 rfl rfl)
theorem dX1_isFor_5 : decode cX1_isFor 5 = .ok (.aload_n 1, 1) := dk_43 (dk_at dksX1_isFor_0 5 rfl rfl)
theorem dX1_isFor_6 : decode cX1_isFor 6 = .ok (.getfield 124, 3) := dk_180 0 124 (dk_at dksX1_isFor_0 6 rfl rfl)
theorem dX1_isFor_9 : decode cX1_isFor 9 = .ok (.invokevirtual 114, 3) := dk_182 0 114 (dk_at dksX1_isFor_0 9 rfl rfl)
theorem dX1_isFor_12 : decode cX1_isFor 12 = .ok (.if_icmp .ge 43, 3) := dk_162 0 43 (dk_at dksX1_isFor_0 12 rfl rfl)
theorem dX1_isFor_15 : decode cX1_isFor 15 = .ok (.iload_n 2, 1) := dk_28 (dk_at dksX1_isFor_0 15 rfl rfl)
theorem dX1_isFor_16 : decode cX1_isFor 16 = .ok (.ifCond .eq 39, 3) := dk_153 0 39 (dk_at dksX1_isFor_0 16 rfl rfl)
theorem dX1_isFor_19 : decode cX1_isFor 19 = .ok (.aload_n 0, 1) := dk_42 (dk_at dksX1_isFor_0 19 rfl rfl)
theorem dX1_isFor_20 : decode cX1_isFor 20 = .ok (.getfield 56, 3) := dk_180 0 56 (dk_at dksX1_isFor_0 20 rfl rfl)
theorem dX1_isFor_23 : decode cX1_isFor 23 = .ok (.aload_n 1, 1) := dk_43 (dk_at dksX1_isFor_0 23 rfl rfl)
theorem dX1_isFor_24 : decode cX1_isFor 24 = .ok (.getfield 124, 3) := dk_180 0 124 (dk_at dksX1_isFor_1 0 rfl rfl)
theorem dX1_isFor_27 : decode cX1_isFor 27 = .ok (.iload_n 3, 1) := dk_29 (dk_at dksX1_isFor_1 3 rfl rfl)
theorem dX1_isFor_28 : decode cX1_isFor 28 = .ok (.invokevirtual 117, 3) := dk_182 0 117 (dk_at dksX1_isFor_1 4 rfl rfl)
theorem dX1_isFor_31 : decode cX1_isFor 31 = .ok (.checkcast 8, 3) := dk_192 0 8 (dk_at dksX1_isFor_1 7 rfl rfl)
theorem dX1_isFor_34 : decode cX1_isFor 34 = .ok (.invokevirtual 121, 3) := dk_182 0 121 (dk_at dksX1_isFor_1 10 rfl rfl)
theorem dX1_isFor_37 : decode cX1_isFor 37 = .ok (.aload_n 1, 1) := dk_43 (dk_at dksX1_isFor_1 13 rfl rfl)
theorem dX1_isFor_38 : decode cX1_isFor 38 = .ok (.getfield 129, 3) := dk_180 0 129 (dk_at dksX1_isFor_1 14 rfl rfl)
theorem dX1_isFor_41 : decode cX1_isFor 41 = .ok (.iload_n 3, 1) := dk_29 (dk_at dksX1_isFor_1 17 rfl rfl)
theorem dX1_isFor_42 : decode cX1_isFor 42 = .ok (.invokevirtual 117, 3) := dk_182 0 117 (dk_at dksX1_isFor_1 18 rfl rfl)
theorem dX1_isFor_45 : decode cX1_isFor 45 = .ok (.invokevirtual 132, 3) := dk_182 0 132 (dk_at dksX1_isFor_1 21 rfl rfl)
theorem dX1_isFor_48 : decode cX1_isFor 48 = .ok (.istore_n 2, 1) := dk_61 (dk_at dksX1_isFor_2 0 rfl rfl)
theorem dX1_isFor_49 : decode cX1_isFor 49 = .ok (.iinc 3 1, 3) := dk_132 3 1 (dk_at dksX1_isFor_2 1 rfl rfl)
theorem dX1_isFor_52 : decode cX1_isFor 52 = .ok (.goto (-48), 3) := dk_167 255 208 (dk_at dksX1_isFor_2 4 rfl rfl)
theorem dX1_isFor_55 : decode cX1_isFor 55 = .ok (.iload_n 2, 1) := dk_28 (dk_at dksX1_isFor_2 7 rfl rfl)
theorem dX1_isFor_56 : decode cX1_isFor 56 = .ok (.ireturn, 1) := dk_172 (dk_at dksX1_isFor_2 8 rfl rfl)
abbrev cX1_answer : ByteArray := prog_1_method_16_code
def yX1_answer : MethodName := ⟨RX1, "answer", "(LVaryStore$Thing;LVaryStore$Control;)I"⟩
def dkwX1_answer_6 : List UInt8 := [167, 0, 19, 43, 42, 180, 0, 174, 182, 0, 193, 153, 0, 7, 4, 167, 0, 4, 5, 172]
abbrev dktX1_answer_6 : List UInt8 := dkwX1_answer_6 ++ []
def dkwX1_answer_5 : List UInt8 := [44, 18, 197, 182, 0, 184, 96, 162, 0, 7, 4, 167, 0, 4, 3, 54, 5, 21, 5, 154, 0, 7, 6]
abbrev dktX1_answer_5 : List UInt8 := dkwX1_answer_5 ++ dktX1_answer_6
def dkwX1_answer_4 : List UInt8 := [153, 0, 38, 43, 182, 0, 199, 154, 0, 31, 44, 18, 197, 182, 0, 184, 155, 0, 18, 29, 43, 180, 0, 190]
abbrev dktX1_answer_4 : List UInt8 := dkwX1_answer_4 ++ dktX1_answer_5
def dkwX1_answer_3 : List UInt8 := [180, 0, 174, 182, 0, 193, 153, 0, 10, 21, 4, 154, 0, 5, 4, 172, 44, 18, 197, 182, 0, 171]
abbrev dktX1_answer_3 : List UInt8 := dkwX1_answer_3 ++ dktX1_answer_4
def dkwX1_answer_2 : List UInt8 := [29, 44, 18, 188, 182, 0, 184, 96, 43, 180, 0, 190, 161, 0, 7, 4, 167, 0, 4, 3, 54, 4, 43, 42]
abbrev dktX1_answer_2 : List UInt8 := dkwX1_answer_2 ++ dktX1_answer_3
def dkwX1_answer_1 : List UInt8 := [155, 0, 15, 29, 44, 18, 182, 182, 0, 184, 164, 0, 5, 6, 172, 44, 18, 188, 182, 0, 184, 155, 0, 22]
abbrev dktX1_answer_1 : List UInt8 := dkwX1_answer_1 ++ dktX1_answer_2
def dkwX1_answer_0 : List UInt8 := [43, 42, 180, 0, 174, 182, 0, 177, 62, 44, 18, 180, 182, 0, 171, 154, 0, 22, 44, 18, 182, 182, 0, 184]
abbrev dktX1_answer_0 : List UInt8 := dkwX1_answer_0 ++ dktX1_answer_1
theorem dksX1_answer_0 : cX1_answer.data.toList.drop 0 = dktX1_answer_0 := by decide +kernel
theorem dksX1_answer_1 : cX1_answer.data.toList.drop 24 = dktX1_answer_1 := dk_seg dksX1_answer_0 24 rfl rfl
theorem dksX1_answer_2 : cX1_answer.data.toList.drop 48 = dktX1_answer_2 := dk_seg dksX1_answer_1 24 rfl rfl
theorem dksX1_answer_3 : cX1_answer.data.toList.drop 72 = dktX1_answer_3 := dk_seg dksX1_answer_2 24 rfl rfl
theorem dksX1_answer_4 : cX1_answer.data.toList.drop 94 = dktX1_answer_4 := dk_seg dksX1_answer_3 22 rfl rfl
theorem dksX1_answer_5 : cX1_answer.data.toList.drop 118 = dktX1_answer_5 := dk_seg dksX1_answer_4 24 rfl rfl
theorem dksX1_answer_6 : cX1_answer.data.toList.drop 141 = dktX1_answer_6 := dk_seg dksX1_answer_5 23 rfl rfl
theorem dX1_answer_0 : decode cX1_answer 0 = .ok (.aload_n 1, 1) := dk_43 (dk_at dksX1_answer_0 0 rfl rfl)
theorem dX1_answer_1 : decode cX1_answer 1 = .ok (.aload_n 0, 1) := dk_42 (dk_at dksX1_answer_0 1 rfl rfl)
theorem dX1_answer_2 : decode cX1_answer 2 = .ok (.getfield 174, 3) := dk_180 0 174 (dk_at dksX1_answer_0 2 rfl rfl)
theorem dX1_answer_5 : decode cX1_answer 5 = .ok (.invokevirtual 177, 3) := dk_182 0 177 (dk_at dksX1_answer_0 5 rfl rfl)
theorem dX1_answer_8 : decode cX1_answer 8 = .ok (.istore_n 3, 1) := dk_62 (dk_at dksX1_answer_0 8 rfl rfl)
theorem dX1_answer_9 : decode cX1_answer 9 = .ok (.aload_n 2, 1) := dk_44 (dk_at dksX1_answer_0 9 rfl rfl)
theorem dX1_answer_10 : decode cX1_answer 10 = .ok (.ldc 180, 2) := dk_18 180 (dk_at dksX1_answer_0 10 rfl rfl)
theorem dX1_answer_12 : decode cX1_answer 12 = .ok (.invokevirtual 171, 3) := dk_182 0 171 (dk_at dksX1_answer_0 12 rfl rfl)
theorem dX1_answer_15 : decode cX1_answer 15 = .ok (.ifCond .ne 22, 3) := dk_154 0 22 (dk_at dksX1_answer_0 15 rfl rfl)
theorem dX1_answer_18 : decode cX1_answer 18 = .ok (.aload_n 2, 1) := dk_44 (dk_at dksX1_answer_0 18 rfl rfl)
theorem dX1_answer_19 : decode cX1_answer 19 = .ok (.ldc 182, 2) := dk_18 182 (dk_at dksX1_answer_0 19 rfl rfl)
theorem dX1_answer_21 : decode cX1_answer 21 = .ok (.invokevirtual 184, 3) := dk_182 0 184 (dk_at dksX1_answer_0 21 rfl rfl)
theorem dX1_answer_24 : decode cX1_answer 24 = .ok (.ifCond .lt 15, 3) := dk_155 0 15 (dk_at dksX1_answer_1 0 rfl rfl)
theorem dX1_answer_27 : decode cX1_answer 27 = .ok (.iload_n 3, 1) := dk_29 (dk_at dksX1_answer_1 3 rfl rfl)
theorem dX1_answer_28 : decode cX1_answer 28 = .ok (.aload_n 2, 1) := dk_44 (dk_at dksX1_answer_1 4 rfl rfl)
theorem dX1_answer_29 : decode cX1_answer 29 = .ok (.ldc 182, 2) := dk_18 182 (dk_at dksX1_answer_1 5 rfl rfl)
theorem dX1_answer_31 : decode cX1_answer 31 = .ok (.invokevirtual 184, 3) := dk_182 0 184 (dk_at dksX1_answer_1 7 rfl rfl)
theorem dX1_answer_34 : decode cX1_answer 34 = .ok (.if_icmp .le 5, 3) := dk_164 0 5 (dk_at dksX1_answer_1 10 rfl rfl)
theorem dX1_answer_37 : decode cX1_answer 37 = .ok (.iconst 3, 1) := dk_6 (dk_at dksX1_answer_1 13 rfl rfl)
theorem dX1_answer_38 : decode cX1_answer 38 = .ok (.ireturn, 1) := dk_172 (dk_at dksX1_answer_1 14 rfl rfl)
theorem dX1_answer_39 : decode cX1_answer 39 = .ok (.aload_n 2, 1) := dk_44 (dk_at dksX1_answer_1 15 rfl rfl)
theorem dX1_answer_40 : decode cX1_answer 40 = .ok (.ldc 188, 2) := dk_18 188 (dk_at dksX1_answer_1 16 rfl rfl)
theorem dX1_answer_42 : decode cX1_answer 42 = .ok (.invokevirtual 184, 3) := dk_182 0 184 (dk_at dksX1_answer_1 18 rfl rfl)
theorem dX1_answer_45 : decode cX1_answer 45 = .ok (.ifCond .lt 22, 3) := dk_155 0 22 (dk_at dksX1_answer_1 21 rfl rfl)
theorem dX1_answer_48 : decode cX1_answer 48 = .ok (.iload_n 3, 1) := dk_29 (dk_at dksX1_answer_2 0 rfl rfl)
theorem dX1_answer_49 : decode cX1_answer 49 = .ok (.aload_n 2, 1) := dk_44 (dk_at dksX1_answer_2 1 rfl rfl)
theorem dX1_answer_50 : decode cX1_answer 50 = .ok (.ldc 188, 2) := dk_18 188 (dk_at dksX1_answer_2 2 rfl rfl)
theorem dX1_answer_52 : decode cX1_answer 52 = .ok (.invokevirtual 184, 3) := dk_182 0 184 (dk_at dksX1_answer_2 4 rfl rfl)
theorem dX1_answer_55 : decode cX1_answer 55 = .ok (.iadd, 1) := dk_96 (dk_at dksX1_answer_2 7 rfl rfl)
theorem dX1_answer_56 : decode cX1_answer 56 = .ok (.aload_n 1, 1) := dk_43 (dk_at dksX1_answer_2 8 rfl rfl)
theorem dX1_answer_57 : decode cX1_answer 57 = .ok (.getfield 190, 3) := dk_180 0 190 (dk_at dksX1_answer_2 9 rfl rfl)
theorem dX1_answer_60 : decode cX1_answer 60 = .ok (.if_icmp .lt 7, 3) := dk_161 0 7 (dk_at dksX1_answer_2 12 rfl rfl)
theorem dX1_answer_63 : decode cX1_answer 63 = .ok (.iconst 1, 1) := dk_4 (dk_at dksX1_answer_2 15 rfl rfl)
theorem dX1_answer_64 : decode cX1_answer 64 = .ok (.goto 4, 3) := dk_167 0 4 (dk_at dksX1_answer_2 16 rfl rfl)
theorem dX1_answer_67 : decode cX1_answer 67 = .ok (.iconst 0, 1) := dk_3 (dk_at dksX1_answer_2 19 rfl rfl)
theorem dX1_answer_68 : decode cX1_answer 68 = .ok (.istore 4, 2) := dk_54 4 (dk_at dksX1_answer_2 20 rfl rfl)
theorem dX1_answer_70 : decode cX1_answer 70 = .ok (.aload_n 1, 1) := dk_43 (dk_at dksX1_answer_2 22 rfl rfl)
theorem dX1_answer_71 : decode cX1_answer 71 = .ok (.aload_n 0, 1) := dk_42 (dk_at dksX1_answer_2 23 rfl rfl)
theorem dX1_answer_72 : decode cX1_answer 72 = .ok (.getfield 174, 3) := dk_180 0 174 (dk_at dksX1_answer_3 0 rfl rfl)
theorem dX1_answer_75 : decode cX1_answer 75 = .ok (.invokevirtual 193, 3) := dk_182 0 193 (dk_at dksX1_answer_3 3 rfl rfl)
theorem dX1_answer_78 : decode cX1_answer 78 = .ok (.ifCond .eq 10, 3) := dk_153 0 10 (dk_at dksX1_answer_3 6 rfl rfl)
theorem dX1_answer_81 : decode cX1_answer 81 = .ok (.iload 4, 2) := dk_21 4 (dk_at dksX1_answer_3 9 rfl rfl)
theorem dX1_answer_83 : decode cX1_answer 83 = .ok (.ifCond .ne 5, 3) := dk_154 0 5 (dk_at dksX1_answer_3 11 rfl rfl)
theorem dX1_answer_86 : decode cX1_answer 86 = .ok (.iconst 1, 1) := dk_4 (dk_at dksX1_answer_3 14 rfl rfl)
theorem dX1_answer_87 : decode cX1_answer 87 = .ok (.ireturn, 1) := dk_172 (dk_at dksX1_answer_3 15 rfl rfl)
theorem dX1_answer_88 : decode cX1_answer 88 = .ok (.aload_n 2, 1) := dk_44 (dk_at dksX1_answer_3 16 rfl rfl)
theorem dX1_answer_89 : decode cX1_answer 89 = .ok (.ldc 197, 2) := dk_18 197 (dk_at dksX1_answer_3 17 rfl rfl)
theorem dX1_answer_91 : decode cX1_answer 91 = .ok (.invokevirtual 171, 3) := dk_182 0 171 (dk_at dksX1_answer_3 19 rfl rfl)
theorem dX1_answer_94 : decode cX1_answer 94 = .ok (.ifCond .eq 38, 3) := dk_153 0 38 (dk_at dksX1_answer_4 0 rfl rfl)
theorem dX1_answer_97 : decode cX1_answer 97 = .ok (.aload_n 1, 1) := dk_43 (dk_at dksX1_answer_4 3 rfl rfl)
theorem dX1_answer_98 : decode cX1_answer 98 = .ok (.invokevirtual 199, 3) := dk_182 0 199 (dk_at dksX1_answer_4 4 rfl rfl)
theorem dX1_answer_101 : decode cX1_answer 101 = .ok (.ifCond .ne 31, 3) := dk_154 0 31 (dk_at dksX1_answer_4 7 rfl rfl)
theorem dX1_answer_104 : decode cX1_answer 104 = .ok (.aload_n 2, 1) := dk_44 (dk_at dksX1_answer_4 10 rfl rfl)
theorem dX1_answer_105 : decode cX1_answer 105 = .ok (.ldc 197, 2) := dk_18 197 (dk_at dksX1_answer_4 11 rfl rfl)
theorem dX1_answer_107 : decode cX1_answer 107 = .ok (.invokevirtual 184, 3) := dk_182 0 184 (dk_at dksX1_answer_4 13 rfl rfl)
theorem dX1_answer_110 : decode cX1_answer 110 = .ok (.ifCond .lt 18, 3) := dk_155 0 18 (dk_at dksX1_answer_4 16 rfl rfl)
theorem dX1_answer_113 : decode cX1_answer 113 = .ok (.iload_n 3, 1) := dk_29 (dk_at dksX1_answer_4 19 rfl rfl)
theorem dX1_answer_114 : decode cX1_answer 114 = .ok (.aload_n 1, 1) := dk_43 (dk_at dksX1_answer_4 20 rfl rfl)
theorem dX1_answer_115 : decode cX1_answer 115 = .ok (.getfield 190, 3) := dk_180 0 190 (dk_at dksX1_answer_4 21 rfl rfl)
theorem dX1_answer_118 : decode cX1_answer 118 = .ok (.aload_n 2, 1) := dk_44 (dk_at dksX1_answer_5 0 rfl rfl)
theorem dX1_answer_119 : decode cX1_answer 119 = .ok (.ldc 197, 2) := dk_18 197 (dk_at dksX1_answer_5 1 rfl rfl)
theorem dX1_answer_121 : decode cX1_answer 121 = .ok (.invokevirtual 184, 3) := dk_182 0 184 (dk_at dksX1_answer_5 3 rfl rfl)
theorem dX1_answer_124 : decode cX1_answer 124 = .ok (.iadd, 1) := dk_96 (dk_at dksX1_answer_5 6 rfl rfl)
theorem dX1_answer_125 : decode cX1_answer 125 = .ok (.if_icmp .ge 7, 3) := dk_162 0 7 (dk_at dksX1_answer_5 7 rfl rfl)
theorem dX1_answer_128 : decode cX1_answer 128 = .ok (.iconst 1, 1) := dk_4 (dk_at dksX1_answer_5 10 rfl rfl)
theorem dX1_answer_129 : decode cX1_answer 129 = .ok (.goto 4, 3) := dk_167 0 4 (dk_at dksX1_answer_5 11 rfl rfl)
theorem dX1_answer_132 : decode cX1_answer 132 = .ok (.iconst 0, 1) := dk_3 (dk_at dksX1_answer_5 14 rfl rfl)
theorem dX1_answer_133 : decode cX1_answer 133 = .ok (.istore 5, 2) := dk_54 5 (dk_at dksX1_answer_5 15 rfl rfl)
theorem dX1_answer_135 : decode cX1_answer 135 = .ok (.iload 5, 2) := dk_21 5 (dk_at dksX1_answer_5 17 rfl rfl)
theorem dX1_answer_137 : decode cX1_answer 137 = .ok (.ifCond .ne 7, 3) := dk_154 0 7 (dk_at dksX1_answer_5 19 rfl rfl)
theorem dX1_answer_140 : decode cX1_answer 140 = .ok (.iconst 3, 1) := dk_6 (dk_at dksX1_answer_5 22 rfl rfl)
theorem dX1_answer_141 : decode cX1_answer 141 = .ok (.goto 19, 3) := dk_167 0 19 (dk_at dksX1_answer_6 0 rfl rfl)
theorem dX1_answer_144 : decode cX1_answer 144 = .ok (.aload_n 1, 1) := dk_43 (dk_at dksX1_answer_6 3 rfl rfl)
theorem dX1_answer_145 : decode cX1_answer 145 = .ok (.aload_n 0, 1) := dk_42 (dk_at dksX1_answer_6 4 rfl rfl)
theorem dX1_answer_146 : decode cX1_answer 146 = .ok (.getfield 174, 3) := dk_180 0 174 (dk_at dksX1_answer_6 5 rfl rfl)
theorem dX1_answer_149 : decode cX1_answer 149 = .ok (.invokevirtual 193, 3) := dk_182 0 193 (dk_at dksX1_answer_6 8 rfl rfl)
theorem dX1_answer_152 : decode cX1_answer 152 = .ok (.ifCond .eq 7, 3) := dk_153 0 7 (dk_at dksX1_answer_6 11 rfl rfl)
theorem dX1_answer_155 : decode cX1_answer 155 = .ok (.iconst 1, 1) := dk_4 (dk_at dksX1_answer_6 14 rfl rfl)
theorem dX1_answer_156 : decode cX1_answer 156 = .ok (.goto 4, 3) := dk_167 0 4 (dk_at dksX1_answer_6 15 rfl rfl)
theorem dX1_answer_159 : decode cX1_answer 159 = .ok (.iconst 2, 1) := dk_5 (dk_at dksX1_answer_6 18 rfl rfl)
theorem dX1_answer_160 : decode cX1_answer 160 = .ok (.ireturn, 1) := dk_172 (dk_at dksX1_answer_6 19 rfl rfl)
abbrev cX1_use : ByteArray := prog_1_method_14_code
def yX1_use : MethodName := ⟨RX1, "use", "(LVaryStore$Thing;)V"⟩
def dkwX1_use_0 : List UInt8 := [42, 89, 180, 0, 142, 4, 96, 181, 0, 142, 43, 42, 180, 0, 142, 181, 0, 145, 177]
abbrev dktX1_use_0 : List UInt8 := dkwX1_use_0 ++ []
theorem dksX1_use_0 : cX1_use.data.toList.drop 0 = dktX1_use_0 := by decide +kernel
theorem dX1_use_0 : decode cX1_use 0 = .ok (.aload_n 0, 1) := dk_42 (dk_at dksX1_use_0 0 rfl rfl)
theorem dX1_use_1 : decode cX1_use 1 = .ok (.dup, 1) := dk_89 (dk_at dksX1_use_0 1 rfl rfl)
theorem dX1_use_2 : decode cX1_use 2 = .ok (.getfield 142, 3) := dk_180 0 142 (dk_at dksX1_use_0 2 rfl rfl)
theorem dX1_use_5 : decode cX1_use 5 = .ok (.iconst 1, 1) := dk_4 (dk_at dksX1_use_0 5 rfl rfl)
theorem dX1_use_6 : decode cX1_use 6 = .ok (.iadd, 1) := dk_96 (dk_at dksX1_use_0 6 rfl rfl)
theorem dX1_use_7 : decode cX1_use 7 = .ok (.putfield 142, 3) := dk_181 0 142 (dk_at dksX1_use_0 7 rfl rfl)
theorem dX1_use_10 : decode cX1_use 10 = .ok (.aload_n 1, 1) := dk_43 (dk_at dksX1_use_0 10 rfl rfl)
theorem dX1_use_11 : decode cX1_use 11 = .ok (.aload_n 0, 1) := dk_42 (dk_at dksX1_use_0 11 rfl rfl)
theorem dX1_use_12 : decode cX1_use 12 = .ok (.getfield 142, 3) := dk_180 0 142 (dk_at dksX1_use_0 12 rfl rfl)
theorem dX1_use_15 : decode cX1_use 15 = .ok (.putfield 145, 3) := dk_181 0 145 (dk_at dksX1_use_0 15 rfl rfl)
theorem dX1_use_18 : decode cX1_use 18 = .ok (.return_, 1) := dk_177 (dk_at dksX1_use_0 18 rfl rfl)
abbrev cX1_keep : ByteArray := prog_1_method_17_code
def yX1_keep : MethodName := ⟨RX1, "keep", "(I)Z"⟩
def dkwX1_keep_11 : List UInt8 := [180, 0, 49, 25, 5, 182, 0, 38, 87, 4, 172]
abbrev dktX1_keep_11 : List UInt8 := dkwX1_keep_11 ++ []
def dkwX1_keep_10 : List UInt8 := [16, 24, 160, 0, 15, 42, 180, 0, 49, 42, 182, 0, 242, 182, 0, 246, 87, 42, 25, 5, 182, 0, 165, 42]
abbrev dktX1_keep_10 : List UInt8 := dkwX1_keep_10 ++ dktX1_keep_11
def dkwX1_keep_9 : List UInt8 := [154, 0, 16, 25, 5, 180, 0, 239, 182, 0, 7, 154, 0, 5, 3, 172, 42, 180, 0, 49, 182, 0, 114]
abbrev dktX1_keep_9 : List UInt8 := dkwX1_keep_9 ++ dktX1_keep_10
def dkwX1_keep_8 : List UInt8 := [182, 0, 171, 154, 0, 7, 4, 167, 0, 4, 3, 54, 6, 21, 6, 153, 0, 22, 25, 5, 180, 0, 190]
abbrev dktX1_keep_8 : List UInt8 := dkwX1_keep_8 ++ dktX1_keep_9
def dkwX1_keep_7 : List UInt8 := [182, 0, 171, 154, 0, 29, 25, 4, 18, 234, 182, 0, 236, 154, 0, 19, 42, 180, 0, 65, 18, 230]
abbrev dktX1_keep_7 : List UInt8 := dkwX1_keep_7 ++ dktX1_keep_8
def dkwX1_keep_6 : List UInt8 := [21, 6, 182, 0, 227, 87, 132, 6, 255, 167, 255, 218, 45, 18, 230, 182, 0, 171, 154, 0, 38, 45, 18, 232]
abbrev dktX1_keep_6 : List UInt8 := dkwX1_keep_6 ++ dktX1_keep_7
def dkwX1_keep_5 : List UInt8 := [180, 0, 49, 21, 6, 182, 0, 117, 192, 0, 125, 25, 5, 182, 0, 224, 153, 0, 13, 42, 180, 0, 49]
abbrev dktX1_keep_5 : List UInt8 := dkwX1_keep_5 ++ dktX1_keep_6
def dkwX1_keep_4 : List UInt8 := [180, 0, 174, 182, 0, 220, 42, 180, 0, 49, 182, 0, 114, 4, 100, 54, 6, 21, 6, 155, 0, 39, 42]
abbrev dktX1_keep_4 : List UInt8 := dkwX1_keep_4 ++ dktX1_keep_5
def dkwX1_keep_3 : List UInt8 := [167, 0, 5, 18, 205, 25, 4, 42, 25, 4, 182, 0, 213, 183, 0, 217, 58, 5, 25, 5, 45, 44, 42]
abbrev dktX1_keep_3 : List UInt8 := dkwX1_keep_3 ++ dktX1_keep_4
def dkwX1_keep_2 : List UInt8 := [58, 4, 187, 0, 125, 89, 27, 44, 18, 211, 182, 0, 204, 153, 0, 12, 44, 18, 211, 182, 0, 154]
abbrev dktX1_keep_2 : List UInt8 := dkwX1_keep_2 ++ dktX1_keep_3
def dkwX1_keep_1 : List UInt8 := [182, 0, 204, 153, 0, 12, 44, 18, 203, 182, 0, 154, 167, 0, 5, 18, 205, 184, 0, 96, 184, 0, 207]
abbrev dktX1_keep_1 : List UInt8 := dkwX1_keep_1 ++ dktX1_keep_2
def dkwX1_keep_0 : List UInt8 := [42, 27, 182, 0, 148, 77, 187, 0, 60, 89, 44, 18, 152, 182, 0, 154, 183, 0, 62, 78, 44, 18, 203]
abbrev dktX1_keep_0 : List UInt8 := dkwX1_keep_0 ++ dktX1_keep_1
theorem dksX1_keep_0 : cX1_keep.data.toList.drop 0 = dktX1_keep_0 := by decide +kernel
theorem dksX1_keep_1 : cX1_keep.data.toList.drop 23 = dktX1_keep_1 := dk_seg dksX1_keep_0 23 rfl rfl
theorem dksX1_keep_2 : cX1_keep.data.toList.drop 46 = dktX1_keep_2 := dk_seg dksX1_keep_1 23 rfl rfl
theorem dksX1_keep_3 : cX1_keep.data.toList.drop 68 = dktX1_keep_3 := dk_seg dksX1_keep_2 22 rfl rfl
theorem dksX1_keep_4 : cX1_keep.data.toList.drop 91 = dktX1_keep_4 := dk_seg dksX1_keep_3 23 rfl rfl
theorem dksX1_keep_5 : cX1_keep.data.toList.drop 114 = dktX1_keep_5 := dk_seg dksX1_keep_4 23 rfl rfl
theorem dksX1_keep_6 : cX1_keep.data.toList.drop 137 = dktX1_keep_6 := dk_seg dksX1_keep_5 23 rfl rfl
theorem dksX1_keep_7 : cX1_keep.data.toList.drop 161 = dktX1_keep_7 := dk_seg dksX1_keep_6 24 rfl rfl
theorem dksX1_keep_8 : cX1_keep.data.toList.drop 183 = dktX1_keep_8 := dk_seg dksX1_keep_7 22 rfl rfl
theorem dksX1_keep_9 : cX1_keep.data.toList.drop 206 = dktX1_keep_9 := dk_seg dksX1_keep_8 23 rfl rfl
theorem dksX1_keep_10 : cX1_keep.data.toList.drop 229 = dktX1_keep_10 := dk_seg dksX1_keep_9 23 rfl rfl
theorem dksX1_keep_11 : cX1_keep.data.toList.drop 253 = dktX1_keep_11 := dk_seg dksX1_keep_10 24 rfl rfl
theorem dX1_keep_0 : decode cX1_keep 0 = .ok (.aload_n 0, 1) := dk_42 (dk_at dksX1_keep_0 0 rfl rfl)
theorem dX1_keep_1 : decode cX1_keep 1 = .ok (.iload_n 1, 1) := dk_27 (dk_at dksX1_keep_0 1 rfl rfl)
theorem dX1_keep_2 : decode cX1_keep 2 = .ok (.invokevirtual 148, 3) := dk_182 0 148 (dk_at dksX1_keep_0 2 rfl rfl)
theorem dX1_keep_5 : decode cX1_keep 5 = .ok (.astore_n 2, 1) := dk_77 (dk_at dksX1_keep_0 5 rfl rfl)
theorem dX1_keep_6 : decode cX1_keep 6 = .ok (.new 60, 3) := dk_187 0 60 (dk_at dksX1_keep_0 6 rfl rfl)
theorem dX1_keep_9 : decode cX1_keep 9 = .ok (.dup, 1) := dk_89 (dk_at dksX1_keep_0 9 rfl rfl)
theorem dX1_keep_10 : decode cX1_keep 10 = .ok (.aload_n 2, 1) := dk_44 (dk_at dksX1_keep_0 10 rfl rfl)
theorem dX1_keep_11 : decode cX1_keep 11 = .ok (.ldc 152, 2) := dk_18 152 (dk_at dksX1_keep_0 11 rfl rfl)
theorem dX1_keep_13 : decode cX1_keep 13 = .ok (.invokevirtual 154, 3) := dk_182 0 154 (dk_at dksX1_keep_0 13 rfl rfl)
theorem dX1_keep_16 : decode cX1_keep 16 = .ok (.invokespecial 62, 3) := dk_183 0 62 (dk_at dksX1_keep_0 16 rfl rfl)
theorem dX1_keep_19 : decode cX1_keep 19 = .ok (.astore_n 3, 1) := dk_78 (dk_at dksX1_keep_0 19 rfl rfl)
theorem dX1_keep_20 : decode cX1_keep 20 = .ok (.aload_n 2, 1) := dk_44 (dk_at dksX1_keep_0 20 rfl rfl)
theorem dX1_keep_21 : decode cX1_keep 21 = .ok (.ldc 203, 2) := dk_18 203 (dk_at dksX1_keep_0 21 rfl rfl)
theorem dX1_keep_23 : decode cX1_keep 23 = .ok (.invokevirtual 204, 3) := dk_182 0 204 (dk_at dksX1_keep_1 0 rfl rfl)
theorem dX1_keep_26 : decode cX1_keep 26 = .ok (.ifCond .eq 12, 3) := dk_153 0 12 (dk_at dksX1_keep_1 3 rfl rfl)
theorem dX1_keep_29 : decode cX1_keep 29 = .ok (.aload_n 2, 1) := dk_44 (dk_at dksX1_keep_1 6 rfl rfl)
theorem dX1_keep_30 : decode cX1_keep 30 = .ok (.ldc 203, 2) := dk_18 203 (dk_at dksX1_keep_1 7 rfl rfl)
theorem dX1_keep_32 : decode cX1_keep 32 = .ok (.invokevirtual 154, 3) := dk_182 0 154 (dk_at dksX1_keep_1 9 rfl rfl)
theorem dX1_keep_35 : decode cX1_keep 35 = .ok (.goto 5, 3) := dk_167 0 5 (dk_at dksX1_keep_1 12 rfl rfl)
theorem dX1_keep_38 : decode cX1_keep 38 = .ok (.ldc 205, 2) := dk_18 205 (dk_at dksX1_keep_1 15 rfl rfl)
theorem dX1_keep_40 : decode cX1_keep 40 = .ok (.invokestatic 96, 3) := dk_184 0 96 (dk_at dksX1_keep_1 17 rfl rfl)
theorem dX1_keep_43 : decode cX1_keep 43 = .ok (.invokestatic 207, 3) := dk_184 0 207 (dk_at dksX1_keep_1 20 rfl rfl)
theorem dX1_keep_46 : decode cX1_keep 46 = .ok (.astore 4, 2) := dk_58 4 (dk_at dksX1_keep_2 0 rfl rfl)
theorem dX1_keep_48 : decode cX1_keep 48 = .ok (.new 125, 3) := dk_187 0 125 (dk_at dksX1_keep_2 2 rfl rfl)
theorem dX1_keep_51 : decode cX1_keep 51 = .ok (.dup, 1) := dk_89 (dk_at dksX1_keep_2 5 rfl rfl)
theorem dX1_keep_52 : decode cX1_keep 52 = .ok (.iload_n 1, 1) := dk_27 (dk_at dksX1_keep_2 6 rfl rfl)
theorem dX1_keep_53 : decode cX1_keep 53 = .ok (.aload_n 2, 1) := dk_44 (dk_at dksX1_keep_2 7 rfl rfl)
theorem dX1_keep_54 : decode cX1_keep 54 = .ok (.ldc 211, 2) := dk_18 211 (dk_at dksX1_keep_2 8 rfl rfl)
theorem dX1_keep_56 : decode cX1_keep 56 = .ok (.invokevirtual 204, 3) := dk_182 0 204 (dk_at dksX1_keep_2 10 rfl rfl)
theorem dX1_keep_59 : decode cX1_keep 59 = .ok (.ifCond .eq 12, 3) := dk_153 0 12 (dk_at dksX1_keep_2 13 rfl rfl)
theorem dX1_keep_62 : decode cX1_keep 62 = .ok (.aload_n 2, 1) := dk_44 (dk_at dksX1_keep_2 16 rfl rfl)
theorem dX1_keep_63 : decode cX1_keep 63 = .ok (.ldc 211, 2) := dk_18 211 (dk_at dksX1_keep_2 17 rfl rfl)
theorem dX1_keep_65 : decode cX1_keep 65 = .ok (.invokevirtual 154, 3) := dk_182 0 154 (dk_at dksX1_keep_2 19 rfl rfl)
theorem dX1_keep_68 : decode cX1_keep 68 = .ok (.goto 5, 3) := dk_167 0 5 (dk_at dksX1_keep_3 0 rfl rfl)
theorem dX1_keep_71 : decode cX1_keep 71 = .ok (.ldc 205, 2) := dk_18 205 (dk_at dksX1_keep_3 3 rfl rfl)
theorem dX1_keep_73 : decode cX1_keep 73 = .ok (.aload 4, 2) := dk_25 4 (dk_at dksX1_keep_3 5 rfl rfl)
theorem dX1_keep_75 : decode cX1_keep 75 = .ok (.aload_n 0, 1) := dk_42 (dk_at dksX1_keep_3 7 rfl rfl)
theorem dX1_keep_76 : decode cX1_keep 76 = .ok (.aload 4, 2) := dk_25 4 (dk_at dksX1_keep_3 8 rfl rfl)
theorem dX1_keep_78 : decode cX1_keep 78 = .ok (.invokevirtual 213, 3) := dk_182 0 213 (dk_at dksX1_keep_3 10 rfl rfl)
theorem dX1_keep_81 : decode cX1_keep 81 = .ok (.invokespecial 217, 3) := dk_183 0 217 (dk_at dksX1_keep_3 13 rfl rfl)
theorem dX1_keep_84 : decode cX1_keep 84 = .ok (.astore 5, 2) := dk_58 5 (dk_at dksX1_keep_3 16 rfl rfl)
theorem dX1_keep_86 : decode cX1_keep 86 = .ok (.aload 5, 2) := dk_25 5 (dk_at dksX1_keep_3 18 rfl rfl)
theorem dX1_keep_88 : decode cX1_keep 88 = .ok (.aload_n 3, 1) := dk_45 (dk_at dksX1_keep_3 20 rfl rfl)
theorem dX1_keep_89 : decode cX1_keep 89 = .ok (.aload_n 2, 1) := dk_44 (dk_at dksX1_keep_3 21 rfl rfl)
theorem dX1_keep_90 : decode cX1_keep 90 = .ok (.aload_n 0, 1) := dk_42 (dk_at dksX1_keep_3 22 rfl rfl)
theorem dX1_keep_91 : decode cX1_keep 91 = .ok (.getfield 174, 3) := dk_180 0 174 (dk_at dksX1_keep_4 0 rfl rfl)
theorem dX1_keep_94 : decode cX1_keep 94 = .ok (.invokevirtual 220, 3) := dk_182 0 220 (dk_at dksX1_keep_4 3 rfl rfl)
theorem dX1_keep_97 : decode cX1_keep 97 = .ok (.aload_n 0, 1) := dk_42 (dk_at dksX1_keep_4 6 rfl rfl)
theorem dX1_keep_98 : decode cX1_keep 98 = .ok (.getfield 49, 3) := dk_180 0 49 (dk_at dksX1_keep_4 7 rfl rfl)
theorem dX1_keep_101 : decode cX1_keep 101 = .ok (.invokevirtual 114, 3) := dk_182 0 114 (dk_at dksX1_keep_4 10 rfl rfl)
theorem dX1_keep_104 : decode cX1_keep 104 = .ok (.iconst 1, 1) := dk_4 (dk_at dksX1_keep_4 13 rfl rfl)
theorem dX1_keep_105 : decode cX1_keep 105 = .ok (.isub, 1) := dk_100 (dk_at dksX1_keep_4 14 rfl rfl)
theorem dX1_keep_106 : decode cX1_keep 106 = .ok (.istore 6, 2) := dk_54 6 (dk_at dksX1_keep_4 15 rfl rfl)
theorem dX1_keep_108 : decode cX1_keep 108 = .ok (.iload 6, 2) := dk_21 6 (dk_at dksX1_keep_4 17 rfl rfl)
theorem dX1_keep_110 : decode cX1_keep 110 = .ok (.ifCond .lt 39, 3) := dk_155 0 39 (dk_at dksX1_keep_4 19 rfl rfl)
theorem dX1_keep_113 : decode cX1_keep 113 = .ok (.aload_n 0, 1) := dk_42 (dk_at dksX1_keep_4 22 rfl rfl)
theorem dX1_keep_114 : decode cX1_keep 114 = .ok (.getfield 49, 3) := dk_180 0 49 (dk_at dksX1_keep_5 0 rfl rfl)
theorem dX1_keep_117 : decode cX1_keep 117 = .ok (.iload 6, 2) := dk_21 6 (dk_at dksX1_keep_5 3 rfl rfl)
theorem dX1_keep_119 : decode cX1_keep 119 = .ok (.invokevirtual 117, 3) := dk_182 0 117 (dk_at dksX1_keep_5 5 rfl rfl)
theorem dX1_keep_122 : decode cX1_keep 122 = .ok (.checkcast 125, 3) := dk_192 0 125 (dk_at dksX1_keep_5 8 rfl rfl)
theorem dX1_keep_125 : decode cX1_keep 125 = .ok (.aload 5, 2) := dk_25 5 (dk_at dksX1_keep_5 11 rfl rfl)
theorem dX1_keep_127 : decode cX1_keep 127 = .ok (.invokevirtual 224, 3) := dk_182 0 224 (dk_at dksX1_keep_5 13 rfl rfl)
theorem dX1_keep_130 : decode cX1_keep 130 = .ok (.ifCond .eq 13, 3) := dk_153 0 13 (dk_at dksX1_keep_5 16 rfl rfl)
theorem dX1_keep_133 : decode cX1_keep 133 = .ok (.aload_n 0, 1) := dk_42 (dk_at dksX1_keep_5 19 rfl rfl)
theorem dX1_keep_134 : decode cX1_keep 134 = .ok (.getfield 49, 3) := dk_180 0 49 (dk_at dksX1_keep_5 20 rfl rfl)
theorem dX1_keep_137 : decode cX1_keep 137 = .ok (.iload 6, 2) := dk_21 6 (dk_at dksX1_keep_6 0 rfl rfl)
theorem dX1_keep_139 : decode cX1_keep 139 = .ok (.invokevirtual 227, 3) := dk_182 0 227 (dk_at dksX1_keep_6 2 rfl rfl)
theorem dX1_keep_142 : decode cX1_keep 142 = .ok (.pop, 1) := dk_87 (dk_at dksX1_keep_6 5 rfl rfl)
theorem dX1_keep_143 : decode cX1_keep 143 = .ok (.iinc 6 (-1), 3) := dk_132 6 255 (dk_at dksX1_keep_6 6 rfl rfl)
theorem dX1_keep_146 : decode cX1_keep 146 = .ok (.goto (-38), 3) := dk_167 255 218 (dk_at dksX1_keep_6 9 rfl rfl)
theorem dX1_keep_149 : decode cX1_keep 149 = .ok (.aload_n 3, 1) := dk_45 (dk_at dksX1_keep_6 12 rfl rfl)
theorem dX1_keep_150 : decode cX1_keep 150 = .ok (.ldc 230, 2) := dk_18 230 (dk_at dksX1_keep_6 13 rfl rfl)
theorem dX1_keep_152 : decode cX1_keep 152 = .ok (.invokevirtual 171, 3) := dk_182 0 171 (dk_at dksX1_keep_6 15 rfl rfl)
theorem dX1_keep_155 : decode cX1_keep 155 = .ok (.ifCond .ne 38, 3) := dk_154 0 38 (dk_at dksX1_keep_6 18 rfl rfl)
theorem dX1_keep_158 : decode cX1_keep 158 = .ok (.aload_n 3, 1) := dk_45 (dk_at dksX1_keep_6 21 rfl rfl)
theorem dX1_keep_159 : decode cX1_keep 159 = .ok (.ldc 232, 2) := dk_18 232 (dk_at dksX1_keep_6 22 rfl rfl)
theorem dX1_keep_161 : decode cX1_keep 161 = .ok (.invokevirtual 171, 3) := dk_182 0 171 (dk_at dksX1_keep_7 0 rfl rfl)
theorem dX1_keep_164 : decode cX1_keep 164 = .ok (.ifCond .ne 29, 3) := dk_154 0 29 (dk_at dksX1_keep_7 3 rfl rfl)
theorem dX1_keep_167 : decode cX1_keep 167 = .ok (.aload 4, 2) := dk_25 4 (dk_at dksX1_keep_7 6 rfl rfl)
theorem dX1_keep_169 : decode cX1_keep 169 = .ok (.ldc 234, 2) := dk_18 234 (dk_at dksX1_keep_7 8 rfl rfl)
theorem dX1_keep_171 : decode cX1_keep 171 = .ok (.invokevirtual 236, 3) := dk_182 0 236 (dk_at dksX1_keep_7 10 rfl rfl)
theorem dX1_keep_174 : decode cX1_keep 174 = .ok (.ifCond .ne 19, 3) := dk_154 0 19 (dk_at dksX1_keep_7 13 rfl rfl)
theorem dX1_keep_177 : decode cX1_keep 177 = .ok (.aload_n 0, 1) := dk_42 (dk_at dksX1_keep_7 16 rfl rfl)
theorem dX1_keep_178 : decode cX1_keep 178 = .ok (.getfield 65, 3) := dk_180 0 65 (dk_at dksX1_keep_7 17 rfl rfl)
theorem dX1_keep_181 : decode cX1_keep 181 = .ok (.ldc 230, 2) := dk_18 230 (dk_at dksX1_keep_7 20 rfl rfl)
theorem dX1_keep_183 : decode cX1_keep 183 = .ok (.invokevirtual 171, 3) := dk_182 0 171 (dk_at dksX1_keep_8 0 rfl rfl)
theorem dX1_keep_186 : decode cX1_keep 186 = .ok (.ifCond .ne 7, 3) := dk_154 0 7 (dk_at dksX1_keep_8 3 rfl rfl)
theorem dX1_keep_189 : decode cX1_keep 189 = .ok (.iconst 1, 1) := dk_4 (dk_at dksX1_keep_8 6 rfl rfl)
theorem dX1_keep_190 : decode cX1_keep 190 = .ok (.goto 4, 3) := dk_167 0 4 (dk_at dksX1_keep_8 7 rfl rfl)
theorem dX1_keep_193 : decode cX1_keep 193 = .ok (.iconst 0, 1) := dk_3 (dk_at dksX1_keep_8 10 rfl rfl)
theorem dX1_keep_194 : decode cX1_keep 194 = .ok (.istore 6, 2) := dk_54 6 (dk_at dksX1_keep_8 11 rfl rfl)
theorem dX1_keep_196 : decode cX1_keep 196 = .ok (.iload 6, 2) := dk_21 6 (dk_at dksX1_keep_8 13 rfl rfl)
theorem dX1_keep_198 : decode cX1_keep 198 = .ok (.ifCond .eq 22, 3) := dk_153 0 22 (dk_at dksX1_keep_8 15 rfl rfl)
theorem dX1_keep_201 : decode cX1_keep 201 = .ok (.aload 5, 2) := dk_25 5 (dk_at dksX1_keep_8 18 rfl rfl)
theorem dX1_keep_203 : decode cX1_keep 203 = .ok (.getfield 190, 3) := dk_180 0 190 (dk_at dksX1_keep_8 20 rfl rfl)
theorem dX1_keep_206 : decode cX1_keep 206 = .ok (.ifCond .ne 16, 3) := dk_154 0 16 (dk_at dksX1_keep_9 0 rfl rfl)
theorem dX1_keep_209 : decode cX1_keep 209 = .ok (.aload 5, 2) := dk_25 5 (dk_at dksX1_keep_9 3 rfl rfl)
theorem dX1_keep_211 : decode cX1_keep 211 = .ok (.getfield 239, 3) := dk_180 0 239 (dk_at dksX1_keep_9 5 rfl rfl)
theorem dX1_keep_214 : decode cX1_keep 214 = .ok (.invokevirtual 7, 3) := dk_182 0 7 (dk_at dksX1_keep_9 8 rfl rfl)
theorem dX1_keep_217 : decode cX1_keep 217 = .ok (.ifCond .ne 5, 3) := dk_154 0 5 (dk_at dksX1_keep_9 11 rfl rfl)
theorem dX1_keep_220 : decode cX1_keep 220 = .ok (.iconst 0, 1) := dk_3 (dk_at dksX1_keep_9 14 rfl rfl)
theorem dX1_keep_221 : decode cX1_keep 221 = .ok (.ireturn, 1) := dk_172 (dk_at dksX1_keep_9 15 rfl rfl)
theorem dX1_keep_222 : decode cX1_keep 222 = .ok (.aload_n 0, 1) := dk_42 (dk_at dksX1_keep_9 16 rfl rfl)
theorem dX1_keep_223 : decode cX1_keep 223 = .ok (.getfield 49, 3) := dk_180 0 49 (dk_at dksX1_keep_9 17 rfl rfl)
theorem dX1_keep_226 : decode cX1_keep 226 = .ok (.invokevirtual 114, 3) := dk_182 0 114 (dk_at dksX1_keep_9 20 rfl rfl)
theorem dX1_keep_229 : decode cX1_keep 229 = .ok (.bipush 24, 2) := dk_16 24 (dk_at dksX1_keep_10 0 rfl rfl)
theorem dX1_keep_231 : decode cX1_keep 231 = .ok (.if_icmp .ne 15, 3) := dk_160 0 15 (dk_at dksX1_keep_10 2 rfl rfl)
theorem dX1_keep_234 : decode cX1_keep 234 = .ok (.aload_n 0, 1) := dk_42 (dk_at dksX1_keep_10 5 rfl rfl)
theorem dX1_keep_235 : decode cX1_keep 235 = .ok (.getfield 49, 3) := dk_180 0 49 (dk_at dksX1_keep_10 6 rfl rfl)
theorem dX1_keep_238 : decode cX1_keep 238 = .ok (.aload_n 0, 1) := dk_42 (dk_at dksX1_keep_10 9 rfl rfl)
theorem dX1_keep_239 : decode cX1_keep 239 = .ok (.invokevirtual 242, 3) := dk_182 0 242 (dk_at dksX1_keep_10 10 rfl rfl)
theorem dX1_keep_242 : decode cX1_keep 242 = .ok (.invokevirtual 246, 3) := dk_182 0 246 (dk_at dksX1_keep_10 13 rfl rfl)
theorem dX1_keep_245 : decode cX1_keep 245 = .ok (.pop, 1) := dk_87 (dk_at dksX1_keep_10 16 rfl rfl)
theorem dX1_keep_246 : decode cX1_keep 246 = .ok (.aload_n 0, 1) := dk_42 (dk_at dksX1_keep_10 17 rfl rfl)
theorem dX1_keep_247 : decode cX1_keep 247 = .ok (.aload 5, 2) := dk_25 5 (dk_at dksX1_keep_10 18 rfl rfl)
theorem dX1_keep_249 : decode cX1_keep 249 = .ok (.invokevirtual 165, 3) := dk_182 0 165 (dk_at dksX1_keep_10 20 rfl rfl)
theorem dX1_keep_252 : decode cX1_keep 252 = .ok (.aload_n 0, 1) := dk_42 (dk_at dksX1_keep_10 23 rfl rfl)
theorem dX1_keep_253 : decode cX1_keep 253 = .ok (.getfield 49, 3) := dk_180 0 49 (dk_at dksX1_keep_11 0 rfl rfl)
theorem dX1_keep_256 : decode cX1_keep 256 = .ok (.aload 5, 2) := dk_25 5 (dk_at dksX1_keep_11 3 rfl rfl)
theorem dX1_keep_258 : decode cX1_keep 258 = .ok (.invokevirtual 38, 3) := dk_182 0 38 (dk_at dksX1_keep_11 5 rfl rfl)
theorem dX1_keep_261 : decode cX1_keep 261 = .ok (.pop, 1) := dk_87 (dk_at dksX1_keep_11 8 rfl rfl)
theorem dX1_keep_262 : decode cX1_keep 262 = .ok (.iconst 1, 1) := dk_4 (dk_at dksX1_keep_11 9 rfl rfl)
theorem dX1_keep_263 : decode cX1_keep 263 = .ok (.ireturn, 1) := dk_172 (dk_at dksX1_keep_11 10 rfl rfl)
abbrev cX1_valuesOf : ByteArray := prog_1_method_11_code
def yX1_valuesOf : MethodName := ⟨RX1, "valuesOf", "(Ljava/util/ArrayList;)Ljava/util/ArrayList;"⟩
def dkwX1_valuesOf_1 : List UInt8 := [29, 182, 0, 117, 192, 0, 8, 182, 0, 121, 182, 0, 38, 87, 132, 3, 1, 167, 255, 225, 44, 176]
abbrev dktX1_valuesOf_1 : List UInt8 := dkwX1_valuesOf_1 ++ []
def dkwX1_valuesOf_0 : List UInt8 := [187, 0, 29, 89, 183, 0, 31, 77, 3, 62, 29, 43, 182, 0, 114, 162, 0, 29, 44, 42, 180, 0, 56, 43]
abbrev dktX1_valuesOf_0 : List UInt8 := dkwX1_valuesOf_0 ++ dktX1_valuesOf_1
theorem dksX1_valuesOf_0 : cX1_valuesOf.data.toList.drop 0 = dktX1_valuesOf_0 := by decide +kernel
theorem dksX1_valuesOf_1 : cX1_valuesOf.data.toList.drop 24 = dktX1_valuesOf_1 := dk_seg dksX1_valuesOf_0 24 rfl rfl
theorem dX1_valuesOf_0 : decode cX1_valuesOf 0 = .ok (.new 29, 3) := dk_187 0 29 (dk_at dksX1_valuesOf_0 0 rfl rfl)
theorem dX1_valuesOf_3 : decode cX1_valuesOf 3 = .ok (.dup, 1) := dk_89 (dk_at dksX1_valuesOf_0 3 rfl rfl)
theorem dX1_valuesOf_4 : decode cX1_valuesOf 4 = .ok (.invokespecial 31, 3) := dk_183 0 31 (dk_at dksX1_valuesOf_0 4 rfl rfl)
theorem dX1_valuesOf_7 : decode cX1_valuesOf 7 = .ok (.astore_n 2, 1) := dk_77 (dk_at dksX1_valuesOf_0 7 rfl rfl)
theorem dX1_valuesOf_8 : decode cX1_valuesOf 8 = .ok (.iconst 0, 1) := dk_3 (dk_at dksX1_valuesOf_0 8 rfl rfl)
theorem dX1_valuesOf_9 : decode cX1_valuesOf 9 = .ok (.istore_n 3, 1) := dk_62 (dk_at dksX1_valuesOf_0 9 rfl rfl)
theorem dX1_valuesOf_10 : decode cX1_valuesOf 10 = .ok (.iload_n 3, 1) := dk_29 (dk_at dksX1_valuesOf_0 10 rfl rfl)
theorem dX1_valuesOf_11 : decode cX1_valuesOf 11 = .ok (.aload_n 1, 1) := dk_43 (dk_at dksX1_valuesOf_0 11 rfl rfl)
theorem dX1_valuesOf_12 : decode cX1_valuesOf 12 = .ok (.invokevirtual 114, 3) := dk_182 0 114 (dk_at dksX1_valuesOf_0 12 rfl rfl)
theorem dX1_valuesOf_15 : decode cX1_valuesOf 15 = .ok (.if_icmp .ge 29, 3) := dk_162 0 29 (dk_at dksX1_valuesOf_0 15 rfl rfl)
theorem dX1_valuesOf_18 : decode cX1_valuesOf 18 = .ok (.aload_n 2, 1) := dk_44 (dk_at dksX1_valuesOf_0 18 rfl rfl)
theorem dX1_valuesOf_19 : decode cX1_valuesOf 19 = .ok (.aload_n 0, 1) := dk_42 (dk_at dksX1_valuesOf_0 19 rfl rfl)
theorem dX1_valuesOf_20 : decode cX1_valuesOf 20 = .ok (.getfield 56, 3) := dk_180 0 56 (dk_at dksX1_valuesOf_0 20 rfl rfl)
theorem dX1_valuesOf_23 : decode cX1_valuesOf 23 = .ok (.aload_n 1, 1) := dk_43 (dk_at dksX1_valuesOf_0 23 rfl rfl)
theorem dX1_valuesOf_24 : decode cX1_valuesOf 24 = .ok (.iload_n 3, 1) := dk_29 (dk_at dksX1_valuesOf_1 0 rfl rfl)
theorem dX1_valuesOf_25 : decode cX1_valuesOf 25 = .ok (.invokevirtual 117, 3) := dk_182 0 117 (dk_at dksX1_valuesOf_1 1 rfl rfl)
theorem dX1_valuesOf_28 : decode cX1_valuesOf 28 = .ok (.checkcast 8, 3) := dk_192 0 8 (dk_at dksX1_valuesOf_1 4 rfl rfl)
theorem dX1_valuesOf_31 : decode cX1_valuesOf 31 = .ok (.invokevirtual 121, 3) := dk_182 0 121 (dk_at dksX1_valuesOf_1 7 rfl rfl)
theorem dX1_valuesOf_34 : decode cX1_valuesOf 34 = .ok (.invokevirtual 38, 3) := dk_182 0 38 (dk_at dksX1_valuesOf_1 10 rfl rfl)
theorem dX1_valuesOf_37 : decode cX1_valuesOf 37 = .ok (.pop, 1) := dk_87 (dk_at dksX1_valuesOf_1 13 rfl rfl)
theorem dX1_valuesOf_38 : decode cX1_valuesOf 38 = .ok (.iinc 3 1, 3) := dk_132 3 1 (dk_at dksX1_valuesOf_1 14 rfl rfl)
theorem dX1_valuesOf_41 : decode cX1_valuesOf 41 = .ok (.goto (-31), 3) := dk_167 255 225 (dk_at dksX1_valuesOf_1 17 rfl rfl)
theorem dX1_valuesOf_44 : decode cX1_valuesOf 44 = .ok (.aload_n 2, 1) := dk_44 (dk_at dksX1_valuesOf_1 20 rfl rfl)
theorem dX1_valuesOf_45 : decode cX1_valuesOf 45 = .ok (.areturn, 1) := dk_176 (dk_at dksX1_valuesOf_1 21 rfl rfl)
abbrev cX1_oldest : ByteArray := prog_1_method_18_code
def yX1_oldest : MethodName := ⟨RX1, "oldest", "()LVaryStore$Thing;"⟩
def dkwX1_oldest_2 : List UInt8 := [42, 180, 0, 49, 28, 182, 0, 117, 192, 0, 125, 76, 132, 2, 1, 167, 255, 209, 43, 176]
abbrev dktX1_oldest_2 : List UInt8 := dkwX1_oldest_2 ++ []
def dkwX1_oldest_1 : List UInt8 := [162, 0, 42, 42, 180, 0, 49, 28, 182, 0, 117, 192, 0, 125, 180, 0, 145, 43, 180, 0, 145, 162, 0, 15]
abbrev dktX1_oldest_1 : List UInt8 := dkwX1_oldest_1 ++ dktX1_oldest_2
def dkwX1_oldest_0 : List UInt8 := [42, 180, 0, 49, 3, 182, 0, 117, 192, 0, 125, 76, 4, 61, 28, 42, 180, 0, 49, 182, 0, 114]
abbrev dktX1_oldest_0 : List UInt8 := dkwX1_oldest_0 ++ dktX1_oldest_1
theorem dksX1_oldest_0 : cX1_oldest.data.toList.drop 0 = dktX1_oldest_0 := by decide +kernel
theorem dksX1_oldest_1 : cX1_oldest.data.toList.drop 22 = dktX1_oldest_1 := dk_seg dksX1_oldest_0 22 rfl rfl
theorem dksX1_oldest_2 : cX1_oldest.data.toList.drop 46 = dktX1_oldest_2 := dk_seg dksX1_oldest_1 24 rfl rfl
theorem dX1_oldest_0 : decode cX1_oldest 0 = .ok (.aload_n 0, 1) := dk_42 (dk_at dksX1_oldest_0 0 rfl rfl)
theorem dX1_oldest_1 : decode cX1_oldest 1 = .ok (.getfield 49, 3) := dk_180 0 49 (dk_at dksX1_oldest_0 1 rfl rfl)
theorem dX1_oldest_4 : decode cX1_oldest 4 = .ok (.iconst 0, 1) := dk_3 (dk_at dksX1_oldest_0 4 rfl rfl)
theorem dX1_oldest_5 : decode cX1_oldest 5 = .ok (.invokevirtual 117, 3) := dk_182 0 117 (dk_at dksX1_oldest_0 5 rfl rfl)
theorem dX1_oldest_8 : decode cX1_oldest 8 = .ok (.checkcast 125, 3) := dk_192 0 125 (dk_at dksX1_oldest_0 8 rfl rfl)
theorem dX1_oldest_11 : decode cX1_oldest 11 = .ok (.astore_n 1, 1) := dk_76 (dk_at dksX1_oldest_0 11 rfl rfl)
theorem dX1_oldest_12 : decode cX1_oldest 12 = .ok (.iconst 1, 1) := dk_4 (dk_at dksX1_oldest_0 12 rfl rfl)
theorem dX1_oldest_13 : decode cX1_oldest 13 = .ok (.istore_n 2, 1) := dk_61 (dk_at dksX1_oldest_0 13 rfl rfl)
theorem dX1_oldest_14 : decode cX1_oldest 14 = .ok (.iload_n 2, 1) := dk_28 (dk_at dksX1_oldest_0 14 rfl rfl)
theorem dX1_oldest_15 : decode cX1_oldest 15 = .ok (.aload_n 0, 1) := dk_42 (dk_at dksX1_oldest_0 15 rfl rfl)
theorem dX1_oldest_16 : decode cX1_oldest 16 = .ok (.getfield 49, 3) := dk_180 0 49 (dk_at dksX1_oldest_0 16 rfl rfl)
theorem dX1_oldest_19 : decode cX1_oldest 19 = .ok (.invokevirtual 114, 3) := dk_182 0 114 (dk_at dksX1_oldest_0 19 rfl rfl)
theorem dX1_oldest_22 : decode cX1_oldest 22 = .ok (.if_icmp .ge 42, 3) := dk_162 0 42 (dk_at dksX1_oldest_1 0 rfl rfl)
theorem dX1_oldest_25 : decode cX1_oldest 25 = .ok (.aload_n 0, 1) := dk_42 (dk_at dksX1_oldest_1 3 rfl rfl)
theorem dX1_oldest_26 : decode cX1_oldest 26 = .ok (.getfield 49, 3) := dk_180 0 49 (dk_at dksX1_oldest_1 4 rfl rfl)
theorem dX1_oldest_29 : decode cX1_oldest 29 = .ok (.iload_n 2, 1) := dk_28 (dk_at dksX1_oldest_1 7 rfl rfl)
theorem dX1_oldest_30 : decode cX1_oldest 30 = .ok (.invokevirtual 117, 3) := dk_182 0 117 (dk_at dksX1_oldest_1 8 rfl rfl)
theorem dX1_oldest_33 : decode cX1_oldest 33 = .ok (.checkcast 125, 3) := dk_192 0 125 (dk_at dksX1_oldest_1 11 rfl rfl)
theorem dX1_oldest_36 : decode cX1_oldest 36 = .ok (.getfield 145, 3) := dk_180 0 145 (dk_at dksX1_oldest_1 14 rfl rfl)
theorem dX1_oldest_39 : decode cX1_oldest 39 = .ok (.aload_n 1, 1) := dk_43 (dk_at dksX1_oldest_1 17 rfl rfl)
theorem dX1_oldest_40 : decode cX1_oldest 40 = .ok (.getfield 145, 3) := dk_180 0 145 (dk_at dksX1_oldest_1 18 rfl rfl)
theorem dX1_oldest_43 : decode cX1_oldest 43 = .ok (.if_icmp .ge 15, 3) := dk_162 0 15 (dk_at dksX1_oldest_1 21 rfl rfl)
theorem dX1_oldest_46 : decode cX1_oldest 46 = .ok (.aload_n 0, 1) := dk_42 (dk_at dksX1_oldest_2 0 rfl rfl)
theorem dX1_oldest_47 : decode cX1_oldest 47 = .ok (.getfield 49, 3) := dk_180 0 49 (dk_at dksX1_oldest_2 1 rfl rfl)
theorem dX1_oldest_50 : decode cX1_oldest 50 = .ok (.iload_n 2, 1) := dk_28 (dk_at dksX1_oldest_2 4 rfl rfl)
theorem dX1_oldest_51 : decode cX1_oldest 51 = .ok (.invokevirtual 117, 3) := dk_182 0 117 (dk_at dksX1_oldest_2 5 rfl rfl)
theorem dX1_oldest_54 : decode cX1_oldest 54 = .ok (.checkcast 125, 3) := dk_192 0 125 (dk_at dksX1_oldest_2 8 rfl rfl)
theorem dX1_oldest_57 : decode cX1_oldest 57 = .ok (.astore_n 1, 1) := dk_76 (dk_at dksX1_oldest_2 11 rfl rfl)
theorem dX1_oldest_58 : decode cX1_oldest 58 = .ok (.iinc 2 1, 3) := dk_132 2 1 (dk_at dksX1_oldest_2 12 rfl rfl)
theorem dX1_oldest_61 : decode cX1_oldest 61 = .ok (.goto (-47), 3) := dk_167 255 209 (dk_at dksX1_oldest_2 15 rfl rfl)
theorem dX1_oldest_64 : decode cX1_oldest 64 = .ok (.aload_n 1, 1) := dk_43 (dk_at dksX1_oldest_2 18 rfl rfl)
theorem dX1_oldest_65 : decode cX1_oldest 65 = .ok (.areturn, 1) := dk_176 (dk_at dksX1_oldest_2 19 rfl rfl)
abbrev cX1_again : ByteArray := prog_1_method_19_code
def yX1_again : MethodName := ⟨RX1, "again", "(I)Z"⟩
def dkwX1_again_5 : List UInt8 := [45, 182, 0, 38, 87, 4, 172]
abbrev dktX1_again_5 : List UInt8 := dkwX1_again_5 ++ []
def dkwX1_again_4 : List UInt8 := [180, 0, 174, 182, 0, 220, 42, 45, 182, 0, 165, 42, 180, 0, 49, 45, 182, 0, 246, 87, 42, 180, 0, 49]
abbrev dktX1_again_4 : List UInt8 := dkwX1_again_4 ++ dktX1_again_5
def dkwX1_again_3 : List UInt8 := [187, 0, 60, 89, 44, 18, 152, 182, 0, 154, 183, 0, 62, 167, 0, 7, 45, 180, 0, 248, 44, 42]
abbrev dktX1_again_3 : List UInt8 := dkwX1_again_3 ++ dktX1_again_4
def dkwX1_again_2 : List UInt8 := [45, 180, 0, 239, 182, 0, 132, 154, 0, 5, 3, 172, 45, 44, 18, 152, 182, 0, 204, 153, 0, 19]
abbrev dktX1_again_2 : List UInt8 := dkwX1_again_2 ++ dktX1_again_3
def dkwX1_again_1 : List UInt8 := [182, 0, 154, 167, 0, 5, 18, 205, 58, 4, 45, 198, 0, 23, 25, 4, 182, 0, 7, 158, 0, 17, 25, 4]
abbrev dktX1_again_1 : List UInt8 := dkwX1_again_1 ++ dktX1_again_2
def dkwX1_again_0 : List UInt8 := [42, 27, 182, 0, 148, 77, 42, 27, 182, 0, 157, 78, 44, 18, 211, 182, 0, 204, 153, 0, 12, 44, 18, 211]
abbrev dktX1_again_0 : List UInt8 := dkwX1_again_0 ++ dktX1_again_1
theorem dksX1_again_0 : cX1_again.data.toList.drop 0 = dktX1_again_0 := by decide +kernel
theorem dksX1_again_1 : cX1_again.data.toList.drop 24 = dktX1_again_1 := dk_seg dksX1_again_0 24 rfl rfl
theorem dksX1_again_2 : cX1_again.data.toList.drop 48 = dktX1_again_2 := dk_seg dksX1_again_1 24 rfl rfl
theorem dksX1_again_3 : cX1_again.data.toList.drop 70 = dktX1_again_3 := dk_seg dksX1_again_2 22 rfl rfl
theorem dksX1_again_4 : cX1_again.data.toList.drop 92 = dktX1_again_4 := dk_seg dksX1_again_3 22 rfl rfl
theorem dksX1_again_5 : cX1_again.data.toList.drop 116 = dktX1_again_5 := dk_seg dksX1_again_4 24 rfl rfl
theorem dX1_again_0 : decode cX1_again 0 = .ok (.aload_n 0, 1) := dk_42 (dk_at dksX1_again_0 0 rfl rfl)
theorem dX1_again_1 : decode cX1_again 1 = .ok (.iload_n 1, 1) := dk_27 (dk_at dksX1_again_0 1 rfl rfl)
theorem dX1_again_2 : decode cX1_again 2 = .ok (.invokevirtual 148, 3) := dk_182 0 148 (dk_at dksX1_again_0 2 rfl rfl)
theorem dX1_again_5 : decode cX1_again 5 = .ok (.astore_n 2, 1) := dk_77 (dk_at dksX1_again_0 5 rfl rfl)
theorem dX1_again_6 : decode cX1_again 6 = .ok (.aload_n 0, 1) := dk_42 (dk_at dksX1_again_0 6 rfl rfl)
theorem dX1_again_7 : decode cX1_again 7 = .ok (.iload_n 1, 1) := dk_27 (dk_at dksX1_again_0 7 rfl rfl)
theorem dX1_again_8 : decode cX1_again 8 = .ok (.invokevirtual 157, 3) := dk_182 0 157 (dk_at dksX1_again_0 8 rfl rfl)
theorem dX1_again_11 : decode cX1_again 11 = .ok (.astore_n 3, 1) := dk_78 (dk_at dksX1_again_0 11 rfl rfl)
theorem dX1_again_12 : decode cX1_again 12 = .ok (.aload_n 2, 1) := dk_44 (dk_at dksX1_again_0 12 rfl rfl)
theorem dX1_again_13 : decode cX1_again 13 = .ok (.ldc 211, 2) := dk_18 211 (dk_at dksX1_again_0 13 rfl rfl)
theorem dX1_again_15 : decode cX1_again 15 = .ok (.invokevirtual 204, 3) := dk_182 0 204 (dk_at dksX1_again_0 15 rfl rfl)
theorem dX1_again_18 : decode cX1_again 18 = .ok (.ifCond .eq 12, 3) := dk_153 0 12 (dk_at dksX1_again_0 18 rfl rfl)
theorem dX1_again_21 : decode cX1_again 21 = .ok (.aload_n 2, 1) := dk_44 (dk_at dksX1_again_0 21 rfl rfl)
theorem dX1_again_22 : decode cX1_again 22 = .ok (.ldc 211, 2) := dk_18 211 (dk_at dksX1_again_0 22 rfl rfl)
theorem dX1_again_24 : decode cX1_again 24 = .ok (.invokevirtual 154, 3) := dk_182 0 154 (dk_at dksX1_again_1 0 rfl rfl)
theorem dX1_again_27 : decode cX1_again 27 = .ok (.goto 5, 3) := dk_167 0 5 (dk_at dksX1_again_1 3 rfl rfl)
theorem dX1_again_30 : decode cX1_again 30 = .ok (.ldc 205, 2) := dk_18 205 (dk_at dksX1_again_1 6 rfl rfl)
theorem dX1_again_32 : decode cX1_again 32 = .ok (.astore 4, 2) := dk_58 4 (dk_at dksX1_again_1 8 rfl rfl)
theorem dX1_again_34 : decode cX1_again 34 = .ok (.aload_n 3, 1) := dk_45 (dk_at dksX1_again_1 10 rfl rfl)
theorem dX1_again_35 : decode cX1_again 35 = .ok (.ifnull 23, 3) := dk_198 0 23 (dk_at dksX1_again_1 11 rfl rfl)
theorem dX1_again_38 : decode cX1_again 38 = .ok (.aload 4, 2) := dk_25 4 (dk_at dksX1_again_1 14 rfl rfl)
theorem dX1_again_40 : decode cX1_again 40 = .ok (.invokevirtual 7, 3) := dk_182 0 7 (dk_at dksX1_again_1 16 rfl rfl)
theorem dX1_again_43 : decode cX1_again 43 = .ok (.ifCond .le 17, 3) := dk_158 0 17 (dk_at dksX1_again_1 19 rfl rfl)
theorem dX1_again_46 : decode cX1_again 46 = .ok (.aload 4, 2) := dk_25 4 (dk_at dksX1_again_1 22 rfl rfl)
theorem dX1_again_48 : decode cX1_again 48 = .ok (.aload_n 3, 1) := dk_45 (dk_at dksX1_again_2 0 rfl rfl)
theorem dX1_again_49 : decode cX1_again 49 = .ok (.getfield 239, 3) := dk_180 0 239 (dk_at dksX1_again_2 1 rfl rfl)
theorem dX1_again_52 : decode cX1_again 52 = .ok (.invokevirtual 132, 3) := dk_182 0 132 (dk_at dksX1_again_2 4 rfl rfl)
theorem dX1_again_55 : decode cX1_again 55 = .ok (.ifCond .ne 5, 3) := dk_154 0 5 (dk_at dksX1_again_2 7 rfl rfl)
theorem dX1_again_58 : decode cX1_again 58 = .ok (.iconst 0, 1) := dk_3 (dk_at dksX1_again_2 10 rfl rfl)
theorem dX1_again_59 : decode cX1_again 59 = .ok (.ireturn, 1) := dk_172 (dk_at dksX1_again_2 11 rfl rfl)
theorem dX1_again_60 : decode cX1_again 60 = .ok (.aload_n 3, 1) := dk_45 (dk_at dksX1_again_2 12 rfl rfl)
theorem dX1_again_61 : decode cX1_again 61 = .ok (.aload_n 2, 1) := dk_44 (dk_at dksX1_again_2 13 rfl rfl)
theorem dX1_again_62 : decode cX1_again 62 = .ok (.ldc 152, 2) := dk_18 152 (dk_at dksX1_again_2 14 rfl rfl)
theorem dX1_again_64 : decode cX1_again 64 = .ok (.invokevirtual 204, 3) := dk_182 0 204 (dk_at dksX1_again_2 16 rfl rfl)
theorem dX1_again_67 : decode cX1_again 67 = .ok (.ifCond .eq 19, 3) := dk_153 0 19 (dk_at dksX1_again_2 19 rfl rfl)
theorem dX1_again_70 : decode cX1_again 70 = .ok (.new 60, 3) := dk_187 0 60 (dk_at dksX1_again_3 0 rfl rfl)
theorem dX1_again_73 : decode cX1_again 73 = .ok (.dup, 1) := dk_89 (dk_at dksX1_again_3 3 rfl rfl)
theorem dX1_again_74 : decode cX1_again 74 = .ok (.aload_n 2, 1) := dk_44 (dk_at dksX1_again_3 4 rfl rfl)
theorem dX1_again_75 : decode cX1_again 75 = .ok (.ldc 152, 2) := dk_18 152 (dk_at dksX1_again_3 5 rfl rfl)
theorem dX1_again_77 : decode cX1_again 77 = .ok (.invokevirtual 154, 3) := dk_182 0 154 (dk_at dksX1_again_3 7 rfl rfl)
theorem dX1_again_80 : decode cX1_again 80 = .ok (.invokespecial 62, 3) := dk_183 0 62 (dk_at dksX1_again_3 10 rfl rfl)
theorem dX1_again_83 : decode cX1_again 83 = .ok (.goto 7, 3) := dk_167 0 7 (dk_at dksX1_again_3 13 rfl rfl)
theorem dX1_again_86 : decode cX1_again 86 = .ok (.aload_n 3, 1) := dk_45 (dk_at dksX1_again_3 16 rfl rfl)
theorem dX1_again_87 : decode cX1_again 87 = .ok (.getfield 248, 3) := dk_180 0 248 (dk_at dksX1_again_3 17 rfl rfl)
theorem dX1_again_90 : decode cX1_again 90 = .ok (.aload_n 2, 1) := dk_44 (dk_at dksX1_again_3 20 rfl rfl)
theorem dX1_again_91 : decode cX1_again 91 = .ok (.aload_n 0, 1) := dk_42 (dk_at dksX1_again_3 21 rfl rfl)
theorem dX1_again_92 : decode cX1_again 92 = .ok (.getfield 174, 3) := dk_180 0 174 (dk_at dksX1_again_4 0 rfl rfl)
theorem dX1_again_95 : decode cX1_again 95 = .ok (.invokevirtual 220, 3) := dk_182 0 220 (dk_at dksX1_again_4 3 rfl rfl)
theorem dX1_again_98 : decode cX1_again 98 = .ok (.aload_n 0, 1) := dk_42 (dk_at dksX1_again_4 6 rfl rfl)
theorem dX1_again_99 : decode cX1_again 99 = .ok (.aload_n 3, 1) := dk_45 (dk_at dksX1_again_4 7 rfl rfl)
theorem dX1_again_100 : decode cX1_again 100 = .ok (.invokevirtual 165, 3) := dk_182 0 165 (dk_at dksX1_again_4 8 rfl rfl)
theorem dX1_again_103 : decode cX1_again 103 = .ok (.aload_n 0, 1) := dk_42 (dk_at dksX1_again_4 11 rfl rfl)
theorem dX1_again_104 : decode cX1_again 104 = .ok (.getfield 49, 3) := dk_180 0 49 (dk_at dksX1_again_4 12 rfl rfl)
theorem dX1_again_107 : decode cX1_again 107 = .ok (.aload_n 3, 1) := dk_45 (dk_at dksX1_again_4 15 rfl rfl)
theorem dX1_again_108 : decode cX1_again 108 = .ok (.invokevirtual 246, 3) := dk_182 0 246 (dk_at dksX1_again_4 16 rfl rfl)
theorem dX1_again_111 : decode cX1_again 111 = .ok (.pop, 1) := dk_87 (dk_at dksX1_again_4 19 rfl rfl)
theorem dX1_again_112 : decode cX1_again 112 = .ok (.aload_n 0, 1) := dk_42 (dk_at dksX1_again_4 20 rfl rfl)
theorem dX1_again_113 : decode cX1_again 113 = .ok (.getfield 49, 3) := dk_180 0 49 (dk_at dksX1_again_4 21 rfl rfl)
theorem dX1_again_116 : decode cX1_again 116 = .ok (.aload_n 3, 1) := dk_45 (dk_at dksX1_again_5 0 rfl rfl)
theorem dX1_again_117 : decode cX1_again 117 = .ok (.invokevirtual 38, 3) := dk_182 0 38 (dk_at dksX1_again_5 1 rfl rfl)
theorem dX1_again_120 : decode cX1_again 120 = .ok (.pop, 1) := dk_87 (dk_at dksX1_again_5 4 rfl rfl)
theorem dX1_again_121 : decode cX1_again 121 = .ok (.iconst 1, 1) := dk_4 (dk_at dksX1_again_5 5 rfl rfl)
theorem dX1_again_122 : decode cX1_again 122 = .ok (.ireturn, 1) := dk_172 (dk_at dksX1_again_5 6 rfl rfl)
abbrev cX1_pass : ByteArray := prog_1_method_22_code
def yX1_pass : MethodName := ⟨RX1, "pass", "(I)I"⟩
def dkwX1_pass_2 : List UInt8 := [172]
abbrev dktX1_pass_2 : List UInt8 := dkwX1_pass_2 ++ []
def dkwX1_pass_1 : List UInt8 := [187, 0, 109, 89, 18, 253, 183, 0, 113, 191, 42, 89, 180, 0, 174, 27, 96, 181, 0, 174, 42, 180, 0, 174]
abbrev dktX1_pass_1 : List UInt8 := dkwX1_pass_1 ++ dktX1_pass_2
def dkwX1_pass_0 : List UInt8 := [27, 4, 161, 0, 20, 27, 18, 251, 163, 0, 14, 42, 180, 0, 174, 27, 96, 18, 252, 164, 0, 13]
abbrev dktX1_pass_0 : List UInt8 := dkwX1_pass_0 ++ dktX1_pass_1
theorem dksX1_pass_0 : cX1_pass.data.toList.drop 0 = dktX1_pass_0 := by decide +kernel
theorem dksX1_pass_1 : cX1_pass.data.toList.drop 22 = dktX1_pass_1 := dk_seg dksX1_pass_0 22 rfl rfl
theorem dksX1_pass_2 : cX1_pass.data.toList.drop 46 = dktX1_pass_2 := dk_seg dksX1_pass_1 24 rfl rfl
theorem dX1_pass_0 : decode cX1_pass 0 = .ok (.iload_n 1, 1) := dk_27 (dk_at dksX1_pass_0 0 rfl rfl)
theorem dX1_pass_1 : decode cX1_pass 1 = .ok (.iconst 1, 1) := dk_4 (dk_at dksX1_pass_0 1 rfl rfl)
theorem dX1_pass_2 : decode cX1_pass 2 = .ok (.if_icmp .lt 20, 3) := dk_161 0 20 (dk_at dksX1_pass_0 2 rfl rfl)
theorem dX1_pass_5 : decode cX1_pass 5 = .ok (.iload_n 1, 1) := dk_27 (dk_at dksX1_pass_0 5 rfl rfl)
theorem dX1_pass_6 : decode cX1_pass 6 = .ok (.ldc 251, 2) := dk_18 251 (dk_at dksX1_pass_0 6 rfl rfl)
theorem dX1_pass_8 : decode cX1_pass 8 = .ok (.if_icmp .gt 14, 3) := dk_163 0 14 (dk_at dksX1_pass_0 8 rfl rfl)
theorem dX1_pass_11 : decode cX1_pass 11 = .ok (.aload_n 0, 1) := dk_42 (dk_at dksX1_pass_0 11 rfl rfl)
theorem dX1_pass_12 : decode cX1_pass 12 = .ok (.getfield 174, 3) := dk_180 0 174 (dk_at dksX1_pass_0 12 rfl rfl)
theorem dX1_pass_15 : decode cX1_pass 15 = .ok (.iload_n 1, 1) := dk_27 (dk_at dksX1_pass_0 15 rfl rfl)
theorem dX1_pass_16 : decode cX1_pass 16 = .ok (.iadd, 1) := dk_96 (dk_at dksX1_pass_0 16 rfl rfl)
theorem dX1_pass_17 : decode cX1_pass 17 = .ok (.ldc 252, 2) := dk_18 252 (dk_at dksX1_pass_0 17 rfl rfl)
theorem dX1_pass_19 : decode cX1_pass 19 = .ok (.if_icmp .le 13, 3) := dk_164 0 13 (dk_at dksX1_pass_0 19 rfl rfl)
theorem dX1_pass_22 : decode cX1_pass 22 = .ok (.new 109, 3) := dk_187 0 109 (dk_at dksX1_pass_1 0 rfl rfl)
theorem dX1_pass_25 : decode cX1_pass 25 = .ok (.dup, 1) := dk_89 (dk_at dksX1_pass_1 3 rfl rfl)
theorem dX1_pass_26 : decode cX1_pass 26 = .ok (.ldc 253, 2) := dk_18 253 (dk_at dksX1_pass_1 4 rfl rfl)
theorem dX1_pass_28 : decode cX1_pass 28 = .ok (.invokespecial 113, 3) := dk_183 0 113 (dk_at dksX1_pass_1 6 rfl rfl)
theorem dX1_pass_31 : decode cX1_pass 31 = .ok (.athrow, 1) := dk_191 (dk_at dksX1_pass_1 9 rfl rfl)
theorem dX1_pass_32 : decode cX1_pass 32 = .ok (.aload_n 0, 1) := dk_42 (dk_at dksX1_pass_1 10 rfl rfl)
theorem dX1_pass_33 : decode cX1_pass 33 = .ok (.dup, 1) := dk_89 (dk_at dksX1_pass_1 11 rfl rfl)
theorem dX1_pass_34 : decode cX1_pass 34 = .ok (.getfield 174, 3) := dk_180 0 174 (dk_at dksX1_pass_1 12 rfl rfl)
theorem dX1_pass_37 : decode cX1_pass 37 = .ok (.iload_n 1, 1) := dk_27 (dk_at dksX1_pass_1 15 rfl rfl)
theorem dX1_pass_38 : decode cX1_pass 38 = .ok (.iadd, 1) := dk_96 (dk_at dksX1_pass_1 16 rfl rfl)
theorem dX1_pass_39 : decode cX1_pass 39 = .ok (.putfield 174, 3) := dk_181 0 174 (dk_at dksX1_pass_1 17 rfl rfl)
theorem dX1_pass_42 : decode cX1_pass 42 = .ok (.aload_n 0, 1) := dk_42 (dk_at dksX1_pass_1 20 rfl rfl)
theorem dX1_pass_43 : decode cX1_pass 43 = .ok (.getfield 174, 3) := dk_180 0 174 (dk_at dksX1_pass_1 21 rfl rfl)
theorem dX1_pass_46 : decode cX1_pass 46 = .ok (.ireturn, 1) := dk_172 (dk_at dksX1_pass_2 0 rfl rfl)
abbrev cX1_thing : ByteArray := prog_1_method_24_code
def yX1_thing : MethodName := ⟨RX1, "thing", "(II)I"⟩
def dkwX1_thing_7 : List UInt8 := [182, 0, 199, 184, 1, 4, 172, 45, 180, 0, 239, 28, 16, 100, 100, 182, 0, 13, 172]
abbrev dktX1_thing_7 : List UInt8 := dkwX1_thing_7 ++ []
def dkwX1_thing_6 : List UInt8 := [182, 0, 193, 184, 1, 4, 172, 45, 180, 0, 124, 182, 0, 114, 172, 45, 180, 0, 239, 182, 0, 7, 172, 45]
abbrev dktX1_thing_6 : List UInt8 := dkwX1_thing_6 ++ dktX1_thing_7
def dkwX1_thing_5 : List UInt8 := [45, 180, 0, 135, 172, 45, 42, 180, 0, 174, 182, 0, 177, 172, 45, 180, 0, 190, 172, 45, 42, 180, 0, 174]
abbrev dktX1_thing_5 : List UInt8 := dkwX1_thing_5 ++ dktX1_thing_6
def dkwX1_thing_4 : List UInt8 := [170, 0, 0, 0, 0, 0, 98, 0, 0, 0, 0, 0, 0, 0, 6, 0, 0, 0, 43, 0, 0, 0, 48, 0, 0, 0, 57, 0, 0, 0, 62, 0, 0, 0, 74, 0, 0, 0, 82, 0, 0, 0, 90]
abbrev dktX1_thing_4 : List UInt8 := dkwX1_thing_4 ++ dktX1_thing_5
def dkwX1_thing_3 : List UInt8 := [28, 16, 6, 164, 0, 19, 21, 4, 154, 0, 14, 187, 0, 255, 89, 19, 1, 1, 183, 1, 3, 191, 28]
abbrev dktX1_thing_3 : List UInt8 := dkwX1_thing_3 ++ dktX1_thing_4
def dkwX1_thing_2 : List UInt8 := [180, 0, 239, 182, 0, 7, 162, 0, 7, 4, 167, 0, 4, 3, 54, 4, 45, 198, 0, 18, 28, 155, 0, 14]
abbrev dktX1_thing_2 : List UInt8 := dkwX1_thing_2 ++ dktX1_thing_3
def dkwX1_thing_1 : List UInt8 := [182, 0, 117, 192, 0, 125, 78, 45, 198, 0, 27, 28, 16, 100, 161, 0, 21, 28, 16, 100, 100, 45]
abbrev dktX1_thing_1 : List UInt8 := dkwX1_thing_1 ++ dktX1_thing_2
def dkwX1_thing_0 : List UInt8 := [27, 155, 0, 14, 27, 42, 180, 0, 49, 182, 0, 114, 161, 0, 7, 1, 167, 0, 14, 42, 180, 0, 49, 27]
abbrev dktX1_thing_0 : List UInt8 := dkwX1_thing_0 ++ dktX1_thing_1
theorem dksX1_thing_0 : cX1_thing.data.toList.drop 0 = dktX1_thing_0 := by decide +kernel
theorem dksX1_thing_1 : cX1_thing.data.toList.drop 24 = dktX1_thing_1 := dk_seg dksX1_thing_0 24 rfl rfl
theorem dksX1_thing_2 : cX1_thing.data.toList.drop 46 = dktX1_thing_2 := dk_seg dksX1_thing_1 22 rfl rfl
theorem dksX1_thing_3 : cX1_thing.data.toList.drop 70 = dktX1_thing_3 := dk_seg dksX1_thing_2 24 rfl rfl
theorem dksX1_thing_4 : cX1_thing.data.toList.drop 93 = dktX1_thing_4 := dk_seg dksX1_thing_3 23 rfl rfl
theorem dksX1_thing_5 : cX1_thing.data.toList.drop 136 = dktX1_thing_5 := dk_seg dksX1_thing_4 43 rfl rfl
theorem dksX1_thing_6 : cX1_thing.data.toList.drop 160 = dktX1_thing_6 := dk_seg dksX1_thing_5 24 rfl rfl
theorem dksX1_thing_7 : cX1_thing.data.toList.drop 184 = dktX1_thing_7 := dk_seg dksX1_thing_6 24 rfl rfl
theorem dX1_thing_0 : decode cX1_thing 0 = .ok (.iload_n 1, 1) := dk_27 (dk_at dksX1_thing_0 0 rfl rfl)
theorem dX1_thing_1 : decode cX1_thing 1 = .ok (.ifCond .lt 14, 3) := dk_155 0 14 (dk_at dksX1_thing_0 1 rfl rfl)
theorem dX1_thing_4 : decode cX1_thing 4 = .ok (.iload_n 1, 1) := dk_27 (dk_at dksX1_thing_0 4 rfl rfl)
theorem dX1_thing_5 : decode cX1_thing 5 = .ok (.aload_n 0, 1) := dk_42 (dk_at dksX1_thing_0 5 rfl rfl)
theorem dX1_thing_6 : decode cX1_thing 6 = .ok (.getfield 49, 3) := dk_180 0 49 (dk_at dksX1_thing_0 6 rfl rfl)
theorem dX1_thing_9 : decode cX1_thing 9 = .ok (.invokevirtual 114, 3) := dk_182 0 114 (dk_at dksX1_thing_0 9 rfl rfl)
theorem dX1_thing_12 : decode cX1_thing 12 = .ok (.if_icmp .lt 7, 3) := dk_161 0 7 (dk_at dksX1_thing_0 12 rfl rfl)
theorem dX1_thing_15 : decode cX1_thing 15 = .ok (.aconst_null, 1) := dk_1 (dk_at dksX1_thing_0 15 rfl rfl)
theorem dX1_thing_16 : decode cX1_thing 16 = .ok (.goto 14, 3) := dk_167 0 14 (dk_at dksX1_thing_0 16 rfl rfl)
theorem dX1_thing_19 : decode cX1_thing 19 = .ok (.aload_n 0, 1) := dk_42 (dk_at dksX1_thing_0 19 rfl rfl)
theorem dX1_thing_20 : decode cX1_thing 20 = .ok (.getfield 49, 3) := dk_180 0 49 (dk_at dksX1_thing_0 20 rfl rfl)
theorem dX1_thing_23 : decode cX1_thing 23 = .ok (.iload_n 1, 1) := dk_27 (dk_at dksX1_thing_0 23 rfl rfl)
theorem dX1_thing_24 : decode cX1_thing 24 = .ok (.invokevirtual 117, 3) := dk_182 0 117 (dk_at dksX1_thing_1 0 rfl rfl)
theorem dX1_thing_27 : decode cX1_thing 27 = .ok (.checkcast 125, 3) := dk_192 0 125 (dk_at dksX1_thing_1 3 rfl rfl)
theorem dX1_thing_30 : decode cX1_thing 30 = .ok (.astore_n 3, 1) := dk_78 (dk_at dksX1_thing_1 6 rfl rfl)
theorem dX1_thing_31 : decode cX1_thing 31 = .ok (.aload_n 3, 1) := dk_45 (dk_at dksX1_thing_1 7 rfl rfl)
theorem dX1_thing_32 : decode cX1_thing 32 = .ok (.ifnull 27, 3) := dk_198 0 27 (dk_at dksX1_thing_1 8 rfl rfl)
theorem dX1_thing_35 : decode cX1_thing 35 = .ok (.iload_n 2, 1) := dk_28 (dk_at dksX1_thing_1 11 rfl rfl)
theorem dX1_thing_36 : decode cX1_thing 36 = .ok (.bipush 100, 2) := dk_16 100 (dk_at dksX1_thing_1 12 rfl rfl)
theorem dX1_thing_38 : decode cX1_thing 38 = .ok (.if_icmp .lt 21, 3) := dk_161 0 21 (dk_at dksX1_thing_1 14 rfl rfl)
theorem dX1_thing_41 : decode cX1_thing 41 = .ok (.iload_n 2, 1) := dk_28 (dk_at dksX1_thing_1 17 rfl rfl)
theorem dX1_thing_42 : decode cX1_thing 42 = .ok (.bipush 100, 2) := dk_16 100 (dk_at dksX1_thing_1 18 rfl rfl)
theorem dX1_thing_44 : decode cX1_thing 44 = .ok (.isub, 1) := dk_100 (dk_at dksX1_thing_1 20 rfl rfl)
theorem dX1_thing_45 : decode cX1_thing 45 = .ok (.aload_n 3, 1) := dk_45 (dk_at dksX1_thing_1 21 rfl rfl)
theorem dX1_thing_46 : decode cX1_thing 46 = .ok (.getfield 239, 3) := dk_180 0 239 (dk_at dksX1_thing_2 0 rfl rfl)
theorem dX1_thing_49 : decode cX1_thing 49 = .ok (.invokevirtual 7, 3) := dk_182 0 7 (dk_at dksX1_thing_2 3 rfl rfl)
theorem dX1_thing_52 : decode cX1_thing 52 = .ok (.if_icmp .ge 7, 3) := dk_162 0 7 (dk_at dksX1_thing_2 6 rfl rfl)
theorem dX1_thing_55 : decode cX1_thing 55 = .ok (.iconst 1, 1) := dk_4 (dk_at dksX1_thing_2 9 rfl rfl)
theorem dX1_thing_56 : decode cX1_thing 56 = .ok (.goto 4, 3) := dk_167 0 4 (dk_at dksX1_thing_2 10 rfl rfl)
theorem dX1_thing_59 : decode cX1_thing 59 = .ok (.iconst 0, 1) := dk_3 (dk_at dksX1_thing_2 13 rfl rfl)
theorem dX1_thing_60 : decode cX1_thing 60 = .ok (.istore 4, 2) := dk_54 4 (dk_at dksX1_thing_2 14 rfl rfl)
theorem dX1_thing_62 : decode cX1_thing 62 = .ok (.aload_n 3, 1) := dk_45 (dk_at dksX1_thing_2 16 rfl rfl)
theorem dX1_thing_63 : decode cX1_thing 63 = .ok (.ifnull 18, 3) := dk_198 0 18 (dk_at dksX1_thing_2 17 rfl rfl)
theorem dX1_thing_66 : decode cX1_thing 66 = .ok (.iload_n 2, 1) := dk_28 (dk_at dksX1_thing_2 20 rfl rfl)
theorem dX1_thing_67 : decode cX1_thing 67 = .ok (.ifCond .lt 14, 3) := dk_155 0 14 (dk_at dksX1_thing_2 21 rfl rfl)
theorem dX1_thing_70 : decode cX1_thing 70 = .ok (.iload_n 2, 1) := dk_28 (dk_at dksX1_thing_3 0 rfl rfl)
theorem dX1_thing_71 : decode cX1_thing 71 = .ok (.bipush 6, 2) := dk_16 6 (dk_at dksX1_thing_3 1 rfl rfl)
theorem dX1_thing_73 : decode cX1_thing 73 = .ok (.if_icmp .le 19, 3) := dk_164 0 19 (dk_at dksX1_thing_3 3 rfl rfl)
theorem dX1_thing_76 : decode cX1_thing 76 = .ok (.iload 4, 2) := dk_21 4 (dk_at dksX1_thing_3 6 rfl rfl)
theorem dX1_thing_78 : decode cX1_thing 78 = .ok (.ifCond .ne 14, 3) := dk_154 0 14 (dk_at dksX1_thing_3 8 rfl rfl)
theorem dX1_thing_81 : decode cX1_thing 81 = .ok (.new 255, 3) := dk_187 0 255 (dk_at dksX1_thing_3 11 rfl rfl)
theorem dX1_thing_84 : decode cX1_thing 84 = .ok (.dup, 1) := dk_89 (dk_at dksX1_thing_3 14 rfl rfl)
theorem dX1_thing_85 : decode cX1_thing 85 = .ok (.ldc_w 257, 3) := dk_19 1 1 (dk_at dksX1_thing_3 15 rfl rfl)
theorem dX1_thing_88 : decode cX1_thing 88 = .ok (.invokespecial 259, 3) := dk_183 1 3 (dk_at dksX1_thing_3 18 rfl rfl)
theorem dX1_thing_91 : decode cX1_thing 91 = .ok (.athrow, 1) := dk_191 (dk_at dksX1_thing_3 21 rfl rfl)
theorem dX1_thing_92 : decode cX1_thing 92 = .ok (.iload_n 2, 1) := dk_28 (dk_at dksX1_thing_3 22 rfl rfl)
theorem dX1_thing_93 : decode cX1_thing 93 = .ok (.tableswitch 98 0 6 #[43, 48, 57, 62, 74, 82, 90], 43) := by decide +kernel
theorem dX1_thing_136 : decode cX1_thing 136 = .ok (.aload_n 3, 1) := dk_45 (dk_at dksX1_thing_5 0 rfl rfl)
theorem dX1_thing_137 : decode cX1_thing 137 = .ok (.getfield 135, 3) := dk_180 0 135 (dk_at dksX1_thing_5 1 rfl rfl)
theorem dX1_thing_140 : decode cX1_thing 140 = .ok (.ireturn, 1) := dk_172 (dk_at dksX1_thing_5 4 rfl rfl)
theorem dX1_thing_141 : decode cX1_thing 141 = .ok (.aload_n 3, 1) := dk_45 (dk_at dksX1_thing_5 5 rfl rfl)
theorem dX1_thing_142 : decode cX1_thing 142 = .ok (.aload_n 0, 1) := dk_42 (dk_at dksX1_thing_5 6 rfl rfl)
theorem dX1_thing_143 : decode cX1_thing 143 = .ok (.getfield 174, 3) := dk_180 0 174 (dk_at dksX1_thing_5 7 rfl rfl)
theorem dX1_thing_146 : decode cX1_thing 146 = .ok (.invokevirtual 177, 3) := dk_182 0 177 (dk_at dksX1_thing_5 10 rfl rfl)
theorem dX1_thing_149 : decode cX1_thing 149 = .ok (.ireturn, 1) := dk_172 (dk_at dksX1_thing_5 13 rfl rfl)
theorem dX1_thing_150 : decode cX1_thing 150 = .ok (.aload_n 3, 1) := dk_45 (dk_at dksX1_thing_5 14 rfl rfl)
theorem dX1_thing_151 : decode cX1_thing 151 = .ok (.getfield 190, 3) := dk_180 0 190 (dk_at dksX1_thing_5 15 rfl rfl)
theorem dX1_thing_154 : decode cX1_thing 154 = .ok (.ireturn, 1) := dk_172 (dk_at dksX1_thing_5 18 rfl rfl)
theorem dX1_thing_155 : decode cX1_thing 155 = .ok (.aload_n 3, 1) := dk_45 (dk_at dksX1_thing_5 19 rfl rfl)
theorem dX1_thing_156 : decode cX1_thing 156 = .ok (.aload_n 0, 1) := dk_42 (dk_at dksX1_thing_5 20 rfl rfl)
theorem dX1_thing_157 : decode cX1_thing 157 = .ok (.getfield 174, 3) := dk_180 0 174 (dk_at dksX1_thing_5 21 rfl rfl)
theorem dX1_thing_160 : decode cX1_thing 160 = .ok (.invokevirtual 193, 3) := dk_182 0 193 (dk_at dksX1_thing_6 0 rfl rfl)
theorem dX1_thing_163 : decode cX1_thing 163 = .ok (.invokestatic 260, 3) := dk_184 1 4 (dk_at dksX1_thing_6 3 rfl rfl)
theorem dX1_thing_166 : decode cX1_thing 166 = .ok (.ireturn, 1) := dk_172 (dk_at dksX1_thing_6 6 rfl rfl)
theorem dX1_thing_167 : decode cX1_thing 167 = .ok (.aload_n 3, 1) := dk_45 (dk_at dksX1_thing_6 7 rfl rfl)
theorem dX1_thing_168 : decode cX1_thing 168 = .ok (.getfield 124, 3) := dk_180 0 124 (dk_at dksX1_thing_6 8 rfl rfl)
theorem dX1_thing_171 : decode cX1_thing 171 = .ok (.invokevirtual 114, 3) := dk_182 0 114 (dk_at dksX1_thing_6 11 rfl rfl)
theorem dX1_thing_174 : decode cX1_thing 174 = .ok (.ireturn, 1) := dk_172 (dk_at dksX1_thing_6 14 rfl rfl)
theorem dX1_thing_175 : decode cX1_thing 175 = .ok (.aload_n 3, 1) := dk_45 (dk_at dksX1_thing_6 15 rfl rfl)
theorem dX1_thing_176 : decode cX1_thing 176 = .ok (.getfield 239, 3) := dk_180 0 239 (dk_at dksX1_thing_6 16 rfl rfl)
theorem dX1_thing_179 : decode cX1_thing 179 = .ok (.invokevirtual 7, 3) := dk_182 0 7 (dk_at dksX1_thing_6 19 rfl rfl)
theorem dX1_thing_182 : decode cX1_thing 182 = .ok (.ireturn, 1) := dk_172 (dk_at dksX1_thing_6 22 rfl rfl)
theorem dX1_thing_183 : decode cX1_thing 183 = .ok (.aload_n 3, 1) := dk_45 (dk_at dksX1_thing_6 23 rfl rfl)
theorem dX1_thing_184 : decode cX1_thing 184 = .ok (.invokevirtual 199, 3) := dk_182 0 199 (dk_at dksX1_thing_7 0 rfl rfl)
theorem dX1_thing_187 : decode cX1_thing 187 = .ok (.invokestatic 260, 3) := dk_184 1 4 (dk_at dksX1_thing_7 3 rfl rfl)
theorem dX1_thing_190 : decode cX1_thing 190 = .ok (.ireturn, 1) := dk_172 (dk_at dksX1_thing_7 6 rfl rfl)
theorem dX1_thing_191 : decode cX1_thing 191 = .ok (.aload_n 3, 1) := dk_45 (dk_at dksX1_thing_7 7 rfl rfl)
theorem dX1_thing_192 : decode cX1_thing 192 = .ok (.getfield 239, 3) := dk_180 0 239 (dk_at dksX1_thing_7 8 rfl rfl)
theorem dX1_thing_195 : decode cX1_thing 195 = .ok (.iload_n 2, 1) := dk_28 (dk_at dksX1_thing_7 11 rfl rfl)
theorem dX1_thing_196 : decode cX1_thing 196 = .ok (.bipush 100, 2) := dk_16 100 (dk_at dksX1_thing_7 12 rfl rfl)
theorem dX1_thing_198 : decode cX1_thing 198 = .ok (.isub, 1) := dk_100 (dk_at dksX1_thing_7 14 rfl rfl)
theorem dX1_thing_199 : decode cX1_thing 199 = .ok (.invokevirtual 13, 3) := dk_182 0 13 (dk_at dksX1_thing_7 15 rfl rfl)
theorem dX1_thing_202 : decode cX1_thing 202 = .ok (.ireturn, 1) := dk_172 (dk_at dksX1_thing_7 18 rfl rfl)
abbrev cX1_bit : ByteArray := prog_1_method_23_code
def yX1_bit : MethodName := ⟨RX1, "bit", "(Z)I"⟩
def dkwX1_bit_0 : List UInt8 := [26, 153, 0, 7, 4, 167, 0, 4, 3, 172]
abbrev dktX1_bit_0 : List UInt8 := dkwX1_bit_0 ++ []
theorem dksX1_bit_0 : cX1_bit.data.toList.drop 0 = dktX1_bit_0 := by decide +kernel
theorem dX1_bit_0 : decode cX1_bit 0 = .ok (.iload_n 0, 1) := dk_26 (dk_at dksX1_bit_0 0 rfl rfl)
theorem dX1_bit_1 : decode cX1_bit 1 = .ok (.ifCond .eq 7, 3) := dk_153 0 7 (dk_at dksX1_bit_0 1 rfl rfl)
theorem dX1_bit_4 : decode cX1_bit 4 = .ok (.iconst 1, 1) := dk_4 (dk_at dksX1_bit_0 4 rfl rfl)
theorem dX1_bit_5 : decode cX1_bit 5 = .ok (.goto 4, 3) := dk_167 0 4 (dk_at dksX1_bit_0 5 rfl rfl)
theorem dX1_bit_8 : decode cX1_bit 8 = .ok (.iconst 0, 1) := dk_3 (dk_at dksX1_bit_0 8 rfl rfl)
theorem dX1_bit_9 : decode cX1_bit 9 = .ok (.ireturn, 1) := dk_172 (dk_at dksX1_bit_0 9 rfl rfl)
theorem q32 : (Jvm.Cond.initialized "VaryStore") ∈ lw_all := lw_g (lw_at lw_m1 1 rfl) rfl
theorem q65 : (Jvm.Cond.instantiable "VaryStore" (8 : Nat)) ∈ lw_all := lw_g (lw_at lw_m1 34 rfl) rfl
theorem q67 : (Jvm.Cond.instanceMethod ({ cls := "VaryStore", name := "<init>", desc := "()V" } : Jvm.MethodName)) ∈ lw_all := lw_g (lw_at lw_m1 36 rfl) rfl
theorem q68 : (Jvm.Cond.code ({ cls := "VaryStore", name := "<init>", desc := "()V" } : Jvm.MethodName) prog_1_method_6_code (1 : Nat) (Option.none : Option Jvm.ClassFile.FieldType)) ∈ lw_all := lw_g (lw_at lw_m1 37 rfl) rfl
theorem q69 : (Jvm.Cond.methodLink "VaryStore" (42 : Nat) ({ cls := "java/lang/Object", name := "<init>", desc := "()V" } : Jvm.MethodName)) ∈ lw_all := lw_g (lw_at lw_m1 38 rfl) rfl
theorem q72 : (Jvm.Cond.classLink "VaryStore" (29 : Nat) "java/util/ArrayList") ∈ lw_all := lw_g (lw_at lw_m1 41 rfl) rfl
theorem q74 : (Jvm.Cond.methodLink "VaryStore" (31 : Nat) ({ cls := "java/util/ArrayList", name := "<init>", desc := "()V" } : Jvm.MethodName)) ∈ lw_all := lw_g (lw_at lw_m1 43 rfl) rfl
theorem q102 : (Jvm.Cond.classLink "VaryStore" (53 : Nat) "VaryStore$Headers") ∈ lw_all := lw_g (lw_at lw_m1 71 rfl) rfl
theorem q104 : (Jvm.Cond.methodLinkNest "VaryStore" (55 : Nat) ({ cls := "VaryStore$Headers", name := "<init>", desc := "()V" } : Jvm.MethodName) "VaryStore") ∈ lw_tbl := lw_at lw_m1 73 rfl
theorem q114 : (Jvm.Cond.classLink "VaryStore" (60 : Nat) "VaryStore$Control") ∈ lw_all := lw_g (lw_at lw_m1 83 rfl) rfl
theorem q116 : (Jvm.Cond.methodLink "VaryStore" (62 : Nat) ({ cls := "VaryStore$Control", name := "<init>", desc := "(Ljava/lang/String;)V" } : Jvm.MethodName)) ∈ lw_all := lw_g (lw_at lw_m1 85 rfl) rfl
theorem q123 : (Jvm.Cond.static ({ cls := "VaryStore", name := "small", desc := "(Ljava/lang/String;)Ljava/lang/String;" } : Jvm.MethodName)) ∈ lw_all := lw_g (lw_at lw_m1 92 rfl) rfl
theorem q124 : (Jvm.Cond.code ({ cls := "VaryStore", name := "small", desc := "(Ljava/lang/String;)Ljava/lang/String;" } : Jvm.MethodName) prog_1_method_1_code (4 : Nat) (Option.some (Jvm.ClassFile.FieldType.object "java/lang/String"))) ∈ lw_all := lw_g (lw_at lw_m1 93 rfl) rfl
theorem q125 : (Jvm.Cond.classLink "VaryStore" (1 : Nat) "java/lang/StringBuilder") ∈ lw_all := lw_g (lw_at lw_m1 94 rfl) rfl
theorem q127 : (Jvm.Cond.methodLink "VaryStore" (3 : Nat) ({ cls := "java/lang/StringBuilder", name := "<init>", desc := "()V" } : Jvm.MethodName)) ∈ lw_all := lw_g (lw_at lw_m1 96 rfl) rfl
theorem q156 : (Jvm.Cond.methodLink "VaryStore" (7 : Nat) ({ cls := "java/lang/String", name := "length", desc := "()I" } : Jvm.MethodName)) ∈ lw_all := lw_g (lw_at lw_m1 125 rfl) rfl
theorem q165 : (Jvm.Cond.methodLink "VaryStore" (13 : Nat) ({ cls := "java/lang/String", name := "charAt", desc := "(I)C" } : Jvm.MethodName)) ∈ lw_all := lw_g (lw_at lw_m1 134 rfl) rfl
theorem q203 : (Jvm.Cond.methodLink "VaryStore" (17 : Nat) ({ cls := "java/lang/StringBuilder", name := "append", desc := "(C)Ljava/lang/StringBuilder;" } : Jvm.MethodName)) ∈ lw_all := lw_g (lw_at lw_m1 172 rfl) rfl
theorem q278 : (Jvm.Cond.methodLink "VaryStore" (21 : Nat) ({ cls := "java/lang/StringBuilder", name := "toString", desc := "()Ljava/lang/String;" } : Jvm.MethodName)) ∈ lw_all := lw_g (lw_at lw_m2 7 rfl) rfl
theorem q469 : (Jvm.Cond.static ({ cls := "VaryStore", name := "cut", desc := "(Ljava/lang/String;)Ljava/util/ArrayList;" } : Jvm.MethodName)) ∈ lw_all := lw_g (lw_at lw_m2 198 rfl) rfl
theorem q470 : (Jvm.Cond.code ({ cls := "VaryStore", name := "cut", desc := "(Ljava/lang/String;)Ljava/util/ArrayList;" } : Jvm.MethodName) prog_1_method_3_code (5 : Nat) (Option.some (Jvm.ClassFile.FieldType.object "java/util/ArrayList"))) ∈ lw_all := lw_g (lw_at lw_m2 199 rfl) rfl
theorem q471 : (Jvm.Cond.methodLink "VaryStore" (25 : Nat) ({ cls := "java/lang/String", name := "substring", desc := "(II)Ljava/lang/String;" } : Jvm.MethodName)) ∈ lw_all := lw_g (lw_at lw_m2 200 rfl) rfl
theorem q495 : (Jvm.Cond.methodLink "VaryStore" (32 : Nat) ({ cls := "VaryStore", name := "trimmed", desc := "(Ljava/lang/String;)Ljava/lang/String;" } : Jvm.MethodName)) ∈ lw_all := lw_g (lw_at lw_m2 224 rfl) rfl
theorem q496 : (Jvm.Cond.static ({ cls := "VaryStore", name := "trimmed", desc := "(Ljava/lang/String;)Ljava/lang/String;" } : Jvm.MethodName)) ∈ lw_all := lw_g (lw_at lw_m2 225 rfl) rfl
theorem q497 : (Jvm.Cond.code ({ cls := "VaryStore", name := "trimmed", desc := "(Ljava/lang/String;)Ljava/lang/String;" } : Jvm.MethodName) prog_1_method_2_code (3 : Nat) (Option.some (Jvm.ClassFile.FieldType.object "java/lang/String"))) ∈ lw_all := lw_g (lw_at lw_m2 226 rfl) rfl
theorem q498 : (Jvm.Cond.methodLink "VaryStore" (38 : Nat) ({ cls := "java/util/ArrayList", name := "add", desc := "(Ljava/lang/Object;)Z" } : Jvm.MethodName)) ∈ lw_all := lw_g (lw_at lw_m2 227 rfl) rfl
theorem q521 : (Jvm.Cond.selects "VaryStore" ({ cls := "java/lang/Object", name := "getClass", desc := "()Ljava/lang/Class;" } : Jvm.MethodName) ({ cls := "java/lang/Object", name := "getClass", desc := "()Ljava/lang/Class;" } : Jvm.MethodName)) ∈ lw_all := lw_g (lw_at lw_m3 10 rfl) rfl
theorem q618 : (Jvm.Cond.static ({ cls := "VaryStore", name := "number", desc := "(Ljava/lang/String;)I" } : Jvm.MethodName)) ∈ lw_all := lw_g (lw_at lw_m3 107 rfl) rfl
theorem q619 : (Jvm.Cond.code ({ cls := "VaryStore", name := "number", desc := "(Ljava/lang/String;)I" } : Jvm.MethodName) prog_1_method_4_code (4 : Nat) (Option.some Jvm.ClassFile.FieldType.int)) ∈ lw_all := lw_g (lw_at lw_m3 108 rfl) rfl
theorem q621 : (Jvm.Cond.static ({ cls := "VaryStore", name := "isName", desc := "(Ljava/lang/String;)Z" } : Jvm.MethodName)) ∈ lw_all := lw_g (lw_at lw_m3 110 rfl) rfl
theorem q622 : (Jvm.Cond.code ({ cls := "VaryStore", name := "isName", desc := "(Ljava/lang/String;)Z" } : Jvm.MethodName) prog_1_method_5_code (4 : Nat) (Option.some Jvm.ClassFile.FieldType.boolean)) ∈ lw_all := lw_g (lw_at lw_m3 111 rfl) rfl
theorem q672 : (Jvm.Cond.fieldLink "VaryStore" (45 : Nat) "VaryStore" "tape" "[B") ∈ lw_all := lw_g (lw_at lw_m3 161 rfl) rfl
theorem q673 : (Jvm.Cond.fieldLink "VaryStore" (49 : Nat) "VaryStore" "things" "Ljava/util/ArrayList;") ∈ lw_all := lw_g (lw_at lw_m3 162 rfl) rfl
theorem q674 : (Jvm.Cond.fieldLink "VaryStore" (56 : Nat) "VaryStore" "request" "LVaryStore$Headers;") ∈ lw_all := lw_g (lw_at lw_m3 163 rfl) rfl
theorem q675 : (Jvm.Cond.fieldLink "VaryStore" (65 : Nat) "VaryStore" "wish" "LVaryStore$Control;") ∈ lw_all := lw_g (lw_at lw_m3 164 rfl) rfl
theorem q676 : (Jvm.Cond.fieldLink "VaryStore" (73 : Nat) "VaryStore" "taped" "I") ∈ lw_all := lw_g (lw_at lw_m3 165 rfl) rfl
theorem q677 : (Jvm.Cond.fieldLink "VaryStore" (69 : Nat) "VaryStore" "faultAt" "I") ∈ lw_all := lw_g (lw_at lw_m3 166 rfl) rfl
theorem q678 : (Jvm.Cond.fieldLink "VaryStore" (174 : Nat) "VaryStore" "time" "I") ∈ lw_all := lw_g (lw_at lw_m3 167 rfl) rfl
theorem q679 : (Jvm.Cond.fieldLink "VaryStore" (142 : Nat) "VaryStore" "uses" "I") ∈ lw_all := lw_g (lw_at lw_m3 168 rfl) rfl
theorem q680 : (Jvm.Cond.laysFinal "VaryStore" "VaryStore" "tape" "[B") ∈ lw_all := lw_g (lw_at lw_m3 169 rfl) rfl
theorem q681 : (Jvm.Cond.soleField "VaryStore" "tape") ∈ lw_all := lw_g (lw_at lw_m3 170 rfl) rfl
theorem q682 : (Jvm.Cond.laysFinal "VaryStore" "VaryStore" "things" "Ljava/util/ArrayList;") ∈ lw_all := lw_g (lw_at lw_m3 171 rfl) rfl
theorem q683 : (Jvm.Cond.soleField "VaryStore" "things") ∈ lw_all := lw_g (lw_at lw_m3 172 rfl) rfl
theorem q684 : (Jvm.Cond.lays "VaryStore" "VaryStore" "request" "LVaryStore$Headers;") ∈ lw_all := lw_g (lw_at lw_m3 173 rfl) rfl
theorem q685 : (Jvm.Cond.soleField "VaryStore" "request") ∈ lw_all := lw_g (lw_at lw_m3 174 rfl) rfl
theorem q686 : (Jvm.Cond.lays "VaryStore" "VaryStore" "wish" "LVaryStore$Control;") ∈ lw_all := lw_g (lw_at lw_m3 175 rfl) rfl
theorem q687 : (Jvm.Cond.soleField "VaryStore" "wish") ∈ lw_all := lw_g (lw_at lw_m3 176 rfl) rfl
theorem q688 : (Jvm.Cond.lays "VaryStore" "VaryStore" "taped" "I") ∈ lw_all := lw_g (lw_at lw_m3 177 rfl) rfl
theorem q689 : (Jvm.Cond.soleField "VaryStore" "taped") ∈ lw_all := lw_g (lw_at lw_m3 178 rfl) rfl
theorem q690 : (Jvm.Cond.lays "VaryStore" "VaryStore" "faultAt" "I") ∈ lw_all := lw_g (lw_at lw_m3 179 rfl) rfl
theorem q691 : (Jvm.Cond.soleField "VaryStore" "faultAt") ∈ lw_all := lw_g (lw_at lw_m3 180 rfl) rfl
theorem q692 : (Jvm.Cond.lays "VaryStore" "VaryStore" "time" "I") ∈ lw_all := lw_g (lw_at lw_m3 181 rfl) rfl
theorem q693 : (Jvm.Cond.soleField "VaryStore" "time") ∈ lw_all := lw_g (lw_at lw_m3 182 rfl) rfl
theorem q694 : (Jvm.Cond.lays "VaryStore" "VaryStore" "uses" "I") ∈ lw_all := lw_g (lw_at lw_m3 183 rfl) rfl
theorem q695 : (Jvm.Cond.soleField "VaryStore" "uses") ∈ lw_all := lw_g (lw_at lw_m3 184 rfl) rfl
theorem q696 : (Jvm.Cond.superclass "VaryStore" "java/lang/Object") ∈ lw_all := lw_g (lw_at lw_m3 185 rfl) rfl
theorem q698 : (Jvm.Cond.instanceMethod ({ cls := "VaryStore", name := "type", desc := "(JI)Z" } : Jvm.MethodName)) ∈ lw_all := lw_g (lw_at lw_m3 187 rfl) rfl
theorem q699 : (Jvm.Cond.selects "VaryStore" ({ cls := "VaryStore", name := "type", desc := "(JI)Z" } : Jvm.MethodName) ({ cls := "VaryStore", name := "type", desc := "(JI)Z" } : Jvm.MethodName)) ∈ lw_all := lw_g (lw_at lw_m3 188 rfl) rfl
theorem q700 : (Jvm.Cond.code ({ cls := "VaryStore", name := "type", desc := "(JI)Z" } : Jvm.MethodName) prog_1_method_7_code (6 : Nat) (Option.some Jvm.ClassFile.FieldType.boolean)) ∈ lw_all := lw_g (lw_at lw_m3 189 rfl) rfl
theorem q701 : (Jvm.Cond.constantLong "VaryStore" (76 : Nat) (255 : Int64)) ∈ lw_all := lw_g (lw_at lw_m3 190 rfl) rfl
theorem q703 : (Jvm.Cond.instanceMethod ({ cls := "VaryStore", name := "fault", desc := "()I" } : Jvm.MethodName)) ∈ lw_all := lw_g (lw_at lw_m3 192 rfl) rfl
theorem q704 : (Jvm.Cond.selects "VaryStore" ({ cls := "VaryStore", name := "fault", desc := "()I" } : Jvm.MethodName) ({ cls := "VaryStore", name := "fault", desc := "()I" } : Jvm.MethodName)) ∈ lw_all := lw_g (lw_at lw_m3 193 rfl) rfl
theorem q705 : (Jvm.Cond.code ({ cls := "VaryStore", name := "fault", desc := "()I" } : Jvm.MethodName) prog_1_method_20_code (1 : Nat) (Option.some Jvm.ClassFile.FieldType.int)) ∈ lw_all := lw_g (lw_at lw_m3 194 rfl) rfl
theorem q707 : (Jvm.Cond.instanceMethod ({ cls := "VaryStore", name := "purge", desc := "(I)I" } : Jvm.MethodName)) ∈ lw_all := lw_g (lw_at lw_m3 196 rfl) rfl
theorem q708 : (Jvm.Cond.selects "VaryStore" ({ cls := "VaryStore", name := "purge", desc := "(I)I" } : Jvm.MethodName) ({ cls := "VaryStore", name := "purge", desc := "(I)I" } : Jvm.MethodName)) ∈ lw_all := lw_g (lw_at lw_m3 197 rfl) rfl
theorem q709 : (Jvm.Cond.code ({ cls := "VaryStore", name := "purge", desc := "(I)I" } : Jvm.MethodName) prog_1_method_21_code (4 : Nat) (Option.some Jvm.ClassFile.FieldType.int)) ∈ lw_all := lw_g (lw_at lw_m3 198 rfl) rfl
theorem q710 : (Jvm.Cond.methodLink "VaryStore" (114 : Nat) ({ cls := "java/util/ArrayList", name := "size", desc := "()I" } : Jvm.MethodName)) ∈ lw_all := lw_g (lw_at lw_m3 199 rfl) rfl
theorem q711 : (Jvm.Cond.methodLink "VaryStore" (117 : Nat) ({ cls := "java/util/ArrayList", name := "get", desc := "(I)Ljava/lang/Object;" } : Jvm.MethodName)) ∈ lw_all := lw_g (lw_at lw_m3 200 rfl) rfl
theorem q712 : (Jvm.Cond.classLink "VaryStore" (125 : Nat) "VaryStore$Thing") ∈ lw_all := lw_g (lw_at lw_m3 201 rfl) rfl
theorem q713 : (Jvm.Cond.methodLink "VaryStore" (227 : Nat) ({ cls := "java/util/ArrayList", name := "remove", desc := "(I)Ljava/lang/Object;" } : Jvm.MethodName)) ∈ lw_all := lw_g (lw_at lw_m3 202 rfl) rfl
theorem q715 : (Jvm.Cond.instanceMethod ({ cls := "VaryStore", name := "things", desc := "()I" } : Jvm.MethodName)) ∈ lw_all := lw_g (lw_at lw_m3 204 rfl) rfl
theorem q716 : (Jvm.Cond.selects "VaryStore" ({ cls := "VaryStore", name := "things", desc := "()I" } : Jvm.MethodName) ({ cls := "VaryStore", name := "things", desc := "()I" } : Jvm.MethodName)) ∈ lw_all := lw_g (lw_at lw_m3 205 rfl) rfl
theorem q717 : (Jvm.Cond.code ({ cls := "VaryStore", name := "things", desc := "()I" } : Jvm.MethodName) prog_1_method_25_code (1 : Nat) (Option.some Jvm.ClassFile.FieldType.int)) ∈ lw_all := lw_g (lw_at lw_m3 206 rfl) rfl
theorem q723 : (Jvm.Cond.instanceMethod ({ cls := "VaryStore", name := "ask", desc := "(I)I" } : Jvm.MethodName)) ∈ lw_all := lw_g (lw_at lw_m3 212 rfl) rfl
theorem q724 : (Jvm.Cond.selects "VaryStore" ({ cls := "VaryStore", name := "ask", desc := "(I)I" } : Jvm.MethodName) ({ cls := "VaryStore", name := "ask", desc := "(I)I" } : Jvm.MethodName)) ∈ lw_all := lw_g (lw_at lw_m3 213 rfl) rfl
theorem q725 : (Jvm.Cond.code ({ cls := "VaryStore", name := "ask", desc := "(I)I" } : Jvm.MethodName) prog_1_method_15_code (5 : Nat) (Option.some Jvm.ClassFile.FieldType.int)) ∈ lw_all := lw_g (lw_at lw_m3 214 rfl) rfl
theorem q726 : (Jvm.Cond.methodLink "VaryStore" (148 : Nat) ({ cls := "VaryStore", name := "readFor", desc := "(I)LVaryStore$Headers;" } : Jvm.MethodName)) ∈ lw_all := lw_g (lw_at lw_m3 215 rfl) rfl
theorem q727 : (Jvm.Cond.privateMethod ({ cls := "VaryStore", name := "readFor", desc := "(I)LVaryStore$Headers;" } : Jvm.MethodName)) ∈ lw_tbl := lw_at lw_m3 216 rfl
theorem q728 : (Jvm.Cond.instanceMethod ({ cls := "VaryStore", name := "readFor", desc := "(I)LVaryStore$Headers;" } : Jvm.MethodName)) ∈ lw_all := lw_g (lw_at lw_m3 217 rfl) rfl
theorem q729 : (Jvm.Cond.code ({ cls := "VaryStore", name := "readFor", desc := "(I)LVaryStore$Headers;" } : Jvm.MethodName) prog_1_method_10_code (3 : Nat) (Option.some (Jvm.ClassFile.FieldType.object "VaryStore$Headers"))) ∈ lw_all := lw_g (lw_at lw_m3 218 rfl) rfl
theorem q730 : (Jvm.Cond.methodLink "VaryStore" (105 : Nat) ({ cls := "VaryStore", name := "read", desc := "()LVaryStore$Headers;" } : Jvm.MethodName)) ∈ lw_all := lw_g (lw_at lw_m3 219 rfl) rfl
theorem q731 : (Jvm.Cond.privateMethod ({ cls := "VaryStore", name := "read", desc := "()LVaryStore$Headers;" } : Jvm.MethodName)) ∈ lw_tbl := lw_at lw_m3 220 rfl
theorem q732 : (Jvm.Cond.instanceMethod ({ cls := "VaryStore", name := "read", desc := "()LVaryStore$Headers;" } : Jvm.MethodName)) ∈ lw_all := lw_g (lw_at lw_m3 221 rfl) rfl
theorem q733 : (Jvm.Cond.code ({ cls := "VaryStore", name := "read", desc := "()LVaryStore$Headers;" } : Jvm.MethodName) prog_1_method_8_code (3 : Nat) (Option.some (Jvm.ClassFile.FieldType.object "VaryStore$Headers"))) ∈ lw_all := lw_g (lw_at lw_m3 222 rfl) rfl
theorem q734 : (Jvm.Cond.methodLink "VaryStore" (78 : Nat) ({ cls := "VaryStore", name := "line", desc := "(LVaryStore$Headers;I)I" } : Jvm.MethodName)) ∈ lw_all := lw_g (lw_at lw_m3 223 rfl) rfl
theorem q735 : (Jvm.Cond.privateMethod ({ cls := "VaryStore", name := "line", desc := "(LVaryStore$Headers;I)I" } : Jvm.MethodName)) ∈ lw_tbl := lw_at lw_m3 224 rfl
theorem q736 : (Jvm.Cond.instanceMethod ({ cls := "VaryStore", name := "line", desc := "(LVaryStore$Headers;I)I" } : Jvm.MethodName)) ∈ lw_all := lw_g (lw_at lw_m3 225 rfl) rfl
theorem q737 : (Jvm.Cond.code ({ cls := "VaryStore", name := "line", desc := "(LVaryStore$Headers;I)I" } : Jvm.MethodName) prog_1_method_9_code (8 : Nat) (Option.some Jvm.ClassFile.FieldType.int)) ∈ lw_all := lw_g (lw_at lw_m3 226 rfl) rfl
theorem q738 : (Jvm.Cond.methodLink "VaryStore" (82 : Nat) ({ cls := "java/lang/String", name := "indexOf", desc := "(I)I" } : Jvm.MethodName)) ∈ lw_all := lw_g (lw_at lw_m3 227 rfl) rfl
theorem q739 : (Jvm.Cond.methodLink "VaryStore" (86 : Nat) ({ cls := "java/lang/Math", name := "max", desc := "(II)I" } : Jvm.MethodName)) ∈ lw_all := lw_g (lw_at lw_m3 228 rfl) rfl
theorem q740 : (Jvm.Cond.methodLink "VaryStore" (92 : Nat) ({ cls := "VaryStore", name := "isName", desc := "(Ljava/lang/String;)Z" } : Jvm.MethodName)) ∈ lw_all := lw_g (lw_at lw_m3 229 rfl) rfl
theorem q741 : (Jvm.Cond.methodLink "VaryStore" (96 : Nat) ({ cls := "VaryStore", name := "small", desc := "(Ljava/lang/String;)Ljava/lang/String;" } : Jvm.MethodName)) ∈ lw_all := lw_g (lw_at lw_m3 230 rfl) rfl
theorem q742 : (Jvm.Cond.methodLink "VaryStore" (99 : Nat) ({ cls := "java/lang/String", name := "substring", desc := "(I)Ljava/lang/String;" } : Jvm.MethodName)) ∈ lw_all := lw_g (lw_at lw_m3 231 rfl) rfl
theorem q743 : (Jvm.Cond.methodLink "VaryStore" (102 : Nat) ({ cls := "VaryStore$Headers", name := "add", desc := "(Ljava/lang/String;Ljava/lang/String;)V" } : Jvm.MethodName)) ∈ lw_all := lw_g (lw_at lw_m3 232 rfl) rfl
theorem q792 : (Jvm.Cond.classLink "VaryStore" (109 : Nat) "java/lang/IllegalArgumentException") ∈ lw_all := lw_g (lw_at lw_m4 41 rfl) rfl
theorem q793 : (Jvm.Cond.stringRef "VaryStore" (111 : Nat) "no such text or path") ∈ lw_tbl := lw_at lw_m4 42 rfl
theorem q794 : (Jvm.Cond.methodLink "VaryStore" (113 : Nat) ({ cls := "java/lang/IllegalArgumentException", name := "<init>", desc := "(Ljava/lang/String;)V" } : Jvm.MethodName)) ∈ lw_all := lw_g (lw_at lw_m4 43 rfl) rfl
theorem q795 : (Jvm.Cond.stringRef "VaryStore" (152 : Nat) "cache-control") ∈ lw_tbl := lw_at lw_m4 44 rfl
theorem q796 : (Jvm.Cond.methodLink "VaryStore" (154 : Nat) ({ cls := "VaryStore$Headers", name := "value", desc := "(Ljava/lang/String;)Ljava/lang/String;" } : Jvm.MethodName)) ∈ lw_all := lw_g (lw_at lw_m4 45 rfl) rfl
theorem q800 : (Jvm.Cond.methodLink "VaryStore" (157 : Nat) ({ cls := "VaryStore", name := "theOne", desc := "(I)LVaryStore$Thing;" } : Jvm.MethodName)) ∈ lw_all := lw_g (lw_at lw_m4 49 rfl) rfl
theorem q801 : (Jvm.Cond.privateMethod ({ cls := "VaryStore", name := "theOne", desc := "(I)LVaryStore$Thing;" } : Jvm.MethodName)) ∈ lw_tbl := lw_at lw_m4 50 rfl
theorem q802 : (Jvm.Cond.instanceMethod ({ cls := "VaryStore", name := "theOne", desc := "(I)LVaryStore$Thing;" } : Jvm.MethodName)) ∈ lw_all := lw_g (lw_at lw_m4 51 rfl) rfl
theorem q803 : (Jvm.Cond.code ({ cls := "VaryStore", name := "theOne", desc := "(I)LVaryStore$Thing;" } : Jvm.MethodName) prog_1_method_13_code (4 : Nat) (Option.some (Jvm.ClassFile.FieldType.object "VaryStore$Thing"))) ∈ lw_all := lw_g (lw_at lw_m4 52 rfl) rfl
theorem q804 : (Jvm.Cond.methodLink "VaryStore" (138 : Nat) ({ cls := "VaryStore", name := "isFor", desc := "(LVaryStore$Thing;)Z" } : Jvm.MethodName)) ∈ lw_all := lw_g (lw_at lw_m4 53 rfl) rfl
theorem q805 : (Jvm.Cond.privateMethod ({ cls := "VaryStore", name := "isFor", desc := "(LVaryStore$Thing;)Z" } : Jvm.MethodName)) ∈ lw_tbl := lw_at lw_m4 54 rfl
theorem q806 : (Jvm.Cond.instanceMethod ({ cls := "VaryStore", name := "isFor", desc := "(LVaryStore$Thing;)Z" } : Jvm.MethodName)) ∈ lw_all := lw_g (lw_at lw_m4 55 rfl) rfl
theorem q807 : (Jvm.Cond.code ({ cls := "VaryStore", name := "isFor", desc := "(LVaryStore$Thing;)Z" } : Jvm.MethodName) prog_1_method_12_code (4 : Nat) (Option.some Jvm.ClassFile.FieldType.boolean)) ∈ lw_all := lw_g (lw_at lw_m4 56 rfl) rfl
theorem q808 : (Jvm.Cond.classLink "VaryStore" (8 : Nat) "java/lang/String") ∈ lw_all := lw_g (lw_at lw_m4 57 rfl) rfl
theorem q809 : (Jvm.Cond.methodLink "VaryStore" (121 : Nat) ({ cls := "VaryStore$Headers", name := "listed", desc := "(Ljava/lang/String;)Ljava/lang/String;" } : Jvm.MethodName)) ∈ lw_all := lw_g (lw_at lw_m4 58 rfl) rfl
theorem q823 : (Jvm.Cond.methodLink "VaryStore" (132 : Nat) ({ cls := "java/lang/String", name := "equals", desc := "(Ljava/lang/Object;)Z" } : Jvm.MethodName)) ∈ lw_all := lw_g (lw_at lw_m4 72 rfl) rfl
theorem q824 : (Jvm.Cond.methodLink "VaryStore" (161 : Nat) ({ cls := "VaryStore", name := "answer", desc := "(LVaryStore$Thing;LVaryStore$Control;)I" } : Jvm.MethodName)) ∈ lw_all := lw_g (lw_at lw_m4 73 rfl) rfl
theorem q825 : (Jvm.Cond.privateMethod ({ cls := "VaryStore", name := "answer", desc := "(LVaryStore$Thing;LVaryStore$Control;)I" } : Jvm.MethodName)) ∈ lw_tbl := lw_at lw_m4 74 rfl
theorem q826 : (Jvm.Cond.instanceMethod ({ cls := "VaryStore", name := "answer", desc := "(LVaryStore$Thing;LVaryStore$Control;)I" } : Jvm.MethodName)) ∈ lw_all := lw_g (lw_at lw_m4 75 rfl) rfl
theorem q827 : (Jvm.Cond.code ({ cls := "VaryStore", name := "answer", desc := "(LVaryStore$Thing;LVaryStore$Control;)I" } : Jvm.MethodName) prog_1_method_16_code (6 : Nat) (Option.some Jvm.ClassFile.FieldType.int)) ∈ lw_all := lw_g (lw_at lw_m4 76 rfl) rfl
theorem q828 : (Jvm.Cond.methodLink "VaryStore" (177 : Nat) ({ cls := "VaryStore$Thing", name := "ageAt", desc := "(I)I" } : Jvm.MethodName)) ∈ lw_all := lw_g (lw_at lw_m4 77 rfl) rfl
theorem q832 : (Jvm.Cond.stringRef "VaryStore" (180 : Nat) "no-cache") ∈ lw_tbl := lw_at lw_m4 81 rfl
theorem q833 : (Jvm.Cond.methodLink "VaryStore" (171 : Nat) ({ cls := "VaryStore$Control", name := "has", desc := "(Ljava/lang/String;)Z" } : Jvm.MethodName)) ∈ lw_all := lw_g (lw_at lw_m4 82 rfl) rfl
theorem q837 : (Jvm.Cond.stringRef "VaryStore" (182 : Nat) "max-age") ∈ lw_tbl := lw_at lw_m4 86 rfl
theorem q838 : (Jvm.Cond.methodLink "VaryStore" (184 : Nat) ({ cls := "VaryStore$Control", name := "of", desc := "(Ljava/lang/String;)I" } : Jvm.MethodName)) ∈ lw_all := lw_g (lw_at lw_m4 87 rfl) rfl
theorem q847 : (Jvm.Cond.stringRef "VaryStore" (188 : Nat) "min-fresh") ∈ lw_tbl := lw_at lw_m4 96 rfl
theorem q848 : (Jvm.Cond.methodLink "VaryStore" (193 : Nat) ({ cls := "VaryStore$Thing", name := "isFresh", desc := "(I)Z" } : Jvm.MethodName)) ∈ lw_all := lw_g (lw_at lw_m4 97 rfl) rfl
theorem q855 : (Jvm.Cond.stringRef "VaryStore" (197 : Nat) "max-stale") ∈ lw_tbl := lw_at lw_m4 104 rfl
theorem q856 : (Jvm.Cond.methodLink "VaryStore" (199 : Nat) ({ cls := "VaryStore$Thing", name := "isStrict", desc := "()Z" } : Jvm.MethodName)) ∈ lw_all := lw_g (lw_at lw_m4 105 rfl) rfl
theorem q863 : (Jvm.Cond.methodLink "VaryStore" (165 : Nat) ({ cls := "VaryStore", name := "use", desc := "(LVaryStore$Thing;)V" } : Jvm.MethodName)) ∈ lw_all := lw_g (lw_at lw_m4 112 rfl) rfl
theorem q864 : (Jvm.Cond.privateMethod ({ cls := "VaryStore", name := "use", desc := "(LVaryStore$Thing;)V" } : Jvm.MethodName)) ∈ lw_tbl := lw_at lw_m4 113 rfl
theorem q865 : (Jvm.Cond.instanceMethod ({ cls := "VaryStore", name := "use", desc := "(LVaryStore$Thing;)V" } : Jvm.MethodName)) ∈ lw_all := lw_g (lw_at lw_m4 114 rfl) rfl
theorem q866 : (Jvm.Cond.code ({ cls := "VaryStore", name := "use", desc := "(LVaryStore$Thing;)V" } : Jvm.MethodName) prog_1_method_14_code (2 : Nat) (Option.none : Option Jvm.ClassFile.FieldType)) ∈ lw_all := lw_g (lw_at lw_m4 115 rfl) rfl
theorem q867 : (Jvm.Cond.stringRef "VaryStore" (169 : Nat) "only-if-cached") ∈ lw_tbl := lw_at lw_m4 116 rfl
theorem q872 : (Jvm.Cond.instanceMethod ({ cls := "VaryStore", name := "keep", desc := "(I)Z" } : Jvm.MethodName)) ∈ lw_all := lw_g (lw_at lw_m4 121 rfl) rfl
theorem q873 : (Jvm.Cond.selects "VaryStore" ({ cls := "VaryStore", name := "keep", desc := "(I)Z" } : Jvm.MethodName) ({ cls := "VaryStore", name := "keep", desc := "(I)Z" } : Jvm.MethodName)) ∈ lw_all := lw_g (lw_at lw_m4 122 rfl) rfl
theorem q874 : (Jvm.Cond.code ({ cls := "VaryStore", name := "keep", desc := "(I)Z" } : Jvm.MethodName) prog_1_method_17_code (7 : Nat) (Option.some Jvm.ClassFile.FieldType.boolean)) ∈ lw_all := lw_g (lw_at lw_m4 123 rfl) rfl
theorem q875 : (Jvm.Cond.stringRef "VaryStore" (203 : Nat) "vary") ∈ lw_tbl := lw_at lw_m4 124 rfl
theorem q876 : (Jvm.Cond.methodLink "VaryStore" (204 : Nat) ({ cls := "VaryStore$Headers", name := "has", desc := "(Ljava/lang/String;)Z" } : Jvm.MethodName)) ∈ lw_all := lw_g (lw_at lw_m4 125 rfl) rfl
theorem q880 : (Jvm.Cond.stringRef "VaryStore" (205 : Nat) "") ∈ lw_tbl := lw_at lw_m4 129 rfl
theorem q881 : (Jvm.Cond.methodLink "VaryStore" (207 : Nat) ({ cls := "VaryStore", name := "cut", desc := "(Ljava/lang/String;)Ljava/util/ArrayList;" } : Jvm.MethodName)) ∈ lw_all := lw_g (lw_at lw_m4 130 rfl) rfl
theorem q883 : (Jvm.Cond.stringRef "VaryStore" (211 : Nat) "etag") ∈ lw_tbl := lw_at lw_m4 132 rfl
theorem q884 : (Jvm.Cond.methodLink "VaryStore" (213 : Nat) ({ cls := "VaryStore", name := "valuesOf", desc := "(Ljava/util/ArrayList;)Ljava/util/ArrayList;" } : Jvm.MethodName)) ∈ lw_all := lw_g (lw_at lw_m4 133 rfl) rfl
theorem q885 : (Jvm.Cond.privateMethod ({ cls := "VaryStore", name := "valuesOf", desc := "(Ljava/util/ArrayList;)Ljava/util/ArrayList;" } : Jvm.MethodName)) ∈ lw_tbl := lw_at lw_m4 134 rfl
theorem q886 : (Jvm.Cond.instanceMethod ({ cls := "VaryStore", name := "valuesOf", desc := "(Ljava/util/ArrayList;)Ljava/util/ArrayList;" } : Jvm.MethodName)) ∈ lw_all := lw_g (lw_at lw_m4 135 rfl) rfl
theorem q887 : (Jvm.Cond.code ({ cls := "VaryStore", name := "valuesOf", desc := "(Ljava/util/ArrayList;)Ljava/util/ArrayList;" } : Jvm.MethodName) prog_1_method_11_code (4 : Nat) (Option.some (Jvm.ClassFile.FieldType.object "java/util/ArrayList"))) ∈ lw_all := lw_g (lw_at lw_m4 136 rfl) rfl
theorem q888 : (Jvm.Cond.methodLink "VaryStore" (217 : Nat) ({ cls := "VaryStore$Thing", name := "<init>", desc := "(ILjava/lang/String;Ljava/util/ArrayList;Ljava/util/ArrayList;)V" } : Jvm.MethodName)) ∈ lw_all := lw_g (lw_at lw_m4 137 rfl) rfl
theorem q893 : (Jvm.Cond.fieldLinkNest "VaryStore" (135 : Nat) "VaryStore$Thing" "path" "I" "VaryStore") ∈ lw_tbl := lw_at lw_m4 142 rfl
theorem q895 : (Jvm.Cond.fieldLinkNest "VaryStore" (239 : Nat) "VaryStore$Thing" "etag" "Ljava/lang/String;" "VaryStore") ∈ lw_tbl := lw_at lw_m4 144 rfl
theorem q897 : (Jvm.Cond.fieldLinkNest "VaryStore" (124 : Nat) "VaryStore$Thing" "vary" "Ljava/util/ArrayList;" "VaryStore") ∈ lw_tbl := lw_at lw_m4 146 rfl
theorem q899 : (Jvm.Cond.fieldLinkNest "VaryStore" (129 : Nat) "VaryStore$Thing" "values" "Ljava/util/ArrayList;" "VaryStore") ∈ lw_tbl := lw_at lw_m4 148 rfl
theorem q901 : (Jvm.Cond.fieldLinkNest "VaryStore" (248 : Nat) "VaryStore$Thing" "control" "LVaryStore$Control;" "VaryStore") ∈ lw_tbl := lw_at lw_m4 150 rfl
theorem q903 : (Jvm.Cond.fieldLinkNest "VaryStore" (190 : Nat) "VaryStore$Thing" "life" "I" "VaryStore") ∈ lw_tbl := lw_at lw_m4 152 rfl
theorem q906 : (Jvm.Cond.fieldLinkNest "VaryStore" (145 : Nat) "VaryStore$Thing" "used" "I" "VaryStore") ∈ lw_tbl := lw_at lw_m4 155 rfl
theorem q926 : (Jvm.Cond.methodLink "VaryStore" (220 : Nat) ({ cls := "VaryStore$Thing", name := "tell", desc := "(LVaryStore$Control;LVaryStore$Headers;I)V" } : Jvm.MethodName)) ∈ lw_all := lw_g (lw_at lw_m4 175 rfl) rfl
theorem q943 : (Jvm.Cond.methodLink "VaryStore" (224 : Nat) ({ cls := "VaryStore$Thing", name := "isLike", desc := "(LVaryStore$Thing;)Z" } : Jvm.MethodName)) ∈ lw_all := lw_g (lw_at lw_m4 192 rfl) rfl
theorem q965 : (Jvm.Cond.selects "VaryStore" ({ cls := "java/lang/Object", name := "equals", desc := "(Ljava/lang/Object;)Z" } : Jvm.MethodName) ({ cls := "java/lang/Object", name := "equals", desc := "(Ljava/lang/Object;)Z" } : Jvm.MethodName)) ∈ lw_all := lw_g (lw_at lw_m4 214 rfl) rfl
theorem q1062 : (Jvm.Cond.stringRef "VaryStore" (230 : Nat) "no-store") ∈ lw_tbl := lw_at lw_m5 71 rfl
theorem q1063 : (Jvm.Cond.stringRef "VaryStore" (232 : Nat) "private") ∈ lw_tbl := lw_at lw_m5 72 rfl
theorem q1064 : (Jvm.Cond.stringRef "VaryStore" (234 : Nat) "*") ∈ lw_tbl := lw_at lw_m5 73 rfl
theorem q1065 : (Jvm.Cond.methodLink "VaryStore" (236 : Nat) ({ cls := "java/util/ArrayList", name := "contains", desc := "(Ljava/lang/Object;)Z" } : Jvm.MethodName)) ∈ lw_all := lw_g (lw_at lw_m5 74 rfl) rfl
theorem q1078 : (Jvm.Cond.methodLink "VaryStore" (242 : Nat) ({ cls := "VaryStore", name := "oldest", desc := "()LVaryStore$Thing;" } : Jvm.MethodName)) ∈ lw_all := lw_g (lw_at lw_m5 87 rfl) rfl
theorem q1079 : (Jvm.Cond.privateMethod ({ cls := "VaryStore", name := "oldest", desc := "()LVaryStore$Thing;" } : Jvm.MethodName)) ∈ lw_tbl := lw_at lw_m5 88 rfl
theorem q1080 : (Jvm.Cond.instanceMethod ({ cls := "VaryStore", name := "oldest", desc := "()LVaryStore$Thing;" } : Jvm.MethodName)) ∈ lw_all := lw_g (lw_at lw_m5 89 rfl) rfl
theorem q1081 : (Jvm.Cond.code ({ cls := "VaryStore", name := "oldest", desc := "()LVaryStore$Thing;" } : Jvm.MethodName) prog_1_method_18_code (3 : Nat) (Option.some (Jvm.ClassFile.FieldType.object "VaryStore$Thing"))) ∈ lw_all := lw_g (lw_at lw_m5 90 rfl) rfl
theorem q1082 : (Jvm.Cond.methodLink "VaryStore" (246 : Nat) ({ cls := "java/util/ArrayList", name := "remove", desc := "(Ljava/lang/Object;)Z" } : Jvm.MethodName)) ∈ lw_all := lw_g (lw_at lw_m5 91 rfl) rfl
theorem q1090 : (Jvm.Cond.instanceMethod ({ cls := "VaryStore", name := "again", desc := "(I)Z" } : Jvm.MethodName)) ∈ lw_all := lw_g (lw_at lw_m5 99 rfl) rfl
theorem q1091 : (Jvm.Cond.selects "VaryStore" ({ cls := "VaryStore", name := "again", desc := "(I)Z" } : Jvm.MethodName) ({ cls := "VaryStore", name := "again", desc := "(I)Z" } : Jvm.MethodName)) ∈ lw_all := lw_g (lw_at lw_m5 100 rfl) rfl
theorem q1092 : (Jvm.Cond.code ({ cls := "VaryStore", name := "again", desc := "(I)Z" } : Jvm.MethodName) prog_1_method_19_code (5 : Nat) (Option.some Jvm.ClassFile.FieldType.boolean)) ∈ lw_all := lw_g (lw_at lw_m5 101 rfl) rfl
theorem q1097 : (Jvm.Cond.instanceMethod ({ cls := "VaryStore", name := "pass", desc := "(I)I" } : Jvm.MethodName)) ∈ lw_all := lw_g (lw_at lw_m5 106 rfl) rfl
theorem q1098 : (Jvm.Cond.selects "VaryStore" ({ cls := "VaryStore", name := "pass", desc := "(I)I" } : Jvm.MethodName) ({ cls := "VaryStore", name := "pass", desc := "(I)I" } : Jvm.MethodName)) ∈ lw_all := lw_g (lw_at lw_m5 107 rfl) rfl
theorem q1099 : (Jvm.Cond.code ({ cls := "VaryStore", name := "pass", desc := "(I)I" } : Jvm.MethodName) prog_1_method_22_code (2 : Nat) (Option.some Jvm.ClassFile.FieldType.int)) ∈ lw_all := lw_g (lw_at lw_m5 108 rfl) rfl
theorem q1100 : (Jvm.Cond.constant "VaryStore" (251 : Nat) (100000 : Int32)) ∈ lw_all := lw_g (lw_at lw_m5 109 rfl) rfl
theorem q1101 : (Jvm.Cond.constant "VaryStore" (252 : Nat) (1000000000 : Int32)) ∈ lw_all := lw_g (lw_at lw_m5 110 rfl) rfl
theorem q1102 : (Jvm.Cond.stringRef "VaryStore" (253 : Nat) "no such time") ∈ lw_tbl := lw_at lw_m5 111 rfl
theorem q1108 : (Jvm.Cond.instanceMethod ({ cls := "VaryStore", name := "thing", desc := "(II)I" } : Jvm.MethodName)) ∈ lw_all := lw_g (lw_at lw_m5 117 rfl) rfl
theorem q1109 : (Jvm.Cond.selects "VaryStore" ({ cls := "VaryStore", name := "thing", desc := "(II)I" } : Jvm.MethodName) ({ cls := "VaryStore", name := "thing", desc := "(II)I" } : Jvm.MethodName)) ∈ lw_all := lw_g (lw_at lw_m5 118 rfl) rfl
theorem q1110 : (Jvm.Cond.code ({ cls := "VaryStore", name := "thing", desc := "(II)I" } : Jvm.MethodName) prog_1_method_24_code (5 : Nat) (Option.some Jvm.ClassFile.FieldType.int)) ∈ lw_all := lw_g (lw_at lw_m5 119 rfl) rfl
theorem q1111 : (Jvm.Cond.classLink "VaryStore" (255 : Nat) "java/util/NoSuchElementException") ∈ lw_all := lw_g (lw_at lw_m5 120 rfl) rfl
theorem q1112 : (Jvm.Cond.stringRef "VaryStore" (257 : Nat) "no such thing") ∈ lw_tbl := lw_at lw_m5 121 rfl
theorem q1113 : (Jvm.Cond.methodLink "VaryStore" (259 : Nat) ({ cls := "java/util/NoSuchElementException", name := "<init>", desc := "(Ljava/lang/String;)V" } : Jvm.MethodName)) ∈ lw_all := lw_g (lw_at lw_m5 122 rfl) rfl
theorem q1117 : (Jvm.Cond.methodLink "VaryStore" (260 : Nat) ({ cls := "VaryStore", name := "bit", desc := "(Z)I" } : Jvm.MethodName)) ∈ lw_all := lw_g (lw_at lw_m5 126 rfl) rfl
theorem q1118 : (Jvm.Cond.static ({ cls := "VaryStore", name := "bit", desc := "(Z)I" } : Jvm.MethodName)) ∈ lw_all := lw_g (lw_at lw_m5 127 rfl) rfl
theorem q1119 : (Jvm.Cond.code ({ cls := "VaryStore", name := "bit", desc := "(Z)I" } : Jvm.MethodName) prog_1_method_23_code (1 : Nat) (Option.some Jvm.ClassFile.FieldType.int)) ∈ lw_all := lw_g (lw_at lw_m5 128 rfl) rfl
theorem q1420 : (Jvm.Cond.castable "VaryStore" "java/lang/Object") ∈ lw_tbl := lw_at lw_m6 189 rfl
theorem in_X1 : ∀ w ∈ wsX10, w ∈ lw_all := lw_in wsX10 [680, 682, 684, 686, 688, 690, 692, 694] (by decide +kernel) (by decide +kernel)
/-! VaryStore$Headers -/
set_option maxRecDepth 100000
def RX2 : String := "VaryStore$Headers"
def TX2 : u_T := fun k => match k with
  | _ => ("VaryStore$Headers", "lines", "Ljava/util/ArrayList;", true)
def tyX2 : Nat → FieldType := fun k => match k with
  | _ => .object "java/util/ArrayList"
abbrev wsX20 : List Cond := u_ws RX2 TX2 1
theorem nmX2 : ∀ a, a < 1 → ∀ b, b < 1 → a ≠ b → (TX2 a).2.1 ≠ (TX2 b).2.1 := by decide +kernel
theorem tyX2_ok : ∀ k, k < 1 → parseFieldDescriptor (TX2 k).2.2.1 = some (tyX2 k) := by decide +kernel
abbrev cX2_init : ByteArray := prog_3_method_1_code
def yX2_init : MethodName := ⟨RX2, "<init>", "()V"⟩
def dkwX2_init_0 : List UInt8 := [42, 183, 0, 3, 42, 187, 0, 9, 89, 183, 0, 11, 181, 0, 12, 177]
abbrev dktX2_init_0 : List UInt8 := dkwX2_init_0 ++ []
theorem dksX2_init_0 : cX2_init.data.toList.drop 0 = dktX2_init_0 := by decide +kernel
theorem dX2_init_0 : decode cX2_init 0 = .ok (.aload_n 0, 1) := dk_42 (dk_at dksX2_init_0 0 rfl rfl)
theorem dX2_init_1 : decode cX2_init 1 = .ok (.invokespecial 3, 3) := dk_183 0 3 (dk_at dksX2_init_0 1 rfl rfl)
theorem dX2_init_4 : decode cX2_init 4 = .ok (.aload_n 0, 1) := dk_42 (dk_at dksX2_init_0 4 rfl rfl)
theorem dX2_init_5 : decode cX2_init 5 = .ok (.new 9, 3) := dk_187 0 9 (dk_at dksX2_init_0 5 rfl rfl)
theorem dX2_init_8 : decode cX2_init 8 = .ok (.dup, 1) := dk_89 (dk_at dksX2_init_0 8 rfl rfl)
theorem dX2_init_9 : decode cX2_init 9 = .ok (.invokespecial 11, 3) := dk_183 0 11 (dk_at dksX2_init_0 9 rfl rfl)
theorem dX2_init_12 : decode cX2_init 12 = .ok (.putfield 12, 3) := dk_181 0 12 (dk_at dksX2_init_0 12 rfl rfl)
theorem dX2_init_15 : decode cX2_init 15 = .ok (.return_, 1) := dk_177 (dk_at dksX2_init_0 15 rfl rfl)
abbrev cX2_add : ByteArray := prog_3_method_2_code
def yX2_add : MethodName := ⟨RX2, "add", "(Ljava/lang/String;Ljava/lang/String;)V"⟩
def dkwX2_add_1 : List UInt8 := [182, 0, 27, 87, 167, 0, 8, 45, 44, 182, 0, 31, 177]
abbrev dktX2_add_1 : List UInt8 := dkwX2_add_1 ++ []
def dkwX2_add_0 : List UInt8 := [42, 43, 182, 0, 18, 78, 45, 199, 0, 23, 42, 180, 0, 12, 187, 0, 22, 89, 43, 44, 183, 0, 24]
abbrev dktX2_add_0 : List UInt8 := dkwX2_add_0 ++ dktX2_add_1
theorem dksX2_add_0 : cX2_add.data.toList.drop 0 = dktX2_add_0 := by decide +kernel
theorem dksX2_add_1 : cX2_add.data.toList.drop 23 = dktX2_add_1 := dk_seg dksX2_add_0 23 rfl rfl
theorem dX2_add_0 : decode cX2_add 0 = .ok (.aload_n 0, 1) := dk_42 (dk_at dksX2_add_0 0 rfl rfl)
theorem dX2_add_1 : decode cX2_add 1 = .ok (.aload_n 1, 1) := dk_43 (dk_at dksX2_add_0 1 rfl rfl)
theorem dX2_add_2 : decode cX2_add 2 = .ok (.invokevirtual 18, 3) := dk_182 0 18 (dk_at dksX2_add_0 2 rfl rfl)
theorem dX2_add_5 : decode cX2_add 5 = .ok (.astore_n 3, 1) := dk_78 (dk_at dksX2_add_0 5 rfl rfl)
theorem dX2_add_6 : decode cX2_add 6 = .ok (.aload_n 3, 1) := dk_45 (dk_at dksX2_add_0 6 rfl rfl)
theorem dX2_add_7 : decode cX2_add 7 = .ok (.ifnonnull 23, 3) := dk_199 0 23 (dk_at dksX2_add_0 7 rfl rfl)
theorem dX2_add_10 : decode cX2_add 10 = .ok (.aload_n 0, 1) := dk_42 (dk_at dksX2_add_0 10 rfl rfl)
theorem dX2_add_11 : decode cX2_add 11 = .ok (.getfield 12, 3) := dk_180 0 12 (dk_at dksX2_add_0 11 rfl rfl)
theorem dX2_add_14 : decode cX2_add 14 = .ok (.new 22, 3) := dk_187 0 22 (dk_at dksX2_add_0 14 rfl rfl)
theorem dX2_add_17 : decode cX2_add 17 = .ok (.dup, 1) := dk_89 (dk_at dksX2_add_0 17 rfl rfl)
theorem dX2_add_18 : decode cX2_add 18 = .ok (.aload_n 1, 1) := dk_43 (dk_at dksX2_add_0 18 rfl rfl)
theorem dX2_add_19 : decode cX2_add 19 = .ok (.aload_n 2, 1) := dk_44 (dk_at dksX2_add_0 19 rfl rfl)
theorem dX2_add_20 : decode cX2_add 20 = .ok (.invokespecial 24, 3) := dk_183 0 24 (dk_at dksX2_add_0 20 rfl rfl)
theorem dX2_add_23 : decode cX2_add 23 = .ok (.invokevirtual 27, 3) := dk_182 0 27 (dk_at dksX2_add_1 0 rfl rfl)
theorem dX2_add_26 : decode cX2_add 26 = .ok (.pop, 1) := dk_87 (dk_at dksX2_add_1 3 rfl rfl)
theorem dX2_add_27 : decode cX2_add 27 = .ok (.goto 8, 3) := dk_167 0 8 (dk_at dksX2_add_1 4 rfl rfl)
theorem dX2_add_30 : decode cX2_add 30 = .ok (.aload_n 3, 1) := dk_45 (dk_at dksX2_add_1 7 rfl rfl)
theorem dX2_add_31 : decode cX2_add 31 = .ok (.aload_n 2, 1) := dk_44 (dk_at dksX2_add_1 8 rfl rfl)
theorem dX2_add_32 : decode cX2_add 32 = .ok (.invokevirtual 31, 3) := dk_182 0 31 (dk_at dksX2_add_1 9 rfl rfl)
theorem dX2_add_35 : decode cX2_add 35 = .ok (.return_, 1) := dk_177 (dk_at dksX2_add_1 12 rfl rfl)
abbrev cX2_line : ByteArray := prog_3_method_3_code
def yX2_line : MethodName := ⟨RX2, "line", "(Ljava/lang/String;)LVaryStore$Line;"⟩
def dkwX2_line_2 : List UInt8 := [132, 2, 1, 167, 255, 209, 1, 176]
abbrev dktX2_line_2 : List UInt8 := dkwX2_line_2 ++ []
def dkwX2_line_1 : List UInt8 := [180, 0, 43, 43, 182, 0, 47, 153, 0, 15, 42, 180, 0, 12, 28, 182, 0, 39, 192, 0, 22, 176]
abbrev dktX2_line_1 : List UInt8 := dkwX2_line_1 ++ dktX2_line_2
def dkwX2_line_0 : List UInt8 := [3, 61, 28, 42, 180, 0, 12, 182, 0, 35, 162, 0, 42, 42, 180, 0, 12, 28, 182, 0, 39, 192, 0, 22]
abbrev dktX2_line_0 : List UInt8 := dkwX2_line_0 ++ dktX2_line_1
theorem dksX2_line_0 : cX2_line.data.toList.drop 0 = dktX2_line_0 := by decide +kernel
theorem dksX2_line_1 : cX2_line.data.toList.drop 24 = dktX2_line_1 := dk_seg dksX2_line_0 24 rfl rfl
theorem dksX2_line_2 : cX2_line.data.toList.drop 46 = dktX2_line_2 := dk_seg dksX2_line_1 22 rfl rfl
theorem dX2_line_0 : decode cX2_line 0 = .ok (.iconst 0, 1) := dk_3 (dk_at dksX2_line_0 0 rfl rfl)
theorem dX2_line_1 : decode cX2_line 1 = .ok (.istore_n 2, 1) := dk_61 (dk_at dksX2_line_0 1 rfl rfl)
theorem dX2_line_2 : decode cX2_line 2 = .ok (.iload_n 2, 1) := dk_28 (dk_at dksX2_line_0 2 rfl rfl)
theorem dX2_line_3 : decode cX2_line 3 = .ok (.aload_n 0, 1) := dk_42 (dk_at dksX2_line_0 3 rfl rfl)
theorem dX2_line_4 : decode cX2_line 4 = .ok (.getfield 12, 3) := dk_180 0 12 (dk_at dksX2_line_0 4 rfl rfl)
theorem dX2_line_7 : decode cX2_line 7 = .ok (.invokevirtual 35, 3) := dk_182 0 35 (dk_at dksX2_line_0 7 rfl rfl)
theorem dX2_line_10 : decode cX2_line 10 = .ok (.if_icmp .ge 42, 3) := dk_162 0 42 (dk_at dksX2_line_0 10 rfl rfl)
theorem dX2_line_13 : decode cX2_line 13 = .ok (.aload_n 0, 1) := dk_42 (dk_at dksX2_line_0 13 rfl rfl)
theorem dX2_line_14 : decode cX2_line 14 = .ok (.getfield 12, 3) := dk_180 0 12 (dk_at dksX2_line_0 14 rfl rfl)
theorem dX2_line_17 : decode cX2_line 17 = .ok (.iload_n 2, 1) := dk_28 (dk_at dksX2_line_0 17 rfl rfl)
theorem dX2_line_18 : decode cX2_line 18 = .ok (.invokevirtual 39, 3) := dk_182 0 39 (dk_at dksX2_line_0 18 rfl rfl)
theorem dX2_line_21 : decode cX2_line 21 = .ok (.checkcast 22, 3) := dk_192 0 22 (dk_at dksX2_line_0 21 rfl rfl)
theorem dX2_line_24 : decode cX2_line 24 = .ok (.getfield 43, 3) := dk_180 0 43 (dk_at dksX2_line_1 0 rfl rfl)
theorem dX2_line_27 : decode cX2_line 27 = .ok (.aload_n 1, 1) := dk_43 (dk_at dksX2_line_1 3 rfl rfl)
theorem dX2_line_28 : decode cX2_line 28 = .ok (.invokevirtual 47, 3) := dk_182 0 47 (dk_at dksX2_line_1 4 rfl rfl)
theorem dX2_line_31 : decode cX2_line 31 = .ok (.ifCond .eq 15, 3) := dk_153 0 15 (dk_at dksX2_line_1 7 rfl rfl)
theorem dX2_line_34 : decode cX2_line 34 = .ok (.aload_n 0, 1) := dk_42 (dk_at dksX2_line_1 10 rfl rfl)
theorem dX2_line_35 : decode cX2_line 35 = .ok (.getfield 12, 3) := dk_180 0 12 (dk_at dksX2_line_1 11 rfl rfl)
theorem dX2_line_38 : decode cX2_line 38 = .ok (.iload_n 2, 1) := dk_28 (dk_at dksX2_line_1 14 rfl rfl)
theorem dX2_line_39 : decode cX2_line 39 = .ok (.invokevirtual 39, 3) := dk_182 0 39 (dk_at dksX2_line_1 15 rfl rfl)
theorem dX2_line_42 : decode cX2_line 42 = .ok (.checkcast 22, 3) := dk_192 0 22 (dk_at dksX2_line_1 18 rfl rfl)
theorem dX2_line_45 : decode cX2_line 45 = .ok (.areturn, 1) := dk_176 (dk_at dksX2_line_1 21 rfl rfl)
theorem dX2_line_46 : decode cX2_line 46 = .ok (.iinc 2 1, 3) := dk_132 2 1 (dk_at dksX2_line_2 0 rfl rfl)
theorem dX2_line_49 : decode cX2_line 49 = .ok (.goto (-47), 3) := dk_167 255 209 (dk_at dksX2_line_2 3 rfl rfl)
theorem dX2_line_52 : decode cX2_line 52 = .ok (.aconst_null, 1) := dk_1 (dk_at dksX2_line_2 6 rfl rfl)
theorem dX2_line_53 : decode cX2_line 53 = .ok (.areturn, 1) := dk_176 (dk_at dksX2_line_2 7 rfl rfl)
abbrev cX2_value : ByteArray := prog_3_method_5_code
def yX2_value : MethodName := ⟨RX2, "value", "(Ljava/lang/String;)Ljava/lang/String;"⟩
def dkwX2_value_0 : List UInt8 := [42, 43, 182, 0, 18, 77, 44, 199, 0, 7, 1, 167, 0, 7, 44, 180, 0, 52, 176]
abbrev dktX2_value_0 : List UInt8 := dkwX2_value_0 ++ []
theorem dksX2_value_0 : cX2_value.data.toList.drop 0 = dktX2_value_0 := by decide +kernel
theorem dX2_value_0 : decode cX2_value 0 = .ok (.aload_n 0, 1) := dk_42 (dk_at dksX2_value_0 0 rfl rfl)
theorem dX2_value_1 : decode cX2_value 1 = .ok (.aload_n 1, 1) := dk_43 (dk_at dksX2_value_0 1 rfl rfl)
theorem dX2_value_2 : decode cX2_value 2 = .ok (.invokevirtual 18, 3) := dk_182 0 18 (dk_at dksX2_value_0 2 rfl rfl)
theorem dX2_value_5 : decode cX2_value 5 = .ok (.astore_n 2, 1) := dk_77 (dk_at dksX2_value_0 5 rfl rfl)
theorem dX2_value_6 : decode cX2_value 6 = .ok (.aload_n 2, 1) := dk_44 (dk_at dksX2_value_0 6 rfl rfl)
theorem dX2_value_7 : decode cX2_value 7 = .ok (.ifnonnull 7, 3) := dk_199 0 7 (dk_at dksX2_value_0 7 rfl rfl)
theorem dX2_value_10 : decode cX2_value 10 = .ok (.aconst_null, 1) := dk_1 (dk_at dksX2_value_0 10 rfl rfl)
theorem dX2_value_11 : decode cX2_value 11 = .ok (.goto 7, 3) := dk_167 0 7 (dk_at dksX2_value_0 11 rfl rfl)
theorem dX2_value_14 : decode cX2_value 14 = .ok (.aload_n 2, 1) := dk_44 (dk_at dksX2_value_0 14 rfl rfl)
theorem dX2_value_15 : decode cX2_value 15 = .ok (.getfield 52, 3) := dk_180 0 52 (dk_at dksX2_value_0 15 rfl rfl)
theorem dX2_value_18 : decode cX2_value 18 = .ok (.areturn, 1) := dk_176 (dk_at dksX2_value_0 18 rfl rfl)
abbrev cX2_listed : ByteArray := prog_3_method_6_code
def yX2_listed : MethodName := ⟨RX2, "listed", "(Ljava/lang/String;)Ljava/lang/String;"⟩
def dkwX2_listed_0 : List UInt8 := [42, 43, 182, 0, 18, 77, 44, 199, 0, 8, 18, 55, 167, 0, 7, 44, 182, 0, 57, 176]
abbrev dktX2_listed_0 : List UInt8 := dkwX2_listed_0 ++ []
theorem dksX2_listed_0 : cX2_listed.data.toList.drop 0 = dktX2_listed_0 := by decide +kernel
theorem dX2_listed_0 : decode cX2_listed 0 = .ok (.aload_n 0, 1) := dk_42 (dk_at dksX2_listed_0 0 rfl rfl)
theorem dX2_listed_1 : decode cX2_listed 1 = .ok (.aload_n 1, 1) := dk_43 (dk_at dksX2_listed_0 1 rfl rfl)
theorem dX2_listed_2 : decode cX2_listed 2 = .ok (.invokevirtual 18, 3) := dk_182 0 18 (dk_at dksX2_listed_0 2 rfl rfl)
theorem dX2_listed_5 : decode cX2_listed 5 = .ok (.astore_n 2, 1) := dk_77 (dk_at dksX2_listed_0 5 rfl rfl)
theorem dX2_listed_6 : decode cX2_listed 6 = .ok (.aload_n 2, 1) := dk_44 (dk_at dksX2_listed_0 6 rfl rfl)
theorem dX2_listed_7 : decode cX2_listed 7 = .ok (.ifnonnull 8, 3) := dk_199 0 8 (dk_at dksX2_listed_0 7 rfl rfl)
theorem dX2_listed_10 : decode cX2_listed 10 = .ok (.ldc 55, 2) := dk_18 55 (dk_at dksX2_listed_0 10 rfl rfl)
theorem dX2_listed_12 : decode cX2_listed 12 = .ok (.goto 7, 3) := dk_167 0 7 (dk_at dksX2_listed_0 12 rfl rfl)
theorem dX2_listed_15 : decode cX2_listed 15 = .ok (.aload_n 2, 1) := dk_44 (dk_at dksX2_listed_0 15 rfl rfl)
theorem dX2_listed_16 : decode cX2_listed 16 = .ok (.invokevirtual 57, 3) := dk_182 0 57 (dk_at dksX2_listed_0 16 rfl rfl)
theorem dX2_listed_19 : decode cX2_listed 19 = .ok (.areturn, 1) := dk_176 (dk_at dksX2_listed_0 19 rfl rfl)
abbrev cX2_has : ByteArray := prog_3_method_4_code
def yX2_has : MethodName := ⟨RX2, "has", "(Ljava/lang/String;)Z"⟩
def dkwX2_has_0 : List UInt8 := [42, 43, 182, 0, 18, 198, 0, 7, 4, 167, 0, 4, 3, 172]
abbrev dktX2_has_0 : List UInt8 := dkwX2_has_0 ++ []
theorem dksX2_has_0 : cX2_has.data.toList.drop 0 = dktX2_has_0 := by decide +kernel
theorem dX2_has_0 : decode cX2_has 0 = .ok (.aload_n 0, 1) := dk_42 (dk_at dksX2_has_0 0 rfl rfl)
theorem dX2_has_1 : decode cX2_has 1 = .ok (.aload_n 1, 1) := dk_43 (dk_at dksX2_has_0 1 rfl rfl)
theorem dX2_has_2 : decode cX2_has 2 = .ok (.invokevirtual 18, 3) := dk_182 0 18 (dk_at dksX2_has_0 2 rfl rfl)
theorem dX2_has_5 : decode cX2_has 5 = .ok (.ifnull 7, 3) := dk_198 0 7 (dk_at dksX2_has_0 5 rfl rfl)
theorem dX2_has_8 : decode cX2_has 8 = .ok (.iconst 1, 1) := dk_4 (dk_at dksX2_has_0 8 rfl rfl)
theorem dX2_has_9 : decode cX2_has 9 = .ok (.goto 4, 3) := dk_167 0 4 (dk_at dksX2_has_0 9 rfl rfl)
theorem dX2_has_12 : decode cX2_has 12 = .ok (.iconst 0, 1) := dk_3 (dk_at dksX2_has_0 12 rfl rfl)
theorem dX2_has_13 : decode cX2_has 13 = .ok (.ireturn, 1) := dk_172 (dk_at dksX2_has_0 13 rfl rfl)
abbrev cX2_seconds : ByteArray := prog_3_method_7_code
def yX2_seconds : MethodName := ⟨RX2, "seconds", "(Ljava/lang/String;)I"⟩
def dkwX2_seconds_0 : List UInt8 := [42, 43, 182, 0, 61, 153, 0, 14, 42, 43, 182, 0, 65, 184, 0, 68, 167, 0, 4, 2, 172]
abbrev dktX2_seconds_0 : List UInt8 := dkwX2_seconds_0 ++ []
theorem dksX2_seconds_0 : cX2_seconds.data.toList.drop 0 = dktX2_seconds_0 := by decide +kernel
theorem dX2_seconds_0 : decode cX2_seconds 0 = .ok (.aload_n 0, 1) := dk_42 (dk_at dksX2_seconds_0 0 rfl rfl)
theorem dX2_seconds_1 : decode cX2_seconds 1 = .ok (.aload_n 1, 1) := dk_43 (dk_at dksX2_seconds_0 1 rfl rfl)
theorem dX2_seconds_2 : decode cX2_seconds 2 = .ok (.invokevirtual 61, 3) := dk_182 0 61 (dk_at dksX2_seconds_0 2 rfl rfl)
theorem dX2_seconds_5 : decode cX2_seconds 5 = .ok (.ifCond .eq 14, 3) := dk_153 0 14 (dk_at dksX2_seconds_0 5 rfl rfl)
theorem dX2_seconds_8 : decode cX2_seconds 8 = .ok (.aload_n 0, 1) := dk_42 (dk_at dksX2_seconds_0 8 rfl rfl)
theorem dX2_seconds_9 : decode cX2_seconds 9 = .ok (.aload_n 1, 1) := dk_43 (dk_at dksX2_seconds_0 9 rfl rfl)
theorem dX2_seconds_10 : decode cX2_seconds 10 = .ok (.invokevirtual 65, 3) := dk_182 0 65 (dk_at dksX2_seconds_0 10 rfl rfl)
theorem dX2_seconds_13 : decode cX2_seconds 13 = .ok (.invokestatic 68, 3) := dk_184 0 68 (dk_at dksX2_seconds_0 13 rfl rfl)
theorem dX2_seconds_16 : decode cX2_seconds 16 = .ok (.goto 4, 3) := dk_167 0 4 (dk_at dksX2_seconds_0 16 rfl rfl)
theorem dX2_seconds_19 : decode cX2_seconds 19 = .ok (.iconst (-1), 1) := dk_2 (dk_at dksX2_seconds_0 19 rfl rfl)
theorem dX2_seconds_20 : decode cX2_seconds 20 = .ok (.ireturn, 1) := dk_172 (dk_at dksX2_seconds_0 20 rfl rfl)
theorem q36 : (Jvm.Cond.initialized "VaryStore$Headers") ∈ lw_all := lw_g (lw_at lw_m1 5 rfl) rfl
theorem q103 : (Jvm.Cond.instantiable "VaryStore$Headers" (1 : Nat)) ∈ lw_all := lw_g (lw_at lw_m1 72 rfl) rfl
theorem q105 : (Jvm.Cond.instanceMethod ({ cls := "VaryStore$Headers", name := "<init>", desc := "()V" } : Jvm.MethodName)) ∈ lw_all := lw_g (lw_at lw_m1 74 rfl) rfl
theorem q106 : (Jvm.Cond.code ({ cls := "VaryStore$Headers", name := "<init>", desc := "()V" } : Jvm.MethodName) prog_3_method_1_code (1 : Nat) (Option.none : Option Jvm.ClassFile.FieldType)) ∈ lw_all := lw_g (lw_at lw_m1 75 rfl) rfl
theorem q107 : (Jvm.Cond.methodLink "VaryStore$Headers" (3 : Nat) ({ cls := "java/lang/Object", name := "<init>", desc := "()V" } : Jvm.MethodName)) ∈ lw_all := lw_g (lw_at lw_m1 76 rfl) rfl
theorem q108 : (Jvm.Cond.classLink "VaryStore$Headers" (9 : Nat) "java/util/ArrayList") ∈ lw_all := lw_g (lw_at lw_m1 77 rfl) rfl
theorem q109 : (Jvm.Cond.methodLink "VaryStore$Headers" (11 : Nat) ({ cls := "java/util/ArrayList", name := "<init>", desc := "()V" } : Jvm.MethodName)) ∈ lw_all := lw_g (lw_at lw_m1 78 rfl) rfl
theorem q110 : (Jvm.Cond.fieldLink "VaryStore$Headers" (12 : Nat) "VaryStore$Headers" "lines" "Ljava/util/ArrayList;") ∈ lw_all := lw_g (lw_at lw_m1 79 rfl) rfl
theorem q111 : (Jvm.Cond.laysFinal "VaryStore$Headers" "VaryStore$Headers" "lines" "Ljava/util/ArrayList;") ∈ lw_all := lw_g (lw_at lw_m1 80 rfl) rfl
theorem q112 : (Jvm.Cond.soleField "VaryStore$Headers" "lines") ∈ lw_all := lw_g (lw_at lw_m1 81 rfl) rfl
theorem q113 : (Jvm.Cond.superclass "VaryStore$Headers" "java/lang/Object") ∈ lw_all := lw_g (lw_at lw_m1 82 rfl) rfl
theorem q523 : (Jvm.Cond.selects "VaryStore$Headers" ({ cls := "java/lang/Object", name := "getClass", desc := "()Ljava/lang/Class;" } : Jvm.MethodName) ({ cls := "java/lang/Object", name := "getClass", desc := "()Ljava/lang/Class;" } : Jvm.MethodName)) ∈ lw_all := lw_g (lw_at lw_m3 12 rfl) rfl
theorem q744 : (Jvm.Cond.instanceMethod ({ cls := "VaryStore$Headers", name := "add", desc := "(Ljava/lang/String;Ljava/lang/String;)V" } : Jvm.MethodName)) ∈ lw_all := lw_g (lw_at lw_m3 233 rfl) rfl
theorem q745 : (Jvm.Cond.selects "VaryStore$Headers" ({ cls := "VaryStore$Headers", name := "add", desc := "(Ljava/lang/String;Ljava/lang/String;)V" } : Jvm.MethodName) ({ cls := "VaryStore$Headers", name := "add", desc := "(Ljava/lang/String;Ljava/lang/String;)V" } : Jvm.MethodName)) ∈ lw_all := lw_g (lw_at lw_m3 234 rfl) rfl
theorem q746 : (Jvm.Cond.code ({ cls := "VaryStore$Headers", name := "add", desc := "(Ljava/lang/String;Ljava/lang/String;)V" } : Jvm.MethodName) prog_3_method_2_code (4 : Nat) (Option.none : Option Jvm.ClassFile.FieldType)) ∈ lw_all := lw_g (lw_at lw_m3 235 rfl) rfl
theorem q747 : (Jvm.Cond.methodLink "VaryStore$Headers" (18 : Nat) ({ cls := "VaryStore$Headers", name := "line", desc := "(Ljava/lang/String;)LVaryStore$Line;" } : Jvm.MethodName)) ∈ lw_all := lw_g (lw_at lw_m3 236 rfl) rfl
theorem q748 : (Jvm.Cond.privateMethod ({ cls := "VaryStore$Headers", name := "line", desc := "(Ljava/lang/String;)LVaryStore$Line;" } : Jvm.MethodName)) ∈ lw_tbl := lw_at lw_m3 237 rfl
theorem q749 : (Jvm.Cond.instanceMethod ({ cls := "VaryStore$Headers", name := "line", desc := "(Ljava/lang/String;)LVaryStore$Line;" } : Jvm.MethodName)) ∈ lw_all := lw_g (lw_at lw_m3 238 rfl) rfl
theorem q750 : (Jvm.Cond.code ({ cls := "VaryStore$Headers", name := "line", desc := "(Ljava/lang/String;)LVaryStore$Line;" } : Jvm.MethodName) prog_3_method_3_code (3 : Nat) (Option.some (Jvm.ClassFile.FieldType.object "VaryStore$Line"))) ∈ lw_all := lw_g (lw_at lw_m3 239 rfl) rfl
theorem q751 : (Jvm.Cond.methodLink "VaryStore$Headers" (35 : Nat) ({ cls := "java/util/ArrayList", name := "size", desc := "()I" } : Jvm.MethodName)) ∈ lw_all := lw_g (lw_at lw_m4 0 rfl) rfl
theorem q752 : (Jvm.Cond.methodLink "VaryStore$Headers" (39 : Nat) ({ cls := "java/util/ArrayList", name := "get", desc := "(I)Ljava/lang/Object;" } : Jvm.MethodName)) ∈ lw_all := lw_g (lw_at lw_m4 1 rfl) rfl
theorem q753 : (Jvm.Cond.classLink "VaryStore$Headers" (22 : Nat) "VaryStore$Line") ∈ lw_all := lw_g (lw_at lw_m4 2 rfl) rfl
theorem q754 : (Jvm.Cond.methodLink "VaryStore$Headers" (47 : Nat) ({ cls := "java/lang/String", name := "equals", desc := "(Ljava/lang/Object;)Z" } : Jvm.MethodName)) ∈ lw_all := lw_g (lw_at lw_m4 3 rfl) rfl
theorem q756 : (Jvm.Cond.methodLink "VaryStore$Headers" (24 : Nat) ({ cls := "VaryStore$Line", name := "<init>", desc := "(Ljava/lang/String;Ljava/lang/String;)V" } : Jvm.MethodName)) ∈ lw_all := lw_g (lw_at lw_m4 5 rfl) rfl
theorem q761 : (Jvm.Cond.fieldLinkNest "VaryStore$Headers" (43 : Nat) "VaryStore$Line" "name" "Ljava/lang/String;" "VaryStore") ∈ lw_tbl := lw_at lw_m4 10 rfl
theorem q763 : (Jvm.Cond.fieldLinkNest "VaryStore$Headers" (52 : Nat) "VaryStore$Line" "value" "Ljava/lang/String;" "VaryStore") ∈ lw_tbl := lw_at lw_m4 12 rfl
theorem q772 : (Jvm.Cond.methodLink "VaryStore$Headers" (27 : Nat) ({ cls := "java/util/ArrayList", name := "add", desc := "(Ljava/lang/Object;)Z" } : Jvm.MethodName)) ∈ lw_all := lw_g (lw_at lw_m4 21 rfl) rfl
theorem q773 : (Jvm.Cond.methodLink "VaryStore$Headers" (31 : Nat) ({ cls := "VaryStore$Line", name := "more", desc := "(Ljava/lang/String;)V" } : Jvm.MethodName)) ∈ lw_all := lw_g (lw_at lw_m4 22 rfl) rfl
theorem q797 : (Jvm.Cond.instanceMethod ({ cls := "VaryStore$Headers", name := "value", desc := "(Ljava/lang/String;)Ljava/lang/String;" } : Jvm.MethodName)) ∈ lw_all := lw_g (lw_at lw_m4 46 rfl) rfl
theorem q798 : (Jvm.Cond.selects "VaryStore$Headers" ({ cls := "VaryStore$Headers", name := "value", desc := "(Ljava/lang/String;)Ljava/lang/String;" } : Jvm.MethodName) ({ cls := "VaryStore$Headers", name := "value", desc := "(Ljava/lang/String;)Ljava/lang/String;" } : Jvm.MethodName)) ∈ lw_all := lw_g (lw_at lw_m4 47 rfl) rfl
theorem q799 : (Jvm.Cond.code ({ cls := "VaryStore$Headers", name := "value", desc := "(Ljava/lang/String;)Ljava/lang/String;" } : Jvm.MethodName) prog_3_method_5_code (3 : Nat) (Option.some (Jvm.ClassFile.FieldType.object "java/lang/String"))) ∈ lw_all := lw_g (lw_at lw_m4 48 rfl) rfl
theorem q810 : (Jvm.Cond.instanceMethod ({ cls := "VaryStore$Headers", name := "listed", desc := "(Ljava/lang/String;)Ljava/lang/String;" } : Jvm.MethodName)) ∈ lw_all := lw_g (lw_at lw_m4 59 rfl) rfl
theorem q811 : (Jvm.Cond.selects "VaryStore$Headers" ({ cls := "VaryStore$Headers", name := "listed", desc := "(Ljava/lang/String;)Ljava/lang/String;" } : Jvm.MethodName) ({ cls := "VaryStore$Headers", name := "listed", desc := "(Ljava/lang/String;)Ljava/lang/String;" } : Jvm.MethodName)) ∈ lw_all := lw_g (lw_at lw_m4 60 rfl) rfl
theorem q812 : (Jvm.Cond.code ({ cls := "VaryStore$Headers", name := "listed", desc := "(Ljava/lang/String;)Ljava/lang/String;" } : Jvm.MethodName) prog_3_method_6_code (3 : Nat) (Option.some (Jvm.ClassFile.FieldType.object "java/lang/String"))) ∈ lw_all := lw_g (lw_at lw_m4 61 rfl) rfl
theorem q813 : (Jvm.Cond.stringRef "VaryStore$Headers" (55 : Nat) " ") ∈ lw_tbl := lw_at lw_m4 62 rfl
theorem q814 : (Jvm.Cond.methodLink "VaryStore$Headers" (57 : Nat) ({ cls := "VaryStore$Line", name := "listed", desc := "()Ljava/lang/String;" } : Jvm.MethodName)) ∈ lw_all := lw_g (lw_at lw_m4 63 rfl) rfl
theorem q877 : (Jvm.Cond.instanceMethod ({ cls := "VaryStore$Headers", name := "has", desc := "(Ljava/lang/String;)Z" } : Jvm.MethodName)) ∈ lw_all := lw_g (lw_at lw_m4 126 rfl) rfl
theorem q878 : (Jvm.Cond.selects "VaryStore$Headers" ({ cls := "VaryStore$Headers", name := "has", desc := "(Ljava/lang/String;)Z" } : Jvm.MethodName) ({ cls := "VaryStore$Headers", name := "has", desc := "(Ljava/lang/String;)Z" } : Jvm.MethodName)) ∈ lw_all := lw_g (lw_at lw_m4 127 rfl) rfl
theorem q879 : (Jvm.Cond.code ({ cls := "VaryStore$Headers", name := "has", desc := "(Ljava/lang/String;)Z" } : Jvm.MethodName) prog_3_method_4_code (2 : Nat) (Option.some Jvm.ClassFile.FieldType.boolean)) ∈ lw_all := lw_g (lw_at lw_m4 128 rfl) rfl
theorem q934 : (Jvm.Cond.instanceMethod ({ cls := "VaryStore$Headers", name := "seconds", desc := "(Ljava/lang/String;)I" } : Jvm.MethodName)) ∈ lw_all := lw_g (lw_at lw_m4 183 rfl) rfl
theorem q935 : (Jvm.Cond.selects "VaryStore$Headers" ({ cls := "VaryStore$Headers", name := "seconds", desc := "(Ljava/lang/String;)I" } : Jvm.MethodName) ({ cls := "VaryStore$Headers", name := "seconds", desc := "(Ljava/lang/String;)I" } : Jvm.MethodName)) ∈ lw_all := lw_g (lw_at lw_m4 184 rfl) rfl
theorem q936 : (Jvm.Cond.code ({ cls := "VaryStore$Headers", name := "seconds", desc := "(Ljava/lang/String;)I" } : Jvm.MethodName) prog_3_method_7_code (2 : Nat) (Option.some Jvm.ClassFile.FieldType.int)) ∈ lw_all := lw_g (lw_at lw_m4 185 rfl) rfl
theorem q937 : (Jvm.Cond.methodLink "VaryStore$Headers" (61 : Nat) ({ cls := "VaryStore$Headers", name := "has", desc := "(Ljava/lang/String;)Z" } : Jvm.MethodName)) ∈ lw_all := lw_g (lw_at lw_m4 186 rfl) rfl
theorem q938 : (Jvm.Cond.methodLink "VaryStore$Headers" (65 : Nat) ({ cls := "VaryStore$Headers", name := "value", desc := "(Ljava/lang/String;)Ljava/lang/String;" } : Jvm.MethodName)) ∈ lw_all := lw_g (lw_at lw_m4 187 rfl) rfl
theorem q939 : (Jvm.Cond.methodLinkNest "VaryStore$Headers" (68 : Nat) ({ cls := "VaryStore", name := "number", desc := "(Ljava/lang/String;)I" } : Jvm.MethodName) "VaryStore") ∈ lw_tbl := lw_at lw_m4 188 rfl
theorem q967 : (Jvm.Cond.selects "VaryStore$Headers" ({ cls := "java/lang/Object", name := "equals", desc := "(Ljava/lang/Object;)Z" } : Jvm.MethodName) ({ cls := "java/lang/Object", name := "equals", desc := "(Ljava/lang/Object;)Z" } : Jvm.MethodName)) ∈ lw_all := lw_g (lw_at lw_m4 216 rfl) rfl
theorem q1422 : (Jvm.Cond.castable "VaryStore$Headers" "java/lang/Object") ∈ lw_tbl := lw_at lw_m6 191 rfl
theorem in_X2 : ∀ w ∈ wsX20, w ∈ lw_all := lw_in wsX20 [111] (by decide +kernel) (by decide +kernel)
/-! VaryStore$Control -/
set_option maxRecDepth 100000
def RX3 : String := "VaryStore$Control"
def TX3 : u_T := fun k => match k with
  | 0 => ("VaryStore$Control", "names", "Ljava/util/ArrayList;", true)
  | _ => ("VaryStore$Control", "numbers", "Ljava/util/ArrayList;", true)
def tyX3 : Nat → FieldType := fun k => match k with
  | 0 => .object "java/util/ArrayList"
  | _ => .object "java/util/ArrayList"
abbrev wsX30 : List Cond := u_ws RX3 TX3 2
theorem nmX3 : ∀ a, a < 2 → ∀ b, b < 2 → a ≠ b → (TX3 a).2.1 ≠ (TX3 b).2.1 := by decide +kernel
theorem tyX3_ok : ∀ k, k < 2 → parseFieldDescriptor (TX3 k).2.2.1 = some (tyX3 k) := by decide +kernel
abbrev cX3_init : ByteArray := prog_2_method_1_code
def yX3_init : MethodName := ⟨RX3, "<init>", "(Ljava/lang/String;)V"⟩
def dkwX3_init_2 : List UInt8 := [162, 0, 21, 42, 44, 29, 182, 0, 33, 192, 0, 37, 182, 0, 39, 132, 3, 1, 167, 255, 233, 177]
abbrev dktX3_init_2 : List UInt8 := dkwX3_init_2 ++ []
def dkwX3_init_1 : List UInt8 := [181, 0, 18, 43, 199, 0, 4, 177, 43, 184, 0, 21, 184, 0, 25, 77, 3, 62, 29, 44, 182, 0, 29]
abbrev dktX3_init_1 : List UInt8 := dkwX3_init_1 ++ dktX3_init_2
def dkwX3_init_0 : List UInt8 := [42, 183, 0, 3, 42, 187, 0, 9, 89, 183, 0, 11, 181, 0, 12, 42, 187, 0, 9, 89, 183, 0, 11]
abbrev dktX3_init_0 : List UInt8 := dkwX3_init_0 ++ dktX3_init_1
theorem dksX3_init_0 : cX3_init.data.toList.drop 0 = dktX3_init_0 := by decide +kernel
theorem dksX3_init_1 : cX3_init.data.toList.drop 23 = dktX3_init_1 := dk_seg dksX3_init_0 23 rfl rfl
theorem dksX3_init_2 : cX3_init.data.toList.drop 46 = dktX3_init_2 := dk_seg dksX3_init_1 23 rfl rfl
theorem dX3_init_0 : decode cX3_init 0 = .ok (.aload_n 0, 1) := dk_42 (dk_at dksX3_init_0 0 rfl rfl)
theorem dX3_init_1 : decode cX3_init 1 = .ok (.invokespecial 3, 3) := dk_183 0 3 (dk_at dksX3_init_0 1 rfl rfl)
theorem dX3_init_4 : decode cX3_init 4 = .ok (.aload_n 0, 1) := dk_42 (dk_at dksX3_init_0 4 rfl rfl)
theorem dX3_init_5 : decode cX3_init 5 = .ok (.new 9, 3) := dk_187 0 9 (dk_at dksX3_init_0 5 rfl rfl)
theorem dX3_init_8 : decode cX3_init 8 = .ok (.dup, 1) := dk_89 (dk_at dksX3_init_0 8 rfl rfl)
theorem dX3_init_9 : decode cX3_init 9 = .ok (.invokespecial 11, 3) := dk_183 0 11 (dk_at dksX3_init_0 9 rfl rfl)
theorem dX3_init_12 : decode cX3_init 12 = .ok (.putfield 12, 3) := dk_181 0 12 (dk_at dksX3_init_0 12 rfl rfl)
theorem dX3_init_15 : decode cX3_init 15 = .ok (.aload_n 0, 1) := dk_42 (dk_at dksX3_init_0 15 rfl rfl)
theorem dX3_init_16 : decode cX3_init 16 = .ok (.new 9, 3) := dk_187 0 9 (dk_at dksX3_init_0 16 rfl rfl)
theorem dX3_init_19 : decode cX3_init 19 = .ok (.dup, 1) := dk_89 (dk_at dksX3_init_0 19 rfl rfl)
theorem dX3_init_20 : decode cX3_init 20 = .ok (.invokespecial 11, 3) := dk_183 0 11 (dk_at dksX3_init_0 20 rfl rfl)
theorem dX3_init_23 : decode cX3_init 23 = .ok (.putfield 18, 3) := dk_181 0 18 (dk_at dksX3_init_1 0 rfl rfl)
theorem dX3_init_26 : decode cX3_init 26 = .ok (.aload_n 1, 1) := dk_43 (dk_at dksX3_init_1 3 rfl rfl)
theorem dX3_init_27 : decode cX3_init 27 = .ok (.ifnonnull 4, 3) := dk_199 0 4 (dk_at dksX3_init_1 4 rfl rfl)
theorem dX3_init_30 : decode cX3_init 30 = .ok (.return_, 1) := dk_177 (dk_at dksX3_init_1 7 rfl rfl)
theorem dX3_init_31 : decode cX3_init 31 = .ok (.aload_n 1, 1) := dk_43 (dk_at dksX3_init_1 8 rfl rfl)
theorem dX3_init_32 : decode cX3_init 32 = .ok (.invokestatic 21, 3) := dk_184 0 21 (dk_at dksX3_init_1 9 rfl rfl)
theorem dX3_init_35 : decode cX3_init 35 = .ok (.invokestatic 25, 3) := dk_184 0 25 (dk_at dksX3_init_1 12 rfl rfl)
theorem dX3_init_38 : decode cX3_init 38 = .ok (.astore_n 2, 1) := dk_77 (dk_at dksX3_init_1 15 rfl rfl)
theorem dX3_init_39 : decode cX3_init 39 = .ok (.iconst 0, 1) := dk_3 (dk_at dksX3_init_1 16 rfl rfl)
theorem dX3_init_40 : decode cX3_init 40 = .ok (.istore_n 3, 1) := dk_62 (dk_at dksX3_init_1 17 rfl rfl)
theorem dX3_init_41 : decode cX3_init 41 = .ok (.iload_n 3, 1) := dk_29 (dk_at dksX3_init_1 18 rfl rfl)
theorem dX3_init_42 : decode cX3_init 42 = .ok (.aload_n 2, 1) := dk_44 (dk_at dksX3_init_1 19 rfl rfl)
theorem dX3_init_43 : decode cX3_init 43 = .ok (.invokevirtual 29, 3) := dk_182 0 29 (dk_at dksX3_init_1 20 rfl rfl)
theorem dX3_init_46 : decode cX3_init 46 = .ok (.if_icmp .ge 21, 3) := dk_162 0 21 (dk_at dksX3_init_2 0 rfl rfl)
theorem dX3_init_49 : decode cX3_init 49 = .ok (.aload_n 0, 1) := dk_42 (dk_at dksX3_init_2 3 rfl rfl)
theorem dX3_init_50 : decode cX3_init 50 = .ok (.aload_n 2, 1) := dk_44 (dk_at dksX3_init_2 4 rfl rfl)
theorem dX3_init_51 : decode cX3_init 51 = .ok (.iload_n 3, 1) := dk_29 (dk_at dksX3_init_2 5 rfl rfl)
theorem dX3_init_52 : decode cX3_init 52 = .ok (.invokevirtual 33, 3) := dk_182 0 33 (dk_at dksX3_init_2 6 rfl rfl)
theorem dX3_init_55 : decode cX3_init 55 = .ok (.checkcast 37, 3) := dk_192 0 37 (dk_at dksX3_init_2 9 rfl rfl)
theorem dX3_init_58 : decode cX3_init 58 = .ok (.invokevirtual 39, 3) := dk_182 0 39 (dk_at dksX3_init_2 12 rfl rfl)
theorem dX3_init_61 : decode cX3_init 61 = .ok (.iinc 3 1, 3) := dk_132 3 1 (dk_at dksX3_init_2 15 rfl rfl)
theorem dX3_init_64 : decode cX3_init 64 = .ok (.goto (-23), 3) := dk_167 255 233 (dk_at dksX3_init_2 18 rfl rfl)
theorem dX3_init_67 : decode cX3_init 67 = .ok (.return_, 1) := dk_177 (dk_at dksX3_init_2 21 rfl rfl)
abbrev cX3_add : ByteArray := prog_2_method_2_code
def yX3_add : MethodName := ⟨RX3, "add", "(Ljava/lang/String;)V"⟩
def dkwX3_add_4 : List UInt8 := [182, 0, 68, 87, 42, 180, 0, 18, 21, 4, 184, 0, 71, 182, 0, 68, 87, 177]
abbrev dktX3_add_4 : List UInt8 := dkwX3_add_4 ++ []
def dkwX3_add_3 : List UInt8 := [180, 0, 12, 21, 5, 182, 0, 65, 87, 42, 180, 0, 18, 21, 5, 182, 0, 65, 87, 42, 180, 0, 12, 45]
abbrev dktX3_add_3 : List UInt8 := dkwX3_add_3 ++ dktX3_add_4
def dkwX3_add_2 : List UInt8 := [153, 0, 9, 21, 4, 2, 160, 0, 4, 177, 42, 45, 182, 0, 62, 54, 5, 21, 5, 2, 159, 0, 23, 42]
abbrev dktX3_add_2 : List UInt8 := dkwX3_add_2 ++ dktX3_add_3
def dkwX3_add_1 : List UInt8 := [156, 0, 8, 16, 254, 167, 0, 13, 43, 28, 4, 96, 182, 0, 51, 184, 0, 54, 54, 4, 45, 184, 0, 58]
abbrev dktX3_add_1 : List UInt8 := dkwX3_add_1 ++ dktX3_add_2
def dkwX3_add_0 : List UInt8 := [43, 16, 61, 182, 0, 43, 61, 28, 156, 0, 7, 43, 167, 0, 9, 43, 3, 28, 182, 0, 47, 78, 28]
abbrev dktX3_add_0 : List UInt8 := dkwX3_add_0 ++ dktX3_add_1
theorem dksX3_add_0 : cX3_add.data.toList.drop 0 = dktX3_add_0 := by decide +kernel
theorem dksX3_add_1 : cX3_add.data.toList.drop 23 = dktX3_add_1 := dk_seg dksX3_add_0 23 rfl rfl
theorem dksX3_add_2 : cX3_add.data.toList.drop 47 = dktX3_add_2 := dk_seg dksX3_add_1 24 rfl rfl
theorem dksX3_add_3 : cX3_add.data.toList.drop 71 = dktX3_add_3 := dk_seg dksX3_add_2 24 rfl rfl
theorem dksX3_add_4 : cX3_add.data.toList.drop 95 = dktX3_add_4 := dk_seg dksX3_add_3 24 rfl rfl
theorem dX3_add_0 : decode cX3_add 0 = .ok (.aload_n 1, 1) := dk_43 (dk_at dksX3_add_0 0 rfl rfl)
theorem dX3_add_1 : decode cX3_add 1 = .ok (.bipush 61, 2) := dk_16 61 (dk_at dksX3_add_0 1 rfl rfl)
theorem dX3_add_3 : decode cX3_add 3 = .ok (.invokevirtual 43, 3) := dk_182 0 43 (dk_at dksX3_add_0 3 rfl rfl)
theorem dX3_add_6 : decode cX3_add 6 = .ok (.istore_n 2, 1) := dk_61 (dk_at dksX3_add_0 6 rfl rfl)
theorem dX3_add_7 : decode cX3_add 7 = .ok (.iload_n 2, 1) := dk_28 (dk_at dksX3_add_0 7 rfl rfl)
theorem dX3_add_8 : decode cX3_add 8 = .ok (.ifCond .ge 7, 3) := dk_156 0 7 (dk_at dksX3_add_0 8 rfl rfl)
theorem dX3_add_11 : decode cX3_add 11 = .ok (.aload_n 1, 1) := dk_43 (dk_at dksX3_add_0 11 rfl rfl)
theorem dX3_add_12 : decode cX3_add 12 = .ok (.goto 9, 3) := dk_167 0 9 (dk_at dksX3_add_0 12 rfl rfl)
theorem dX3_add_15 : decode cX3_add 15 = .ok (.aload_n 1, 1) := dk_43 (dk_at dksX3_add_0 15 rfl rfl)
theorem dX3_add_16 : decode cX3_add 16 = .ok (.iconst 0, 1) := dk_3 (dk_at dksX3_add_0 16 rfl rfl)
theorem dX3_add_17 : decode cX3_add 17 = .ok (.iload_n 2, 1) := dk_28 (dk_at dksX3_add_0 17 rfl rfl)
theorem dX3_add_18 : decode cX3_add 18 = .ok (.invokevirtual 47, 3) := dk_182 0 47 (dk_at dksX3_add_0 18 rfl rfl)
theorem dX3_add_21 : decode cX3_add 21 = .ok (.astore_n 3, 1) := dk_78 (dk_at dksX3_add_0 21 rfl rfl)
theorem dX3_add_22 : decode cX3_add 22 = .ok (.iload_n 2, 1) := dk_28 (dk_at dksX3_add_0 22 rfl rfl)
theorem dX3_add_23 : decode cX3_add 23 = .ok (.ifCond .ge 8, 3) := dk_156 0 8 (dk_at dksX3_add_1 0 rfl rfl)
theorem dX3_add_26 : decode cX3_add 26 = .ok (.bipush (-2), 2) := dk_16 254 (dk_at dksX3_add_1 3 rfl rfl)
theorem dX3_add_28 : decode cX3_add 28 = .ok (.goto 13, 3) := dk_167 0 13 (dk_at dksX3_add_1 5 rfl rfl)
theorem dX3_add_31 : decode cX3_add 31 = .ok (.aload_n 1, 1) := dk_43 (dk_at dksX3_add_1 8 rfl rfl)
theorem dX3_add_32 : decode cX3_add 32 = .ok (.iload_n 2, 1) := dk_28 (dk_at dksX3_add_1 9 rfl rfl)
theorem dX3_add_33 : decode cX3_add 33 = .ok (.iconst 1, 1) := dk_4 (dk_at dksX3_add_1 10 rfl rfl)
theorem dX3_add_34 : decode cX3_add 34 = .ok (.iadd, 1) := dk_96 (dk_at dksX3_add_1 11 rfl rfl)
theorem dX3_add_35 : decode cX3_add 35 = .ok (.invokevirtual 51, 3) := dk_182 0 51 (dk_at dksX3_add_1 12 rfl rfl)
theorem dX3_add_38 : decode cX3_add 38 = .ok (.invokestatic 54, 3) := dk_184 0 54 (dk_at dksX3_add_1 15 rfl rfl)
theorem dX3_add_41 : decode cX3_add 41 = .ok (.istore 4, 2) := dk_54 4 (dk_at dksX3_add_1 18 rfl rfl)
theorem dX3_add_43 : decode cX3_add 43 = .ok (.aload_n 3, 1) := dk_45 (dk_at dksX3_add_1 20 rfl rfl)
theorem dX3_add_44 : decode cX3_add 44 = .ok (.invokestatic 58, 3) := dk_184 0 58 (dk_at dksX3_add_1 21 rfl rfl)
theorem dX3_add_47 : decode cX3_add 47 = .ok (.ifCond .eq 9, 3) := dk_153 0 9 (dk_at dksX3_add_2 0 rfl rfl)
theorem dX3_add_50 : decode cX3_add 50 = .ok (.iload 4, 2) := dk_21 4 (dk_at dksX3_add_2 3 rfl rfl)
theorem dX3_add_52 : decode cX3_add 52 = .ok (.iconst (-1), 1) := dk_2 (dk_at dksX3_add_2 5 rfl rfl)
theorem dX3_add_53 : decode cX3_add 53 = .ok (.if_icmp .ne 4, 3) := dk_160 0 4 (dk_at dksX3_add_2 6 rfl rfl)
theorem dX3_add_56 : decode cX3_add 56 = .ok (.return_, 1) := dk_177 (dk_at dksX3_add_2 9 rfl rfl)
theorem dX3_add_57 : decode cX3_add 57 = .ok (.aload_n 0, 1) := dk_42 (dk_at dksX3_add_2 10 rfl rfl)
theorem dX3_add_58 : decode cX3_add 58 = .ok (.aload_n 3, 1) := dk_45 (dk_at dksX3_add_2 11 rfl rfl)
theorem dX3_add_59 : decode cX3_add 59 = .ok (.invokevirtual 62, 3) := dk_182 0 62 (dk_at dksX3_add_2 12 rfl rfl)
theorem dX3_add_62 : decode cX3_add 62 = .ok (.istore 5, 2) := dk_54 5 (dk_at dksX3_add_2 15 rfl rfl)
theorem dX3_add_64 : decode cX3_add 64 = .ok (.iload 5, 2) := dk_21 5 (dk_at dksX3_add_2 17 rfl rfl)
theorem dX3_add_66 : decode cX3_add 66 = .ok (.iconst (-1), 1) := dk_2 (dk_at dksX3_add_2 19 rfl rfl)
theorem dX3_add_67 : decode cX3_add 67 = .ok (.if_icmp .eq 23, 3) := dk_159 0 23 (dk_at dksX3_add_2 20 rfl rfl)
theorem dX3_add_70 : decode cX3_add 70 = .ok (.aload_n 0, 1) := dk_42 (dk_at dksX3_add_2 23 rfl rfl)
theorem dX3_add_71 : decode cX3_add 71 = .ok (.getfield 12, 3) := dk_180 0 12 (dk_at dksX3_add_3 0 rfl rfl)
theorem dX3_add_74 : decode cX3_add 74 = .ok (.iload 5, 2) := dk_21 5 (dk_at dksX3_add_3 3 rfl rfl)
theorem dX3_add_76 : decode cX3_add 76 = .ok (.invokevirtual 65, 3) := dk_182 0 65 (dk_at dksX3_add_3 5 rfl rfl)
theorem dX3_add_79 : decode cX3_add 79 = .ok (.pop, 1) := dk_87 (dk_at dksX3_add_3 8 rfl rfl)
theorem dX3_add_80 : decode cX3_add 80 = .ok (.aload_n 0, 1) := dk_42 (dk_at dksX3_add_3 9 rfl rfl)
theorem dX3_add_81 : decode cX3_add 81 = .ok (.getfield 18, 3) := dk_180 0 18 (dk_at dksX3_add_3 10 rfl rfl)
theorem dX3_add_84 : decode cX3_add 84 = .ok (.iload 5, 2) := dk_21 5 (dk_at dksX3_add_3 13 rfl rfl)
theorem dX3_add_86 : decode cX3_add 86 = .ok (.invokevirtual 65, 3) := dk_182 0 65 (dk_at dksX3_add_3 15 rfl rfl)
theorem dX3_add_89 : decode cX3_add 89 = .ok (.pop, 1) := dk_87 (dk_at dksX3_add_3 18 rfl rfl)
theorem dX3_add_90 : decode cX3_add 90 = .ok (.aload_n 0, 1) := dk_42 (dk_at dksX3_add_3 19 rfl rfl)
theorem dX3_add_91 : decode cX3_add 91 = .ok (.getfield 12, 3) := dk_180 0 12 (dk_at dksX3_add_3 20 rfl rfl)
theorem dX3_add_94 : decode cX3_add 94 = .ok (.aload_n 3, 1) := dk_45 (dk_at dksX3_add_3 23 rfl rfl)
theorem dX3_add_95 : decode cX3_add 95 = .ok (.invokevirtual 68, 3) := dk_182 0 68 (dk_at dksX3_add_4 0 rfl rfl)
theorem dX3_add_98 : decode cX3_add 98 = .ok (.pop, 1) := dk_87 (dk_at dksX3_add_4 3 rfl rfl)
theorem dX3_add_99 : decode cX3_add 99 = .ok (.aload_n 0, 1) := dk_42 (dk_at dksX3_add_4 4 rfl rfl)
theorem dX3_add_100 : decode cX3_add 100 = .ok (.getfield 18, 3) := dk_180 0 18 (dk_at dksX3_add_4 5 rfl rfl)
theorem dX3_add_103 : decode cX3_add 103 = .ok (.iload 4, 2) := dk_21 4 (dk_at dksX3_add_4 8 rfl rfl)
theorem dX3_add_105 : decode cX3_add 105 = .ok (.invokestatic 71, 3) := dk_184 0 71 (dk_at dksX3_add_4 10 rfl rfl)
theorem dX3_add_108 : decode cX3_add 108 = .ok (.invokevirtual 68, 3) := dk_182 0 68 (dk_at dksX3_add_4 13 rfl rfl)
theorem dX3_add_111 : decode cX3_add 111 = .ok (.pop, 1) := dk_87 (dk_at dksX3_add_4 16 rfl rfl)
theorem dX3_add_112 : decode cX3_add 112 = .ok (.return_, 1) := dk_177 (dk_at dksX3_add_4 17 rfl rfl)
abbrev cX3_find : ByteArray := prog_2_method_3_code
def yX3_find : MethodName := ⟨RX3, "find", "(Ljava/lang/String;)I"⟩
def dkwX3_find_1 : List UInt8 := [43, 182, 0, 77, 153, 0, 5, 28, 172, 132, 2, 1, 167, 255, 222, 2, 172]
abbrev dktX3_find_1 : List UInt8 := dkwX3_find_1 ++ []
def dkwX3_find_0 : List UInt8 := [3, 61, 28, 42, 180, 0, 12, 182, 0, 29, 162, 0, 29, 42, 180, 0, 12, 28, 182, 0, 33, 192, 0, 37]
abbrev dktX3_find_0 : List UInt8 := dkwX3_find_0 ++ dktX3_find_1
theorem dksX3_find_0 : cX3_find.data.toList.drop 0 = dktX3_find_0 := by decide +kernel
theorem dksX3_find_1 : cX3_find.data.toList.drop 24 = dktX3_find_1 := dk_seg dksX3_find_0 24 rfl rfl
theorem dX3_find_0 : decode cX3_find 0 = .ok (.iconst 0, 1) := dk_3 (dk_at dksX3_find_0 0 rfl rfl)
theorem dX3_find_1 : decode cX3_find 1 = .ok (.istore_n 2, 1) := dk_61 (dk_at dksX3_find_0 1 rfl rfl)
theorem dX3_find_2 : decode cX3_find 2 = .ok (.iload_n 2, 1) := dk_28 (dk_at dksX3_find_0 2 rfl rfl)
theorem dX3_find_3 : decode cX3_find 3 = .ok (.aload_n 0, 1) := dk_42 (dk_at dksX3_find_0 3 rfl rfl)
theorem dX3_find_4 : decode cX3_find 4 = .ok (.getfield 12, 3) := dk_180 0 12 (dk_at dksX3_find_0 4 rfl rfl)
theorem dX3_find_7 : decode cX3_find 7 = .ok (.invokevirtual 29, 3) := dk_182 0 29 (dk_at dksX3_find_0 7 rfl rfl)
theorem dX3_find_10 : decode cX3_find 10 = .ok (.if_icmp .ge 29, 3) := dk_162 0 29 (dk_at dksX3_find_0 10 rfl rfl)
theorem dX3_find_13 : decode cX3_find 13 = .ok (.aload_n 0, 1) := dk_42 (dk_at dksX3_find_0 13 rfl rfl)
theorem dX3_find_14 : decode cX3_find 14 = .ok (.getfield 12, 3) := dk_180 0 12 (dk_at dksX3_find_0 14 rfl rfl)
theorem dX3_find_17 : decode cX3_find 17 = .ok (.iload_n 2, 1) := dk_28 (dk_at dksX3_find_0 17 rfl rfl)
theorem dX3_find_18 : decode cX3_find 18 = .ok (.invokevirtual 33, 3) := dk_182 0 33 (dk_at dksX3_find_0 18 rfl rfl)
theorem dX3_find_21 : decode cX3_find 21 = .ok (.checkcast 37, 3) := dk_192 0 37 (dk_at dksX3_find_0 21 rfl rfl)
theorem dX3_find_24 : decode cX3_find 24 = .ok (.aload_n 1, 1) := dk_43 (dk_at dksX3_find_1 0 rfl rfl)
theorem dX3_find_25 : decode cX3_find 25 = .ok (.invokevirtual 77, 3) := dk_182 0 77 (dk_at dksX3_find_1 1 rfl rfl)
theorem dX3_find_28 : decode cX3_find 28 = .ok (.ifCond .eq 5, 3) := dk_153 0 5 (dk_at dksX3_find_1 4 rfl rfl)
theorem dX3_find_31 : decode cX3_find 31 = .ok (.iload_n 2, 1) := dk_28 (dk_at dksX3_find_1 7 rfl rfl)
theorem dX3_find_32 : decode cX3_find 32 = .ok (.ireturn, 1) := dk_172 (dk_at dksX3_find_1 8 rfl rfl)
theorem dX3_find_33 : decode cX3_find 33 = .ok (.iinc 2 1, 3) := dk_132 2 1 (dk_at dksX3_find_1 9 rfl rfl)
theorem dX3_find_36 : decode cX3_find 36 = .ok (.goto (-34), 3) := dk_167 255 222 (dk_at dksX3_find_1 12 rfl rfl)
theorem dX3_find_39 : decode cX3_find 39 = .ok (.iconst (-1), 1) := dk_2 (dk_at dksX3_find_1 15 rfl rfl)
theorem dX3_find_40 : decode cX3_find 40 = .ok (.ireturn, 1) := dk_172 (dk_at dksX3_find_1 16 rfl rfl)
abbrev cX3_has : ByteArray := prog_2_method_4_code
def yX3_has : MethodName := ⟨RX3, "has", "(Ljava/lang/String;)Z"⟩
def dkwX3_has_0 : List UInt8 := [42, 43, 182, 0, 62, 2, 159, 0, 7, 4, 167, 0, 4, 3, 172]
abbrev dktX3_has_0 : List UInt8 := dkwX3_has_0 ++ []
theorem dksX3_has_0 : cX3_has.data.toList.drop 0 = dktX3_has_0 := by decide +kernel
theorem dX3_has_0 : decode cX3_has 0 = .ok (.aload_n 0, 1) := dk_42 (dk_at dksX3_has_0 0 rfl rfl)
theorem dX3_has_1 : decode cX3_has 1 = .ok (.aload_n 1, 1) := dk_43 (dk_at dksX3_has_0 1 rfl rfl)
theorem dX3_has_2 : decode cX3_has 2 = .ok (.invokevirtual 62, 3) := dk_182 0 62 (dk_at dksX3_has_0 2 rfl rfl)
theorem dX3_has_5 : decode cX3_has 5 = .ok (.iconst (-1), 1) := dk_2 (dk_at dksX3_has_0 5 rfl rfl)
theorem dX3_has_6 : decode cX3_has 6 = .ok (.if_icmp .eq 7, 3) := dk_159 0 7 (dk_at dksX3_has_0 6 rfl rfl)
theorem dX3_has_9 : decode cX3_has 9 = .ok (.iconst 1, 1) := dk_4 (dk_at dksX3_has_0 9 rfl rfl)
theorem dX3_has_10 : decode cX3_has 10 = .ok (.goto 4, 3) := dk_167 0 4 (dk_at dksX3_has_0 10 rfl rfl)
theorem dX3_has_13 : decode cX3_has 13 = .ok (.iconst 0, 1) := dk_3 (dk_at dksX3_has_0 13 rfl rfl)
theorem dX3_has_14 : decode cX3_has 14 = .ok (.ireturn, 1) := dk_172 (dk_at dksX3_has_0 14 rfl rfl)
abbrev cX3_of : ByteArray := prog_2_method_5_code
def yX3_of : MethodName := ⟨RX3, "of", "(Ljava/lang/String;)I"⟩
def dkwX3_of_1 : List UInt8 := [192, 0, 72, 182, 0, 80, 172]
abbrev dktX3_of_1 : List UInt8 := dkwX3_of_1 ++ []
def dkwX3_of_0 : List UInt8 := [42, 43, 182, 0, 62, 61, 28, 2, 160, 0, 7, 2, 167, 0, 17, 42, 180, 0, 18, 28, 182, 0, 33]
abbrev dktX3_of_0 : List UInt8 := dkwX3_of_0 ++ dktX3_of_1
theorem dksX3_of_0 : cX3_of.data.toList.drop 0 = dktX3_of_0 := by decide +kernel
theorem dksX3_of_1 : cX3_of.data.toList.drop 23 = dktX3_of_1 := dk_seg dksX3_of_0 23 rfl rfl
theorem dX3_of_0 : decode cX3_of 0 = .ok (.aload_n 0, 1) := dk_42 (dk_at dksX3_of_0 0 rfl rfl)
theorem dX3_of_1 : decode cX3_of 1 = .ok (.aload_n 1, 1) := dk_43 (dk_at dksX3_of_0 1 rfl rfl)
theorem dX3_of_2 : decode cX3_of 2 = .ok (.invokevirtual 62, 3) := dk_182 0 62 (dk_at dksX3_of_0 2 rfl rfl)
theorem dX3_of_5 : decode cX3_of 5 = .ok (.istore_n 2, 1) := dk_61 (dk_at dksX3_of_0 5 rfl rfl)
theorem dX3_of_6 : decode cX3_of 6 = .ok (.iload_n 2, 1) := dk_28 (dk_at dksX3_of_0 6 rfl rfl)
theorem dX3_of_7 : decode cX3_of 7 = .ok (.iconst (-1), 1) := dk_2 (dk_at dksX3_of_0 7 rfl rfl)
theorem dX3_of_8 : decode cX3_of 8 = .ok (.if_icmp .ne 7, 3) := dk_160 0 7 (dk_at dksX3_of_0 8 rfl rfl)
theorem dX3_of_11 : decode cX3_of 11 = .ok (.iconst (-1), 1) := dk_2 (dk_at dksX3_of_0 11 rfl rfl)
theorem dX3_of_12 : decode cX3_of 12 = .ok (.goto 17, 3) := dk_167 0 17 (dk_at dksX3_of_0 12 rfl rfl)
theorem dX3_of_15 : decode cX3_of 15 = .ok (.aload_n 0, 1) := dk_42 (dk_at dksX3_of_0 15 rfl rfl)
theorem dX3_of_16 : decode cX3_of 16 = .ok (.getfield 18, 3) := dk_180 0 18 (dk_at dksX3_of_0 16 rfl rfl)
theorem dX3_of_19 : decode cX3_of 19 = .ok (.iload_n 2, 1) := dk_28 (dk_at dksX3_of_0 19 rfl rfl)
theorem dX3_of_20 : decode cX3_of 20 = .ok (.invokevirtual 33, 3) := dk_182 0 33 (dk_at dksX3_of_0 20 rfl rfl)
theorem dX3_of_23 : decode cX3_of 23 = .ok (.checkcast 72, 3) := dk_192 0 72 (dk_at dksX3_of_1 0 rfl rfl)
theorem dX3_of_26 : decode cX3_of 26 = .ok (.invokevirtual 80, 3) := dk_182 0 80 (dk_at dksX3_of_1 3 rfl rfl)
theorem dX3_of_29 : decode cX3_of 29 = .ok (.ireturn, 1) := dk_172 (dk_at dksX3_of_1 6 rfl rfl)
theorem q37 : (Jvm.Cond.initialized "VaryStore$Control") ∈ lw_all := lw_g (lw_at lw_m1 6 rfl) rfl
theorem q115 : (Jvm.Cond.instantiable "VaryStore$Control" (2 : Nat)) ∈ lw_all := lw_g (lw_at lw_m1 84 rfl) rfl
theorem q117 : (Jvm.Cond.instanceMethod ({ cls := "VaryStore$Control", name := "<init>", desc := "(Ljava/lang/String;)V" } : Jvm.MethodName)) ∈ lw_all := lw_g (lw_at lw_m1 86 rfl) rfl
theorem q118 : (Jvm.Cond.code ({ cls := "VaryStore$Control", name := "<init>", desc := "(Ljava/lang/String;)V" } : Jvm.MethodName) prog_2_method_1_code (4 : Nat) (Option.none : Option Jvm.ClassFile.FieldType)) ∈ lw_all := lw_g (lw_at lw_m1 87 rfl) rfl
theorem q119 : (Jvm.Cond.methodLink "VaryStore$Control" (3 : Nat) ({ cls := "java/lang/Object", name := "<init>", desc := "()V" } : Jvm.MethodName)) ∈ lw_all := lw_g (lw_at lw_m1 88 rfl) rfl
theorem q120 : (Jvm.Cond.classLink "VaryStore$Control" (9 : Nat) "java/util/ArrayList") ∈ lw_all := lw_g (lw_at lw_m1 89 rfl) rfl
theorem q121 : (Jvm.Cond.methodLink "VaryStore$Control" (11 : Nat) ({ cls := "java/util/ArrayList", name := "<init>", desc := "()V" } : Jvm.MethodName)) ∈ lw_all := lw_g (lw_at lw_m1 90 rfl) rfl
theorem q122 : (Jvm.Cond.methodLinkNest "VaryStore$Control" (21 : Nat) ({ cls := "VaryStore", name := "small", desc := "(Ljava/lang/String;)Ljava/lang/String;" } : Jvm.MethodName) "VaryStore") ∈ lw_tbl := lw_at lw_m1 91 rfl
theorem q468 : (Jvm.Cond.methodLinkNest "VaryStore$Control" (25 : Nat) ({ cls := "VaryStore", name := "cut", desc := "(Ljava/lang/String;)Ljava/util/ArrayList;" } : Jvm.MethodName) "VaryStore") ∈ lw_tbl := lw_at lw_m2 197 rfl
theorem q522 : (Jvm.Cond.selects "VaryStore$Control" ({ cls := "java/lang/Object", name := "getClass", desc := "()Ljava/lang/Class;" } : Jvm.MethodName) ({ cls := "java/lang/Object", name := "getClass", desc := "()Ljava/lang/Class;" } : Jvm.MethodName)) ∈ lw_all := lw_g (lw_at lw_m3 11 rfl) rfl
theorem q545 : (Jvm.Cond.methodLink "VaryStore$Control" (29 : Nat) ({ cls := "java/util/ArrayList", name := "size", desc := "()I" } : Jvm.MethodName)) ∈ lw_all := lw_g (lw_at lw_m3 34 rfl) rfl
theorem q549 : (Jvm.Cond.methodLink "VaryStore$Control" (33 : Nat) ({ cls := "java/util/ArrayList", name := "get", desc := "(I)Ljava/lang/Object;" } : Jvm.MethodName)) ∈ lw_all := lw_g (lw_at lw_m3 38 rfl) rfl
theorem q561 : (Jvm.Cond.classLink "VaryStore$Control" (37 : Nat) "java/lang/String") ∈ lw_all := lw_g (lw_at lw_m3 50 rfl) rfl
theorem q562 : (Jvm.Cond.methodLink "VaryStore$Control" (39 : Nat) ({ cls := "VaryStore$Control", name := "add", desc := "(Ljava/lang/String;)V" } : Jvm.MethodName)) ∈ lw_all := lw_g (lw_at lw_m3 51 rfl) rfl
theorem q563 : (Jvm.Cond.privateMethod ({ cls := "VaryStore$Control", name := "add", desc := "(Ljava/lang/String;)V" } : Jvm.MethodName)) ∈ lw_tbl := lw_at lw_m3 52 rfl
theorem q564 : (Jvm.Cond.instanceMethod ({ cls := "VaryStore$Control", name := "add", desc := "(Ljava/lang/String;)V" } : Jvm.MethodName)) ∈ lw_all := lw_g (lw_at lw_m3 53 rfl) rfl
theorem q565 : (Jvm.Cond.code ({ cls := "VaryStore$Control", name := "add", desc := "(Ljava/lang/String;)V" } : Jvm.MethodName) prog_2_method_2_code (6 : Nat) (Option.none : Option Jvm.ClassFile.FieldType)) ∈ lw_all := lw_g (lw_at lw_m3 54 rfl) rfl
theorem q566 : (Jvm.Cond.methodLink "VaryStore$Control" (43 : Nat) ({ cls := "java/lang/String", name := "indexOf", desc := "(I)I" } : Jvm.MethodName)) ∈ lw_all := lw_g (lw_at lw_m3 55 rfl) rfl
theorem q611 : (Jvm.Cond.methodLink "VaryStore$Control" (47 : Nat) ({ cls := "java/lang/String", name := "substring", desc := "(II)Ljava/lang/String;" } : Jvm.MethodName)) ∈ lw_all := lw_g (lw_at lw_m3 100 rfl) rfl
theorem q612 : (Jvm.Cond.methodLink "VaryStore$Control" (51 : Nat) ({ cls := "java/lang/String", name := "substring", desc := "(I)Ljava/lang/String;" } : Jvm.MethodName)) ∈ lw_all := lw_g (lw_at lw_m3 101 rfl) rfl
theorem q617 : (Jvm.Cond.methodLinkNest "VaryStore$Control" (54 : Nat) ({ cls := "VaryStore", name := "number", desc := "(Ljava/lang/String;)I" } : Jvm.MethodName) "VaryStore") ∈ lw_tbl := lw_at lw_m3 106 rfl
theorem q620 : (Jvm.Cond.methodLinkNest "VaryStore$Control" (58 : Nat) ({ cls := "VaryStore", name := "isName", desc := "(Ljava/lang/String;)Z" } : Jvm.MethodName) "VaryStore") ∈ lw_tbl := lw_at lw_m3 109 rfl
theorem q623 : (Jvm.Cond.methodLink "VaryStore$Control" (62 : Nat) ({ cls := "VaryStore$Control", name := "find", desc := "(Ljava/lang/String;)I" } : Jvm.MethodName)) ∈ lw_all := lw_g (lw_at lw_m3 112 rfl) rfl
theorem q624 : (Jvm.Cond.privateMethod ({ cls := "VaryStore$Control", name := "find", desc := "(Ljava/lang/String;)I" } : Jvm.MethodName)) ∈ lw_tbl := lw_at lw_m3 113 rfl
theorem q625 : (Jvm.Cond.instanceMethod ({ cls := "VaryStore$Control", name := "find", desc := "(Ljava/lang/String;)I" } : Jvm.MethodName)) ∈ lw_all := lw_g (lw_at lw_m3 114 rfl) rfl
theorem q626 : (Jvm.Cond.code ({ cls := "VaryStore$Control", name := "find", desc := "(Ljava/lang/String;)I" } : Jvm.MethodName) prog_2_method_3_code (3 : Nat) (Option.some Jvm.ClassFile.FieldType.int)) ∈ lw_all := lw_g (lw_at lw_m3 115 rfl) rfl
theorem q627 : (Jvm.Cond.methodLink "VaryStore$Control" (77 : Nat) ({ cls := "java/lang/String", name := "equals", desc := "(Ljava/lang/Object;)Z" } : Jvm.MethodName)) ∈ lw_all := lw_g (lw_at lw_m3 116 rfl) rfl
theorem q635 : (Jvm.Cond.methodLink "VaryStore$Control" (65 : Nat) ({ cls := "java/util/ArrayList", name := "remove", desc := "(I)Ljava/lang/Object;" } : Jvm.MethodName)) ∈ lw_all := lw_g (lw_at lw_m3 124 rfl) rfl
theorem q644 : (Jvm.Cond.methodLink "VaryStore$Control" (68 : Nat) ({ cls := "java/util/ArrayList", name := "add", desc := "(Ljava/lang/Object;)Z" } : Jvm.MethodName)) ∈ lw_all := lw_g (lw_at lw_m3 133 rfl) rfl
theorem q645 : (Jvm.Cond.methodLink "VaryStore$Control" (71 : Nat) ({ cls := "java/lang/Integer", name := "valueOf", desc := "(I)Ljava/lang/Integer;" } : Jvm.MethodName)) ∈ lw_all := lw_g (lw_at lw_m3 134 rfl) rfl
theorem q665 : (Jvm.Cond.fieldLink "VaryStore$Control" (12 : Nat) "VaryStore$Control" "names" "Ljava/util/ArrayList;") ∈ lw_all := lw_g (lw_at lw_m3 154 rfl) rfl
theorem q666 : (Jvm.Cond.fieldLink "VaryStore$Control" (18 : Nat) "VaryStore$Control" "numbers" "Ljava/util/ArrayList;") ∈ lw_all := lw_g (lw_at lw_m3 155 rfl) rfl
theorem q667 : (Jvm.Cond.laysFinal "VaryStore$Control" "VaryStore$Control" "names" "Ljava/util/ArrayList;") ∈ lw_all := lw_g (lw_at lw_m3 156 rfl) rfl
theorem q668 : (Jvm.Cond.soleField "VaryStore$Control" "names") ∈ lw_all := lw_g (lw_at lw_m3 157 rfl) rfl
theorem q669 : (Jvm.Cond.laysFinal "VaryStore$Control" "VaryStore$Control" "numbers" "Ljava/util/ArrayList;") ∈ lw_all := lw_g (lw_at lw_m3 158 rfl) rfl
theorem q670 : (Jvm.Cond.soleField "VaryStore$Control" "numbers") ∈ lw_all := lw_g (lw_at lw_m3 159 rfl) rfl
theorem q671 : (Jvm.Cond.superclass "VaryStore$Control" "java/lang/Object") ∈ lw_all := lw_g (lw_at lw_m3 160 rfl) rfl
theorem q834 : (Jvm.Cond.instanceMethod ({ cls := "VaryStore$Control", name := "has", desc := "(Ljava/lang/String;)Z" } : Jvm.MethodName)) ∈ lw_all := lw_g (lw_at lw_m4 83 rfl) rfl
theorem q835 : (Jvm.Cond.selects "VaryStore$Control" ({ cls := "VaryStore$Control", name := "has", desc := "(Ljava/lang/String;)Z" } : Jvm.MethodName) ({ cls := "VaryStore$Control", name := "has", desc := "(Ljava/lang/String;)Z" } : Jvm.MethodName)) ∈ lw_all := lw_g (lw_at lw_m4 84 rfl) rfl
theorem q836 : (Jvm.Cond.code ({ cls := "VaryStore$Control", name := "has", desc := "(Ljava/lang/String;)Z" } : Jvm.MethodName) prog_2_method_4_code (2 : Nat) (Option.some Jvm.ClassFile.FieldType.boolean)) ∈ lw_all := lw_g (lw_at lw_m4 85 rfl) rfl
theorem q839 : (Jvm.Cond.instanceMethod ({ cls := "VaryStore$Control", name := "of", desc := "(Ljava/lang/String;)I" } : Jvm.MethodName)) ∈ lw_all := lw_g (lw_at lw_m4 88 rfl) rfl
theorem q840 : (Jvm.Cond.selects "VaryStore$Control" ({ cls := "VaryStore$Control", name := "of", desc := "(Ljava/lang/String;)I" } : Jvm.MethodName) ({ cls := "VaryStore$Control", name := "of", desc := "(Ljava/lang/String;)I" } : Jvm.MethodName)) ∈ lw_all := lw_g (lw_at lw_m4 89 rfl) rfl
theorem q841 : (Jvm.Cond.code ({ cls := "VaryStore$Control", name := "of", desc := "(Ljava/lang/String;)I" } : Jvm.MethodName) prog_2_method_5_code (3 : Nat) (Option.some Jvm.ClassFile.FieldType.int)) ∈ lw_all := lw_g (lw_at lw_m4 90 rfl) rfl
theorem q842 : (Jvm.Cond.classLink "VaryStore$Control" (72 : Nat) "java/lang/Integer") ∈ lw_all := lw_g (lw_at lw_m4 91 rfl) rfl
theorem q843 : (Jvm.Cond.methodLink "VaryStore$Control" (80 : Nat) ({ cls := "java/lang/Integer", name := "intValue", desc := "()I" } : Jvm.MethodName)) ∈ lw_all := lw_g (lw_at lw_m4 92 rfl) rfl
theorem q966 : (Jvm.Cond.selects "VaryStore$Control" ({ cls := "java/lang/Object", name := "equals", desc := "(Ljava/lang/Object;)Z" } : Jvm.MethodName) ({ cls := "java/lang/Object", name := "equals", desc := "(Ljava/lang/Object;)Z" } : Jvm.MethodName)) ∈ lw_all := lw_g (lw_at lw_m4 215 rfl) rfl
theorem q1423 : (Jvm.Cond.castable "VaryStore$Control" "java/lang/Object") ∈ lw_tbl := lw_at lw_m6 192 rfl
theorem in_X3 : ∀ w ∈ wsX30, w ∈ lw_all := lw_in wsX30 [667, 669] (by decide +kernel) (by decide +kernel)
/-! VaryStore$Line -/
set_option maxRecDepth 100000
def RX6 : String := "VaryStore$Line"
def TX6 : u_T := fun k => match k with
  | 0 => ("VaryStore$Line", "name", "Ljava/lang/String;", true)
  | 1 => ("VaryStore$Line", "value", "Ljava/lang/String;", false)
  | _ => ("VaryStore$Line", "list", "Ljava/lang/String;", false)
def tyX6 : Nat → FieldType := fun k => match k with
  | 0 => .object "java/lang/String"
  | 1 => .object "java/lang/String"
  | _ => .object "java/lang/String"
abbrev wsX60 : List Cond := u_ws RX6 TX6 3
theorem nmX6 : ∀ a, a < 3 → ∀ b, b < 3 → a ≠ b → (TX6 a).2.1 ≠ (TX6 b).2.1 := by decide +kernel
theorem tyX6_ok : ∀ k, k < 3 → parseFieldDescriptor (TX6 k).2.2.1 = some (tyX6 k) := by decide +kernel
abbrev cX6_init : ByteArray := prog_4_method_1_code
def yX6_init : MethodName := ⟨RX6, "<init>", "(Ljava/lang/String;Ljava/lang/String;)V"⟩
def dkwX6_init_0 : List UInt8 := [42, 183, 0, 1, 42, 43, 181, 0, 7, 42, 44, 181, 0, 13, 177]
abbrev dktX6_init_0 : List UInt8 := dkwX6_init_0 ++ []
theorem dksX6_init_0 : cX6_init.data.toList.drop 0 = dktX6_init_0 := by decide +kernel
theorem dX6_init_0 : decode cX6_init 0 = .ok (.aload_n 0, 1) := dk_42 (dk_at dksX6_init_0 0 rfl rfl)
theorem dX6_init_1 : decode cX6_init 1 = .ok (.invokespecial 1, 3) := dk_183 0 1 (dk_at dksX6_init_0 1 rfl rfl)
theorem dX6_init_4 : decode cX6_init 4 = .ok (.aload_n 0, 1) := dk_42 (dk_at dksX6_init_0 4 rfl rfl)
theorem dX6_init_5 : decode cX6_init 5 = .ok (.aload_n 1, 1) := dk_43 (dk_at dksX6_init_0 5 rfl rfl)
theorem dX6_init_6 : decode cX6_init 6 = .ok (.putfield 7, 3) := dk_181 0 7 (dk_at dksX6_init_0 6 rfl rfl)
theorem dX6_init_9 : decode cX6_init 9 = .ok (.aload_n 0, 1) := dk_42 (dk_at dksX6_init_0 9 rfl rfl)
theorem dX6_init_10 : decode cX6_init 10 = .ok (.aload_n 2, 1) := dk_44 (dk_at dksX6_init_0 10 rfl rfl)
theorem dX6_init_11 : decode cX6_init 11 = .ok (.putfield 13, 3) := dk_181 0 13 (dk_at dksX6_init_0 11 rfl rfl)
theorem dX6_init_14 : decode cX6_init 14 = .ok (.return_, 1) := dk_177 (dk_at dksX6_init_0 14 rfl rfl)
abbrev cX6_more : ByteArray := prog_4_method_2_code
def yX6_more : MethodName := ⟨RX6, "more", "(Ljava/lang/String;)V"⟩
def dkwX6_more_1 : List UInt8 := [181, 0, 13, 42, 1, 181, 0, 32, 177]
abbrev dktX6_more_1 : List UInt8 := dkwX6_more_1 ++ []
def dkwX6_more_0 : List UInt8 := [42, 187, 0, 16, 89, 42, 180, 0, 13, 183, 0, 18, 16, 44, 182, 0, 21, 43, 182, 0, 25, 182, 0, 28]
abbrev dktX6_more_0 : List UInt8 := dkwX6_more_0 ++ dktX6_more_1
theorem dksX6_more_0 : cX6_more.data.toList.drop 0 = dktX6_more_0 := by decide +kernel
theorem dksX6_more_1 : cX6_more.data.toList.drop 24 = dktX6_more_1 := dk_seg dksX6_more_0 24 rfl rfl
theorem dX6_more_0 : decode cX6_more 0 = .ok (.aload_n 0, 1) := dk_42 (dk_at dksX6_more_0 0 rfl rfl)
theorem dX6_more_1 : decode cX6_more 1 = .ok (.new 16, 3) := dk_187 0 16 (dk_at dksX6_more_0 1 rfl rfl)
theorem dX6_more_4 : decode cX6_more 4 = .ok (.dup, 1) := dk_89 (dk_at dksX6_more_0 4 rfl rfl)
theorem dX6_more_5 : decode cX6_more 5 = .ok (.aload_n 0, 1) := dk_42 (dk_at dksX6_more_0 5 rfl rfl)
theorem dX6_more_6 : decode cX6_more 6 = .ok (.getfield 13, 3) := dk_180 0 13 (dk_at dksX6_more_0 6 rfl rfl)
theorem dX6_more_9 : decode cX6_more 9 = .ok (.invokespecial 18, 3) := dk_183 0 18 (dk_at dksX6_more_0 9 rfl rfl)
theorem dX6_more_12 : decode cX6_more 12 = .ok (.bipush 44, 2) := dk_16 44 (dk_at dksX6_more_0 12 rfl rfl)
theorem dX6_more_14 : decode cX6_more 14 = .ok (.invokevirtual 21, 3) := dk_182 0 21 (dk_at dksX6_more_0 14 rfl rfl)
theorem dX6_more_17 : decode cX6_more 17 = .ok (.aload_n 1, 1) := dk_43 (dk_at dksX6_more_0 17 rfl rfl)
theorem dX6_more_18 : decode cX6_more 18 = .ok (.invokevirtual 25, 3) := dk_182 0 25 (dk_at dksX6_more_0 18 rfl rfl)
theorem dX6_more_21 : decode cX6_more 21 = .ok (.invokevirtual 28, 3) := dk_182 0 28 (dk_at dksX6_more_0 21 rfl rfl)
theorem dX6_more_24 : decode cX6_more 24 = .ok (.putfield 13, 3) := dk_181 0 13 (dk_at dksX6_more_1 0 rfl rfl)
theorem dX6_more_27 : decode cX6_more 27 = .ok (.aload_n 0, 1) := dk_42 (dk_at dksX6_more_1 3 rfl rfl)
theorem dX6_more_28 : decode cX6_more 28 = .ok (.aconst_null, 1) := dk_1 (dk_at dksX6_more_1 4 rfl rfl)
theorem dX6_more_29 : decode cX6_more 29 = .ok (.putfield 32, 3) := dk_181 0 32 (dk_at dksX6_more_1 5 rfl rfl)
theorem dX6_more_32 : decode cX6_more 32 = .ok (.return_, 1) := dk_177 (dk_at dksX6_more_1 8 rfl rfl)
abbrev cX6_listed : ByteArray := prog_4_method_3_code
def yX6_listed : MethodName := ⟨RX6, "listed", "()Ljava/lang/String;"⟩
def dkwX6_listed_2 : List UInt8 := [182, 0, 21, 87, 132, 3, 1, 167, 255, 227, 42, 43, 182, 0, 28, 181, 0, 32, 42, 180, 0, 32, 176]
abbrev dktX6_listed_2 : List UInt8 := dkwX6_listed_2 ++ []
def dkwX6_listed_1 : List UInt8 := [62, 29, 44, 182, 0, 42, 162, 0, 27, 43, 44, 29, 182, 0, 48, 192, 0, 52, 182, 0, 25, 16, 44]
abbrev dktX6_listed_1 : List UInt8 := dkwX6_listed_1 ++ dktX6_listed_2
def dkwX6_listed_0 : List UInt8 := [42, 180, 0, 32, 199, 0, 61, 187, 0, 16, 89, 183, 0, 35, 76, 42, 180, 0, 13, 184, 0, 36, 77, 3]
abbrev dktX6_listed_0 : List UInt8 := dkwX6_listed_0 ++ dktX6_listed_1
theorem dksX6_listed_0 : cX6_listed.data.toList.drop 0 = dktX6_listed_0 := by decide +kernel
theorem dksX6_listed_1 : cX6_listed.data.toList.drop 24 = dktX6_listed_1 := dk_seg dksX6_listed_0 24 rfl rfl
theorem dksX6_listed_2 : cX6_listed.data.toList.drop 47 = dktX6_listed_2 := dk_seg dksX6_listed_1 23 rfl rfl
theorem dX6_listed_0 : decode cX6_listed 0 = .ok (.aload_n 0, 1) := dk_42 (dk_at dksX6_listed_0 0 rfl rfl)
theorem dX6_listed_1 : decode cX6_listed 1 = .ok (.getfield 32, 3) := dk_180 0 32 (dk_at dksX6_listed_0 1 rfl rfl)
theorem dX6_listed_4 : decode cX6_listed 4 = .ok (.ifnonnull 61, 3) := dk_199 0 61 (dk_at dksX6_listed_0 4 rfl rfl)
theorem dX6_listed_7 : decode cX6_listed 7 = .ok (.new 16, 3) := dk_187 0 16 (dk_at dksX6_listed_0 7 rfl rfl)
theorem dX6_listed_10 : decode cX6_listed 10 = .ok (.dup, 1) := dk_89 (dk_at dksX6_listed_0 10 rfl rfl)
theorem dX6_listed_11 : decode cX6_listed 11 = .ok (.invokespecial 35, 3) := dk_183 0 35 (dk_at dksX6_listed_0 11 rfl rfl)
theorem dX6_listed_14 : decode cX6_listed 14 = .ok (.astore_n 1, 1) := dk_76 (dk_at dksX6_listed_0 14 rfl rfl)
theorem dX6_listed_15 : decode cX6_listed 15 = .ok (.aload_n 0, 1) := dk_42 (dk_at dksX6_listed_0 15 rfl rfl)
theorem dX6_listed_16 : decode cX6_listed 16 = .ok (.getfield 13, 3) := dk_180 0 13 (dk_at dksX6_listed_0 16 rfl rfl)
theorem dX6_listed_19 : decode cX6_listed 19 = .ok (.invokestatic 36, 3) := dk_184 0 36 (dk_at dksX6_listed_0 19 rfl rfl)
theorem dX6_listed_22 : decode cX6_listed 22 = .ok (.astore_n 2, 1) := dk_77 (dk_at dksX6_listed_0 22 rfl rfl)
theorem dX6_listed_23 : decode cX6_listed 23 = .ok (.iconst 0, 1) := dk_3 (dk_at dksX6_listed_0 23 rfl rfl)
theorem dX6_listed_24 : decode cX6_listed 24 = .ok (.istore_n 3, 1) := dk_62 (dk_at dksX6_listed_1 0 rfl rfl)
theorem dX6_listed_25 : decode cX6_listed 25 = .ok (.iload_n 3, 1) := dk_29 (dk_at dksX6_listed_1 1 rfl rfl)
theorem dX6_listed_26 : decode cX6_listed 26 = .ok (.aload_n 2, 1) := dk_44 (dk_at dksX6_listed_1 2 rfl rfl)
theorem dX6_listed_27 : decode cX6_listed 27 = .ok (.invokevirtual 42, 3) := dk_182 0 42 (dk_at dksX6_listed_1 3 rfl rfl)
theorem dX6_listed_30 : decode cX6_listed 30 = .ok (.if_icmp .ge 27, 3) := dk_162 0 27 (dk_at dksX6_listed_1 6 rfl rfl)
theorem dX6_listed_33 : decode cX6_listed 33 = .ok (.aload_n 1, 1) := dk_43 (dk_at dksX6_listed_1 9 rfl rfl)
theorem dX6_listed_34 : decode cX6_listed 34 = .ok (.aload_n 2, 1) := dk_44 (dk_at dksX6_listed_1 10 rfl rfl)
theorem dX6_listed_35 : decode cX6_listed 35 = .ok (.iload_n 3, 1) := dk_29 (dk_at dksX6_listed_1 11 rfl rfl)
theorem dX6_listed_36 : decode cX6_listed 36 = .ok (.invokevirtual 48, 3) := dk_182 0 48 (dk_at dksX6_listed_1 12 rfl rfl)
theorem dX6_listed_39 : decode cX6_listed 39 = .ok (.checkcast 52, 3) := dk_192 0 52 (dk_at dksX6_listed_1 15 rfl rfl)
theorem dX6_listed_42 : decode cX6_listed 42 = .ok (.invokevirtual 25, 3) := dk_182 0 25 (dk_at dksX6_listed_1 18 rfl rfl)
theorem dX6_listed_45 : decode cX6_listed 45 = .ok (.bipush 44, 2) := dk_16 44 (dk_at dksX6_listed_1 21 rfl rfl)
theorem dX6_listed_47 : decode cX6_listed 47 = .ok (.invokevirtual 21, 3) := dk_182 0 21 (dk_at dksX6_listed_2 0 rfl rfl)
theorem dX6_listed_50 : decode cX6_listed 50 = .ok (.pop, 1) := dk_87 (dk_at dksX6_listed_2 3 rfl rfl)
theorem dX6_listed_51 : decode cX6_listed 51 = .ok (.iinc 3 1, 3) := dk_132 3 1 (dk_at dksX6_listed_2 4 rfl rfl)
theorem dX6_listed_54 : decode cX6_listed 54 = .ok (.goto (-29), 3) := dk_167 255 227 (dk_at dksX6_listed_2 7 rfl rfl)
theorem dX6_listed_57 : decode cX6_listed 57 = .ok (.aload_n 0, 1) := dk_42 (dk_at dksX6_listed_2 10 rfl rfl)
theorem dX6_listed_58 : decode cX6_listed 58 = .ok (.aload_n 1, 1) := dk_43 (dk_at dksX6_listed_2 11 rfl rfl)
theorem dX6_listed_59 : decode cX6_listed 59 = .ok (.invokevirtual 28, 3) := dk_182 0 28 (dk_at dksX6_listed_2 12 rfl rfl)
theorem dX6_listed_62 : decode cX6_listed 62 = .ok (.putfield 32, 3) := dk_181 0 32 (dk_at dksX6_listed_2 15 rfl rfl)
theorem dX6_listed_65 : decode cX6_listed 65 = .ok (.aload_n 0, 1) := dk_42 (dk_at dksX6_listed_2 18 rfl rfl)
theorem dX6_listed_66 : decode cX6_listed 66 = .ok (.getfield 32, 3) := dk_180 0 32 (dk_at dksX6_listed_2 19 rfl rfl)
theorem dX6_listed_69 : decode cX6_listed 69 = .ok (.areturn, 1) := dk_176 (dk_at dksX6_listed_2 22 rfl rfl)
theorem q59 : (Jvm.Cond.initialized "VaryStore$Line") ∈ lw_all := lw_g (lw_at lw_m1 28 rfl) rfl
theorem q524 : (Jvm.Cond.selects "VaryStore$Line" ({ cls := "java/lang/Object", name := "getClass", desc := "()Ljava/lang/Class;" } : Jvm.MethodName) ({ cls := "java/lang/Object", name := "getClass", desc := "()Ljava/lang/Class;" } : Jvm.MethodName)) ∈ lw_all := lw_g (lw_at lw_m3 13 rfl) rfl
theorem q755 : (Jvm.Cond.instantiable "VaryStore$Line" (3 : Nat)) ∈ lw_all := lw_g (lw_at lw_m4 4 rfl) rfl
theorem q757 : (Jvm.Cond.instanceMethod ({ cls := "VaryStore$Line", name := "<init>", desc := "(Ljava/lang/String;Ljava/lang/String;)V" } : Jvm.MethodName)) ∈ lw_all := lw_g (lw_at lw_m4 6 rfl) rfl
theorem q758 : (Jvm.Cond.code ({ cls := "VaryStore$Line", name := "<init>", desc := "(Ljava/lang/String;Ljava/lang/String;)V" } : Jvm.MethodName) prog_4_method_1_code (3 : Nat) (Option.none : Option Jvm.ClassFile.FieldType)) ∈ lw_all := lw_g (lw_at lw_m4 7 rfl) rfl
theorem q759 : (Jvm.Cond.methodLink "VaryStore$Line" (1 : Nat) ({ cls := "java/lang/Object", name := "<init>", desc := "()V" } : Jvm.MethodName)) ∈ lw_all := lw_g (lw_at lw_m4 8 rfl) rfl
theorem q760 : (Jvm.Cond.fieldLink "VaryStore$Line" (7 : Nat) "VaryStore$Line" "name" "Ljava/lang/String;") ∈ lw_all := lw_g (lw_at lw_m4 9 rfl) rfl
theorem q762 : (Jvm.Cond.fieldLink "VaryStore$Line" (13 : Nat) "VaryStore$Line" "value" "Ljava/lang/String;") ∈ lw_all := lw_g (lw_at lw_m4 11 rfl) rfl
theorem q764 : (Jvm.Cond.fieldLink "VaryStore$Line" (32 : Nat) "VaryStore$Line" "list" "Ljava/lang/String;") ∈ lw_all := lw_g (lw_at lw_m4 13 rfl) rfl
theorem q765 : (Jvm.Cond.laysFinal "VaryStore$Line" "VaryStore$Line" "name" "Ljava/lang/String;") ∈ lw_all := lw_g (lw_at lw_m4 14 rfl) rfl
theorem q766 : (Jvm.Cond.soleField "VaryStore$Line" "name") ∈ lw_all := lw_g (lw_at lw_m4 15 rfl) rfl
theorem q767 : (Jvm.Cond.lays "VaryStore$Line" "VaryStore$Line" "value" "Ljava/lang/String;") ∈ lw_all := lw_g (lw_at lw_m4 16 rfl) rfl
theorem q768 : (Jvm.Cond.soleField "VaryStore$Line" "value") ∈ lw_all := lw_g (lw_at lw_m4 17 rfl) rfl
theorem q769 : (Jvm.Cond.lays "VaryStore$Line" "VaryStore$Line" "list" "Ljava/lang/String;") ∈ lw_all := lw_g (lw_at lw_m4 18 rfl) rfl
theorem q770 : (Jvm.Cond.soleField "VaryStore$Line" "list") ∈ lw_all := lw_g (lw_at lw_m4 19 rfl) rfl
theorem q771 : (Jvm.Cond.superclass "VaryStore$Line" "java/lang/Object") ∈ lw_all := lw_g (lw_at lw_m4 20 rfl) rfl
theorem q774 : (Jvm.Cond.instanceMethod ({ cls := "VaryStore$Line", name := "more", desc := "(Ljava/lang/String;)V" } : Jvm.MethodName)) ∈ lw_all := lw_g (lw_at lw_m4 23 rfl) rfl
theorem q775 : (Jvm.Cond.selects "VaryStore$Line" ({ cls := "VaryStore$Line", name := "more", desc := "(Ljava/lang/String;)V" } : Jvm.MethodName) ({ cls := "VaryStore$Line", name := "more", desc := "(Ljava/lang/String;)V" } : Jvm.MethodName)) ∈ lw_all := lw_g (lw_at lw_m4 24 rfl) rfl
theorem q776 : (Jvm.Cond.code ({ cls := "VaryStore$Line", name := "more", desc := "(Ljava/lang/String;)V" } : Jvm.MethodName) prog_4_method_2_code (2 : Nat) (Option.none : Option Jvm.ClassFile.FieldType)) ∈ lw_all := lw_g (lw_at lw_m4 25 rfl) rfl
theorem q777 : (Jvm.Cond.classLink "VaryStore$Line" (16 : Nat) "java/lang/StringBuilder") ∈ lw_all := lw_g (lw_at lw_m4 26 rfl) rfl
theorem q778 : (Jvm.Cond.methodLink "VaryStore$Line" (18 : Nat) ({ cls := "java/lang/StringBuilder", name := "<init>", desc := "(Ljava/lang/String;)V" } : Jvm.MethodName)) ∈ lw_all := lw_g (lw_at lw_m4 27 rfl) rfl
theorem q789 : (Jvm.Cond.methodLink "VaryStore$Line" (21 : Nat) ({ cls := "java/lang/StringBuilder", name := "append", desc := "(C)Ljava/lang/StringBuilder;" } : Jvm.MethodName)) ∈ lw_all := lw_g (lw_at lw_m4 38 rfl) rfl
theorem q790 : (Jvm.Cond.methodLink "VaryStore$Line" (25 : Nat) ({ cls := "java/lang/StringBuilder", name := "append", desc := "(Ljava/lang/String;)Ljava/lang/StringBuilder;" } : Jvm.MethodName)) ∈ lw_all := lw_g (lw_at lw_m4 39 rfl) rfl
theorem q791 : (Jvm.Cond.methodLink "VaryStore$Line" (28 : Nat) ({ cls := "java/lang/StringBuilder", name := "toString", desc := "()Ljava/lang/String;" } : Jvm.MethodName)) ∈ lw_all := lw_g (lw_at lw_m4 40 rfl) rfl
theorem q815 : (Jvm.Cond.instanceMethod ({ cls := "VaryStore$Line", name := "listed", desc := "()Ljava/lang/String;" } : Jvm.MethodName)) ∈ lw_all := lw_g (lw_at lw_m4 64 rfl) rfl
theorem q816 : (Jvm.Cond.selects "VaryStore$Line" ({ cls := "VaryStore$Line", name := "listed", desc := "()Ljava/lang/String;" } : Jvm.MethodName) ({ cls := "VaryStore$Line", name := "listed", desc := "()Ljava/lang/String;" } : Jvm.MethodName)) ∈ lw_all := lw_g (lw_at lw_m4 65 rfl) rfl
theorem q817 : (Jvm.Cond.code ({ cls := "VaryStore$Line", name := "listed", desc := "()Ljava/lang/String;" } : Jvm.MethodName) prog_4_method_3_code (4 : Nat) (Option.some (Jvm.ClassFile.FieldType.object "java/lang/String"))) ∈ lw_all := lw_g (lw_at lw_m4 66 rfl) rfl
theorem q818 : (Jvm.Cond.methodLink "VaryStore$Line" (35 : Nat) ({ cls := "java/lang/StringBuilder", name := "<init>", desc := "()V" } : Jvm.MethodName)) ∈ lw_all := lw_g (lw_at lw_m4 67 rfl) rfl
theorem q819 : (Jvm.Cond.methodLinkNest "VaryStore$Line" (36 : Nat) ({ cls := "VaryStore", name := "cut", desc := "(Ljava/lang/String;)Ljava/util/ArrayList;" } : Jvm.MethodName) "VaryStore") ∈ lw_tbl := lw_at lw_m4 68 rfl
theorem q820 : (Jvm.Cond.methodLink "VaryStore$Line" (42 : Nat) ({ cls := "java/util/ArrayList", name := "size", desc := "()I" } : Jvm.MethodName)) ∈ lw_all := lw_g (lw_at lw_m4 69 rfl) rfl
theorem q821 : (Jvm.Cond.methodLink "VaryStore$Line" (48 : Nat) ({ cls := "java/util/ArrayList", name := "get", desc := "(I)Ljava/lang/Object;" } : Jvm.MethodName)) ∈ lw_all := lw_g (lw_at lw_m4 70 rfl) rfl
theorem q822 : (Jvm.Cond.classLink "VaryStore$Line" (52 : Nat) "java/lang/String") ∈ lw_all := lw_g (lw_at lw_m4 71 rfl) rfl
theorem q968 : (Jvm.Cond.selects "VaryStore$Line" ({ cls := "java/lang/Object", name := "equals", desc := "(Ljava/lang/Object;)Z" } : Jvm.MethodName) ({ cls := "java/lang/Object", name := "equals", desc := "(Ljava/lang/Object;)Z" } : Jvm.MethodName)) ∈ lw_all := lw_g (lw_at lw_m4 217 rfl) rfl
theorem q1430 : (Jvm.Cond.castable "VaryStore$Line" "java/lang/Object") ∈ lw_tbl := lw_at lw_m6 199 rfl
theorem in_X6 : ∀ w ∈ wsX60, w ∈ lw_all := lw_in wsX60 [765, 767, 769] (by decide +kernel) (by decide +kernel)
/-! VaryStore$Thing -/
set_option maxRecDepth 100000
def RX7 : String := "VaryStore$Thing"
def TX7 : u_T := fun k => match k with
  | 0 => ("VaryStore$Thing", "path", "I", true)
  | 1 => ("VaryStore$Thing", "etag", "Ljava/lang/String;", true)
  | 2 => ("VaryStore$Thing", "vary", "Ljava/util/ArrayList;", true)
  | 3 => ("VaryStore$Thing", "values", "Ljava/util/ArrayList;", true)
  | 4 => ("VaryStore$Thing", "control", "LVaryStore$Control;", false)
  | 5 => ("VaryStore$Thing", "life", "I", false)
  | 6 => ("VaryStore$Thing", "age", "I", false)
  | 7 => ("VaryStore$Thing", "since", "I", false)
  | _ => ("VaryStore$Thing", "used", "I", false)
def tyX7 : Nat → FieldType := fun k => match k with
  | 0 => .int
  | 1 => .object "java/lang/String"
  | 2 => .object "java/util/ArrayList"
  | 3 => .object "java/util/ArrayList"
  | 4 => .object "VaryStore$Control"
  | 5 => .int
  | 6 => .int
  | 7 => .int
  | _ => .int
abbrev wsX70 : List Cond := u_ws RX7 TX7 9
theorem nmX7 : ∀ a, a < 9 → ∀ b, b < 9 → a ≠ b → (TX7 a).2.1 ≠ (TX7 b).2.1 := by decide +kernel
theorem tyX7_ok : ∀ k, k < 9 → parseFieldDescriptor (TX7 k).2.2.1 = some (tyX7 k) := by decide +kernel
abbrev cX7_ageAt : ByteArray := prog_5_method_3_code
def yX7_ageAt : MethodName := ⟨RX7, "ageAt", "(I)I"⟩
def dkwX7_ageAt_0 : List UInt8 := [42, 180, 0, 60, 27, 96, 42, 180, 0, 62, 100, 172]
abbrev dktX7_ageAt_0 : List UInt8 := dkwX7_ageAt_0 ++ []
theorem dksX7_ageAt_0 : cX7_ageAt.data.toList.drop 0 = dktX7_ageAt_0 := by decide +kernel
theorem dX7_ageAt_0 : decode cX7_ageAt 0 = .ok (.aload_n 0, 1) := dk_42 (dk_at dksX7_ageAt_0 0 rfl rfl)
theorem dX7_ageAt_1 : decode cX7_ageAt 1 = .ok (.getfield 60, 3) := dk_180 0 60 (dk_at dksX7_ageAt_0 1 rfl rfl)
theorem dX7_ageAt_4 : decode cX7_ageAt 4 = .ok (.iload_n 1, 1) := dk_27 (dk_at dksX7_ageAt_0 4 rfl rfl)
theorem dX7_ageAt_5 : decode cX7_ageAt 5 = .ok (.iadd, 1) := dk_96 (dk_at dksX7_ageAt_0 5 rfl rfl)
theorem dX7_ageAt_6 : decode cX7_ageAt 6 = .ok (.aload_n 0, 1) := dk_42 (dk_at dksX7_ageAt_0 6 rfl rfl)
theorem dX7_ageAt_7 : decode cX7_ageAt 7 = .ok (.getfield 62, 3) := dk_180 0 62 (dk_at dksX7_ageAt_0 7 rfl rfl)
theorem dX7_ageAt_10 : decode cX7_ageAt 10 = .ok (.isub, 1) := dk_100 (dk_at dksX7_ageAt_0 10 rfl rfl)
theorem dX7_ageAt_11 : decode cX7_ageAt 11 = .ok (.ireturn, 1) := dk_172 (dk_at dksX7_ageAt_0 11 rfl rfl)
abbrev cX7_isFresh : ByteArray := prog_5_method_4_code
def yX7_isFresh : MethodName := ⟨RX7, "isFresh", "(I)Z"⟩
def dkwX7_isFresh_1 : List UInt8 := [4, 167, 0, 4, 3, 172]
abbrev dktX7_isFresh_1 : List UInt8 := dkwX7_isFresh_1 ++ []
def dkwX7_isFresh_0 : List UInt8 := [42, 180, 0, 26, 18, 65, 182, 0, 67, 154, 0, 19, 42, 27, 182, 0, 71, 42, 180, 0, 55, 162, 0, 7]
abbrev dktX7_isFresh_0 : List UInt8 := dkwX7_isFresh_0 ++ dktX7_isFresh_1
theorem dksX7_isFresh_0 : cX7_isFresh.data.toList.drop 0 = dktX7_isFresh_0 := by decide +kernel
theorem dksX7_isFresh_1 : cX7_isFresh.data.toList.drop 24 = dktX7_isFresh_1 := dk_seg dksX7_isFresh_0 24 rfl rfl
theorem dX7_isFresh_0 : decode cX7_isFresh 0 = .ok (.aload_n 0, 1) := dk_42 (dk_at dksX7_isFresh_0 0 rfl rfl)
theorem dX7_isFresh_1 : decode cX7_isFresh 1 = .ok (.getfield 26, 3) := dk_180 0 26 (dk_at dksX7_isFresh_0 1 rfl rfl)
theorem dX7_isFresh_4 : decode cX7_isFresh 4 = .ok (.ldc 65, 2) := dk_18 65 (dk_at dksX7_isFresh_0 4 rfl rfl)
theorem dX7_isFresh_6 : decode cX7_isFresh 6 = .ok (.invokevirtual 67, 3) := dk_182 0 67 (dk_at dksX7_isFresh_0 6 rfl rfl)
theorem dX7_isFresh_9 : decode cX7_isFresh 9 = .ok (.ifCond .ne 19, 3) := dk_154 0 19 (dk_at dksX7_isFresh_0 9 rfl rfl)
theorem dX7_isFresh_12 : decode cX7_isFresh 12 = .ok (.aload_n 0, 1) := dk_42 (dk_at dksX7_isFresh_0 12 rfl rfl)
theorem dX7_isFresh_13 : decode cX7_isFresh 13 = .ok (.iload_n 1, 1) := dk_27 (dk_at dksX7_isFresh_0 13 rfl rfl)
theorem dX7_isFresh_14 : decode cX7_isFresh 14 = .ok (.invokevirtual 71, 3) := dk_182 0 71 (dk_at dksX7_isFresh_0 14 rfl rfl)
theorem dX7_isFresh_17 : decode cX7_isFresh 17 = .ok (.aload_n 0, 1) := dk_42 (dk_at dksX7_isFresh_0 17 rfl rfl)
theorem dX7_isFresh_18 : decode cX7_isFresh 18 = .ok (.getfield 55, 3) := dk_180 0 55 (dk_at dksX7_isFresh_0 18 rfl rfl)
theorem dX7_isFresh_21 : decode cX7_isFresh 21 = .ok (.if_icmp .ge 7, 3) := dk_162 0 7 (dk_at dksX7_isFresh_0 21 rfl rfl)
theorem dX7_isFresh_24 : decode cX7_isFresh 24 = .ok (.iconst 1, 1) := dk_4 (dk_at dksX7_isFresh_1 0 rfl rfl)
theorem dX7_isFresh_25 : decode cX7_isFresh 25 = .ok (.goto 4, 3) := dk_167 0 4 (dk_at dksX7_isFresh_1 1 rfl rfl)
theorem dX7_isFresh_28 : decode cX7_isFresh 28 = .ok (.iconst 0, 1) := dk_3 (dk_at dksX7_isFresh_1 4 rfl rfl)
theorem dX7_isFresh_29 : decode cX7_isFresh 29 = .ok (.ireturn, 1) := dk_172 (dk_at dksX7_isFresh_1 5 rfl rfl)
abbrev cX7_isStrict : ByteArray := prog_5_method_5_code
def yX7_isStrict : MethodName := ⟨RX7, "isStrict", "()Z"⟩
def dkwX7_isStrict_2 : List UInt8 := [4, 167, 0, 4, 3, 172]
abbrev dktX7_isStrict_2 : List UInt8 := dkwX7_isStrict_2 ++ []
def dkwX7_isStrict_1 : List UInt8 := [42, 180, 0, 26, 18, 77, 182, 0, 67, 154, 0, 15, 42, 180, 0, 26, 18, 30, 182, 0, 67, 153, 0, 7]
abbrev dktX7_isStrict_1 : List UInt8 := dkwX7_isStrict_1 ++ dktX7_isStrict_2
def dkwX7_isStrict_0 : List UInt8 := [42, 180, 0, 26, 18, 65, 182, 0, 67, 154, 0, 39, 42, 180, 0, 26, 18, 75, 182, 0, 67, 154, 0, 27]
abbrev dktX7_isStrict_0 : List UInt8 := dkwX7_isStrict_0 ++ dktX7_isStrict_1
theorem dksX7_isStrict_0 : cX7_isStrict.data.toList.drop 0 = dktX7_isStrict_0 := by decide +kernel
theorem dksX7_isStrict_1 : cX7_isStrict.data.toList.drop 24 = dktX7_isStrict_1 := dk_seg dksX7_isStrict_0 24 rfl rfl
theorem dksX7_isStrict_2 : cX7_isStrict.data.toList.drop 48 = dktX7_isStrict_2 := dk_seg dksX7_isStrict_1 24 rfl rfl
theorem dX7_isStrict_0 : decode cX7_isStrict 0 = .ok (.aload_n 0, 1) := dk_42 (dk_at dksX7_isStrict_0 0 rfl rfl)
theorem dX7_isStrict_1 : decode cX7_isStrict 1 = .ok (.getfield 26, 3) := dk_180 0 26 (dk_at dksX7_isStrict_0 1 rfl rfl)
theorem dX7_isStrict_4 : decode cX7_isStrict 4 = .ok (.ldc 65, 2) := dk_18 65 (dk_at dksX7_isStrict_0 4 rfl rfl)
theorem dX7_isStrict_6 : decode cX7_isStrict 6 = .ok (.invokevirtual 67, 3) := dk_182 0 67 (dk_at dksX7_isStrict_0 6 rfl rfl)
theorem dX7_isStrict_9 : decode cX7_isStrict 9 = .ok (.ifCond .ne 39, 3) := dk_154 0 39 (dk_at dksX7_isStrict_0 9 rfl rfl)
theorem dX7_isStrict_12 : decode cX7_isStrict 12 = .ok (.aload_n 0, 1) := dk_42 (dk_at dksX7_isStrict_0 12 rfl rfl)
theorem dX7_isStrict_13 : decode cX7_isStrict 13 = .ok (.getfield 26, 3) := dk_180 0 26 (dk_at dksX7_isStrict_0 13 rfl rfl)
theorem dX7_isStrict_16 : decode cX7_isStrict 16 = .ok (.ldc 75, 2) := dk_18 75 (dk_at dksX7_isStrict_0 16 rfl rfl)
theorem dX7_isStrict_18 : decode cX7_isStrict 18 = .ok (.invokevirtual 67, 3) := dk_182 0 67 (dk_at dksX7_isStrict_0 18 rfl rfl)
theorem dX7_isStrict_21 : decode cX7_isStrict 21 = .ok (.ifCond .ne 27, 3) := dk_154 0 27 (dk_at dksX7_isStrict_0 21 rfl rfl)
theorem dX7_isStrict_24 : decode cX7_isStrict 24 = .ok (.aload_n 0, 1) := dk_42 (dk_at dksX7_isStrict_1 0 rfl rfl)
theorem dX7_isStrict_25 : decode cX7_isStrict 25 = .ok (.getfield 26, 3) := dk_180 0 26 (dk_at dksX7_isStrict_1 1 rfl rfl)
theorem dX7_isStrict_28 : decode cX7_isStrict 28 = .ok (.ldc 77, 2) := dk_18 77 (dk_at dksX7_isStrict_1 4 rfl rfl)
theorem dX7_isStrict_30 : decode cX7_isStrict 30 = .ok (.invokevirtual 67, 3) := dk_182 0 67 (dk_at dksX7_isStrict_1 6 rfl rfl)
theorem dX7_isStrict_33 : decode cX7_isStrict 33 = .ok (.ifCond .ne 15, 3) := dk_154 0 15 (dk_at dksX7_isStrict_1 9 rfl rfl)
theorem dX7_isStrict_36 : decode cX7_isStrict 36 = .ok (.aload_n 0, 1) := dk_42 (dk_at dksX7_isStrict_1 12 rfl rfl)
theorem dX7_isStrict_37 : decode cX7_isStrict 37 = .ok (.getfield 26, 3) := dk_180 0 26 (dk_at dksX7_isStrict_1 13 rfl rfl)
theorem dX7_isStrict_40 : decode cX7_isStrict 40 = .ok (.ldc 30, 2) := dk_18 30 (dk_at dksX7_isStrict_1 16 rfl rfl)
theorem dX7_isStrict_42 : decode cX7_isStrict 42 = .ok (.invokevirtual 67, 3) := dk_182 0 67 (dk_at dksX7_isStrict_1 18 rfl rfl)
theorem dX7_isStrict_45 : decode cX7_isStrict 45 = .ok (.ifCond .eq 7, 3) := dk_153 0 7 (dk_at dksX7_isStrict_1 21 rfl rfl)
theorem dX7_isStrict_48 : decode cX7_isStrict 48 = .ok (.iconst 1, 1) := dk_4 (dk_at dksX7_isStrict_2 0 rfl rfl)
theorem dX7_isStrict_49 : decode cX7_isStrict 49 = .ok (.goto 4, 3) := dk_167 0 4 (dk_at dksX7_isStrict_2 1 rfl rfl)
theorem dX7_isStrict_52 : decode cX7_isStrict 52 = .ok (.iconst 0, 1) := dk_3 (dk_at dksX7_isStrict_2 4 rfl rfl)
theorem dX7_isStrict_53 : decode cX7_isStrict 53 = .ok (.ireturn, 1) := dk_172 (dk_at dksX7_isStrict_2 5 rfl rfl)
abbrev cX7_init : ByteArray := prog_5_method_1_code
def yX7_init : MethodName := ⟨RX7, "<init>", "(ILjava/lang/String;Ljava/util/ArrayList;Ljava/util/ArrayList;)V"⟩
def dkwX7_init_1 : List UInt8 := [181, 0, 23, 177]
abbrev dktX7_init_1 : List UInt8 := dkwX7_init_1 ++ []
def dkwX7_init_0 : List UInt8 := [42, 183, 0, 3, 42, 27, 181, 0, 9, 42, 44, 181, 0, 15, 42, 45, 181, 0, 19, 42, 25, 4]
abbrev dktX7_init_0 : List UInt8 := dkwX7_init_0 ++ dktX7_init_1
theorem dksX7_init_0 : cX7_init.data.toList.drop 0 = dktX7_init_0 := by decide +kernel
theorem dksX7_init_1 : cX7_init.data.toList.drop 22 = dktX7_init_1 := dk_seg dksX7_init_0 22 rfl rfl
theorem dX7_init_0 : decode cX7_init 0 = .ok (.aload_n 0, 1) := dk_42 (dk_at dksX7_init_0 0 rfl rfl)
theorem dX7_init_1 : decode cX7_init 1 = .ok (.invokespecial 3, 3) := dk_183 0 3 (dk_at dksX7_init_0 1 rfl rfl)
theorem dX7_init_4 : decode cX7_init 4 = .ok (.aload_n 0, 1) := dk_42 (dk_at dksX7_init_0 4 rfl rfl)
theorem dX7_init_5 : decode cX7_init 5 = .ok (.iload_n 1, 1) := dk_27 (dk_at dksX7_init_0 5 rfl rfl)
theorem dX7_init_6 : decode cX7_init 6 = .ok (.putfield 9, 3) := dk_181 0 9 (dk_at dksX7_init_0 6 rfl rfl)
theorem dX7_init_9 : decode cX7_init 9 = .ok (.aload_n 0, 1) := dk_42 (dk_at dksX7_init_0 9 rfl rfl)
theorem dX7_init_10 : decode cX7_init 10 = .ok (.aload_n 2, 1) := dk_44 (dk_at dksX7_init_0 10 rfl rfl)
theorem dX7_init_11 : decode cX7_init 11 = .ok (.putfield 15, 3) := dk_181 0 15 (dk_at dksX7_init_0 11 rfl rfl)
theorem dX7_init_14 : decode cX7_init 14 = .ok (.aload_n 0, 1) := dk_42 (dk_at dksX7_init_0 14 rfl rfl)
theorem dX7_init_15 : decode cX7_init 15 = .ok (.aload_n 3, 1) := dk_45 (dk_at dksX7_init_0 15 rfl rfl)
theorem dX7_init_16 : decode cX7_init 16 = .ok (.putfield 19, 3) := dk_181 0 19 (dk_at dksX7_init_0 16 rfl rfl)
theorem dX7_init_19 : decode cX7_init 19 = .ok (.aload_n 0, 1) := dk_42 (dk_at dksX7_init_0 19 rfl rfl)
theorem dX7_init_20 : decode cX7_init 20 = .ok (.aload 4, 2) := dk_25 4 (dk_at dksX7_init_0 20 rfl rfl)
theorem dX7_init_22 : decode cX7_init 22 = .ok (.putfield 23, 3) := dk_181 0 23 (dk_at dksX7_init_1 0 rfl rfl)
theorem dX7_init_25 : decode cX7_init 25 = .ok (.return_, 1) := dk_177 (dk_at dksX7_init_1 3 rfl rfl)
abbrev cX7_tell : ByteArray := prog_5_method_2_code
def yX7_tell : MethodName := ⟨RX7, "tell", "(LVaryStore$Control;LVaryStore$Headers;I)V"⟩
def dkwX7_tell_4 : List UInt8 := [184, 0, 49, 181, 0, 60, 42, 29, 181, 0, 62, 177]
abbrev dktX7_tell_4 : List UInt8 := dkwX7_tell_4 ++ []
def dkwX7_tell_3 : List UInt8 := [167, 0, 12, 3, 21, 7, 21, 6, 100, 184, 0, 49, 181, 0, 55, 42, 3, 44, 18, 58, 182, 0, 42]
abbrev dktX7_tell_3 : List UInt8 := dkwX7_tell_3 ++ dktX7_tell_4
def dkwX7_tell_2 : List UInt8 := [21, 5, 155, 0, 8, 21, 5, 167, 0, 28, 21, 6, 2, 159, 0, 9, 21, 7, 2, 160, 0, 7, 3]
abbrev dktX7_tell_2 : List UInt8 := dkwX7_tell_2 ++ dktX7_tell_3
def dkwX7_tell_1 : List UInt8 := [182, 0, 42, 54, 6, 44, 18, 47, 182, 0, 42, 54, 7, 42, 21, 4, 155, 0, 8, 21, 4, 167, 0, 38]
abbrev dktX7_tell_1 : List UInt8 := dkwX7_tell_1 ++ dktX7_tell_2
def dkwX7_tell_0 : List UInt8 := [42, 43, 181, 0, 26, 43, 18, 30, 182, 0, 32, 54, 4, 43, 18, 38, 182, 0, 32, 54, 5, 44, 18, 40]
abbrev dktX7_tell_0 : List UInt8 := dkwX7_tell_0 ++ dktX7_tell_1
theorem dksX7_tell_0 : cX7_tell.data.toList.drop 0 = dktX7_tell_0 := by decide +kernel
theorem dksX7_tell_1 : cX7_tell.data.toList.drop 24 = dktX7_tell_1 := dk_seg dksX7_tell_0 24 rfl rfl
theorem dksX7_tell_2 : cX7_tell.data.toList.drop 48 = dktX7_tell_2 := dk_seg dksX7_tell_1 24 rfl rfl
theorem dksX7_tell_3 : cX7_tell.data.toList.drop 71 = dktX7_tell_3 := dk_seg dksX7_tell_2 23 rfl rfl
theorem dksX7_tell_4 : cX7_tell.data.toList.drop 94 = dktX7_tell_4 := dk_seg dksX7_tell_3 23 rfl rfl
theorem dX7_tell_0 : decode cX7_tell 0 = .ok (.aload_n 0, 1) := dk_42 (dk_at dksX7_tell_0 0 rfl rfl)
theorem dX7_tell_1 : decode cX7_tell 1 = .ok (.aload_n 1, 1) := dk_43 (dk_at dksX7_tell_0 1 rfl rfl)
theorem dX7_tell_2 : decode cX7_tell 2 = .ok (.putfield 26, 3) := dk_181 0 26 (dk_at dksX7_tell_0 2 rfl rfl)
theorem dX7_tell_5 : decode cX7_tell 5 = .ok (.aload_n 1, 1) := dk_43 (dk_at dksX7_tell_0 5 rfl rfl)
theorem dX7_tell_6 : decode cX7_tell 6 = .ok (.ldc 30, 2) := dk_18 30 (dk_at dksX7_tell_0 6 rfl rfl)
theorem dX7_tell_8 : decode cX7_tell 8 = .ok (.invokevirtual 32, 3) := dk_182 0 32 (dk_at dksX7_tell_0 8 rfl rfl)
theorem dX7_tell_11 : decode cX7_tell 11 = .ok (.istore 4, 2) := dk_54 4 (dk_at dksX7_tell_0 11 rfl rfl)
theorem dX7_tell_13 : decode cX7_tell 13 = .ok (.aload_n 1, 1) := dk_43 (dk_at dksX7_tell_0 13 rfl rfl)
theorem dX7_tell_14 : decode cX7_tell 14 = .ok (.ldc 38, 2) := dk_18 38 (dk_at dksX7_tell_0 14 rfl rfl)
theorem dX7_tell_16 : decode cX7_tell 16 = .ok (.invokevirtual 32, 3) := dk_182 0 32 (dk_at dksX7_tell_0 16 rfl rfl)
theorem dX7_tell_19 : decode cX7_tell 19 = .ok (.istore 5, 2) := dk_54 5 (dk_at dksX7_tell_0 19 rfl rfl)
theorem dX7_tell_21 : decode cX7_tell 21 = .ok (.aload_n 2, 1) := dk_44 (dk_at dksX7_tell_0 21 rfl rfl)
theorem dX7_tell_22 : decode cX7_tell 22 = .ok (.ldc 40, 2) := dk_18 40 (dk_at dksX7_tell_0 22 rfl rfl)
theorem dX7_tell_24 : decode cX7_tell 24 = .ok (.invokevirtual 42, 3) := dk_182 0 42 (dk_at dksX7_tell_1 0 rfl rfl)
theorem dX7_tell_27 : decode cX7_tell 27 = .ok (.istore 6, 2) := dk_54 6 (dk_at dksX7_tell_1 3 rfl rfl)
theorem dX7_tell_29 : decode cX7_tell 29 = .ok (.aload_n 2, 1) := dk_44 (dk_at dksX7_tell_1 5 rfl rfl)
theorem dX7_tell_30 : decode cX7_tell 30 = .ok (.ldc 47, 2) := dk_18 47 (dk_at dksX7_tell_1 6 rfl rfl)
theorem dX7_tell_32 : decode cX7_tell 32 = .ok (.invokevirtual 42, 3) := dk_182 0 42 (dk_at dksX7_tell_1 8 rfl rfl)
theorem dX7_tell_35 : decode cX7_tell 35 = .ok (.istore 7, 2) := dk_54 7 (dk_at dksX7_tell_1 11 rfl rfl)
theorem dX7_tell_37 : decode cX7_tell 37 = .ok (.aload_n 0, 1) := dk_42 (dk_at dksX7_tell_1 13 rfl rfl)
theorem dX7_tell_38 : decode cX7_tell 38 = .ok (.iload 4, 2) := dk_21 4 (dk_at dksX7_tell_1 14 rfl rfl)
theorem dX7_tell_40 : decode cX7_tell 40 = .ok (.ifCond .lt 8, 3) := dk_155 0 8 (dk_at dksX7_tell_1 16 rfl rfl)
theorem dX7_tell_43 : decode cX7_tell 43 = .ok (.iload 4, 2) := dk_21 4 (dk_at dksX7_tell_1 19 rfl rfl)
theorem dX7_tell_45 : decode cX7_tell 45 = .ok (.goto 38, 3) := dk_167 0 38 (dk_at dksX7_tell_1 21 rfl rfl)
theorem dX7_tell_48 : decode cX7_tell 48 = .ok (.iload 5, 2) := dk_21 5 (dk_at dksX7_tell_2 0 rfl rfl)
theorem dX7_tell_50 : decode cX7_tell 50 = .ok (.ifCond .lt 8, 3) := dk_155 0 8 (dk_at dksX7_tell_2 2 rfl rfl)
theorem dX7_tell_53 : decode cX7_tell 53 = .ok (.iload 5, 2) := dk_21 5 (dk_at dksX7_tell_2 5 rfl rfl)
theorem dX7_tell_55 : decode cX7_tell 55 = .ok (.goto 28, 3) := dk_167 0 28 (dk_at dksX7_tell_2 7 rfl rfl)
theorem dX7_tell_58 : decode cX7_tell 58 = .ok (.iload 6, 2) := dk_21 6 (dk_at dksX7_tell_2 10 rfl rfl)
theorem dX7_tell_60 : decode cX7_tell 60 = .ok (.iconst (-1), 1) := dk_2 (dk_at dksX7_tell_2 12 rfl rfl)
theorem dX7_tell_61 : decode cX7_tell 61 = .ok (.if_icmp .eq 9, 3) := dk_159 0 9 (dk_at dksX7_tell_2 13 rfl rfl)
theorem dX7_tell_64 : decode cX7_tell 64 = .ok (.iload 7, 2) := dk_21 7 (dk_at dksX7_tell_2 16 rfl rfl)
theorem dX7_tell_66 : decode cX7_tell 66 = .ok (.iconst (-1), 1) := dk_2 (dk_at dksX7_tell_2 18 rfl rfl)
theorem dX7_tell_67 : decode cX7_tell 67 = .ok (.if_icmp .ne 7, 3) := dk_160 0 7 (dk_at dksX7_tell_2 19 rfl rfl)
theorem dX7_tell_70 : decode cX7_tell 70 = .ok (.iconst 0, 1) := dk_3 (dk_at dksX7_tell_2 22 rfl rfl)
theorem dX7_tell_71 : decode cX7_tell 71 = .ok (.goto 12, 3) := dk_167 0 12 (dk_at dksX7_tell_3 0 rfl rfl)
theorem dX7_tell_74 : decode cX7_tell 74 = .ok (.iconst 0, 1) := dk_3 (dk_at dksX7_tell_3 3 rfl rfl)
theorem dX7_tell_75 : decode cX7_tell 75 = .ok (.iload 7, 2) := dk_21 7 (dk_at dksX7_tell_3 4 rfl rfl)
theorem dX7_tell_77 : decode cX7_tell 77 = .ok (.iload 6, 2) := dk_21 6 (dk_at dksX7_tell_3 6 rfl rfl)
theorem dX7_tell_79 : decode cX7_tell 79 = .ok (.isub, 1) := dk_100 (dk_at dksX7_tell_3 8 rfl rfl)
theorem dX7_tell_80 : decode cX7_tell 80 = .ok (.invokestatic 49, 3) := dk_184 0 49 (dk_at dksX7_tell_3 9 rfl rfl)
theorem dX7_tell_83 : decode cX7_tell 83 = .ok (.putfield 55, 3) := dk_181 0 55 (dk_at dksX7_tell_3 12 rfl rfl)
theorem dX7_tell_86 : decode cX7_tell 86 = .ok (.aload_n 0, 1) := dk_42 (dk_at dksX7_tell_3 15 rfl rfl)
theorem dX7_tell_87 : decode cX7_tell 87 = .ok (.iconst 0, 1) := dk_3 (dk_at dksX7_tell_3 16 rfl rfl)
theorem dX7_tell_88 : decode cX7_tell 88 = .ok (.aload_n 2, 1) := dk_44 (dk_at dksX7_tell_3 17 rfl rfl)
theorem dX7_tell_89 : decode cX7_tell 89 = .ok (.ldc 58, 2) := dk_18 58 (dk_at dksX7_tell_3 18 rfl rfl)
theorem dX7_tell_91 : decode cX7_tell 91 = .ok (.invokevirtual 42, 3) := dk_182 0 42 (dk_at dksX7_tell_3 20 rfl rfl)
theorem dX7_tell_94 : decode cX7_tell 94 = .ok (.invokestatic 49, 3) := dk_184 0 49 (dk_at dksX7_tell_4 0 rfl rfl)
theorem dX7_tell_97 : decode cX7_tell 97 = .ok (.putfield 60, 3) := dk_181 0 60 (dk_at dksX7_tell_4 3 rfl rfl)
theorem dX7_tell_100 : decode cX7_tell 100 = .ok (.aload_n 0, 1) := dk_42 (dk_at dksX7_tell_4 6 rfl rfl)
theorem dX7_tell_101 : decode cX7_tell 101 = .ok (.iload_n 3, 1) := dk_29 (dk_at dksX7_tell_4 7 rfl rfl)
theorem dX7_tell_102 : decode cX7_tell 102 = .ok (.putfield 62, 3) := dk_181 0 62 (dk_at dksX7_tell_4 8 rfl rfl)
theorem dX7_tell_105 : decode cX7_tell 105 = .ok (.return_, 1) := dk_177 (dk_at dksX7_tell_4 11 rfl rfl)
abbrev cX7_isLike : ByteArray := prog_5_method_6_code
def yX7_isLike : MethodName := ⟨RX7, "isLike", "(LVaryStore$Thing;)Z"⟩
def dkwX7_isLike_1 : List UInt8 := [153, 0, 21, 42, 180, 0, 23, 43, 180, 0, 23, 182, 0, 79, 153, 0, 7, 4, 167, 0, 4, 3, 172]
abbrev dktX7_isLike_1 : List UInt8 := dkwX7_isLike_1 ++ []
def dkwX7_isLike_0 : List UInt8 := [42, 180, 0, 9, 43, 180, 0, 9, 160, 0, 35, 42, 180, 0, 19, 43, 180, 0, 19, 182, 0, 79]
abbrev dktX7_isLike_0 : List UInt8 := dkwX7_isLike_0 ++ dktX7_isLike_1
theorem dksX7_isLike_0 : cX7_isLike.data.toList.drop 0 = dktX7_isLike_0 := by decide +kernel
theorem dksX7_isLike_1 : cX7_isLike.data.toList.drop 22 = dktX7_isLike_1 := dk_seg dksX7_isLike_0 22 rfl rfl
theorem dX7_isLike_0 : decode cX7_isLike 0 = .ok (.aload_n 0, 1) := dk_42 (dk_at dksX7_isLike_0 0 rfl rfl)
theorem dX7_isLike_1 : decode cX7_isLike 1 = .ok (.getfield 9, 3) := dk_180 0 9 (dk_at dksX7_isLike_0 1 rfl rfl)
theorem dX7_isLike_4 : decode cX7_isLike 4 = .ok (.aload_n 1, 1) := dk_43 (dk_at dksX7_isLike_0 4 rfl rfl)
theorem dX7_isLike_5 : decode cX7_isLike 5 = .ok (.getfield 9, 3) := dk_180 0 9 (dk_at dksX7_isLike_0 5 rfl rfl)
theorem dX7_isLike_8 : decode cX7_isLike 8 = .ok (.if_icmp .ne 35, 3) := dk_160 0 35 (dk_at dksX7_isLike_0 8 rfl rfl)
theorem dX7_isLike_11 : decode cX7_isLike 11 = .ok (.aload_n 0, 1) := dk_42 (dk_at dksX7_isLike_0 11 rfl rfl)
theorem dX7_isLike_12 : decode cX7_isLike 12 = .ok (.getfield 19, 3) := dk_180 0 19 (dk_at dksX7_isLike_0 12 rfl rfl)
theorem dX7_isLike_15 : decode cX7_isLike 15 = .ok (.aload_n 1, 1) := dk_43 (dk_at dksX7_isLike_0 15 rfl rfl)
theorem dX7_isLike_16 : decode cX7_isLike 16 = .ok (.getfield 19, 3) := dk_180 0 19 (dk_at dksX7_isLike_0 16 rfl rfl)
theorem dX7_isLike_19 : decode cX7_isLike 19 = .ok (.invokevirtual 79, 3) := dk_182 0 79 (dk_at dksX7_isLike_0 19 rfl rfl)
theorem dX7_isLike_22 : decode cX7_isLike 22 = .ok (.ifCond .eq 21, 3) := dk_153 0 21 (dk_at dksX7_isLike_1 0 rfl rfl)
theorem dX7_isLike_25 : decode cX7_isLike 25 = .ok (.aload_n 0, 1) := dk_42 (dk_at dksX7_isLike_1 3 rfl rfl)
theorem dX7_isLike_26 : decode cX7_isLike 26 = .ok (.getfield 23, 3) := dk_180 0 23 (dk_at dksX7_isLike_1 4 rfl rfl)
theorem dX7_isLike_29 : decode cX7_isLike 29 = .ok (.aload_n 1, 1) := dk_43 (dk_at dksX7_isLike_1 7 rfl rfl)
theorem dX7_isLike_30 : decode cX7_isLike 30 = .ok (.getfield 23, 3) := dk_180 0 23 (dk_at dksX7_isLike_1 8 rfl rfl)
theorem dX7_isLike_33 : decode cX7_isLike 33 = .ok (.invokevirtual 79, 3) := dk_182 0 79 (dk_at dksX7_isLike_1 11 rfl rfl)
theorem dX7_isLike_36 : decode cX7_isLike 36 = .ok (.ifCond .eq 7, 3) := dk_153 0 7 (dk_at dksX7_isLike_1 14 rfl rfl)
theorem dX7_isLike_39 : decode cX7_isLike 39 = .ok (.iconst 1, 1) := dk_4 (dk_at dksX7_isLike_1 17 rfl rfl)
theorem dX7_isLike_40 : decode cX7_isLike 40 = .ok (.goto 4, 3) := dk_167 0 4 (dk_at dksX7_isLike_1 18 rfl rfl)
theorem dX7_isLike_43 : decode cX7_isLike 43 = .ok (.iconst 0, 1) := dk_3 (dk_at dksX7_isLike_1 21 rfl rfl)
theorem dX7_isLike_44 : decode cX7_isLike 44 = .ok (.ireturn, 1) := dk_172 (dk_at dksX7_isLike_1 22 rfl rfl)
theorem q60 : (Jvm.Cond.initialized "VaryStore$Thing") ∈ lw_all := lw_g (lw_at lw_m1 29 rfl) rfl
theorem q525 : (Jvm.Cond.selects "VaryStore$Thing" ({ cls := "java/lang/Object", name := "getClass", desc := "()Ljava/lang/Class;" } : Jvm.MethodName) ({ cls := "java/lang/Object", name := "getClass", desc := "()Ljava/lang/Class;" } : Jvm.MethodName)) ∈ lw_all := lw_g (lw_at lw_m3 14 rfl) rfl
theorem q829 : (Jvm.Cond.instanceMethod ({ cls := "VaryStore$Thing", name := "ageAt", desc := "(I)I" } : Jvm.MethodName)) ∈ lw_all := lw_g (lw_at lw_m4 78 rfl) rfl
theorem q830 : (Jvm.Cond.selects "VaryStore$Thing" ({ cls := "VaryStore$Thing", name := "ageAt", desc := "(I)I" } : Jvm.MethodName) ({ cls := "VaryStore$Thing", name := "ageAt", desc := "(I)I" } : Jvm.MethodName)) ∈ lw_all := lw_g (lw_at lw_m4 79 rfl) rfl
theorem q831 : (Jvm.Cond.code ({ cls := "VaryStore$Thing", name := "ageAt", desc := "(I)I" } : Jvm.MethodName) prog_5_method_3_code (2 : Nat) (Option.some Jvm.ClassFile.FieldType.int)) ∈ lw_all := lw_g (lw_at lw_m4 80 rfl) rfl
theorem q849 : (Jvm.Cond.instanceMethod ({ cls := "VaryStore$Thing", name := "isFresh", desc := "(I)Z" } : Jvm.MethodName)) ∈ lw_all := lw_g (lw_at lw_m4 98 rfl) rfl
theorem q850 : (Jvm.Cond.selects "VaryStore$Thing" ({ cls := "VaryStore$Thing", name := "isFresh", desc := "(I)Z" } : Jvm.MethodName) ({ cls := "VaryStore$Thing", name := "isFresh", desc := "(I)Z" } : Jvm.MethodName)) ∈ lw_all := lw_g (lw_at lw_m4 99 rfl) rfl
theorem q851 : (Jvm.Cond.code ({ cls := "VaryStore$Thing", name := "isFresh", desc := "(I)Z" } : Jvm.MethodName) prog_5_method_4_code (2 : Nat) (Option.some Jvm.ClassFile.FieldType.boolean)) ∈ lw_all := lw_g (lw_at lw_m4 100 rfl) rfl
theorem q852 : (Jvm.Cond.stringRef "VaryStore$Thing" (65 : Nat) "no-cache") ∈ lw_tbl := lw_at lw_m4 101 rfl
theorem q853 : (Jvm.Cond.methodLink "VaryStore$Thing" (67 : Nat) ({ cls := "VaryStore$Control", name := "has", desc := "(Ljava/lang/String;)Z" } : Jvm.MethodName)) ∈ lw_all := lw_g (lw_at lw_m4 102 rfl) rfl
theorem q854 : (Jvm.Cond.methodLink "VaryStore$Thing" (71 : Nat) ({ cls := "VaryStore$Thing", name := "ageAt", desc := "(I)I" } : Jvm.MethodName)) ∈ lw_all := lw_g (lw_at lw_m4 103 rfl) rfl
theorem q857 : (Jvm.Cond.instanceMethod ({ cls := "VaryStore$Thing", name := "isStrict", desc := "()Z" } : Jvm.MethodName)) ∈ lw_all := lw_g (lw_at lw_m4 106 rfl) rfl
theorem q858 : (Jvm.Cond.selects "VaryStore$Thing" ({ cls := "VaryStore$Thing", name := "isStrict", desc := "()Z" } : Jvm.MethodName) ({ cls := "VaryStore$Thing", name := "isStrict", desc := "()Z" } : Jvm.MethodName)) ∈ lw_all := lw_g (lw_at lw_m4 107 rfl) rfl
theorem q859 : (Jvm.Cond.code ({ cls := "VaryStore$Thing", name := "isStrict", desc := "()Z" } : Jvm.MethodName) prog_5_method_5_code (1 : Nat) (Option.some Jvm.ClassFile.FieldType.boolean)) ∈ lw_all := lw_g (lw_at lw_m4 108 rfl) rfl
theorem q860 : (Jvm.Cond.stringRef "VaryStore$Thing" (75 : Nat) "must-revalidate") ∈ lw_tbl := lw_at lw_m4 109 rfl
theorem q861 : (Jvm.Cond.stringRef "VaryStore$Thing" (77 : Nat) "proxy-revalidate") ∈ lw_tbl := lw_at lw_m4 110 rfl
theorem q862 : (Jvm.Cond.stringRef "VaryStore$Thing" (30 : Nat) "s-maxage") ∈ lw_tbl := lw_at lw_m4 111 rfl
theorem q882 : (Jvm.Cond.instantiable "VaryStore$Thing" (9 : Nat)) ∈ lw_all := lw_g (lw_at lw_m4 131 rfl) rfl
theorem q889 : (Jvm.Cond.instanceMethod ({ cls := "VaryStore$Thing", name := "<init>", desc := "(ILjava/lang/String;Ljava/util/ArrayList;Ljava/util/ArrayList;)V" } : Jvm.MethodName)) ∈ lw_all := lw_g (lw_at lw_m4 138 rfl) rfl
theorem q890 : (Jvm.Cond.code ({ cls := "VaryStore$Thing", name := "<init>", desc := "(ILjava/lang/String;Ljava/util/ArrayList;Ljava/util/ArrayList;)V" } : Jvm.MethodName) prog_5_method_1_code (5 : Nat) (Option.none : Option Jvm.ClassFile.FieldType)) ∈ lw_all := lw_g (lw_at lw_m4 139 rfl) rfl
theorem q891 : (Jvm.Cond.methodLink "VaryStore$Thing" (3 : Nat) ({ cls := "java/lang/Object", name := "<init>", desc := "()V" } : Jvm.MethodName)) ∈ lw_all := lw_g (lw_at lw_m4 140 rfl) rfl
theorem q892 : (Jvm.Cond.fieldLink "VaryStore$Thing" (9 : Nat) "VaryStore$Thing" "path" "I") ∈ lw_all := lw_g (lw_at lw_m4 141 rfl) rfl
theorem q894 : (Jvm.Cond.fieldLink "VaryStore$Thing" (15 : Nat) "VaryStore$Thing" "etag" "Ljava/lang/String;") ∈ lw_all := lw_g (lw_at lw_m4 143 rfl) rfl
theorem q896 : (Jvm.Cond.fieldLink "VaryStore$Thing" (19 : Nat) "VaryStore$Thing" "vary" "Ljava/util/ArrayList;") ∈ lw_all := lw_g (lw_at lw_m4 145 rfl) rfl
theorem q898 : (Jvm.Cond.fieldLink "VaryStore$Thing" (23 : Nat) "VaryStore$Thing" "values" "Ljava/util/ArrayList;") ∈ lw_all := lw_g (lw_at lw_m4 147 rfl) rfl
theorem q900 : (Jvm.Cond.fieldLink "VaryStore$Thing" (26 : Nat) "VaryStore$Thing" "control" "LVaryStore$Control;") ∈ lw_all := lw_g (lw_at lw_m4 149 rfl) rfl
theorem q902 : (Jvm.Cond.fieldLink "VaryStore$Thing" (55 : Nat) "VaryStore$Thing" "life" "I") ∈ lw_all := lw_g (lw_at lw_m4 151 rfl) rfl
theorem q904 : (Jvm.Cond.fieldLink "VaryStore$Thing" (60 : Nat) "VaryStore$Thing" "age" "I") ∈ lw_all := lw_g (lw_at lw_m4 153 rfl) rfl
theorem q905 : (Jvm.Cond.fieldLink "VaryStore$Thing" (62 : Nat) "VaryStore$Thing" "since" "I") ∈ lw_all := lw_g (lw_at lw_m4 154 rfl) rfl
theorem q907 : (Jvm.Cond.laysFinal "VaryStore$Thing" "VaryStore$Thing" "path" "I") ∈ lw_all := lw_g (lw_at lw_m4 156 rfl) rfl
theorem q908 : (Jvm.Cond.soleField "VaryStore$Thing" "path") ∈ lw_all := lw_g (lw_at lw_m4 157 rfl) rfl
theorem q909 : (Jvm.Cond.laysFinal "VaryStore$Thing" "VaryStore$Thing" "etag" "Ljava/lang/String;") ∈ lw_all := lw_g (lw_at lw_m4 158 rfl) rfl
theorem q910 : (Jvm.Cond.soleField "VaryStore$Thing" "etag") ∈ lw_all := lw_g (lw_at lw_m4 159 rfl) rfl
theorem q911 : (Jvm.Cond.laysFinal "VaryStore$Thing" "VaryStore$Thing" "vary" "Ljava/util/ArrayList;") ∈ lw_all := lw_g (lw_at lw_m4 160 rfl) rfl
theorem q912 : (Jvm.Cond.soleField "VaryStore$Thing" "vary") ∈ lw_all := lw_g (lw_at lw_m4 161 rfl) rfl
theorem q913 : (Jvm.Cond.laysFinal "VaryStore$Thing" "VaryStore$Thing" "values" "Ljava/util/ArrayList;") ∈ lw_all := lw_g (lw_at lw_m4 162 rfl) rfl
theorem q914 : (Jvm.Cond.soleField "VaryStore$Thing" "values") ∈ lw_all := lw_g (lw_at lw_m4 163 rfl) rfl
theorem q915 : (Jvm.Cond.lays "VaryStore$Thing" "VaryStore$Thing" "control" "LVaryStore$Control;") ∈ lw_all := lw_g (lw_at lw_m4 164 rfl) rfl
theorem q916 : (Jvm.Cond.soleField "VaryStore$Thing" "control") ∈ lw_all := lw_g (lw_at lw_m4 165 rfl) rfl
theorem q917 : (Jvm.Cond.lays "VaryStore$Thing" "VaryStore$Thing" "life" "I") ∈ lw_all := lw_g (lw_at lw_m4 166 rfl) rfl
theorem q918 : (Jvm.Cond.soleField "VaryStore$Thing" "life") ∈ lw_all := lw_g (lw_at lw_m4 167 rfl) rfl
theorem q919 : (Jvm.Cond.lays "VaryStore$Thing" "VaryStore$Thing" "age" "I") ∈ lw_all := lw_g (lw_at lw_m4 168 rfl) rfl
theorem q920 : (Jvm.Cond.soleField "VaryStore$Thing" "age") ∈ lw_all := lw_g (lw_at lw_m4 169 rfl) rfl
theorem q921 : (Jvm.Cond.lays "VaryStore$Thing" "VaryStore$Thing" "since" "I") ∈ lw_all := lw_g (lw_at lw_m4 170 rfl) rfl
theorem q922 : (Jvm.Cond.soleField "VaryStore$Thing" "since") ∈ lw_all := lw_g (lw_at lw_m4 171 rfl) rfl
theorem q923 : (Jvm.Cond.lays "VaryStore$Thing" "VaryStore$Thing" "used" "I") ∈ lw_all := lw_g (lw_at lw_m4 172 rfl) rfl
theorem q924 : (Jvm.Cond.soleField "VaryStore$Thing" "used") ∈ lw_all := lw_g (lw_at lw_m4 173 rfl) rfl
theorem q925 : (Jvm.Cond.superclass "VaryStore$Thing" "java/lang/Object") ∈ lw_all := lw_g (lw_at lw_m4 174 rfl) rfl
theorem q927 : (Jvm.Cond.instanceMethod ({ cls := "VaryStore$Thing", name := "tell", desc := "(LVaryStore$Control;LVaryStore$Headers;I)V" } : Jvm.MethodName)) ∈ lw_all := lw_g (lw_at lw_m4 176 rfl) rfl
theorem q928 : (Jvm.Cond.selects "VaryStore$Thing" ({ cls := "VaryStore$Thing", name := "tell", desc := "(LVaryStore$Control;LVaryStore$Headers;I)V" } : Jvm.MethodName) ({ cls := "VaryStore$Thing", name := "tell", desc := "(LVaryStore$Control;LVaryStore$Headers;I)V" } : Jvm.MethodName)) ∈ lw_all := lw_g (lw_at lw_m4 177 rfl) rfl
theorem q929 : (Jvm.Cond.code ({ cls := "VaryStore$Thing", name := "tell", desc := "(LVaryStore$Control;LVaryStore$Headers;I)V" } : Jvm.MethodName) prog_5_method_2_code (8 : Nat) (Option.none : Option Jvm.ClassFile.FieldType)) ∈ lw_all := lw_g (lw_at lw_m4 178 rfl) rfl
theorem q930 : (Jvm.Cond.methodLink "VaryStore$Thing" (32 : Nat) ({ cls := "VaryStore$Control", name := "of", desc := "(Ljava/lang/String;)I" } : Jvm.MethodName)) ∈ lw_all := lw_g (lw_at lw_m4 179 rfl) rfl
theorem q931 : (Jvm.Cond.stringRef "VaryStore$Thing" (38 : Nat) "max-age") ∈ lw_tbl := lw_at lw_m4 180 rfl
theorem q932 : (Jvm.Cond.stringRef "VaryStore$Thing" (40 : Nat) "date") ∈ lw_tbl := lw_at lw_m4 181 rfl
theorem q933 : (Jvm.Cond.methodLink "VaryStore$Thing" (42 : Nat) ({ cls := "VaryStore$Headers", name := "seconds", desc := "(Ljava/lang/String;)I" } : Jvm.MethodName)) ∈ lw_all := lw_g (lw_at lw_m4 182 rfl) rfl
theorem q940 : (Jvm.Cond.stringRef "VaryStore$Thing" (47 : Nat) "expires") ∈ lw_tbl := lw_at lw_m4 189 rfl
theorem q941 : (Jvm.Cond.methodLink "VaryStore$Thing" (49 : Nat) ({ cls := "java/lang/Math", name := "max", desc := "(II)I" } : Jvm.MethodName)) ∈ lw_all := lw_g (lw_at lw_m4 190 rfl) rfl
theorem q942 : (Jvm.Cond.stringRef "VaryStore$Thing" (58 : Nat) "age") ∈ lw_tbl := lw_at lw_m4 191 rfl
theorem q944 : (Jvm.Cond.instanceMethod ({ cls := "VaryStore$Thing", name := "isLike", desc := "(LVaryStore$Thing;)Z" } : Jvm.MethodName)) ∈ lw_all := lw_g (lw_at lw_m4 193 rfl) rfl
theorem q945 : (Jvm.Cond.selects "VaryStore$Thing" ({ cls := "VaryStore$Thing", name := "isLike", desc := "(LVaryStore$Thing;)Z" } : Jvm.MethodName) ({ cls := "VaryStore$Thing", name := "isLike", desc := "(LVaryStore$Thing;)Z" } : Jvm.MethodName)) ∈ lw_all := lw_g (lw_at lw_m4 194 rfl) rfl
theorem q946 : (Jvm.Cond.code ({ cls := "VaryStore$Thing", name := "isLike", desc := "(LVaryStore$Thing;)Z" } : Jvm.MethodName) prog_5_method_6_code (2 : Nat) (Option.some Jvm.ClassFile.FieldType.boolean)) ∈ lw_all := lw_g (lw_at lw_m4 195 rfl) rfl
theorem q947 : (Jvm.Cond.methodLink "VaryStore$Thing" (79 : Nat) ({ cls := "java/util/ArrayList", name := "equals", desc := "(Ljava/lang/Object;)Z" } : Jvm.MethodName)) ∈ lw_all := lw_g (lw_at lw_m4 196 rfl) rfl
theorem q969 : (Jvm.Cond.selects "VaryStore$Thing" ({ cls := "java/lang/Object", name := "equals", desc := "(Ljava/lang/Object;)Z" } : Jvm.MethodName) ({ cls := "java/lang/Object", name := "equals", desc := "(Ljava/lang/Object;)Z" } : Jvm.MethodName)) ∈ lw_all := lw_g (lw_at lw_m4 218 rfl) rfl
theorem q1431 : (Jvm.Cond.castable "VaryStore$Thing" "java/lang/Object") ∈ lw_tbl := lw_at lw_m6 200 rfl
theorem in_X7 : ∀ w ∈ wsX70, w ∈ lw_all := lw_in wsX70 [907, 909, 911, 913, 915, 917, 919, 921, 923] (by decide +kernel) (by decide +kernel)
