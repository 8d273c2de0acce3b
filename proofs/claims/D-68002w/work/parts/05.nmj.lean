/-! java/util/AbstractCollection -/
set_option maxRecDepth 100000
def RJ0 : String := "java/util/AbstractCollection"
abbrev cJ0_init : ByteArray := prog_33_method_1_code
def yJ0_init : MethodName := ⟨RJ0, "<init>", "()V"⟩
theorem dJ0_init_0 : decode cJ0_init 0 = .ok (.aload_n 0, 1) := by decide +kernel
theorem dJ0_init_1 : decode cJ0_init 1 = .ok (.invokespecial 1, 3) := by decide +kernel
theorem dJ0_init_4 : decode cJ0_init 4 = .ok (.return_, 1) := by decide +kernel
theorem q33 : (Jvm.Cond.initialized "java/util/AbstractCollection") ∈ lw_all := lw_g (lw_at lw_m1 2 rfl) rfl
theorem q81 : (Jvm.Cond.instanceMethod ({ cls := "java/util/AbstractCollection", name := "<init>", desc := "()V" } : Jvm.MethodName)) ∈ lw_all := lw_g (lw_at lw_m1 50 rfl) rfl
theorem q82 : (Jvm.Cond.code ({ cls := "java/util/AbstractCollection", name := "<init>", desc := "()V" } : Jvm.MethodName) prog_33_method_1_code (1 : Nat) (Option.none : Option Jvm.ClassFile.FieldType)) ∈ lw_all := lw_g (lw_at lw_m1 51 rfl) rfl
theorem q83 : (Jvm.Cond.methodLink "java/util/AbstractCollection" (1 : Nat) ({ cls := "java/lang/Object", name := "<init>", desc := "()V" } : Jvm.MethodName)) ∈ lw_all := lw_g (lw_at lw_m1 52 rfl) rfl
/-! java/util/AbstractList -/
set_option maxRecDepth 100000
def RJ1 : String := "java/util/AbstractList"
abbrev cJ1_init : ByteArray := prog_34_method_1_code
def yJ1_init : MethodName := ⟨RJ1, "<init>", "()V"⟩
def dkwJ1_init_0 : List UInt8 := [42, 183, 0, 1, 42, 3, 181, 0, 7, 177]
abbrev dktJ1_init_0 : List UInt8 := dkwJ1_init_0 ++ []
theorem dksJ1_init_0 : cJ1_init.data.toList.drop 0 = dktJ1_init_0 := by decide +kernel
theorem dJ1_init_0 : decode cJ1_init 0 = .ok (.aload_n 0, 1) := dk_42 (dk_at dksJ1_init_0 0 rfl rfl)
theorem dJ1_init_1 : decode cJ1_init 1 = .ok (.invokespecial 1, 3) := dk_183 0 1 (dk_at dksJ1_init_0 1 rfl rfl)
theorem dJ1_init_4 : decode cJ1_init 4 = .ok (.aload_n 0, 1) := dk_42 (dk_at dksJ1_init_0 4 rfl rfl)
theorem dJ1_init_5 : decode cJ1_init 5 = .ok (.iconst 0, 1) := dk_3 (dk_at dksJ1_init_0 5 rfl rfl)
theorem dJ1_init_6 : decode cJ1_init 6 = .ok (.putfield 7, 3) := dk_181 0 7 (dk_at dksJ1_init_0 6 rfl rfl)
theorem dJ1_init_9 : decode cJ1_init 9 = .ok (.return_, 1) := dk_177 (dk_at dksJ1_init_0 9 rfl rfl)
theorem q34 : (Jvm.Cond.initialized "java/util/AbstractList") ∈ lw_all := lw_g (lw_at lw_m1 3 rfl) rfl
theorem q78 : (Jvm.Cond.instanceMethod ({ cls := "java/util/AbstractList", name := "<init>", desc := "()V" } : Jvm.MethodName)) ∈ lw_all := lw_g (lw_at lw_m1 47 rfl) rfl
theorem q79 : (Jvm.Cond.code ({ cls := "java/util/AbstractList", name := "<init>", desc := "()V" } : Jvm.MethodName) prog_34_method_1_code (1 : Nat) (Option.none : Option Jvm.ClassFile.FieldType)) ∈ lw_all := lw_g (lw_at lw_m1 48 rfl) rfl
theorem q80 : (Jvm.Cond.methodLink "java/util/AbstractList" (1 : Nat) ({ cls := "java/util/AbstractCollection", name := "<init>", desc := "()V" } : Jvm.MethodName)) ∈ lw_all := lw_g (lw_at lw_m1 49 rfl) rfl
theorem q90 : (Jvm.Cond.fieldLink "java/util/AbstractList" (7 : Nat) "java/util/AbstractList" "modCount" "I") ∈ lw_all := lw_g (lw_at lw_m1 59 rfl) rfl
theorem q99 : (Jvm.Cond.soleField "java/util/AbstractList" "modCount") ∈ lw_all := lw_g (lw_at lw_m1 68 rfl) rfl
/-! java/util/ArrayList -/
set_option maxRecDepth 100000
def RJ2 : String := "java/util/ArrayList"
def TJ2 : u_T := fun k => match k with
  | 0 => ("java/util/AbstractList", "modCount", "I", false)
  | 1 => ("java/util/ArrayList", "elementData", "[Ljava/lang/Object;", false)
  | _ => ("java/util/ArrayList", "size", "I", false)
def tyJ2 : Nat → FieldType := fun k => match k with
  | 0 => .int
  | 1 => .array (.object "java/lang/Object")
  | _ => .int
abbrev wsJ20 : List Cond := u_ws RJ2 TJ2 3
theorem nmJ2 : ∀ a, a < 3 → ∀ b, b < 3 → a ≠ b → (TJ2 a).2.1 ≠ (TJ2 b).2.1 := by decide +kernel
theorem tyJ2_ok : ∀ k, k < 3 → parseFieldDescriptor (TJ2 k).2.2.1 = some (tyJ2 k) := by decide +kernel
abbrev cJ2_init : ByteArray := prog_35_method_2_code
def yJ2_init : MethodName := ⟨RJ2, "<init>", "()V"⟩
def dkwJ2_init_0 : List UInt8 := [42, 183, 0, 1, 42, 178, 0, 39, 181, 0, 9, 177]
abbrev dktJ2_init_0 : List UInt8 := dkwJ2_init_0 ++ []
theorem dksJ2_init_0 : cJ2_init.data.toList.drop 0 = dktJ2_init_0 := by decide +kernel
theorem dJ2_init_0 : decode cJ2_init 0 = .ok (.aload_n 0, 1) := dk_42 (dk_at dksJ2_init_0 0 rfl rfl)
theorem dJ2_init_1 : decode cJ2_init 1 = .ok (.invokespecial 1, 3) := dk_183 0 1 (dk_at dksJ2_init_0 1 rfl rfl)
theorem dJ2_init_4 : decode cJ2_init 4 = .ok (.aload_n 0, 1) := dk_42 (dk_at dksJ2_init_0 4 rfl rfl)
theorem dJ2_init_5 : decode cJ2_init 5 = .ok (.getstatic 39, 3) := dk_178 0 39 (dk_at dksJ2_init_0 5 rfl rfl)
theorem dJ2_init_8 : decode cJ2_init 8 = .ok (.putfield 9, 3) := dk_181 0 9 (dk_at dksJ2_init_0 8 rfl rfl)
theorem dJ2_init_11 : decode cJ2_init 11 = .ok (.return_, 1) := dk_177 (dk_at dksJ2_init_0 11 rfl rfl)
abbrev cJ2_add : ByteArray := prog_35_method_25_code
def yJ2_add : MethodName := ⟨RJ2, "add", "(Ljava/lang/Object;)Z"⟩
def dkwJ2_add_1 : List UInt8 := [172]
abbrev dktJ2_add_1 : List UInt8 := dkwJ2_add_1 ++ []
def dkwJ2_add_0 : List UInt8 := [42, 89, 180, 0, 63, 4, 96, 181, 0, 63, 42, 43, 42, 180, 0, 9, 42, 180, 0, 48, 182, 0, 131, 4]
abbrev dktJ2_add_0 : List UInt8 := dkwJ2_add_0 ++ dktJ2_add_1
theorem dksJ2_add_0 : cJ2_add.data.toList.drop 0 = dktJ2_add_0 := by decide +kernel
theorem dksJ2_add_1 : cJ2_add.data.toList.drop 24 = dktJ2_add_1 := dk_seg dksJ2_add_0 24 rfl rfl
theorem dJ2_add_0 : decode cJ2_add 0 = .ok (.aload_n 0, 1) := dk_42 (dk_at dksJ2_add_0 0 rfl rfl)
theorem dJ2_add_1 : decode cJ2_add 1 = .ok (.dup, 1) := dk_89 (dk_at dksJ2_add_0 1 rfl rfl)
theorem dJ2_add_2 : decode cJ2_add 2 = .ok (.getfield 63, 3) := dk_180 0 63 (dk_at dksJ2_add_0 2 rfl rfl)
theorem dJ2_add_5 : decode cJ2_add 5 = .ok (.iconst 1, 1) := dk_4 (dk_at dksJ2_add_0 5 rfl rfl)
theorem dJ2_add_6 : decode cJ2_add 6 = .ok (.iadd, 1) := dk_96 (dk_at dksJ2_add_0 6 rfl rfl)
theorem dJ2_add_7 : decode cJ2_add 7 = .ok (.putfield 63, 3) := dk_181 0 63 (dk_at dksJ2_add_0 7 rfl rfl)
theorem dJ2_add_10 : decode cJ2_add 10 = .ok (.aload_n 0, 1) := dk_42 (dk_at dksJ2_add_0 10 rfl rfl)
theorem dJ2_add_11 : decode cJ2_add 11 = .ok (.aload_n 1, 1) := dk_43 (dk_at dksJ2_add_0 11 rfl rfl)
theorem dJ2_add_12 : decode cJ2_add 12 = .ok (.aload_n 0, 1) := dk_42 (dk_at dksJ2_add_0 12 rfl rfl)
theorem dJ2_add_13 : decode cJ2_add 13 = .ok (.getfield 9, 3) := dk_180 0 9 (dk_at dksJ2_add_0 13 rfl rfl)
theorem dJ2_add_16 : decode cJ2_add 16 = .ok (.aload_n 0, 1) := dk_42 (dk_at dksJ2_add_0 16 rfl rfl)
theorem dJ2_add_17 : decode cJ2_add 17 = .ok (.getfield 48, 3) := dk_180 0 48 (dk_at dksJ2_add_0 17 rfl rfl)
theorem dJ2_add_20 : decode cJ2_add 20 = .ok (.invokevirtual 131, 3) := dk_182 0 131 (dk_at dksJ2_add_0 20 rfl rfl)
theorem dJ2_add_23 : decode cJ2_add 23 = .ok (.iconst 1, 1) := dk_4 (dk_at dksJ2_add_0 23 rfl rfl)
theorem dJ2_add_24 : decode cJ2_add 24 = .ok (.ireturn, 1) := dk_172 (dk_at dksJ2_add_1 0 rfl rfl)
abbrev cJ2_add_2 : ByteArray := prog_35_method_24_code
def yJ2_add_2 : MethodName := ⟨RJ2, "add", "(Ljava/lang/Object;[Ljava/lang/Object;I)V"⟩
def dkwJ2_add_2_0 : List UInt8 := [29, 44, 190, 160, 0, 8, 42, 182, 0, 129, 77, 44, 29, 43, 83, 42, 29, 4, 96, 181, 0, 48, 177]
abbrev dktJ2_add_2_0 : List UInt8 := dkwJ2_add_2_0 ++ []
theorem dksJ2_add_2_0 : cJ2_add_2.data.toList.drop 0 = dktJ2_add_2_0 := by decide +kernel
theorem dJ2_add_2_0 : decode cJ2_add_2 0 = .ok (.iload_n 3, 1) := dk_29 (dk_at dksJ2_add_2_0 0 rfl rfl)
theorem dJ2_add_2_1 : decode cJ2_add_2 1 = .ok (.aload_n 2, 1) := dk_44 (dk_at dksJ2_add_2_0 1 rfl rfl)
theorem dJ2_add_2_2 : decode cJ2_add_2 2 = .ok (.arraylength, 1) := dk_190 (dk_at dksJ2_add_2_0 2 rfl rfl)
theorem dJ2_add_2_3 : decode cJ2_add_2 3 = .ok (.if_icmp .ne 8, 3) := dk_160 0 8 (dk_at dksJ2_add_2_0 3 rfl rfl)
theorem dJ2_add_2_6 : decode cJ2_add_2 6 = .ok (.aload_n 0, 1) := dk_42 (dk_at dksJ2_add_2_0 6 rfl rfl)
theorem dJ2_add_2_7 : decode cJ2_add_2 7 = .ok (.invokevirtual 129, 3) := dk_182 0 129 (dk_at dksJ2_add_2_0 7 rfl rfl)
theorem dJ2_add_2_10 : decode cJ2_add_2 10 = .ok (.astore_n 2, 1) := dk_77 (dk_at dksJ2_add_2_0 10 rfl rfl)
theorem dJ2_add_2_11 : decode cJ2_add_2 11 = .ok (.aload_n 2, 1) := dk_44 (dk_at dksJ2_add_2_0 11 rfl rfl)
theorem dJ2_add_2_12 : decode cJ2_add_2 12 = .ok (.iload_n 3, 1) := dk_29 (dk_at dksJ2_add_2_0 12 rfl rfl)
theorem dJ2_add_2_13 : decode cJ2_add_2 13 = .ok (.aload_n 1, 1) := dk_43 (dk_at dksJ2_add_2_0 13 rfl rfl)
theorem dJ2_add_2_14 : decode cJ2_add_2 14 = .ok (.aastore, 1) := dk_83 (dk_at dksJ2_add_2_0 14 rfl rfl)
theorem dJ2_add_2_15 : decode cJ2_add_2 15 = .ok (.aload_n 0, 1) := dk_42 (dk_at dksJ2_add_2_0 15 rfl rfl)
theorem dJ2_add_2_16 : decode cJ2_add_2 16 = .ok (.iload_n 3, 1) := dk_29 (dk_at dksJ2_add_2_0 16 rfl rfl)
theorem dJ2_add_2_17 : decode cJ2_add_2 17 = .ok (.iconst 1, 1) := dk_4 (dk_at dksJ2_add_2_0 17 rfl rfl)
theorem dJ2_add_2_18 : decode cJ2_add_2 18 = .ok (.iadd, 1) := dk_96 (dk_at dksJ2_add_2_0 18 rfl rfl)
theorem dJ2_add_2_19 : decode cJ2_add_2 19 = .ok (.putfield 48, 3) := dk_181 0 48 (dk_at dksJ2_add_2_0 19 rfl rfl)
theorem dJ2_add_2_22 : decode cJ2_add_2 22 = .ok (.return_, 1) := dk_177 (dk_at dksJ2_add_2_0 22 rfl rfl)
abbrev cJ2_grow : ByteArray := prog_35_method_7_code
def yJ2_grow : MethodName := ⟨RJ2, "grow", "()[Ljava/lang/Object;"⟩
def dkwJ2_grow_0 : List UInt8 := [42, 42, 180, 0, 48, 4, 96, 182, 0, 69, 176]
abbrev dktJ2_grow_0 : List UInt8 := dkwJ2_grow_0 ++ []
theorem dksJ2_grow_0 : cJ2_grow.data.toList.drop 0 = dktJ2_grow_0 := by decide +kernel
theorem dJ2_grow_0 : decode cJ2_grow 0 = .ok (.aload_n 0, 1) := dk_42 (dk_at dksJ2_grow_0 0 rfl rfl)
theorem dJ2_grow_1 : decode cJ2_grow 1 = .ok (.aload_n 0, 1) := dk_42 (dk_at dksJ2_grow_0 1 rfl rfl)
theorem dJ2_grow_2 : decode cJ2_grow 2 = .ok (.getfield 48, 3) := dk_180 0 48 (dk_at dksJ2_grow_0 2 rfl rfl)
theorem dJ2_grow_5 : decode cJ2_grow 5 = .ok (.iconst 1, 1) := dk_4 (dk_at dksJ2_grow_0 5 rfl rfl)
theorem dJ2_grow_6 : decode cJ2_grow 6 = .ok (.iadd, 1) := dk_96 (dk_at dksJ2_grow_0 6 rfl rfl)
theorem dJ2_grow_7 : decode cJ2_grow 7 = .ok (.invokevirtual 69, 3) := dk_182 0 69 (dk_at dksJ2_grow_0 7 rfl rfl)
theorem dJ2_grow_10 : decode cJ2_grow 10 = .ok (.areturn, 1) := dk_176 (dk_at dksJ2_grow_0 10 rfl rfl)
abbrev cJ2_grow_2 : ByteArray := prog_35_method_6_code
def yJ2_grow_2 : MethodName := ⟨RJ2, "grow", "(I)[Ljava/lang/Object;"⟩
def dkwJ2_grow_2_2 : List UInt8 := [27, 184, 0, 79, 189, 0, 7, 90, 181, 0, 9, 176]
abbrev dktJ2_grow_2_2 : List UInt8 := dkwJ2_grow_2_2 ++ []
def dkwJ2_grow_2_1 : List UInt8 := [28, 4, 122, 184, 0, 73, 62, 42, 42, 180, 0, 9, 29, 184, 0, 66, 90, 181, 0, 9, 176, 42, 16, 10]
abbrev dktJ2_grow_2_1 : List UInt8 := dkwJ2_grow_2_1 ++ dktJ2_grow_2_2
def dkwJ2_grow_2_0 : List UInt8 := [42, 180, 0, 9, 190, 61, 28, 157, 0, 13, 42, 180, 0, 9, 178, 0, 39, 165, 0, 28, 28, 27, 28, 100]
abbrev dktJ2_grow_2_0 : List UInt8 := dkwJ2_grow_2_0 ++ dktJ2_grow_2_1
theorem dksJ2_grow_2_0 : cJ2_grow_2.data.toList.drop 0 = dktJ2_grow_2_0 := by decide +kernel
theorem dksJ2_grow_2_1 : cJ2_grow_2.data.toList.drop 24 = dktJ2_grow_2_1 := dk_seg dksJ2_grow_2_0 24 rfl rfl
theorem dksJ2_grow_2_2 : cJ2_grow_2.data.toList.drop 48 = dktJ2_grow_2_2 := dk_seg dksJ2_grow_2_1 24 rfl rfl
theorem dJ2_grow_2_0 : decode cJ2_grow_2 0 = .ok (.aload_n 0, 1) := dk_42 (dk_at dksJ2_grow_2_0 0 rfl rfl)
theorem dJ2_grow_2_1 : decode cJ2_grow_2 1 = .ok (.getfield 9, 3) := dk_180 0 9 (dk_at dksJ2_grow_2_0 1 rfl rfl)
theorem dJ2_grow_2_4 : decode cJ2_grow_2 4 = .ok (.arraylength, 1) := dk_190 (dk_at dksJ2_grow_2_0 4 rfl rfl)
theorem dJ2_grow_2_5 : decode cJ2_grow_2 5 = .ok (.istore_n 2, 1) := dk_61 (dk_at dksJ2_grow_2_0 5 rfl rfl)
theorem dJ2_grow_2_6 : decode cJ2_grow_2 6 = .ok (.iload_n 2, 1) := dk_28 (dk_at dksJ2_grow_2_0 6 rfl rfl)
theorem dJ2_grow_2_7 : decode cJ2_grow_2 7 = .ok (.ifCond .gt 13, 3) := dk_157 0 13 (dk_at dksJ2_grow_2_0 7 rfl rfl)
theorem dJ2_grow_2_10 : decode cJ2_grow_2 10 = .ok (.aload_n 0, 1) := dk_42 (dk_at dksJ2_grow_2_0 10 rfl rfl)
theorem dJ2_grow_2_11 : decode cJ2_grow_2 11 = .ok (.getfield 9, 3) := dk_180 0 9 (dk_at dksJ2_grow_2_0 11 rfl rfl)
theorem dJ2_grow_2_14 : decode cJ2_grow_2 14 = .ok (.getstatic 39, 3) := dk_178 0 39 (dk_at dksJ2_grow_2_0 14 rfl rfl)
theorem dJ2_grow_2_17 : decode cJ2_grow_2 17 = .ok (.if_acmp .eq 28, 3) := dk_165 0 28 (dk_at dksJ2_grow_2_0 17 rfl rfl)
theorem dJ2_grow_2_20 : decode cJ2_grow_2 20 = .ok (.iload_n 2, 1) := dk_28 (dk_at dksJ2_grow_2_0 20 rfl rfl)
theorem dJ2_grow_2_21 : decode cJ2_grow_2 21 = .ok (.iload_n 1, 1) := dk_27 (dk_at dksJ2_grow_2_0 21 rfl rfl)
theorem dJ2_grow_2_22 : decode cJ2_grow_2 22 = .ok (.iload_n 2, 1) := dk_28 (dk_at dksJ2_grow_2_0 22 rfl rfl)
theorem dJ2_grow_2_23 : decode cJ2_grow_2 23 = .ok (.isub, 1) := dk_100 (dk_at dksJ2_grow_2_0 23 rfl rfl)
theorem dJ2_grow_2_24 : decode cJ2_grow_2 24 = .ok (.iload_n 2, 1) := dk_28 (dk_at dksJ2_grow_2_1 0 rfl rfl)
theorem dJ2_grow_2_25 : decode cJ2_grow_2 25 = .ok (.iconst 1, 1) := dk_4 (dk_at dksJ2_grow_2_1 1 rfl rfl)
theorem dJ2_grow_2_26 : decode cJ2_grow_2 26 = .ok (.ishr, 1) := dk_122 (dk_at dksJ2_grow_2_1 2 rfl rfl)
theorem dJ2_grow_2_27 : decode cJ2_grow_2 27 = .ok (.invokestatic 73, 3) := dk_184 0 73 (dk_at dksJ2_grow_2_1 3 rfl rfl)
theorem dJ2_grow_2_30 : decode cJ2_grow_2 30 = .ok (.istore_n 3, 1) := dk_62 (dk_at dksJ2_grow_2_1 6 rfl rfl)
theorem dJ2_grow_2_31 : decode cJ2_grow_2 31 = .ok (.aload_n 0, 1) := dk_42 (dk_at dksJ2_grow_2_1 7 rfl rfl)
theorem dJ2_grow_2_32 : decode cJ2_grow_2 32 = .ok (.aload_n 0, 1) := dk_42 (dk_at dksJ2_grow_2_1 8 rfl rfl)
theorem dJ2_grow_2_33 : decode cJ2_grow_2 33 = .ok (.getfield 9, 3) := dk_180 0 9 (dk_at dksJ2_grow_2_1 9 rfl rfl)
theorem dJ2_grow_2_36 : decode cJ2_grow_2 36 = .ok (.iload_n 3, 1) := dk_29 (dk_at dksJ2_grow_2_1 12 rfl rfl)
theorem dJ2_grow_2_37 : decode cJ2_grow_2 37 = .ok (.invokestatic 66, 3) := dk_184 0 66 (dk_at dksJ2_grow_2_1 13 rfl rfl)
theorem dJ2_grow_2_40 : decode cJ2_grow_2 40 = .ok (.dup_x1, 1) := dk_90 (dk_at dksJ2_grow_2_1 16 rfl rfl)
theorem dJ2_grow_2_41 : decode cJ2_grow_2 41 = .ok (.putfield 9, 3) := dk_181 0 9 (dk_at dksJ2_grow_2_1 17 rfl rfl)
theorem dJ2_grow_2_44 : decode cJ2_grow_2 44 = .ok (.areturn, 1) := dk_176 (dk_at dksJ2_grow_2_1 20 rfl rfl)
theorem dJ2_grow_2_45 : decode cJ2_grow_2 45 = .ok (.aload_n 0, 1) := dk_42 (dk_at dksJ2_grow_2_1 21 rfl rfl)
theorem dJ2_grow_2_46 : decode cJ2_grow_2 46 = .ok (.bipush 10, 2) := dk_16 10 (dk_at dksJ2_grow_2_1 22 rfl rfl)
theorem dJ2_grow_2_48 : decode cJ2_grow_2 48 = .ok (.iload_n 1, 1) := dk_27 (dk_at dksJ2_grow_2_2 0 rfl rfl)
theorem dJ2_grow_2_49 : decode cJ2_grow_2 49 = .ok (.invokestatic 79, 3) := dk_184 0 79 (dk_at dksJ2_grow_2_2 1 rfl rfl)
theorem dJ2_grow_2_52 : decode cJ2_grow_2 52 = .ok (.anewarray 7, 3) := dk_189 0 7 (dk_at dksJ2_grow_2_2 4 rfl rfl)
theorem dJ2_grow_2_55 : decode cJ2_grow_2 55 = .ok (.dup_x1, 1) := dk_90 (dk_at dksJ2_grow_2_2 7 rfl rfl)
theorem dJ2_grow_2_56 : decode cJ2_grow_2 56 = .ok (.putfield 9, 3) := dk_181 0 9 (dk_at dksJ2_grow_2_2 8 rfl rfl)
theorem dJ2_grow_2_59 : decode cJ2_grow_2 59 = .ok (.areturn, 1) := dk_176 (dk_at dksJ2_grow_2_2 11 rfl rfl)
abbrev cJ2_size : ByteArray := prog_35_method_8_code
def yJ2_size : MethodName := ⟨RJ2, "size", "()I"⟩
theorem dJ2_size_0 : decode cJ2_size 0 = .ok (.aload_n 0, 1) := by decide +kernel
theorem dJ2_size_1 : decode cJ2_size 1 = .ok (.getfield 48, 3) := by decide +kernel
theorem dJ2_size_4 : decode cJ2_size 4 = .ok (.ireturn, 1) := by decide +kernel
abbrev cJ2_get : ByteArray := prog_35_method_20_code
def yJ2_get : MethodName := ⟨RJ2, "get", "(I)Ljava/lang/Object;"⟩
def dkwJ2_get_0 : List UInt8 := [27, 42, 180, 0, 48, 184, 0, 118, 87, 42, 27, 182, 0, 123, 176]
abbrev dktJ2_get_0 : List UInt8 := dkwJ2_get_0 ++ []
theorem dksJ2_get_0 : cJ2_get.data.toList.drop 0 = dktJ2_get_0 := by decide +kernel
theorem dJ2_get_0 : decode cJ2_get 0 = .ok (.iload_n 1, 1) := dk_27 (dk_at dksJ2_get_0 0 rfl rfl)
theorem dJ2_get_1 : decode cJ2_get 1 = .ok (.aload_n 0, 1) := dk_42 (dk_at dksJ2_get_0 1 rfl rfl)
theorem dJ2_get_2 : decode cJ2_get 2 = .ok (.getfield 48, 3) := dk_180 0 48 (dk_at dksJ2_get_0 2 rfl rfl)
theorem dJ2_get_5 : decode cJ2_get 5 = .ok (.invokestatic 118, 3) := dk_184 0 118 (dk_at dksJ2_get_0 5 rfl rfl)
theorem dJ2_get_8 : decode cJ2_get 8 = .ok (.pop, 1) := dk_87 (dk_at dksJ2_get_0 8 rfl rfl)
theorem dJ2_get_9 : decode cJ2_get 9 = .ok (.aload_n 0, 1) := dk_42 (dk_at dksJ2_get_0 9 rfl rfl)
theorem dJ2_get_10 : decode cJ2_get 10 = .ok (.iload_n 1, 1) := dk_27 (dk_at dksJ2_get_0 10 rfl rfl)
theorem dJ2_get_11 : decode cJ2_get 11 = .ok (.invokevirtual 123, 3) := dk_182 0 123 (dk_at dksJ2_get_0 11 rfl rfl)
theorem dJ2_get_14 : decode cJ2_get 14 = .ok (.areturn, 1) := dk_176 (dk_at dksJ2_get_0 14 rfl rfl)
abbrev cJ2_elementData : ByteArray := prog_35_method_18_code
def yJ2_elementData : MethodName := ⟨RJ2, "elementData", "(I)Ljava/lang/Object;"⟩
def dkwJ2_elementData_0 : List UInt8 := [42, 180, 0, 9, 27, 50, 176]
abbrev dktJ2_elementData_0 : List UInt8 := dkwJ2_elementData_0 ++ []
theorem dksJ2_elementData_0 : cJ2_elementData.data.toList.drop 0 = dktJ2_elementData_0 := by decide +kernel
theorem dJ2_elementData_0 : decode cJ2_elementData 0 = .ok (.aload_n 0, 1) := dk_42 (dk_at dksJ2_elementData_0 0 rfl rfl)
theorem dJ2_elementData_1 : decode cJ2_elementData 1 = .ok (.getfield 9, 3) := dk_180 0 9 (dk_at dksJ2_elementData_0 1 rfl rfl)
theorem dJ2_elementData_4 : decode cJ2_elementData 4 = .ok (.iload_n 1, 1) := dk_27 (dk_at dksJ2_elementData_0 4 rfl rfl)
theorem dJ2_elementData_5 : decode cJ2_elementData 5 = .ok (.aaload, 1) := dk_50 (dk_at dksJ2_elementData_0 5 rfl rfl)
theorem dJ2_elementData_6 : decode cJ2_elementData 6 = .ok (.areturn, 1) := dk_176 (dk_at dksJ2_elementData_0 6 rfl rfl)
abbrev cJ2_remove : ByteArray := prog_35_method_29_code
def yJ2_remove : MethodName := ⟨RJ2, "remove", "(I)Ljava/lang/Object;"⟩
def dkwJ2_remove_1 : List UInt8 := [45, 176]
abbrev dktJ2_remove_1 : List UInt8 := dkwJ2_remove_1 ++ []
def dkwJ2_remove_0 : List UInt8 := [27, 42, 180, 0, 48, 184, 0, 118, 87, 42, 180, 0, 9, 77, 44, 27, 50, 78, 42, 44, 27, 182, 0, 144]
abbrev dktJ2_remove_0 : List UInt8 := dkwJ2_remove_0 ++ dktJ2_remove_1
theorem dksJ2_remove_0 : cJ2_remove.data.toList.drop 0 = dktJ2_remove_0 := by decide +kernel
theorem dksJ2_remove_1 : cJ2_remove.data.toList.drop 24 = dktJ2_remove_1 := dk_seg dksJ2_remove_0 24 rfl rfl
theorem dJ2_remove_0 : decode cJ2_remove 0 = .ok (.iload_n 1, 1) := dk_27 (dk_at dksJ2_remove_0 0 rfl rfl)
theorem dJ2_remove_1 : decode cJ2_remove 1 = .ok (.aload_n 0, 1) := dk_42 (dk_at dksJ2_remove_0 1 rfl rfl)
theorem dJ2_remove_2 : decode cJ2_remove 2 = .ok (.getfield 48, 3) := dk_180 0 48 (dk_at dksJ2_remove_0 2 rfl rfl)
theorem dJ2_remove_5 : decode cJ2_remove 5 = .ok (.invokestatic 118, 3) := dk_184 0 118 (dk_at dksJ2_remove_0 5 rfl rfl)
theorem dJ2_remove_8 : decode cJ2_remove 8 = .ok (.pop, 1) := dk_87 (dk_at dksJ2_remove_0 8 rfl rfl)
theorem dJ2_remove_9 : decode cJ2_remove 9 = .ok (.aload_n 0, 1) := dk_42 (dk_at dksJ2_remove_0 9 rfl rfl)
theorem dJ2_remove_10 : decode cJ2_remove 10 = .ok (.getfield 9, 3) := dk_180 0 9 (dk_at dksJ2_remove_0 10 rfl rfl)
theorem dJ2_remove_13 : decode cJ2_remove 13 = .ok (.astore_n 2, 1) := dk_77 (dk_at dksJ2_remove_0 13 rfl rfl)
theorem dJ2_remove_14 : decode cJ2_remove 14 = .ok (.aload_n 2, 1) := dk_44 (dk_at dksJ2_remove_0 14 rfl rfl)
theorem dJ2_remove_15 : decode cJ2_remove 15 = .ok (.iload_n 1, 1) := dk_27 (dk_at dksJ2_remove_0 15 rfl rfl)
theorem dJ2_remove_16 : decode cJ2_remove 16 = .ok (.aaload, 1) := dk_50 (dk_at dksJ2_remove_0 16 rfl rfl)
theorem dJ2_remove_17 : decode cJ2_remove 17 = .ok (.astore_n 3, 1) := dk_78 (dk_at dksJ2_remove_0 17 rfl rfl)
theorem dJ2_remove_18 : decode cJ2_remove 18 = .ok (.aload_n 0, 1) := dk_42 (dk_at dksJ2_remove_0 18 rfl rfl)
theorem dJ2_remove_19 : decode cJ2_remove 19 = .ok (.aload_n 2, 1) := dk_44 (dk_at dksJ2_remove_0 19 rfl rfl)
theorem dJ2_remove_20 : decode cJ2_remove 20 = .ok (.iload_n 1, 1) := dk_27 (dk_at dksJ2_remove_0 20 rfl rfl)
theorem dJ2_remove_21 : decode cJ2_remove 21 = .ok (.invokevirtual 144, 3) := dk_182 0 144 (dk_at dksJ2_remove_0 21 rfl rfl)
theorem dJ2_remove_24 : decode cJ2_remove 24 = .ok (.aload_n 3, 1) := dk_45 (dk_at dksJ2_remove_1 0 rfl rfl)
theorem dJ2_remove_25 : decode cJ2_remove 25 = .ok (.areturn, 1) := dk_176 (dk_at dksJ2_remove_1 1 rfl rfl)
abbrev cJ2_fastRemove : ByteArray := prog_35_method_39_code
def yJ2_fastRemove : MethodName := ⟨RJ2, "fastRemove", "([Ljava/lang/Object;I)V"⟩
def dkwJ2_fastRemove_1 : List UInt8 := [4, 96, 43, 28, 29, 28, 100, 184, 0, 112, 43, 42, 29, 90, 181, 0, 48, 1, 83, 177]
abbrev dktJ2_fastRemove_1 : List UInt8 := dkwJ2_fastRemove_1 ++ []
def dkwJ2_fastRemove_0 : List UInt8 := [42, 89, 180, 0, 63, 4, 96, 181, 0, 63, 42, 180, 0, 48, 4, 100, 89, 62, 28, 164, 0, 15, 43, 28]
abbrev dktJ2_fastRemove_0 : List UInt8 := dkwJ2_fastRemove_0 ++ dktJ2_fastRemove_1
theorem dksJ2_fastRemove_0 : cJ2_fastRemove.data.toList.drop 0 = dktJ2_fastRemove_0 := by decide +kernel
theorem dksJ2_fastRemove_1 : cJ2_fastRemove.data.toList.drop 24 = dktJ2_fastRemove_1 := dk_seg dksJ2_fastRemove_0 24 rfl rfl
theorem dJ2_fastRemove_0 : decode cJ2_fastRemove 0 = .ok (.aload_n 0, 1) := dk_42 (dk_at dksJ2_fastRemove_0 0 rfl rfl)
theorem dJ2_fastRemove_1 : decode cJ2_fastRemove 1 = .ok (.dup, 1) := dk_89 (dk_at dksJ2_fastRemove_0 1 rfl rfl)
theorem dJ2_fastRemove_2 : decode cJ2_fastRemove 2 = .ok (.getfield 63, 3) := dk_180 0 63 (dk_at dksJ2_fastRemove_0 2 rfl rfl)
theorem dJ2_fastRemove_5 : decode cJ2_fastRemove 5 = .ok (.iconst 1, 1) := dk_4 (dk_at dksJ2_fastRemove_0 5 rfl rfl)
theorem dJ2_fastRemove_6 : decode cJ2_fastRemove 6 = .ok (.iadd, 1) := dk_96 (dk_at dksJ2_fastRemove_0 6 rfl rfl)
theorem dJ2_fastRemove_7 : decode cJ2_fastRemove 7 = .ok (.putfield 63, 3) := dk_181 0 63 (dk_at dksJ2_fastRemove_0 7 rfl rfl)
theorem dJ2_fastRemove_10 : decode cJ2_fastRemove 10 = .ok (.aload_n 0, 1) := dk_42 (dk_at dksJ2_fastRemove_0 10 rfl rfl)
theorem dJ2_fastRemove_11 : decode cJ2_fastRemove 11 = .ok (.getfield 48, 3) := dk_180 0 48 (dk_at dksJ2_fastRemove_0 11 rfl rfl)
theorem dJ2_fastRemove_14 : decode cJ2_fastRemove 14 = .ok (.iconst 1, 1) := dk_4 (dk_at dksJ2_fastRemove_0 14 rfl rfl)
theorem dJ2_fastRemove_15 : decode cJ2_fastRemove 15 = .ok (.isub, 1) := dk_100 (dk_at dksJ2_fastRemove_0 15 rfl rfl)
theorem dJ2_fastRemove_16 : decode cJ2_fastRemove 16 = .ok (.dup, 1) := dk_89 (dk_at dksJ2_fastRemove_0 16 rfl rfl)
theorem dJ2_fastRemove_17 : decode cJ2_fastRemove 17 = .ok (.istore_n 3, 1) := dk_62 (dk_at dksJ2_fastRemove_0 17 rfl rfl)
theorem dJ2_fastRemove_18 : decode cJ2_fastRemove 18 = .ok (.iload_n 2, 1) := dk_28 (dk_at dksJ2_fastRemove_0 18 rfl rfl)
theorem dJ2_fastRemove_19 : decode cJ2_fastRemove 19 = .ok (.if_icmp .le 15, 3) := dk_164 0 15 (dk_at dksJ2_fastRemove_0 19 rfl rfl)
theorem dJ2_fastRemove_22 : decode cJ2_fastRemove 22 = .ok (.aload_n 1, 1) := dk_43 (dk_at dksJ2_fastRemove_0 22 rfl rfl)
theorem dJ2_fastRemove_23 : decode cJ2_fastRemove 23 = .ok (.iload_n 2, 1) := dk_28 (dk_at dksJ2_fastRemove_0 23 rfl rfl)
theorem dJ2_fastRemove_24 : decode cJ2_fastRemove 24 = .ok (.iconst 1, 1) := dk_4 (dk_at dksJ2_fastRemove_1 0 rfl rfl)
theorem dJ2_fastRemove_25 : decode cJ2_fastRemove 25 = .ok (.iadd, 1) := dk_96 (dk_at dksJ2_fastRemove_1 1 rfl rfl)
theorem dJ2_fastRemove_26 : decode cJ2_fastRemove 26 = .ok (.aload_n 1, 1) := dk_43 (dk_at dksJ2_fastRemove_1 2 rfl rfl)
theorem dJ2_fastRemove_27 : decode cJ2_fastRemove 27 = .ok (.iload_n 2, 1) := dk_28 (dk_at dksJ2_fastRemove_1 3 rfl rfl)
theorem dJ2_fastRemove_28 : decode cJ2_fastRemove 28 = .ok (.iload_n 3, 1) := dk_29 (dk_at dksJ2_fastRemove_1 4 rfl rfl)
theorem dJ2_fastRemove_29 : decode cJ2_fastRemove 29 = .ok (.iload_n 2, 1) := dk_28 (dk_at dksJ2_fastRemove_1 5 rfl rfl)
theorem dJ2_fastRemove_30 : decode cJ2_fastRemove 30 = .ok (.isub, 1) := dk_100 (dk_at dksJ2_fastRemove_1 6 rfl rfl)
theorem dJ2_fastRemove_31 : decode cJ2_fastRemove 31 = .ok (.invokestatic 112, 3) := dk_184 0 112 (dk_at dksJ2_fastRemove_1 7 rfl rfl)
theorem dJ2_fastRemove_34 : decode cJ2_fastRemove 34 = .ok (.aload_n 1, 1) := dk_43 (dk_at dksJ2_fastRemove_1 10 rfl rfl)
theorem dJ2_fastRemove_35 : decode cJ2_fastRemove 35 = .ok (.aload_n 0, 1) := dk_42 (dk_at dksJ2_fastRemove_1 11 rfl rfl)
theorem dJ2_fastRemove_36 : decode cJ2_fastRemove 36 = .ok (.iload_n 3, 1) := dk_29 (dk_at dksJ2_fastRemove_1 12 rfl rfl)
theorem dJ2_fastRemove_37 : decode cJ2_fastRemove 37 = .ok (.dup_x1, 1) := dk_90 (dk_at dksJ2_fastRemove_1 13 rfl rfl)
theorem dJ2_fastRemove_38 : decode cJ2_fastRemove 38 = .ok (.putfield 48, 3) := dk_181 0 48 (dk_at dksJ2_fastRemove_1 14 rfl rfl)
theorem dJ2_fastRemove_41 : decode cJ2_fastRemove 41 = .ok (.aconst_null, 1) := dk_1 (dk_at dksJ2_fastRemove_1 17 rfl rfl)
theorem dJ2_fastRemove_42 : decode cJ2_fastRemove 42 = .ok (.aastore, 1) := dk_83 (dk_at dksJ2_fastRemove_1 18 rfl rfl)
theorem dJ2_fastRemove_43 : decode cJ2_fastRemove 43 = .ok (.return_, 1) := dk_177 (dk_at dksJ2_fastRemove_1 19 rfl rfl)
abbrev cJ2_equals : ByteArray := prog_35_method_32_code
def yJ2_equals : MethodName := ⟨RJ2, "equals", "(Ljava/lang/Object;)Z"⟩
def dkwJ2_equals_2 : List UInt8 := [3, 42, 180, 0, 48, 182, 0, 154, 62, 42, 28, 182, 0, 158, 29, 172]
abbrev dktJ2_equals_2 : List UInt8 := dkwJ2_equals_2 ++ []
def dkwJ2_equals_1 : List UInt8 := [182, 0, 111, 18, 10, 166, 0, 14, 42, 43, 192, 0, 10, 182, 0, 150, 167, 0, 16, 42, 43, 192, 0, 148]
abbrev dktJ2_equals_1 : List UInt8 := dkwJ2_equals_1 ++ dktJ2_equals_2
def dkwJ2_equals_0 : List UInt8 := [43, 42, 166, 0, 5, 4, 172, 43, 193, 0, 148, 154, 0, 5, 3, 172, 42, 180, 0, 63, 61, 43]
abbrev dktJ2_equals_0 : List UInt8 := dkwJ2_equals_0 ++ dktJ2_equals_1
theorem dksJ2_equals_0 : cJ2_equals.data.toList.drop 0 = dktJ2_equals_0 := by decide +kernel
theorem dksJ2_equals_1 : cJ2_equals.data.toList.drop 22 = dktJ2_equals_1 := dk_seg dksJ2_equals_0 22 rfl rfl
theorem dksJ2_equals_2 : cJ2_equals.data.toList.drop 46 = dktJ2_equals_2 := dk_seg dksJ2_equals_1 24 rfl rfl
theorem dJ2_equals_0 : decode cJ2_equals 0 = .ok (.aload_n 1, 1) := dk_43 (dk_at dksJ2_equals_0 0 rfl rfl)
theorem dJ2_equals_1 : decode cJ2_equals 1 = .ok (.aload_n 0, 1) := dk_42 (dk_at dksJ2_equals_0 1 rfl rfl)
theorem dJ2_equals_2 : decode cJ2_equals 2 = .ok (.if_acmp .ne 5, 3) := dk_166 0 5 (dk_at dksJ2_equals_0 2 rfl rfl)
theorem dJ2_equals_5 : decode cJ2_equals 5 = .ok (.iconst 1, 1) := dk_4 (dk_at dksJ2_equals_0 5 rfl rfl)
theorem dJ2_equals_6 : decode cJ2_equals 6 = .ok (.ireturn, 1) := dk_172 (dk_at dksJ2_equals_0 6 rfl rfl)
theorem dJ2_equals_7 : decode cJ2_equals 7 = .ok (.aload_n 1, 1) := dk_43 (dk_at dksJ2_equals_0 7 rfl rfl)
theorem dJ2_equals_8 : decode cJ2_equals 8 = .ok (.instanceof 148, 3) := dk_193 0 148 (dk_at dksJ2_equals_0 8 rfl rfl)
theorem dJ2_equals_11 : decode cJ2_equals 11 = .ok (.ifCond .ne 5, 3) := dk_154 0 5 (dk_at dksJ2_equals_0 11 rfl rfl)
theorem dJ2_equals_14 : decode cJ2_equals 14 = .ok (.iconst 0, 1) := dk_3 (dk_at dksJ2_equals_0 14 rfl rfl)
theorem dJ2_equals_15 : decode cJ2_equals 15 = .ok (.ireturn, 1) := dk_172 (dk_at dksJ2_equals_0 15 rfl rfl)
theorem dJ2_equals_16 : decode cJ2_equals 16 = .ok (.aload_n 0, 1) := dk_42 (dk_at dksJ2_equals_0 16 rfl rfl)
theorem dJ2_equals_17 : decode cJ2_equals 17 = .ok (.getfield 63, 3) := dk_180 0 63 (dk_at dksJ2_equals_0 17 rfl rfl)
theorem dJ2_equals_20 : decode cJ2_equals 20 = .ok (.istore_n 2, 1) := dk_61 (dk_at dksJ2_equals_0 20 rfl rfl)
theorem dJ2_equals_21 : decode cJ2_equals 21 = .ok (.aload_n 1, 1) := dk_43 (dk_at dksJ2_equals_0 21 rfl rfl)
theorem dJ2_equals_22 : decode cJ2_equals 22 = .ok (.invokevirtual 111, 3) := dk_182 0 111 (dk_at dksJ2_equals_1 0 rfl rfl)
theorem dJ2_equals_25 : decode cJ2_equals 25 = .ok (.ldc 10, 2) := dk_18 10 (dk_at dksJ2_equals_1 3 rfl rfl)
theorem dJ2_equals_27 : decode cJ2_equals 27 = .ok (.if_acmp .ne 14, 3) := dk_166 0 14 (dk_at dksJ2_equals_1 5 rfl rfl)
theorem dJ2_equals_30 : decode cJ2_equals 30 = .ok (.aload_n 0, 1) := dk_42 (dk_at dksJ2_equals_1 8 rfl rfl)
theorem dJ2_equals_31 : decode cJ2_equals 31 = .ok (.aload_n 1, 1) := dk_43 (dk_at dksJ2_equals_1 9 rfl rfl)
theorem dJ2_equals_32 : decode cJ2_equals 32 = .ok (.checkcast 10, 3) := dk_192 0 10 (dk_at dksJ2_equals_1 10 rfl rfl)
theorem dJ2_equals_35 : decode cJ2_equals 35 = .ok (.invokevirtual 150, 3) := dk_182 0 150 (dk_at dksJ2_equals_1 13 rfl rfl)
theorem dJ2_equals_38 : decode cJ2_equals 38 = .ok (.goto 16, 3) := dk_167 0 16 (dk_at dksJ2_equals_1 16 rfl rfl)
theorem dJ2_equals_41 : decode cJ2_equals 41 = .ok (.aload_n 0, 1) := dk_42 (dk_at dksJ2_equals_1 19 rfl rfl)
theorem dJ2_equals_42 : decode cJ2_equals 42 = .ok (.aload_n 1, 1) := dk_43 (dk_at dksJ2_equals_1 20 rfl rfl)
theorem dJ2_equals_43 : decode cJ2_equals 43 = .ok (.checkcast 148, 3) := dk_192 0 148 (dk_at dksJ2_equals_1 21 rfl rfl)
theorem dJ2_equals_46 : decode cJ2_equals 46 = .ok (.iconst 0, 1) := dk_3 (dk_at dksJ2_equals_2 0 rfl rfl)
theorem dJ2_equals_47 : decode cJ2_equals 47 = .ok (.aload_n 0, 1) := dk_42 (dk_at dksJ2_equals_2 1 rfl rfl)
theorem dJ2_equals_48 : decode cJ2_equals 48 = .ok (.getfield 48, 3) := dk_180 0 48 (dk_at dksJ2_equals_2 2 rfl rfl)
theorem dJ2_equals_51 : decode cJ2_equals 51 = .ok (.invokevirtual 154, 3) := dk_182 0 154 (dk_at dksJ2_equals_2 5 rfl rfl)
theorem dJ2_equals_54 : decode cJ2_equals 54 = .ok (.istore_n 3, 1) := dk_62 (dk_at dksJ2_equals_2 8 rfl rfl)
theorem dJ2_equals_55 : decode cJ2_equals 55 = .ok (.aload_n 0, 1) := dk_42 (dk_at dksJ2_equals_2 9 rfl rfl)
theorem dJ2_equals_56 : decode cJ2_equals 56 = .ok (.iload_n 2, 1) := dk_28 (dk_at dksJ2_equals_2 10 rfl rfl)
theorem dJ2_equals_57 : decode cJ2_equals 57 = .ok (.invokevirtual 158, 3) := dk_182 0 158 (dk_at dksJ2_equals_2 11 rfl rfl)
theorem dJ2_equals_60 : decode cJ2_equals 60 = .ok (.iload_n 3, 1) := dk_29 (dk_at dksJ2_equals_2 14 rfl rfl)
theorem dJ2_equals_61 : decode cJ2_equals 61 = .ok (.ireturn, 1) := dk_172 (dk_at dksJ2_equals_2 15 rfl rfl)
abbrev cJ2_equalsArrayList : ByteArray := prog_35_method_34_code
def yJ2_equalsArrayList : MethodName := ⟨RJ2, "equalsArrayList", "(Ljava/util/ArrayList;)Z"⟩
def dkwJ2_equalsArrayList_4 : List UInt8 := [132, 7, 1, 167, 255, 225, 43, 28, 182, 0, 158, 21, 4, 172]
abbrev dktJ2_equalsArrayList_4 : List UInt8 := dkwJ2_equalsArrayList_4 ++ []
def dkwJ2_equalsArrayList_3 : List UInt8 := [25, 6, 21, 7, 50, 25, 5, 21, 7, 50, 184, 0, 177, 154, 0, 9, 3, 54, 4, 167, 0, 9]
abbrev dktJ2_equalsArrayList_3 : List UInt8 := dkwJ2_equalsArrayList_3 ++ dktJ2_equalsArrayList_4
def dkwJ2_equalsArrayList_2 : List UInt8 := [29, 25, 5, 190, 164, 0, 11, 187, 0, 161, 89, 183, 0, 163, 191, 3, 54, 7, 21, 7, 29, 162, 0, 31]
abbrev dktJ2_equalsArrayList_2 : List UInt8 := dkwJ2_equalsArrayList_2 ++ dktJ2_equalsArrayList_3
def dkwJ2_equalsArrayList_1 : List UInt8 := [54, 4, 153, 0, 74, 43, 180, 0, 9, 58, 5, 42, 180, 0, 9, 58, 6, 29, 25, 6, 190, 163, 0, 10]
abbrev dktJ2_equalsArrayList_1 : List UInt8 := dkwJ2_equalsArrayList_1 ++ dktJ2_equalsArrayList_2
def dkwJ2_equalsArrayList_0 : List UInt8 := [43, 180, 0, 63, 61, 42, 180, 0, 48, 62, 29, 43, 180, 0, 48, 160, 0, 7, 4, 167, 0, 4, 3, 89]
abbrev dktJ2_equalsArrayList_0 : List UInt8 := dkwJ2_equalsArrayList_0 ++ dktJ2_equalsArrayList_1
theorem dksJ2_equalsArrayList_0 : cJ2_equalsArrayList.data.toList.drop 0 = dktJ2_equalsArrayList_0 := by decide +kernel
theorem dksJ2_equalsArrayList_1 : cJ2_equalsArrayList.data.toList.drop 24 = dktJ2_equalsArrayList_1 := dk_seg dksJ2_equalsArrayList_0 24 rfl rfl
theorem dksJ2_equalsArrayList_2 : cJ2_equalsArrayList.data.toList.drop 48 = dktJ2_equalsArrayList_2 := dk_seg dksJ2_equalsArrayList_1 24 rfl rfl
theorem dksJ2_equalsArrayList_3 : cJ2_equalsArrayList.data.toList.drop 72 = dktJ2_equalsArrayList_3 := dk_seg dksJ2_equalsArrayList_2 24 rfl rfl
theorem dksJ2_equalsArrayList_4 : cJ2_equalsArrayList.data.toList.drop 94 = dktJ2_equalsArrayList_4 := dk_seg dksJ2_equalsArrayList_3 22 rfl rfl
theorem dJ2_equalsArrayList_0 : decode cJ2_equalsArrayList 0 = .ok (.aload_n 1, 1) := dk_43 (dk_at dksJ2_equalsArrayList_0 0 rfl rfl)
theorem dJ2_equalsArrayList_1 : decode cJ2_equalsArrayList 1 = .ok (.getfield 63, 3) := dk_180 0 63 (dk_at dksJ2_equalsArrayList_0 1 rfl rfl)
theorem dJ2_equalsArrayList_4 : decode cJ2_equalsArrayList 4 = .ok (.istore_n 2, 1) := dk_61 (dk_at dksJ2_equalsArrayList_0 4 rfl rfl)
theorem dJ2_equalsArrayList_5 : decode cJ2_equalsArrayList 5 = .ok (.aload_n 0, 1) := dk_42 (dk_at dksJ2_equalsArrayList_0 5 rfl rfl)
theorem dJ2_equalsArrayList_6 : decode cJ2_equalsArrayList 6 = .ok (.getfield 48, 3) := dk_180 0 48 (dk_at dksJ2_equalsArrayList_0 6 rfl rfl)
theorem dJ2_equalsArrayList_9 : decode cJ2_equalsArrayList 9 = .ok (.istore_n 3, 1) := dk_62 (dk_at dksJ2_equalsArrayList_0 9 rfl rfl)
theorem dJ2_equalsArrayList_10 : decode cJ2_equalsArrayList 10 = .ok (.iload_n 3, 1) := dk_29 (dk_at dksJ2_equalsArrayList_0 10 rfl rfl)
theorem dJ2_equalsArrayList_11 : decode cJ2_equalsArrayList 11 = .ok (.aload_n 1, 1) := dk_43 (dk_at dksJ2_equalsArrayList_0 11 rfl rfl)
theorem dJ2_equalsArrayList_12 : decode cJ2_equalsArrayList 12 = .ok (.getfield 48, 3) := dk_180 0 48 (dk_at dksJ2_equalsArrayList_0 12 rfl rfl)
theorem dJ2_equalsArrayList_15 : decode cJ2_equalsArrayList 15 = .ok (.if_icmp .ne 7, 3) := dk_160 0 7 (dk_at dksJ2_equalsArrayList_0 15 rfl rfl)
theorem dJ2_equalsArrayList_18 : decode cJ2_equalsArrayList 18 = .ok (.iconst 1, 1) := dk_4 (dk_at dksJ2_equalsArrayList_0 18 rfl rfl)
theorem dJ2_equalsArrayList_19 : decode cJ2_equalsArrayList 19 = .ok (.goto 4, 3) := dk_167 0 4 (dk_at dksJ2_equalsArrayList_0 19 rfl rfl)
theorem dJ2_equalsArrayList_22 : decode cJ2_equalsArrayList 22 = .ok (.iconst 0, 1) := dk_3 (dk_at dksJ2_equalsArrayList_0 22 rfl rfl)
theorem dJ2_equalsArrayList_23 : decode cJ2_equalsArrayList 23 = .ok (.dup, 1) := dk_89 (dk_at dksJ2_equalsArrayList_0 23 rfl rfl)
theorem dJ2_equalsArrayList_24 : decode cJ2_equalsArrayList 24 = .ok (.istore 4, 2) := dk_54 4 (dk_at dksJ2_equalsArrayList_1 0 rfl rfl)
theorem dJ2_equalsArrayList_26 : decode cJ2_equalsArrayList 26 = .ok (.ifCond .eq 74, 3) := dk_153 0 74 (dk_at dksJ2_equalsArrayList_1 2 rfl rfl)
theorem dJ2_equalsArrayList_29 : decode cJ2_equalsArrayList 29 = .ok (.aload_n 1, 1) := dk_43 (dk_at dksJ2_equalsArrayList_1 5 rfl rfl)
theorem dJ2_equalsArrayList_30 : decode cJ2_equalsArrayList 30 = .ok (.getfield 9, 3) := dk_180 0 9 (dk_at dksJ2_equalsArrayList_1 6 rfl rfl)
theorem dJ2_equalsArrayList_33 : decode cJ2_equalsArrayList 33 = .ok (.astore 5, 2) := dk_58 5 (dk_at dksJ2_equalsArrayList_1 9 rfl rfl)
theorem dJ2_equalsArrayList_35 : decode cJ2_equalsArrayList 35 = .ok (.aload_n 0, 1) := dk_42 (dk_at dksJ2_equalsArrayList_1 11 rfl rfl)
theorem dJ2_equalsArrayList_36 : decode cJ2_equalsArrayList 36 = .ok (.getfield 9, 3) := dk_180 0 9 (dk_at dksJ2_equalsArrayList_1 12 rfl rfl)
theorem dJ2_equalsArrayList_39 : decode cJ2_equalsArrayList 39 = .ok (.astore 6, 2) := dk_58 6 (dk_at dksJ2_equalsArrayList_1 15 rfl rfl)
theorem dJ2_equalsArrayList_41 : decode cJ2_equalsArrayList 41 = .ok (.iload_n 3, 1) := dk_29 (dk_at dksJ2_equalsArrayList_1 17 rfl rfl)
theorem dJ2_equalsArrayList_42 : decode cJ2_equalsArrayList 42 = .ok (.aload 6, 2) := dk_25 6 (dk_at dksJ2_equalsArrayList_1 18 rfl rfl)
theorem dJ2_equalsArrayList_44 : decode cJ2_equalsArrayList 44 = .ok (.arraylength, 1) := dk_190 (dk_at dksJ2_equalsArrayList_1 20 rfl rfl)
theorem dJ2_equalsArrayList_45 : decode cJ2_equalsArrayList 45 = .ok (.if_icmp .gt 10, 3) := dk_163 0 10 (dk_at dksJ2_equalsArrayList_1 21 rfl rfl)
theorem dJ2_equalsArrayList_48 : decode cJ2_equalsArrayList 48 = .ok (.iload_n 3, 1) := dk_29 (dk_at dksJ2_equalsArrayList_2 0 rfl rfl)
theorem dJ2_equalsArrayList_49 : decode cJ2_equalsArrayList 49 = .ok (.aload 5, 2) := dk_25 5 (dk_at dksJ2_equalsArrayList_2 1 rfl rfl)
theorem dJ2_equalsArrayList_51 : decode cJ2_equalsArrayList 51 = .ok (.arraylength, 1) := dk_190 (dk_at dksJ2_equalsArrayList_2 3 rfl rfl)
theorem dJ2_equalsArrayList_52 : decode cJ2_equalsArrayList 52 = .ok (.if_icmp .le 11, 3) := dk_164 0 11 (dk_at dksJ2_equalsArrayList_2 4 rfl rfl)
theorem dJ2_equalsArrayList_55 : decode cJ2_equalsArrayList 55 = .ok (.new 161, 3) := dk_187 0 161 (dk_at dksJ2_equalsArrayList_2 7 rfl rfl)
theorem dJ2_equalsArrayList_58 : decode cJ2_equalsArrayList 58 = .ok (.dup, 1) := dk_89 (dk_at dksJ2_equalsArrayList_2 10 rfl rfl)
theorem dJ2_equalsArrayList_59 : decode cJ2_equalsArrayList 59 = .ok (.invokespecial 163, 3) := dk_183 0 163 (dk_at dksJ2_equalsArrayList_2 11 rfl rfl)
theorem dJ2_equalsArrayList_62 : decode cJ2_equalsArrayList 62 = .ok (.athrow, 1) := dk_191 (dk_at dksJ2_equalsArrayList_2 14 rfl rfl)
theorem dJ2_equalsArrayList_63 : decode cJ2_equalsArrayList 63 = .ok (.iconst 0, 1) := dk_3 (dk_at dksJ2_equalsArrayList_2 15 rfl rfl)
theorem dJ2_equalsArrayList_64 : decode cJ2_equalsArrayList 64 = .ok (.istore 7, 2) := dk_54 7 (dk_at dksJ2_equalsArrayList_2 16 rfl rfl)
theorem dJ2_equalsArrayList_66 : decode cJ2_equalsArrayList 66 = .ok (.iload 7, 2) := dk_21 7 (dk_at dksJ2_equalsArrayList_2 18 rfl rfl)
theorem dJ2_equalsArrayList_68 : decode cJ2_equalsArrayList 68 = .ok (.iload_n 3, 1) := dk_29 (dk_at dksJ2_equalsArrayList_2 20 rfl rfl)
theorem dJ2_equalsArrayList_69 : decode cJ2_equalsArrayList 69 = .ok (.if_icmp .ge 31, 3) := dk_162 0 31 (dk_at dksJ2_equalsArrayList_2 21 rfl rfl)
theorem dJ2_equalsArrayList_72 : decode cJ2_equalsArrayList 72 = .ok (.aload 6, 2) := dk_25 6 (dk_at dksJ2_equalsArrayList_3 0 rfl rfl)
theorem dJ2_equalsArrayList_74 : decode cJ2_equalsArrayList 74 = .ok (.iload 7, 2) := dk_21 7 (dk_at dksJ2_equalsArrayList_3 2 rfl rfl)
theorem dJ2_equalsArrayList_76 : decode cJ2_equalsArrayList 76 = .ok (.aaload, 1) := dk_50 (dk_at dksJ2_equalsArrayList_3 4 rfl rfl)
theorem dJ2_equalsArrayList_77 : decode cJ2_equalsArrayList 77 = .ok (.aload 5, 2) := dk_25 5 (dk_at dksJ2_equalsArrayList_3 5 rfl rfl)
theorem dJ2_equalsArrayList_79 : decode cJ2_equalsArrayList 79 = .ok (.iload 7, 2) := dk_21 7 (dk_at dksJ2_equalsArrayList_3 7 rfl rfl)
theorem dJ2_equalsArrayList_81 : decode cJ2_equalsArrayList 81 = .ok (.aaload, 1) := dk_50 (dk_at dksJ2_equalsArrayList_3 9 rfl rfl)
theorem dJ2_equalsArrayList_82 : decode cJ2_equalsArrayList 82 = .ok (.invokestatic 177, 3) := dk_184 0 177 (dk_at dksJ2_equalsArrayList_3 10 rfl rfl)
theorem dJ2_equalsArrayList_85 : decode cJ2_equalsArrayList 85 = .ok (.ifCond .ne 9, 3) := dk_154 0 9 (dk_at dksJ2_equalsArrayList_3 13 rfl rfl)
theorem dJ2_equalsArrayList_88 : decode cJ2_equalsArrayList 88 = .ok (.iconst 0, 1) := dk_3 (dk_at dksJ2_equalsArrayList_3 16 rfl rfl)
theorem dJ2_equalsArrayList_89 : decode cJ2_equalsArrayList 89 = .ok (.istore 4, 2) := dk_54 4 (dk_at dksJ2_equalsArrayList_3 17 rfl rfl)
theorem dJ2_equalsArrayList_91 : decode cJ2_equalsArrayList 91 = .ok (.goto 9, 3) := dk_167 0 9 (dk_at dksJ2_equalsArrayList_3 19 rfl rfl)
theorem dJ2_equalsArrayList_94 : decode cJ2_equalsArrayList 94 = .ok (.iinc 7 1, 3) := dk_132 7 1 (dk_at dksJ2_equalsArrayList_4 0 rfl rfl)
theorem dJ2_equalsArrayList_97 : decode cJ2_equalsArrayList 97 = .ok (.goto (-31), 3) := dk_167 255 225 (dk_at dksJ2_equalsArrayList_4 3 rfl rfl)
theorem dJ2_equalsArrayList_100 : decode cJ2_equalsArrayList 100 = .ok (.aload_n 1, 1) := dk_43 (dk_at dksJ2_equalsArrayList_4 6 rfl rfl)
theorem dJ2_equalsArrayList_101 : decode cJ2_equalsArrayList 101 = .ok (.iload_n 2, 1) := dk_28 (dk_at dksJ2_equalsArrayList_4 7 rfl rfl)
theorem dJ2_equalsArrayList_102 : decode cJ2_equalsArrayList 102 = .ok (.invokevirtual 158, 3) := dk_182 0 158 (dk_at dksJ2_equalsArrayList_4 8 rfl rfl)
theorem dJ2_equalsArrayList_105 : decode cJ2_equalsArrayList 105 = .ok (.iload 4, 2) := dk_21 4 (dk_at dksJ2_equalsArrayList_4 11 rfl rfl)
theorem dJ2_equalsArrayList_107 : decode cJ2_equalsArrayList 107 = .ok (.ireturn, 1) := dk_172 (dk_at dksJ2_equalsArrayList_4 13 rfl rfl)
abbrev cJ2_checkForComodification : ByteArray := prog_35_method_35_code
def yJ2_checkForComodification : MethodName := ⟨RJ2, "checkForComodification", "(I)V"⟩
def dkwJ2_checkForComodification_0 : List UInt8 := [42, 180, 0, 63, 27, 159, 0, 11, 187, 0, 161, 89, 183, 0, 163, 191, 177]
abbrev dktJ2_checkForComodification_0 : List UInt8 := dkwJ2_checkForComodification_0 ++ []
theorem dksJ2_checkForComodification_0 : cJ2_checkForComodification.data.toList.drop 0 = dktJ2_checkForComodification_0 := by decide +kernel
theorem dJ2_checkForComodification_0 : decode cJ2_checkForComodification 0 = .ok (.aload_n 0, 1) := dk_42 (dk_at dksJ2_checkForComodification_0 0 rfl rfl)
theorem dJ2_checkForComodification_1 : decode cJ2_checkForComodification 1 = .ok (.getfield 63, 3) := dk_180 0 63 (dk_at dksJ2_checkForComodification_0 1 rfl rfl)
theorem dJ2_checkForComodification_4 : decode cJ2_checkForComodification 4 = .ok (.iload_n 1, 1) := dk_27 (dk_at dksJ2_checkForComodification_0 4 rfl rfl)
theorem dJ2_checkForComodification_5 : decode cJ2_checkForComodification 5 = .ok (.if_icmp .eq 11, 3) := dk_159 0 11 (dk_at dksJ2_checkForComodification_0 5 rfl rfl)
theorem dJ2_checkForComodification_8 : decode cJ2_checkForComodification 8 = .ok (.new 161, 3) := dk_187 0 161 (dk_at dksJ2_checkForComodification_0 8 rfl rfl)
theorem dJ2_checkForComodification_11 : decode cJ2_checkForComodification 11 = .ok (.dup, 1) := dk_89 (dk_at dksJ2_checkForComodification_0 11 rfl rfl)
theorem dJ2_checkForComodification_12 : decode cJ2_checkForComodification 12 = .ok (.invokespecial 163, 3) := dk_183 0 163 (dk_at dksJ2_checkForComodification_0 12 rfl rfl)
theorem dJ2_checkForComodification_15 : decode cJ2_checkForComodification 15 = .ok (.athrow, 1) := dk_191 (dk_at dksJ2_checkForComodification_0 15 rfl rfl)
theorem dJ2_checkForComodification_16 : decode cJ2_checkForComodification 16 = .ok (.return_, 1) := dk_177 (dk_at dksJ2_checkForComodification_0 16 rfl rfl)
abbrev cJ2_equalsRange : ByteArray := prog_35_method_33_code
def yJ2_equalsRange : MethodName := ⟨RJ2, "equalsRange", "(Ljava/util/List;II)Z"⟩
def dkwJ2_equalsRange_3 : List UInt8 := [25, 5, 185, 0, 168, 1, 0, 154, 0, 7, 4, 167, 0, 4, 3, 172]
abbrev dktJ2_equalsRange_3 : List UInt8 := dkwJ2_equalsRange_3 ++ []
def dkwJ2_equalsRange_2 : List UInt8 := [28, 50, 25, 5, 185, 0, 174, 1, 0, 184, 0, 177, 154, 0, 5, 3, 172, 132, 2, 1, 167, 255, 219]
abbrev dktJ2_equalsRange_2 : List UInt8 := dkwJ2_equalsRange_2 ++ dktJ2_equalsRange_3
def dkwJ2_equalsRange_1 : List UInt8 := [185, 0, 164, 1, 0, 58, 5, 28, 29, 162, 0, 38, 25, 5, 185, 0, 168, 1, 0, 153, 0, 20, 25, 4]
abbrev dktJ2_equalsRange_1 : List UInt8 := dkwJ2_equalsRange_1 ++ dktJ2_equalsRange_2
def dkwJ2_equalsRange_0 : List UInt8 := [42, 180, 0, 9, 58, 4, 29, 25, 4, 190, 164, 0, 11, 187, 0, 161, 89, 183, 0, 163, 191, 43]
abbrev dktJ2_equalsRange_0 : List UInt8 := dkwJ2_equalsRange_0 ++ dktJ2_equalsRange_1
theorem dksJ2_equalsRange_0 : cJ2_equalsRange.data.toList.drop 0 = dktJ2_equalsRange_0 := by decide +kernel
theorem dksJ2_equalsRange_1 : cJ2_equalsRange.data.toList.drop 22 = dktJ2_equalsRange_1 := dk_seg dksJ2_equalsRange_0 22 rfl rfl
theorem dksJ2_equalsRange_2 : cJ2_equalsRange.data.toList.drop 46 = dktJ2_equalsRange_2 := dk_seg dksJ2_equalsRange_1 24 rfl rfl
theorem dksJ2_equalsRange_3 : cJ2_equalsRange.data.toList.drop 69 = dktJ2_equalsRange_3 := dk_seg dksJ2_equalsRange_2 23 rfl rfl
theorem dJ2_equalsRange_0 : decode cJ2_equalsRange 0 = .ok (.aload_n 0, 1) := dk_42 (dk_at dksJ2_equalsRange_0 0 rfl rfl)
theorem dJ2_equalsRange_1 : decode cJ2_equalsRange 1 = .ok (.getfield 9, 3) := dk_180 0 9 (dk_at dksJ2_equalsRange_0 1 rfl rfl)
theorem dJ2_equalsRange_4 : decode cJ2_equalsRange 4 = .ok (.astore 4, 2) := dk_58 4 (dk_at dksJ2_equalsRange_0 4 rfl rfl)
theorem dJ2_equalsRange_6 : decode cJ2_equalsRange 6 = .ok (.iload_n 3, 1) := dk_29 (dk_at dksJ2_equalsRange_0 6 rfl rfl)
theorem dJ2_equalsRange_7 : decode cJ2_equalsRange 7 = .ok (.aload 4, 2) := dk_25 4 (dk_at dksJ2_equalsRange_0 7 rfl rfl)
theorem dJ2_equalsRange_9 : decode cJ2_equalsRange 9 = .ok (.arraylength, 1) := dk_190 (dk_at dksJ2_equalsRange_0 9 rfl rfl)
theorem dJ2_equalsRange_10 : decode cJ2_equalsRange 10 = .ok (.if_icmp .le 11, 3) := dk_164 0 11 (dk_at dksJ2_equalsRange_0 10 rfl rfl)
theorem dJ2_equalsRange_13 : decode cJ2_equalsRange 13 = .ok (.new 161, 3) := dk_187 0 161 (dk_at dksJ2_equalsRange_0 13 rfl rfl)
theorem dJ2_equalsRange_16 : decode cJ2_equalsRange 16 = .ok (.dup, 1) := dk_89 (dk_at dksJ2_equalsRange_0 16 rfl rfl)
theorem dJ2_equalsRange_17 : decode cJ2_equalsRange 17 = .ok (.invokespecial 163, 3) := dk_183 0 163 (dk_at dksJ2_equalsRange_0 17 rfl rfl)
theorem dJ2_equalsRange_20 : decode cJ2_equalsRange 20 = .ok (.athrow, 1) := dk_191 (dk_at dksJ2_equalsRange_0 20 rfl rfl)
theorem dJ2_equalsRange_21 : decode cJ2_equalsRange 21 = .ok (.aload_n 1, 1) := dk_43 (dk_at dksJ2_equalsRange_0 21 rfl rfl)
theorem dJ2_equalsRange_22 : decode cJ2_equalsRange 22 = .ok (.invokeinterface 164 1, 5) := by decide +kernel
theorem dJ2_equalsRange_27 : decode cJ2_equalsRange 27 = .ok (.astore 5, 2) := dk_58 5 (dk_at dksJ2_equalsRange_1 5 rfl rfl)
theorem dJ2_equalsRange_29 : decode cJ2_equalsRange 29 = .ok (.iload_n 2, 1) := dk_28 (dk_at dksJ2_equalsRange_1 7 rfl rfl)
theorem dJ2_equalsRange_30 : decode cJ2_equalsRange 30 = .ok (.iload_n 3, 1) := dk_29 (dk_at dksJ2_equalsRange_1 8 rfl rfl)
theorem dJ2_equalsRange_31 : decode cJ2_equalsRange 31 = .ok (.if_icmp .ge 38, 3) := dk_162 0 38 (dk_at dksJ2_equalsRange_1 9 rfl rfl)
theorem dJ2_equalsRange_34 : decode cJ2_equalsRange 34 = .ok (.aload 5, 2) := dk_25 5 (dk_at dksJ2_equalsRange_1 12 rfl rfl)
theorem dJ2_equalsRange_36 : decode cJ2_equalsRange 36 = .ok (.invokeinterface 168 1, 5) := by decide +kernel
theorem dJ2_equalsRange_41 : decode cJ2_equalsRange 41 = .ok (.ifCond .eq 20, 3) := dk_153 0 20 (dk_at dksJ2_equalsRange_1 19 rfl rfl)
theorem dJ2_equalsRange_44 : decode cJ2_equalsRange 44 = .ok (.aload 4, 2) := dk_25 4 (dk_at dksJ2_equalsRange_1 22 rfl rfl)
theorem dJ2_equalsRange_46 : decode cJ2_equalsRange 46 = .ok (.iload_n 2, 1) := dk_28 (dk_at dksJ2_equalsRange_2 0 rfl rfl)
theorem dJ2_equalsRange_47 : decode cJ2_equalsRange 47 = .ok (.aaload, 1) := dk_50 (dk_at dksJ2_equalsRange_2 1 rfl rfl)
theorem dJ2_equalsRange_48 : decode cJ2_equalsRange 48 = .ok (.aload 5, 2) := dk_25 5 (dk_at dksJ2_equalsRange_2 2 rfl rfl)
theorem dJ2_equalsRange_50 : decode cJ2_equalsRange 50 = .ok (.invokeinterface 174 1, 5) := by decide +kernel
theorem dJ2_equalsRange_55 : decode cJ2_equalsRange 55 = .ok (.invokestatic 177, 3) := dk_184 0 177 (dk_at dksJ2_equalsRange_2 9 rfl rfl)
theorem dJ2_equalsRange_58 : decode cJ2_equalsRange 58 = .ok (.ifCond .ne 5, 3) := dk_154 0 5 (dk_at dksJ2_equalsRange_2 12 rfl rfl)
theorem dJ2_equalsRange_61 : decode cJ2_equalsRange 61 = .ok (.iconst 0, 1) := dk_3 (dk_at dksJ2_equalsRange_2 15 rfl rfl)
theorem dJ2_equalsRange_62 : decode cJ2_equalsRange 62 = .ok (.ireturn, 1) := dk_172 (dk_at dksJ2_equalsRange_2 16 rfl rfl)
theorem dJ2_equalsRange_63 : decode cJ2_equalsRange 63 = .ok (.iinc 2 1, 3) := dk_132 2 1 (dk_at dksJ2_equalsRange_2 17 rfl rfl)
theorem dJ2_equalsRange_66 : decode cJ2_equalsRange 66 = .ok (.goto (-37), 3) := dk_167 255 219 (dk_at dksJ2_equalsRange_2 20 rfl rfl)
theorem dJ2_equalsRange_69 : decode cJ2_equalsRange 69 = .ok (.aload 5, 2) := dk_25 5 (dk_at dksJ2_equalsRange_3 0 rfl rfl)
theorem dJ2_equalsRange_71 : decode cJ2_equalsRange 71 = .ok (.invokeinterface 168 1, 5) := by decide +kernel
theorem dJ2_equalsRange_76 : decode cJ2_equalsRange 76 = .ok (.ifCond .ne 7, 3) := dk_154 0 7 (dk_at dksJ2_equalsRange_3 7 rfl rfl)
theorem dJ2_equalsRange_79 : decode cJ2_equalsRange 79 = .ok (.iconst 1, 1) := dk_4 (dk_at dksJ2_equalsRange_3 10 rfl rfl)
theorem dJ2_equalsRange_80 : decode cJ2_equalsRange 80 = .ok (.goto 4, 3) := dk_167 0 4 (dk_at dksJ2_equalsRange_3 11 rfl rfl)
theorem dJ2_equalsRange_83 : decode cJ2_equalsRange 83 = .ok (.iconst 0, 1) := dk_3 (dk_at dksJ2_equalsRange_3 14 rfl rfl)
theorem dJ2_equalsRange_84 : decode cJ2_equalsRange 84 = .ok (.ireturn, 1) := dk_172 (dk_at dksJ2_equalsRange_3 15 rfl rfl)
abbrev cJ2_iterator : ByteArray := prog_35_method_55_code
def yJ2_iterator : MethodName := ⟨RJ2, "iterator", "()Ljava/util/Iterator;"⟩
def dkwJ2_iterator_0 : List UInt8 := [187, 1, 11, 89, 42, 183, 1, 13, 176]
abbrev dktJ2_iterator_0 : List UInt8 := dkwJ2_iterator_0 ++ []
theorem dksJ2_iterator_0 : cJ2_iterator.data.toList.drop 0 = dktJ2_iterator_0 := by decide +kernel
theorem dJ2_iterator_0 : decode cJ2_iterator 0 = .ok (.new 267, 3) := dk_187 1 11 (dk_at dksJ2_iterator_0 0 rfl rfl)
theorem dJ2_iterator_3 : decode cJ2_iterator 3 = .ok (.dup, 1) := dk_89 (dk_at dksJ2_iterator_0 3 rfl rfl)
theorem dJ2_iterator_4 : decode cJ2_iterator 4 = .ok (.aload_n 0, 1) := dk_42 (dk_at dksJ2_iterator_0 4 rfl rfl)
theorem dJ2_iterator_5 : decode cJ2_iterator 5 = .ok (.invokespecial 269, 3) := dk_183 1 13 (dk_at dksJ2_iterator_0 5 rfl rfl)
theorem dJ2_iterator_8 : decode cJ2_iterator 8 = .ok (.areturn, 1) := dk_176 (dk_at dksJ2_iterator_0 8 rfl rfl)
abbrev cJ2_contains : ByteArray := prog_35_method_10_code
def yJ2_contains : MethodName := ⟨RJ2, "contains", "(Ljava/lang/Object;)Z"⟩
def dkwJ2_contains_0 : List UInt8 := [42, 43, 182, 0, 85, 155, 0, 7, 4, 167, 0, 4, 3, 172]
abbrev dktJ2_contains_0 : List UInt8 := dkwJ2_contains_0 ++ []
theorem dksJ2_contains_0 : cJ2_contains.data.toList.drop 0 = dktJ2_contains_0 := by decide +kernel
theorem dJ2_contains_0 : decode cJ2_contains 0 = .ok (.aload_n 0, 1) := dk_42 (dk_at dksJ2_contains_0 0 rfl rfl)
theorem dJ2_contains_1 : decode cJ2_contains 1 = .ok (.aload_n 1, 1) := dk_43 (dk_at dksJ2_contains_0 1 rfl rfl)
theorem dJ2_contains_2 : decode cJ2_contains 2 = .ok (.invokevirtual 85, 3) := dk_182 0 85 (dk_at dksJ2_contains_0 2 rfl rfl)
theorem dJ2_contains_5 : decode cJ2_contains 5 = .ok (.ifCond .lt 7, 3) := dk_155 0 7 (dk_at dksJ2_contains_0 5 rfl rfl)
theorem dJ2_contains_8 : decode cJ2_contains 8 = .ok (.iconst 1, 1) := dk_4 (dk_at dksJ2_contains_0 8 rfl rfl)
theorem dJ2_contains_9 : decode cJ2_contains 9 = .ok (.goto 4, 3) := dk_167 0 4 (dk_at dksJ2_contains_0 9 rfl rfl)
theorem dJ2_contains_12 : decode cJ2_contains 12 = .ok (.iconst 0, 1) := dk_3 (dk_at dksJ2_contains_0 12 rfl rfl)
theorem dJ2_contains_13 : decode cJ2_contains 13 = .ok (.ireturn, 1) := dk_172 (dk_at dksJ2_contains_0 13 rfl rfl)
abbrev cJ2_indexOf : ByteArray := prog_35_method_11_code
def yJ2_indexOf : MethodName := ⟨RJ2, "indexOf", "(Ljava/lang/Object;)I"⟩
def dkwJ2_indexOf_0 : List UInt8 := [42, 43, 3, 42, 180, 0, 48, 182, 0, 89, 172]
abbrev dktJ2_indexOf_0 : List UInt8 := dkwJ2_indexOf_0 ++ []
theorem dksJ2_indexOf_0 : cJ2_indexOf.data.toList.drop 0 = dktJ2_indexOf_0 := by decide +kernel
theorem dJ2_indexOf_0 : decode cJ2_indexOf 0 = .ok (.aload_n 0, 1) := dk_42 (dk_at dksJ2_indexOf_0 0 rfl rfl)
theorem dJ2_indexOf_1 : decode cJ2_indexOf 1 = .ok (.aload_n 1, 1) := dk_43 (dk_at dksJ2_indexOf_0 1 rfl rfl)
theorem dJ2_indexOf_2 : decode cJ2_indexOf 2 = .ok (.iconst 0, 1) := dk_3 (dk_at dksJ2_indexOf_0 2 rfl rfl)
theorem dJ2_indexOf_3 : decode cJ2_indexOf 3 = .ok (.aload_n 0, 1) := dk_42 (dk_at dksJ2_indexOf_0 3 rfl rfl)
theorem dJ2_indexOf_4 : decode cJ2_indexOf 4 = .ok (.getfield 48, 3) := dk_180 0 48 (dk_at dksJ2_indexOf_0 4 rfl rfl)
theorem dJ2_indexOf_7 : decode cJ2_indexOf 7 = .ok (.invokevirtual 89, 3) := dk_182 0 89 (dk_at dksJ2_indexOf_0 7 rfl rfl)
theorem dJ2_indexOf_10 : decode cJ2_indexOf 10 = .ok (.ireturn, 1) := dk_172 (dk_at dksJ2_indexOf_0 10 rfl rfl)
abbrev cJ2_indexOfRange : ByteArray := prog_35_method_12_code
def yJ2_indexOfRange : MethodName := ⟨RJ2, "indexOfRange", "(Ljava/lang/Object;II)I"⟩
def dkwJ2_indexOfRange_2 : List UInt8 := [43, 25, 4, 21, 5, 50, 182, 0, 93, 153, 0, 6, 21, 5, 172, 132, 5, 1, 167, 255, 232, 2, 172]
abbrev dktJ2_indexOfRange_2 : List UInt8 := dkwJ2_indexOfRange_2 ++ []
def dkwJ2_indexOfRange_1 : List UInt8 := [199, 0, 6, 21, 5, 172, 132, 5, 1, 167, 255, 236, 167, 0, 33, 28, 54, 5, 21, 5, 29, 162, 0, 24]
abbrev dktJ2_indexOfRange_1 : List UInt8 := dkwJ2_indexOfRange_1 ++ dktJ2_indexOfRange_2
def dkwJ2_indexOfRange_0 : List UInt8 := [42, 180, 0, 9, 58, 4, 43, 199, 0, 32, 28, 54, 5, 21, 5, 29, 162, 0, 20, 25, 4, 21, 5, 50]
abbrev dktJ2_indexOfRange_0 : List UInt8 := dkwJ2_indexOfRange_0 ++ dktJ2_indexOfRange_1
theorem dksJ2_indexOfRange_0 : cJ2_indexOfRange.data.toList.drop 0 = dktJ2_indexOfRange_0 := by decide +kernel
theorem dksJ2_indexOfRange_1 : cJ2_indexOfRange.data.toList.drop 24 = dktJ2_indexOfRange_1 := dk_seg dksJ2_indexOfRange_0 24 rfl rfl
theorem dksJ2_indexOfRange_2 : cJ2_indexOfRange.data.toList.drop 48 = dktJ2_indexOfRange_2 := dk_seg dksJ2_indexOfRange_1 24 rfl rfl
theorem dJ2_indexOfRange_0 : decode cJ2_indexOfRange 0 = .ok (.aload_n 0, 1) := dk_42 (dk_at dksJ2_indexOfRange_0 0 rfl rfl)
theorem dJ2_indexOfRange_1 : decode cJ2_indexOfRange 1 = .ok (.getfield 9, 3) := dk_180 0 9 (dk_at dksJ2_indexOfRange_0 1 rfl rfl)
theorem dJ2_indexOfRange_4 : decode cJ2_indexOfRange 4 = .ok (.astore 4, 2) := dk_58 4 (dk_at dksJ2_indexOfRange_0 4 rfl rfl)
theorem dJ2_indexOfRange_6 : decode cJ2_indexOfRange 6 = .ok (.aload_n 1, 1) := dk_43 (dk_at dksJ2_indexOfRange_0 6 rfl rfl)
theorem dJ2_indexOfRange_7 : decode cJ2_indexOfRange 7 = .ok (.ifnonnull 32, 3) := dk_199 0 32 (dk_at dksJ2_indexOfRange_0 7 rfl rfl)
theorem dJ2_indexOfRange_10 : decode cJ2_indexOfRange 10 = .ok (.iload_n 2, 1) := dk_28 (dk_at dksJ2_indexOfRange_0 10 rfl rfl)
theorem dJ2_indexOfRange_11 : decode cJ2_indexOfRange 11 = .ok (.istore 5, 2) := dk_54 5 (dk_at dksJ2_indexOfRange_0 11 rfl rfl)
theorem dJ2_indexOfRange_13 : decode cJ2_indexOfRange 13 = .ok (.iload 5, 2) := dk_21 5 (dk_at dksJ2_indexOfRange_0 13 rfl rfl)
theorem dJ2_indexOfRange_15 : decode cJ2_indexOfRange 15 = .ok (.iload_n 3, 1) := dk_29 (dk_at dksJ2_indexOfRange_0 15 rfl rfl)
theorem dJ2_indexOfRange_16 : decode cJ2_indexOfRange 16 = .ok (.if_icmp .ge 20, 3) := dk_162 0 20 (dk_at dksJ2_indexOfRange_0 16 rfl rfl)
theorem dJ2_indexOfRange_19 : decode cJ2_indexOfRange 19 = .ok (.aload 4, 2) := dk_25 4 (dk_at dksJ2_indexOfRange_0 19 rfl rfl)
theorem dJ2_indexOfRange_21 : decode cJ2_indexOfRange 21 = .ok (.iload 5, 2) := dk_21 5 (dk_at dksJ2_indexOfRange_0 21 rfl rfl)
theorem dJ2_indexOfRange_23 : decode cJ2_indexOfRange 23 = .ok (.aaload, 1) := dk_50 (dk_at dksJ2_indexOfRange_0 23 rfl rfl)
theorem dJ2_indexOfRange_24 : decode cJ2_indexOfRange 24 = .ok (.ifnonnull 6, 3) := dk_199 0 6 (dk_at dksJ2_indexOfRange_1 0 rfl rfl)
theorem dJ2_indexOfRange_27 : decode cJ2_indexOfRange 27 = .ok (.iload 5, 2) := dk_21 5 (dk_at dksJ2_indexOfRange_1 3 rfl rfl)
theorem dJ2_indexOfRange_29 : decode cJ2_indexOfRange 29 = .ok (.ireturn, 1) := dk_172 (dk_at dksJ2_indexOfRange_1 5 rfl rfl)
theorem dJ2_indexOfRange_30 : decode cJ2_indexOfRange 30 = .ok (.iinc 5 1, 3) := dk_132 5 1 (dk_at dksJ2_indexOfRange_1 6 rfl rfl)
theorem dJ2_indexOfRange_33 : decode cJ2_indexOfRange 33 = .ok (.goto (-20), 3) := dk_167 255 236 (dk_at dksJ2_indexOfRange_1 9 rfl rfl)
theorem dJ2_indexOfRange_36 : decode cJ2_indexOfRange 36 = .ok (.goto 33, 3) := dk_167 0 33 (dk_at dksJ2_indexOfRange_1 12 rfl rfl)
theorem dJ2_indexOfRange_39 : decode cJ2_indexOfRange 39 = .ok (.iload_n 2, 1) := dk_28 (dk_at dksJ2_indexOfRange_1 15 rfl rfl)
theorem dJ2_indexOfRange_40 : decode cJ2_indexOfRange 40 = .ok (.istore 5, 2) := dk_54 5 (dk_at dksJ2_indexOfRange_1 16 rfl rfl)
theorem dJ2_indexOfRange_42 : decode cJ2_indexOfRange 42 = .ok (.iload 5, 2) := dk_21 5 (dk_at dksJ2_indexOfRange_1 18 rfl rfl)
theorem dJ2_indexOfRange_44 : decode cJ2_indexOfRange 44 = .ok (.iload_n 3, 1) := dk_29 (dk_at dksJ2_indexOfRange_1 20 rfl rfl)
theorem dJ2_indexOfRange_45 : decode cJ2_indexOfRange 45 = .ok (.if_icmp .ge 24, 3) := dk_162 0 24 (dk_at dksJ2_indexOfRange_1 21 rfl rfl)
theorem dJ2_indexOfRange_48 : decode cJ2_indexOfRange 48 = .ok (.aload_n 1, 1) := dk_43 (dk_at dksJ2_indexOfRange_2 0 rfl rfl)
theorem dJ2_indexOfRange_49 : decode cJ2_indexOfRange 49 = .ok (.aload 4, 2) := dk_25 4 (dk_at dksJ2_indexOfRange_2 1 rfl rfl)
theorem dJ2_indexOfRange_51 : decode cJ2_indexOfRange 51 = .ok (.iload 5, 2) := dk_21 5 (dk_at dksJ2_indexOfRange_2 3 rfl rfl)
theorem dJ2_indexOfRange_53 : decode cJ2_indexOfRange 53 = .ok (.aaload, 1) := dk_50 (dk_at dksJ2_indexOfRange_2 5 rfl rfl)
theorem dJ2_indexOfRange_54 : decode cJ2_indexOfRange 54 = .ok (.invokevirtual 93, 3) := dk_182 0 93 (dk_at dksJ2_indexOfRange_2 6 rfl rfl)
theorem dJ2_indexOfRange_57 : decode cJ2_indexOfRange 57 = .ok (.ifCond .eq 6, 3) := dk_153 0 6 (dk_at dksJ2_indexOfRange_2 9 rfl rfl)
theorem dJ2_indexOfRange_60 : decode cJ2_indexOfRange 60 = .ok (.iload 5, 2) := dk_21 5 (dk_at dksJ2_indexOfRange_2 12 rfl rfl)
theorem dJ2_indexOfRange_62 : decode cJ2_indexOfRange 62 = .ok (.ireturn, 1) := dk_172 (dk_at dksJ2_indexOfRange_2 14 rfl rfl)
theorem dJ2_indexOfRange_63 : decode cJ2_indexOfRange 63 = .ok (.iinc 5 1, 3) := dk_132 5 1 (dk_at dksJ2_indexOfRange_2 15 rfl rfl)
theorem dJ2_indexOfRange_66 : decode cJ2_indexOfRange 66 = .ok (.goto (-24), 3) := dk_167 255 232 (dk_at dksJ2_indexOfRange_2 18 rfl rfl)
theorem dJ2_indexOfRange_69 : decode cJ2_indexOfRange 69 = .ok (.iconst (-1), 1) := dk_2 (dk_at dksJ2_indexOfRange_2 21 rfl rfl)
theorem dJ2_indexOfRange_70 : decode cJ2_indexOfRange 70 = .ok (.ireturn, 1) := dk_172 (dk_at dksJ2_indexOfRange_2 22 rfl rfl)
abbrev cJ2_remove_2 : ByteArray := prog_35_method_38_code
def yJ2_remove_2 : MethodName := ⟨RJ2, "remove", "(Ljava/lang/Object;)Z"⟩
def dkwJ2_remove_2_3 : List UInt8 := [182, 0, 144, 4, 172]
abbrev dktJ2_remove_2_3 : List UInt8 := dkwJ2_remove_2_3 ++ []
def dkwJ2_remove_2_2 : List UInt8 := [21, 4, 50, 182, 0, 93, 153, 0, 6, 167, 0, 11, 132, 4, 1, 167, 255, 233, 3, 172, 42, 44, 21, 4]
abbrev dktJ2_remove_2_2 : List UInt8 := dkwJ2_remove_2_2 ++ dktJ2_remove_2_3
def dkwJ2_remove_2_1 : List UInt8 := [21, 4, 50, 199, 0, 6, 167, 0, 37, 132, 4, 1, 167, 255, 237, 21, 4, 29, 162, 0, 23, 43, 44]
abbrev dktJ2_remove_2_1 : List UInt8 := dkwJ2_remove_2_1 ++ dktJ2_remove_2_2
def dkwJ2_remove_2_0 : List UInt8 := [42, 180, 0, 9, 77, 42, 180, 0, 48, 62, 3, 54, 4, 43, 199, 0, 25, 21, 4, 29, 162, 0, 45, 44]
abbrev dktJ2_remove_2_0 : List UInt8 := dkwJ2_remove_2_0 ++ dktJ2_remove_2_1
theorem dksJ2_remove_2_0 : cJ2_remove_2.data.toList.drop 0 = dktJ2_remove_2_0 := by decide +kernel
theorem dksJ2_remove_2_1 : cJ2_remove_2.data.toList.drop 24 = dktJ2_remove_2_1 := dk_seg dksJ2_remove_2_0 24 rfl rfl
theorem dksJ2_remove_2_2 : cJ2_remove_2.data.toList.drop 47 = dktJ2_remove_2_2 := dk_seg dksJ2_remove_2_1 23 rfl rfl
theorem dksJ2_remove_2_3 : cJ2_remove_2.data.toList.drop 71 = dktJ2_remove_2_3 := dk_seg dksJ2_remove_2_2 24 rfl rfl
theorem dJ2_remove_2_0 : decode cJ2_remove_2 0 = .ok (.aload_n 0, 1) := dk_42 (dk_at dksJ2_remove_2_0 0 rfl rfl)
theorem dJ2_remove_2_1 : decode cJ2_remove_2 1 = .ok (.getfield 9, 3) := dk_180 0 9 (dk_at dksJ2_remove_2_0 1 rfl rfl)
theorem dJ2_remove_2_4 : decode cJ2_remove_2 4 = .ok (.astore_n 2, 1) := dk_77 (dk_at dksJ2_remove_2_0 4 rfl rfl)
theorem dJ2_remove_2_5 : decode cJ2_remove_2 5 = .ok (.aload_n 0, 1) := dk_42 (dk_at dksJ2_remove_2_0 5 rfl rfl)
theorem dJ2_remove_2_6 : decode cJ2_remove_2 6 = .ok (.getfield 48, 3) := dk_180 0 48 (dk_at dksJ2_remove_2_0 6 rfl rfl)
theorem dJ2_remove_2_9 : decode cJ2_remove_2 9 = .ok (.istore_n 3, 1) := dk_62 (dk_at dksJ2_remove_2_0 9 rfl rfl)
theorem dJ2_remove_2_10 : decode cJ2_remove_2 10 = .ok (.iconst 0, 1) := dk_3 (dk_at dksJ2_remove_2_0 10 rfl rfl)
theorem dJ2_remove_2_11 : decode cJ2_remove_2 11 = .ok (.istore 4, 2) := dk_54 4 (dk_at dksJ2_remove_2_0 11 rfl rfl)
theorem dJ2_remove_2_13 : decode cJ2_remove_2 13 = .ok (.aload_n 1, 1) := dk_43 (dk_at dksJ2_remove_2_0 13 rfl rfl)
theorem dJ2_remove_2_14 : decode cJ2_remove_2 14 = .ok (.ifnonnull 25, 3) := dk_199 0 25 (dk_at dksJ2_remove_2_0 14 rfl rfl)
theorem dJ2_remove_2_17 : decode cJ2_remove_2 17 = .ok (.iload 4, 2) := dk_21 4 (dk_at dksJ2_remove_2_0 17 rfl rfl)
theorem dJ2_remove_2_19 : decode cJ2_remove_2 19 = .ok (.iload_n 3, 1) := dk_29 (dk_at dksJ2_remove_2_0 19 rfl rfl)
theorem dJ2_remove_2_20 : decode cJ2_remove_2 20 = .ok (.if_icmp .ge 45, 3) := dk_162 0 45 (dk_at dksJ2_remove_2_0 20 rfl rfl)
theorem dJ2_remove_2_23 : decode cJ2_remove_2 23 = .ok (.aload_n 2, 1) := dk_44 (dk_at dksJ2_remove_2_0 23 rfl rfl)
theorem dJ2_remove_2_24 : decode cJ2_remove_2 24 = .ok (.iload 4, 2) := dk_21 4 (dk_at dksJ2_remove_2_1 0 rfl rfl)
theorem dJ2_remove_2_26 : decode cJ2_remove_2 26 = .ok (.aaload, 1) := dk_50 (dk_at dksJ2_remove_2_1 2 rfl rfl)
theorem dJ2_remove_2_27 : decode cJ2_remove_2 27 = .ok (.ifnonnull 6, 3) := dk_199 0 6 (dk_at dksJ2_remove_2_1 3 rfl rfl)
theorem dJ2_remove_2_30 : decode cJ2_remove_2 30 = .ok (.goto 37, 3) := dk_167 0 37 (dk_at dksJ2_remove_2_1 6 rfl rfl)
theorem dJ2_remove_2_33 : decode cJ2_remove_2 33 = .ok (.iinc 4 1, 3) := dk_132 4 1 (dk_at dksJ2_remove_2_1 9 rfl rfl)
theorem dJ2_remove_2_36 : decode cJ2_remove_2 36 = .ok (.goto (-19), 3) := dk_167 255 237 (dk_at dksJ2_remove_2_1 12 rfl rfl)
theorem dJ2_remove_2_39 : decode cJ2_remove_2 39 = .ok (.iload 4, 2) := dk_21 4 (dk_at dksJ2_remove_2_1 15 rfl rfl)
theorem dJ2_remove_2_41 : decode cJ2_remove_2 41 = .ok (.iload_n 3, 1) := dk_29 (dk_at dksJ2_remove_2_1 17 rfl rfl)
theorem dJ2_remove_2_42 : decode cJ2_remove_2 42 = .ok (.if_icmp .ge 23, 3) := dk_162 0 23 (dk_at dksJ2_remove_2_1 18 rfl rfl)
theorem dJ2_remove_2_45 : decode cJ2_remove_2 45 = .ok (.aload_n 1, 1) := dk_43 (dk_at dksJ2_remove_2_1 21 rfl rfl)
theorem dJ2_remove_2_46 : decode cJ2_remove_2 46 = .ok (.aload_n 2, 1) := dk_44 (dk_at dksJ2_remove_2_1 22 rfl rfl)
theorem dJ2_remove_2_47 : decode cJ2_remove_2 47 = .ok (.iload 4, 2) := dk_21 4 (dk_at dksJ2_remove_2_2 0 rfl rfl)
theorem dJ2_remove_2_49 : decode cJ2_remove_2 49 = .ok (.aaload, 1) := dk_50 (dk_at dksJ2_remove_2_2 2 rfl rfl)
theorem dJ2_remove_2_50 : decode cJ2_remove_2 50 = .ok (.invokevirtual 93, 3) := dk_182 0 93 (dk_at dksJ2_remove_2_2 3 rfl rfl)
theorem dJ2_remove_2_53 : decode cJ2_remove_2 53 = .ok (.ifCond .eq 6, 3) := dk_153 0 6 (dk_at dksJ2_remove_2_2 6 rfl rfl)
theorem dJ2_remove_2_56 : decode cJ2_remove_2 56 = .ok (.goto 11, 3) := dk_167 0 11 (dk_at dksJ2_remove_2_2 9 rfl rfl)
theorem dJ2_remove_2_59 : decode cJ2_remove_2 59 = .ok (.iinc 4 1, 3) := dk_132 4 1 (dk_at dksJ2_remove_2_2 12 rfl rfl)
theorem dJ2_remove_2_62 : decode cJ2_remove_2 62 = .ok (.goto (-23), 3) := dk_167 255 233 (dk_at dksJ2_remove_2_2 15 rfl rfl)
theorem dJ2_remove_2_65 : decode cJ2_remove_2 65 = .ok (.iconst 0, 1) := dk_3 (dk_at dksJ2_remove_2_2 18 rfl rfl)
theorem dJ2_remove_2_66 : decode cJ2_remove_2 66 = .ok (.ireturn, 1) := dk_172 (dk_at dksJ2_remove_2_2 19 rfl rfl)
theorem dJ2_remove_2_67 : decode cJ2_remove_2 67 = .ok (.aload_n 0, 1) := dk_42 (dk_at dksJ2_remove_2_2 20 rfl rfl)
theorem dJ2_remove_2_68 : decode cJ2_remove_2 68 = .ok (.aload_n 2, 1) := dk_44 (dk_at dksJ2_remove_2_2 21 rfl rfl)
theorem dJ2_remove_2_69 : decode cJ2_remove_2 69 = .ok (.iload 4, 2) := dk_21 4 (dk_at dksJ2_remove_2_2 22 rfl rfl)
theorem dJ2_remove_2_71 : decode cJ2_remove_2 71 = .ok (.invokevirtual 144, 3) := dk_182 0 144 (dk_at dksJ2_remove_2_3 0 rfl rfl)
theorem dJ2_remove_2_74 : decode cJ2_remove_2 74 = .ok (.iconst 1, 1) := dk_4 (dk_at dksJ2_remove_2_3 3 rfl rfl)
theorem dJ2_remove_2_75 : decode cJ2_remove_2 75 = .ok (.ireturn, 1) := dk_172 (dk_at dksJ2_remove_2_3 4 rfl rfl)
theorem q35 : (Jvm.Cond.initialized "java/util/ArrayList") ∈ lw_all := lw_g (lw_at lw_m1 4 rfl) rfl
theorem q73 : (Jvm.Cond.instantiable "java/util/ArrayList" (3 : Nat)) ∈ lw_all := lw_g (lw_at lw_m1 42 rfl) rfl
theorem q75 : (Jvm.Cond.instanceMethod ({ cls := "java/util/ArrayList", name := "<init>", desc := "()V" } : Jvm.MethodName)) ∈ lw_all := lw_g (lw_at lw_m1 44 rfl) rfl
theorem q76 : (Jvm.Cond.code ({ cls := "java/util/ArrayList", name := "<init>", desc := "()V" } : Jvm.MethodName) prog_35_method_2_code (1 : Nat) (Option.none : Option Jvm.ClassFile.FieldType)) ∈ lw_all := lw_g (lw_at lw_m1 45 rfl) rfl
theorem q77 : (Jvm.Cond.methodLink "java/util/ArrayList" (1 : Nat) ({ cls := "java/util/AbstractList", name := "<init>", desc := "()V" } : Jvm.MethodName)) ∈ lw_all := lw_g (lw_at lw_m1 46 rfl) rfl
theorem q84 : (Jvm.Cond.fieldLink "java/util/ArrayList" (39 : Nat) "java/util/ArrayList" "DEFAULTCAPACITY_EMPTY_ELEMENTDATA" "[Ljava/lang/Object;") ∈ lw_all := lw_g (lw_at lw_m1 53 rfl) rfl
theorem q85 : (Jvm.Cond.laysStatic "java/util/ArrayList" "DEFAULTCAPACITY_EMPTY_ELEMENTDATA" "[Ljava/lang/Object;") ∈ lw_tbl := lw_at lw_m1 54 rfl
theorem q86 : (Jvm.Cond.fieldLink "java/util/ArrayList" (9 : Nat) "java/util/ArrayList" "elementData" "[Ljava/lang/Object;") ∈ lw_all := lw_g (lw_at lw_m1 55 rfl) rfl
theorem q89 : (Jvm.Cond.fieldLink "java/util/ArrayList" (48 : Nat) "java/util/ArrayList" "size" "I") ∈ lw_all := lw_g (lw_at lw_m1 58 rfl) rfl
theorem q92 : (Jvm.Cond.sameField "java/util/ArrayList" "java/util/AbstractList" "modCount" "I") ∈ lw_all := lw_g (lw_at lw_m1 61 rfl) rfl
theorem q93 : (Jvm.Cond.fieldLink "java/util/ArrayList" (63 : Nat) "java/util/ArrayList" "modCount" "I") ∈ lw_all := lw_g (lw_at lw_m1 62 rfl) rfl
theorem q94 : (Jvm.Cond.lays "java/util/ArrayList" "java/util/ArrayList" "elementData" "[Ljava/lang/Object;") ∈ lw_all := lw_g (lw_at lw_m1 63 rfl) rfl
theorem q95 : (Jvm.Cond.soleField "java/util/ArrayList" "elementData") ∈ lw_all := lw_g (lw_at lw_m1 64 rfl) rfl
theorem q96 : (Jvm.Cond.lays "java/util/ArrayList" "java/util/ArrayList" "size" "I") ∈ lw_all := lw_g (lw_at lw_m1 65 rfl) rfl
theorem q97 : (Jvm.Cond.soleField "java/util/ArrayList" "size") ∈ lw_all := lw_g (lw_at lw_m1 66 rfl) rfl
theorem q98 : (Jvm.Cond.lays "java/util/ArrayList" "java/util/AbstractList" "modCount" "I") ∈ lw_all := lw_g (lw_at lw_m1 67 rfl) rfl
theorem q100 : (Jvm.Cond.superclass "java/util/ArrayList" "java/util/AbstractList") ∈ lw_all := lw_g (lw_at lw_m1 69 rfl) rfl
theorem q499 : (Jvm.Cond.instanceMethod ({ cls := "java/util/ArrayList", name := "add", desc := "(Ljava/lang/Object;)Z" } : Jvm.MethodName)) ∈ lw_all := lw_g (lw_at lw_m2 228 rfl) rfl
theorem q500 : (Jvm.Cond.selects "java/util/ArrayList" ({ cls := "java/util/ArrayList", name := "add", desc := "(Ljava/lang/Object;)Z" } : Jvm.MethodName) ({ cls := "java/util/ArrayList", name := "add", desc := "(Ljava/lang/Object;)Z" } : Jvm.MethodName)) ∈ lw_all := lw_g (lw_at lw_m2 229 rfl) rfl
theorem q501 : (Jvm.Cond.code ({ cls := "java/util/ArrayList", name := "add", desc := "(Ljava/lang/Object;)Z" } : Jvm.MethodName) prog_35_method_25_code (2 : Nat) (Option.some Jvm.ClassFile.FieldType.boolean)) ∈ lw_all := lw_g (lw_at lw_m2 230 rfl) rfl
theorem q502 : (Jvm.Cond.methodLink "java/util/ArrayList" (131 : Nat) ({ cls := "java/util/ArrayList", name := "add", desc := "(Ljava/lang/Object;[Ljava/lang/Object;I)V" } : Jvm.MethodName)) ∈ lw_all := lw_g (lw_at lw_m2 231 rfl) rfl
theorem q503 : (Jvm.Cond.privateMethod ({ cls := "java/util/ArrayList", name := "add", desc := "(Ljava/lang/Object;[Ljava/lang/Object;I)V" } : Jvm.MethodName)) ∈ lw_tbl := lw_at lw_m2 232 rfl
theorem q504 : (Jvm.Cond.instanceMethod ({ cls := "java/util/ArrayList", name := "add", desc := "(Ljava/lang/Object;[Ljava/lang/Object;I)V" } : Jvm.MethodName)) ∈ lw_all := lw_g (lw_at lw_m2 233 rfl) rfl
theorem q505 : (Jvm.Cond.code ({ cls := "java/util/ArrayList", name := "add", desc := "(Ljava/lang/Object;[Ljava/lang/Object;I)V" } : Jvm.MethodName) prog_35_method_24_code (4 : Nat) (Option.none : Option Jvm.ClassFile.FieldType)) ∈ lw_all := lw_g (lw_at lw_m2 234 rfl) rfl
theorem q506 : (Jvm.Cond.methodLink "java/util/ArrayList" (129 : Nat) ({ cls := "java/util/ArrayList", name := "grow", desc := "()[Ljava/lang/Object;" } : Jvm.MethodName)) ∈ lw_all := lw_g (lw_at lw_m2 235 rfl) rfl
theorem q507 : (Jvm.Cond.privateMethod ({ cls := "java/util/ArrayList", name := "grow", desc := "()[Ljava/lang/Object;" } : Jvm.MethodName)) ∈ lw_tbl := lw_at lw_m2 236 rfl
theorem q508 : (Jvm.Cond.instanceMethod ({ cls := "java/util/ArrayList", name := "grow", desc := "()[Ljava/lang/Object;" } : Jvm.MethodName)) ∈ lw_all := lw_g (lw_at lw_m2 237 rfl) rfl
theorem q509 : (Jvm.Cond.code ({ cls := "java/util/ArrayList", name := "grow", desc := "()[Ljava/lang/Object;" } : Jvm.MethodName) prog_35_method_7_code (1 : Nat) (Option.some (Jvm.ClassFile.FieldType.array (Jvm.ClassFile.FieldType.object "java/lang/Object")))) ∈ lw_all := lw_g (lw_at lw_m2 238 rfl) rfl
theorem q510 : (Jvm.Cond.methodLink "java/util/ArrayList" (69 : Nat) ({ cls := "java/util/ArrayList", name := "grow", desc := "(I)[Ljava/lang/Object;" } : Jvm.MethodName)) ∈ lw_all := lw_g (lw_at lw_m2 239 rfl) rfl
theorem q511 : (Jvm.Cond.privateMethod ({ cls := "java/util/ArrayList", name := "grow", desc := "(I)[Ljava/lang/Object;" } : Jvm.MethodName)) ∈ lw_tbl := lw_at lw_m3 0 rfl
theorem q512 : (Jvm.Cond.instanceMethod ({ cls := "java/util/ArrayList", name := "grow", desc := "(I)[Ljava/lang/Object;" } : Jvm.MethodName)) ∈ lw_all := lw_g (lw_at lw_m3 1 rfl) rfl
theorem q513 : (Jvm.Cond.code ({ cls := "java/util/ArrayList", name := "grow", desc := "(I)[Ljava/lang/Object;" } : Jvm.MethodName) prog_35_method_6_code (4 : Nat) (Option.some (Jvm.ClassFile.FieldType.array (Jvm.ClassFile.FieldType.object "java/lang/Object")))) ∈ lw_all := lw_g (lw_at lw_m3 2 rfl) rfl
theorem q514 : (Jvm.Cond.methodLink "java/util/ArrayList" (73 : Nat) ({ cls := "jdk/internal/util/ArraysSupport", name := "newLength", desc := "(III)I" } : Jvm.MethodName)) ∈ lw_all := lw_g (lw_at lw_m3 3 rfl) rfl
theorem q515 : (Jvm.Cond.methodLink "java/util/ArrayList" (66 : Nat) ({ cls := "java/util/Arrays", name := "copyOf", desc := "([Ljava/lang/Object;I)[Ljava/lang/Object;" } : Jvm.MethodName)) ∈ lw_all := lw_g (lw_at lw_m3 4 rfl) rfl
theorem q533 : (Jvm.Cond.selects "java/util/ArrayList" ({ cls := "java/lang/Object", name := "getClass", desc := "()Ljava/lang/Class;" } : Jvm.MethodName) ({ cls := "java/lang/Object", name := "getClass", desc := "()Ljava/lang/Class;" } : Jvm.MethodName)) ∈ lw_all := lw_g (lw_at lw_m3 22 rfl) rfl
theorem q543 : (Jvm.Cond.methodLink "java/util/ArrayList" (79 : Nat) ({ cls := "java/lang/Math", name := "max", desc := "(II)I" } : Jvm.MethodName)) ∈ lw_all := lw_g (lw_at lw_m3 32 rfl) rfl
theorem q544 : (Jvm.Cond.classLink "java/util/ArrayList" (7 : Nat) "java/lang/Object") ∈ lw_all := lw_g (lw_at lw_m3 33 rfl) rfl
theorem q546 : (Jvm.Cond.instanceMethod ({ cls := "java/util/ArrayList", name := "size", desc := "()I" } : Jvm.MethodName)) ∈ lw_all := lw_g (lw_at lw_m3 35 rfl) rfl
theorem q547 : (Jvm.Cond.selects "java/util/ArrayList" ({ cls := "java/util/ArrayList", name := "size", desc := "()I" } : Jvm.MethodName) ({ cls := "java/util/ArrayList", name := "size", desc := "()I" } : Jvm.MethodName)) ∈ lw_all := lw_g (lw_at lw_m3 36 rfl) rfl
theorem q548 : (Jvm.Cond.code ({ cls := "java/util/ArrayList", name := "size", desc := "()I" } : Jvm.MethodName) prog_35_method_8_code (1 : Nat) (Option.some Jvm.ClassFile.FieldType.int)) ∈ lw_all := lw_g (lw_at lw_m3 37 rfl) rfl
theorem q550 : (Jvm.Cond.instanceMethod ({ cls := "java/util/ArrayList", name := "get", desc := "(I)Ljava/lang/Object;" } : Jvm.MethodName)) ∈ lw_all := lw_g (lw_at lw_m3 39 rfl) rfl
theorem q551 : (Jvm.Cond.selects "java/util/ArrayList" ({ cls := "java/util/ArrayList", name := "get", desc := "(I)Ljava/lang/Object;" } : Jvm.MethodName) ({ cls := "java/util/ArrayList", name := "get", desc := "(I)Ljava/lang/Object;" } : Jvm.MethodName)) ∈ lw_all := lw_g (lw_at lw_m3 40 rfl) rfl
theorem q552 : (Jvm.Cond.code ({ cls := "java/util/ArrayList", name := "get", desc := "(I)Ljava/lang/Object;" } : Jvm.MethodName) prog_35_method_20_code (2 : Nat) (Option.some (Jvm.ClassFile.FieldType.object "java/lang/Object"))) ∈ lw_all := lw_g (lw_at lw_m3 41 rfl) rfl
theorem q553 : (Jvm.Cond.methodLink "java/util/ArrayList" (118 : Nat) ({ cls := "java/util/Objects", name := "checkIndex", desc := "(II)I" } : Jvm.MethodName)) ∈ lw_all := lw_g (lw_at lw_m3 42 rfl) rfl
theorem q557 : (Jvm.Cond.methodLink "java/util/ArrayList" (123 : Nat) ({ cls := "java/util/ArrayList", name := "elementData", desc := "(I)Ljava/lang/Object;" } : Jvm.MethodName)) ∈ lw_all := lw_g (lw_at lw_m3 46 rfl) rfl
theorem q558 : (Jvm.Cond.instanceMethod ({ cls := "java/util/ArrayList", name := "elementData", desc := "(I)Ljava/lang/Object;" } : Jvm.MethodName)) ∈ lw_all := lw_g (lw_at lw_m3 47 rfl) rfl
theorem q559 : (Jvm.Cond.selects "java/util/ArrayList" ({ cls := "java/util/ArrayList", name := "elementData", desc := "(I)Ljava/lang/Object;" } : Jvm.MethodName) ({ cls := "java/util/ArrayList", name := "elementData", desc := "(I)Ljava/lang/Object;" } : Jvm.MethodName)) ∈ lw_all := lw_g (lw_at lw_m3 48 rfl) rfl
theorem q560 : (Jvm.Cond.code ({ cls := "java/util/ArrayList", name := "elementData", desc := "(I)Ljava/lang/Object;" } : Jvm.MethodName) prog_35_method_18_code (2 : Nat) (Option.some (Jvm.ClassFile.FieldType.object "java/lang/Object"))) ∈ lw_all := lw_g (lw_at lw_m3 49 rfl) rfl
theorem q636 : (Jvm.Cond.instanceMethod ({ cls := "java/util/ArrayList", name := "remove", desc := "(I)Ljava/lang/Object;" } : Jvm.MethodName)) ∈ lw_all := lw_g (lw_at lw_m3 125 rfl) rfl
theorem q637 : (Jvm.Cond.selects "java/util/ArrayList" ({ cls := "java/util/ArrayList", name := "remove", desc := "(I)Ljava/lang/Object;" } : Jvm.MethodName) ({ cls := "java/util/ArrayList", name := "remove", desc := "(I)Ljava/lang/Object;" } : Jvm.MethodName)) ∈ lw_all := lw_g (lw_at lw_m3 126 rfl) rfl
theorem q638 : (Jvm.Cond.code ({ cls := "java/util/ArrayList", name := "remove", desc := "(I)Ljava/lang/Object;" } : Jvm.MethodName) prog_35_method_29_code (4 : Nat) (Option.some (Jvm.ClassFile.FieldType.object "java/lang/Object"))) ∈ lw_all := lw_g (lw_at lw_m3 127 rfl) rfl
theorem q639 : (Jvm.Cond.methodLink "java/util/ArrayList" (144 : Nat) ({ cls := "java/util/ArrayList", name := "fastRemove", desc := "([Ljava/lang/Object;I)V" } : Jvm.MethodName)) ∈ lw_all := lw_g (lw_at lw_m3 128 rfl) rfl
theorem q640 : (Jvm.Cond.privateMethod ({ cls := "java/util/ArrayList", name := "fastRemove", desc := "([Ljava/lang/Object;I)V" } : Jvm.MethodName)) ∈ lw_tbl := lw_at lw_m3 129 rfl
theorem q641 : (Jvm.Cond.instanceMethod ({ cls := "java/util/ArrayList", name := "fastRemove", desc := "([Ljava/lang/Object;I)V" } : Jvm.MethodName)) ∈ lw_all := lw_g (lw_at lw_m3 130 rfl) rfl
theorem q642 : (Jvm.Cond.code ({ cls := "java/util/ArrayList", name := "fastRemove", desc := "([Ljava/lang/Object;I)V" } : Jvm.MethodName) prog_35_method_39_code (4 : Nat) (Option.none : Option Jvm.ClassFile.FieldType)) ∈ lw_all := lw_g (lw_at lw_m3 131 rfl) rfl
theorem q643 : (Jvm.Cond.methodLink "java/util/ArrayList" (112 : Nat) ({ cls := "java/lang/System", name := "arraycopy", desc := "(Ljava/lang/Object;ILjava/lang/Object;II)V" } : Jvm.MethodName)) ∈ lw_all := lw_g (lw_at lw_m3 132 rfl) rfl
theorem q948 : (Jvm.Cond.instanceMethod ({ cls := "java/util/ArrayList", name := "equals", desc := "(Ljava/lang/Object;)Z" } : Jvm.MethodName)) ∈ lw_all := lw_g (lw_at lw_m4 197 rfl) rfl
theorem q949 : (Jvm.Cond.selects "java/util/ArrayList" ({ cls := "java/util/ArrayList", name := "equals", desc := "(Ljava/lang/Object;)Z" } : Jvm.MethodName) ({ cls := "java/util/ArrayList", name := "equals", desc := "(Ljava/lang/Object;)Z" } : Jvm.MethodName)) ∈ lw_all := lw_g (lw_at lw_m4 198 rfl) rfl
theorem q950 : (Jvm.Cond.code ({ cls := "java/util/ArrayList", name := "equals", desc := "(Ljava/lang/Object;)Z" } : Jvm.MethodName) prog_35_method_32_code (4 : Nat) (Option.some Jvm.ClassFile.FieldType.boolean)) ∈ lw_all := lw_g (lw_at lw_m4 199 rfl) rfl
theorem q951 : (Jvm.Cond.classLink "java/util/ArrayList" (148 : Nat) "java/util/List") ∈ lw_all := lw_g (lw_at lw_m4 200 rfl) rfl
theorem q952 : (Jvm.Cond.methodLink "java/util/ArrayList" (111 : Nat) ({ cls := "java/lang/Object", name := "getClass", desc := "()Ljava/lang/Class;" } : Jvm.MethodName)) ∈ lw_all := lw_g (lw_at lw_m4 201 rfl) rfl
theorem q953 : (Jvm.Cond.classLink "java/util/ArrayList" (10 : Nat) "java/util/ArrayList") ∈ lw_all := lw_g (lw_at lw_m4 202 rfl) rfl
theorem q954 : (Jvm.Cond.methodLink "java/util/ArrayList" (150 : Nat) ({ cls := "java/util/ArrayList", name := "equalsArrayList", desc := "(Ljava/util/ArrayList;)Z" } : Jvm.MethodName)) ∈ lw_all := lw_g (lw_at lw_m4 203 rfl) rfl
theorem q955 : (Jvm.Cond.privateMethod ({ cls := "java/util/ArrayList", name := "equalsArrayList", desc := "(Ljava/util/ArrayList;)Z" } : Jvm.MethodName)) ∈ lw_tbl := lw_at lw_m4 204 rfl
theorem q956 : (Jvm.Cond.instanceMethod ({ cls := "java/util/ArrayList", name := "equalsArrayList", desc := "(Ljava/util/ArrayList;)Z" } : Jvm.MethodName)) ∈ lw_all := lw_g (lw_at lw_m4 205 rfl) rfl
theorem q957 : (Jvm.Cond.code ({ cls := "java/util/ArrayList", name := "equalsArrayList", desc := "(Ljava/util/ArrayList;)Z" } : Jvm.MethodName) prog_35_method_34_code (8 : Nat) (Option.some Jvm.ClassFile.FieldType.boolean)) ∈ lw_all := lw_g (lw_at lw_m4 206 rfl) rfl
theorem q958 : (Jvm.Cond.methodLink "java/util/ArrayList" (177 : Nat) ({ cls := "java/util/Objects", name := "equals", desc := "(Ljava/lang/Object;Ljava/lang/Object;)Z" } : Jvm.MethodName)) ∈ lw_all := lw_g (lw_at lw_m4 207 rfl) rfl
theorem q981 : (Jvm.Cond.methodLink "java/util/ArrayList" (158 : Nat) ({ cls := "java/util/ArrayList", name := "checkForComodification", desc := "(I)V" } : Jvm.MethodName)) ∈ lw_all := lw_g (lw_at lw_m4 230 rfl) rfl
theorem q982 : (Jvm.Cond.privateMethod ({ cls := "java/util/ArrayList", name := "checkForComodification", desc := "(I)V" } : Jvm.MethodName)) ∈ lw_tbl := lw_at lw_m4 231 rfl
theorem q983 : (Jvm.Cond.instanceMethod ({ cls := "java/util/ArrayList", name := "checkForComodification", desc := "(I)V" } : Jvm.MethodName)) ∈ lw_all := lw_g (lw_at lw_m4 232 rfl) rfl
theorem q984 : (Jvm.Cond.code ({ cls := "java/util/ArrayList", name := "checkForComodification", desc := "(I)V" } : Jvm.MethodName) prog_35_method_35_code (2 : Nat) (Option.none : Option Jvm.ClassFile.FieldType)) ∈ lw_all := lw_g (lw_at lw_m4 233 rfl) rfl
theorem q985 : (Jvm.Cond.methodLink "java/util/ArrayList" (154 : Nat) ({ cls := "java/util/ArrayList", name := "equalsRange", desc := "(Ljava/util/List;II)Z" } : Jvm.MethodName)) ∈ lw_all := lw_g (lw_at lw_m4 234 rfl) rfl
theorem q986 : (Jvm.Cond.instanceMethod ({ cls := "java/util/ArrayList", name := "equalsRange", desc := "(Ljava/util/List;II)Z" } : Jvm.MethodName)) ∈ lw_all := lw_g (lw_at lw_m4 235 rfl) rfl
theorem q987 : (Jvm.Cond.selects "java/util/ArrayList" ({ cls := "java/util/ArrayList", name := "equalsRange", desc := "(Ljava/util/List;II)Z" } : Jvm.MethodName) ({ cls := "java/util/ArrayList", name := "equalsRange", desc := "(Ljava/util/List;II)Z" } : Jvm.MethodName)) ∈ lw_all := lw_g (lw_at lw_m4 236 rfl) rfl
theorem q988 : (Jvm.Cond.code ({ cls := "java/util/ArrayList", name := "equalsRange", desc := "(Ljava/util/List;II)Z" } : Jvm.MethodName) prog_35_method_33_code (6 : Nat) (Option.some Jvm.ClassFile.FieldType.boolean)) ∈ lw_all := lw_g (lw_at lw_m4 237 rfl) rfl
theorem q989 : (Jvm.Cond.interfaceEntry "java/util/ArrayList" (164 : Nat)) ∈ lw_tbl := lw_at lw_m4 238 rfl
theorem q990 : (Jvm.Cond.methodLink "java/util/ArrayList" (164 : Nat) ({ cls := "java/util/List", name := "iterator", desc := "()Ljava/util/Iterator;" } : Jvm.MethodName)) ∈ lw_all := lw_g (lw_at lw_m4 239 rfl) rfl
theorem q993 : (Jvm.Cond.castable "java/util/ArrayList" "java/util/List") ∈ lw_tbl := lw_at lw_m5 2 rfl
theorem q994 : (Jvm.Cond.selects "java/util/ArrayList" ({ cls := "java/util/List", name := "iterator", desc := "()Ljava/util/Iterator;" } : Jvm.MethodName) ({ cls := "java/util/ArrayList", name := "iterator", desc := "()Ljava/util/Iterator;" } : Jvm.MethodName)) ∈ lw_all := lw_g (lw_at lw_m5 3 rfl) rfl
theorem q995 : (Jvm.Cond.unhidden "java/util/ArrayList" "iterator" "()Ljava/util/Iterator;") ∈ lw_tbl := lw_at lw_m5 4 rfl
theorem q996 : (Jvm.Cond.instanceMethod ({ cls := "java/util/ArrayList", name := "iterator", desc := "()Ljava/util/Iterator;" } : Jvm.MethodName)) ∈ lw_all := lw_g (lw_at lw_m5 5 rfl) rfl
theorem q997 : (Jvm.Cond.publicMethod ({ cls := "java/util/ArrayList", name := "iterator", desc := "()Ljava/util/Iterator;" } : Jvm.MethodName)) ∈ lw_tbl := lw_at lw_m5 6 rfl
theorem q998 : (Jvm.Cond.code ({ cls := "java/util/ArrayList", name := "iterator", desc := "()Ljava/util/Iterator;" } : Jvm.MethodName) prog_35_method_55_code (1 : Nat) (Option.some (Jvm.ClassFile.FieldType.object "java/util/Iterator"))) ∈ lw_all := lw_g (lw_at lw_m5 7 rfl) rfl
theorem q999 : (Jvm.Cond.classLink "java/util/ArrayList" (267 : Nat) "java/util/ArrayList$Itr") ∈ lw_all := lw_g (lw_at lw_m5 8 rfl) rfl
theorem q1001 : (Jvm.Cond.methodLink "java/util/ArrayList" (269 : Nat) ({ cls := "java/util/ArrayList$Itr", name := "<init>", desc := "(Ljava/util/ArrayList;)V" } : Jvm.MethodName)) ∈ lw_all := lw_g (lw_at lw_m5 10 rfl) rfl
theorem q1018 : (Jvm.Cond.interfaceEntry "java/util/ArrayList" (168 : Nat)) ∈ lw_tbl := lw_at lw_m5 27 rfl
theorem q1019 : (Jvm.Cond.methodLink "java/util/ArrayList" (168 : Nat) ({ cls := "java/util/Iterator", name := "hasNext", desc := "()Z" } : Jvm.MethodName)) ∈ lw_all := lw_g (lw_at lw_m5 28 rfl) rfl
theorem q1028 : (Jvm.Cond.interfaceEntry "java/util/ArrayList" (174 : Nat)) ∈ lw_tbl := lw_at lw_m5 37 rfl
theorem q1029 : (Jvm.Cond.methodLink "java/util/ArrayList" (174 : Nat) ({ cls := "java/util/Iterator", name := "next", desc := "()Ljava/lang/Object;" } : Jvm.MethodName)) ∈ lw_all := lw_g (lw_at lw_m5 38 rfl) rfl
theorem q1066 : (Jvm.Cond.instanceMethod ({ cls := "java/util/ArrayList", name := "contains", desc := "(Ljava/lang/Object;)Z" } : Jvm.MethodName)) ∈ lw_all := lw_g (lw_at lw_m5 75 rfl) rfl
theorem q1067 : (Jvm.Cond.selects "java/util/ArrayList" ({ cls := "java/util/ArrayList", name := "contains", desc := "(Ljava/lang/Object;)Z" } : Jvm.MethodName) ({ cls := "java/util/ArrayList", name := "contains", desc := "(Ljava/lang/Object;)Z" } : Jvm.MethodName)) ∈ lw_all := lw_g (lw_at lw_m5 76 rfl) rfl
theorem q1068 : (Jvm.Cond.code ({ cls := "java/util/ArrayList", name := "contains", desc := "(Ljava/lang/Object;)Z" } : Jvm.MethodName) prog_35_method_10_code (2 : Nat) (Option.some Jvm.ClassFile.FieldType.boolean)) ∈ lw_all := lw_g (lw_at lw_m5 77 rfl) rfl
theorem q1069 : (Jvm.Cond.methodLink "java/util/ArrayList" (85 : Nat) ({ cls := "java/util/ArrayList", name := "indexOf", desc := "(Ljava/lang/Object;)I" } : Jvm.MethodName)) ∈ lw_all := lw_g (lw_at lw_m5 78 rfl) rfl
theorem q1070 : (Jvm.Cond.instanceMethod ({ cls := "java/util/ArrayList", name := "indexOf", desc := "(Ljava/lang/Object;)I" } : Jvm.MethodName)) ∈ lw_all := lw_g (lw_at lw_m5 79 rfl) rfl
theorem q1071 : (Jvm.Cond.selects "java/util/ArrayList" ({ cls := "java/util/ArrayList", name := "indexOf", desc := "(Ljava/lang/Object;)I" } : Jvm.MethodName) ({ cls := "java/util/ArrayList", name := "indexOf", desc := "(Ljava/lang/Object;)I" } : Jvm.MethodName)) ∈ lw_all := lw_g (lw_at lw_m5 80 rfl) rfl
theorem q1072 : (Jvm.Cond.code ({ cls := "java/util/ArrayList", name := "indexOf", desc := "(Ljava/lang/Object;)I" } : Jvm.MethodName) prog_35_method_11_code (2 : Nat) (Option.some Jvm.ClassFile.FieldType.int)) ∈ lw_all := lw_g (lw_at lw_m5 81 rfl) rfl
theorem q1073 : (Jvm.Cond.methodLink "java/util/ArrayList" (89 : Nat) ({ cls := "java/util/ArrayList", name := "indexOfRange", desc := "(Ljava/lang/Object;II)I" } : Jvm.MethodName)) ∈ lw_all := lw_g (lw_at lw_m5 82 rfl) rfl
theorem q1074 : (Jvm.Cond.instanceMethod ({ cls := "java/util/ArrayList", name := "indexOfRange", desc := "(Ljava/lang/Object;II)I" } : Jvm.MethodName)) ∈ lw_all := lw_g (lw_at lw_m5 83 rfl) rfl
theorem q1075 : (Jvm.Cond.selects "java/util/ArrayList" ({ cls := "java/util/ArrayList", name := "indexOfRange", desc := "(Ljava/lang/Object;II)I" } : Jvm.MethodName) ({ cls := "java/util/ArrayList", name := "indexOfRange", desc := "(Ljava/lang/Object;II)I" } : Jvm.MethodName)) ∈ lw_all := lw_g (lw_at lw_m5 84 rfl) rfl
theorem q1076 : (Jvm.Cond.code ({ cls := "java/util/ArrayList", name := "indexOfRange", desc := "(Ljava/lang/Object;II)I" } : Jvm.MethodName) prog_35_method_12_code (6 : Nat) (Option.some Jvm.ClassFile.FieldType.int)) ∈ lw_all := lw_g (lw_at lw_m5 85 rfl) rfl
theorem q1077 : (Jvm.Cond.methodLink "java/util/ArrayList" (93 : Nat) ({ cls := "java/lang/Object", name := "equals", desc := "(Ljava/lang/Object;)Z" } : Jvm.MethodName)) ∈ lw_all := lw_g (lw_at lw_m5 86 rfl) rfl
theorem q1083 : (Jvm.Cond.instanceMethod ({ cls := "java/util/ArrayList", name := "remove", desc := "(Ljava/lang/Object;)Z" } : Jvm.MethodName)) ∈ lw_all := lw_g (lw_at lw_m5 92 rfl) rfl
theorem q1084 : (Jvm.Cond.selects "java/util/ArrayList" ({ cls := "java/util/ArrayList", name := "remove", desc := "(Ljava/lang/Object;)Z" } : Jvm.MethodName) ({ cls := "java/util/ArrayList", name := "remove", desc := "(Ljava/lang/Object;)Z" } : Jvm.MethodName)) ∈ lw_all := lw_g (lw_at lw_m5 93 rfl) rfl
theorem q1085 : (Jvm.Cond.code ({ cls := "java/util/ArrayList", name := "remove", desc := "(Ljava/lang/Object;)Z" } : Jvm.MethodName) prog_35_method_38_code (5 : Nat) (Option.some Jvm.ClassFile.FieldType.boolean)) ∈ lw_all := lw_g (lw_at lw_m5 94 rfl) rfl
theorem q1421 : (Jvm.Cond.castable "java/util/ArrayList" "java/lang/Object") ∈ lw_tbl := lw_at lw_m6 190 rfl
theorem in_J2 : ∀ w ∈ wsJ20, w ∈ lw_all := lw_in wsJ20 [98, 94, 96] (by decide +kernel) (by decide +kernel)
/-! java/lang/AbstractStringBuilder -/
set_option maxRecDepth 100000
def RJ3 : String := "java/lang/AbstractStringBuilder"
abbrev cJ3_init : ByteArray := prog_11_method_2_code
def yJ3_init : MethodName := ⟨RJ3, "<init>", "(I)V"⟩
def dkwJ3_init_1 : List UInt8 := [167, 0, 16, 42, 27, 184, 0, 26, 181, 0, 15, 42, 4, 181, 0, 22, 177]
abbrev dktJ3_init_1 : List UInt8 := dkwJ3_init_1 ++ []
def dkwJ3_init_0 : List UInt8 := [42, 183, 0, 3, 178, 0, 18, 153, 0, 18, 42, 27, 188, 8, 181, 0, 15, 42, 3, 181, 0, 22]
abbrev dktJ3_init_0 : List UInt8 := dkwJ3_init_0 ++ dktJ3_init_1
theorem dksJ3_init_0 : cJ3_init.data.toList.drop 0 = dktJ3_init_0 := by decide +kernel
theorem dksJ3_init_1 : cJ3_init.data.toList.drop 22 = dktJ3_init_1 := dk_seg dksJ3_init_0 22 rfl rfl
theorem dJ3_init_0 : decode cJ3_init 0 = .ok (.aload_n 0, 1) := dk_42 (dk_at dksJ3_init_0 0 rfl rfl)
theorem dJ3_init_1 : decode cJ3_init 1 = .ok (.invokespecial 3, 3) := dk_183 0 3 (dk_at dksJ3_init_0 1 rfl rfl)
theorem dJ3_init_4 : decode cJ3_init 4 = .ok (.getstatic 18, 3) := dk_178 0 18 (dk_at dksJ3_init_0 4 rfl rfl)
theorem dJ3_init_7 : decode cJ3_init 7 = .ok (.ifCond .eq 18, 3) := dk_153 0 18 (dk_at dksJ3_init_0 7 rfl rfl)
theorem dJ3_init_10 : decode cJ3_init 10 = .ok (.aload_n 0, 1) := dk_42 (dk_at dksJ3_init_0 10 rfl rfl)
theorem dJ3_init_11 : decode cJ3_init 11 = .ok (.iload_n 1, 1) := dk_27 (dk_at dksJ3_init_0 11 rfl rfl)
theorem dJ3_init_12 : decode cJ3_init 12 = .ok (.newarray .byte, 2) := dk_188_8 (dk_at dksJ3_init_0 12 rfl rfl)
theorem dJ3_init_14 : decode cJ3_init 14 = .ok (.putfield 15, 3) := dk_181 0 15 (dk_at dksJ3_init_0 14 rfl rfl)
theorem dJ3_init_17 : decode cJ3_init 17 = .ok (.aload_n 0, 1) := dk_42 (dk_at dksJ3_init_0 17 rfl rfl)
theorem dJ3_init_18 : decode cJ3_init 18 = .ok (.iconst 0, 1) := dk_3 (dk_at dksJ3_init_0 18 rfl rfl)
theorem dJ3_init_19 : decode cJ3_init 19 = .ok (.putfield 22, 3) := dk_181 0 22 (dk_at dksJ3_init_0 19 rfl rfl)
theorem dJ3_init_22 : decode cJ3_init 22 = .ok (.goto 16, 3) := dk_167 0 16 (dk_at dksJ3_init_1 0 rfl rfl)
theorem dJ3_init_25 : decode cJ3_init 25 = .ok (.aload_n 0, 1) := dk_42 (dk_at dksJ3_init_1 3 rfl rfl)
theorem dJ3_init_26 : decode cJ3_init 26 = .ok (.iload_n 1, 1) := dk_27 (dk_at dksJ3_init_1 4 rfl rfl)
theorem dJ3_init_27 : decode cJ3_init 27 = .ok (.invokestatic 26, 3) := dk_184 0 26 (dk_at dksJ3_init_1 5 rfl rfl)
theorem dJ3_init_30 : decode cJ3_init 30 = .ok (.putfield 15, 3) := dk_181 0 15 (dk_at dksJ3_init_1 8 rfl rfl)
theorem dJ3_init_33 : decode cJ3_init 33 = .ok (.aload_n 0, 1) := dk_42 (dk_at dksJ3_init_1 11 rfl rfl)
theorem dJ3_init_34 : decode cJ3_init 34 = .ok (.iconst 1, 1) := dk_4 (dk_at dksJ3_init_1 12 rfl rfl)
theorem dJ3_init_35 : decode cJ3_init 35 = .ok (.putfield 22, 3) := dk_181 0 22 (dk_at dksJ3_init_1 13 rfl rfl)
theorem dJ3_init_38 : decode cJ3_init 38 = .ok (.return_, 1) := dk_177 (dk_at dksJ3_init_1 16 rfl rfl)
abbrev cJ3_append : ByteArray := prog_11_method_31_code
def yJ3_append : MethodName := ⟨RJ3, "append", "(C)Ljava/lang/AbstractStringBuilder;"⟩
def dkwJ3_append_3 : List UInt8 := [181, 0, 79, 27, 184, 0, 197, 42, 176]
abbrev dktJ3_append_3 : List UInt8 := dkwJ3_append_3 ++ []
def dkwJ3_append_2 : List UInt8 := [182, 0, 83, 153, 0, 7, 42, 182, 0, 195, 42, 180, 0, 15, 42, 89, 180, 0, 79, 90, 4, 96]
abbrev dktJ3_append_2 : List UInt8 := dkwJ3_append_2 ++ dktJ3_append_3
def dkwJ3_append_1 : List UInt8 := [42, 180, 0, 15, 42, 89, 180, 0, 79, 90, 4, 96, 181, 0, 79, 27, 145, 84, 167, 0, 33, 42]
abbrev dktJ3_append_1 : List UInt8 := dkwJ3_append_1 ++ dktJ3_append_2
def dkwJ3_append_0 : List UInt8 := [42, 42, 180, 0, 79, 4, 96, 182, 0, 100, 42, 182, 0, 83, 153, 0, 31, 27, 184, 0, 191, 153, 0, 24]
abbrev dktJ3_append_0 : List UInt8 := dkwJ3_append_0 ++ dktJ3_append_1
theorem dksJ3_append_0 : cJ3_append.data.toList.drop 0 = dktJ3_append_0 := by decide +kernel
theorem dksJ3_append_1 : cJ3_append.data.toList.drop 24 = dktJ3_append_1 := dk_seg dksJ3_append_0 24 rfl rfl
theorem dksJ3_append_2 : cJ3_append.data.toList.drop 46 = dktJ3_append_2 := dk_seg dksJ3_append_1 22 rfl rfl
theorem dksJ3_append_3 : cJ3_append.data.toList.drop 68 = dktJ3_append_3 := dk_seg dksJ3_append_2 22 rfl rfl
theorem dJ3_append_0 : decode cJ3_append 0 = .ok (.aload_n 0, 1) := dk_42 (dk_at dksJ3_append_0 0 rfl rfl)
theorem dJ3_append_1 : decode cJ3_append 1 = .ok (.aload_n 0, 1) := dk_42 (dk_at dksJ3_append_0 1 rfl rfl)
theorem dJ3_append_2 : decode cJ3_append 2 = .ok (.getfield 79, 3) := dk_180 0 79 (dk_at dksJ3_append_0 2 rfl rfl)
theorem dJ3_append_5 : decode cJ3_append 5 = .ok (.iconst 1, 1) := dk_4 (dk_at dksJ3_append_0 5 rfl rfl)
theorem dJ3_append_6 : decode cJ3_append 6 = .ok (.iadd, 1) := dk_96 (dk_at dksJ3_append_0 6 rfl rfl)
theorem dJ3_append_7 : decode cJ3_append 7 = .ok (.invokevirtual 100, 3) := dk_182 0 100 (dk_at dksJ3_append_0 7 rfl rfl)
theorem dJ3_append_10 : decode cJ3_append 10 = .ok (.aload_n 0, 1) := dk_42 (dk_at dksJ3_append_0 10 rfl rfl)
theorem dJ3_append_11 : decode cJ3_append 11 = .ok (.invokevirtual 83, 3) := dk_182 0 83 (dk_at dksJ3_append_0 11 rfl rfl)
theorem dJ3_append_14 : decode cJ3_append 14 = .ok (.ifCond .eq 31, 3) := dk_153 0 31 (dk_at dksJ3_append_0 14 rfl rfl)
theorem dJ3_append_17 : decode cJ3_append 17 = .ok (.iload_n 1, 1) := dk_27 (dk_at dksJ3_append_0 17 rfl rfl)
theorem dJ3_append_18 : decode cJ3_append 18 = .ok (.invokestatic 191, 3) := dk_184 0 191 (dk_at dksJ3_append_0 18 rfl rfl)
theorem dJ3_append_21 : decode cJ3_append 21 = .ok (.ifCond .eq 24, 3) := dk_153 0 24 (dk_at dksJ3_append_0 21 rfl rfl)
theorem dJ3_append_24 : decode cJ3_append 24 = .ok (.aload_n 0, 1) := dk_42 (dk_at dksJ3_append_1 0 rfl rfl)
theorem dJ3_append_25 : decode cJ3_append 25 = .ok (.getfield 15, 3) := dk_180 0 15 (dk_at dksJ3_append_1 1 rfl rfl)
theorem dJ3_append_28 : decode cJ3_append 28 = .ok (.aload_n 0, 1) := dk_42 (dk_at dksJ3_append_1 4 rfl rfl)
theorem dJ3_append_29 : decode cJ3_append 29 = .ok (.dup, 1) := dk_89 (dk_at dksJ3_append_1 5 rfl rfl)
theorem dJ3_append_30 : decode cJ3_append 30 = .ok (.getfield 79, 3) := dk_180 0 79 (dk_at dksJ3_append_1 6 rfl rfl)
theorem dJ3_append_33 : decode cJ3_append 33 = .ok (.dup_x1, 1) := dk_90 (dk_at dksJ3_append_1 9 rfl rfl)
theorem dJ3_append_34 : decode cJ3_append 34 = .ok (.iconst 1, 1) := dk_4 (dk_at dksJ3_append_1 10 rfl rfl)
theorem dJ3_append_35 : decode cJ3_append 35 = .ok (.iadd, 1) := dk_96 (dk_at dksJ3_append_1 11 rfl rfl)
theorem dJ3_append_36 : decode cJ3_append 36 = .ok (.putfield 79, 3) := dk_181 0 79 (dk_at dksJ3_append_1 12 rfl rfl)
theorem dJ3_append_39 : decode cJ3_append 39 = .ok (.iload_n 1, 1) := dk_27 (dk_at dksJ3_append_1 15 rfl rfl)
theorem dJ3_append_40 : decode cJ3_append 40 = .ok (.i2b, 1) := dk_145 (dk_at dksJ3_append_1 16 rfl rfl)
theorem dJ3_append_41 : decode cJ3_append 41 = .ok (.bastore, 1) := dk_84 (dk_at dksJ3_append_1 17 rfl rfl)
theorem dJ3_append_42 : decode cJ3_append 42 = .ok (.goto 33, 3) := dk_167 0 33 (dk_at dksJ3_append_1 18 rfl rfl)
theorem dJ3_append_45 : decode cJ3_append 45 = .ok (.aload_n 0, 1) := dk_42 (dk_at dksJ3_append_1 21 rfl rfl)
theorem dJ3_append_46 : decode cJ3_append 46 = .ok (.invokevirtual 83, 3) := dk_182 0 83 (dk_at dksJ3_append_2 0 rfl rfl)
theorem dJ3_append_49 : decode cJ3_append 49 = .ok (.ifCond .eq 7, 3) := dk_153 0 7 (dk_at dksJ3_append_2 3 rfl rfl)
theorem dJ3_append_52 : decode cJ3_append 52 = .ok (.aload_n 0, 1) := dk_42 (dk_at dksJ3_append_2 6 rfl rfl)
theorem dJ3_append_53 : decode cJ3_append 53 = .ok (.invokevirtual 195, 3) := dk_182 0 195 (dk_at dksJ3_append_2 7 rfl rfl)
theorem dJ3_append_56 : decode cJ3_append 56 = .ok (.aload_n 0, 1) := dk_42 (dk_at dksJ3_append_2 10 rfl rfl)
theorem dJ3_append_57 : decode cJ3_append 57 = .ok (.getfield 15, 3) := dk_180 0 15 (dk_at dksJ3_append_2 11 rfl rfl)
theorem dJ3_append_60 : decode cJ3_append 60 = .ok (.aload_n 0, 1) := dk_42 (dk_at dksJ3_append_2 14 rfl rfl)
theorem dJ3_append_61 : decode cJ3_append 61 = .ok (.dup, 1) := dk_89 (dk_at dksJ3_append_2 15 rfl rfl)
theorem dJ3_append_62 : decode cJ3_append 62 = .ok (.getfield 79, 3) := dk_180 0 79 (dk_at dksJ3_append_2 16 rfl rfl)
theorem dJ3_append_65 : decode cJ3_append 65 = .ok (.dup_x1, 1) := dk_90 (dk_at dksJ3_append_2 19 rfl rfl)
theorem dJ3_append_66 : decode cJ3_append 66 = .ok (.iconst 1, 1) := dk_4 (dk_at dksJ3_append_2 20 rfl rfl)
theorem dJ3_append_67 : decode cJ3_append 67 = .ok (.iadd, 1) := dk_96 (dk_at dksJ3_append_2 21 rfl rfl)
theorem dJ3_append_68 : decode cJ3_append 68 = .ok (.putfield 79, 3) := dk_181 0 79 (dk_at dksJ3_append_3 0 rfl rfl)
theorem dJ3_append_71 : decode cJ3_append 71 = .ok (.iload_n 1, 1) := dk_27 (dk_at dksJ3_append_3 3 rfl rfl)
theorem dJ3_append_72 : decode cJ3_append 72 = .ok (.invokestatic 197, 3) := dk_184 0 197 (dk_at dksJ3_append_3 4 rfl rfl)
theorem dJ3_append_75 : decode cJ3_append 75 = .ok (.aload_n 0, 1) := dk_42 (dk_at dksJ3_append_3 7 rfl rfl)
theorem dJ3_append_76 : decode cJ3_append 76 = .ok (.areturn, 1) := dk_176 (dk_at dksJ3_append_3 8 rfl rfl)
abbrev cJ3_ensureCapacityInternal : ByteArray := prog_11_method_9_code
def yJ3_ensureCapacityInternal : MethodName := ⟨RJ3, "ensureCapacityInternal", "(I)V"⟩
def dkwJ3_ensureCapacityInternal_1 : List UInt8 := [182, 0, 104, 42, 180, 0, 22, 120, 184, 0, 108, 181, 0, 15, 177]
abbrev dktJ3_ensureCapacityInternal_1 : List UInt8 := dkwJ3_ensureCapacityInternal_1 ++ []
def dkwJ3_ensureCapacityInternal_0 : List UInt8 := [42, 180, 0, 15, 190, 42, 180, 0, 22, 122, 61, 27, 28, 100, 158, 0, 24, 42, 42, 180, 0, 15, 42, 27]
abbrev dktJ3_ensureCapacityInternal_0 : List UInt8 := dkwJ3_ensureCapacityInternal_0 ++ dktJ3_ensureCapacityInternal_1
theorem dksJ3_ensureCapacityInternal_0 : cJ3_ensureCapacityInternal.data.toList.drop 0 = dktJ3_ensureCapacityInternal_0 := by decide +kernel
theorem dksJ3_ensureCapacityInternal_1 : cJ3_ensureCapacityInternal.data.toList.drop 24 = dktJ3_ensureCapacityInternal_1 := dk_seg dksJ3_ensureCapacityInternal_0 24 rfl rfl
theorem dJ3_ensureCapacityInternal_0 : decode cJ3_ensureCapacityInternal 0 = .ok (.aload_n 0, 1) := dk_42 (dk_at dksJ3_ensureCapacityInternal_0 0 rfl rfl)
theorem dJ3_ensureCapacityInternal_1 : decode cJ3_ensureCapacityInternal 1 = .ok (.getfield 15, 3) := dk_180 0 15 (dk_at dksJ3_ensureCapacityInternal_0 1 rfl rfl)
theorem dJ3_ensureCapacityInternal_4 : decode cJ3_ensureCapacityInternal 4 = .ok (.arraylength, 1) := dk_190 (dk_at dksJ3_ensureCapacityInternal_0 4 rfl rfl)
theorem dJ3_ensureCapacityInternal_5 : decode cJ3_ensureCapacityInternal 5 = .ok (.aload_n 0, 1) := dk_42 (dk_at dksJ3_ensureCapacityInternal_0 5 rfl rfl)
theorem dJ3_ensureCapacityInternal_6 : decode cJ3_ensureCapacityInternal 6 = .ok (.getfield 22, 3) := dk_180 0 22 (dk_at dksJ3_ensureCapacityInternal_0 6 rfl rfl)
theorem dJ3_ensureCapacityInternal_9 : decode cJ3_ensureCapacityInternal 9 = .ok (.ishr, 1) := dk_122 (dk_at dksJ3_ensureCapacityInternal_0 9 rfl rfl)
theorem dJ3_ensureCapacityInternal_10 : decode cJ3_ensureCapacityInternal 10 = .ok (.istore_n 2, 1) := dk_61 (dk_at dksJ3_ensureCapacityInternal_0 10 rfl rfl)
theorem dJ3_ensureCapacityInternal_11 : decode cJ3_ensureCapacityInternal 11 = .ok (.iload_n 1, 1) := dk_27 (dk_at dksJ3_ensureCapacityInternal_0 11 rfl rfl)
theorem dJ3_ensureCapacityInternal_12 : decode cJ3_ensureCapacityInternal 12 = .ok (.iload_n 2, 1) := dk_28 (dk_at dksJ3_ensureCapacityInternal_0 12 rfl rfl)
theorem dJ3_ensureCapacityInternal_13 : decode cJ3_ensureCapacityInternal 13 = .ok (.isub, 1) := dk_100 (dk_at dksJ3_ensureCapacityInternal_0 13 rfl rfl)
theorem dJ3_ensureCapacityInternal_14 : decode cJ3_ensureCapacityInternal 14 = .ok (.ifCond .le 24, 3) := dk_158 0 24 (dk_at dksJ3_ensureCapacityInternal_0 14 rfl rfl)
theorem dJ3_ensureCapacityInternal_17 : decode cJ3_ensureCapacityInternal 17 = .ok (.aload_n 0, 1) := dk_42 (dk_at dksJ3_ensureCapacityInternal_0 17 rfl rfl)
theorem dJ3_ensureCapacityInternal_18 : decode cJ3_ensureCapacityInternal 18 = .ok (.aload_n 0, 1) := dk_42 (dk_at dksJ3_ensureCapacityInternal_0 18 rfl rfl)
theorem dJ3_ensureCapacityInternal_19 : decode cJ3_ensureCapacityInternal 19 = .ok (.getfield 15, 3) := dk_180 0 15 (dk_at dksJ3_ensureCapacityInternal_0 19 rfl rfl)
theorem dJ3_ensureCapacityInternal_22 : decode cJ3_ensureCapacityInternal 22 = .ok (.aload_n 0, 1) := dk_42 (dk_at dksJ3_ensureCapacityInternal_0 22 rfl rfl)
theorem dJ3_ensureCapacityInternal_23 : decode cJ3_ensureCapacityInternal 23 = .ok (.iload_n 1, 1) := dk_27 (dk_at dksJ3_ensureCapacityInternal_0 23 rfl rfl)
theorem dJ3_ensureCapacityInternal_24 : decode cJ3_ensureCapacityInternal 24 = .ok (.invokevirtual 104, 3) := dk_182 0 104 (dk_at dksJ3_ensureCapacityInternal_1 0 rfl rfl)
theorem dJ3_ensureCapacityInternal_27 : decode cJ3_ensureCapacityInternal 27 = .ok (.aload_n 0, 1) := dk_42 (dk_at dksJ3_ensureCapacityInternal_1 3 rfl rfl)
theorem dJ3_ensureCapacityInternal_28 : decode cJ3_ensureCapacityInternal 28 = .ok (.getfield 22, 3) := dk_180 0 22 (dk_at dksJ3_ensureCapacityInternal_1 4 rfl rfl)
theorem dJ3_ensureCapacityInternal_31 : decode cJ3_ensureCapacityInternal 31 = .ok (.ishl, 1) := dk_120 (dk_at dksJ3_ensureCapacityInternal_1 7 rfl rfl)
theorem dJ3_ensureCapacityInternal_32 : decode cJ3_ensureCapacityInternal 32 = .ok (.invokestatic 108, 3) := dk_184 0 108 (dk_at dksJ3_ensureCapacityInternal_1 8 rfl rfl)
theorem dJ3_ensureCapacityInternal_35 : decode cJ3_ensureCapacityInternal 35 = .ok (.putfield 15, 3) := dk_181 0 15 (dk_at dksJ3_ensureCapacityInternal_1 11 rfl rfl)
theorem dJ3_ensureCapacityInternal_38 : decode cJ3_ensureCapacityInternal 38 = .ok (.return_, 1) := dk_177 (dk_at dksJ3_ensureCapacityInternal_1 14 rfl rfl)
abbrev cJ3_newCapacity : ByteArray := prog_11_method_10_code
def yJ3_newCapacity : MethodName := ⟨RJ3, "newCapacity", "(I)I"⟩
def dkwJ3_newCapacity_2 : List UInt8 := [183, 0, 124, 191, 21, 5, 42, 180, 0, 22, 122, 172]
abbrev dktJ3_newCapacity_2 : List UInt8 := dkwJ3_newCapacity_2 ++ []
def dkwJ3_newCapacity_1 : List UInt8 := [180, 0, 22, 120, 96, 184, 0, 114, 54, 5, 21, 5, 18, 39, 160, 0, 13, 187, 0, 120, 89, 18, 122]
abbrev dktJ3_newCapacity_1 : List UInt8 := dkwJ3_newCapacity_1 ++ dktJ3_newCapacity_2
def dkwJ3_newCapacity_0 : List UInt8 := [42, 180, 0, 15, 190, 61, 27, 42, 180, 0, 22, 120, 62, 29, 28, 100, 54, 4, 28, 21, 4, 28, 5, 42]
abbrev dktJ3_newCapacity_0 : List UInt8 := dkwJ3_newCapacity_0 ++ dktJ3_newCapacity_1
theorem dksJ3_newCapacity_0 : cJ3_newCapacity.data.toList.drop 0 = dktJ3_newCapacity_0 := by decide +kernel
theorem dksJ3_newCapacity_1 : cJ3_newCapacity.data.toList.drop 24 = dktJ3_newCapacity_1 := dk_seg dksJ3_newCapacity_0 24 rfl rfl
theorem dksJ3_newCapacity_2 : cJ3_newCapacity.data.toList.drop 47 = dktJ3_newCapacity_2 := dk_seg dksJ3_newCapacity_1 23 rfl rfl
theorem dJ3_newCapacity_0 : decode cJ3_newCapacity 0 = .ok (.aload_n 0, 1) := dk_42 (dk_at dksJ3_newCapacity_0 0 rfl rfl)
theorem dJ3_newCapacity_1 : decode cJ3_newCapacity 1 = .ok (.getfield 15, 3) := dk_180 0 15 (dk_at dksJ3_newCapacity_0 1 rfl rfl)
theorem dJ3_newCapacity_4 : decode cJ3_newCapacity 4 = .ok (.arraylength, 1) := dk_190 (dk_at dksJ3_newCapacity_0 4 rfl rfl)
theorem dJ3_newCapacity_5 : decode cJ3_newCapacity 5 = .ok (.istore_n 2, 1) := dk_61 (dk_at dksJ3_newCapacity_0 5 rfl rfl)
theorem dJ3_newCapacity_6 : decode cJ3_newCapacity 6 = .ok (.iload_n 1, 1) := dk_27 (dk_at dksJ3_newCapacity_0 6 rfl rfl)
theorem dJ3_newCapacity_7 : decode cJ3_newCapacity 7 = .ok (.aload_n 0, 1) := dk_42 (dk_at dksJ3_newCapacity_0 7 rfl rfl)
theorem dJ3_newCapacity_8 : decode cJ3_newCapacity 8 = .ok (.getfield 22, 3) := dk_180 0 22 (dk_at dksJ3_newCapacity_0 8 rfl rfl)
theorem dJ3_newCapacity_11 : decode cJ3_newCapacity 11 = .ok (.ishl, 1) := dk_120 (dk_at dksJ3_newCapacity_0 11 rfl rfl)
theorem dJ3_newCapacity_12 : decode cJ3_newCapacity 12 = .ok (.istore_n 3, 1) := dk_62 (dk_at dksJ3_newCapacity_0 12 rfl rfl)
theorem dJ3_newCapacity_13 : decode cJ3_newCapacity 13 = .ok (.iload_n 3, 1) := dk_29 (dk_at dksJ3_newCapacity_0 13 rfl rfl)
theorem dJ3_newCapacity_14 : decode cJ3_newCapacity 14 = .ok (.iload_n 2, 1) := dk_28 (dk_at dksJ3_newCapacity_0 14 rfl rfl)
theorem dJ3_newCapacity_15 : decode cJ3_newCapacity 15 = .ok (.isub, 1) := dk_100 (dk_at dksJ3_newCapacity_0 15 rfl rfl)
theorem dJ3_newCapacity_16 : decode cJ3_newCapacity 16 = .ok (.istore 4, 2) := dk_54 4 (dk_at dksJ3_newCapacity_0 16 rfl rfl)
theorem dJ3_newCapacity_18 : decode cJ3_newCapacity 18 = .ok (.iload_n 2, 1) := dk_28 (dk_at dksJ3_newCapacity_0 18 rfl rfl)
theorem dJ3_newCapacity_19 : decode cJ3_newCapacity 19 = .ok (.iload 4, 2) := dk_21 4 (dk_at dksJ3_newCapacity_0 19 rfl rfl)
theorem dJ3_newCapacity_21 : decode cJ3_newCapacity 21 = .ok (.iload_n 2, 1) := dk_28 (dk_at dksJ3_newCapacity_0 21 rfl rfl)
theorem dJ3_newCapacity_22 : decode cJ3_newCapacity 22 = .ok (.iconst 2, 1) := dk_5 (dk_at dksJ3_newCapacity_0 22 rfl rfl)
theorem dJ3_newCapacity_23 : decode cJ3_newCapacity 23 = .ok (.aload_n 0, 1) := dk_42 (dk_at dksJ3_newCapacity_0 23 rfl rfl)
theorem dJ3_newCapacity_24 : decode cJ3_newCapacity 24 = .ok (.getfield 22, 3) := dk_180 0 22 (dk_at dksJ3_newCapacity_1 0 rfl rfl)
theorem dJ3_newCapacity_27 : decode cJ3_newCapacity 27 = .ok (.ishl, 1) := dk_120 (dk_at dksJ3_newCapacity_1 3 rfl rfl)
theorem dJ3_newCapacity_28 : decode cJ3_newCapacity 28 = .ok (.iadd, 1) := dk_96 (dk_at dksJ3_newCapacity_1 4 rfl rfl)
theorem dJ3_newCapacity_29 : decode cJ3_newCapacity 29 = .ok (.invokestatic 114, 3) := dk_184 0 114 (dk_at dksJ3_newCapacity_1 5 rfl rfl)
theorem dJ3_newCapacity_32 : decode cJ3_newCapacity 32 = .ok (.istore 5, 2) := dk_54 5 (dk_at dksJ3_newCapacity_1 8 rfl rfl)
theorem dJ3_newCapacity_34 : decode cJ3_newCapacity 34 = .ok (.iload 5, 2) := dk_21 5 (dk_at dksJ3_newCapacity_1 10 rfl rfl)
theorem dJ3_newCapacity_36 : decode cJ3_newCapacity 36 = .ok (.ldc 39, 2) := dk_18 39 (dk_at dksJ3_newCapacity_1 12 rfl rfl)
theorem dJ3_newCapacity_38 : decode cJ3_newCapacity 38 = .ok (.if_icmp .ne 13, 3) := dk_160 0 13 (dk_at dksJ3_newCapacity_1 14 rfl rfl)
theorem dJ3_newCapacity_41 : decode cJ3_newCapacity 41 = .ok (.new 120, 3) := dk_187 0 120 (dk_at dksJ3_newCapacity_1 17 rfl rfl)
theorem dJ3_newCapacity_44 : decode cJ3_newCapacity 44 = .ok (.dup, 1) := dk_89 (dk_at dksJ3_newCapacity_1 20 rfl rfl)
theorem dJ3_newCapacity_45 : decode cJ3_newCapacity 45 = .ok (.ldc 122, 2) := dk_18 122 (dk_at dksJ3_newCapacity_1 21 rfl rfl)
theorem dJ3_newCapacity_47 : decode cJ3_newCapacity 47 = .ok (.invokespecial 124, 3) := dk_183 0 124 (dk_at dksJ3_newCapacity_2 0 rfl rfl)
theorem dJ3_newCapacity_50 : decode cJ3_newCapacity 50 = .ok (.athrow, 1) := dk_191 (dk_at dksJ3_newCapacity_2 3 rfl rfl)
theorem dJ3_newCapacity_51 : decode cJ3_newCapacity 51 = .ok (.iload 5, 2) := dk_21 5 (dk_at dksJ3_newCapacity_2 4 rfl rfl)
theorem dJ3_newCapacity_53 : decode cJ3_newCapacity 53 = .ok (.aload_n 0, 1) := dk_42 (dk_at dksJ3_newCapacity_2 6 rfl rfl)
theorem dJ3_newCapacity_54 : decode cJ3_newCapacity 54 = .ok (.getfield 22, 3) := dk_180 0 22 (dk_at dksJ3_newCapacity_2 7 rfl rfl)
theorem dJ3_newCapacity_57 : decode cJ3_newCapacity 57 = .ok (.ishr, 1) := dk_122 (dk_at dksJ3_newCapacity_2 10 rfl rfl)
theorem dJ3_newCapacity_58 : decode cJ3_newCapacity 58 = .ok (.ireturn, 1) := dk_172 (dk_at dksJ3_newCapacity_2 11 rfl rfl)
abbrev cJ3_isLatin1 : ByteArray := prog_11_method_68_code
def yJ3_isLatin1 : MethodName := ⟨RJ3, "isLatin1", "()Z"⟩
def dkwJ3_isLatin1_0 : List UInt8 := [178, 0, 18, 153, 0, 14, 42, 180, 0, 22, 154, 0, 7, 4, 167, 0, 4, 3, 172]
abbrev dktJ3_isLatin1_0 : List UInt8 := dkwJ3_isLatin1_0 ++ []
theorem dksJ3_isLatin1_0 : cJ3_isLatin1.data.toList.drop 0 = dktJ3_isLatin1_0 := by decide +kernel
theorem dJ3_isLatin1_0 : decode cJ3_isLatin1 0 = .ok (.getstatic 18, 3) := dk_178 0 18 (dk_at dksJ3_isLatin1_0 0 rfl rfl)
theorem dJ3_isLatin1_3 : decode cJ3_isLatin1 3 = .ok (.ifCond .eq 14, 3) := dk_153 0 14 (dk_at dksJ3_isLatin1_0 3 rfl rfl)
theorem dJ3_isLatin1_6 : decode cJ3_isLatin1 6 = .ok (.aload_n 0, 1) := dk_42 (dk_at dksJ3_isLatin1_0 6 rfl rfl)
theorem dJ3_isLatin1_7 : decode cJ3_isLatin1 7 = .ok (.getfield 22, 3) := dk_180 0 22 (dk_at dksJ3_isLatin1_0 7 rfl rfl)
theorem dJ3_isLatin1_10 : decode cJ3_isLatin1 10 = .ok (.ifCond .ne 7, 3) := dk_154 0 7 (dk_at dksJ3_isLatin1_0 10 rfl rfl)
theorem dJ3_isLatin1_13 : decode cJ3_isLatin1 13 = .ok (.iconst 1, 1) := dk_4 (dk_at dksJ3_isLatin1_0 13 rfl rfl)
theorem dJ3_isLatin1_14 : decode cJ3_isLatin1 14 = .ok (.goto 4, 3) := dk_167 0 4 (dk_at dksJ3_isLatin1_0 14 rfl rfl)
theorem dJ3_isLatin1_17 : decode cJ3_isLatin1 17 = .ok (.iconst 0, 1) := dk_3 (dk_at dksJ3_isLatin1_0 17 rfl rfl)
theorem dJ3_isLatin1_18 : decode cJ3_isLatin1 18 = .ok (.ireturn, 1) := dk_172 (dk_at dksJ3_isLatin1_0 18 rfl rfl)
abbrev cJ3_inflate : ByteArray := prog_11_method_11_code
def yJ3_inflate : MethodName := ⟨RJ3, "inflate", "()V"⟩
def dkwJ3_inflate_1 : List UInt8 := [42, 180, 0, 79, 184, 0, 125, 42, 43, 181, 0, 15, 42, 4, 181, 0, 22, 177]
abbrev dktJ3_inflate_1 : List UInt8 := dkwJ3_inflate_1 ++ []
def dkwJ3_inflate_0 : List UInt8 := [42, 182, 0, 83, 154, 0, 4, 177, 42, 180, 0, 15, 190, 184, 0, 26, 76, 42, 180, 0, 15, 3, 43, 3]
abbrev dktJ3_inflate_0 : List UInt8 := dkwJ3_inflate_0 ++ dktJ3_inflate_1
theorem dksJ3_inflate_0 : cJ3_inflate.data.toList.drop 0 = dktJ3_inflate_0 := by decide +kernel
theorem dksJ3_inflate_1 : cJ3_inflate.data.toList.drop 24 = dktJ3_inflate_1 := dk_seg dksJ3_inflate_0 24 rfl rfl
theorem dJ3_inflate_0 : decode cJ3_inflate 0 = .ok (.aload_n 0, 1) := dk_42 (dk_at dksJ3_inflate_0 0 rfl rfl)
theorem dJ3_inflate_1 : decode cJ3_inflate 1 = .ok (.invokevirtual 83, 3) := dk_182 0 83 (dk_at dksJ3_inflate_0 1 rfl rfl)
theorem dJ3_inflate_4 : decode cJ3_inflate 4 = .ok (.ifCond .ne 4, 3) := dk_154 0 4 (dk_at dksJ3_inflate_0 4 rfl rfl)
theorem dJ3_inflate_7 : decode cJ3_inflate 7 = .ok (.return_, 1) := dk_177 (dk_at dksJ3_inflate_0 7 rfl rfl)
theorem dJ3_inflate_8 : decode cJ3_inflate 8 = .ok (.aload_n 0, 1) := dk_42 (dk_at dksJ3_inflate_0 8 rfl rfl)
theorem dJ3_inflate_9 : decode cJ3_inflate 9 = .ok (.getfield 15, 3) := dk_180 0 15 (dk_at dksJ3_inflate_0 9 rfl rfl)
theorem dJ3_inflate_12 : decode cJ3_inflate 12 = .ok (.arraylength, 1) := dk_190 (dk_at dksJ3_inflate_0 12 rfl rfl)
theorem dJ3_inflate_13 : decode cJ3_inflate 13 = .ok (.invokestatic 26, 3) := dk_184 0 26 (dk_at dksJ3_inflate_0 13 rfl rfl)
theorem dJ3_inflate_16 : decode cJ3_inflate 16 = .ok (.astore_n 1, 1) := dk_76 (dk_at dksJ3_inflate_0 16 rfl rfl)
theorem dJ3_inflate_17 : decode cJ3_inflate 17 = .ok (.aload_n 0, 1) := dk_42 (dk_at dksJ3_inflate_0 17 rfl rfl)
theorem dJ3_inflate_18 : decode cJ3_inflate 18 = .ok (.getfield 15, 3) := dk_180 0 15 (dk_at dksJ3_inflate_0 18 rfl rfl)
theorem dJ3_inflate_21 : decode cJ3_inflate 21 = .ok (.iconst 0, 1) := dk_3 (dk_at dksJ3_inflate_0 21 rfl rfl)
theorem dJ3_inflate_22 : decode cJ3_inflate 22 = .ok (.aload_n 1, 1) := dk_43 (dk_at dksJ3_inflate_0 22 rfl rfl)
theorem dJ3_inflate_23 : decode cJ3_inflate 23 = .ok (.iconst 0, 1) := dk_3 (dk_at dksJ3_inflate_0 23 rfl rfl)
theorem dJ3_inflate_24 : decode cJ3_inflate 24 = .ok (.aload_n 0, 1) := dk_42 (dk_at dksJ3_inflate_1 0 rfl rfl)
theorem dJ3_inflate_25 : decode cJ3_inflate 25 = .ok (.getfield 79, 3) := dk_180 0 79 (dk_at dksJ3_inflate_1 1 rfl rfl)
theorem dJ3_inflate_28 : decode cJ3_inflate 28 = .ok (.invokestatic 125, 3) := dk_184 0 125 (dk_at dksJ3_inflate_1 4 rfl rfl)
theorem dJ3_inflate_31 : decode cJ3_inflate 31 = .ok (.aload_n 0, 1) := dk_42 (dk_at dksJ3_inflate_1 7 rfl rfl)
theorem dJ3_inflate_32 : decode cJ3_inflate 32 = .ok (.aload_n 1, 1) := dk_43 (dk_at dksJ3_inflate_1 8 rfl rfl)
theorem dJ3_inflate_33 : decode cJ3_inflate 33 = .ok (.putfield 15, 3) := dk_181 0 15 (dk_at dksJ3_inflate_1 9 rfl rfl)
theorem dJ3_inflate_36 : decode cJ3_inflate 36 = .ok (.aload_n 0, 1) := dk_42 (dk_at dksJ3_inflate_1 12 rfl rfl)
theorem dJ3_inflate_37 : decode cJ3_inflate 37 = .ok (.iconst 1, 1) := dk_4 (dk_at dksJ3_inflate_1 13 rfl rfl)
theorem dJ3_inflate_38 : decode cJ3_inflate 38 = .ok (.putfield 22, 3) := dk_181 0 22 (dk_at dksJ3_inflate_1 14 rfl rfl)
theorem dJ3_inflate_41 : decode cJ3_inflate 41 = .ok (.return_, 1) := dk_177 (dk_at dksJ3_inflate_1 17 rfl rfl)
abbrev cJ3_getValue : ByteArray := prog_11_method_64_code
def yJ3_getValue : MethodName := ⟨RJ3, "getValue", "()[B"⟩
theorem dJ3_getValue_0 : decode cJ3_getValue 0 = .ok (.aload_n 0, 1) := by decide +kernel
theorem dJ3_getValue_1 : decode cJ3_getValue 1 = .ok (.getfield 15, 3) := by decide +kernel
theorem dJ3_getValue_4 : decode cJ3_getValue 4 = .ok (.areturn, 1) := by decide +kernel
abbrev cJ3_length : ByteArray := prog_11_method_6_code
def yJ3_length : MethodName := ⟨RJ3, "length", "()I"⟩
theorem dJ3_length_0 : decode cJ3_length 0 = .ok (.aload_n 0, 1) := by decide +kernel
theorem dJ3_length_1 : decode cJ3_length 1 = .ok (.getfield 79, 3) := by decide +kernel
theorem dJ3_length_4 : decode cJ3_length 4 = .ok (.ireturn, 1) := by decide +kernel
abbrev cJ3_append_2 : ByteArray := prog_11_method_32_code
def yJ3_append_2 : MethodName := ⟨RJ3, "append", "(I)Ljava/lang/AbstractStringBuilder;"⟩
def dkwJ3_append_2_2 : List UInt8 := [42, 29, 181, 0, 79, 42, 176]
abbrev dktJ3_append_2_2 : List UInt8 := dkwJ3_append_2_2 ++ []
def dkwJ3_append_2_1 : List UInt8 := [27, 29, 42, 180, 0, 15, 184, 0, 248, 87, 167, 0, 14, 27, 28, 29, 42, 180, 0, 15, 184, 0, 251, 87]
abbrev dktJ3_append_2_1 : List UInt8 := dkwJ3_append_2_1 ++ dktJ3_append_2_2
def dkwJ3_append_2_0 : List UInt8 := [42, 180, 0, 79, 61, 28, 27, 184, 0, 245, 96, 62, 42, 29, 182, 0, 100, 42, 182, 0, 83, 153, 0, 16]
abbrev dktJ3_append_2_0 : List UInt8 := dkwJ3_append_2_0 ++ dktJ3_append_2_1
theorem dksJ3_append_2_0 : cJ3_append_2.data.toList.drop 0 = dktJ3_append_2_0 := by decide +kernel
theorem dksJ3_append_2_1 : cJ3_append_2.data.toList.drop 24 = dktJ3_append_2_1 := dk_seg dksJ3_append_2_0 24 rfl rfl
theorem dksJ3_append_2_2 : cJ3_append_2.data.toList.drop 48 = dktJ3_append_2_2 := dk_seg dksJ3_append_2_1 24 rfl rfl
theorem dJ3_append_2_0 : decode cJ3_append_2 0 = .ok (.aload_n 0, 1) := dk_42 (dk_at dksJ3_append_2_0 0 rfl rfl)
theorem dJ3_append_2_1 : decode cJ3_append_2 1 = .ok (.getfield 79, 3) := dk_180 0 79 (dk_at dksJ3_append_2_0 1 rfl rfl)
theorem dJ3_append_2_4 : decode cJ3_append_2 4 = .ok (.istore_n 2, 1) := dk_61 (dk_at dksJ3_append_2_0 4 rfl rfl)
theorem dJ3_append_2_5 : decode cJ3_append_2 5 = .ok (.iload_n 2, 1) := dk_28 (dk_at dksJ3_append_2_0 5 rfl rfl)
theorem dJ3_append_2_6 : decode cJ3_append_2 6 = .ok (.iload_n 1, 1) := dk_27 (dk_at dksJ3_append_2_0 6 rfl rfl)
theorem dJ3_append_2_7 : decode cJ3_append_2 7 = .ok (.invokestatic 245, 3) := dk_184 0 245 (dk_at dksJ3_append_2_0 7 rfl rfl)
theorem dJ3_append_2_10 : decode cJ3_append_2 10 = .ok (.iadd, 1) := dk_96 (dk_at dksJ3_append_2_0 10 rfl rfl)
theorem dJ3_append_2_11 : decode cJ3_append_2 11 = .ok (.istore_n 3, 1) := dk_62 (dk_at dksJ3_append_2_0 11 rfl rfl)
theorem dJ3_append_2_12 : decode cJ3_append_2 12 = .ok (.aload_n 0, 1) := dk_42 (dk_at dksJ3_append_2_0 12 rfl rfl)
theorem dJ3_append_2_13 : decode cJ3_append_2 13 = .ok (.iload_n 3, 1) := dk_29 (dk_at dksJ3_append_2_0 13 rfl rfl)
theorem dJ3_append_2_14 : decode cJ3_append_2 14 = .ok (.invokevirtual 100, 3) := dk_182 0 100 (dk_at dksJ3_append_2_0 14 rfl rfl)
theorem dJ3_append_2_17 : decode cJ3_append_2 17 = .ok (.aload_n 0, 1) := dk_42 (dk_at dksJ3_append_2_0 17 rfl rfl)
theorem dJ3_append_2_18 : decode cJ3_append_2 18 = .ok (.invokevirtual 83, 3) := dk_182 0 83 (dk_at dksJ3_append_2_0 18 rfl rfl)
theorem dJ3_append_2_21 : decode cJ3_append_2 21 = .ok (.ifCond .eq 16, 3) := dk_153 0 16 (dk_at dksJ3_append_2_0 21 rfl rfl)
theorem dJ3_append_2_24 : decode cJ3_append_2 24 = .ok (.iload_n 1, 1) := dk_27 (dk_at dksJ3_append_2_1 0 rfl rfl)
theorem dJ3_append_2_25 : decode cJ3_append_2 25 = .ok (.iload_n 3, 1) := dk_29 (dk_at dksJ3_append_2_1 1 rfl rfl)
theorem dJ3_append_2_26 : decode cJ3_append_2 26 = .ok (.aload_n 0, 1) := dk_42 (dk_at dksJ3_append_2_1 2 rfl rfl)
theorem dJ3_append_2_27 : decode cJ3_append_2 27 = .ok (.getfield 15, 3) := dk_180 0 15 (dk_at dksJ3_append_2_1 3 rfl rfl)
theorem dJ3_append_2_30 : decode cJ3_append_2 30 = .ok (.invokestatic 248, 3) := dk_184 0 248 (dk_at dksJ3_append_2_1 6 rfl rfl)
theorem dJ3_append_2_33 : decode cJ3_append_2 33 = .ok (.pop, 1) := dk_87 (dk_at dksJ3_append_2_1 9 rfl rfl)
theorem dJ3_append_2_34 : decode cJ3_append_2 34 = .ok (.goto 14, 3) := dk_167 0 14 (dk_at dksJ3_append_2_1 10 rfl rfl)
theorem dJ3_append_2_37 : decode cJ3_append_2 37 = .ok (.iload_n 1, 1) := dk_27 (dk_at dksJ3_append_2_1 13 rfl rfl)
theorem dJ3_append_2_38 : decode cJ3_append_2 38 = .ok (.iload_n 2, 1) := dk_28 (dk_at dksJ3_append_2_1 14 rfl rfl)
theorem dJ3_append_2_39 : decode cJ3_append_2 39 = .ok (.iload_n 3, 1) := dk_29 (dk_at dksJ3_append_2_1 15 rfl rfl)
theorem dJ3_append_2_40 : decode cJ3_append_2 40 = .ok (.aload_n 0, 1) := dk_42 (dk_at dksJ3_append_2_1 16 rfl rfl)
theorem dJ3_append_2_41 : decode cJ3_append_2 41 = .ok (.getfield 15, 3) := dk_180 0 15 (dk_at dksJ3_append_2_1 17 rfl rfl)
theorem dJ3_append_2_44 : decode cJ3_append_2 44 = .ok (.invokestatic 251, 3) := dk_184 0 251 (dk_at dksJ3_append_2_1 20 rfl rfl)
theorem dJ3_append_2_47 : decode cJ3_append_2 47 = .ok (.pop, 1) := dk_87 (dk_at dksJ3_append_2_1 23 rfl rfl)
theorem dJ3_append_2_48 : decode cJ3_append_2 48 = .ok (.aload_n 0, 1) := dk_42 (dk_at dksJ3_append_2_2 0 rfl rfl)
theorem dJ3_append_2_49 : decode cJ3_append_2 49 = .ok (.iload_n 3, 1) := dk_29 (dk_at dksJ3_append_2_2 1 rfl rfl)
theorem dJ3_append_2_50 : decode cJ3_append_2 50 = .ok (.putfield 79, 3) := dk_181 0 79 (dk_at dksJ3_append_2_2 2 rfl rfl)
theorem dJ3_append_2_53 : decode cJ3_append_2 53 = .ok (.aload_n 0, 1) := dk_42 (dk_at dksJ3_append_2_2 5 rfl rfl)
theorem dJ3_append_2_54 : decode cJ3_append_2 54 = .ok (.areturn, 1) := dk_176 (dk_at dksJ3_append_2_2 6 rfl rfl)
abbrev cJ3_append_3 : ByteArray := prog_11_method_22_code
def yJ3_append_3 : MethodName := ⟨RJ3, "append", "(Ljava/lang/String;)Ljava/lang/AbstractStringBuilder;"⟩
def dkwJ3_append_3_1 : List UInt8 := [42, 42, 180, 0, 79, 43, 182, 0, 208, 42, 89, 180, 0, 79, 28, 96, 181, 0, 79, 42, 176]
abbrev dktJ3_append_3_1 : List UInt8 := dkwJ3_append_3_1 ++ []
def dkwJ3_append_3_0 : List UInt8 := [43, 199, 0, 8, 42, 182, 0, 204, 176, 43, 182, 0, 32, 61, 42, 42, 180, 0, 79, 28, 96, 182, 0, 100]
abbrev dktJ3_append_3_0 : List UInt8 := dkwJ3_append_3_0 ++ dktJ3_append_3_1
theorem dksJ3_append_3_0 : cJ3_append_3.data.toList.drop 0 = dktJ3_append_3_0 := by decide +kernel
theorem dksJ3_append_3_1 : cJ3_append_3.data.toList.drop 24 = dktJ3_append_3_1 := dk_seg dksJ3_append_3_0 24 rfl rfl
theorem dJ3_append_3_0 : decode cJ3_append_3 0 = .ok (.aload_n 1, 1) := dk_43 (dk_at dksJ3_append_3_0 0 rfl rfl)
theorem dJ3_append_3_1 : decode cJ3_append_3 1 = .ok (.ifnonnull 8, 3) := dk_199 0 8 (dk_at dksJ3_append_3_0 1 rfl rfl)
theorem dJ3_append_3_4 : decode cJ3_append_3 4 = .ok (.aload_n 0, 1) := dk_42 (dk_at dksJ3_append_3_0 4 rfl rfl)
theorem dJ3_append_3_5 : decode cJ3_append_3 5 = .ok (.invokevirtual 204, 3) := dk_182 0 204 (dk_at dksJ3_append_3_0 5 rfl rfl)
theorem dJ3_append_3_8 : decode cJ3_append_3 8 = .ok (.areturn, 1) := dk_176 (dk_at dksJ3_append_3_0 8 rfl rfl)
theorem dJ3_append_3_9 : decode cJ3_append_3 9 = .ok (.aload_n 1, 1) := dk_43 (dk_at dksJ3_append_3_0 9 rfl rfl)
theorem dJ3_append_3_10 : decode cJ3_append_3 10 = .ok (.invokevirtual 32, 3) := dk_182 0 32 (dk_at dksJ3_append_3_0 10 rfl rfl)
theorem dJ3_append_3_13 : decode cJ3_append_3 13 = .ok (.istore_n 2, 1) := dk_61 (dk_at dksJ3_append_3_0 13 rfl rfl)
theorem dJ3_append_3_14 : decode cJ3_append_3 14 = .ok (.aload_n 0, 1) := dk_42 (dk_at dksJ3_append_3_0 14 rfl rfl)
theorem dJ3_append_3_15 : decode cJ3_append_3 15 = .ok (.aload_n 0, 1) := dk_42 (dk_at dksJ3_append_3_0 15 rfl rfl)
theorem dJ3_append_3_16 : decode cJ3_append_3 16 = .ok (.getfield 79, 3) := dk_180 0 79 (dk_at dksJ3_append_3_0 16 rfl rfl)
theorem dJ3_append_3_19 : decode cJ3_append_3 19 = .ok (.iload_n 2, 1) := dk_28 (dk_at dksJ3_append_3_0 19 rfl rfl)
theorem dJ3_append_3_20 : decode cJ3_append_3 20 = .ok (.iadd, 1) := dk_96 (dk_at dksJ3_append_3_0 20 rfl rfl)
theorem dJ3_append_3_21 : decode cJ3_append_3 21 = .ok (.invokevirtual 100, 3) := dk_182 0 100 (dk_at dksJ3_append_3_0 21 rfl rfl)
theorem dJ3_append_3_24 : decode cJ3_append_3 24 = .ok (.aload_n 0, 1) := dk_42 (dk_at dksJ3_append_3_1 0 rfl rfl)
theorem dJ3_append_3_25 : decode cJ3_append_3 25 = .ok (.aload_n 0, 1) := dk_42 (dk_at dksJ3_append_3_1 1 rfl rfl)
theorem dJ3_append_3_26 : decode cJ3_append_3 26 = .ok (.getfield 79, 3) := dk_180 0 79 (dk_at dksJ3_append_3_1 2 rfl rfl)
theorem dJ3_append_3_29 : decode cJ3_append_3 29 = .ok (.aload_n 1, 1) := dk_43 (dk_at dksJ3_append_3_1 5 rfl rfl)
theorem dJ3_append_3_30 : decode cJ3_append_3 30 = .ok (.invokevirtual 208, 3) := dk_182 0 208 (dk_at dksJ3_append_3_1 6 rfl rfl)
theorem dJ3_append_3_33 : decode cJ3_append_3 33 = .ok (.aload_n 0, 1) := dk_42 (dk_at dksJ3_append_3_1 9 rfl rfl)
theorem dJ3_append_3_34 : decode cJ3_append_3 34 = .ok (.dup, 1) := dk_89 (dk_at dksJ3_append_3_1 10 rfl rfl)
theorem dJ3_append_3_35 : decode cJ3_append_3 35 = .ok (.getfield 79, 3) := dk_180 0 79 (dk_at dksJ3_append_3_1 11 rfl rfl)
theorem dJ3_append_3_38 : decode cJ3_append_3 38 = .ok (.iload_n 2, 1) := dk_28 (dk_at dksJ3_append_3_1 14 rfl rfl)
theorem dJ3_append_3_39 : decode cJ3_append_3 39 = .ok (.iadd, 1) := dk_96 (dk_at dksJ3_append_3_1 15 rfl rfl)
theorem dJ3_append_3_40 : decode cJ3_append_3 40 = .ok (.putfield 79, 3) := dk_181 0 79 (dk_at dksJ3_append_3_1 16 rfl rfl)
theorem dJ3_append_3_43 : decode cJ3_append_3 43 = .ok (.aload_n 0, 1) := dk_42 (dk_at dksJ3_append_3_1 19 rfl rfl)
theorem dJ3_append_3_44 : decode cJ3_append_3 44 = .ok (.areturn, 1) := dk_176 (dk_at dksJ3_append_3_1 20 rfl rfl)
abbrev cJ3_appendNull : ByteArray := prog_11_method_26_code
def yJ3_appendNull : MethodName := ⟨RJ3, "appendNull", "()Ljava/lang/AbstractStringBuilder;"⟩
def dkwJ3_appendNull_3 : List UInt8 := [184, 0, 226, 60, 42, 27, 181, 0, 79, 42, 176]
abbrev dktJ3_appendNull_3 : List UInt8 := dkwJ3_appendNull_3 ++ []
def dkwJ3_appendNull_2 : List UInt8 := [16, 108, 84, 44, 27, 132, 1, 1, 16, 108, 84, 167, 0, 17, 44, 27, 16, 110, 16, 117, 16, 108, 16, 108]
abbrev dktJ3_appendNull_2 : List UInt8 := dkwJ3_appendNull_2 ++ dktJ3_appendNull_3
def dkwJ3_appendNull_1 : List UInt8 := [153, 0, 38, 44, 27, 132, 1, 1, 16, 110, 84, 44, 27, 132, 1, 1, 16, 117, 84, 44, 27, 132, 1, 1]
abbrev dktJ3_appendNull_1 : List UInt8 := dkwJ3_appendNull_1 ++ dktJ3_appendNull_2
def dkwJ3_appendNull_0 : List UInt8 := [42, 42, 180, 0, 79, 7, 96, 182, 0, 100, 42, 180, 0, 79, 60, 42, 180, 0, 15, 77, 42, 182, 0, 83]
abbrev dktJ3_appendNull_0 : List UInt8 := dkwJ3_appendNull_0 ++ dktJ3_appendNull_1
theorem dksJ3_appendNull_0 : cJ3_appendNull.data.toList.drop 0 = dktJ3_appendNull_0 := by decide +kernel
theorem dksJ3_appendNull_1 : cJ3_appendNull.data.toList.drop 24 = dktJ3_appendNull_1 := dk_seg dksJ3_appendNull_0 24 rfl rfl
theorem dksJ3_appendNull_2 : cJ3_appendNull.data.toList.drop 48 = dktJ3_appendNull_2 := dk_seg dksJ3_appendNull_1 24 rfl rfl
theorem dksJ3_appendNull_3 : cJ3_appendNull.data.toList.drop 72 = dktJ3_appendNull_3 := dk_seg dksJ3_appendNull_2 24 rfl rfl
theorem dJ3_appendNull_0 : decode cJ3_appendNull 0 = .ok (.aload_n 0, 1) := dk_42 (dk_at dksJ3_appendNull_0 0 rfl rfl)
theorem dJ3_appendNull_1 : decode cJ3_appendNull 1 = .ok (.aload_n 0, 1) := dk_42 (dk_at dksJ3_appendNull_0 1 rfl rfl)
theorem dJ3_appendNull_2 : decode cJ3_appendNull 2 = .ok (.getfield 79, 3) := dk_180 0 79 (dk_at dksJ3_appendNull_0 2 rfl rfl)
theorem dJ3_appendNull_5 : decode cJ3_appendNull 5 = .ok (.iconst 4, 1) := dk_7 (dk_at dksJ3_appendNull_0 5 rfl rfl)
theorem dJ3_appendNull_6 : decode cJ3_appendNull 6 = .ok (.iadd, 1) := dk_96 (dk_at dksJ3_appendNull_0 6 rfl rfl)
theorem dJ3_appendNull_7 : decode cJ3_appendNull 7 = .ok (.invokevirtual 100, 3) := dk_182 0 100 (dk_at dksJ3_appendNull_0 7 rfl rfl)
theorem dJ3_appendNull_10 : decode cJ3_appendNull 10 = .ok (.aload_n 0, 1) := dk_42 (dk_at dksJ3_appendNull_0 10 rfl rfl)
theorem dJ3_appendNull_11 : decode cJ3_appendNull 11 = .ok (.getfield 79, 3) := dk_180 0 79 (dk_at dksJ3_appendNull_0 11 rfl rfl)
theorem dJ3_appendNull_14 : decode cJ3_appendNull 14 = .ok (.istore_n 1, 1) := dk_60 (dk_at dksJ3_appendNull_0 14 rfl rfl)
theorem dJ3_appendNull_15 : decode cJ3_appendNull 15 = .ok (.aload_n 0, 1) := dk_42 (dk_at dksJ3_appendNull_0 15 rfl rfl)
theorem dJ3_appendNull_16 : decode cJ3_appendNull 16 = .ok (.getfield 15, 3) := dk_180 0 15 (dk_at dksJ3_appendNull_0 16 rfl rfl)
theorem dJ3_appendNull_19 : decode cJ3_appendNull 19 = .ok (.astore_n 2, 1) := dk_77 (dk_at dksJ3_appendNull_0 19 rfl rfl)
theorem dJ3_appendNull_20 : decode cJ3_appendNull 20 = .ok (.aload_n 0, 1) := dk_42 (dk_at dksJ3_appendNull_0 20 rfl rfl)
theorem dJ3_appendNull_21 : decode cJ3_appendNull 21 = .ok (.invokevirtual 83, 3) := dk_182 0 83 (dk_at dksJ3_appendNull_0 21 rfl rfl)
theorem dJ3_appendNull_24 : decode cJ3_appendNull 24 = .ok (.ifCond .eq 38, 3) := dk_153 0 38 (dk_at dksJ3_appendNull_1 0 rfl rfl)
theorem dJ3_appendNull_27 : decode cJ3_appendNull 27 = .ok (.aload_n 2, 1) := dk_44 (dk_at dksJ3_appendNull_1 3 rfl rfl)
theorem dJ3_appendNull_28 : decode cJ3_appendNull 28 = .ok (.iload_n 1, 1) := dk_27 (dk_at dksJ3_appendNull_1 4 rfl rfl)
theorem dJ3_appendNull_29 : decode cJ3_appendNull 29 = .ok (.iinc 1 1, 3) := dk_132 1 1 (dk_at dksJ3_appendNull_1 5 rfl rfl)
theorem dJ3_appendNull_32 : decode cJ3_appendNull 32 = .ok (.bipush 110, 2) := dk_16 110 (dk_at dksJ3_appendNull_1 8 rfl rfl)
theorem dJ3_appendNull_34 : decode cJ3_appendNull 34 = .ok (.bastore, 1) := dk_84 (dk_at dksJ3_appendNull_1 10 rfl rfl)
theorem dJ3_appendNull_35 : decode cJ3_appendNull 35 = .ok (.aload_n 2, 1) := dk_44 (dk_at dksJ3_appendNull_1 11 rfl rfl)
theorem dJ3_appendNull_36 : decode cJ3_appendNull 36 = .ok (.iload_n 1, 1) := dk_27 (dk_at dksJ3_appendNull_1 12 rfl rfl)
theorem dJ3_appendNull_37 : decode cJ3_appendNull 37 = .ok (.iinc 1 1, 3) := dk_132 1 1 (dk_at dksJ3_appendNull_1 13 rfl rfl)
theorem dJ3_appendNull_40 : decode cJ3_appendNull 40 = .ok (.bipush 117, 2) := dk_16 117 (dk_at dksJ3_appendNull_1 16 rfl rfl)
theorem dJ3_appendNull_42 : decode cJ3_appendNull 42 = .ok (.bastore, 1) := dk_84 (dk_at dksJ3_appendNull_1 18 rfl rfl)
theorem dJ3_appendNull_43 : decode cJ3_appendNull 43 = .ok (.aload_n 2, 1) := dk_44 (dk_at dksJ3_appendNull_1 19 rfl rfl)
theorem dJ3_appendNull_44 : decode cJ3_appendNull 44 = .ok (.iload_n 1, 1) := dk_27 (dk_at dksJ3_appendNull_1 20 rfl rfl)
theorem dJ3_appendNull_45 : decode cJ3_appendNull 45 = .ok (.iinc 1 1, 3) := dk_132 1 1 (dk_at dksJ3_appendNull_1 21 rfl rfl)
theorem dJ3_appendNull_48 : decode cJ3_appendNull 48 = .ok (.bipush 108, 2) := dk_16 108 (dk_at dksJ3_appendNull_2 0 rfl rfl)
theorem dJ3_appendNull_50 : decode cJ3_appendNull 50 = .ok (.bastore, 1) := dk_84 (dk_at dksJ3_appendNull_2 2 rfl rfl)
theorem dJ3_appendNull_51 : decode cJ3_appendNull 51 = .ok (.aload_n 2, 1) := dk_44 (dk_at dksJ3_appendNull_2 3 rfl rfl)
theorem dJ3_appendNull_52 : decode cJ3_appendNull 52 = .ok (.iload_n 1, 1) := dk_27 (dk_at dksJ3_appendNull_2 4 rfl rfl)
theorem dJ3_appendNull_53 : decode cJ3_appendNull 53 = .ok (.iinc 1 1, 3) := dk_132 1 1 (dk_at dksJ3_appendNull_2 5 rfl rfl)
theorem dJ3_appendNull_56 : decode cJ3_appendNull 56 = .ok (.bipush 108, 2) := dk_16 108 (dk_at dksJ3_appendNull_2 8 rfl rfl)
theorem dJ3_appendNull_58 : decode cJ3_appendNull 58 = .ok (.bastore, 1) := dk_84 (dk_at dksJ3_appendNull_2 10 rfl rfl)
theorem dJ3_appendNull_59 : decode cJ3_appendNull 59 = .ok (.goto 17, 3) := dk_167 0 17 (dk_at dksJ3_appendNull_2 11 rfl rfl)
theorem dJ3_appendNull_62 : decode cJ3_appendNull 62 = .ok (.aload_n 2, 1) := dk_44 (dk_at dksJ3_appendNull_2 14 rfl rfl)
theorem dJ3_appendNull_63 : decode cJ3_appendNull 63 = .ok (.iload_n 1, 1) := dk_27 (dk_at dksJ3_appendNull_2 15 rfl rfl)
theorem dJ3_appendNull_64 : decode cJ3_appendNull 64 = .ok (.bipush 110, 2) := dk_16 110 (dk_at dksJ3_appendNull_2 16 rfl rfl)
theorem dJ3_appendNull_66 : decode cJ3_appendNull 66 = .ok (.bipush 117, 2) := dk_16 117 (dk_at dksJ3_appendNull_2 18 rfl rfl)
theorem dJ3_appendNull_68 : decode cJ3_appendNull 68 = .ok (.bipush 108, 2) := dk_16 108 (dk_at dksJ3_appendNull_2 20 rfl rfl)
theorem dJ3_appendNull_70 : decode cJ3_appendNull 70 = .ok (.bipush 108, 2) := dk_16 108 (dk_at dksJ3_appendNull_2 22 rfl rfl)
theorem dJ3_appendNull_72 : decode cJ3_appendNull 72 = .ok (.invokestatic 226, 3) := dk_184 0 226 (dk_at dksJ3_appendNull_3 0 rfl rfl)
theorem dJ3_appendNull_75 : decode cJ3_appendNull 75 = .ok (.istore_n 1, 1) := dk_60 (dk_at dksJ3_appendNull_3 3 rfl rfl)
theorem dJ3_appendNull_76 : decode cJ3_appendNull 76 = .ok (.aload_n 0, 1) := dk_42 (dk_at dksJ3_appendNull_3 4 rfl rfl)
theorem dJ3_appendNull_77 : decode cJ3_appendNull 77 = .ok (.iload_n 1, 1) := dk_27 (dk_at dksJ3_appendNull_3 5 rfl rfl)
theorem dJ3_appendNull_78 : decode cJ3_appendNull 78 = .ok (.putfield 79, 3) := dk_181 0 79 (dk_at dksJ3_appendNull_3 6 rfl rfl)
theorem dJ3_appendNull_81 : decode cJ3_appendNull 81 = .ok (.aload_n 0, 1) := dk_42 (dk_at dksJ3_appendNull_3 9 rfl rfl)
theorem dJ3_appendNull_82 : decode cJ3_appendNull 82 = .ok (.areturn, 1) := dk_176 (dk_at dksJ3_appendNull_3 10 rfl rfl)
abbrev cJ3_putStringAt : ByteArray := prog_11_method_73_code
def yJ3_putStringAt : MethodName := ⟨RJ3, "putStringAt", "(ILjava/lang/String;)V"⟩
def dkwJ3_putStringAt_0 : List UInt8 := [42, 44, 182, 1, 141, 44, 42, 180, 0, 15, 27, 42, 180, 0, 22, 182, 1, 143, 177]
abbrev dktJ3_putStringAt_0 : List UInt8 := dkwJ3_putStringAt_0 ++ []
theorem dksJ3_putStringAt_0 : cJ3_putStringAt.data.toList.drop 0 = dktJ3_putStringAt_0 := by decide +kernel
theorem dJ3_putStringAt_0 : decode cJ3_putStringAt 0 = .ok (.aload_n 0, 1) := dk_42 (dk_at dksJ3_putStringAt_0 0 rfl rfl)
theorem dJ3_putStringAt_1 : decode cJ3_putStringAt 1 = .ok (.aload_n 2, 1) := dk_44 (dk_at dksJ3_putStringAt_0 1 rfl rfl)
theorem dJ3_putStringAt_2 : decode cJ3_putStringAt 2 = .ok (.invokevirtual 397, 3) := dk_182 1 141 (dk_at dksJ3_putStringAt_0 2 rfl rfl)
theorem dJ3_putStringAt_5 : decode cJ3_putStringAt 5 = .ok (.aload_n 2, 1) := dk_44 (dk_at dksJ3_putStringAt_0 5 rfl rfl)
theorem dJ3_putStringAt_6 : decode cJ3_putStringAt 6 = .ok (.aload_n 0, 1) := dk_42 (dk_at dksJ3_putStringAt_0 6 rfl rfl)
theorem dJ3_putStringAt_7 : decode cJ3_putStringAt 7 = .ok (.getfield 15, 3) := dk_180 0 15 (dk_at dksJ3_putStringAt_0 7 rfl rfl)
theorem dJ3_putStringAt_10 : decode cJ3_putStringAt 10 = .ok (.iload_n 1, 1) := dk_27 (dk_at dksJ3_putStringAt_0 10 rfl rfl)
theorem dJ3_putStringAt_11 : decode cJ3_putStringAt 11 = .ok (.aload_n 0, 1) := dk_42 (dk_at dksJ3_putStringAt_0 11 rfl rfl)
theorem dJ3_putStringAt_12 : decode cJ3_putStringAt 12 = .ok (.getfield 22, 3) := dk_180 0 22 (dk_at dksJ3_putStringAt_0 12 rfl rfl)
theorem dJ3_putStringAt_15 : decode cJ3_putStringAt 15 = .ok (.invokevirtual 399, 3) := dk_182 1 143 (dk_at dksJ3_putStringAt_0 15 rfl rfl)
theorem dJ3_putStringAt_18 : decode cJ3_putStringAt 18 = .ok (.return_, 1) := dk_177 (dk_at dksJ3_putStringAt_0 18 rfl rfl)
abbrev cJ3_inflateIfNeededFor : ByteArray := prog_11_method_71_code
def yJ3_inflateIfNeededFor : MethodName := ⟨RJ3, "inflateIfNeededFor", "(Ljava/lang/String;)V"⟩
def dkwJ3_inflateIfNeededFor_0 : List UInt8 := [178, 0, 18, 153, 0, 18, 42, 180, 0, 22, 43, 182, 0, 40, 159, 0, 7, 42, 182, 0, 195, 177]
abbrev dktJ3_inflateIfNeededFor_0 : List UInt8 := dkwJ3_inflateIfNeededFor_0 ++ []
theorem dksJ3_inflateIfNeededFor_0 : cJ3_inflateIfNeededFor.data.toList.drop 0 = dktJ3_inflateIfNeededFor_0 := by decide +kernel
theorem dJ3_inflateIfNeededFor_0 : decode cJ3_inflateIfNeededFor 0 = .ok (.getstatic 18, 3) := dk_178 0 18 (dk_at dksJ3_inflateIfNeededFor_0 0 rfl rfl)
theorem dJ3_inflateIfNeededFor_3 : decode cJ3_inflateIfNeededFor 3 = .ok (.ifCond .eq 18, 3) := dk_153 0 18 (dk_at dksJ3_inflateIfNeededFor_0 3 rfl rfl)
theorem dJ3_inflateIfNeededFor_6 : decode cJ3_inflateIfNeededFor 6 = .ok (.aload_n 0, 1) := dk_42 (dk_at dksJ3_inflateIfNeededFor_0 6 rfl rfl)
theorem dJ3_inflateIfNeededFor_7 : decode cJ3_inflateIfNeededFor 7 = .ok (.getfield 22, 3) := dk_180 0 22 (dk_at dksJ3_inflateIfNeededFor_0 7 rfl rfl)
theorem dJ3_inflateIfNeededFor_10 : decode cJ3_inflateIfNeededFor 10 = .ok (.aload_n 1, 1) := dk_43 (dk_at dksJ3_inflateIfNeededFor_0 10 rfl rfl)
theorem dJ3_inflateIfNeededFor_11 : decode cJ3_inflateIfNeededFor 11 = .ok (.invokevirtual 40, 3) := dk_182 0 40 (dk_at dksJ3_inflateIfNeededFor_0 11 rfl rfl)
theorem dJ3_inflateIfNeededFor_14 : decode cJ3_inflateIfNeededFor 14 = .ok (.if_icmp .eq 7, 3) := dk_159 0 7 (dk_at dksJ3_inflateIfNeededFor_0 14 rfl rfl)
theorem dJ3_inflateIfNeededFor_17 : decode cJ3_inflateIfNeededFor 17 = .ok (.aload_n 0, 1) := dk_42 (dk_at dksJ3_inflateIfNeededFor_0 17 rfl rfl)
theorem dJ3_inflateIfNeededFor_18 : decode cJ3_inflateIfNeededFor 18 = .ok (.invokevirtual 195, 3) := dk_182 0 195 (dk_at dksJ3_inflateIfNeededFor_0 18 rfl rfl)
theorem dJ3_inflateIfNeededFor_21 : decode cJ3_inflateIfNeededFor 21 = .ok (.return_, 1) := dk_177 (dk_at dksJ3_inflateIfNeededFor_0 21 rfl rfl)
abbrev cJ3_init_2 : ByteArray := prog_11_method_3_code
def yJ3_init_2 : MethodName := ⟨RJ3, "<init>", "(Ljava/lang/String;)V"⟩
def dkwJ3_init_2_2 : List UInt8 := [167, 0, 7, 29, 184, 0, 26, 181, 0, 15, 42, 43, 182, 0, 43, 87, 177]
abbrev dktJ3_init_2_2 : List UInt8 := dkwJ3_init_2_2 ++ []
def dkwJ3_init_2_1 : List UInt8 := [62, 43, 182, 0, 40, 54, 4, 42, 21, 4, 181, 0, 22, 42, 21, 4, 154, 0, 9, 29, 188, 8]
abbrev dktJ3_init_2_1 : List UInt8 := dkwJ3_init_2_1 ++ dktJ3_init_2_2
def dkwJ3_init_2_0 : List UInt8 := [42, 183, 0, 3, 43, 182, 0, 32, 61, 28, 18, 38, 162, 0, 10, 28, 16, 16, 96, 167, 0, 5, 18, 39]
abbrev dktJ3_init_2_0 : List UInt8 := dkwJ3_init_2_0 ++ dktJ3_init_2_1
theorem dksJ3_init_2_0 : cJ3_init_2.data.toList.drop 0 = dktJ3_init_2_0 := by decide +kernel
theorem dksJ3_init_2_1 : cJ3_init_2.data.toList.drop 24 = dktJ3_init_2_1 := dk_seg dksJ3_init_2_0 24 rfl rfl
theorem dksJ3_init_2_2 : cJ3_init_2.data.toList.drop 46 = dktJ3_init_2_2 := dk_seg dksJ3_init_2_1 22 rfl rfl
theorem dJ3_init_2_0 : decode cJ3_init_2 0 = .ok (.aload_n 0, 1) := dk_42 (dk_at dksJ3_init_2_0 0 rfl rfl)
theorem dJ3_init_2_1 : decode cJ3_init_2 1 = .ok (.invokespecial 3, 3) := dk_183 0 3 (dk_at dksJ3_init_2_0 1 rfl rfl)
theorem dJ3_init_2_4 : decode cJ3_init_2 4 = .ok (.aload_n 1, 1) := dk_43 (dk_at dksJ3_init_2_0 4 rfl rfl)
theorem dJ3_init_2_5 : decode cJ3_init_2 5 = .ok (.invokevirtual 32, 3) := dk_182 0 32 (dk_at dksJ3_init_2_0 5 rfl rfl)
theorem dJ3_init_2_8 : decode cJ3_init_2 8 = .ok (.istore_n 2, 1) := dk_61 (dk_at dksJ3_init_2_0 8 rfl rfl)
theorem dJ3_init_2_9 : decode cJ3_init_2 9 = .ok (.iload_n 2, 1) := dk_28 (dk_at dksJ3_init_2_0 9 rfl rfl)
theorem dJ3_init_2_10 : decode cJ3_init_2 10 = .ok (.ldc 38, 2) := dk_18 38 (dk_at dksJ3_init_2_0 10 rfl rfl)
theorem dJ3_init_2_12 : decode cJ3_init_2 12 = .ok (.if_icmp .ge 10, 3) := dk_162 0 10 (dk_at dksJ3_init_2_0 12 rfl rfl)
theorem dJ3_init_2_15 : decode cJ3_init_2 15 = .ok (.iload_n 2, 1) := dk_28 (dk_at dksJ3_init_2_0 15 rfl rfl)
theorem dJ3_init_2_16 : decode cJ3_init_2 16 = .ok (.bipush 16, 2) := dk_16 16 (dk_at dksJ3_init_2_0 16 rfl rfl)
theorem dJ3_init_2_18 : decode cJ3_init_2 18 = .ok (.iadd, 1) := dk_96 (dk_at dksJ3_init_2_0 18 rfl rfl)
theorem dJ3_init_2_19 : decode cJ3_init_2 19 = .ok (.goto 5, 3) := dk_167 0 5 (dk_at dksJ3_init_2_0 19 rfl rfl)
theorem dJ3_init_2_22 : decode cJ3_init_2 22 = .ok (.ldc 39, 2) := dk_18 39 (dk_at dksJ3_init_2_0 22 rfl rfl)
theorem dJ3_init_2_24 : decode cJ3_init_2 24 = .ok (.istore_n 3, 1) := dk_62 (dk_at dksJ3_init_2_1 0 rfl rfl)
theorem dJ3_init_2_25 : decode cJ3_init_2 25 = .ok (.aload_n 1, 1) := dk_43 (dk_at dksJ3_init_2_1 1 rfl rfl)
theorem dJ3_init_2_26 : decode cJ3_init_2 26 = .ok (.invokevirtual 40, 3) := dk_182 0 40 (dk_at dksJ3_init_2_1 2 rfl rfl)
theorem dJ3_init_2_29 : decode cJ3_init_2 29 = .ok (.istore 4, 2) := dk_54 4 (dk_at dksJ3_init_2_1 5 rfl rfl)
theorem dJ3_init_2_31 : decode cJ3_init_2 31 = .ok (.aload_n 0, 1) := dk_42 (dk_at dksJ3_init_2_1 7 rfl rfl)
theorem dJ3_init_2_32 : decode cJ3_init_2 32 = .ok (.iload 4, 2) := dk_21 4 (dk_at dksJ3_init_2_1 8 rfl rfl)
theorem dJ3_init_2_34 : decode cJ3_init_2 34 = .ok (.putfield 22, 3) := dk_181 0 22 (dk_at dksJ3_init_2_1 10 rfl rfl)
theorem dJ3_init_2_37 : decode cJ3_init_2 37 = .ok (.aload_n 0, 1) := dk_42 (dk_at dksJ3_init_2_1 13 rfl rfl)
theorem dJ3_init_2_38 : decode cJ3_init_2 38 = .ok (.iload 4, 2) := dk_21 4 (dk_at dksJ3_init_2_1 14 rfl rfl)
theorem dJ3_init_2_40 : decode cJ3_init_2 40 = .ok (.ifCond .ne 9, 3) := dk_154 0 9 (dk_at dksJ3_init_2_1 16 rfl rfl)
theorem dJ3_init_2_43 : decode cJ3_init_2 43 = .ok (.iload_n 3, 1) := dk_29 (dk_at dksJ3_init_2_1 19 rfl rfl)
theorem dJ3_init_2_44 : decode cJ3_init_2 44 = .ok (.newarray .byte, 2) := dk_188_8 (dk_at dksJ3_init_2_1 20 rfl rfl)
theorem dJ3_init_2_46 : decode cJ3_init_2 46 = .ok (.goto 7, 3) := dk_167 0 7 (dk_at dksJ3_init_2_2 0 rfl rfl)
theorem dJ3_init_2_49 : decode cJ3_init_2 49 = .ok (.iload_n 3, 1) := dk_29 (dk_at dksJ3_init_2_2 3 rfl rfl)
theorem dJ3_init_2_50 : decode cJ3_init_2 50 = .ok (.invokestatic 26, 3) := dk_184 0 26 (dk_at dksJ3_init_2_2 4 rfl rfl)
theorem dJ3_init_2_53 : decode cJ3_init_2 53 = .ok (.putfield 15, 3) := dk_181 0 15 (dk_at dksJ3_init_2_2 7 rfl rfl)
theorem dJ3_init_2_56 : decode cJ3_init_2 56 = .ok (.aload_n 0, 1) := dk_42 (dk_at dksJ3_init_2_2 10 rfl rfl)
theorem dJ3_init_2_57 : decode cJ3_init_2 57 = .ok (.aload_n 1, 1) := dk_43 (dk_at dksJ3_init_2_2 11 rfl rfl)
theorem dJ3_init_2_58 : decode cJ3_init_2 58 = .ok (.invokevirtual 43, 3) := dk_182 0 43 (dk_at dksJ3_init_2_2 12 rfl rfl)
theorem dJ3_init_2_61 : decode cJ3_init_2 61 = .ok (.pop, 1) := dk_87 (dk_at dksJ3_init_2_2 15 rfl rfl)
theorem dJ3_init_2_62 : decode cJ3_init_2 62 = .ok (.return_, 1) := dk_177 (dk_at dksJ3_init_2_2 16 rfl rfl)
theorem q38 : (Jvm.Cond.initialized "java/lang/AbstractStringBuilder") ∈ lw_all := lw_g (lw_at lw_m1 7 rfl) rfl
theorem q131 : (Jvm.Cond.instanceMethod ({ cls := "java/lang/AbstractStringBuilder", name := "<init>", desc := "(I)V" } : Jvm.MethodName)) ∈ lw_all := lw_g (lw_at lw_m1 100 rfl) rfl
theorem q132 : (Jvm.Cond.code ({ cls := "java/lang/AbstractStringBuilder", name := "<init>", desc := "(I)V" } : Jvm.MethodName) prog_11_method_2_code (2 : Nat) (Option.none : Option Jvm.ClassFile.FieldType)) ∈ lw_all := lw_g (lw_at lw_m1 101 rfl) rfl
theorem q133 : (Jvm.Cond.methodLink "java/lang/AbstractStringBuilder" (3 : Nat) ({ cls := "java/lang/Object", name := "<init>", desc := "()V" } : Jvm.MethodName)) ∈ lw_all := lw_g (lw_at lw_m1 102 rfl) rfl
theorem q134 : (Jvm.Cond.fieldLink "java/lang/AbstractStringBuilder" (18 : Nat) "java/lang/String" "COMPACT_STRINGS" "Z") ∈ lw_all := lw_g (lw_at lw_m1 103 rfl) rfl
theorem q136 : (Jvm.Cond.methodLink "java/lang/AbstractStringBuilder" (26 : Nat) ({ cls := "java/lang/StringUTF16", name := "newBytesFor", desc := "(I)[B" } : Jvm.MethodName)) ∈ lw_all := lw_g (lw_at lw_m1 105 rfl) rfl
theorem q143 : (Jvm.Cond.fieldLink "java/lang/AbstractStringBuilder" (15 : Nat) "java/lang/AbstractStringBuilder" "value" "[B") ∈ lw_all := lw_g (lw_at lw_m1 112 rfl) rfl
theorem q144 : (Jvm.Cond.fieldLink "java/lang/AbstractStringBuilder" (22 : Nat) "java/lang/AbstractStringBuilder" "coder" "B") ∈ lw_all := lw_g (lw_at lw_m1 113 rfl) rfl
theorem q146 : (Jvm.Cond.fieldLink "java/lang/AbstractStringBuilder" (79 : Nat) "java/lang/AbstractStringBuilder" "count" "I") ∈ lw_all := lw_g (lw_at lw_m1 115 rfl) rfl
theorem q148 : (Jvm.Cond.soleField "java/lang/AbstractStringBuilder" "value") ∈ lw_all := lw_g (lw_at lw_m1 117 rfl) rfl
theorem q150 : (Jvm.Cond.soleField "java/lang/AbstractStringBuilder" "coder") ∈ lw_all := lw_g (lw_at lw_m1 119 rfl) rfl
theorem q152 : (Jvm.Cond.soleField "java/lang/AbstractStringBuilder" "maybeLatin1") ∈ lw_all := lw_g (lw_at lw_m1 121 rfl) rfl
theorem q154 : (Jvm.Cond.soleField "java/lang/AbstractStringBuilder" "count") ∈ lw_all := lw_g (lw_at lw_m1 123 rfl) rfl
theorem q208 : (Jvm.Cond.instanceMethod ({ cls := "java/lang/AbstractStringBuilder", name := "append", desc := "(C)Ljava/lang/AbstractStringBuilder;" } : Jvm.MethodName)) ∈ lw_all := lw_g (lw_at lw_m1 177 rfl) rfl
theorem q209 : (Jvm.Cond.code ({ cls := "java/lang/AbstractStringBuilder", name := "append", desc := "(C)Ljava/lang/AbstractStringBuilder;" } : Jvm.MethodName) prog_11_method_31_code (2 : Nat) (Option.some (Jvm.ClassFile.FieldType.object "java/lang/AbstractStringBuilder"))) ∈ lw_all := lw_g (lw_at lw_m1 178 rfl) rfl
theorem q210 : (Jvm.Cond.methodLink "java/lang/AbstractStringBuilder" (100 : Nat) ({ cls := "java/lang/AbstractStringBuilder", name := "ensureCapacityInternal", desc := "(I)V" } : Jvm.MethodName)) ∈ lw_all := lw_g (lw_at lw_m1 179 rfl) rfl
theorem q211 : (Jvm.Cond.privateMethod ({ cls := "java/lang/AbstractStringBuilder", name := "ensureCapacityInternal", desc := "(I)V" } : Jvm.MethodName)) ∈ lw_tbl := lw_at lw_m1 180 rfl
theorem q212 : (Jvm.Cond.instanceMethod ({ cls := "java/lang/AbstractStringBuilder", name := "ensureCapacityInternal", desc := "(I)V" } : Jvm.MethodName)) ∈ lw_all := lw_g (lw_at lw_m1 181 rfl) rfl
theorem q213 : (Jvm.Cond.code ({ cls := "java/lang/AbstractStringBuilder", name := "ensureCapacityInternal", desc := "(I)V" } : Jvm.MethodName) prog_11_method_9_code (3 : Nat) (Option.none : Option Jvm.ClassFile.FieldType)) ∈ lw_all := lw_g (lw_at lw_m1 182 rfl) rfl
theorem q214 : (Jvm.Cond.methodLink "java/lang/AbstractStringBuilder" (104 : Nat) ({ cls := "java/lang/AbstractStringBuilder", name := "newCapacity", desc := "(I)I" } : Jvm.MethodName)) ∈ lw_all := lw_g (lw_at lw_m1 183 rfl) rfl
theorem q215 : (Jvm.Cond.privateMethod ({ cls := "java/lang/AbstractStringBuilder", name := "newCapacity", desc := "(I)I" } : Jvm.MethodName)) ∈ lw_tbl := lw_at lw_m1 184 rfl
theorem q216 : (Jvm.Cond.instanceMethod ({ cls := "java/lang/AbstractStringBuilder", name := "newCapacity", desc := "(I)I" } : Jvm.MethodName)) ∈ lw_all := lw_g (lw_at lw_m1 185 rfl) rfl
theorem q217 : (Jvm.Cond.code ({ cls := "java/lang/AbstractStringBuilder", name := "newCapacity", desc := "(I)I" } : Jvm.MethodName) prog_11_method_10_code (6 : Nat) (Option.some Jvm.ClassFile.FieldType.int)) ∈ lw_all := lw_g (lw_at lw_m1 186 rfl) rfl
theorem q218 : (Jvm.Cond.methodLink "java/lang/AbstractStringBuilder" (114 : Nat) ({ cls := "jdk/internal/util/ArraysSupport", name := "newLength", desc := "(III)I" } : Jvm.MethodName)) ∈ lw_all := lw_g (lw_at lw_m1 187 rfl) rfl
theorem q228 : (Jvm.Cond.constant "java/lang/AbstractStringBuilder" (39 : Nat) (2147483647 : Int32)) ∈ lw_all := lw_g (lw_at lw_m1 197 rfl) rfl
theorem q229 : (Jvm.Cond.methodLink "java/lang/AbstractStringBuilder" (108 : Nat) ({ cls := "java/util/Arrays", name := "copyOf", desc := "([BI)[B" } : Jvm.MethodName)) ∈ lw_all := lw_g (lw_at lw_m1 198 rfl) rfl
theorem q245 : (Jvm.Cond.methodLink "java/lang/AbstractStringBuilder" (83 : Nat) ({ cls := "java/lang/AbstractStringBuilder", name := "isLatin1", desc := "()Z" } : Jvm.MethodName)) ∈ lw_all := lw_g (lw_at lw_m1 214 rfl) rfl
theorem q246 : (Jvm.Cond.instanceMethod ({ cls := "java/lang/AbstractStringBuilder", name := "isLatin1", desc := "()Z" } : Jvm.MethodName)) ∈ lw_all := lw_g (lw_at lw_m1 215 rfl) rfl
theorem q247 : (Jvm.Cond.sameMethod "java/lang/AbstractStringBuilder" "java/lang/AbstractStringBuilder" "isLatin1" "()Z") ∈ lw_all := lw_g (lw_at lw_m1 216 rfl) rfl
theorem q249 : (Jvm.Cond.code ({ cls := "java/lang/AbstractStringBuilder", name := "isLatin1", desc := "()Z" } : Jvm.MethodName) prog_11_method_68_code (1 : Nat) (Option.some Jvm.ClassFile.FieldType.boolean)) ∈ lw_all := lw_g (lw_at lw_m1 218 rfl) rfl
theorem q250 : (Jvm.Cond.methodLink "java/lang/AbstractStringBuilder" (191 : Nat) ({ cls := "java/lang/StringLatin1", name := "canEncode", desc := "(C)Z" } : Jvm.MethodName)) ∈ lw_all := lw_g (lw_at lw_m1 219 rfl) rfl
theorem q253 : (Jvm.Cond.methodLink "java/lang/AbstractStringBuilder" (195 : Nat) ({ cls := "java/lang/AbstractStringBuilder", name := "inflate", desc := "()V" } : Jvm.MethodName)) ∈ lw_all := lw_g (lw_at lw_m1 222 rfl) rfl
theorem q254 : (Jvm.Cond.privateMethod ({ cls := "java/lang/AbstractStringBuilder", name := "inflate", desc := "()V" } : Jvm.MethodName)) ∈ lw_tbl := lw_at lw_m1 223 rfl
theorem q255 : (Jvm.Cond.instanceMethod ({ cls := "java/lang/AbstractStringBuilder", name := "inflate", desc := "()V" } : Jvm.MethodName)) ∈ lw_all := lw_g (lw_at lw_m1 224 rfl) rfl
theorem q256 : (Jvm.Cond.code ({ cls := "java/lang/AbstractStringBuilder", name := "inflate", desc := "()V" } : Jvm.MethodName) prog_11_method_11_code (2 : Nat) (Option.none : Option Jvm.ClassFile.FieldType)) ∈ lw_all := lw_g (lw_at lw_m1 225 rfl) rfl
theorem q257 : (Jvm.Cond.methodLink "java/lang/AbstractStringBuilder" (125 : Nat) ({ cls := "java/lang/StringLatin1", name := "inflate", desc := "([BI[BII)V" } : Jvm.MethodName)) ∈ lw_all := lw_g (lw_at lw_m1 226 rfl) rfl
theorem q275 : (Jvm.Cond.methodLink "java/lang/AbstractStringBuilder" (197 : Nat) ({ cls := "java/lang/StringUTF16", name := "putCharSB", desc := "([BII)V" } : Jvm.MethodName)) ∈ lw_all := lw_g (lw_at lw_m2 4 rfl) rfl
theorem q292 : (Jvm.Cond.instanceMethod ({ cls := "java/lang/AbstractStringBuilder", name := "getValue", desc := "()[B" } : Jvm.MethodName)) ∈ lw_all := lw_g (lw_at lw_m2 21 rfl) rfl
theorem q293 : (Jvm.Cond.sameMethod "java/lang/AbstractStringBuilder" "java/lang/AbstractStringBuilder" "getValue" "()[B") ∈ lw_all := lw_g (lw_at lw_m2 22 rfl) rfl
theorem q295 : (Jvm.Cond.code ({ cls := "java/lang/AbstractStringBuilder", name := "getValue", desc := "()[B" } : Jvm.MethodName) prog_11_method_64_code (1 : Nat) (Option.some (Jvm.ClassFile.FieldType.array Jvm.ClassFile.FieldType.byte))) ∈ lw_all := lw_g (lw_at lw_m2 24 rfl) rfl
theorem q297 : (Jvm.Cond.instanceMethod ({ cls := "java/lang/AbstractStringBuilder", name := "length", desc := "()I" } : Jvm.MethodName)) ∈ lw_all := lw_g (lw_at lw_m2 26 rfl) rfl
theorem q298 : (Jvm.Cond.sameMethod "java/lang/AbstractStringBuilder" "java/lang/AbstractStringBuilder" "length" "()I") ∈ lw_all := lw_g (lw_at lw_m2 27 rfl) rfl
theorem q303 : (Jvm.Cond.code ({ cls := "java/lang/AbstractStringBuilder", name := "length", desc := "()I" } : Jvm.MethodName) prog_11_method_6_code (1 : Nat) (Option.some Jvm.ClassFile.FieldType.int)) ∈ lw_all := lw_g (lw_at lw_m2 32 rfl) rfl
theorem q361 : (Jvm.Cond.instanceMethod ({ cls := "java/lang/AbstractStringBuilder", name := "append", desc := "(I)Ljava/lang/AbstractStringBuilder;" } : Jvm.MethodName)) ∈ lw_all := lw_g (lw_at lw_m2 90 rfl) rfl
theorem q362 : (Jvm.Cond.code ({ cls := "java/lang/AbstractStringBuilder", name := "append", desc := "(I)Ljava/lang/AbstractStringBuilder;" } : Jvm.MethodName) prog_11_method_32_code (4 : Nat) (Option.some (Jvm.ClassFile.FieldType.object "java/lang/AbstractStringBuilder"))) ∈ lw_all := lw_g (lw_at lw_m2 91 rfl) rfl
theorem q363 : (Jvm.Cond.methodLink "java/lang/AbstractStringBuilder" (245 : Nat) ({ cls := "java/lang/Integer", name := "stringSize", desc := "(I)I" } : Jvm.MethodName)) ∈ lw_all := lw_g (lw_at lw_m2 92 rfl) rfl
theorem q366 : (Jvm.Cond.methodLink "java/lang/AbstractStringBuilder" (248 : Nat) ({ cls := "java/lang/Integer", name := "getChars", desc := "(II[B)I" } : Jvm.MethodName)) ∈ lw_all := lw_g (lw_at lw_m2 95 rfl) rfl
theorem q373 : (Jvm.Cond.methodLink "java/lang/AbstractStringBuilder" (251 : Nat) ({ cls := "java/lang/StringUTF16", name := "getChars", desc := "(III[B)I" } : Jvm.MethodName)) ∈ lw_all := lw_g (lw_at lw_m2 102 rfl) rfl
theorem q396 : (Jvm.Cond.instanceMethod ({ cls := "java/lang/AbstractStringBuilder", name := "append", desc := "(Ljava/lang/String;)Ljava/lang/AbstractStringBuilder;" } : Jvm.MethodName)) ∈ lw_all := lw_g (lw_at lw_m2 125 rfl) rfl
theorem q397 : (Jvm.Cond.code ({ cls := "java/lang/AbstractStringBuilder", name := "append", desc := "(Ljava/lang/String;)Ljava/lang/AbstractStringBuilder;" } : Jvm.MethodName) prog_11_method_22_code (3 : Nat) (Option.some (Jvm.ClassFile.FieldType.object "java/lang/AbstractStringBuilder"))) ∈ lw_all := lw_g (lw_at lw_m2 126 rfl) rfl
theorem q398 : (Jvm.Cond.methodLink "java/lang/AbstractStringBuilder" (204 : Nat) ({ cls := "java/lang/AbstractStringBuilder", name := "appendNull", desc := "()Ljava/lang/AbstractStringBuilder;" } : Jvm.MethodName)) ∈ lw_all := lw_g (lw_at lw_m2 127 rfl) rfl
theorem q399 : (Jvm.Cond.privateMethod ({ cls := "java/lang/AbstractStringBuilder", name := "appendNull", desc := "()Ljava/lang/AbstractStringBuilder;" } : Jvm.MethodName)) ∈ lw_tbl := lw_at lw_m2 128 rfl
theorem q400 : (Jvm.Cond.instanceMethod ({ cls := "java/lang/AbstractStringBuilder", name := "appendNull", desc := "()Ljava/lang/AbstractStringBuilder;" } : Jvm.MethodName)) ∈ lw_all := lw_g (lw_at lw_m2 129 rfl) rfl
theorem q401 : (Jvm.Cond.code ({ cls := "java/lang/AbstractStringBuilder", name := "appendNull", desc := "()Ljava/lang/AbstractStringBuilder;" } : Jvm.MethodName) prog_11_method_26_code (3 : Nat) (Option.some (Jvm.ClassFile.FieldType.object "java/lang/AbstractStringBuilder"))) ∈ lw_all := lw_g (lw_at lw_m2 130 rfl) rfl
theorem q402 : (Jvm.Cond.methodLink "java/lang/AbstractStringBuilder" (226 : Nat) ({ cls := "java/lang/StringUTF16", name := "putCharsAt", desc := "([BICCCC)I" } : Jvm.MethodName)) ∈ lw_all := lw_g (lw_at lw_m2 131 rfl) rfl
theorem q405 : (Jvm.Cond.methodLink "java/lang/AbstractStringBuilder" (32 : Nat) ({ cls := "java/lang/String", name := "length", desc := "()I" } : Jvm.MethodName)) ∈ lw_all := lw_g (lw_at lw_m2 134 rfl) rfl
theorem q406 : (Jvm.Cond.methodLink "java/lang/AbstractStringBuilder" (208 : Nat) ({ cls := "java/lang/AbstractStringBuilder", name := "putStringAt", desc := "(ILjava/lang/String;)V" } : Jvm.MethodName)) ∈ lw_all := lw_g (lw_at lw_m2 135 rfl) rfl
theorem q407 : (Jvm.Cond.privateMethod ({ cls := "java/lang/AbstractStringBuilder", name := "putStringAt", desc := "(ILjava/lang/String;)V" } : Jvm.MethodName)) ∈ lw_tbl := lw_at lw_m2 136 rfl
theorem q408 : (Jvm.Cond.instanceMethod ({ cls := "java/lang/AbstractStringBuilder", name := "putStringAt", desc := "(ILjava/lang/String;)V" } : Jvm.MethodName)) ∈ lw_all := lw_g (lw_at lw_m2 137 rfl) rfl
theorem q409 : (Jvm.Cond.code ({ cls := "java/lang/AbstractStringBuilder", name := "putStringAt", desc := "(ILjava/lang/String;)V" } : Jvm.MethodName) prog_11_method_73_code (3 : Nat) (Option.none : Option Jvm.ClassFile.FieldType)) ∈ lw_all := lw_g (lw_at lw_m2 138 rfl) rfl
theorem q410 : (Jvm.Cond.methodLink "java/lang/AbstractStringBuilder" (397 : Nat) ({ cls := "java/lang/AbstractStringBuilder", name := "inflateIfNeededFor", desc := "(Ljava/lang/String;)V" } : Jvm.MethodName)) ∈ lw_all := lw_g (lw_at lw_m2 139 rfl) rfl
theorem q411 : (Jvm.Cond.privateMethod ({ cls := "java/lang/AbstractStringBuilder", name := "inflateIfNeededFor", desc := "(Ljava/lang/String;)V" } : Jvm.MethodName)) ∈ lw_tbl := lw_at lw_m2 140 rfl
theorem q412 : (Jvm.Cond.instanceMethod ({ cls := "java/lang/AbstractStringBuilder", name := "inflateIfNeededFor", desc := "(Ljava/lang/String;)V" } : Jvm.MethodName)) ∈ lw_all := lw_g (lw_at lw_m2 141 rfl) rfl
theorem q413 : (Jvm.Cond.code ({ cls := "java/lang/AbstractStringBuilder", name := "inflateIfNeededFor", desc := "(Ljava/lang/String;)V" } : Jvm.MethodName) prog_11_method_71_code (2 : Nat) (Option.none : Option Jvm.ClassFile.FieldType)) ∈ lw_all := lw_g (lw_at lw_m2 142 rfl) rfl
theorem q414 : (Jvm.Cond.methodLink "java/lang/AbstractStringBuilder" (40 : Nat) ({ cls := "java/lang/String", name := "coder", desc := "()B" } : Jvm.MethodName)) ∈ lw_all := lw_g (lw_at lw_m2 143 rfl) rfl
theorem q415 : (Jvm.Cond.methodLink "java/lang/AbstractStringBuilder" (399 : Nat) ({ cls := "java/lang/String", name := "getBytes", desc := "([BIB)V" } : Jvm.MethodName)) ∈ lw_all := lw_g (lw_at lw_m2 144 rfl) rfl
theorem q782 : (Jvm.Cond.instanceMethod ({ cls := "java/lang/AbstractStringBuilder", name := "<init>", desc := "(Ljava/lang/String;)V" } : Jvm.MethodName)) ∈ lw_all := lw_g (lw_at lw_m4 31 rfl) rfl
theorem q783 : (Jvm.Cond.code ({ cls := "java/lang/AbstractStringBuilder", name := "<init>", desc := "(Ljava/lang/String;)V" } : Jvm.MethodName) prog_11_method_3_code (5 : Nat) (Option.none : Option Jvm.ClassFile.FieldType)) ∈ lw_all := lw_g (lw_at lw_m4 32 rfl) rfl
theorem q784 : (Jvm.Cond.constant "java/lang/AbstractStringBuilder" (38 : Nat) (2147483631 : Int32)) ∈ lw_all := lw_g (lw_at lw_m4 33 rfl) rfl
theorem q785 : (Jvm.Cond.methodLink "java/lang/AbstractStringBuilder" (43 : Nat) ({ cls := "java/lang/AbstractStringBuilder", name := "append", desc := "(Ljava/lang/String;)Ljava/lang/AbstractStringBuilder;" } : Jvm.MethodName)) ∈ lw_all := lw_g (lw_at lw_m4 34 rfl) rfl
theorem q1407 : (Jvm.Cond.sameMethod "java/lang/AbstractStringBuilder" "java/lang/AbstractStringBuilder" "append" "(C)Ljava/lang/AbstractStringBuilder;") ∈ lw_all := lw_g (lw_at lw_m6 176 rfl) rfl
theorem q1408 : (Jvm.Cond.sameMethod "java/lang/AbstractStringBuilder" "java/lang/AbstractStringBuilder" "ensureCapacityInternal" "(I)V") ∈ lw_all := lw_g (lw_at lw_m6 177 rfl) rfl
theorem q1409 : (Jvm.Cond.sameMethod "java/lang/AbstractStringBuilder" "java/lang/AbstractStringBuilder" "newCapacity" "(I)I") ∈ lw_all := lw_g (lw_at lw_m6 178 rfl) rfl
theorem q1410 : (Jvm.Cond.sameMethod "java/lang/AbstractStringBuilder" "java/lang/AbstractStringBuilder" "inflate" "()V") ∈ lw_all := lw_g (lw_at lw_m6 179 rfl) rfl
theorem q1412 : (Jvm.Cond.sameMethod "java/lang/AbstractStringBuilder" "java/lang/AbstractStringBuilder" "append" "(I)Ljava/lang/AbstractStringBuilder;") ∈ lw_all := lw_g (lw_at lw_m6 181 rfl) rfl
theorem q1413 : (Jvm.Cond.sameMethod "java/lang/AbstractStringBuilder" "java/lang/AbstractStringBuilder" "append" "(Ljava/lang/String;)Ljava/lang/AbstractStringBuilder;") ∈ lw_all := lw_g (lw_at lw_m6 182 rfl) rfl
theorem q1414 : (Jvm.Cond.sameMethod "java/lang/AbstractStringBuilder" "java/lang/AbstractStringBuilder" "appendNull" "()Ljava/lang/AbstractStringBuilder;") ∈ lw_all := lw_g (lw_at lw_m6 183 rfl) rfl
theorem q1415 : (Jvm.Cond.sameMethod "java/lang/AbstractStringBuilder" "java/lang/AbstractStringBuilder" "putStringAt" "(ILjava/lang/String;)V") ∈ lw_all := lw_g (lw_at lw_m6 184 rfl) rfl
theorem q1416 : (Jvm.Cond.sameMethod "java/lang/AbstractStringBuilder" "java/lang/AbstractStringBuilder" "inflateIfNeededFor" "(Ljava/lang/String;)V") ∈ lw_all := lw_g (lw_at lw_m6 185 rfl) rfl
/-! java/lang/StringBuilder -/
set_option maxRecDepth 100000
def RJ4 : String := "java/lang/StringBuilder"
def TJ4 : u_T := fun k => match k with
  | 0 => ("java/lang/AbstractStringBuilder", "value", "[B", false)
  | 1 => ("java/lang/AbstractStringBuilder", "coder", "B", false)
  | 2 => ("java/lang/AbstractStringBuilder", "maybeLatin1", "Z", false)
  | _ => ("java/lang/AbstractStringBuilder", "count", "I", false)
def tyJ4 : Nat → FieldType := fun k => match k with
  | 0 => .array .byte
  | 1 => .byte
  | 2 => .boolean
  | _ => .int
abbrev wsJ40 : List Cond := u_ws RJ4 TJ4 4
theorem nmJ4 : ∀ a, a < 4 → ∀ b, b < 4 → a ≠ b → (TJ4 a).2.1 ≠ (TJ4 b).2.1 := by decide +kernel
theorem tyJ4_ok : ∀ k, k < 4 → parseFieldDescriptor (TJ4 k).2.2.1 = some (tyJ4 k) := by decide +kernel
abbrev cJ4_init : ByteArray := prog_26_method_1_code
def yJ4_init : MethodName := ⟨RJ4, "<init>", "()V"⟩
def dkwJ4_init_0 : List UInt8 := [42, 16, 16, 183, 0, 1, 177]
abbrev dktJ4_init_0 : List UInt8 := dkwJ4_init_0 ++ []
theorem dksJ4_init_0 : cJ4_init.data.toList.drop 0 = dktJ4_init_0 := by decide +kernel
theorem dJ4_init_0 : decode cJ4_init 0 = .ok (.aload_n 0, 1) := dk_42 (dk_at dksJ4_init_0 0 rfl rfl)
theorem dJ4_init_1 : decode cJ4_init 1 = .ok (.bipush 16, 2) := dk_16 16 (dk_at dksJ4_init_0 1 rfl rfl)
theorem dJ4_init_3 : decode cJ4_init 3 = .ok (.invokespecial 1, 3) := dk_183 0 1 (dk_at dksJ4_init_0 3 rfl rfl)
theorem dJ4_init_6 : decode cJ4_init 6 = .ok (.return_, 1) := dk_177 (dk_at dksJ4_init_0 6 rfl rfl)
abbrev cJ4_append : ByteArray := prog_26_method_14_code
def yJ4_append : MethodName := ⟨RJ4, "append", "(C)Ljava/lang/StringBuilder;"⟩
def dkwJ4_append_0 : List UInt8 := [42, 27, 183, 0, 50, 87, 42, 176]
abbrev dktJ4_append_0 : List UInt8 := dkwJ4_append_0 ++ []
theorem dksJ4_append_0 : cJ4_append.data.toList.drop 0 = dktJ4_append_0 := by decide +kernel
theorem dJ4_append_0 : decode cJ4_append 0 = .ok (.aload_n 0, 1) := dk_42 (dk_at dksJ4_append_0 0 rfl rfl)
theorem dJ4_append_1 : decode cJ4_append 1 = .ok (.iload_n 1, 1) := dk_27 (dk_at dksJ4_append_0 1 rfl rfl)
theorem dJ4_append_2 : decode cJ4_append 2 = .ok (.invokespecial 50, 3) := dk_183 0 50 (dk_at dksJ4_append_0 2 rfl rfl)
theorem dJ4_append_5 : decode cJ4_append 5 = .ok (.pop, 1) := dk_87 (dk_at dksJ4_append_0 5 rfl rfl)
theorem dJ4_append_6 : decode cJ4_append 6 = .ok (.aload_n 0, 1) := dk_42 (dk_at dksJ4_append_0 6 rfl rfl)
theorem dJ4_append_7 : decode cJ4_append 7 = .ok (.areturn, 1) := dk_176 (dk_at dksJ4_append_0 7 rfl rfl)
abbrev cJ4_toString : ByteArray := prog_26_method_42_code
def yJ4_toString : MethodName := ⟨RJ4, "toString", "()Ljava/lang/String;"⟩
def dkwJ4_toString_0 : List UInt8 := [187, 0, 18, 89, 42, 183, 0, 137, 176]
abbrev dktJ4_toString_0 : List UInt8 := dkwJ4_toString_0 ++ []
theorem dksJ4_toString_0 : cJ4_toString.data.toList.drop 0 = dktJ4_toString_0 := by decide +kernel
theorem dJ4_toString_0 : decode cJ4_toString 0 = .ok (.new 18, 3) := dk_187 0 18 (dk_at dksJ4_toString_0 0 rfl rfl)
theorem dJ4_toString_3 : decode cJ4_toString 3 = .ok (.dup, 1) := dk_89 (dk_at dksJ4_toString_0 3 rfl rfl)
theorem dJ4_toString_4 : decode cJ4_toString 4 = .ok (.aload_n 0, 1) := dk_42 (dk_at dksJ4_toString_0 4 rfl rfl)
theorem dJ4_toString_5 : decode cJ4_toString 5 = .ok (.invokespecial 137, 3) := dk_183 0 137 (dk_at dksJ4_toString_0 5 rfl rfl)
theorem dJ4_toString_8 : decode cJ4_toString 8 = .ok (.areturn, 1) := dk_176 (dk_at dksJ4_toString_0 8 rfl rfl)
abbrev cJ4_length : ByteArray := prog_26_method_93_code
def yJ4_length : MethodName := ⟨RJ4, "length", "()I"⟩
theorem dJ4_length_0 : decode cJ4_length 0 = .ok (.aload_n 0, 1) := by decide +kernel
theorem dJ4_length_1 : decode cJ4_length 1 = .ok (.invokespecial 343, 3) := by decide +kernel
theorem dJ4_length_4 : decode cJ4_length 4 = .ok (.ireturn, 1) := by decide +kernel
abbrev cJ4_append_2 : ByteArray := prog_26_method_15_code
def yJ4_append_2 : MethodName := ⟨RJ4, "append", "(I)Ljava/lang/StringBuilder;"⟩
def dkwJ4_append_2_0 : List UInt8 := [42, 27, 183, 0, 53, 87, 42, 176]
abbrev dktJ4_append_2_0 : List UInt8 := dkwJ4_append_2_0 ++ []
theorem dksJ4_append_2_0 : cJ4_append_2.data.toList.drop 0 = dktJ4_append_2_0 := by decide +kernel
theorem dJ4_append_2_0 : decode cJ4_append_2 0 = .ok (.aload_n 0, 1) := dk_42 (dk_at dksJ4_append_2_0 0 rfl rfl)
theorem dJ4_append_2_1 : decode cJ4_append_2 1 = .ok (.iload_n 1, 1) := dk_27 (dk_at dksJ4_append_2_0 1 rfl rfl)
theorem dJ4_append_2_2 : decode cJ4_append_2 2 = .ok (.invokespecial 53, 3) := dk_183 0 53 (dk_at dksJ4_append_2_0 2 rfl rfl)
theorem dJ4_append_2_5 : decode cJ4_append_2 5 = .ok (.pop, 1) := dk_87 (dk_at dksJ4_append_2_0 5 rfl rfl)
theorem dJ4_append_2_6 : decode cJ4_append_2 6 = .ok (.aload_n 0, 1) := dk_42 (dk_at dksJ4_append_2_0 6 rfl rfl)
theorem dJ4_append_2_7 : decode cJ4_append_2 7 = .ok (.areturn, 1) := dk_176 (dk_at dksJ4_append_2_0 7 rfl rfl)
abbrev cJ4_append_3 : ByteArray := prog_26_method_7_code
def yJ4_append_3 : MethodName := ⟨RJ4, "append", "(Ljava/lang/String;)Ljava/lang/StringBuilder;"⟩
def dkwJ4_append_3_0 : List UInt8 := [42, 43, 183, 0, 29, 87, 42, 176]
abbrev dktJ4_append_3_0 : List UInt8 := dkwJ4_append_3_0 ++ []
theorem dksJ4_append_3_0 : cJ4_append_3.data.toList.drop 0 = dktJ4_append_3_0 := by decide +kernel
theorem dJ4_append_3_0 : decode cJ4_append_3 0 = .ok (.aload_n 0, 1) := dk_42 (dk_at dksJ4_append_3_0 0 rfl rfl)
theorem dJ4_append_3_1 : decode cJ4_append_3 1 = .ok (.aload_n 1, 1) := dk_43 (dk_at dksJ4_append_3_0 1 rfl rfl)
theorem dJ4_append_3_2 : decode cJ4_append_3 2 = .ok (.invokespecial 29, 3) := dk_183 0 29 (dk_at dksJ4_append_3_0 2 rfl rfl)
theorem dJ4_append_3_5 : decode cJ4_append_3 5 = .ok (.pop, 1) := dk_87 (dk_at dksJ4_append_3_0 5 rfl rfl)
theorem dJ4_append_3_6 : decode cJ4_append_3 6 = .ok (.aload_n 0, 1) := dk_42 (dk_at dksJ4_append_3_0 6 rfl rfl)
theorem dJ4_append_3_7 : decode cJ4_append_3 7 = .ok (.areturn, 1) := dk_176 (dk_at dksJ4_append_3_0 7 rfl rfl)
abbrev cJ4_init_2 : ByteArray := prog_26_method_3_code
def yJ4_init_2 : MethodName := ⟨RJ4, "<init>", "(Ljava/lang/String;)V"⟩
def dkwJ4_init_2_0 : List UInt8 := [42, 43, 183, 0, 7, 177]
abbrev dktJ4_init_2_0 : List UInt8 := dkwJ4_init_2_0 ++ []
theorem dksJ4_init_2_0 : cJ4_init_2.data.toList.drop 0 = dktJ4_init_2_0 := by decide +kernel
theorem dJ4_init_2_0 : decode cJ4_init_2 0 = .ok (.aload_n 0, 1) := dk_42 (dk_at dksJ4_init_2_0 0 rfl rfl)
theorem dJ4_init_2_1 : decode cJ4_init_2 1 = .ok (.aload_n 1, 1) := dk_43 (dk_at dksJ4_init_2_0 1 rfl rfl)
theorem dJ4_init_2_2 : decode cJ4_init_2 2 = .ok (.invokespecial 7, 3) := dk_183 0 7 (dk_at dksJ4_init_2_0 2 rfl rfl)
theorem dJ4_init_2_5 : decode cJ4_init_2 5 = .ok (.return_, 1) := dk_177 (dk_at dksJ4_init_2_0 5 rfl rfl)
abbrev cJ4_append_4 : ByteArray := prog_26_method_80_code
def yJ4_append_4 : MethodName := ⟨RJ4, "append", "(Ljava/lang/String;)Ljava/lang/AbstractStringBuilder;"⟩
def dkwJ4_append_4_0 : List UInt8 := [42, 43, 182, 0, 23, 176]
abbrev dktJ4_append_4_0 : List UInt8 := dkwJ4_append_4_0 ++ []
theorem dksJ4_append_4_0 : cJ4_append_4.data.toList.drop 0 = dktJ4_append_4_0 := by decide +kernel
theorem dJ4_append_4_0 : decode cJ4_append_4 0 = .ok (.aload_n 0, 1) := dk_42 (dk_at dksJ4_append_4_0 0 rfl rfl)
theorem dJ4_append_4_1 : decode cJ4_append_4 1 = .ok (.aload_n 1, 1) := dk_43 (dk_at dksJ4_append_4_0 1 rfl rfl)
theorem dJ4_append_4_2 : decode cJ4_append_4 2 = .ok (.invokevirtual 23, 3) := dk_182 0 23 (dk_at dksJ4_append_4_0 2 rfl rfl)
theorem dJ4_append_4_5 : decode cJ4_append_4 5 = .ok (.areturn, 1) := dk_176 (dk_at dksJ4_append_4_0 5 rfl rfl)
theorem q39 : (Jvm.Cond.initialized "java/lang/StringBuilder") ∈ lw_all := lw_g (lw_at lw_m1 8 rfl) rfl
theorem q126 : (Jvm.Cond.instantiable "java/lang/StringBuilder" (4 : Nat)) ∈ lw_all := lw_g (lw_at lw_m1 95 rfl) rfl
theorem q128 : (Jvm.Cond.instanceMethod ({ cls := "java/lang/StringBuilder", name := "<init>", desc := "()V" } : Jvm.MethodName)) ∈ lw_all := lw_g (lw_at lw_m1 97 rfl) rfl
theorem q129 : (Jvm.Cond.code ({ cls := "java/lang/StringBuilder", name := "<init>", desc := "()V" } : Jvm.MethodName) prog_26_method_1_code (1 : Nat) (Option.none : Option Jvm.ClassFile.FieldType)) ∈ lw_all := lw_g (lw_at lw_m1 98 rfl) rfl
theorem q130 : (Jvm.Cond.methodLink "java/lang/StringBuilder" (1 : Nat) ({ cls := "java/lang/AbstractStringBuilder", name := "<init>", desc := "(I)V" } : Jvm.MethodName)) ∈ lw_all := lw_g (lw_at lw_m1 99 rfl) rfl
theorem q147 : (Jvm.Cond.lays "java/lang/StringBuilder" "java/lang/AbstractStringBuilder" "value" "[B") ∈ lw_all := lw_g (lw_at lw_m1 116 rfl) rfl
theorem q149 : (Jvm.Cond.lays "java/lang/StringBuilder" "java/lang/AbstractStringBuilder" "coder" "B") ∈ lw_all := lw_g (lw_at lw_m1 118 rfl) rfl
theorem q151 : (Jvm.Cond.lays "java/lang/StringBuilder" "java/lang/AbstractStringBuilder" "maybeLatin1" "Z") ∈ lw_all := lw_g (lw_at lw_m1 120 rfl) rfl
theorem q153 : (Jvm.Cond.lays "java/lang/StringBuilder" "java/lang/AbstractStringBuilder" "count" "I") ∈ lw_all := lw_g (lw_at lw_m1 122 rfl) rfl
theorem q155 : (Jvm.Cond.superclass "java/lang/StringBuilder" "java/lang/AbstractStringBuilder") ∈ lw_all := lw_g (lw_at lw_m1 124 rfl) rfl
theorem q204 : (Jvm.Cond.instanceMethod ({ cls := "java/lang/StringBuilder", name := "append", desc := "(C)Ljava/lang/StringBuilder;" } : Jvm.MethodName)) ∈ lw_all := lw_g (lw_at lw_m1 173 rfl) rfl
theorem q205 : (Jvm.Cond.selects "java/lang/StringBuilder" ({ cls := "java/lang/StringBuilder", name := "append", desc := "(C)Ljava/lang/StringBuilder;" } : Jvm.MethodName) ({ cls := "java/lang/StringBuilder", name := "append", desc := "(C)Ljava/lang/StringBuilder;" } : Jvm.MethodName)) ∈ lw_all := lw_g (lw_at lw_m1 174 rfl) rfl
theorem q206 : (Jvm.Cond.code ({ cls := "java/lang/StringBuilder", name := "append", desc := "(C)Ljava/lang/StringBuilder;" } : Jvm.MethodName) prog_26_method_14_code (2 : Nat) (Option.some (Jvm.ClassFile.FieldType.object "java/lang/StringBuilder"))) ∈ lw_all := lw_g (lw_at lw_m1 175 rfl) rfl
theorem q207 : (Jvm.Cond.methodLink "java/lang/StringBuilder" (50 : Nat) ({ cls := "java/lang/AbstractStringBuilder", name := "append", desc := "(C)Ljava/lang/AbstractStringBuilder;" } : Jvm.MethodName)) ∈ lw_all := lw_g (lw_at lw_m1 176 rfl) rfl
theorem q248 : (Jvm.Cond.selects "java/lang/StringBuilder" ({ cls := "java/lang/AbstractStringBuilder", name := "isLatin1", desc := "()Z" } : Jvm.MethodName) ({ cls := "java/lang/AbstractStringBuilder", name := "isLatin1", desc := "()Z" } : Jvm.MethodName)) ∈ lw_all := lw_g (lw_at lw_m1 217 rfl) rfl
theorem q279 : (Jvm.Cond.instanceMethod ({ cls := "java/lang/StringBuilder", name := "toString", desc := "()Ljava/lang/String;" } : Jvm.MethodName)) ∈ lw_all := lw_g (lw_at lw_m2 8 rfl) rfl
theorem q280 : (Jvm.Cond.selects "java/lang/StringBuilder" ({ cls := "java/lang/StringBuilder", name := "toString", desc := "()Ljava/lang/String;" } : Jvm.MethodName) ({ cls := "java/lang/StringBuilder", name := "toString", desc := "()Ljava/lang/String;" } : Jvm.MethodName)) ∈ lw_all := lw_g (lw_at lw_m2 9 rfl) rfl
theorem q281 : (Jvm.Cond.code ({ cls := "java/lang/StringBuilder", name := "toString", desc := "()Ljava/lang/String;" } : Jvm.MethodName) prog_26_method_42_code (1 : Nat) (Option.some (Jvm.ClassFile.FieldType.object "java/lang/String"))) ∈ lw_all := lw_g (lw_at lw_m2 10 rfl) rfl
theorem q282 : (Jvm.Cond.classLink "java/lang/StringBuilder" (18 : Nat) "java/lang/String") ∈ lw_all := lw_g (lw_at lw_m2 11 rfl) rfl
theorem q284 : (Jvm.Cond.methodLink "java/lang/StringBuilder" (137 : Nat) ({ cls := "java/lang/String", name := "<init>", desc := "(Ljava/lang/StringBuilder;)V" } : Jvm.MethodName)) ∈ lw_all := lw_g (lw_at lw_m2 13 rfl) rfl
theorem q294 : (Jvm.Cond.selects "java/lang/StringBuilder" ({ cls := "java/lang/AbstractStringBuilder", name := "getValue", desc := "()[B" } : Jvm.MethodName) ({ cls := "java/lang/AbstractStringBuilder", name := "getValue", desc := "()[B" } : Jvm.MethodName)) ∈ lw_all := lw_g (lw_at lw_m2 23 rfl) rfl
theorem q299 : (Jvm.Cond.selects "java/lang/StringBuilder" ({ cls := "java/lang/AbstractStringBuilder", name := "length", desc := "()I" } : Jvm.MethodName) ({ cls := "java/lang/StringBuilder", name := "length", desc := "()I" } : Jvm.MethodName)) ∈ lw_all := lw_g (lw_at lw_m2 28 rfl) rfl
theorem q300 : (Jvm.Cond.instanceMethod ({ cls := "java/lang/StringBuilder", name := "length", desc := "()I" } : Jvm.MethodName)) ∈ lw_all := lw_g (lw_at lw_m2 29 rfl) rfl
theorem q301 : (Jvm.Cond.code ({ cls := "java/lang/StringBuilder", name := "length", desc := "()I" } : Jvm.MethodName) prog_26_method_93_code (1 : Nat) (Option.some Jvm.ClassFile.FieldType.int)) ∈ lw_all := lw_g (lw_at lw_m2 30 rfl) rfl
theorem q302 : (Jvm.Cond.methodLink "java/lang/StringBuilder" (343 : Nat) ({ cls := "java/lang/AbstractStringBuilder", name := "length", desc := "()I" } : Jvm.MethodName)) ∈ lw_all := lw_g (lw_at lw_m2 31 rfl) rfl
theorem q357 : (Jvm.Cond.instanceMethod ({ cls := "java/lang/StringBuilder", name := "append", desc := "(I)Ljava/lang/StringBuilder;" } : Jvm.MethodName)) ∈ lw_all := lw_g (lw_at lw_m2 86 rfl) rfl
theorem q358 : (Jvm.Cond.selects "java/lang/StringBuilder" ({ cls := "java/lang/StringBuilder", name := "append", desc := "(I)Ljava/lang/StringBuilder;" } : Jvm.MethodName) ({ cls := "java/lang/StringBuilder", name := "append", desc := "(I)Ljava/lang/StringBuilder;" } : Jvm.MethodName)) ∈ lw_all := lw_g (lw_at lw_m2 87 rfl) rfl
theorem q359 : (Jvm.Cond.code ({ cls := "java/lang/StringBuilder", name := "append", desc := "(I)Ljava/lang/StringBuilder;" } : Jvm.MethodName) prog_26_method_15_code (2 : Nat) (Option.some (Jvm.ClassFile.FieldType.object "java/lang/StringBuilder"))) ∈ lw_all := lw_g (lw_at lw_m2 88 rfl) rfl
theorem q360 : (Jvm.Cond.methodLink "java/lang/StringBuilder" (53 : Nat) ({ cls := "java/lang/AbstractStringBuilder", name := "append", desc := "(I)Ljava/lang/AbstractStringBuilder;" } : Jvm.MethodName)) ∈ lw_all := lw_g (lw_at lw_m2 89 rfl) rfl
theorem q392 : (Jvm.Cond.instanceMethod ({ cls := "java/lang/StringBuilder", name := "append", desc := "(Ljava/lang/String;)Ljava/lang/StringBuilder;" } : Jvm.MethodName)) ∈ lw_all := lw_g (lw_at lw_m2 121 rfl) rfl
theorem q393 : (Jvm.Cond.selects "java/lang/StringBuilder" ({ cls := "java/lang/StringBuilder", name := "append", desc := "(Ljava/lang/String;)Ljava/lang/StringBuilder;" } : Jvm.MethodName) ({ cls := "java/lang/StringBuilder", name := "append", desc := "(Ljava/lang/String;)Ljava/lang/StringBuilder;" } : Jvm.MethodName)) ∈ lw_all := lw_g (lw_at lw_m2 122 rfl) rfl
theorem q394 : (Jvm.Cond.code ({ cls := "java/lang/StringBuilder", name := "append", desc := "(Ljava/lang/String;)Ljava/lang/StringBuilder;" } : Jvm.MethodName) prog_26_method_7_code (2 : Nat) (Option.some (Jvm.ClassFile.FieldType.object "java/lang/StringBuilder"))) ∈ lw_all := lw_g (lw_at lw_m2 123 rfl) rfl
theorem q395 : (Jvm.Cond.methodLink "java/lang/StringBuilder" (29 : Nat) ({ cls := "java/lang/AbstractStringBuilder", name := "append", desc := "(Ljava/lang/String;)Ljava/lang/AbstractStringBuilder;" } : Jvm.MethodName)) ∈ lw_all := lw_g (lw_at lw_m2 124 rfl) rfl
theorem q532 : (Jvm.Cond.selects "java/lang/StringBuilder" ({ cls := "java/lang/Object", name := "getClass", desc := "()Ljava/lang/Class;" } : Jvm.MethodName) ({ cls := "java/lang/Object", name := "getClass", desc := "()Ljava/lang/Class;" } : Jvm.MethodName)) ∈ lw_all := lw_g (lw_at lw_m3 21 rfl) rfl
theorem q779 : (Jvm.Cond.instanceMethod ({ cls := "java/lang/StringBuilder", name := "<init>", desc := "(Ljava/lang/String;)V" } : Jvm.MethodName)) ∈ lw_all := lw_g (lw_at lw_m4 28 rfl) rfl
theorem q780 : (Jvm.Cond.code ({ cls := "java/lang/StringBuilder", name := "<init>", desc := "(Ljava/lang/String;)V" } : Jvm.MethodName) prog_26_method_3_code (2 : Nat) (Option.none : Option Jvm.ClassFile.FieldType)) ∈ lw_all := lw_g (lw_at lw_m4 29 rfl) rfl
theorem q781 : (Jvm.Cond.methodLink "java/lang/StringBuilder" (7 : Nat) ({ cls := "java/lang/AbstractStringBuilder", name := "<init>", desc := "(Ljava/lang/String;)V" } : Jvm.MethodName)) ∈ lw_all := lw_g (lw_at lw_m4 30 rfl) rfl
theorem q786 : (Jvm.Cond.instanceMethod ({ cls := "java/lang/StringBuilder", name := "append", desc := "(Ljava/lang/String;)Ljava/lang/AbstractStringBuilder;" } : Jvm.MethodName)) ∈ lw_all := lw_g (lw_at lw_m4 35 rfl) rfl
theorem q787 : (Jvm.Cond.code ({ cls := "java/lang/StringBuilder", name := "append", desc := "(Ljava/lang/String;)Ljava/lang/AbstractStringBuilder;" } : Jvm.MethodName) prog_26_method_80_code (2 : Nat) (Option.some (Jvm.ClassFile.FieldType.object "java/lang/AbstractStringBuilder"))) ∈ lw_all := lw_g (lw_at lw_m4 36 rfl) rfl
theorem q788 : (Jvm.Cond.methodLink "java/lang/StringBuilder" (23 : Nat) ({ cls := "java/lang/StringBuilder", name := "append", desc := "(Ljava/lang/String;)Ljava/lang/StringBuilder;" } : Jvm.MethodName)) ∈ lw_all := lw_g (lw_at lw_m4 37 rfl) rfl
theorem q979 : (Jvm.Cond.selects "java/lang/StringBuilder" ({ cls := "java/lang/Object", name := "equals", desc := "(Ljava/lang/Object;)Z" } : Jvm.MethodName) ({ cls := "java/lang/Object", name := "equals", desc := "(Ljava/lang/Object;)Z" } : Jvm.MethodName)) ∈ lw_all := lw_g (lw_at lw_m4 228 rfl) rfl
theorem q1417 : (Jvm.Cond.selects "java/lang/StringBuilder" ({ cls := "java/lang/AbstractStringBuilder", name := "append", desc := "(Ljava/lang/String;)Ljava/lang/AbstractStringBuilder;" } : Jvm.MethodName) ({ cls := "java/lang/StringBuilder", name := "append", desc := "(Ljava/lang/String;)Ljava/lang/AbstractStringBuilder;" } : Jvm.MethodName)) ∈ lw_all := lw_g (lw_at lw_m6 186 rfl) rfl
theorem q1424 : (Jvm.Cond.castable "java/lang/StringBuilder" "java/lang/Object") ∈ lw_tbl := lw_at lw_m6 193 rfl
theorem in_J4 : ∀ w ∈ wsJ40, w ∈ lw_all := lw_in wsJ40 [147, 149, 151, 153] (by decide +kernel) (by decide +kernel)
/-! java/lang/String -/
set_option maxRecDepth 100000
def RJ5 : String := "java/lang/String"
def TJ5 : u_T := fun k => match k with
  | 0 => ("java/lang/String", "value", "[B", true)
  | 1 => ("java/lang/String", "coder", "B", true)
  | 2 => ("java/lang/String", "hash", "I", false)
  | _ => ("java/lang/String", "hashIsZero", "Z", false)
def tyJ5 : Nat → FieldType := fun k => match k with
  | 0 => .array .byte
  | 1 => .byte
  | 2 => .int
  | _ => .boolean
abbrev wsJ50 : List Cond := u_ws RJ5 TJ5 4
theorem nmJ5 : ∀ a, a < 4 → ∀ b, b < 4 → a ≠ b → (TJ5 a).2.1 ≠ (TJ5 b).2.1 := by decide +kernel
theorem tyJ5_ok : ∀ k, k < 4 → parseFieldDescriptor (TJ5 k).2.2.1 = some (tyJ5 k) := by decide +kernel
abbrev cJ5_length : ByteArray := prog_25_method_54_code
def yJ5_length : MethodName := ⟨RJ5, "length", "()I"⟩
def dkwJ5_length_0 : List UInt8 := [42, 180, 0, 9, 190, 42, 182, 1, 79, 122, 172]
abbrev dktJ5_length_0 : List UInt8 := dkwJ5_length_0 ++ []
theorem dksJ5_length_0 : cJ5_length.data.toList.drop 0 = dktJ5_length_0 := by decide +kernel
theorem dJ5_length_0 : decode cJ5_length 0 = .ok (.aload_n 0, 1) := dk_42 (dk_at dksJ5_length_0 0 rfl rfl)
theorem dJ5_length_1 : decode cJ5_length 1 = .ok (.getfield 9, 3) := dk_180 0 9 (dk_at dksJ5_length_0 1 rfl rfl)
theorem dJ5_length_4 : decode cJ5_length 4 = .ok (.arraylength, 1) := dk_190 (dk_at dksJ5_length_0 4 rfl rfl)
theorem dJ5_length_5 : decode cJ5_length 5 = .ok (.aload_n 0, 1) := dk_42 (dk_at dksJ5_length_0 5 rfl rfl)
theorem dJ5_length_6 : decode cJ5_length 6 = .ok (.invokevirtual 335, 3) := dk_182 1 79 (dk_at dksJ5_length_0 6 rfl rfl)
theorem dJ5_length_9 : decode cJ5_length 9 = .ok (.ishr, 1) := dk_122 (dk_at dksJ5_length_0 9 rfl rfl)
theorem dJ5_length_10 : decode cJ5_length 10 = .ok (.ireturn, 1) := dk_172 (dk_at dksJ5_length_0 10 rfl rfl)
abbrev cJ5_coder : ByteArray := prog_25_method_152_code
def yJ5_coder : MethodName := ⟨RJ5, "coder", "()B"⟩
def dkwJ5_coder_0 : List UInt8 := [178, 0, 38, 153, 0, 10, 42, 180, 0, 15, 167, 0, 4, 4, 172]
abbrev dktJ5_coder_0 : List UInt8 := dkwJ5_coder_0 ++ []
theorem dksJ5_coder_0 : cJ5_coder.data.toList.drop 0 = dktJ5_coder_0 := by decide +kernel
theorem dJ5_coder_0 : decode cJ5_coder 0 = .ok (.getstatic 38, 3) := dk_178 0 38 (dk_at dksJ5_coder_0 0 rfl rfl)
theorem dJ5_coder_3 : decode cJ5_coder 3 = .ok (.ifCond .eq 10, 3) := dk_153 0 10 (dk_at dksJ5_coder_0 3 rfl rfl)
theorem dJ5_coder_6 : decode cJ5_coder 6 = .ok (.aload_n 0, 1) := dk_42 (dk_at dksJ5_coder_0 6 rfl rfl)
theorem dJ5_coder_7 : decode cJ5_coder 7 = .ok (.getfield 15, 3) := dk_180 0 15 (dk_at dksJ5_coder_0 7 rfl rfl)
theorem dJ5_coder_10 : decode cJ5_coder 10 = .ok (.goto 4, 3) := dk_167 0 4 (dk_at dksJ5_coder_0 10 rfl rfl)
theorem dJ5_coder_13 : decode cJ5_coder 13 = .ok (.iconst 1, 1) := dk_4 (dk_at dksJ5_coder_0 13 rfl rfl)
theorem dJ5_coder_14 : decode cJ5_coder 14 = .ok (.ireturn, 1) := dk_172 (dk_at dksJ5_coder_0 14 rfl rfl)
abbrev cJ5_charAt : ByteArray := prog_25_method_56_code
def yJ5_charAt : MethodName := ⟨RJ5, "charAt", "(I)C"⟩
def dkwJ5_charAt_1 : List UInt8 := [172]
abbrev dktJ5_charAt_1 : List UInt8 := dkwJ5_charAt_1 ++ []
def dkwJ5_charAt_0 : List UInt8 := [42, 182, 1, 236, 153, 0, 12, 42, 180, 0, 9, 27, 184, 1, 239, 172, 42, 180, 0, 9, 27, 184, 1, 242]
abbrev dktJ5_charAt_0 : List UInt8 := dkwJ5_charAt_0 ++ dktJ5_charAt_1
theorem dksJ5_charAt_0 : cJ5_charAt.data.toList.drop 0 = dktJ5_charAt_0 := by decide +kernel
theorem dksJ5_charAt_1 : cJ5_charAt.data.toList.drop 24 = dktJ5_charAt_1 := dk_seg dksJ5_charAt_0 24 rfl rfl
theorem dJ5_charAt_0 : decode cJ5_charAt 0 = .ok (.aload_n 0, 1) := dk_42 (dk_at dksJ5_charAt_0 0 rfl rfl)
theorem dJ5_charAt_1 : decode cJ5_charAt 1 = .ok (.invokevirtual 492, 3) := dk_182 1 236 (dk_at dksJ5_charAt_0 1 rfl rfl)
theorem dJ5_charAt_4 : decode cJ5_charAt 4 = .ok (.ifCond .eq 12, 3) := dk_153 0 12 (dk_at dksJ5_charAt_0 4 rfl rfl)
theorem dJ5_charAt_7 : decode cJ5_charAt 7 = .ok (.aload_n 0, 1) := dk_42 (dk_at dksJ5_charAt_0 7 rfl rfl)
theorem dJ5_charAt_8 : decode cJ5_charAt 8 = .ok (.getfield 9, 3) := dk_180 0 9 (dk_at dksJ5_charAt_0 8 rfl rfl)
theorem dJ5_charAt_11 : decode cJ5_charAt 11 = .ok (.iload_n 1, 1) := dk_27 (dk_at dksJ5_charAt_0 11 rfl rfl)
theorem dJ5_charAt_12 : decode cJ5_charAt 12 = .ok (.invokestatic 495, 3) := dk_184 1 239 (dk_at dksJ5_charAt_0 12 rfl rfl)
theorem dJ5_charAt_15 : decode cJ5_charAt 15 = .ok (.ireturn, 1) := dk_172 (dk_at dksJ5_charAt_0 15 rfl rfl)
theorem dJ5_charAt_16 : decode cJ5_charAt 16 = .ok (.aload_n 0, 1) := dk_42 (dk_at dksJ5_charAt_0 16 rfl rfl)
theorem dJ5_charAt_17 : decode cJ5_charAt 17 = .ok (.getfield 9, 3) := dk_180 0 9 (dk_at dksJ5_charAt_0 17 rfl rfl)
theorem dJ5_charAt_20 : decode cJ5_charAt 20 = .ok (.iload_n 1, 1) := dk_27 (dk_at dksJ5_charAt_0 20 rfl rfl)
theorem dJ5_charAt_21 : decode cJ5_charAt 21 = .ok (.invokestatic 498, 3) := dk_184 1 242 (dk_at dksJ5_charAt_0 21 rfl rfl)
theorem dJ5_charAt_24 : decode cJ5_charAt 24 = .ok (.ireturn, 1) := dk_172 (dk_at dksJ5_charAt_1 0 rfl rfl)
abbrev cJ5_isLatin1 : ByteArray := prog_25_method_154_code
def yJ5_isLatin1 : MethodName := ⟨RJ5, "isLatin1", "()Z"⟩
def dkwJ5_isLatin1_0 : List UInt8 := [178, 0, 38, 153, 0, 14, 42, 180, 0, 15, 154, 0, 7, 4, 167, 0, 4, 3, 172]
abbrev dktJ5_isLatin1_0 : List UInt8 := dkwJ5_isLatin1_0 ++ []
theorem dksJ5_isLatin1_0 : cJ5_isLatin1.data.toList.drop 0 = dktJ5_isLatin1_0 := by decide +kernel
theorem dJ5_isLatin1_0 : decode cJ5_isLatin1 0 = .ok (.getstatic 38, 3) := dk_178 0 38 (dk_at dksJ5_isLatin1_0 0 rfl rfl)
theorem dJ5_isLatin1_3 : decode cJ5_isLatin1 3 = .ok (.ifCond .eq 14, 3) := dk_153 0 14 (dk_at dksJ5_isLatin1_0 3 rfl rfl)
theorem dJ5_isLatin1_6 : decode cJ5_isLatin1 6 = .ok (.aload_n 0, 1) := dk_42 (dk_at dksJ5_isLatin1_0 6 rfl rfl)
theorem dJ5_isLatin1_7 : decode cJ5_isLatin1 7 = .ok (.getfield 15, 3) := dk_180 0 15 (dk_at dksJ5_isLatin1_0 7 rfl rfl)
theorem dJ5_isLatin1_10 : decode cJ5_isLatin1 10 = .ok (.ifCond .ne 7, 3) := dk_154 0 7 (dk_at dksJ5_isLatin1_0 10 rfl rfl)
theorem dJ5_isLatin1_13 : decode cJ5_isLatin1 13 = .ok (.iconst 1, 1) := dk_4 (dk_at dksJ5_isLatin1_0 13 rfl rfl)
theorem dJ5_isLatin1_14 : decode cJ5_isLatin1 14 = .ok (.goto 4, 3) := dk_167 0 4 (dk_at dksJ5_isLatin1_0 14 rfl rfl)
theorem dJ5_isLatin1_17 : decode cJ5_isLatin1 17 = .ok (.iconst 0, 1) := dk_3 (dk_at dksJ5_isLatin1_0 17 rfl rfl)
theorem dJ5_isLatin1_18 : decode cJ5_isLatin1 18 = .ok (.ireturn, 1) := dk_172 (dk_at dksJ5_isLatin1_0 18 rfl rfl)
abbrev cJ5_checkIndex : ByteArray := prog_25_method_155_code
def yJ5_checkIndex : MethodName := ⟨RJ5, "checkIndex", "(II)V"⟩
def dkwJ5_checkIndex_0 : List UInt8 := [26, 27, 178, 4, 29, 184, 4, 35, 87, 177]
abbrev dktJ5_checkIndex_0 : List UInt8 := dkwJ5_checkIndex_0 ++ []
theorem dksJ5_checkIndex_0 : cJ5_checkIndex.data.toList.drop 0 = dktJ5_checkIndex_0 := by decide +kernel
theorem dJ5_checkIndex_0 : decode cJ5_checkIndex 0 = .ok (.iload_n 0, 1) := dk_26 (dk_at dksJ5_checkIndex_0 0 rfl rfl)
theorem dJ5_checkIndex_1 : decode cJ5_checkIndex 1 = .ok (.iload_n 1, 1) := dk_27 (dk_at dksJ5_checkIndex_0 1 rfl rfl)
theorem dJ5_checkIndex_2 : decode cJ5_checkIndex 2 = .ok (.getstatic 1053, 3) := dk_178 4 29 (dk_at dksJ5_checkIndex_0 2 rfl rfl)
theorem dJ5_checkIndex_5 : decode cJ5_checkIndex 5 = .ok (.invokestatic 1059, 3) := dk_184 4 35 (dk_at dksJ5_checkIndex_0 5 rfl rfl)
theorem dJ5_checkIndex_8 : decode cJ5_checkIndex 8 = .ok (.pop, 1) := dk_87 (dk_at dksJ5_checkIndex_0 8 rfl rfl)
theorem dJ5_checkIndex_9 : decode cJ5_checkIndex 9 = .ok (.return_, 1) := dk_177 (dk_at dksJ5_checkIndex_0 9 rfl rfl)
abbrev cJ5_checkBoundsOffCount : ByteArray := prog_25_method_157_code
def yJ5_checkBoundsOffCount : MethodName := ⟨RJ5, "checkBoundsOffCount", "(III)I"⟩
def dkwJ5_checkBoundsOffCount_0 : List UInt8 := [26, 27, 28, 178, 4, 29, 184, 4, 41, 172]
abbrev dktJ5_checkBoundsOffCount_0 : List UInt8 := dkwJ5_checkBoundsOffCount_0 ++ []
theorem dksJ5_checkBoundsOffCount_0 : cJ5_checkBoundsOffCount.data.toList.drop 0 = dktJ5_checkBoundsOffCount_0 := by decide +kernel
theorem dJ5_checkBoundsOffCount_0 : decode cJ5_checkBoundsOffCount 0 = .ok (.iload_n 0, 1) := dk_26 (dk_at dksJ5_checkBoundsOffCount_0 0 rfl rfl)
theorem dJ5_checkBoundsOffCount_1 : decode cJ5_checkBoundsOffCount 1 = .ok (.iload_n 1, 1) := dk_27 (dk_at dksJ5_checkBoundsOffCount_0 1 rfl rfl)
theorem dJ5_checkBoundsOffCount_2 : decode cJ5_checkBoundsOffCount 2 = .ok (.iload_n 2, 1) := dk_28 (dk_at dksJ5_checkBoundsOffCount_0 2 rfl rfl)
theorem dJ5_checkBoundsOffCount_3 : decode cJ5_checkBoundsOffCount 3 = .ok (.getstatic 1053, 3) := dk_178 4 29 (dk_at dksJ5_checkBoundsOffCount_0 3 rfl rfl)
theorem dJ5_checkBoundsOffCount_6 : decode cJ5_checkBoundsOffCount 6 = .ok (.invokestatic 1065, 3) := dk_184 4 41 (dk_at dksJ5_checkBoundsOffCount_0 6 rfl rfl)
theorem dJ5_checkBoundsOffCount_9 : decode cJ5_checkBoundsOffCount 9 = .ok (.ireturn, 1) := dk_172 (dk_at dksJ5_checkBoundsOffCount_0 9 rfl rfl)
abbrev cJ5_init : ByteArray := prog_25_method_53_code
def yJ5_init : MethodName := ⟨RJ5, "<init>", "(Ljava/lang/StringBuilder;)V"⟩
def dkwJ5_init_0 : List UInt8 := [42, 43, 1, 183, 1, 233, 177]
abbrev dktJ5_init_0 : List UInt8 := dkwJ5_init_0 ++ []
theorem dksJ5_init_0 : cJ5_init.data.toList.drop 0 = dktJ5_init_0 := by decide +kernel
theorem dJ5_init_0 : decode cJ5_init 0 = .ok (.aload_n 0, 1) := dk_42 (dk_at dksJ5_init_0 0 rfl rfl)
theorem dJ5_init_1 : decode cJ5_init 1 = .ok (.aload_n 1, 1) := dk_43 (dk_at dksJ5_init_0 1 rfl rfl)
theorem dJ5_init_2 : decode cJ5_init 2 = .ok (.aconst_null, 1) := dk_1 (dk_at dksJ5_init_0 2 rfl rfl)
theorem dJ5_init_3 : decode cJ5_init 3 = .ok (.invokespecial 489, 3) := dk_183 1 233 (dk_at dksJ5_init_0 3 rfl rfl)
theorem dJ5_init_6 : decode cJ5_init 6 = .ok (.return_, 1) := dk_177 (dk_at dksJ5_init_0 6 rfl rfl)
abbrev cJ5_init_2 : ByteArray := prog_25_method_150_code
def yJ5_init_2 : MethodName := ⟨RJ5, "<init>", "(Ljava/lang/AbstractStringBuilder;Ljava/lang/Void;)V"⟩
def dkwJ5_init_2_4 : List UInt8 := [181, 0, 9, 177]
abbrev dktJ5_init_2_4 : List UInt8 := dkwJ5_init_2_4 ++ []
def dkwJ5_init_2_3 : List UInt8 := [184, 0, 47, 181, 0, 15, 177, 42, 4, 181, 0, 15, 42, 45, 3, 21, 4, 4, 120, 184, 0, 54]
abbrev dktJ5_init_2_3 : List UInt8 := dkwJ5_init_2_3 ++ dktJ5_init_2_4
def dkwJ5_init_2_2 : List UInt8 := [180, 4, 24, 153, 0, 28, 42, 45, 3, 21, 4, 184, 4, 27, 181, 0, 9, 42, 42, 180, 0, 9, 21, 4]
abbrev dktJ5_init_2_2 : List UInt8 := dkwJ5_init_2_2 ++ dktJ5_init_2_3
def dkwJ5_init_2_1 : List UInt8 := [181, 0, 15, 42, 45, 3, 21, 4, 184, 0, 54, 181, 0, 9, 167, 0, 59, 178, 0, 38, 153, 0, 35, 43]
abbrev dktJ5_init_2_1 : List UInt8 := dkwJ5_init_2_1 ++ dktJ5_init_2_2
def dkwJ5_init_2_0 : List UInt8 := [42, 183, 0, 1, 43, 182, 2, 40, 78, 43, 182, 2, 37, 54, 4, 43, 182, 4, 23, 153, 0, 22, 42, 3]
abbrev dktJ5_init_2_0 : List UInt8 := dkwJ5_init_2_0 ++ dktJ5_init_2_1
theorem dksJ5_init_2_0 : cJ5_init_2.data.toList.drop 0 = dktJ5_init_2_0 := by decide +kernel
theorem dksJ5_init_2_1 : cJ5_init_2.data.toList.drop 24 = dktJ5_init_2_1 := dk_seg dksJ5_init_2_0 24 rfl rfl
theorem dksJ5_init_2_2 : cJ5_init_2.data.toList.drop 48 = dktJ5_init_2_2 := dk_seg dksJ5_init_2_1 24 rfl rfl
theorem dksJ5_init_2_3 : cJ5_init_2.data.toList.drop 72 = dktJ5_init_2_3 := dk_seg dksJ5_init_2_2 24 rfl rfl
theorem dksJ5_init_2_4 : cJ5_init_2.data.toList.drop 94 = dktJ5_init_2_4 := dk_seg dksJ5_init_2_3 22 rfl rfl
theorem dJ5_init_2_0 : decode cJ5_init_2 0 = .ok (.aload_n 0, 1) := dk_42 (dk_at dksJ5_init_2_0 0 rfl rfl)
theorem dJ5_init_2_1 : decode cJ5_init_2 1 = .ok (.invokespecial 1, 3) := dk_183 0 1 (dk_at dksJ5_init_2_0 1 rfl rfl)
theorem dJ5_init_2_4 : decode cJ5_init_2 4 = .ok (.aload_n 1, 1) := dk_43 (dk_at dksJ5_init_2_0 4 rfl rfl)
theorem dJ5_init_2_5 : decode cJ5_init_2 5 = .ok (.invokevirtual 552, 3) := dk_182 2 40 (dk_at dksJ5_init_2_0 5 rfl rfl)
theorem dJ5_init_2_8 : decode cJ5_init_2 8 = .ok (.astore_n 3, 1) := dk_78 (dk_at dksJ5_init_2_0 8 rfl rfl)
theorem dJ5_init_2_9 : decode cJ5_init_2 9 = .ok (.aload_n 1, 1) := dk_43 (dk_at dksJ5_init_2_0 9 rfl rfl)
theorem dJ5_init_2_10 : decode cJ5_init_2 10 = .ok (.invokevirtual 549, 3) := dk_182 2 37 (dk_at dksJ5_init_2_0 10 rfl rfl)
theorem dJ5_init_2_13 : decode cJ5_init_2 13 = .ok (.istore 4, 2) := dk_54 4 (dk_at dksJ5_init_2_0 13 rfl rfl)
theorem dJ5_init_2_15 : decode cJ5_init_2 15 = .ok (.aload_n 1, 1) := dk_43 (dk_at dksJ5_init_2_0 15 rfl rfl)
theorem dJ5_init_2_16 : decode cJ5_init_2 16 = .ok (.invokevirtual 1047, 3) := dk_182 4 23 (dk_at dksJ5_init_2_0 16 rfl rfl)
theorem dJ5_init_2_19 : decode cJ5_init_2 19 = .ok (.ifCond .eq 22, 3) := dk_153 0 22 (dk_at dksJ5_init_2_0 19 rfl rfl)
theorem dJ5_init_2_22 : decode cJ5_init_2 22 = .ok (.aload_n 0, 1) := dk_42 (dk_at dksJ5_init_2_0 22 rfl rfl)
theorem dJ5_init_2_23 : decode cJ5_init_2 23 = .ok (.iconst 0, 1) := dk_3 (dk_at dksJ5_init_2_0 23 rfl rfl)
theorem dJ5_init_2_24 : decode cJ5_init_2 24 = .ok (.putfield 15, 3) := dk_181 0 15 (dk_at dksJ5_init_2_1 0 rfl rfl)
theorem dJ5_init_2_27 : decode cJ5_init_2 27 = .ok (.aload_n 0, 1) := dk_42 (dk_at dksJ5_init_2_1 3 rfl rfl)
theorem dJ5_init_2_28 : decode cJ5_init_2 28 = .ok (.aload_n 3, 1) := dk_45 (dk_at dksJ5_init_2_1 4 rfl rfl)
theorem dJ5_init_2_29 : decode cJ5_init_2 29 = .ok (.iconst 0, 1) := dk_3 (dk_at dksJ5_init_2_1 5 rfl rfl)
theorem dJ5_init_2_30 : decode cJ5_init_2 30 = .ok (.iload 4, 2) := dk_21 4 (dk_at dksJ5_init_2_1 6 rfl rfl)
theorem dJ5_init_2_32 : decode cJ5_init_2 32 = .ok (.invokestatic 54, 3) := dk_184 0 54 (dk_at dksJ5_init_2_1 8 rfl rfl)
theorem dJ5_init_2_35 : decode cJ5_init_2 35 = .ok (.putfield 9, 3) := dk_181 0 9 (dk_at dksJ5_init_2_1 11 rfl rfl)
theorem dJ5_init_2_38 : decode cJ5_init_2 38 = .ok (.goto 59, 3) := dk_167 0 59 (dk_at dksJ5_init_2_1 14 rfl rfl)
theorem dJ5_init_2_41 : decode cJ5_init_2 41 = .ok (.getstatic 38, 3) := dk_178 0 38 (dk_at dksJ5_init_2_1 17 rfl rfl)
theorem dJ5_init_2_44 : decode cJ5_init_2 44 = .ok (.ifCond .eq 35, 3) := dk_153 0 35 (dk_at dksJ5_init_2_1 20 rfl rfl)
theorem dJ5_init_2_47 : decode cJ5_init_2 47 = .ok (.aload_n 1, 1) := dk_43 (dk_at dksJ5_init_2_1 23 rfl rfl)
theorem dJ5_init_2_48 : decode cJ5_init_2 48 = .ok (.getfield 1048, 3) := dk_180 4 24 (dk_at dksJ5_init_2_2 0 rfl rfl)
theorem dJ5_init_2_51 : decode cJ5_init_2 51 = .ok (.ifCond .eq 28, 3) := dk_153 0 28 (dk_at dksJ5_init_2_2 3 rfl rfl)
theorem dJ5_init_2_54 : decode cJ5_init_2 54 = .ok (.aload_n 0, 1) := dk_42 (dk_at dksJ5_init_2_2 6 rfl rfl)
theorem dJ5_init_2_55 : decode cJ5_init_2 55 = .ok (.aload_n 3, 1) := dk_45 (dk_at dksJ5_init_2_2 7 rfl rfl)
theorem dJ5_init_2_56 : decode cJ5_init_2 56 = .ok (.iconst 0, 1) := dk_3 (dk_at dksJ5_init_2_2 8 rfl rfl)
theorem dJ5_init_2_57 : decode cJ5_init_2 57 = .ok (.iload 4, 2) := dk_21 4 (dk_at dksJ5_init_2_2 9 rfl rfl)
theorem dJ5_init_2_59 : decode cJ5_init_2 59 = .ok (.invokestatic 1051, 3) := dk_184 4 27 (dk_at dksJ5_init_2_2 11 rfl rfl)
theorem dJ5_init_2_62 : decode cJ5_init_2 62 = .ok (.putfield 9, 3) := dk_181 0 9 (dk_at dksJ5_init_2_2 14 rfl rfl)
theorem dJ5_init_2_65 : decode cJ5_init_2 65 = .ok (.aload_n 0, 1) := dk_42 (dk_at dksJ5_init_2_2 17 rfl rfl)
theorem dJ5_init_2_66 : decode cJ5_init_2 66 = .ok (.aload_n 0, 1) := dk_42 (dk_at dksJ5_init_2_2 18 rfl rfl)
theorem dJ5_init_2_67 : decode cJ5_init_2 67 = .ok (.getfield 9, 3) := dk_180 0 9 (dk_at dksJ5_init_2_2 19 rfl rfl)
theorem dJ5_init_2_70 : decode cJ5_init_2 70 = .ok (.iload 4, 2) := dk_21 4 (dk_at dksJ5_init_2_2 22 rfl rfl)
theorem dJ5_init_2_72 : decode cJ5_init_2 72 = .ok (.invokestatic 47, 3) := dk_184 0 47 (dk_at dksJ5_init_2_3 0 rfl rfl)
theorem dJ5_init_2_75 : decode cJ5_init_2 75 = .ok (.putfield 15, 3) := dk_181 0 15 (dk_at dksJ5_init_2_3 3 rfl rfl)
theorem dJ5_init_2_78 : decode cJ5_init_2 78 = .ok (.return_, 1) := dk_177 (dk_at dksJ5_init_2_3 6 rfl rfl)
theorem dJ5_init_2_79 : decode cJ5_init_2 79 = .ok (.aload_n 0, 1) := dk_42 (dk_at dksJ5_init_2_3 7 rfl rfl)
theorem dJ5_init_2_80 : decode cJ5_init_2 80 = .ok (.iconst 1, 1) := dk_4 (dk_at dksJ5_init_2_3 8 rfl rfl)
theorem dJ5_init_2_81 : decode cJ5_init_2 81 = .ok (.putfield 15, 3) := dk_181 0 15 (dk_at dksJ5_init_2_3 9 rfl rfl)
theorem dJ5_init_2_84 : decode cJ5_init_2 84 = .ok (.aload_n 0, 1) := dk_42 (dk_at dksJ5_init_2_3 12 rfl rfl)
theorem dJ5_init_2_85 : decode cJ5_init_2 85 = .ok (.aload_n 3, 1) := dk_45 (dk_at dksJ5_init_2_3 13 rfl rfl)
theorem dJ5_init_2_86 : decode cJ5_init_2 86 = .ok (.iconst 0, 1) := dk_3 (dk_at dksJ5_init_2_3 14 rfl rfl)
theorem dJ5_init_2_87 : decode cJ5_init_2 87 = .ok (.iload 4, 2) := dk_21 4 (dk_at dksJ5_init_2_3 15 rfl rfl)
theorem dJ5_init_2_89 : decode cJ5_init_2 89 = .ok (.iconst 1, 1) := dk_4 (dk_at dksJ5_init_2_3 17 rfl rfl)
theorem dJ5_init_2_90 : decode cJ5_init_2 90 = .ok (.ishl, 1) := dk_120 (dk_at dksJ5_init_2_3 18 rfl rfl)
theorem dJ5_init_2_91 : decode cJ5_init_2 91 = .ok (.invokestatic 54, 3) := dk_184 0 54 (dk_at dksJ5_init_2_3 19 rfl rfl)
theorem dJ5_init_2_94 : decode cJ5_init_2 94 = .ok (.putfield 9, 3) := dk_181 0 9 (dk_at dksJ5_init_2_4 0 rfl rfl)
theorem dJ5_init_2_97 : decode cJ5_init_2 97 = .ok (.return_, 1) := dk_177 (dk_at dksJ5_init_2_4 3 rfl rfl)
abbrev cJ5_checkBoundsBeginEnd : ByteArray := prog_25_method_158_code
def yJ5_checkBoundsBeginEnd : MethodName := ⟨RJ5, "checkBoundsBeginEnd", "(III)V"⟩
def dkwJ5_checkBoundsBeginEnd_0 : List UInt8 := [26, 27, 28, 178, 4, 29, 184, 4, 38, 87, 177]
abbrev dktJ5_checkBoundsBeginEnd_0 : List UInt8 := dkwJ5_checkBoundsBeginEnd_0 ++ []
theorem dksJ5_checkBoundsBeginEnd_0 : cJ5_checkBoundsBeginEnd.data.toList.drop 0 = dktJ5_checkBoundsBeginEnd_0 := by decide +kernel
theorem dJ5_checkBoundsBeginEnd_0 : decode cJ5_checkBoundsBeginEnd 0 = .ok (.iload_n 0, 1) := dk_26 (dk_at dksJ5_checkBoundsBeginEnd_0 0 rfl rfl)
theorem dJ5_checkBoundsBeginEnd_1 : decode cJ5_checkBoundsBeginEnd 1 = .ok (.iload_n 1, 1) := dk_27 (dk_at dksJ5_checkBoundsBeginEnd_0 1 rfl rfl)
theorem dJ5_checkBoundsBeginEnd_2 : decode cJ5_checkBoundsBeginEnd 2 = .ok (.iload_n 2, 1) := dk_28 (dk_at dksJ5_checkBoundsBeginEnd_0 2 rfl rfl)
theorem dJ5_checkBoundsBeginEnd_3 : decode cJ5_checkBoundsBeginEnd 3 = .ok (.getstatic 1053, 3) := dk_178 4 29 (dk_at dksJ5_checkBoundsBeginEnd_0 3 rfl rfl)
theorem dJ5_checkBoundsBeginEnd_6 : decode cJ5_checkBoundsBeginEnd 6 = .ok (.invokestatic 1062, 3) := dk_184 4 38 (dk_at dksJ5_checkBoundsBeginEnd_0 6 rfl rfl)
theorem dJ5_checkBoundsBeginEnd_9 : decode cJ5_checkBoundsBeginEnd 9 = .ok (.pop, 1) := dk_87 (dk_at dksJ5_checkBoundsBeginEnd_0 9 rfl rfl)
theorem dJ5_checkBoundsBeginEnd_10 : decode cJ5_checkBoundsBeginEnd 10 = .ok (.return_, 1) := dk_177 (dk_at dksJ5_checkBoundsBeginEnd_0 10 rfl rfl)
abbrev cJ5_getBytes : ByteArray := prog_25_method_147_code
def yJ5_getBytes : MethodName := ⟨RJ5, "getBytes", "([BIB)V"⟩
def dkwJ5_getBytes_1 : List UInt8 := [184, 0, 212, 167, 0, 18, 42, 180, 0, 9, 3, 43, 28, 42, 180, 0, 9, 190, 184, 0, 106, 177]
abbrev dktJ5_getBytes_1 : List UInt8 := dkwJ5_getBytes_1 ++ []
def dkwJ5_getBytes_0 : List UInt8 := [42, 182, 1, 79, 29, 160, 0, 23, 42, 180, 0, 9, 3, 43, 28, 29, 120, 42, 180, 0, 9, 190]
abbrev dktJ5_getBytes_0 : List UInt8 := dkwJ5_getBytes_0 ++ dktJ5_getBytes_1
theorem dksJ5_getBytes_0 : cJ5_getBytes.data.toList.drop 0 = dktJ5_getBytes_0 := by decide +kernel
theorem dksJ5_getBytes_1 : cJ5_getBytes.data.toList.drop 22 = dktJ5_getBytes_1 := dk_seg dksJ5_getBytes_0 22 rfl rfl
theorem dJ5_getBytes_0 : decode cJ5_getBytes 0 = .ok (.aload_n 0, 1) := dk_42 (dk_at dksJ5_getBytes_0 0 rfl rfl)
theorem dJ5_getBytes_1 : decode cJ5_getBytes 1 = .ok (.invokevirtual 335, 3) := dk_182 1 79 (dk_at dksJ5_getBytes_0 1 rfl rfl)
theorem dJ5_getBytes_4 : decode cJ5_getBytes 4 = .ok (.iload_n 3, 1) := dk_29 (dk_at dksJ5_getBytes_0 4 rfl rfl)
theorem dJ5_getBytes_5 : decode cJ5_getBytes 5 = .ok (.if_icmp .ne 23, 3) := dk_160 0 23 (dk_at dksJ5_getBytes_0 5 rfl rfl)
theorem dJ5_getBytes_8 : decode cJ5_getBytes 8 = .ok (.aload_n 0, 1) := dk_42 (dk_at dksJ5_getBytes_0 8 rfl rfl)
theorem dJ5_getBytes_9 : decode cJ5_getBytes 9 = .ok (.getfield 9, 3) := dk_180 0 9 (dk_at dksJ5_getBytes_0 9 rfl rfl)
theorem dJ5_getBytes_12 : decode cJ5_getBytes 12 = .ok (.iconst 0, 1) := dk_3 (dk_at dksJ5_getBytes_0 12 rfl rfl)
theorem dJ5_getBytes_13 : decode cJ5_getBytes 13 = .ok (.aload_n 1, 1) := dk_43 (dk_at dksJ5_getBytes_0 13 rfl rfl)
theorem dJ5_getBytes_14 : decode cJ5_getBytes 14 = .ok (.iload_n 2, 1) := dk_28 (dk_at dksJ5_getBytes_0 14 rfl rfl)
theorem dJ5_getBytes_15 : decode cJ5_getBytes 15 = .ok (.iload_n 3, 1) := dk_29 (dk_at dksJ5_getBytes_0 15 rfl rfl)
theorem dJ5_getBytes_16 : decode cJ5_getBytes 16 = .ok (.ishl, 1) := dk_120 (dk_at dksJ5_getBytes_0 16 rfl rfl)
theorem dJ5_getBytes_17 : decode cJ5_getBytes 17 = .ok (.aload_n 0, 1) := dk_42 (dk_at dksJ5_getBytes_0 17 rfl rfl)
theorem dJ5_getBytes_18 : decode cJ5_getBytes 18 = .ok (.getfield 9, 3) := dk_180 0 9 (dk_at dksJ5_getBytes_0 18 rfl rfl)
theorem dJ5_getBytes_21 : decode cJ5_getBytes 21 = .ok (.arraylength, 1) := dk_190 (dk_at dksJ5_getBytes_0 21 rfl rfl)
theorem dJ5_getBytes_22 : decode cJ5_getBytes 22 = .ok (.invokestatic 212, 3) := dk_184 0 212 (dk_at dksJ5_getBytes_1 0 rfl rfl)
theorem dJ5_getBytes_25 : decode cJ5_getBytes 25 = .ok (.goto 18, 3) := dk_167 0 18 (dk_at dksJ5_getBytes_1 3 rfl rfl)
theorem dJ5_getBytes_28 : decode cJ5_getBytes 28 = .ok (.aload_n 0, 1) := dk_42 (dk_at dksJ5_getBytes_1 6 rfl rfl)
theorem dJ5_getBytes_29 : decode cJ5_getBytes 29 = .ok (.getfield 9, 3) := dk_180 0 9 (dk_at dksJ5_getBytes_1 7 rfl rfl)
theorem dJ5_getBytes_32 : decode cJ5_getBytes 32 = .ok (.iconst 0, 1) := dk_3 (dk_at dksJ5_getBytes_1 10 rfl rfl)
theorem dJ5_getBytes_33 : decode cJ5_getBytes 33 = .ok (.aload_n 1, 1) := dk_43 (dk_at dksJ5_getBytes_1 11 rfl rfl)
theorem dJ5_getBytes_34 : decode cJ5_getBytes 34 = .ok (.iload_n 2, 1) := dk_28 (dk_at dksJ5_getBytes_1 12 rfl rfl)
theorem dJ5_getBytes_35 : decode cJ5_getBytes 35 = .ok (.aload_n 0, 1) := dk_42 (dk_at dksJ5_getBytes_1 13 rfl rfl)
theorem dJ5_getBytes_36 : decode cJ5_getBytes 36 = .ok (.getfield 9, 3) := dk_180 0 9 (dk_at dksJ5_getBytes_1 14 rfl rfl)
theorem dJ5_getBytes_39 : decode cJ5_getBytes 39 = .ok (.arraylength, 1) := dk_190 (dk_at dksJ5_getBytes_1 17 rfl rfl)
theorem dJ5_getBytes_40 : decode cJ5_getBytes 40 = .ok (.invokestatic 106, 3) := dk_184 0 106 (dk_at dksJ5_getBytes_1 18 rfl rfl)
theorem dJ5_getBytes_43 : decode cJ5_getBytes 43 = .ok (.return_, 1) := dk_177 (dk_at dksJ5_getBytes_1 21 rfl rfl)
abbrev cJ5_substring : ByteArray := prog_25_method_92_code
def yJ5_substring : MethodName := ⟨RJ5, "substring", "(II)Ljava/lang/String;"⟩
def dkwJ5_substring_2 : List UInt8 := [180, 0, 9, 27, 21, 4, 184, 2, 177, 176]
abbrev dktJ5_substring_2 : List UInt8 := dkwJ5_substring_2 ++ []
def dkwJ5_substring_1 : List UInt8 := [100, 54, 4, 42, 182, 1, 236, 153, 0, 16, 42, 180, 0, 9, 27, 21, 4, 184, 2, 173, 167, 0, 13, 42]
abbrev dktJ5_substring_1 : List UInt8 := dkwJ5_substring_1 ++ dktJ5_substring_2
def dkwJ5_substring_0 : List UInt8 := [42, 182, 1, 249, 62, 27, 28, 29, 184, 2, 9, 27, 154, 0, 10, 28, 29, 160, 0, 5, 42, 176, 28, 27]
abbrev dktJ5_substring_0 : List UInt8 := dkwJ5_substring_0 ++ dktJ5_substring_1
theorem dksJ5_substring_0 : cJ5_substring.data.toList.drop 0 = dktJ5_substring_0 := by decide +kernel
theorem dksJ5_substring_1 : cJ5_substring.data.toList.drop 24 = dktJ5_substring_1 := dk_seg dksJ5_substring_0 24 rfl rfl
theorem dksJ5_substring_2 : cJ5_substring.data.toList.drop 48 = dktJ5_substring_2 := dk_seg dksJ5_substring_1 24 rfl rfl
theorem dJ5_substring_0 : decode cJ5_substring 0 = .ok (.aload_n 0, 1) := dk_42 (dk_at dksJ5_substring_0 0 rfl rfl)
theorem dJ5_substring_1 : decode cJ5_substring 1 = .ok (.invokevirtual 505, 3) := dk_182 1 249 (dk_at dksJ5_substring_0 1 rfl rfl)
theorem dJ5_substring_4 : decode cJ5_substring 4 = .ok (.istore_n 3, 1) := dk_62 (dk_at dksJ5_substring_0 4 rfl rfl)
theorem dJ5_substring_5 : decode cJ5_substring 5 = .ok (.iload_n 1, 1) := dk_27 (dk_at dksJ5_substring_0 5 rfl rfl)
theorem dJ5_substring_6 : decode cJ5_substring 6 = .ok (.iload_n 2, 1) := dk_28 (dk_at dksJ5_substring_0 6 rfl rfl)
theorem dJ5_substring_7 : decode cJ5_substring 7 = .ok (.iload_n 3, 1) := dk_29 (dk_at dksJ5_substring_0 7 rfl rfl)
theorem dJ5_substring_8 : decode cJ5_substring 8 = .ok (.invokestatic 521, 3) := dk_184 2 9 (dk_at dksJ5_substring_0 8 rfl rfl)
theorem dJ5_substring_11 : decode cJ5_substring 11 = .ok (.iload_n 1, 1) := dk_27 (dk_at dksJ5_substring_0 11 rfl rfl)
theorem dJ5_substring_12 : decode cJ5_substring 12 = .ok (.ifCond .ne 10, 3) := dk_154 0 10 (dk_at dksJ5_substring_0 12 rfl rfl)
theorem dJ5_substring_15 : decode cJ5_substring 15 = .ok (.iload_n 2, 1) := dk_28 (dk_at dksJ5_substring_0 15 rfl rfl)
theorem dJ5_substring_16 : decode cJ5_substring 16 = .ok (.iload_n 3, 1) := dk_29 (dk_at dksJ5_substring_0 16 rfl rfl)
theorem dJ5_substring_17 : decode cJ5_substring 17 = .ok (.if_icmp .ne 5, 3) := dk_160 0 5 (dk_at dksJ5_substring_0 17 rfl rfl)
theorem dJ5_substring_20 : decode cJ5_substring 20 = .ok (.aload_n 0, 1) := dk_42 (dk_at dksJ5_substring_0 20 rfl rfl)
theorem dJ5_substring_21 : decode cJ5_substring 21 = .ok (.areturn, 1) := dk_176 (dk_at dksJ5_substring_0 21 rfl rfl)
theorem dJ5_substring_22 : decode cJ5_substring 22 = .ok (.iload_n 2, 1) := dk_28 (dk_at dksJ5_substring_0 22 rfl rfl)
theorem dJ5_substring_23 : decode cJ5_substring 23 = .ok (.iload_n 1, 1) := dk_27 (dk_at dksJ5_substring_0 23 rfl rfl)
theorem dJ5_substring_24 : decode cJ5_substring 24 = .ok (.isub, 1) := dk_100 (dk_at dksJ5_substring_1 0 rfl rfl)
theorem dJ5_substring_25 : decode cJ5_substring 25 = .ok (.istore 4, 2) := dk_54 4 (dk_at dksJ5_substring_1 1 rfl rfl)
theorem dJ5_substring_27 : decode cJ5_substring 27 = .ok (.aload_n 0, 1) := dk_42 (dk_at dksJ5_substring_1 3 rfl rfl)
theorem dJ5_substring_28 : decode cJ5_substring 28 = .ok (.invokevirtual 492, 3) := dk_182 1 236 (dk_at dksJ5_substring_1 4 rfl rfl)
theorem dJ5_substring_31 : decode cJ5_substring 31 = .ok (.ifCond .eq 16, 3) := dk_153 0 16 (dk_at dksJ5_substring_1 7 rfl rfl)
theorem dJ5_substring_34 : decode cJ5_substring 34 = .ok (.aload_n 0, 1) := dk_42 (dk_at dksJ5_substring_1 10 rfl rfl)
theorem dJ5_substring_35 : decode cJ5_substring 35 = .ok (.getfield 9, 3) := dk_180 0 9 (dk_at dksJ5_substring_1 11 rfl rfl)
theorem dJ5_substring_38 : decode cJ5_substring 38 = .ok (.iload_n 1, 1) := dk_27 (dk_at dksJ5_substring_1 14 rfl rfl)
theorem dJ5_substring_39 : decode cJ5_substring 39 = .ok (.iload 4, 2) := dk_21 4 (dk_at dksJ5_substring_1 15 rfl rfl)
theorem dJ5_substring_41 : decode cJ5_substring 41 = .ok (.invokestatic 685, 3) := dk_184 2 173 (dk_at dksJ5_substring_1 17 rfl rfl)
theorem dJ5_substring_44 : decode cJ5_substring 44 = .ok (.goto 13, 3) := dk_167 0 13 (dk_at dksJ5_substring_1 20 rfl rfl)
theorem dJ5_substring_47 : decode cJ5_substring 47 = .ok (.aload_n 0, 1) := dk_42 (dk_at dksJ5_substring_1 23 rfl rfl)
theorem dJ5_substring_48 : decode cJ5_substring 48 = .ok (.getfield 9, 3) := dk_180 0 9 (dk_at dksJ5_substring_2 0 rfl rfl)
theorem dJ5_substring_51 : decode cJ5_substring 51 = .ok (.iload_n 1, 1) := dk_27 (dk_at dksJ5_substring_2 3 rfl rfl)
theorem dJ5_substring_52 : decode cJ5_substring 52 = .ok (.iload 4, 2) := dk_21 4 (dk_at dksJ5_substring_2 4 rfl rfl)
theorem dJ5_substring_54 : decode cJ5_substring 54 = .ok (.invokestatic 689, 3) := dk_184 2 177 (dk_at dksJ5_substring_2 6 rfl rfl)
theorem dJ5_substring_57 : decode cJ5_substring 57 = .ok (.areturn, 1) := dk_176 (dk_at dksJ5_substring_2 9 rfl rfl)
abbrev cJ5_init_3 : ByteArray := prog_25_method_151_code
def yJ5_init_3 : MethodName := ⟨RJ5, "<init>", "([BB)V"⟩
def dkwJ5_init_3_0 : List UInt8 := [42, 183, 0, 1, 42, 43, 181, 0, 9, 42, 28, 181, 0, 15, 177]
abbrev dktJ5_init_3_0 : List UInt8 := dkwJ5_init_3_0 ++ []
theorem dksJ5_init_3_0 : cJ5_init_3.data.toList.drop 0 = dktJ5_init_3_0 := by decide +kernel
theorem dJ5_init_3_0 : decode cJ5_init_3 0 = .ok (.aload_n 0, 1) := dk_42 (dk_at dksJ5_init_3_0 0 rfl rfl)
theorem dJ5_init_3_1 : decode cJ5_init_3 1 = .ok (.invokespecial 1, 3) := dk_183 0 1 (dk_at dksJ5_init_3_0 1 rfl rfl)
theorem dJ5_init_3_4 : decode cJ5_init_3 4 = .ok (.aload_n 0, 1) := dk_42 (dk_at dksJ5_init_3_0 4 rfl rfl)
theorem dJ5_init_3_5 : decode cJ5_init_3 5 = .ok (.aload_n 1, 1) := dk_43 (dk_at dksJ5_init_3_0 5 rfl rfl)
theorem dJ5_init_3_6 : decode cJ5_init_3 6 = .ok (.putfield 9, 3) := dk_181 0 9 (dk_at dksJ5_init_3_0 6 rfl rfl)
theorem dJ5_init_3_9 : decode cJ5_init_3 9 = .ok (.aload_n 0, 1) := dk_42 (dk_at dksJ5_init_3_0 9 rfl rfl)
theorem dJ5_init_3_10 : decode cJ5_init_3 10 = .ok (.iload_n 2, 1) := dk_28 (dk_at dksJ5_init_3_0 10 rfl rfl)
theorem dJ5_init_3_11 : decode cJ5_init_3 11 = .ok (.putfield 15, 3) := dk_181 0 15 (dk_at dksJ5_init_3_0 11 rfl rfl)
theorem dJ5_init_3_14 : decode cJ5_init_3 14 = .ok (.return_, 1) := dk_177 (dk_at dksJ5_init_3_0 14 rfl rfl)
abbrev cJ5_indexOf : ByteArray := prog_25_method_79_code
def yJ5_indexOf : MethodName := ⟨RJ5, "indexOf", "(I)I"⟩
def dkwJ5_indexOf_0 : List UInt8 := [42, 27, 3, 182, 2, 121, 172]
abbrev dktJ5_indexOf_0 : List UInt8 := dkwJ5_indexOf_0 ++ []
theorem dksJ5_indexOf_0 : cJ5_indexOf.data.toList.drop 0 = dktJ5_indexOf_0 := by decide +kernel
theorem dJ5_indexOf_0 : decode cJ5_indexOf 0 = .ok (.aload_n 0, 1) := dk_42 (dk_at dksJ5_indexOf_0 0 rfl rfl)
theorem dJ5_indexOf_1 : decode cJ5_indexOf 1 = .ok (.iload_n 1, 1) := dk_27 (dk_at dksJ5_indexOf_0 1 rfl rfl)
theorem dJ5_indexOf_2 : decode cJ5_indexOf 2 = .ok (.iconst 0, 1) := dk_3 (dk_at dksJ5_indexOf_0 2 rfl rfl)
theorem dJ5_indexOf_3 : decode cJ5_indexOf 3 = .ok (.invokevirtual 633, 3) := dk_182 2 121 (dk_at dksJ5_indexOf_0 3 rfl rfl)
theorem dJ5_indexOf_6 : decode cJ5_indexOf 6 = .ok (.ireturn, 1) := dk_172 (dk_at dksJ5_indexOf_0 6 rfl rfl)
abbrev cJ5_indexOf_2 : ByteArray := prog_25_method_80_code
def yJ5_indexOf_2 : MethodName := ⟨RJ5, "indexOf", "(II)I"⟩
def dkwJ5_indexOf_2_1 : List UInt8 := [180, 0, 9, 27, 28, 42, 182, 1, 249, 184, 2, 128, 172]
abbrev dktJ5_indexOf_2_1 : List UInt8 := dkwJ5_indexOf_2_1 ++ []
def dkwJ5_indexOf_2_0 : List UInt8 := [42, 182, 1, 236, 153, 0, 19, 42, 180, 0, 9, 27, 28, 42, 182, 1, 249, 184, 2, 125, 167, 0, 16, 42]
abbrev dktJ5_indexOf_2_0 : List UInt8 := dkwJ5_indexOf_2_0 ++ dktJ5_indexOf_2_1
theorem dksJ5_indexOf_2_0 : cJ5_indexOf_2.data.toList.drop 0 = dktJ5_indexOf_2_0 := by decide +kernel
theorem dksJ5_indexOf_2_1 : cJ5_indexOf_2.data.toList.drop 24 = dktJ5_indexOf_2_1 := dk_seg dksJ5_indexOf_2_0 24 rfl rfl
theorem dJ5_indexOf_2_0 : decode cJ5_indexOf_2 0 = .ok (.aload_n 0, 1) := dk_42 (dk_at dksJ5_indexOf_2_0 0 rfl rfl)
theorem dJ5_indexOf_2_1 : decode cJ5_indexOf_2 1 = .ok (.invokevirtual 492, 3) := dk_182 1 236 (dk_at dksJ5_indexOf_2_0 1 rfl rfl)
theorem dJ5_indexOf_2_4 : decode cJ5_indexOf_2 4 = .ok (.ifCond .eq 19, 3) := dk_153 0 19 (dk_at dksJ5_indexOf_2_0 4 rfl rfl)
theorem dJ5_indexOf_2_7 : decode cJ5_indexOf_2 7 = .ok (.aload_n 0, 1) := dk_42 (dk_at dksJ5_indexOf_2_0 7 rfl rfl)
theorem dJ5_indexOf_2_8 : decode cJ5_indexOf_2 8 = .ok (.getfield 9, 3) := dk_180 0 9 (dk_at dksJ5_indexOf_2_0 8 rfl rfl)
theorem dJ5_indexOf_2_11 : decode cJ5_indexOf_2 11 = .ok (.iload_n 1, 1) := dk_27 (dk_at dksJ5_indexOf_2_0 11 rfl rfl)
theorem dJ5_indexOf_2_12 : decode cJ5_indexOf_2 12 = .ok (.iload_n 2, 1) := dk_28 (dk_at dksJ5_indexOf_2_0 12 rfl rfl)
theorem dJ5_indexOf_2_13 : decode cJ5_indexOf_2 13 = .ok (.aload_n 0, 1) := dk_42 (dk_at dksJ5_indexOf_2_0 13 rfl rfl)
theorem dJ5_indexOf_2_14 : decode cJ5_indexOf_2 14 = .ok (.invokevirtual 505, 3) := dk_182 1 249 (dk_at dksJ5_indexOf_2_0 14 rfl rfl)
theorem dJ5_indexOf_2_17 : decode cJ5_indexOf_2 17 = .ok (.invokestatic 637, 3) := dk_184 2 125 (dk_at dksJ5_indexOf_2_0 17 rfl rfl)
theorem dJ5_indexOf_2_20 : decode cJ5_indexOf_2 20 = .ok (.goto 16, 3) := dk_167 0 16 (dk_at dksJ5_indexOf_2_0 20 rfl rfl)
theorem dJ5_indexOf_2_23 : decode cJ5_indexOf_2 23 = .ok (.aload_n 0, 1) := dk_42 (dk_at dksJ5_indexOf_2_0 23 rfl rfl)
theorem dJ5_indexOf_2_24 : decode cJ5_indexOf_2 24 = .ok (.getfield 9, 3) := dk_180 0 9 (dk_at dksJ5_indexOf_2_1 0 rfl rfl)
theorem dJ5_indexOf_2_27 : decode cJ5_indexOf_2 27 = .ok (.iload_n 1, 1) := dk_27 (dk_at dksJ5_indexOf_2_1 3 rfl rfl)
theorem dJ5_indexOf_2_28 : decode cJ5_indexOf_2 28 = .ok (.iload_n 2, 1) := dk_28 (dk_at dksJ5_indexOf_2_1 4 rfl rfl)
theorem dJ5_indexOf_2_29 : decode cJ5_indexOf_2 29 = .ok (.aload_n 0, 1) := dk_42 (dk_at dksJ5_indexOf_2_1 5 rfl rfl)
theorem dJ5_indexOf_2_30 : decode cJ5_indexOf_2 30 = .ok (.invokevirtual 505, 3) := dk_182 1 249 (dk_at dksJ5_indexOf_2_1 6 rfl rfl)
theorem dJ5_indexOf_2_33 : decode cJ5_indexOf_2 33 = .ok (.invokestatic 640, 3) := dk_184 2 128 (dk_at dksJ5_indexOf_2_1 9 rfl rfl)
theorem dJ5_indexOf_2_36 : decode cJ5_indexOf_2 36 = .ok (.ireturn, 1) := dk_172 (dk_at dksJ5_indexOf_2_1 12 rfl rfl)
abbrev cJ5_substring_2 : ByteArray := prog_25_method_91_code
def yJ5_substring_2 : MethodName := ⟨RJ5, "substring", "(I)Ljava/lang/String;"⟩
def dkwJ5_substring_2_0 : List UInt8 := [42, 27, 42, 182, 1, 249, 182, 2, 169, 176]
abbrev dktJ5_substring_2_0 : List UInt8 := dkwJ5_substring_2_0 ++ []
theorem dksJ5_substring_2_0 : cJ5_substring_2.data.toList.drop 0 = dktJ5_substring_2_0 := by decide +kernel
theorem dJ5_substring_2_0 : decode cJ5_substring_2 0 = .ok (.aload_n 0, 1) := dk_42 (dk_at dksJ5_substring_2_0 0 rfl rfl)
theorem dJ5_substring_2_1 : decode cJ5_substring_2 1 = .ok (.iload_n 1, 1) := dk_27 (dk_at dksJ5_substring_2_0 1 rfl rfl)
theorem dJ5_substring_2_2 : decode cJ5_substring_2 2 = .ok (.aload_n 0, 1) := dk_42 (dk_at dksJ5_substring_2_0 2 rfl rfl)
theorem dJ5_substring_2_3 : decode cJ5_substring_2 3 = .ok (.invokevirtual 505, 3) := dk_182 1 249 (dk_at dksJ5_substring_2_0 3 rfl rfl)
theorem dJ5_substring_2_6 : decode cJ5_substring_2 6 = .ok (.invokevirtual 681, 3) := dk_182 2 169 (dk_at dksJ5_substring_2_0 6 rfl rfl)
theorem dJ5_substring_2_9 : decode cJ5_substring_2 9 = .ok (.areturn, 1) := dk_176 (dk_at dksJ5_substring_2_0 9 rfl rfl)
abbrev cJ5_equals : ByteArray := prog_25_method_66_code
def yJ5_equals : MethodName := ⟨RJ5, "equals", "(Ljava/lang/Object;)Z"⟩
def dkwJ5_equals_2 : List UInt8 := [184, 2, 29, 153, 0, 7, 4, 167, 0, 4, 3, 172]
abbrev dktJ5_equals_2 : List UInt8 := dkwJ5_equals_2 ++ []
def dkwJ5_equals_1 : List UInt8 := [153, 0, 14, 42, 180, 0, 15, 44, 180, 0, 15, 160, 0, 21, 42, 180, 0, 9, 44, 180, 0, 9]
abbrev dktJ5_equals_1 : List UInt8 := dkwJ5_equals_1 ++ dktJ5_equals_2
def dkwJ5_equals_0 : List UInt8 := [42, 43, 166, 0, 5, 4, 172, 43, 193, 0, 10, 153, 0, 43, 43, 192, 0, 10, 77, 178, 0, 38]
abbrev dktJ5_equals_0 : List UInt8 := dkwJ5_equals_0 ++ dktJ5_equals_1
theorem dksJ5_equals_0 : cJ5_equals.data.toList.drop 0 = dktJ5_equals_0 := by decide +kernel
theorem dksJ5_equals_1 : cJ5_equals.data.toList.drop 22 = dktJ5_equals_1 := dk_seg dksJ5_equals_0 22 rfl rfl
theorem dksJ5_equals_2 : cJ5_equals.data.toList.drop 44 = dktJ5_equals_2 := dk_seg dksJ5_equals_1 22 rfl rfl
theorem dJ5_equals_0 : decode cJ5_equals 0 = .ok (.aload_n 0, 1) := dk_42 (dk_at dksJ5_equals_0 0 rfl rfl)
theorem dJ5_equals_1 : decode cJ5_equals 1 = .ok (.aload_n 1, 1) := dk_43 (dk_at dksJ5_equals_0 1 rfl rfl)
theorem dJ5_equals_2 : decode cJ5_equals 2 = .ok (.if_acmp .ne 5, 3) := dk_166 0 5 (dk_at dksJ5_equals_0 2 rfl rfl)
theorem dJ5_equals_5 : decode cJ5_equals 5 = .ok (.iconst 1, 1) := dk_4 (dk_at dksJ5_equals_0 5 rfl rfl)
theorem dJ5_equals_6 : decode cJ5_equals 6 = .ok (.ireturn, 1) := dk_172 (dk_at dksJ5_equals_0 6 rfl rfl)
theorem dJ5_equals_7 : decode cJ5_equals 7 = .ok (.aload_n 1, 1) := dk_43 (dk_at dksJ5_equals_0 7 rfl rfl)
theorem dJ5_equals_8 : decode cJ5_equals 8 = .ok (.instanceof 10, 3) := dk_193 0 10 (dk_at dksJ5_equals_0 8 rfl rfl)
theorem dJ5_equals_11 : decode cJ5_equals 11 = .ok (.ifCond .eq 43, 3) := dk_153 0 43 (dk_at dksJ5_equals_0 11 rfl rfl)
theorem dJ5_equals_14 : decode cJ5_equals 14 = .ok (.aload_n 1, 1) := dk_43 (dk_at dksJ5_equals_0 14 rfl rfl)
theorem dJ5_equals_15 : decode cJ5_equals 15 = .ok (.checkcast 10, 3) := dk_192 0 10 (dk_at dksJ5_equals_0 15 rfl rfl)
theorem dJ5_equals_18 : decode cJ5_equals 18 = .ok (.astore_n 2, 1) := dk_77 (dk_at dksJ5_equals_0 18 rfl rfl)
theorem dJ5_equals_19 : decode cJ5_equals 19 = .ok (.getstatic 38, 3) := dk_178 0 38 (dk_at dksJ5_equals_0 19 rfl rfl)
theorem dJ5_equals_22 : decode cJ5_equals 22 = .ok (.ifCond .eq 14, 3) := dk_153 0 14 (dk_at dksJ5_equals_1 0 rfl rfl)
theorem dJ5_equals_25 : decode cJ5_equals 25 = .ok (.aload_n 0, 1) := dk_42 (dk_at dksJ5_equals_1 3 rfl rfl)
theorem dJ5_equals_26 : decode cJ5_equals 26 = .ok (.getfield 15, 3) := dk_180 0 15 (dk_at dksJ5_equals_1 4 rfl rfl)
theorem dJ5_equals_29 : decode cJ5_equals 29 = .ok (.aload_n 2, 1) := dk_44 (dk_at dksJ5_equals_1 7 rfl rfl)
theorem dJ5_equals_30 : decode cJ5_equals 30 = .ok (.getfield 15, 3) := dk_180 0 15 (dk_at dksJ5_equals_1 8 rfl rfl)
theorem dJ5_equals_33 : decode cJ5_equals 33 = .ok (.if_icmp .ne 21, 3) := dk_160 0 21 (dk_at dksJ5_equals_1 11 rfl rfl)
theorem dJ5_equals_36 : decode cJ5_equals 36 = .ok (.aload_n 0, 1) := dk_42 (dk_at dksJ5_equals_1 14 rfl rfl)
theorem dJ5_equals_37 : decode cJ5_equals 37 = .ok (.getfield 9, 3) := dk_180 0 9 (dk_at dksJ5_equals_1 15 rfl rfl)
theorem dJ5_equals_40 : decode cJ5_equals 40 = .ok (.aload_n 2, 1) := dk_44 (dk_at dksJ5_equals_1 18 rfl rfl)
theorem dJ5_equals_41 : decode cJ5_equals 41 = .ok (.getfield 9, 3) := dk_180 0 9 (dk_at dksJ5_equals_1 19 rfl rfl)
theorem dJ5_equals_44 : decode cJ5_equals 44 = .ok (.invokestatic 541, 3) := dk_184 2 29 (dk_at dksJ5_equals_2 0 rfl rfl)
theorem dJ5_equals_47 : decode cJ5_equals 47 = .ok (.ifCond .eq 7, 3) := dk_153 0 7 (dk_at dksJ5_equals_2 3 rfl rfl)
theorem dJ5_equals_50 : decode cJ5_equals 50 = .ok (.iconst 1, 1) := dk_4 (dk_at dksJ5_equals_2 6 rfl rfl)
theorem dJ5_equals_51 : decode cJ5_equals 51 = .ok (.goto 4, 3) := dk_167 0 4 (dk_at dksJ5_equals_2 7 rfl rfl)
theorem dJ5_equals_54 : decode cJ5_equals 54 = .ok (.iconst 0, 1) := dk_3 (dk_at dksJ5_equals_2 10 rfl rfl)
theorem dJ5_equals_55 : decode cJ5_equals 55 = .ok (.ireturn, 1) := dk_172 (dk_at dksJ5_equals_2 11 rfl rfl)
theorem q40 : (Jvm.Cond.initialized "java/lang/String") ∈ lw_all := lw_g (lw_at lw_m1 9 rfl) rfl
theorem q135 : (Jvm.Cond.laysStatic "java/lang/String" "COMPACT_STRINGS" "Z") ∈ lw_tbl := lw_at lw_m1 104 rfl
theorem q145 : (Jvm.Cond.fieldLink "java/lang/String" (1048 : Nat) "java/lang/AbstractStringBuilder" "maybeLatin1" "Z") ∈ lw_all := lw_g (lw_at lw_m1 114 rfl) rfl
theorem q157 : (Jvm.Cond.instanceMethod ({ cls := "java/lang/String", name := "length", desc := "()I" } : Jvm.MethodName)) ∈ lw_all := lw_g (lw_at lw_m1 126 rfl) rfl
theorem q158 : (Jvm.Cond.selects "java/lang/String" ({ cls := "java/lang/String", name := "length", desc := "()I" } : Jvm.MethodName) ({ cls := "java/lang/String", name := "length", desc := "()I" } : Jvm.MethodName)) ∈ lw_all := lw_g (lw_at lw_m1 127 rfl) rfl
theorem q159 : (Jvm.Cond.code ({ cls := "java/lang/String", name := "length", desc := "()I" } : Jvm.MethodName) prog_25_method_54_code (1 : Nat) (Option.some Jvm.ClassFile.FieldType.int)) ∈ lw_all := lw_g (lw_at lw_m1 128 rfl) rfl
theorem q160 : (Jvm.Cond.methodLink "java/lang/String" (335 : Nat) ({ cls := "java/lang/String", name := "coder", desc := "()B" } : Jvm.MethodName)) ∈ lw_all := lw_g (lw_at lw_m1 129 rfl) rfl
theorem q161 : (Jvm.Cond.instanceMethod ({ cls := "java/lang/String", name := "coder", desc := "()B" } : Jvm.MethodName)) ∈ lw_all := lw_g (lw_at lw_m1 130 rfl) rfl
theorem q162 : (Jvm.Cond.selects "java/lang/String" ({ cls := "java/lang/String", name := "coder", desc := "()B" } : Jvm.MethodName) ({ cls := "java/lang/String", name := "coder", desc := "()B" } : Jvm.MethodName)) ∈ lw_all := lw_g (lw_at lw_m1 131 rfl) rfl
theorem q163 : (Jvm.Cond.code ({ cls := "java/lang/String", name := "coder", desc := "()B" } : Jvm.MethodName) prog_25_method_152_code (1 : Nat) (Option.some Jvm.ClassFile.FieldType.byte)) ∈ lw_all := lw_g (lw_at lw_m1 132 rfl) rfl
theorem q164 : (Jvm.Cond.fieldLink "java/lang/String" (38 : Nat) "java/lang/String" "COMPACT_STRINGS" "Z") ∈ lw_all := lw_g (lw_at lw_m1 133 rfl) rfl
theorem q166 : (Jvm.Cond.instanceMethod ({ cls := "java/lang/String", name := "charAt", desc := "(I)C" } : Jvm.MethodName)) ∈ lw_all := lw_g (lw_at lw_m1 135 rfl) rfl
theorem q167 : (Jvm.Cond.selects "java/lang/String" ({ cls := "java/lang/String", name := "charAt", desc := "(I)C" } : Jvm.MethodName) ({ cls := "java/lang/String", name := "charAt", desc := "(I)C" } : Jvm.MethodName)) ∈ lw_all := lw_g (lw_at lw_m1 136 rfl) rfl
theorem q168 : (Jvm.Cond.code ({ cls := "java/lang/String", name := "charAt", desc := "(I)C" } : Jvm.MethodName) prog_25_method_56_code (2 : Nat) (Option.some Jvm.ClassFile.FieldType.char)) ∈ lw_all := lw_g (lw_at lw_m1 137 rfl) rfl
theorem q169 : (Jvm.Cond.methodLink "java/lang/String" (492 : Nat) ({ cls := "java/lang/String", name := "isLatin1", desc := "()Z" } : Jvm.MethodName)) ∈ lw_all := lw_g (lw_at lw_m1 138 rfl) rfl
theorem q170 : (Jvm.Cond.instanceMethod ({ cls := "java/lang/String", name := "isLatin1", desc := "()Z" } : Jvm.MethodName)) ∈ lw_all := lw_g (lw_at lw_m1 139 rfl) rfl
theorem q171 : (Jvm.Cond.selects "java/lang/String" ({ cls := "java/lang/String", name := "isLatin1", desc := "()Z" } : Jvm.MethodName) ({ cls := "java/lang/String", name := "isLatin1", desc := "()Z" } : Jvm.MethodName)) ∈ lw_all := lw_g (lw_at lw_m1 140 rfl) rfl
theorem q172 : (Jvm.Cond.code ({ cls := "java/lang/String", name := "isLatin1", desc := "()Z" } : Jvm.MethodName) prog_25_method_154_code (1 : Nat) (Option.some Jvm.ClassFile.FieldType.boolean)) ∈ lw_all := lw_g (lw_at lw_m1 141 rfl) rfl
theorem q173 : (Jvm.Cond.methodLink "java/lang/String" (495 : Nat) ({ cls := "java/lang/StringLatin1", name := "charAt", desc := "([BI)C" } : Jvm.MethodName)) ∈ lw_all := lw_g (lw_at lw_m1 142 rfl) rfl
theorem q177 : (Jvm.Cond.static ({ cls := "java/lang/String", name := "checkIndex", desc := "(II)V" } : Jvm.MethodName)) ∈ lw_all := lw_g (lw_at lw_m1 146 rfl) rfl
theorem q178 : (Jvm.Cond.code ({ cls := "java/lang/String", name := "checkIndex", desc := "(II)V" } : Jvm.MethodName) prog_25_method_155_code (2 : Nat) (Option.none : Option Jvm.ClassFile.FieldType)) ∈ lw_all := lw_g (lw_at lw_m1 147 rfl) rfl
theorem q179 : (Jvm.Cond.fieldLink "java/lang/String" (1053 : Nat) "jdk/internal/util/Preconditions" "SIOOBE_FORMATTER" "Ljava/util/function/BiFunction;") ∈ lw_all := lw_g (lw_at lw_m1 148 rfl) rfl
theorem q181 : (Jvm.Cond.methodLink "java/lang/String" (1059 : Nat) ({ cls := "jdk/internal/util/Preconditions", name := "checkIndex", desc := "(IILjava/util/function/BiFunction;)I" } : Jvm.MethodName)) ∈ lw_all := lw_g (lw_at lw_m1 150 rfl) rfl
theorem q184 : (Jvm.Cond.methodLink "java/lang/String" (498 : Nat) ({ cls := "java/lang/StringUTF16", name := "charAt", desc := "([BI)C" } : Jvm.MethodName)) ∈ lw_all := lw_g (lw_at lw_m1 153 rfl) rfl
theorem q267 : (Jvm.Cond.static ({ cls := "java/lang/String", name := "checkBoundsOffCount", desc := "(III)I" } : Jvm.MethodName)) ∈ lw_all := lw_g (lw_at lw_m1 236 rfl) rfl
theorem q268 : (Jvm.Cond.code ({ cls := "java/lang/String", name := "checkBoundsOffCount", desc := "(III)I" } : Jvm.MethodName) prog_25_method_157_code (3 : Nat) (Option.some Jvm.ClassFile.FieldType.int)) ∈ lw_all := lw_g (lw_at lw_m1 237 rfl) rfl
theorem q269 : (Jvm.Cond.methodLink "java/lang/String" (1065 : Nat) ({ cls := "jdk/internal/util/Preconditions", name := "checkFromIndexSize", desc := "(IIILjava/util/function/BiFunction;)I" } : Jvm.MethodName)) ∈ lw_all := lw_g (lw_at lw_m1 238 rfl) rfl
theorem q283 : (Jvm.Cond.instantiable "java/lang/String" (4 : Nat)) ∈ lw_all := lw_g (lw_at lw_m2 12 rfl) rfl
theorem q285 : (Jvm.Cond.instanceMethod ({ cls := "java/lang/String", name := "<init>", desc := "(Ljava/lang/StringBuilder;)V" } : Jvm.MethodName)) ∈ lw_all := lw_g (lw_at lw_m2 14 rfl) rfl
theorem q286 : (Jvm.Cond.code ({ cls := "java/lang/String", name := "<init>", desc := "(Ljava/lang/StringBuilder;)V" } : Jvm.MethodName) prog_25_method_53_code (2 : Nat) (Option.none : Option Jvm.ClassFile.FieldType)) ∈ lw_all := lw_g (lw_at lw_m2 15 rfl) rfl
theorem q287 : (Jvm.Cond.methodLink "java/lang/String" (489 : Nat) ({ cls := "java/lang/String", name := "<init>", desc := "(Ljava/lang/AbstractStringBuilder;Ljava/lang/Void;)V" } : Jvm.MethodName)) ∈ lw_all := lw_g (lw_at lw_m2 16 rfl) rfl
theorem q288 : (Jvm.Cond.instanceMethod ({ cls := "java/lang/String", name := "<init>", desc := "(Ljava/lang/AbstractStringBuilder;Ljava/lang/Void;)V" } : Jvm.MethodName)) ∈ lw_all := lw_g (lw_at lw_m2 17 rfl) rfl
theorem q289 : (Jvm.Cond.code ({ cls := "java/lang/String", name := "<init>", desc := "(Ljava/lang/AbstractStringBuilder;Ljava/lang/Void;)V" } : Jvm.MethodName) prog_25_method_150_code (5 : Nat) (Option.none : Option Jvm.ClassFile.FieldType)) ∈ lw_all := lw_g (lw_at lw_m2 18 rfl) rfl
theorem q290 : (Jvm.Cond.methodLink "java/lang/String" (1 : Nat) ({ cls := "java/lang/Object", name := "<init>", desc := "()V" } : Jvm.MethodName)) ∈ lw_all := lw_g (lw_at lw_m2 19 rfl) rfl
theorem q291 : (Jvm.Cond.methodLink "java/lang/String" (552 : Nat) ({ cls := "java/lang/AbstractStringBuilder", name := "getValue", desc := "()[B" } : Jvm.MethodName)) ∈ lw_all := lw_g (lw_at lw_m2 20 rfl) rfl
theorem q296 : (Jvm.Cond.methodLink "java/lang/String" (549 : Nat) ({ cls := "java/lang/AbstractStringBuilder", name := "length", desc := "()I" } : Jvm.MethodName)) ∈ lw_all := lw_g (lw_at lw_m2 25 rfl) rfl
theorem q304 : (Jvm.Cond.methodLink "java/lang/String" (1047 : Nat) ({ cls := "java/lang/AbstractStringBuilder", name := "isLatin1", desc := "()Z" } : Jvm.MethodName)) ∈ lw_all := lw_g (lw_at lw_m2 33 rfl) rfl
theorem q305 : (Jvm.Cond.methodLink "java/lang/String" (54 : Nat) ({ cls := "java/util/Arrays", name := "copyOfRange", desc := "([BII)[B" } : Jvm.MethodName)) ∈ lw_all := lw_g (lw_at lw_m2 34 rfl) rfl
theorem q380 : (Jvm.Cond.static ({ cls := "java/lang/String", name := "checkBoundsBeginEnd", desc := "(III)V" } : Jvm.MethodName)) ∈ lw_all := lw_g (lw_at lw_m2 109 rfl) rfl
theorem q381 : (Jvm.Cond.code ({ cls := "java/lang/String", name := "checkBoundsBeginEnd", desc := "(III)V" } : Jvm.MethodName) prog_25_method_158_code (3 : Nat) (Option.none : Option Jvm.ClassFile.FieldType)) ∈ lw_all := lw_g (lw_at lw_m2 110 rfl) rfl
theorem q382 : (Jvm.Cond.methodLink "java/lang/String" (1062 : Nat) ({ cls := "jdk/internal/util/Preconditions", name := "checkFromToIndex", desc := "(IIILjava/util/function/BiFunction;)I" } : Jvm.MethodName)) ∈ lw_all := lw_g (lw_at lw_m2 111 rfl) rfl
theorem q416 : (Jvm.Cond.instanceMethod ({ cls := "java/lang/String", name := "getBytes", desc := "([BIB)V" } : Jvm.MethodName)) ∈ lw_all := lw_g (lw_at lw_m2 145 rfl) rfl
theorem q417 : (Jvm.Cond.selects "java/lang/String" ({ cls := "java/lang/String", name := "getBytes", desc := "([BIB)V" } : Jvm.MethodName) ({ cls := "java/lang/String", name := "getBytes", desc := "([BIB)V" } : Jvm.MethodName)) ∈ lw_all := lw_g (lw_at lw_m2 146 rfl) rfl
theorem q418 : (Jvm.Cond.code ({ cls := "java/lang/String", name := "getBytes", desc := "([BIB)V" } : Jvm.MethodName) prog_25_method_147_code (4 : Nat) (Option.none : Option Jvm.ClassFile.FieldType)) ∈ lw_all := lw_g (lw_at lw_m2 147 rfl) rfl
theorem q419 : (Jvm.Cond.methodLink "java/lang/String" (212 : Nat) ({ cls := "java/lang/System", name := "arraycopy", desc := "(Ljava/lang/Object;ILjava/lang/Object;II)V" } : Jvm.MethodName)) ∈ lw_all := lw_g (lw_at lw_m2 148 rfl) rfl
theorem q420 : (Jvm.Cond.methodLink "java/lang/String" (106 : Nat) ({ cls := "java/lang/StringLatin1", name := "inflate", desc := "([BI[BII)V" } : Jvm.MethodName)) ∈ lw_all := lw_g (lw_at lw_m2 149 rfl) rfl
theorem q447 : (Jvm.Cond.methodLink "java/lang/String" (1051 : Nat) ({ cls := "java/lang/StringUTF16", name := "compress", desc := "([BII)[B" } : Jvm.MethodName)) ∈ lw_all := lw_g (lw_at lw_m2 176 rfl) rfl
theorem q454 : (Jvm.Cond.methodLink "java/lang/String" (47 : Nat) ({ cls := "java/lang/StringUTF16", name := "coderFromArrayLen", desc := "([BI)B" } : Jvm.MethodName)) ∈ lw_all := lw_g (lw_at lw_m2 183 rfl) rfl
theorem q457 : (Jvm.Cond.fieldLink "java/lang/String" (9 : Nat) "java/lang/String" "value" "[B") ∈ lw_all := lw_g (lw_at lw_m2 186 rfl) rfl
theorem q458 : (Jvm.Cond.fieldLink "java/lang/String" (15 : Nat) "java/lang/String" "coder" "B") ∈ lw_all := lw_g (lw_at lw_m2 187 rfl) rfl
theorem q459 : (Jvm.Cond.laysFinal "java/lang/String" "java/lang/String" "value" "[B") ∈ lw_all := lw_g (lw_at lw_m2 188 rfl) rfl
theorem q460 : (Jvm.Cond.soleField "java/lang/String" "value") ∈ lw_all := lw_g (lw_at lw_m2 189 rfl) rfl
theorem q461 : (Jvm.Cond.laysFinal "java/lang/String" "java/lang/String" "coder" "B") ∈ lw_all := lw_g (lw_at lw_m2 190 rfl) rfl
theorem q462 : (Jvm.Cond.soleField "java/lang/String" "coder") ∈ lw_all := lw_g (lw_at lw_m2 191 rfl) rfl
theorem q463 : (Jvm.Cond.lays "java/lang/String" "java/lang/String" "hash" "I") ∈ lw_all := lw_g (lw_at lw_m2 192 rfl) rfl
theorem q464 : (Jvm.Cond.soleField "java/lang/String" "hash") ∈ lw_all := lw_g (lw_at lw_m2 193 rfl) rfl
theorem q465 : (Jvm.Cond.lays "java/lang/String" "java/lang/String" "hashIsZero" "Z") ∈ lw_all := lw_g (lw_at lw_m2 194 rfl) rfl
theorem q466 : (Jvm.Cond.soleField "java/lang/String" "hashIsZero") ∈ lw_all := lw_g (lw_at lw_m2 195 rfl) rfl
theorem q467 : (Jvm.Cond.superclass "java/lang/String" "java/lang/Object") ∈ lw_all := lw_g (lw_at lw_m2 196 rfl) rfl
theorem q472 : (Jvm.Cond.instanceMethod ({ cls := "java/lang/String", name := "substring", desc := "(II)Ljava/lang/String;" } : Jvm.MethodName)) ∈ lw_all := lw_g (lw_at lw_m2 201 rfl) rfl
theorem q473 : (Jvm.Cond.selects "java/lang/String" ({ cls := "java/lang/String", name := "substring", desc := "(II)Ljava/lang/String;" } : Jvm.MethodName) ({ cls := "java/lang/String", name := "substring", desc := "(II)Ljava/lang/String;" } : Jvm.MethodName)) ∈ lw_all := lw_g (lw_at lw_m2 202 rfl) rfl
theorem q474 : (Jvm.Cond.code ({ cls := "java/lang/String", name := "substring", desc := "(II)Ljava/lang/String;" } : Jvm.MethodName) prog_25_method_92_code (5 : Nat) (Option.some (Jvm.ClassFile.FieldType.object "java/lang/String"))) ∈ lw_all := lw_g (lw_at lw_m2 203 rfl) rfl
theorem q475 : (Jvm.Cond.methodLink "java/lang/String" (505 : Nat) ({ cls := "java/lang/String", name := "length", desc := "()I" } : Jvm.MethodName)) ∈ lw_all := lw_g (lw_at lw_m2 204 rfl) rfl
theorem q476 : (Jvm.Cond.methodLink "java/lang/String" (521 : Nat) ({ cls := "java/lang/String", name := "checkBoundsBeginEnd", desc := "(III)V" } : Jvm.MethodName)) ∈ lw_all := lw_g (lw_at lw_m2 205 rfl) rfl
theorem q477 : (Jvm.Cond.methodLink "java/lang/String" (685 : Nat) ({ cls := "java/lang/StringLatin1", name := "newString", desc := "([BII)Ljava/lang/String;" } : Jvm.MethodName)) ∈ lw_all := lw_g (lw_at lw_m2 206 rfl) rfl
theorem q484 : (Jvm.Cond.instanceMethod ({ cls := "java/lang/String", name := "<init>", desc := "([BB)V" } : Jvm.MethodName)) ∈ lw_all := lw_g (lw_at lw_m2 213 rfl) rfl
theorem q485 : (Jvm.Cond.code ({ cls := "java/lang/String", name := "<init>", desc := "([BB)V" } : Jvm.MethodName) prog_25_method_151_code (3 : Nat) (Option.none : Option Jvm.ClassFile.FieldType)) ∈ lw_all := lw_g (lw_at lw_m2 214 rfl) rfl
theorem q486 : (Jvm.Cond.methodLink "java/lang/String" (689 : Nat) ({ cls := "java/lang/StringUTF16", name := "newString", desc := "([BII)Ljava/lang/String;" } : Jvm.MethodName)) ∈ lw_all := lw_g (lw_at lw_m2 215 rfl) rfl
theorem q531 : (Jvm.Cond.selects "java/lang/String" ({ cls := "java/lang/Object", name := "getClass", desc := "()Ljava/lang/Class;" } : Jvm.MethodName) ({ cls := "java/lang/Object", name := "getClass", desc := "()Ljava/lang/Class;" } : Jvm.MethodName)) ∈ lw_all := lw_g (lw_at lw_m3 20 rfl) rfl
theorem q567 : (Jvm.Cond.instanceMethod ({ cls := "java/lang/String", name := "indexOf", desc := "(I)I" } : Jvm.MethodName)) ∈ lw_all := lw_g (lw_at lw_m3 56 rfl) rfl
theorem q568 : (Jvm.Cond.selects "java/lang/String" ({ cls := "java/lang/String", name := "indexOf", desc := "(I)I" } : Jvm.MethodName) ({ cls := "java/lang/String", name := "indexOf", desc := "(I)I" } : Jvm.MethodName)) ∈ lw_all := lw_g (lw_at lw_m3 57 rfl) rfl
theorem q569 : (Jvm.Cond.code ({ cls := "java/lang/String", name := "indexOf", desc := "(I)I" } : Jvm.MethodName) prog_25_method_79_code (2 : Nat) (Option.some Jvm.ClassFile.FieldType.int)) ∈ lw_all := lw_g (lw_at lw_m3 58 rfl) rfl
theorem q570 : (Jvm.Cond.methodLink "java/lang/String" (633 : Nat) ({ cls := "java/lang/String", name := "indexOf", desc := "(II)I" } : Jvm.MethodName)) ∈ lw_all := lw_g (lw_at lw_m3 59 rfl) rfl
theorem q571 : (Jvm.Cond.instanceMethod ({ cls := "java/lang/String", name := "indexOf", desc := "(II)I" } : Jvm.MethodName)) ∈ lw_all := lw_g (lw_at lw_m3 60 rfl) rfl
theorem q572 : (Jvm.Cond.selects "java/lang/String" ({ cls := "java/lang/String", name := "indexOf", desc := "(II)I" } : Jvm.MethodName) ({ cls := "java/lang/String", name := "indexOf", desc := "(II)I" } : Jvm.MethodName)) ∈ lw_all := lw_g (lw_at lw_m3 61 rfl) rfl
theorem q573 : (Jvm.Cond.code ({ cls := "java/lang/String", name := "indexOf", desc := "(II)I" } : Jvm.MethodName) prog_25_method_80_code (3 : Nat) (Option.some Jvm.ClassFile.FieldType.int)) ∈ lw_all := lw_g (lw_at lw_m3 62 rfl) rfl
theorem q574 : (Jvm.Cond.methodLink "java/lang/String" (637 : Nat) ({ cls := "java/lang/StringLatin1", name := "indexOf", desc := "([BIII)I" } : Jvm.MethodName)) ∈ lw_all := lw_g (lw_at lw_m3 63 rfl) rfl
theorem q585 : (Jvm.Cond.methodLink "java/lang/String" (640 : Nat) ({ cls := "java/lang/StringUTF16", name := "indexOf", desc := "([BIII)I" } : Jvm.MethodName)) ∈ lw_all := lw_g (lw_at lw_m3 74 rfl) rfl
theorem q613 : (Jvm.Cond.instanceMethod ({ cls := "java/lang/String", name := "substring", desc := "(I)Ljava/lang/String;" } : Jvm.MethodName)) ∈ lw_all := lw_g (lw_at lw_m3 102 rfl) rfl
theorem q614 : (Jvm.Cond.selects "java/lang/String" ({ cls := "java/lang/String", name := "substring", desc := "(I)Ljava/lang/String;" } : Jvm.MethodName) ({ cls := "java/lang/String", name := "substring", desc := "(I)Ljava/lang/String;" } : Jvm.MethodName)) ∈ lw_all := lw_g (lw_at lw_m3 103 rfl) rfl
theorem q615 : (Jvm.Cond.code ({ cls := "java/lang/String", name := "substring", desc := "(I)Ljava/lang/String;" } : Jvm.MethodName) prog_25_method_91_code (2 : Nat) (Option.some (Jvm.ClassFile.FieldType.object "java/lang/String"))) ∈ lw_all := lw_g (lw_at lw_m3 104 rfl) rfl
theorem q616 : (Jvm.Cond.methodLink "java/lang/String" (681 : Nat) ({ cls := "java/lang/String", name := "substring", desc := "(II)Ljava/lang/String;" } : Jvm.MethodName)) ∈ lw_all := lw_g (lw_at lw_m3 105 rfl) rfl
theorem q628 : (Jvm.Cond.instanceMethod ({ cls := "java/lang/String", name := "equals", desc := "(Ljava/lang/Object;)Z" } : Jvm.MethodName)) ∈ lw_all := lw_g (lw_at lw_m3 117 rfl) rfl
theorem q629 : (Jvm.Cond.selects "java/lang/String" ({ cls := "java/lang/String", name := "equals", desc := "(Ljava/lang/Object;)Z" } : Jvm.MethodName) ({ cls := "java/lang/String", name := "equals", desc := "(Ljava/lang/Object;)Z" } : Jvm.MethodName)) ∈ lw_all := lw_g (lw_at lw_m3 118 rfl) rfl
theorem q630 : (Jvm.Cond.code ({ cls := "java/lang/String", name := "equals", desc := "(Ljava/lang/Object;)Z" } : Jvm.MethodName) prog_25_method_66_code (3 : Nat) (Option.some Jvm.ClassFile.FieldType.boolean)) ∈ lw_all := lw_g (lw_at lw_m3 119 rfl) rfl
theorem q631 : (Jvm.Cond.classLink "java/lang/String" (10 : Nat) "java/lang/String") ∈ lw_all := lw_g (lw_at lw_m3 120 rfl) rfl
theorem q632 : (Jvm.Cond.methodLink "java/lang/String" (541 : Nat) ({ cls := "java/lang/StringLatin1", name := "equals", desc := "([B[B)Z" } : Jvm.MethodName)) ∈ lw_all := lw_g (lw_at lw_m3 121 rfl) rfl
theorem q978 : (Jvm.Cond.selects "java/lang/String" ({ cls := "java/lang/Object", name := "equals", desc := "(Ljava/lang/Object;)Z" } : Jvm.MethodName) ({ cls := "java/lang/String", name := "equals", desc := "(Ljava/lang/Object;)Z" } : Jvm.MethodName)) ∈ lw_all := lw_g (lw_at lw_m4 227 rfl) rfl
theorem q1425 : (Jvm.Cond.castable "java/lang/String" "java/lang/Object") ∈ lw_tbl := lw_at lw_m6 194 rfl
theorem in_J5 : ∀ w ∈ wsJ50, w ∈ lw_all := lw_in wsJ50 [459, 461, 463, 465] (by decide +kernel) (by decide +kernel)
/-! java/lang/StringLatin1 -/
set_option maxRecDepth 100000
def RJ7 : String := "java/lang/StringLatin1"
abbrev cJ7_charAt : ByteArray := prog_27_method_2_code
def yJ7_charAt : MethodName := ⟨RJ7, "charAt", "([BI)C"⟩
def dkwJ7_charAt_0 : List UInt8 := [27, 42, 190, 184, 0, 9, 42, 27, 51, 17, 0, 255, 126, 146, 172]
abbrev dktJ7_charAt_0 : List UInt8 := dkwJ7_charAt_0 ++ []
theorem dksJ7_charAt_0 : cJ7_charAt.data.toList.drop 0 = dktJ7_charAt_0 := by decide +kernel
theorem dJ7_charAt_0 : decode cJ7_charAt 0 = .ok (.iload_n 1, 1) := dk_27 (dk_at dksJ7_charAt_0 0 rfl rfl)
theorem dJ7_charAt_1 : decode cJ7_charAt 1 = .ok (.aload_n 0, 1) := dk_42 (dk_at dksJ7_charAt_0 1 rfl rfl)
theorem dJ7_charAt_2 : decode cJ7_charAt 2 = .ok (.arraylength, 1) := dk_190 (dk_at dksJ7_charAt_0 2 rfl rfl)
theorem dJ7_charAt_3 : decode cJ7_charAt 3 = .ok (.invokestatic 9, 3) := dk_184 0 9 (dk_at dksJ7_charAt_0 3 rfl rfl)
theorem dJ7_charAt_6 : decode cJ7_charAt 6 = .ok (.aload_n 0, 1) := dk_42 (dk_at dksJ7_charAt_0 6 rfl rfl)
theorem dJ7_charAt_7 : decode cJ7_charAt 7 = .ok (.iload_n 1, 1) := dk_27 (dk_at dksJ7_charAt_0 7 rfl rfl)
theorem dJ7_charAt_8 : decode cJ7_charAt 8 = .ok (.baload, 1) := dk_51 (dk_at dksJ7_charAt_0 8 rfl rfl)
theorem dJ7_charAt_9 : decode cJ7_charAt 9 = .ok (.sipush 255, 3) := dk_17 0 255 (dk_at dksJ7_charAt_0 9 rfl rfl)
theorem dJ7_charAt_12 : decode cJ7_charAt 12 = .ok (.iand, 1) := dk_126 (dk_at dksJ7_charAt_0 12 rfl rfl)
theorem dJ7_charAt_13 : decode cJ7_charAt 13 = .ok (.i2c, 1) := dk_146 (dk_at dksJ7_charAt_0 13 rfl rfl)
theorem dJ7_charAt_14 : decode cJ7_charAt 14 = .ok (.ireturn, 1) := dk_172 (dk_at dksJ7_charAt_0 14 rfl rfl)
abbrev cJ7_canEncode : ByteArray := prog_27_method_3_code
def yJ7_canEncode : MethodName := ⟨RJ7, "canEncode", "(C)Z"⟩
def dkwJ7_canEncode_0 : List UInt8 := [26, 17, 0, 255, 163, 0, 7, 4, 167, 0, 4, 3, 172]
abbrev dktJ7_canEncode_0 : List UInt8 := dkwJ7_canEncode_0 ++ []
theorem dksJ7_canEncode_0 : cJ7_canEncode.data.toList.drop 0 = dktJ7_canEncode_0 := by decide +kernel
theorem dJ7_canEncode_0 : decode cJ7_canEncode 0 = .ok (.iload_n 0, 1) := dk_26 (dk_at dksJ7_canEncode_0 0 rfl rfl)
theorem dJ7_canEncode_1 : decode cJ7_canEncode 1 = .ok (.sipush 255, 3) := dk_17 0 255 (dk_at dksJ7_canEncode_0 1 rfl rfl)
theorem dJ7_canEncode_4 : decode cJ7_canEncode 4 = .ok (.if_icmp .gt 7, 3) := dk_163 0 7 (dk_at dksJ7_canEncode_0 4 rfl rfl)
theorem dJ7_canEncode_7 : decode cJ7_canEncode 7 = .ok (.iconst 1, 1) := dk_4 (dk_at dksJ7_canEncode_0 7 rfl rfl)
theorem dJ7_canEncode_8 : decode cJ7_canEncode 8 = .ok (.goto 4, 3) := dk_167 0 4 (dk_at dksJ7_canEncode_0 8 rfl rfl)
theorem dJ7_canEncode_11 : decode cJ7_canEncode 11 = .ok (.iconst 0, 1) := dk_3 (dk_at dksJ7_canEncode_0 11 rfl rfl)
theorem dJ7_canEncode_12 : decode cJ7_canEncode 12 = .ok (.ireturn, 1) := dk_172 (dk_at dksJ7_canEncode_0 12 rfl rfl)
abbrev cJ7_inflate : ByteArray := prog_27_method_50_code
def yJ7_inflate : MethodName := ⟨RJ7, "inflate", "([BI[BII)V"⟩
def dkwJ7_inflate_0 : List UInt8 := [42, 27, 44, 29, 21, 4, 184, 0, 240, 177]
abbrev dktJ7_inflate_0 : List UInt8 := dkwJ7_inflate_0 ++ []
theorem dksJ7_inflate_0 : cJ7_inflate.data.toList.drop 0 = dktJ7_inflate_0 := by decide +kernel
theorem dJ7_inflate_0 : decode cJ7_inflate 0 = .ok (.aload_n 0, 1) := dk_42 (dk_at dksJ7_inflate_0 0 rfl rfl)
theorem dJ7_inflate_1 : decode cJ7_inflate 1 = .ok (.iload_n 1, 1) := dk_27 (dk_at dksJ7_inflate_0 1 rfl rfl)
theorem dJ7_inflate_2 : decode cJ7_inflate 2 = .ok (.aload_n 2, 1) := dk_44 (dk_at dksJ7_inflate_0 2 rfl rfl)
theorem dJ7_inflate_3 : decode cJ7_inflate 3 = .ok (.iload_n 3, 1) := dk_29 (dk_at dksJ7_inflate_0 3 rfl rfl)
theorem dJ7_inflate_4 : decode cJ7_inflate 4 = .ok (.iload 4, 2) := dk_21 4 (dk_at dksJ7_inflate_0 4 rfl rfl)
theorem dJ7_inflate_6 : decode cJ7_inflate 6 = .ok (.invokestatic 240, 3) := dk_184 0 240 (dk_at dksJ7_inflate_0 6 rfl rfl)
theorem dJ7_inflate_9 : decode cJ7_inflate 9 = .ok (.return_, 1) := dk_177 (dk_at dksJ7_inflate_0 9 rfl rfl)
abbrev cJ7_newString : ByteArray := prog_27_method_47_code
def yJ7_newString : MethodName := ⟨RJ7, "newString", "([BII)Ljava/lang/String;"⟩
def dkwJ7_newString_0 : List UInt8 := [28, 154, 0, 6, 18, 151, 176, 187, 0, 1, 89, 42, 27, 27, 28, 96, 184, 0, 232, 3, 183, 0, 112, 176]
abbrev dktJ7_newString_0 : List UInt8 := dkwJ7_newString_0 ++ []
theorem dksJ7_newString_0 : cJ7_newString.data.toList.drop 0 = dktJ7_newString_0 := by decide +kernel
theorem dJ7_newString_0 : decode cJ7_newString 0 = .ok (.iload_n 2, 1) := dk_28 (dk_at dksJ7_newString_0 0 rfl rfl)
theorem dJ7_newString_1 : decode cJ7_newString 1 = .ok (.ifCond .ne 6, 3) := dk_154 0 6 (dk_at dksJ7_newString_0 1 rfl rfl)
theorem dJ7_newString_4 : decode cJ7_newString 4 = .ok (.ldc 151, 2) := dk_18 151 (dk_at dksJ7_newString_0 4 rfl rfl)
theorem dJ7_newString_6 : decode cJ7_newString 6 = .ok (.areturn, 1) := dk_176 (dk_at dksJ7_newString_0 6 rfl rfl)
theorem dJ7_newString_7 : decode cJ7_newString 7 = .ok (.new 1, 3) := dk_187 0 1 (dk_at dksJ7_newString_0 7 rfl rfl)
theorem dJ7_newString_10 : decode cJ7_newString 10 = .ok (.dup, 1) := dk_89 (dk_at dksJ7_newString_0 10 rfl rfl)
theorem dJ7_newString_11 : decode cJ7_newString 11 = .ok (.aload_n 0, 1) := dk_42 (dk_at dksJ7_newString_0 11 rfl rfl)
theorem dJ7_newString_12 : decode cJ7_newString 12 = .ok (.iload_n 1, 1) := dk_27 (dk_at dksJ7_newString_0 12 rfl rfl)
theorem dJ7_newString_13 : decode cJ7_newString 13 = .ok (.iload_n 1, 1) := dk_27 (dk_at dksJ7_newString_0 13 rfl rfl)
theorem dJ7_newString_14 : decode cJ7_newString 14 = .ok (.iload_n 2, 1) := dk_28 (dk_at dksJ7_newString_0 14 rfl rfl)
theorem dJ7_newString_15 : decode cJ7_newString 15 = .ok (.iadd, 1) := dk_96 (dk_at dksJ7_newString_0 15 rfl rfl)
theorem dJ7_newString_16 : decode cJ7_newString 16 = .ok (.invokestatic 232, 3) := dk_184 0 232 (dk_at dksJ7_newString_0 16 rfl rfl)
theorem dJ7_newString_19 : decode cJ7_newString 19 = .ok (.iconst 0, 1) := dk_3 (dk_at dksJ7_newString_0 19 rfl rfl)
theorem dJ7_newString_20 : decode cJ7_newString 20 = .ok (.invokespecial 112, 3) := dk_183 0 112 (dk_at dksJ7_newString_0 20 rfl rfl)
theorem dJ7_newString_23 : decode cJ7_newString 23 = .ok (.areturn, 1) := dk_176 (dk_at dksJ7_newString_0 23 rfl rfl)
abbrev cJ7_indexOf : ByteArray := prog_27_method_22_code
def yJ7_indexOf : MethodName := ⟨RJ7, "indexOf", "([BIII)I"⟩
def dkwJ7_indexOf_1 : List UInt8 := [161, 0, 5, 2, 172, 42, 27, 28, 29, 184, 0, 95, 172]
abbrev dktJ7_indexOf_1 : List UInt8 := dkwJ7_indexOf_1 ++ []
def dkwJ7_indexOf_0 : List UInt8 := [27, 184, 0, 88, 154, 0, 5, 2, 172, 28, 3, 184, 0, 92, 61, 29, 42, 190, 184, 0, 38, 62, 28, 29]
abbrev dktJ7_indexOf_0 : List UInt8 := dkwJ7_indexOf_0 ++ dktJ7_indexOf_1
theorem dksJ7_indexOf_0 : cJ7_indexOf.data.toList.drop 0 = dktJ7_indexOf_0 := by decide +kernel
theorem dksJ7_indexOf_1 : cJ7_indexOf.data.toList.drop 24 = dktJ7_indexOf_1 := dk_seg dksJ7_indexOf_0 24 rfl rfl
theorem dJ7_indexOf_0 : decode cJ7_indexOf 0 = .ok (.iload_n 1, 1) := dk_27 (dk_at dksJ7_indexOf_0 0 rfl rfl)
theorem dJ7_indexOf_1 : decode cJ7_indexOf 1 = .ok (.invokestatic 88, 3) := dk_184 0 88 (dk_at dksJ7_indexOf_0 1 rfl rfl)
theorem dJ7_indexOf_4 : decode cJ7_indexOf 4 = .ok (.ifCond .ne 5, 3) := dk_154 0 5 (dk_at dksJ7_indexOf_0 4 rfl rfl)
theorem dJ7_indexOf_7 : decode cJ7_indexOf 7 = .ok (.iconst (-1), 1) := dk_2 (dk_at dksJ7_indexOf_0 7 rfl rfl)
theorem dJ7_indexOf_8 : decode cJ7_indexOf 8 = .ok (.ireturn, 1) := dk_172 (dk_at dksJ7_indexOf_0 8 rfl rfl)
theorem dJ7_indexOf_9 : decode cJ7_indexOf 9 = .ok (.iload_n 2, 1) := dk_28 (dk_at dksJ7_indexOf_0 9 rfl rfl)
theorem dJ7_indexOf_10 : decode cJ7_indexOf 10 = .ok (.iconst 0, 1) := dk_3 (dk_at dksJ7_indexOf_0 10 rfl rfl)
theorem dJ7_indexOf_11 : decode cJ7_indexOf 11 = .ok (.invokestatic 92, 3) := dk_184 0 92 (dk_at dksJ7_indexOf_0 11 rfl rfl)
theorem dJ7_indexOf_14 : decode cJ7_indexOf 14 = .ok (.istore_n 2, 1) := dk_61 (dk_at dksJ7_indexOf_0 14 rfl rfl)
theorem dJ7_indexOf_15 : decode cJ7_indexOf 15 = .ok (.iload_n 3, 1) := dk_29 (dk_at dksJ7_indexOf_0 15 rfl rfl)
theorem dJ7_indexOf_16 : decode cJ7_indexOf 16 = .ok (.aload_n 0, 1) := dk_42 (dk_at dksJ7_indexOf_0 16 rfl rfl)
theorem dJ7_indexOf_17 : decode cJ7_indexOf 17 = .ok (.arraylength, 1) := dk_190 (dk_at dksJ7_indexOf_0 17 rfl rfl)
theorem dJ7_indexOf_18 : decode cJ7_indexOf 18 = .ok (.invokestatic 38, 3) := dk_184 0 38 (dk_at dksJ7_indexOf_0 18 rfl rfl)
theorem dJ7_indexOf_21 : decode cJ7_indexOf 21 = .ok (.istore_n 3, 1) := dk_62 (dk_at dksJ7_indexOf_0 21 rfl rfl)
theorem dJ7_indexOf_22 : decode cJ7_indexOf 22 = .ok (.iload_n 2, 1) := dk_28 (dk_at dksJ7_indexOf_0 22 rfl rfl)
theorem dJ7_indexOf_23 : decode cJ7_indexOf 23 = .ok (.iload_n 3, 1) := dk_29 (dk_at dksJ7_indexOf_0 23 rfl rfl)
theorem dJ7_indexOf_24 : decode cJ7_indexOf 24 = .ok (.if_icmp .lt 5, 3) := dk_161 0 5 (dk_at dksJ7_indexOf_1 0 rfl rfl)
theorem dJ7_indexOf_27 : decode cJ7_indexOf 27 = .ok (.iconst (-1), 1) := dk_2 (dk_at dksJ7_indexOf_1 3 rfl rfl)
theorem dJ7_indexOf_28 : decode cJ7_indexOf 28 = .ok (.ireturn, 1) := dk_172 (dk_at dksJ7_indexOf_1 4 rfl rfl)
theorem dJ7_indexOf_29 : decode cJ7_indexOf 29 = .ok (.aload_n 0, 1) := dk_42 (dk_at dksJ7_indexOf_1 5 rfl rfl)
theorem dJ7_indexOf_30 : decode cJ7_indexOf 30 = .ok (.iload_n 1, 1) := dk_27 (dk_at dksJ7_indexOf_1 6 rfl rfl)
theorem dJ7_indexOf_31 : decode cJ7_indexOf 31 = .ok (.iload_n 2, 1) := dk_28 (dk_at dksJ7_indexOf_1 7 rfl rfl)
theorem dJ7_indexOf_32 : decode cJ7_indexOf 32 = .ok (.iload_n 3, 1) := dk_29 (dk_at dksJ7_indexOf_1 8 rfl rfl)
theorem dJ7_indexOf_33 : decode cJ7_indexOf 33 = .ok (.invokestatic 95, 3) := dk_184 0 95 (dk_at dksJ7_indexOf_1 9 rfl rfl)
theorem dJ7_indexOf_36 : decode cJ7_indexOf 36 = .ok (.ireturn, 1) := dk_172 (dk_at dksJ7_indexOf_1 12 rfl rfl)
abbrev cJ7_canEncode_2 : ByteArray := prog_27_method_4_code
def yJ7_canEncode_2 : MethodName := ⟨RJ7, "canEncode", "(I)Z"⟩
def dkwJ7_canEncode_2_0 : List UInt8 := [26, 155, 0, 14, 26, 17, 0, 255, 163, 0, 7, 4, 167, 0, 4, 3, 172]
abbrev dktJ7_canEncode_2_0 : List UInt8 := dkwJ7_canEncode_2_0 ++ []
theorem dksJ7_canEncode_2_0 : cJ7_canEncode_2.data.toList.drop 0 = dktJ7_canEncode_2_0 := by decide +kernel
theorem dJ7_canEncode_2_0 : decode cJ7_canEncode_2 0 = .ok (.iload_n 0, 1) := dk_26 (dk_at dksJ7_canEncode_2_0 0 rfl rfl)
theorem dJ7_canEncode_2_1 : decode cJ7_canEncode_2 1 = .ok (.ifCond .lt 14, 3) := dk_155 0 14 (dk_at dksJ7_canEncode_2_0 1 rfl rfl)
theorem dJ7_canEncode_2_4 : decode cJ7_canEncode_2 4 = .ok (.iload_n 0, 1) := dk_26 (dk_at dksJ7_canEncode_2_0 4 rfl rfl)
theorem dJ7_canEncode_2_5 : decode cJ7_canEncode_2 5 = .ok (.sipush 255, 3) := dk_17 0 255 (dk_at dksJ7_canEncode_2_0 5 rfl rfl)
theorem dJ7_canEncode_2_8 : decode cJ7_canEncode_2 8 = .ok (.if_icmp .gt 7, 3) := dk_163 0 7 (dk_at dksJ7_canEncode_2_0 8 rfl rfl)
theorem dJ7_canEncode_2_11 : decode cJ7_canEncode_2 11 = .ok (.iconst 1, 1) := dk_4 (dk_at dksJ7_canEncode_2_0 11 rfl rfl)
theorem dJ7_canEncode_2_12 : decode cJ7_canEncode_2 12 = .ok (.goto 4, 3) := dk_167 0 4 (dk_at dksJ7_canEncode_2_0 12 rfl rfl)
theorem dJ7_canEncode_2_15 : decode cJ7_canEncode_2 15 = .ok (.iconst 0, 1) := dk_3 (dk_at dksJ7_canEncode_2_0 15 rfl rfl)
theorem dJ7_canEncode_2_16 : decode cJ7_canEncode_2 16 = .ok (.ireturn, 1) := dk_172 (dk_at dksJ7_canEncode_2_0 16 rfl rfl)
abbrev cJ7_indexOfChar : ByteArray := prog_27_method_23_code
def yJ7_indexOfChar : MethodName := ⟨RJ7, "indexOfChar", "([BIII)I"⟩
def dkwJ7_indexOfChar_1 : List UInt8 := [172, 132, 5, 1, 167, 255, 235, 2, 172]
abbrev dktJ7_indexOfChar_1 : List UInt8 := dkwJ7_indexOfChar_1 ++ []
def dkwJ7_indexOfChar_0 : List UInt8 := [27, 145, 54, 4, 28, 54, 5, 21, 5, 29, 162, 0, 21, 42, 21, 5, 51, 21, 4, 160, 0, 6, 21, 5]
abbrev dktJ7_indexOfChar_0 : List UInt8 := dkwJ7_indexOfChar_0 ++ dktJ7_indexOfChar_1
theorem dksJ7_indexOfChar_0 : cJ7_indexOfChar.data.toList.drop 0 = dktJ7_indexOfChar_0 := by decide +kernel
theorem dksJ7_indexOfChar_1 : cJ7_indexOfChar.data.toList.drop 24 = dktJ7_indexOfChar_1 := dk_seg dksJ7_indexOfChar_0 24 rfl rfl
theorem dJ7_indexOfChar_0 : decode cJ7_indexOfChar 0 = .ok (.iload_n 1, 1) := dk_27 (dk_at dksJ7_indexOfChar_0 0 rfl rfl)
theorem dJ7_indexOfChar_1 : decode cJ7_indexOfChar 1 = .ok (.i2b, 1) := dk_145 (dk_at dksJ7_indexOfChar_0 1 rfl rfl)
theorem dJ7_indexOfChar_2 : decode cJ7_indexOfChar 2 = .ok (.istore 4, 2) := dk_54 4 (dk_at dksJ7_indexOfChar_0 2 rfl rfl)
theorem dJ7_indexOfChar_4 : decode cJ7_indexOfChar 4 = .ok (.iload_n 2, 1) := dk_28 (dk_at dksJ7_indexOfChar_0 4 rfl rfl)
theorem dJ7_indexOfChar_5 : decode cJ7_indexOfChar 5 = .ok (.istore 5, 2) := dk_54 5 (dk_at dksJ7_indexOfChar_0 5 rfl rfl)
theorem dJ7_indexOfChar_7 : decode cJ7_indexOfChar 7 = .ok (.iload 5, 2) := dk_21 5 (dk_at dksJ7_indexOfChar_0 7 rfl rfl)
theorem dJ7_indexOfChar_9 : decode cJ7_indexOfChar 9 = .ok (.iload_n 3, 1) := dk_29 (dk_at dksJ7_indexOfChar_0 9 rfl rfl)
theorem dJ7_indexOfChar_10 : decode cJ7_indexOfChar 10 = .ok (.if_icmp .ge 21, 3) := dk_162 0 21 (dk_at dksJ7_indexOfChar_0 10 rfl rfl)
theorem dJ7_indexOfChar_13 : decode cJ7_indexOfChar 13 = .ok (.aload_n 0, 1) := dk_42 (dk_at dksJ7_indexOfChar_0 13 rfl rfl)
theorem dJ7_indexOfChar_14 : decode cJ7_indexOfChar 14 = .ok (.iload 5, 2) := dk_21 5 (dk_at dksJ7_indexOfChar_0 14 rfl rfl)
theorem dJ7_indexOfChar_16 : decode cJ7_indexOfChar 16 = .ok (.baload, 1) := dk_51 (dk_at dksJ7_indexOfChar_0 16 rfl rfl)
theorem dJ7_indexOfChar_17 : decode cJ7_indexOfChar 17 = .ok (.iload 4, 2) := dk_21 4 (dk_at dksJ7_indexOfChar_0 17 rfl rfl)
theorem dJ7_indexOfChar_19 : decode cJ7_indexOfChar 19 = .ok (.if_icmp .ne 6, 3) := dk_160 0 6 (dk_at dksJ7_indexOfChar_0 19 rfl rfl)
theorem dJ7_indexOfChar_22 : decode cJ7_indexOfChar 22 = .ok (.iload 5, 2) := dk_21 5 (dk_at dksJ7_indexOfChar_0 22 rfl rfl)
theorem dJ7_indexOfChar_24 : decode cJ7_indexOfChar 24 = .ok (.ireturn, 1) := dk_172 (dk_at dksJ7_indexOfChar_1 0 rfl rfl)
theorem dJ7_indexOfChar_25 : decode cJ7_indexOfChar 25 = .ok (.iinc 5 1, 3) := dk_132 5 1 (dk_at dksJ7_indexOfChar_1 1 rfl rfl)
theorem dJ7_indexOfChar_28 : decode cJ7_indexOfChar 28 = .ok (.goto (-21), 3) := dk_167 255 235 (dk_at dksJ7_indexOfChar_1 4 rfl rfl)
theorem dJ7_indexOfChar_31 : decode cJ7_indexOfChar 31 = .ok (.iconst (-1), 1) := dk_2 (dk_at dksJ7_indexOfChar_1 7 rfl rfl)
theorem dJ7_indexOfChar_32 : decode cJ7_indexOfChar 32 = .ok (.ireturn, 1) := dk_172 (dk_at dksJ7_indexOfChar_1 8 rfl rfl)
abbrev cJ7_equals : ByteArray := prog_27_method_13_code
def yJ7_equals : MethodName := ⟨RJ7, "equals", "([B[B)Z"⟩
def dkwJ7_equals_1 : List UInt8 := [3, 172, 132, 2, 1, 167, 255, 236, 4, 172, 3, 172]
abbrev dktJ7_equals_1 : List UInt8 := dkwJ7_equals_1 ++ []
def dkwJ7_equals_0 : List UInt8 := [42, 190, 43, 190, 160, 0, 30, 3, 61, 28, 42, 190, 162, 0, 20, 42, 28, 51, 43, 28, 51, 159, 0, 5]
abbrev dktJ7_equals_0 : List UInt8 := dkwJ7_equals_0 ++ dktJ7_equals_1
theorem dksJ7_equals_0 : cJ7_equals.data.toList.drop 0 = dktJ7_equals_0 := by decide +kernel
theorem dksJ7_equals_1 : cJ7_equals.data.toList.drop 24 = dktJ7_equals_1 := dk_seg dksJ7_equals_0 24 rfl rfl
theorem dJ7_equals_0 : decode cJ7_equals 0 = .ok (.aload_n 0, 1) := dk_42 (dk_at dksJ7_equals_0 0 rfl rfl)
theorem dJ7_equals_1 : decode cJ7_equals 1 = .ok (.arraylength, 1) := dk_190 (dk_at dksJ7_equals_0 1 rfl rfl)
theorem dJ7_equals_2 : decode cJ7_equals 2 = .ok (.aload_n 1, 1) := dk_43 (dk_at dksJ7_equals_0 2 rfl rfl)
theorem dJ7_equals_3 : decode cJ7_equals 3 = .ok (.arraylength, 1) := dk_190 (dk_at dksJ7_equals_0 3 rfl rfl)
theorem dJ7_equals_4 : decode cJ7_equals 4 = .ok (.if_icmp .ne 30, 3) := dk_160 0 30 (dk_at dksJ7_equals_0 4 rfl rfl)
theorem dJ7_equals_7 : decode cJ7_equals 7 = .ok (.iconst 0, 1) := dk_3 (dk_at dksJ7_equals_0 7 rfl rfl)
theorem dJ7_equals_8 : decode cJ7_equals 8 = .ok (.istore_n 2, 1) := dk_61 (dk_at dksJ7_equals_0 8 rfl rfl)
theorem dJ7_equals_9 : decode cJ7_equals 9 = .ok (.iload_n 2, 1) := dk_28 (dk_at dksJ7_equals_0 9 rfl rfl)
theorem dJ7_equals_10 : decode cJ7_equals 10 = .ok (.aload_n 0, 1) := dk_42 (dk_at dksJ7_equals_0 10 rfl rfl)
theorem dJ7_equals_11 : decode cJ7_equals 11 = .ok (.arraylength, 1) := dk_190 (dk_at dksJ7_equals_0 11 rfl rfl)
theorem dJ7_equals_12 : decode cJ7_equals 12 = .ok (.if_icmp .ge 20, 3) := dk_162 0 20 (dk_at dksJ7_equals_0 12 rfl rfl)
theorem dJ7_equals_15 : decode cJ7_equals 15 = .ok (.aload_n 0, 1) := dk_42 (dk_at dksJ7_equals_0 15 rfl rfl)
theorem dJ7_equals_16 : decode cJ7_equals 16 = .ok (.iload_n 2, 1) := dk_28 (dk_at dksJ7_equals_0 16 rfl rfl)
theorem dJ7_equals_17 : decode cJ7_equals 17 = .ok (.baload, 1) := dk_51 (dk_at dksJ7_equals_0 17 rfl rfl)
theorem dJ7_equals_18 : decode cJ7_equals 18 = .ok (.aload_n 1, 1) := dk_43 (dk_at dksJ7_equals_0 18 rfl rfl)
theorem dJ7_equals_19 : decode cJ7_equals 19 = .ok (.iload_n 2, 1) := dk_28 (dk_at dksJ7_equals_0 19 rfl rfl)
theorem dJ7_equals_20 : decode cJ7_equals 20 = .ok (.baload, 1) := dk_51 (dk_at dksJ7_equals_0 20 rfl rfl)
theorem dJ7_equals_21 : decode cJ7_equals 21 = .ok (.if_icmp .eq 5, 3) := dk_159 0 5 (dk_at dksJ7_equals_0 21 rfl rfl)
theorem dJ7_equals_24 : decode cJ7_equals 24 = .ok (.iconst 0, 1) := dk_3 (dk_at dksJ7_equals_1 0 rfl rfl)
theorem dJ7_equals_25 : decode cJ7_equals 25 = .ok (.ireturn, 1) := dk_172 (dk_at dksJ7_equals_1 1 rfl rfl)
theorem dJ7_equals_26 : decode cJ7_equals 26 = .ok (.iinc 2 1, 3) := dk_132 2 1 (dk_at dksJ7_equals_1 2 rfl rfl)
theorem dJ7_equals_29 : decode cJ7_equals 29 = .ok (.goto (-20), 3) := dk_167 255 236 (dk_at dksJ7_equals_1 5 rfl rfl)
theorem dJ7_equals_32 : decode cJ7_equals 32 = .ok (.iconst 1, 1) := dk_4 (dk_at dksJ7_equals_1 8 rfl rfl)
theorem dJ7_equals_33 : decode cJ7_equals 33 = .ok (.ireturn, 1) := dk_172 (dk_at dksJ7_equals_1 9 rfl rfl)
theorem dJ7_equals_34 : decode cJ7_equals 34 = .ok (.iconst 0, 1) := dk_3 (dk_at dksJ7_equals_1 10 rfl rfl)
theorem dJ7_equals_35 : decode cJ7_equals 35 = .ok (.ireturn, 1) := dk_172 (dk_at dksJ7_equals_1 11 rfl rfl)
theorem q42 : (Jvm.Cond.initialized "java/lang/StringLatin1") ∈ lw_all := lw_g (lw_at lw_m1 11 rfl) rfl
theorem q174 : (Jvm.Cond.static ({ cls := "java/lang/StringLatin1", name := "charAt", desc := "([BI)C" } : Jvm.MethodName)) ∈ lw_all := lw_g (lw_at lw_m1 143 rfl) rfl
theorem q175 : (Jvm.Cond.code ({ cls := "java/lang/StringLatin1", name := "charAt", desc := "([BI)C" } : Jvm.MethodName) prog_27_method_2_code (2 : Nat) (Option.some Jvm.ClassFile.FieldType.char)) ∈ lw_all := lw_g (lw_at lw_m1 144 rfl) rfl
theorem q176 : (Jvm.Cond.methodLink "java/lang/StringLatin1" (9 : Nat) ({ cls := "java/lang/String", name := "checkIndex", desc := "(II)V" } : Jvm.MethodName)) ∈ lw_all := lw_g (lw_at lw_m1 145 rfl) rfl
theorem q251 : (Jvm.Cond.static ({ cls := "java/lang/StringLatin1", name := "canEncode", desc := "(C)Z" } : Jvm.MethodName)) ∈ lw_all := lw_g (lw_at lw_m1 220 rfl) rfl
theorem q252 : (Jvm.Cond.code ({ cls := "java/lang/StringLatin1", name := "canEncode", desc := "(C)Z" } : Jvm.MethodName) prog_27_method_3_code (1 : Nat) (Option.some Jvm.ClassFile.FieldType.boolean)) ∈ lw_all := lw_g (lw_at lw_m1 221 rfl) rfl
theorem q258 : (Jvm.Cond.static ({ cls := "java/lang/StringLatin1", name := "inflate", desc := "([BI[BII)V" } : Jvm.MethodName)) ∈ lw_all := lw_g (lw_at lw_m1 227 rfl) rfl
theorem q259 : (Jvm.Cond.code ({ cls := "java/lang/StringLatin1", name := "inflate", desc := "([BI[BII)V" } : Jvm.MethodName) prog_27_method_50_code (5 : Nat) (Option.none : Option Jvm.ClassFile.FieldType)) ∈ lw_all := lw_g (lw_at lw_m1 228 rfl) rfl
theorem q260 : (Jvm.Cond.methodLink "java/lang/StringLatin1" (240 : Nat) ({ cls := "java/lang/StringUTF16", name := "inflate", desc := "([BI[BII)V" } : Jvm.MethodName)) ∈ lw_all := lw_g (lw_at lw_m1 229 rfl) rfl
theorem q478 : (Jvm.Cond.static ({ cls := "java/lang/StringLatin1", name := "newString", desc := "([BII)Ljava/lang/String;" } : Jvm.MethodName)) ∈ lw_all := lw_g (lw_at lw_m2 207 rfl) rfl
theorem q479 : (Jvm.Cond.code ({ cls := "java/lang/StringLatin1", name := "newString", desc := "([BII)Ljava/lang/String;" } : Jvm.MethodName) prog_27_method_47_code (3 : Nat) (Option.some (Jvm.ClassFile.FieldType.object "java/lang/String"))) ∈ lw_all := lw_g (lw_at lw_m2 208 rfl) rfl
theorem q480 : (Jvm.Cond.stringRef "java/lang/StringLatin1" (151 : Nat) "") ∈ lw_tbl := lw_at lw_m2 209 rfl
theorem q481 : (Jvm.Cond.classLink "java/lang/StringLatin1" (1 : Nat) "java/lang/String") ∈ lw_all := lw_g (lw_at lw_m2 210 rfl) rfl
theorem q482 : (Jvm.Cond.methodLink "java/lang/StringLatin1" (232 : Nat) ({ cls := "java/util/Arrays", name := "copyOfRange", desc := "([BII)[B" } : Jvm.MethodName)) ∈ lw_all := lw_g (lw_at lw_m2 211 rfl) rfl
theorem q483 : (Jvm.Cond.methodLink "java/lang/StringLatin1" (112 : Nat) ({ cls := "java/lang/String", name := "<init>", desc := "([BB)V" } : Jvm.MethodName)) ∈ lw_all := lw_g (lw_at lw_m2 212 rfl) rfl
theorem q575 : (Jvm.Cond.static ({ cls := "java/lang/StringLatin1", name := "indexOf", desc := "([BIII)I" } : Jvm.MethodName)) ∈ lw_all := lw_g (lw_at lw_m3 64 rfl) rfl
theorem q576 : (Jvm.Cond.code ({ cls := "java/lang/StringLatin1", name := "indexOf", desc := "([BIII)I" } : Jvm.MethodName) prog_27_method_22_code (4 : Nat) (Option.some Jvm.ClassFile.FieldType.int)) ∈ lw_all := lw_g (lw_at lw_m3 65 rfl) rfl
theorem q577 : (Jvm.Cond.methodLink "java/lang/StringLatin1" (88 : Nat) ({ cls := "java/lang/StringLatin1", name := "canEncode", desc := "(I)Z" } : Jvm.MethodName)) ∈ lw_all := lw_g (lw_at lw_m3 66 rfl) rfl
theorem q578 : (Jvm.Cond.static ({ cls := "java/lang/StringLatin1", name := "canEncode", desc := "(I)Z" } : Jvm.MethodName)) ∈ lw_all := lw_g (lw_at lw_m3 67 rfl) rfl
theorem q579 : (Jvm.Cond.code ({ cls := "java/lang/StringLatin1", name := "canEncode", desc := "(I)Z" } : Jvm.MethodName) prog_27_method_4_code (1 : Nat) (Option.some Jvm.ClassFile.FieldType.boolean)) ∈ lw_all := lw_g (lw_at lw_m3 68 rfl) rfl
theorem q580 : (Jvm.Cond.methodLink "java/lang/StringLatin1" (92 : Nat) ({ cls := "java/lang/Math", name := "max", desc := "(II)I" } : Jvm.MethodName)) ∈ lw_all := lw_g (lw_at lw_m3 69 rfl) rfl
theorem q581 : (Jvm.Cond.methodLink "java/lang/StringLatin1" (38 : Nat) ({ cls := "java/lang/Math", name := "min", desc := "(II)I" } : Jvm.MethodName)) ∈ lw_all := lw_g (lw_at lw_m3 70 rfl) rfl
theorem q582 : (Jvm.Cond.methodLink "java/lang/StringLatin1" (95 : Nat) ({ cls := "java/lang/StringLatin1", name := "indexOfChar", desc := "([BIII)I" } : Jvm.MethodName)) ∈ lw_all := lw_g (lw_at lw_m3 71 rfl) rfl
theorem q583 : (Jvm.Cond.static ({ cls := "java/lang/StringLatin1", name := "indexOfChar", desc := "([BIII)I" } : Jvm.MethodName)) ∈ lw_all := lw_g (lw_at lw_m3 72 rfl) rfl
theorem q584 : (Jvm.Cond.code ({ cls := "java/lang/StringLatin1", name := "indexOfChar", desc := "([BIII)I" } : Jvm.MethodName) prog_27_method_23_code (6 : Nat) (Option.some Jvm.ClassFile.FieldType.int)) ∈ lw_all := lw_g (lw_at lw_m3 73 rfl) rfl
theorem q633 : (Jvm.Cond.static ({ cls := "java/lang/StringLatin1", name := "equals", desc := "([B[B)Z" } : Jvm.MethodName)) ∈ lw_all := lw_g (lw_at lw_m3 122 rfl) rfl
theorem q634 : (Jvm.Cond.code ({ cls := "java/lang/StringLatin1", name := "equals", desc := "([B[B)Z" } : Jvm.MethodName) prog_27_method_13_code (3 : Nat) (Option.some Jvm.ClassFile.FieldType.boolean)) ∈ lw_all := lw_g (lw_at lw_m3 123 rfl) rfl
/-! jdk/internal/util/Preconditions -/
set_option maxRecDepth 100000
def RJ8 : String := "jdk/internal/util/Preconditions"
abbrev cJ8_checkIndex : ByteArray := prog_46_method_11_code
def yJ8_checkIndex : MethodName := ⟨RJ8, "checkIndex", "(IILjava/util/function/BiFunction;)I"⟩
def dkwJ8_checkIndex_0 : List UInt8 := [26, 155, 0, 8, 26, 27, 161, 0, 10, 44, 26, 27, 184, 0, 95, 191, 26, 172]
abbrev dktJ8_checkIndex_0 : List UInt8 := dkwJ8_checkIndex_0 ++ []
theorem dksJ8_checkIndex_0 : cJ8_checkIndex.data.toList.drop 0 = dktJ8_checkIndex_0 := by decide +kernel
theorem dJ8_checkIndex_0 : decode cJ8_checkIndex 0 = .ok (.iload_n 0, 1) := dk_26 (dk_at dksJ8_checkIndex_0 0 rfl rfl)
theorem dJ8_checkIndex_1 : decode cJ8_checkIndex 1 = .ok (.ifCond .lt 8, 3) := dk_155 0 8 (dk_at dksJ8_checkIndex_0 1 rfl rfl)
theorem dJ8_checkIndex_4 : decode cJ8_checkIndex 4 = .ok (.iload_n 0, 1) := dk_26 (dk_at dksJ8_checkIndex_0 4 rfl rfl)
theorem dJ8_checkIndex_5 : decode cJ8_checkIndex 5 = .ok (.iload_n 1, 1) := dk_27 (dk_at dksJ8_checkIndex_0 5 rfl rfl)
theorem dJ8_checkIndex_6 : decode cJ8_checkIndex 6 = .ok (.if_icmp .lt 10, 3) := dk_161 0 10 (dk_at dksJ8_checkIndex_0 6 rfl rfl)
theorem dJ8_checkIndex_9 : decode cJ8_checkIndex 9 = .ok (.aload_n 2, 1) := dk_44 (dk_at dksJ8_checkIndex_0 9 rfl rfl)
theorem dJ8_checkIndex_10 : decode cJ8_checkIndex 10 = .ok (.iload_n 0, 1) := dk_26 (dk_at dksJ8_checkIndex_0 10 rfl rfl)
theorem dJ8_checkIndex_11 : decode cJ8_checkIndex 11 = .ok (.iload_n 1, 1) := dk_27 (dk_at dksJ8_checkIndex_0 11 rfl rfl)
theorem dJ8_checkIndex_12 : decode cJ8_checkIndex 12 = .ok (.invokestatic 95, 3) := dk_184 0 95 (dk_at dksJ8_checkIndex_0 12 rfl rfl)
theorem dJ8_checkIndex_15 : decode cJ8_checkIndex 15 = .ok (.athrow, 1) := dk_191 (dk_at dksJ8_checkIndex_0 15 rfl rfl)
theorem dJ8_checkIndex_16 : decode cJ8_checkIndex 16 = .ok (.iload_n 0, 1) := dk_26 (dk_at dksJ8_checkIndex_0 16 rfl rfl)
theorem dJ8_checkIndex_17 : decode cJ8_checkIndex 17 = .ok (.ireturn, 1) := dk_172 (dk_at dksJ8_checkIndex_0 17 rfl rfl)
abbrev cJ8_checkFromIndexSize : ByteArray := prog_46_method_13_code
def yJ8_checkFromIndexSize : MethodName := ⟨RJ8, "checkFromIndexSize", "(IIILjava/util/function/BiFunction;)I"⟩
def dkwJ8_checkFromIndexSize_1 : List UInt8 := [172]
abbrev dktJ8_checkFromIndexSize_1 : List UInt8 := dkwJ8_checkFromIndexSize_1 ++ []
def dkwJ8_checkFromIndexSize_0 : List UInt8 := [28, 26, 128, 27, 128, 155, 0, 10, 27, 28, 26, 100, 164, 0, 11, 45, 26, 27, 28, 184, 0, 103, 191, 26]
abbrev dktJ8_checkFromIndexSize_0 : List UInt8 := dkwJ8_checkFromIndexSize_0 ++ dktJ8_checkFromIndexSize_1
theorem dksJ8_checkFromIndexSize_0 : cJ8_checkFromIndexSize.data.toList.drop 0 = dktJ8_checkFromIndexSize_0 := by decide +kernel
theorem dksJ8_checkFromIndexSize_1 : cJ8_checkFromIndexSize.data.toList.drop 24 = dktJ8_checkFromIndexSize_1 := dk_seg dksJ8_checkFromIndexSize_0 24 rfl rfl
theorem dJ8_checkFromIndexSize_0 : decode cJ8_checkFromIndexSize 0 = .ok (.iload_n 2, 1) := dk_28 (dk_at dksJ8_checkFromIndexSize_0 0 rfl rfl)
theorem dJ8_checkFromIndexSize_1 : decode cJ8_checkFromIndexSize 1 = .ok (.iload_n 0, 1) := dk_26 (dk_at dksJ8_checkFromIndexSize_0 1 rfl rfl)
theorem dJ8_checkFromIndexSize_2 : decode cJ8_checkFromIndexSize 2 = .ok (.ior, 1) := dk_128 (dk_at dksJ8_checkFromIndexSize_0 2 rfl rfl)
theorem dJ8_checkFromIndexSize_3 : decode cJ8_checkFromIndexSize 3 = .ok (.iload_n 1, 1) := dk_27 (dk_at dksJ8_checkFromIndexSize_0 3 rfl rfl)
theorem dJ8_checkFromIndexSize_4 : decode cJ8_checkFromIndexSize 4 = .ok (.ior, 1) := dk_128 (dk_at dksJ8_checkFromIndexSize_0 4 rfl rfl)
theorem dJ8_checkFromIndexSize_5 : decode cJ8_checkFromIndexSize 5 = .ok (.ifCond .lt 10, 3) := dk_155 0 10 (dk_at dksJ8_checkFromIndexSize_0 5 rfl rfl)
theorem dJ8_checkFromIndexSize_8 : decode cJ8_checkFromIndexSize 8 = .ok (.iload_n 1, 1) := dk_27 (dk_at dksJ8_checkFromIndexSize_0 8 rfl rfl)
theorem dJ8_checkFromIndexSize_9 : decode cJ8_checkFromIndexSize 9 = .ok (.iload_n 2, 1) := dk_28 (dk_at dksJ8_checkFromIndexSize_0 9 rfl rfl)
theorem dJ8_checkFromIndexSize_10 : decode cJ8_checkFromIndexSize 10 = .ok (.iload_n 0, 1) := dk_26 (dk_at dksJ8_checkFromIndexSize_0 10 rfl rfl)
theorem dJ8_checkFromIndexSize_11 : decode cJ8_checkFromIndexSize 11 = .ok (.isub, 1) := dk_100 (dk_at dksJ8_checkFromIndexSize_0 11 rfl rfl)
theorem dJ8_checkFromIndexSize_12 : decode cJ8_checkFromIndexSize 12 = .ok (.if_icmp .le 11, 3) := dk_164 0 11 (dk_at dksJ8_checkFromIndexSize_0 12 rfl rfl)
theorem dJ8_checkFromIndexSize_15 : decode cJ8_checkFromIndexSize 15 = .ok (.aload_n 3, 1) := dk_45 (dk_at dksJ8_checkFromIndexSize_0 15 rfl rfl)
theorem dJ8_checkFromIndexSize_16 : decode cJ8_checkFromIndexSize 16 = .ok (.iload_n 0, 1) := dk_26 (dk_at dksJ8_checkFromIndexSize_0 16 rfl rfl)
theorem dJ8_checkFromIndexSize_17 : decode cJ8_checkFromIndexSize 17 = .ok (.iload_n 1, 1) := dk_27 (dk_at dksJ8_checkFromIndexSize_0 17 rfl rfl)
theorem dJ8_checkFromIndexSize_18 : decode cJ8_checkFromIndexSize 18 = .ok (.iload_n 2, 1) := dk_28 (dk_at dksJ8_checkFromIndexSize_0 18 rfl rfl)
theorem dJ8_checkFromIndexSize_19 : decode cJ8_checkFromIndexSize 19 = .ok (.invokestatic 103, 3) := dk_184 0 103 (dk_at dksJ8_checkFromIndexSize_0 19 rfl rfl)
theorem dJ8_checkFromIndexSize_22 : decode cJ8_checkFromIndexSize 22 = .ok (.athrow, 1) := dk_191 (dk_at dksJ8_checkFromIndexSize_0 22 rfl rfl)
theorem dJ8_checkFromIndexSize_23 : decode cJ8_checkFromIndexSize 23 = .ok (.iload_n 0, 1) := dk_26 (dk_at dksJ8_checkFromIndexSize_0 23 rfl rfl)
theorem dJ8_checkFromIndexSize_24 : decode cJ8_checkFromIndexSize 24 = .ok (.ireturn, 1) := dk_172 (dk_at dksJ8_checkFromIndexSize_1 0 rfl rfl)
abbrev cJ8_checkFromToIndex : ByteArray := prog_46_method_12_code
def yJ8_checkFromToIndex : MethodName := ⟨RJ8, "checkFromToIndex", "(IIILjava/util/function/BiFunction;)I"⟩
def dkwJ8_checkFromToIndex_0 : List UInt8 := [26, 155, 0, 13, 26, 27, 163, 0, 8, 27, 28, 164, 0, 11, 45, 26, 27, 28, 184, 0, 99, 191, 26, 172]
abbrev dktJ8_checkFromToIndex_0 : List UInt8 := dkwJ8_checkFromToIndex_0 ++ []
theorem dksJ8_checkFromToIndex_0 : cJ8_checkFromToIndex.data.toList.drop 0 = dktJ8_checkFromToIndex_0 := by decide +kernel
theorem dJ8_checkFromToIndex_0 : decode cJ8_checkFromToIndex 0 = .ok (.iload_n 0, 1) := dk_26 (dk_at dksJ8_checkFromToIndex_0 0 rfl rfl)
theorem dJ8_checkFromToIndex_1 : decode cJ8_checkFromToIndex 1 = .ok (.ifCond .lt 13, 3) := dk_155 0 13 (dk_at dksJ8_checkFromToIndex_0 1 rfl rfl)
theorem dJ8_checkFromToIndex_4 : decode cJ8_checkFromToIndex 4 = .ok (.iload_n 0, 1) := dk_26 (dk_at dksJ8_checkFromToIndex_0 4 rfl rfl)
theorem dJ8_checkFromToIndex_5 : decode cJ8_checkFromToIndex 5 = .ok (.iload_n 1, 1) := dk_27 (dk_at dksJ8_checkFromToIndex_0 5 rfl rfl)
theorem dJ8_checkFromToIndex_6 : decode cJ8_checkFromToIndex 6 = .ok (.if_icmp .gt 8, 3) := dk_163 0 8 (dk_at dksJ8_checkFromToIndex_0 6 rfl rfl)
theorem dJ8_checkFromToIndex_9 : decode cJ8_checkFromToIndex 9 = .ok (.iload_n 1, 1) := dk_27 (dk_at dksJ8_checkFromToIndex_0 9 rfl rfl)
theorem dJ8_checkFromToIndex_10 : decode cJ8_checkFromToIndex 10 = .ok (.iload_n 2, 1) := dk_28 (dk_at dksJ8_checkFromToIndex_0 10 rfl rfl)
theorem dJ8_checkFromToIndex_11 : decode cJ8_checkFromToIndex 11 = .ok (.if_icmp .le 11, 3) := dk_164 0 11 (dk_at dksJ8_checkFromToIndex_0 11 rfl rfl)
theorem dJ8_checkFromToIndex_14 : decode cJ8_checkFromToIndex 14 = .ok (.aload_n 3, 1) := dk_45 (dk_at dksJ8_checkFromToIndex_0 14 rfl rfl)
theorem dJ8_checkFromToIndex_15 : decode cJ8_checkFromToIndex 15 = .ok (.iload_n 0, 1) := dk_26 (dk_at dksJ8_checkFromToIndex_0 15 rfl rfl)
theorem dJ8_checkFromToIndex_16 : decode cJ8_checkFromToIndex 16 = .ok (.iload_n 1, 1) := dk_27 (dk_at dksJ8_checkFromToIndex_0 16 rfl rfl)
theorem dJ8_checkFromToIndex_17 : decode cJ8_checkFromToIndex 17 = .ok (.iload_n 2, 1) := dk_28 (dk_at dksJ8_checkFromToIndex_0 17 rfl rfl)
theorem dJ8_checkFromToIndex_18 : decode cJ8_checkFromToIndex 18 = .ok (.invokestatic 99, 3) := dk_184 0 99 (dk_at dksJ8_checkFromToIndex_0 18 rfl rfl)
theorem dJ8_checkFromToIndex_21 : decode cJ8_checkFromToIndex 21 = .ok (.athrow, 1) := dk_191 (dk_at dksJ8_checkFromToIndex_0 21 rfl rfl)
theorem dJ8_checkFromToIndex_22 : decode cJ8_checkFromToIndex 22 = .ok (.iload_n 0, 1) := dk_26 (dk_at dksJ8_checkFromToIndex_0 22 rfl rfl)
theorem dJ8_checkFromToIndex_23 : decode cJ8_checkFromToIndex 23 = .ok (.ireturn, 1) := dk_172 (dk_at dksJ8_checkFromToIndex_0 23 rfl rfl)
theorem q43 : (Jvm.Cond.initialized "jdk/internal/util/Preconditions") ∈ lw_all := lw_g (lw_at lw_m1 12 rfl) rfl
theorem q180 : (Jvm.Cond.laysStatic "jdk/internal/util/Preconditions" "SIOOBE_FORMATTER" "Ljava/util/function/BiFunction;") ∈ lw_tbl := lw_at lw_m1 149 rfl
theorem q182 : (Jvm.Cond.static ({ cls := "jdk/internal/util/Preconditions", name := "checkIndex", desc := "(IILjava/util/function/BiFunction;)I" } : Jvm.MethodName)) ∈ lw_all := lw_g (lw_at lw_m1 151 rfl) rfl
theorem q183 : (Jvm.Cond.code ({ cls := "jdk/internal/util/Preconditions", name := "checkIndex", desc := "(IILjava/util/function/BiFunction;)I" } : Jvm.MethodName) prog_46_method_11_code (3 : Nat) (Option.some Jvm.ClassFile.FieldType.int)) ∈ lw_all := lw_g (lw_at lw_m1 152 rfl) rfl
theorem q270 : (Jvm.Cond.static ({ cls := "jdk/internal/util/Preconditions", name := "checkFromIndexSize", desc := "(IIILjava/util/function/BiFunction;)I" } : Jvm.MethodName)) ∈ lw_all := lw_g (lw_at lw_m1 239 rfl) rfl
theorem q271 : (Jvm.Cond.code ({ cls := "jdk/internal/util/Preconditions", name := "checkFromIndexSize", desc := "(IIILjava/util/function/BiFunction;)I" } : Jvm.MethodName) prog_46_method_13_code (4 : Nat) (Option.some Jvm.ClassFile.FieldType.int)) ∈ lw_all := lw_g (lw_at lw_m2 0 rfl) rfl
theorem q383 : (Jvm.Cond.static ({ cls := "jdk/internal/util/Preconditions", name := "checkFromToIndex", desc := "(IIILjava/util/function/BiFunction;)I" } : Jvm.MethodName)) ∈ lw_all := lw_g (lw_at lw_m2 112 rfl) rfl
theorem q384 : (Jvm.Cond.code ({ cls := "jdk/internal/util/Preconditions", name := "checkFromToIndex", desc := "(IIILjava/util/function/BiFunction;)I" } : Jvm.MethodName) prog_46_method_12_code (4 : Nat) (Option.some Jvm.ClassFile.FieldType.int)) ∈ lw_all := lw_g (lw_at lw_m2 113 rfl) rfl
/-! jdk/internal/util/ArraysSupport -/
set_option maxRecDepth 100000
def RJ9 : String := "jdk/internal/util/ArraysSupport"
abbrev cJ9_newLength : ByteArray := prog_45_method_27_code
def yJ9_newLength : MethodName := ⟨RJ9, "newLength", "(III)I"⟩
def dkwJ9_newLength_1 : List UInt8 := [184, 0, 201, 172]
abbrev dktJ9_newLength_1 : List UInt8 := dkwJ9_newLength_1 ++ []
def dkwJ9_newLength_0 : List UInt8 := [26, 27, 28, 184, 0, 194, 96, 62, 3, 29, 162, 0, 11, 29, 18, 200, 163, 0, 5, 29, 172, 26, 27]
abbrev dktJ9_newLength_0 : List UInt8 := dkwJ9_newLength_0 ++ dktJ9_newLength_1
theorem dksJ9_newLength_0 : cJ9_newLength.data.toList.drop 0 = dktJ9_newLength_0 := by decide +kernel
theorem dksJ9_newLength_1 : cJ9_newLength.data.toList.drop 23 = dktJ9_newLength_1 := dk_seg dksJ9_newLength_0 23 rfl rfl
theorem dJ9_newLength_0 : decode cJ9_newLength 0 = .ok (.iload_n 0, 1) := dk_26 (dk_at dksJ9_newLength_0 0 rfl rfl)
theorem dJ9_newLength_1 : decode cJ9_newLength 1 = .ok (.iload_n 1, 1) := dk_27 (dk_at dksJ9_newLength_0 1 rfl rfl)
theorem dJ9_newLength_2 : decode cJ9_newLength 2 = .ok (.iload_n 2, 1) := dk_28 (dk_at dksJ9_newLength_0 2 rfl rfl)
theorem dJ9_newLength_3 : decode cJ9_newLength 3 = .ok (.invokestatic 194, 3) := dk_184 0 194 (dk_at dksJ9_newLength_0 3 rfl rfl)
theorem dJ9_newLength_6 : decode cJ9_newLength 6 = .ok (.iadd, 1) := dk_96 (dk_at dksJ9_newLength_0 6 rfl rfl)
theorem dJ9_newLength_7 : decode cJ9_newLength 7 = .ok (.istore_n 3, 1) := dk_62 (dk_at dksJ9_newLength_0 7 rfl rfl)
theorem dJ9_newLength_8 : decode cJ9_newLength 8 = .ok (.iconst 0, 1) := dk_3 (dk_at dksJ9_newLength_0 8 rfl rfl)
theorem dJ9_newLength_9 : decode cJ9_newLength 9 = .ok (.iload_n 3, 1) := dk_29 (dk_at dksJ9_newLength_0 9 rfl rfl)
theorem dJ9_newLength_10 : decode cJ9_newLength 10 = .ok (.if_icmp .ge 11, 3) := dk_162 0 11 (dk_at dksJ9_newLength_0 10 rfl rfl)
theorem dJ9_newLength_13 : decode cJ9_newLength 13 = .ok (.iload_n 3, 1) := dk_29 (dk_at dksJ9_newLength_0 13 rfl rfl)
theorem dJ9_newLength_14 : decode cJ9_newLength 14 = .ok (.ldc 200, 2) := dk_18 200 (dk_at dksJ9_newLength_0 14 rfl rfl)
theorem dJ9_newLength_16 : decode cJ9_newLength 16 = .ok (.if_icmp .gt 5, 3) := dk_163 0 5 (dk_at dksJ9_newLength_0 16 rfl rfl)
theorem dJ9_newLength_19 : decode cJ9_newLength 19 = .ok (.iload_n 3, 1) := dk_29 (dk_at dksJ9_newLength_0 19 rfl rfl)
theorem dJ9_newLength_20 : decode cJ9_newLength 20 = .ok (.ireturn, 1) := dk_172 (dk_at dksJ9_newLength_0 20 rfl rfl)
theorem dJ9_newLength_21 : decode cJ9_newLength 21 = .ok (.iload_n 0, 1) := dk_26 (dk_at dksJ9_newLength_0 21 rfl rfl)
theorem dJ9_newLength_22 : decode cJ9_newLength 22 = .ok (.iload_n 1, 1) := dk_27 (dk_at dksJ9_newLength_0 22 rfl rfl)
theorem dJ9_newLength_23 : decode cJ9_newLength 23 = .ok (.invokestatic 201, 3) := dk_184 0 201 (dk_at dksJ9_newLength_1 0 rfl rfl)
theorem dJ9_newLength_26 : decode cJ9_newLength 26 = .ok (.ireturn, 1) := dk_172 (dk_at dksJ9_newLength_1 3 rfl rfl)
abbrev cJ9_hugeLength : ByteArray := prog_45_method_28_code
def yJ9_hugeLength : MethodName := ⟨RJ9, "hugeLength", "(II)I"⟩
def dkwJ9_hugeLength_2 : List UInt8 := [191, 28, 18, 200, 163, 0, 6, 18, 200, 172, 28, 172]
abbrev dktJ9_hugeLength_2 : List UInt8 := dkwJ9_hugeLength_2 ++ []
def dkwJ9_hugeLength_1 : List UInt8 := [26, 182, 0, 98, 18, 208, 182, 0, 94, 27, 182, 0, 98, 18, 210, 182, 0, 94, 182, 0, 101, 183, 0, 212]
abbrev dktJ9_hugeLength_1 : List UInt8 := dkwJ9_hugeLength_1 ++ dktJ9_hugeLength_2
def dkwJ9_hugeLength_0 : List UInt8 := [26, 27, 96, 61, 28, 156, 0, 44, 187, 0, 204, 89, 187, 0, 89, 89, 183, 0, 91, 18, 206, 182, 0, 94]
abbrev dktJ9_hugeLength_0 : List UInt8 := dkwJ9_hugeLength_0 ++ dktJ9_hugeLength_1
theorem dksJ9_hugeLength_0 : cJ9_hugeLength.data.toList.drop 0 = dktJ9_hugeLength_0 := by decide +kernel
theorem dksJ9_hugeLength_1 : cJ9_hugeLength.data.toList.drop 24 = dktJ9_hugeLength_1 := dk_seg dksJ9_hugeLength_0 24 rfl rfl
theorem dksJ9_hugeLength_2 : cJ9_hugeLength.data.toList.drop 48 = dktJ9_hugeLength_2 := dk_seg dksJ9_hugeLength_1 24 rfl rfl
theorem dJ9_hugeLength_0 : decode cJ9_hugeLength 0 = .ok (.iload_n 0, 1) := dk_26 (dk_at dksJ9_hugeLength_0 0 rfl rfl)
theorem dJ9_hugeLength_1 : decode cJ9_hugeLength 1 = .ok (.iload_n 1, 1) := dk_27 (dk_at dksJ9_hugeLength_0 1 rfl rfl)
theorem dJ9_hugeLength_2 : decode cJ9_hugeLength 2 = .ok (.iadd, 1) := dk_96 (dk_at dksJ9_hugeLength_0 2 rfl rfl)
theorem dJ9_hugeLength_3 : decode cJ9_hugeLength 3 = .ok (.istore_n 2, 1) := dk_61 (dk_at dksJ9_hugeLength_0 3 rfl rfl)
theorem dJ9_hugeLength_4 : decode cJ9_hugeLength 4 = .ok (.iload_n 2, 1) := dk_28 (dk_at dksJ9_hugeLength_0 4 rfl rfl)
theorem dJ9_hugeLength_5 : decode cJ9_hugeLength 5 = .ok (.ifCond .ge 44, 3) := dk_156 0 44 (dk_at dksJ9_hugeLength_0 5 rfl rfl)
theorem dJ9_hugeLength_8 : decode cJ9_hugeLength 8 = .ok (.new 204, 3) := dk_187 0 204 (dk_at dksJ9_hugeLength_0 8 rfl rfl)
theorem dJ9_hugeLength_11 : decode cJ9_hugeLength 11 = .ok (.dup, 1) := dk_89 (dk_at dksJ9_hugeLength_0 11 rfl rfl)
theorem dJ9_hugeLength_12 : decode cJ9_hugeLength 12 = .ok (.new 89, 3) := dk_187 0 89 (dk_at dksJ9_hugeLength_0 12 rfl rfl)
theorem dJ9_hugeLength_15 : decode cJ9_hugeLength 15 = .ok (.dup, 1) := dk_89 (dk_at dksJ9_hugeLength_0 15 rfl rfl)
theorem dJ9_hugeLength_16 : decode cJ9_hugeLength 16 = .ok (.invokespecial 91, 3) := dk_183 0 91 (dk_at dksJ9_hugeLength_0 16 rfl rfl)
theorem dJ9_hugeLength_19 : decode cJ9_hugeLength 19 = .ok (.ldc 206, 2) := dk_18 206 (dk_at dksJ9_hugeLength_0 19 rfl rfl)
theorem dJ9_hugeLength_21 : decode cJ9_hugeLength 21 = .ok (.invokevirtual 94, 3) := dk_182 0 94 (dk_at dksJ9_hugeLength_0 21 rfl rfl)
theorem dJ9_hugeLength_24 : decode cJ9_hugeLength 24 = .ok (.iload_n 0, 1) := dk_26 (dk_at dksJ9_hugeLength_1 0 rfl rfl)
theorem dJ9_hugeLength_25 : decode cJ9_hugeLength 25 = .ok (.invokevirtual 98, 3) := dk_182 0 98 (dk_at dksJ9_hugeLength_1 1 rfl rfl)
theorem dJ9_hugeLength_28 : decode cJ9_hugeLength 28 = .ok (.ldc 208, 2) := dk_18 208 (dk_at dksJ9_hugeLength_1 4 rfl rfl)
theorem dJ9_hugeLength_30 : decode cJ9_hugeLength 30 = .ok (.invokevirtual 94, 3) := dk_182 0 94 (dk_at dksJ9_hugeLength_1 6 rfl rfl)
theorem dJ9_hugeLength_33 : decode cJ9_hugeLength 33 = .ok (.iload_n 1, 1) := dk_27 (dk_at dksJ9_hugeLength_1 9 rfl rfl)
theorem dJ9_hugeLength_34 : decode cJ9_hugeLength 34 = .ok (.invokevirtual 98, 3) := dk_182 0 98 (dk_at dksJ9_hugeLength_1 10 rfl rfl)
theorem dJ9_hugeLength_37 : decode cJ9_hugeLength 37 = .ok (.ldc 210, 2) := dk_18 210 (dk_at dksJ9_hugeLength_1 13 rfl rfl)
theorem dJ9_hugeLength_39 : decode cJ9_hugeLength 39 = .ok (.invokevirtual 94, 3) := dk_182 0 94 (dk_at dksJ9_hugeLength_1 15 rfl rfl)
theorem dJ9_hugeLength_42 : decode cJ9_hugeLength 42 = .ok (.invokevirtual 101, 3) := dk_182 0 101 (dk_at dksJ9_hugeLength_1 18 rfl rfl)
theorem dJ9_hugeLength_45 : decode cJ9_hugeLength 45 = .ok (.invokespecial 212, 3) := dk_183 0 212 (dk_at dksJ9_hugeLength_1 21 rfl rfl)
theorem dJ9_hugeLength_48 : decode cJ9_hugeLength 48 = .ok (.athrow, 1) := dk_191 (dk_at dksJ9_hugeLength_2 0 rfl rfl)
theorem dJ9_hugeLength_49 : decode cJ9_hugeLength 49 = .ok (.iload_n 2, 1) := dk_28 (dk_at dksJ9_hugeLength_2 1 rfl rfl)
theorem dJ9_hugeLength_50 : decode cJ9_hugeLength 50 = .ok (.ldc 200, 2) := dk_18 200 (dk_at dksJ9_hugeLength_2 2 rfl rfl)
theorem dJ9_hugeLength_52 : decode cJ9_hugeLength 52 = .ok (.if_icmp .gt 6, 3) := dk_163 0 6 (dk_at dksJ9_hugeLength_2 4 rfl rfl)
theorem dJ9_hugeLength_55 : decode cJ9_hugeLength 55 = .ok (.ldc 200, 2) := dk_18 200 (dk_at dksJ9_hugeLength_2 7 rfl rfl)
theorem dJ9_hugeLength_57 : decode cJ9_hugeLength 57 = .ok (.ireturn, 1) := dk_172 (dk_at dksJ9_hugeLength_2 9 rfl rfl)
theorem dJ9_hugeLength_58 : decode cJ9_hugeLength 58 = .ok (.iload_n 2, 1) := dk_28 (dk_at dksJ9_hugeLength_2 10 rfl rfl)
theorem dJ9_hugeLength_59 : decode cJ9_hugeLength 59 = .ok (.ireturn, 1) := dk_172 (dk_at dksJ9_hugeLength_2 11 rfl rfl)
theorem q44 : (Jvm.Cond.initialized "jdk/internal/util/ArraysSupport") ∈ lw_all := lw_g (lw_at lw_m1 13 rfl) rfl
theorem q219 : (Jvm.Cond.static ({ cls := "jdk/internal/util/ArraysSupport", name := "newLength", desc := "(III)I" } : Jvm.MethodName)) ∈ lw_all := lw_g (lw_at lw_m1 188 rfl) rfl
theorem q220 : (Jvm.Cond.code ({ cls := "jdk/internal/util/ArraysSupport", name := "newLength", desc := "(III)I" } : Jvm.MethodName) prog_45_method_27_code (4 : Nat) (Option.some Jvm.ClassFile.FieldType.int)) ∈ lw_all := lw_g (lw_at lw_m1 189 rfl) rfl
theorem q221 : (Jvm.Cond.methodLink "jdk/internal/util/ArraysSupport" (194 : Nat) ({ cls := "java/lang/Math", name := "max", desc := "(II)I" } : Jvm.MethodName)) ∈ lw_all := lw_g (lw_at lw_m1 190 rfl) rfl
theorem q224 : (Jvm.Cond.constant "jdk/internal/util/ArraysSupport" (200 : Nat) (2147483639 : Int32)) ∈ lw_all := lw_g (lw_at lw_m1 193 rfl) rfl
theorem q225 : (Jvm.Cond.methodLink "jdk/internal/util/ArraysSupport" (201 : Nat) ({ cls := "jdk/internal/util/ArraysSupport", name := "hugeLength", desc := "(II)I" } : Jvm.MethodName)) ∈ lw_all := lw_g (lw_at lw_m1 194 rfl) rfl
theorem q226 : (Jvm.Cond.static ({ cls := "jdk/internal/util/ArraysSupport", name := "hugeLength", desc := "(II)I" } : Jvm.MethodName)) ∈ lw_all := lw_g (lw_at lw_m1 195 rfl) rfl
theorem q227 : (Jvm.Cond.code ({ cls := "jdk/internal/util/ArraysSupport", name := "hugeLength", desc := "(II)I" } : Jvm.MethodName) prog_45_method_28_code (3 : Nat) (Option.some Jvm.ClassFile.FieldType.int)) ∈ lw_all := lw_g (lw_at lw_m1 196 rfl) rfl
/-! java/lang/Math -/
set_option maxRecDepth 100000
def RJ10 : String := "java/lang/Math"
abbrev cJ10_max : ByteArray := prog_22_method_65_code
def yJ10_max : MethodName := ⟨RJ10, "max", "(II)I"⟩
def dkwJ10_max_0 : List UInt8 := [26, 27, 161, 0, 7, 26, 167, 0, 4, 27, 172]
abbrev dktJ10_max_0 : List UInt8 := dkwJ10_max_0 ++ []
theorem dksJ10_max_0 : cJ10_max.data.toList.drop 0 = dktJ10_max_0 := by decide +kernel
theorem dJ10_max_0 : decode cJ10_max 0 = .ok (.iload_n 0, 1) := dk_26 (dk_at dksJ10_max_0 0 rfl rfl)
theorem dJ10_max_1 : decode cJ10_max 1 = .ok (.iload_n 1, 1) := dk_27 (dk_at dksJ10_max_0 1 rfl rfl)
theorem dJ10_max_2 : decode cJ10_max 2 = .ok (.if_icmp .lt 7, 3) := dk_161 0 7 (dk_at dksJ10_max_0 2 rfl rfl)
theorem dJ10_max_5 : decode cJ10_max 5 = .ok (.iload_n 0, 1) := dk_26 (dk_at dksJ10_max_0 5 rfl rfl)
theorem dJ10_max_6 : decode cJ10_max 6 = .ok (.goto 4, 3) := dk_167 0 4 (dk_at dksJ10_max_0 6 rfl rfl)
theorem dJ10_max_9 : decode cJ10_max 9 = .ok (.iload_n 1, 1) := dk_27 (dk_at dksJ10_max_0 9 rfl rfl)
theorem dJ10_max_10 : decode cJ10_max 10 = .ok (.ireturn, 1) := dk_172 (dk_at dksJ10_max_0 10 rfl rfl)
abbrev cJ10_min : ByteArray := prog_22_method_69_code
def yJ10_min : MethodName := ⟨RJ10, "min", "(II)I"⟩
def dkwJ10_min_0 : List UInt8 := [26, 27, 163, 0, 7, 26, 167, 0, 4, 27, 172]
abbrev dktJ10_min_0 : List UInt8 := dkwJ10_min_0 ++ []
theorem dksJ10_min_0 : cJ10_min.data.toList.drop 0 = dktJ10_min_0 := by decide +kernel
theorem dJ10_min_0 : decode cJ10_min 0 = .ok (.iload_n 0, 1) := dk_26 (dk_at dksJ10_min_0 0 rfl rfl)
theorem dJ10_min_1 : decode cJ10_min 1 = .ok (.iload_n 1, 1) := dk_27 (dk_at dksJ10_min_0 1 rfl rfl)
theorem dJ10_min_2 : decode cJ10_min 2 = .ok (.if_icmp .gt 7, 3) := dk_163 0 7 (dk_at dksJ10_min_0 2 rfl rfl)
theorem dJ10_min_5 : decode cJ10_min 5 = .ok (.iload_n 0, 1) := dk_26 (dk_at dksJ10_min_0 5 rfl rfl)
theorem dJ10_min_6 : decode cJ10_min 6 = .ok (.goto 4, 3) := dk_167 0 4 (dk_at dksJ10_min_0 6 rfl rfl)
theorem dJ10_min_9 : decode cJ10_min 9 = .ok (.iload_n 1, 1) := dk_27 (dk_at dksJ10_min_0 9 rfl rfl)
theorem dJ10_min_10 : decode cJ10_min 10 = .ok (.ireturn, 1) := dk_172 (dk_at dksJ10_min_0 10 rfl rfl)
theorem q45 : (Jvm.Cond.initialized "java/lang/Math") ∈ lw_all := lw_g (lw_at lw_m1 14 rfl) rfl
theorem q222 : (Jvm.Cond.static ({ cls := "java/lang/Math", name := "max", desc := "(II)I" } : Jvm.MethodName)) ∈ lw_all := lw_g (lw_at lw_m1 191 rfl) rfl
theorem q223 : (Jvm.Cond.code ({ cls := "java/lang/Math", name := "max", desc := "(II)I" } : Jvm.MethodName) prog_22_method_65_code (2 : Nat) (Option.some Jvm.ClassFile.FieldType.int)) ∈ lw_all := lw_g (lw_at lw_m1 192 rfl) rfl
theorem q240 : (Jvm.Cond.static ({ cls := "java/lang/Math", name := "min", desc := "(II)I" } : Jvm.MethodName)) ∈ lw_all := lw_g (lw_at lw_m1 209 rfl) rfl
theorem q241 : (Jvm.Cond.code ({ cls := "java/lang/Math", name := "min", desc := "(II)I" } : Jvm.MethodName) prog_22_method_69_code (2 : Nat) (Option.some Jvm.ClassFile.FieldType.int)) ∈ lw_all := lw_g (lw_at lw_m1 210 rfl) rfl
/-! java/util/Arrays -/
set_option maxRecDepth 100000
def RJ11 : String := "java/util/Arrays"
abbrev cJ11_copyOf : ByteArray := prog_37_method_121_code
def yJ11_copyOf : MethodName := ⟨RJ11, "copyOf", "([BI)[B"⟩
def dkwJ11_copyOf_1 : List UInt8 := [27, 184, 1, 48, 184, 0, 150, 44, 176]
abbrev dktJ11_copyOf_1 : List UInt8 := dkwJ11_copyOf_1 ++ []
def dkwJ11_copyOf_0 : List UInt8 := [27, 42, 190, 160, 0, 11, 42, 182, 1, 54, 192, 1, 55, 176, 27, 188, 8, 77, 42, 3, 44, 3, 42, 190]
abbrev dktJ11_copyOf_0 : List UInt8 := dkwJ11_copyOf_0 ++ dktJ11_copyOf_1
theorem dksJ11_copyOf_0 : cJ11_copyOf.data.toList.drop 0 = dktJ11_copyOf_0 := by decide +kernel
theorem dksJ11_copyOf_1 : cJ11_copyOf.data.toList.drop 24 = dktJ11_copyOf_1 := dk_seg dksJ11_copyOf_0 24 rfl rfl
theorem dJ11_copyOf_0 : decode cJ11_copyOf 0 = .ok (.iload_n 1, 1) := dk_27 (dk_at dksJ11_copyOf_0 0 rfl rfl)
theorem dJ11_copyOf_1 : decode cJ11_copyOf 1 = .ok (.aload_n 0, 1) := dk_42 (dk_at dksJ11_copyOf_0 1 rfl rfl)
theorem dJ11_copyOf_2 : decode cJ11_copyOf 2 = .ok (.arraylength, 1) := dk_190 (dk_at dksJ11_copyOf_0 2 rfl rfl)
theorem dJ11_copyOf_3 : decode cJ11_copyOf 3 = .ok (.if_icmp .ne 11, 3) := dk_160 0 11 (dk_at dksJ11_copyOf_0 3 rfl rfl)
theorem dJ11_copyOf_6 : decode cJ11_copyOf 6 = .ok (.aload_n 0, 1) := dk_42 (dk_at dksJ11_copyOf_0 6 rfl rfl)
theorem dJ11_copyOf_7 : decode cJ11_copyOf 7 = .ok (.invokevirtual 310, 3) := dk_182 1 54 (dk_at dksJ11_copyOf_0 7 rfl rfl)
theorem dJ11_copyOf_10 : decode cJ11_copyOf 10 = .ok (.checkcast 311, 3) := dk_192 1 55 (dk_at dksJ11_copyOf_0 10 rfl rfl)
theorem dJ11_copyOf_13 : decode cJ11_copyOf 13 = .ok (.areturn, 1) := dk_176 (dk_at dksJ11_copyOf_0 13 rfl rfl)
theorem dJ11_copyOf_14 : decode cJ11_copyOf 14 = .ok (.iload_n 1, 1) := dk_27 (dk_at dksJ11_copyOf_0 14 rfl rfl)
theorem dJ11_copyOf_15 : decode cJ11_copyOf 15 = .ok (.newarray .byte, 2) := dk_188_8 (dk_at dksJ11_copyOf_0 15 rfl rfl)
theorem dJ11_copyOf_17 : decode cJ11_copyOf 17 = .ok (.astore_n 2, 1) := dk_77 (dk_at dksJ11_copyOf_0 17 rfl rfl)
theorem dJ11_copyOf_18 : decode cJ11_copyOf 18 = .ok (.aload_n 0, 1) := dk_42 (dk_at dksJ11_copyOf_0 18 rfl rfl)
theorem dJ11_copyOf_19 : decode cJ11_copyOf 19 = .ok (.iconst 0, 1) := dk_3 (dk_at dksJ11_copyOf_0 19 rfl rfl)
theorem dJ11_copyOf_20 : decode cJ11_copyOf 20 = .ok (.aload_n 2, 1) := dk_44 (dk_at dksJ11_copyOf_0 20 rfl rfl)
theorem dJ11_copyOf_21 : decode cJ11_copyOf 21 = .ok (.iconst 0, 1) := dk_3 (dk_at dksJ11_copyOf_0 21 rfl rfl)
theorem dJ11_copyOf_22 : decode cJ11_copyOf 22 = .ok (.aload_n 0, 1) := dk_42 (dk_at dksJ11_copyOf_0 22 rfl rfl)
theorem dJ11_copyOf_23 : decode cJ11_copyOf 23 = .ok (.arraylength, 1) := dk_190 (dk_at dksJ11_copyOf_0 23 rfl rfl)
theorem dJ11_copyOf_24 : decode cJ11_copyOf 24 = .ok (.iload_n 1, 1) := dk_27 (dk_at dksJ11_copyOf_1 0 rfl rfl)
theorem dJ11_copyOf_25 : decode cJ11_copyOf 25 = .ok (.invokestatic 304, 3) := dk_184 1 48 (dk_at dksJ11_copyOf_1 1 rfl rfl)
theorem dJ11_copyOf_28 : decode cJ11_copyOf 28 = .ok (.invokestatic 150, 3) := dk_184 0 150 (dk_at dksJ11_copyOf_1 4 rfl rfl)
theorem dJ11_copyOf_31 : decode cJ11_copyOf 31 = .ok (.aload_n 2, 1) := dk_44 (dk_at dksJ11_copyOf_1 7 rfl rfl)
theorem dJ11_copyOf_32 : decode cJ11_copyOf 32 = .ok (.areturn, 1) := dk_176 (dk_at dksJ11_copyOf_1 8 rfl rfl)
abbrev cJ11_copyOfRange : ByteArray := prog_37_method_132_code
def yJ11_copyOfRange : MethodName := ⟨RJ11, "copyOfRange", "([BII)[B"⟩
def dkwJ11_copyOfRange_1 : List UInt8 := [176]
abbrev dktJ11_copyOfRange_1 : List UInt8 := dkwJ11_copyOfRange_1 ++ []
def dkwJ11_copyOfRange_0 : List UInt8 := [27, 154, 0, 9, 28, 42, 190, 159, 0, 10, 42, 27, 28, 184, 1, 83, 176, 42, 182, 1, 54, 192, 1, 55]
abbrev dktJ11_copyOfRange_0 : List UInt8 := dkwJ11_copyOfRange_0 ++ dktJ11_copyOfRange_1
theorem dksJ11_copyOfRange_0 : cJ11_copyOfRange.data.toList.drop 0 = dktJ11_copyOfRange_0 := by decide +kernel
theorem dksJ11_copyOfRange_1 : cJ11_copyOfRange.data.toList.drop 24 = dktJ11_copyOfRange_1 := dk_seg dksJ11_copyOfRange_0 24 rfl rfl
theorem dJ11_copyOfRange_0 : decode cJ11_copyOfRange 0 = .ok (.iload_n 1, 1) := dk_27 (dk_at dksJ11_copyOfRange_0 0 rfl rfl)
theorem dJ11_copyOfRange_1 : decode cJ11_copyOfRange 1 = .ok (.ifCond .ne 9, 3) := dk_154 0 9 (dk_at dksJ11_copyOfRange_0 1 rfl rfl)
theorem dJ11_copyOfRange_4 : decode cJ11_copyOfRange 4 = .ok (.iload_n 2, 1) := dk_28 (dk_at dksJ11_copyOfRange_0 4 rfl rfl)
theorem dJ11_copyOfRange_5 : decode cJ11_copyOfRange 5 = .ok (.aload_n 0, 1) := dk_42 (dk_at dksJ11_copyOfRange_0 5 rfl rfl)
theorem dJ11_copyOfRange_6 : decode cJ11_copyOfRange 6 = .ok (.arraylength, 1) := dk_190 (dk_at dksJ11_copyOfRange_0 6 rfl rfl)
theorem dJ11_copyOfRange_7 : decode cJ11_copyOfRange 7 = .ok (.if_icmp .eq 10, 3) := dk_159 0 10 (dk_at dksJ11_copyOfRange_0 7 rfl rfl)
theorem dJ11_copyOfRange_10 : decode cJ11_copyOfRange 10 = .ok (.aload_n 0, 1) := dk_42 (dk_at dksJ11_copyOfRange_0 10 rfl rfl)
theorem dJ11_copyOfRange_11 : decode cJ11_copyOfRange 11 = .ok (.iload_n 1, 1) := dk_27 (dk_at dksJ11_copyOfRange_0 11 rfl rfl)
theorem dJ11_copyOfRange_12 : decode cJ11_copyOfRange 12 = .ok (.iload_n 2, 1) := dk_28 (dk_at dksJ11_copyOfRange_0 12 rfl rfl)
theorem dJ11_copyOfRange_13 : decode cJ11_copyOfRange 13 = .ok (.invokestatic 339, 3) := dk_184 1 83 (dk_at dksJ11_copyOfRange_0 13 rfl rfl)
theorem dJ11_copyOfRange_16 : decode cJ11_copyOfRange 16 = .ok (.areturn, 1) := dk_176 (dk_at dksJ11_copyOfRange_0 16 rfl rfl)
theorem dJ11_copyOfRange_17 : decode cJ11_copyOfRange 17 = .ok (.aload_n 0, 1) := dk_42 (dk_at dksJ11_copyOfRange_0 17 rfl rfl)
theorem dJ11_copyOfRange_18 : decode cJ11_copyOfRange 18 = .ok (.invokevirtual 310, 3) := dk_182 1 54 (dk_at dksJ11_copyOfRange_0 18 rfl rfl)
theorem dJ11_copyOfRange_21 : decode cJ11_copyOfRange 21 = .ok (.checkcast 311, 3) := dk_192 1 55 (dk_at dksJ11_copyOfRange_0 21 rfl rfl)
theorem dJ11_copyOfRange_24 : decode cJ11_copyOfRange 24 = .ok (.areturn, 1) := dk_176 (dk_at dksJ11_copyOfRange_1 0 rfl rfl)
abbrev cJ11_copyOfRangeByte : ByteArray := prog_37_method_133_code
def yJ11_copyOfRangeByte : MethodName := ⟨RJ11, "copyOfRangeByte", "([BII)[B"⟩
def dkwJ11_copyOfRangeByte_1 : List UInt8 := [184, 1, 48, 184, 0, 150, 25, 4, 176]
abbrev dktJ11_copyOfRangeByte_1 : List UInt8 := dkwJ11_copyOfRangeByte_1 ++ []
def dkwJ11_copyOfRangeByte_0 : List UInt8 := [27, 28, 184, 1, 87, 28, 27, 100, 62, 29, 188, 8, 58, 4, 42, 27, 25, 4, 3, 42, 190, 27, 100, 29]
abbrev dktJ11_copyOfRangeByte_0 : List UInt8 := dkwJ11_copyOfRangeByte_0 ++ dktJ11_copyOfRangeByte_1
theorem dksJ11_copyOfRangeByte_0 : cJ11_copyOfRangeByte.data.toList.drop 0 = dktJ11_copyOfRangeByte_0 := by decide +kernel
theorem dksJ11_copyOfRangeByte_1 : cJ11_copyOfRangeByte.data.toList.drop 24 = dktJ11_copyOfRangeByte_1 := dk_seg dksJ11_copyOfRangeByte_0 24 rfl rfl
theorem dJ11_copyOfRangeByte_0 : decode cJ11_copyOfRangeByte 0 = .ok (.iload_n 1, 1) := dk_27 (dk_at dksJ11_copyOfRangeByte_0 0 rfl rfl)
theorem dJ11_copyOfRangeByte_1 : decode cJ11_copyOfRangeByte 1 = .ok (.iload_n 2, 1) := dk_28 (dk_at dksJ11_copyOfRangeByte_0 1 rfl rfl)
theorem dJ11_copyOfRangeByte_2 : decode cJ11_copyOfRangeByte 2 = .ok (.invokestatic 343, 3) := dk_184 1 87 (dk_at dksJ11_copyOfRangeByte_0 2 rfl rfl)
theorem dJ11_copyOfRangeByte_5 : decode cJ11_copyOfRangeByte 5 = .ok (.iload_n 2, 1) := dk_28 (dk_at dksJ11_copyOfRangeByte_0 5 rfl rfl)
theorem dJ11_copyOfRangeByte_6 : decode cJ11_copyOfRangeByte 6 = .ok (.iload_n 1, 1) := dk_27 (dk_at dksJ11_copyOfRangeByte_0 6 rfl rfl)
theorem dJ11_copyOfRangeByte_7 : decode cJ11_copyOfRangeByte 7 = .ok (.isub, 1) := dk_100 (dk_at dksJ11_copyOfRangeByte_0 7 rfl rfl)
theorem dJ11_copyOfRangeByte_8 : decode cJ11_copyOfRangeByte 8 = .ok (.istore_n 3, 1) := dk_62 (dk_at dksJ11_copyOfRangeByte_0 8 rfl rfl)
theorem dJ11_copyOfRangeByte_9 : decode cJ11_copyOfRangeByte 9 = .ok (.iload_n 3, 1) := dk_29 (dk_at dksJ11_copyOfRangeByte_0 9 rfl rfl)
theorem dJ11_copyOfRangeByte_10 : decode cJ11_copyOfRangeByte 10 = .ok (.newarray .byte, 2) := dk_188_8 (dk_at dksJ11_copyOfRangeByte_0 10 rfl rfl)
theorem dJ11_copyOfRangeByte_12 : decode cJ11_copyOfRangeByte 12 = .ok (.astore 4, 2) := dk_58 4 (dk_at dksJ11_copyOfRangeByte_0 12 rfl rfl)
theorem dJ11_copyOfRangeByte_14 : decode cJ11_copyOfRangeByte 14 = .ok (.aload_n 0, 1) := dk_42 (dk_at dksJ11_copyOfRangeByte_0 14 rfl rfl)
theorem dJ11_copyOfRangeByte_15 : decode cJ11_copyOfRangeByte 15 = .ok (.iload_n 1, 1) := dk_27 (dk_at dksJ11_copyOfRangeByte_0 15 rfl rfl)
theorem dJ11_copyOfRangeByte_16 : decode cJ11_copyOfRangeByte 16 = .ok (.aload 4, 2) := dk_25 4 (dk_at dksJ11_copyOfRangeByte_0 16 rfl rfl)
theorem dJ11_copyOfRangeByte_18 : decode cJ11_copyOfRangeByte 18 = .ok (.iconst 0, 1) := dk_3 (dk_at dksJ11_copyOfRangeByte_0 18 rfl rfl)
theorem dJ11_copyOfRangeByte_19 : decode cJ11_copyOfRangeByte 19 = .ok (.aload_n 0, 1) := dk_42 (dk_at dksJ11_copyOfRangeByte_0 19 rfl rfl)
theorem dJ11_copyOfRangeByte_20 : decode cJ11_copyOfRangeByte 20 = .ok (.arraylength, 1) := dk_190 (dk_at dksJ11_copyOfRangeByte_0 20 rfl rfl)
theorem dJ11_copyOfRangeByte_21 : decode cJ11_copyOfRangeByte 21 = .ok (.iload_n 1, 1) := dk_27 (dk_at dksJ11_copyOfRangeByte_0 21 rfl rfl)
theorem dJ11_copyOfRangeByte_22 : decode cJ11_copyOfRangeByte 22 = .ok (.isub, 1) := dk_100 (dk_at dksJ11_copyOfRangeByte_0 22 rfl rfl)
theorem dJ11_copyOfRangeByte_23 : decode cJ11_copyOfRangeByte 23 = .ok (.iload_n 3, 1) := dk_29 (dk_at dksJ11_copyOfRangeByte_0 23 rfl rfl)
theorem dJ11_copyOfRangeByte_24 : decode cJ11_copyOfRangeByte 24 = .ok (.invokestatic 304, 3) := dk_184 1 48 (dk_at dksJ11_copyOfRangeByte_1 0 rfl rfl)
theorem dJ11_copyOfRangeByte_27 : decode cJ11_copyOfRangeByte 27 = .ok (.invokestatic 150, 3) := dk_184 0 150 (dk_at dksJ11_copyOfRangeByte_1 3 rfl rfl)
theorem dJ11_copyOfRangeByte_30 : decode cJ11_copyOfRangeByte 30 = .ok (.aload 4, 2) := dk_25 4 (dk_at dksJ11_copyOfRangeByte_1 6 rfl rfl)
theorem dJ11_copyOfRangeByte_32 : decode cJ11_copyOfRangeByte 32 = .ok (.areturn, 1) := dk_176 (dk_at dksJ11_copyOfRangeByte_1 8 rfl rfl)
abbrev cJ11_checkLength : ByteArray := prog_37_method_131_code
def yJ11_checkLength : MethodName := ⟨RJ11, "checkLength", "(II)V"⟩
def dkwJ11_checkLength_1 : List UInt8 := [182, 0, 50, 27, 182, 0, 54, 182, 0, 61, 183, 0, 65, 191, 177]
abbrev dktJ11_checkLength_1 : List UInt8 := dkwJ11_checkLength_1 ++ []
def dkwJ11_checkLength_0 : List UInt8 := [27, 26, 162, 0, 35, 187, 0, 43, 89, 187, 0, 45, 89, 183, 0, 47, 26, 182, 0, 54, 19, 1, 81]
abbrev dktJ11_checkLength_0 : List UInt8 := dkwJ11_checkLength_0 ++ dktJ11_checkLength_1
theorem dksJ11_checkLength_0 : cJ11_checkLength.data.toList.drop 0 = dktJ11_checkLength_0 := by decide +kernel
theorem dksJ11_checkLength_1 : cJ11_checkLength.data.toList.drop 23 = dktJ11_checkLength_1 := dk_seg dksJ11_checkLength_0 23 rfl rfl
theorem dJ11_checkLength_0 : decode cJ11_checkLength 0 = .ok (.iload_n 1, 1) := dk_27 (dk_at dksJ11_checkLength_0 0 rfl rfl)
theorem dJ11_checkLength_1 : decode cJ11_checkLength 1 = .ok (.iload_n 0, 1) := dk_26 (dk_at dksJ11_checkLength_0 1 rfl rfl)
theorem dJ11_checkLength_2 : decode cJ11_checkLength 2 = .ok (.if_icmp .ge 35, 3) := dk_162 0 35 (dk_at dksJ11_checkLength_0 2 rfl rfl)
theorem dJ11_checkLength_5 : decode cJ11_checkLength 5 = .ok (.new 43, 3) := dk_187 0 43 (dk_at dksJ11_checkLength_0 5 rfl rfl)
theorem dJ11_checkLength_8 : decode cJ11_checkLength 8 = .ok (.dup, 1) := dk_89 (dk_at dksJ11_checkLength_0 8 rfl rfl)
theorem dJ11_checkLength_9 : decode cJ11_checkLength 9 = .ok (.new 45, 3) := dk_187 0 45 (dk_at dksJ11_checkLength_0 9 rfl rfl)
theorem dJ11_checkLength_12 : decode cJ11_checkLength 12 = .ok (.dup, 1) := dk_89 (dk_at dksJ11_checkLength_0 12 rfl rfl)
theorem dJ11_checkLength_13 : decode cJ11_checkLength 13 = .ok (.invokespecial 47, 3) := dk_183 0 47 (dk_at dksJ11_checkLength_0 13 rfl rfl)
theorem dJ11_checkLength_16 : decode cJ11_checkLength 16 = .ok (.iload_n 0, 1) := dk_26 (dk_at dksJ11_checkLength_0 16 rfl rfl)
theorem dJ11_checkLength_17 : decode cJ11_checkLength 17 = .ok (.invokevirtual 54, 3) := dk_182 0 54 (dk_at dksJ11_checkLength_0 17 rfl rfl)
theorem dJ11_checkLength_20 : decode cJ11_checkLength 20 = .ok (.ldc_w 337, 3) := dk_19 1 81 (dk_at dksJ11_checkLength_0 20 rfl rfl)
theorem dJ11_checkLength_23 : decode cJ11_checkLength 23 = .ok (.invokevirtual 50, 3) := dk_182 0 50 (dk_at dksJ11_checkLength_1 0 rfl rfl)
theorem dJ11_checkLength_26 : decode cJ11_checkLength 26 = .ok (.iload_n 1, 1) := dk_27 (dk_at dksJ11_checkLength_1 3 rfl rfl)
theorem dJ11_checkLength_27 : decode cJ11_checkLength 27 = .ok (.invokevirtual 54, 3) := dk_182 0 54 (dk_at dksJ11_checkLength_1 4 rfl rfl)
theorem dJ11_checkLength_30 : decode cJ11_checkLength 30 = .ok (.invokevirtual 61, 3) := dk_182 0 61 (dk_at dksJ11_checkLength_1 7 rfl rfl)
theorem dJ11_checkLength_33 : decode cJ11_checkLength 33 = .ok (.invokespecial 65, 3) := dk_183 0 65 (dk_at dksJ11_checkLength_1 10 rfl rfl)
theorem dJ11_checkLength_36 : decode cJ11_checkLength 36 = .ok (.athrow, 1) := dk_191 (dk_at dksJ11_checkLength_1 13 rfl rfl)
theorem dJ11_checkLength_37 : decode cJ11_checkLength 37 = .ok (.return_, 1) := dk_177 (dk_at dksJ11_checkLength_1 14 rfl rfl)
abbrev cJ11_copyOf_2 : ByteArray := prog_37_method_119_code
def yJ11_copyOf_2 : MethodName := ⟨RJ11, "copyOf", "([Ljava/lang/Object;I)[Ljava/lang/Object;"⟩
def dkwJ11_copyOf_2_0 : List UInt8 := [42, 27, 42, 182, 0, 86, 184, 1, 44, 176]
abbrev dktJ11_copyOf_2_0 : List UInt8 := dkwJ11_copyOf_2_0 ++ []
theorem dksJ11_copyOf_2_0 : cJ11_copyOf_2.data.toList.drop 0 = dktJ11_copyOf_2_0 := by decide +kernel
theorem dJ11_copyOf_2_0 : decode cJ11_copyOf_2 0 = .ok (.aload_n 0, 1) := dk_42 (dk_at dksJ11_copyOf_2_0 0 rfl rfl)
theorem dJ11_copyOf_2_1 : decode cJ11_copyOf_2 1 = .ok (.iload_n 1, 1) := dk_27 (dk_at dksJ11_copyOf_2_0 1 rfl rfl)
theorem dJ11_copyOf_2_2 : decode cJ11_copyOf_2 2 = .ok (.aload_n 0, 1) := dk_42 (dk_at dksJ11_copyOf_2_0 2 rfl rfl)
theorem dJ11_copyOf_2_3 : decode cJ11_copyOf_2 3 = .ok (.invokevirtual 86, 3) := dk_182 0 86 (dk_at dksJ11_copyOf_2_0 3 rfl rfl)
theorem dJ11_copyOf_2_6 : decode cJ11_copyOf_2 6 = .ok (.invokestatic 300, 3) := dk_184 1 44 (dk_at dksJ11_copyOf_2_0 6 rfl rfl)
theorem dJ11_copyOf_2_9 : decode cJ11_copyOf_2 9 = .ok (.areturn, 1) := dk_176 (dk_at dksJ11_copyOf_2_0 9 rfl rfl)
abbrev cJ11_copyOf_3 : ByteArray := prog_37_method_120_code
def yJ11_copyOf_3 : MethodName := ⟨RJ11, "copyOf", "([Ljava/lang/Object;ILjava/lang/Class;)[Ljava/lang/Object;"⟩
def dkwJ11_copyOf_3_1 : List UInt8 := [78, 42, 3, 45, 3, 42, 190, 27, 184, 1, 48, 184, 0, 150, 45, 176]
abbrev dktJ11_copyOf_3_1 : List UInt8 := dkwJ11_copyOf_3_1 ++ []
def dkwJ11_copyOf_3_0 : List UInt8 := [44, 18, 110, 166, 0, 10, 27, 189, 0, 2, 167, 0, 14, 44, 182, 0, 90, 27, 184, 0, 95, 192, 0, 110]
abbrev dktJ11_copyOf_3_0 : List UInt8 := dkwJ11_copyOf_3_0 ++ dktJ11_copyOf_3_1
theorem dksJ11_copyOf_3_0 : cJ11_copyOf_3.data.toList.drop 0 = dktJ11_copyOf_3_0 := by decide +kernel
theorem dksJ11_copyOf_3_1 : cJ11_copyOf_3.data.toList.drop 24 = dktJ11_copyOf_3_1 := dk_seg dksJ11_copyOf_3_0 24 rfl rfl
theorem dJ11_copyOf_3_0 : decode cJ11_copyOf_3 0 = .ok (.aload_n 2, 1) := dk_44 (dk_at dksJ11_copyOf_3_0 0 rfl rfl)
theorem dJ11_copyOf_3_1 : decode cJ11_copyOf_3 1 = .ok (.ldc 110, 2) := dk_18 110 (dk_at dksJ11_copyOf_3_0 1 rfl rfl)
theorem dJ11_copyOf_3_3 : decode cJ11_copyOf_3 3 = .ok (.if_acmp .ne 10, 3) := dk_166 0 10 (dk_at dksJ11_copyOf_3_0 3 rfl rfl)
theorem dJ11_copyOf_3_6 : decode cJ11_copyOf_3 6 = .ok (.iload_n 1, 1) := dk_27 (dk_at dksJ11_copyOf_3_0 6 rfl rfl)
theorem dJ11_copyOf_3_7 : decode cJ11_copyOf_3 7 = .ok (.anewarray 2, 3) := dk_189 0 2 (dk_at dksJ11_copyOf_3_0 7 rfl rfl)
theorem dJ11_copyOf_3_10 : decode cJ11_copyOf_3 10 = .ok (.goto 14, 3) := dk_167 0 14 (dk_at dksJ11_copyOf_3_0 10 rfl rfl)
theorem dJ11_copyOf_3_13 : decode cJ11_copyOf_3 13 = .ok (.aload_n 2, 1) := dk_44 (dk_at dksJ11_copyOf_3_0 13 rfl rfl)
theorem dJ11_copyOf_3_14 : decode cJ11_copyOf_3 14 = .ok (.invokevirtual 90, 3) := dk_182 0 90 (dk_at dksJ11_copyOf_3_0 14 rfl rfl)
theorem dJ11_copyOf_3_17 : decode cJ11_copyOf_3 17 = .ok (.iload_n 1, 1) := dk_27 (dk_at dksJ11_copyOf_3_0 17 rfl rfl)
theorem dJ11_copyOf_3_18 : decode cJ11_copyOf_3 18 = .ok (.invokestatic 95, 3) := dk_184 0 95 (dk_at dksJ11_copyOf_3_0 18 rfl rfl)
theorem dJ11_copyOf_3_21 : decode cJ11_copyOf_3 21 = .ok (.checkcast 110, 3) := dk_192 0 110 (dk_at dksJ11_copyOf_3_0 21 rfl rfl)
theorem dJ11_copyOf_3_24 : decode cJ11_copyOf_3 24 = .ok (.astore_n 3, 1) := dk_78 (dk_at dksJ11_copyOf_3_1 0 rfl rfl)
theorem dJ11_copyOf_3_25 : decode cJ11_copyOf_3 25 = .ok (.aload_n 0, 1) := dk_42 (dk_at dksJ11_copyOf_3_1 1 rfl rfl)
theorem dJ11_copyOf_3_26 : decode cJ11_copyOf_3 26 = .ok (.iconst 0, 1) := dk_3 (dk_at dksJ11_copyOf_3_1 2 rfl rfl)
theorem dJ11_copyOf_3_27 : decode cJ11_copyOf_3 27 = .ok (.aload_n 3, 1) := dk_45 (dk_at dksJ11_copyOf_3_1 3 rfl rfl)
theorem dJ11_copyOf_3_28 : decode cJ11_copyOf_3 28 = .ok (.iconst 0, 1) := dk_3 (dk_at dksJ11_copyOf_3_1 4 rfl rfl)
theorem dJ11_copyOf_3_29 : decode cJ11_copyOf_3 29 = .ok (.aload_n 0, 1) := dk_42 (dk_at dksJ11_copyOf_3_1 5 rfl rfl)
theorem dJ11_copyOf_3_30 : decode cJ11_copyOf_3 30 = .ok (.arraylength, 1) := dk_190 (dk_at dksJ11_copyOf_3_1 6 rfl rfl)
theorem dJ11_copyOf_3_31 : decode cJ11_copyOf_3 31 = .ok (.iload_n 1, 1) := dk_27 (dk_at dksJ11_copyOf_3_1 7 rfl rfl)
theorem dJ11_copyOf_3_32 : decode cJ11_copyOf_3 32 = .ok (.invokestatic 304, 3) := dk_184 1 48 (dk_at dksJ11_copyOf_3_1 8 rfl rfl)
theorem dJ11_copyOf_3_35 : decode cJ11_copyOf_3 35 = .ok (.invokestatic 150, 3) := dk_184 0 150 (dk_at dksJ11_copyOf_3_1 11 rfl rfl)
theorem dJ11_copyOf_3_38 : decode cJ11_copyOf_3 38 = .ok (.aload_n 3, 1) := dk_45 (dk_at dksJ11_copyOf_3_1 14 rfl rfl)
theorem dJ11_copyOf_3_39 : decode cJ11_copyOf_3 39 = .ok (.areturn, 1) := dk_176 (dk_at dksJ11_copyOf_3_1 15 rfl rfl)
theorem q46 : (Jvm.Cond.initialized "java/util/Arrays") ∈ lw_all := lw_g (lw_at lw_m1 15 rfl) rfl
theorem q230 : (Jvm.Cond.static ({ cls := "java/util/Arrays", name := "copyOf", desc := "([BI)[B" } : Jvm.MethodName)) ∈ lw_all := lw_g (lw_at lw_m1 199 rfl) rfl
theorem q231 : (Jvm.Cond.code ({ cls := "java/util/Arrays", name := "copyOf", desc := "([BI)[B" } : Jvm.MethodName) prog_37_method_121_code (3 : Nat) (Option.some (Jvm.ClassFile.FieldType.array Jvm.ClassFile.FieldType.byte))) ∈ lw_all := lw_g (lw_at lw_m1 200 rfl) rfl
theorem q232 : (Jvm.Cond.methodLink "java/util/Arrays" (310 : Nat) ({ cls := "[B", name := "clone", desc := "()Ljava/lang/Object;" } : Jvm.MethodName)) ∈ lw_all := lw_g (lw_at lw_m1 201 rfl) rfl
theorem q238 : (Jvm.Cond.classLink "java/util/Arrays" (311 : Nat) "[B") ∈ lw_all := lw_g (lw_at lw_m1 207 rfl) rfl
theorem q239 : (Jvm.Cond.methodLink "java/util/Arrays" (304 : Nat) ({ cls := "java/lang/Math", name := "min", desc := "(II)I" } : Jvm.MethodName)) ∈ lw_all := lw_g (lw_at lw_m1 208 rfl) rfl
theorem q242 : (Jvm.Cond.methodLink "java/util/Arrays" (150 : Nat) ({ cls := "java/lang/System", name := "arraycopy", desc := "(Ljava/lang/Object;ILjava/lang/Object;II)V" } : Jvm.MethodName)) ∈ lw_all := lw_g (lw_at lw_m1 211 rfl) rfl
theorem q306 : (Jvm.Cond.static ({ cls := "java/util/Arrays", name := "copyOfRange", desc := "([BII)[B" } : Jvm.MethodName)) ∈ lw_all := lw_g (lw_at lw_m2 35 rfl) rfl
theorem q307 : (Jvm.Cond.code ({ cls := "java/util/Arrays", name := "copyOfRange", desc := "([BII)[B" } : Jvm.MethodName) prog_37_method_132_code (3 : Nat) (Option.some (Jvm.ClassFile.FieldType.array Jvm.ClassFile.FieldType.byte))) ∈ lw_all := lw_g (lw_at lw_m2 36 rfl) rfl
theorem q308 : (Jvm.Cond.methodLink "java/util/Arrays" (339 : Nat) ({ cls := "java/util/Arrays", name := "copyOfRangeByte", desc := "([BII)[B" } : Jvm.MethodName)) ∈ lw_all := lw_g (lw_at lw_m2 37 rfl) rfl
theorem q309 : (Jvm.Cond.static ({ cls := "java/util/Arrays", name := "copyOfRangeByte", desc := "([BII)[B" } : Jvm.MethodName)) ∈ lw_all := lw_g (lw_at lw_m2 38 rfl) rfl
theorem q310 : (Jvm.Cond.code ({ cls := "java/util/Arrays", name := "copyOfRangeByte", desc := "([BII)[B" } : Jvm.MethodName) prog_37_method_133_code (5 : Nat) (Option.some (Jvm.ClassFile.FieldType.array Jvm.ClassFile.FieldType.byte))) ∈ lw_all := lw_g (lw_at lw_m2 39 rfl) rfl
theorem q311 : (Jvm.Cond.methodLink "java/util/Arrays" (343 : Nat) ({ cls := "java/util/Arrays", name := "checkLength", desc := "(II)V" } : Jvm.MethodName)) ∈ lw_all := lw_g (lw_at lw_m2 40 rfl) rfl
theorem q312 : (Jvm.Cond.static ({ cls := "java/util/Arrays", name := "checkLength", desc := "(II)V" } : Jvm.MethodName)) ∈ lw_all := lw_g (lw_at lw_m2 41 rfl) rfl
theorem q313 : (Jvm.Cond.code ({ cls := "java/util/Arrays", name := "checkLength", desc := "(II)V" } : Jvm.MethodName) prog_37_method_131_code (2 : Nat) (Option.none : Option Jvm.ClassFile.FieldType)) ∈ lw_all := lw_g (lw_at lw_m2 42 rfl) rfl
theorem q314 : (Jvm.Cond.classLink "java/util/Arrays" (43 : Nat) "java/lang/IllegalArgumentException") ∈ lw_all := lw_g (lw_at lw_m2 43 rfl) rfl
theorem q354 : (Jvm.Cond.classLink "java/util/Arrays" (45 : Nat) "java/lang/StringBuilder") ∈ lw_all := lw_g (lw_at lw_m2 83 rfl) rfl
theorem q355 : (Jvm.Cond.methodLink "java/util/Arrays" (47 : Nat) ({ cls := "java/lang/StringBuilder", name := "<init>", desc := "()V" } : Jvm.MethodName)) ∈ lw_all := lw_g (lw_at lw_m2 84 rfl) rfl
theorem q356 : (Jvm.Cond.methodLink "java/util/Arrays" (54 : Nat) ({ cls := "java/lang/StringBuilder", name := "append", desc := "(I)Ljava/lang/StringBuilder;" } : Jvm.MethodName)) ∈ lw_all := lw_g (lw_at lw_m2 85 rfl) rfl
theorem q390 : (Jvm.Cond.stringRef "java/util/Arrays" (337 : Nat) " > ") ∈ lw_tbl := lw_at lw_m2 119 rfl
theorem q391 : (Jvm.Cond.methodLink "java/util/Arrays" (50 : Nat) ({ cls := "java/lang/StringBuilder", name := "append", desc := "(Ljava/lang/String;)Ljava/lang/StringBuilder;" } : Jvm.MethodName)) ∈ lw_all := lw_g (lw_at lw_m2 120 rfl) rfl
theorem q421 : (Jvm.Cond.methodLink "java/util/Arrays" (61 : Nat) ({ cls := "java/lang/StringBuilder", name := "toString", desc := "()Ljava/lang/String;" } : Jvm.MethodName)) ∈ lw_all := lw_g (lw_at lw_m2 150 rfl) rfl
theorem q422 : (Jvm.Cond.methodLink "java/util/Arrays" (65 : Nat) ({ cls := "java/lang/IllegalArgumentException", name := "<init>", desc := "(Ljava/lang/String;)V" } : Jvm.MethodName)) ∈ lw_all := lw_g (lw_at lw_m2 151 rfl) rfl
theorem q516 : (Jvm.Cond.static ({ cls := "java/util/Arrays", name := "copyOf", desc := "([Ljava/lang/Object;I)[Ljava/lang/Object;" } : Jvm.MethodName)) ∈ lw_all := lw_g (lw_at lw_m3 5 rfl) rfl
theorem q517 : (Jvm.Cond.code ({ cls := "java/util/Arrays", name := "copyOf", desc := "([Ljava/lang/Object;I)[Ljava/lang/Object;" } : Jvm.MethodName) prog_37_method_119_code (2 : Nat) (Option.some (Jvm.ClassFile.FieldType.array (Jvm.ClassFile.FieldType.object "java/lang/Object")))) ∈ lw_all := lw_g (lw_at lw_m3 6 rfl) rfl
theorem q518 : (Jvm.Cond.methodLink "java/util/Arrays" (86 : Nat) ({ cls := "java/lang/Object", name := "getClass", desc := "()Ljava/lang/Class;" } : Jvm.MethodName)) ∈ lw_all := lw_g (lw_at lw_m3 7 rfl) rfl
theorem q537 : (Jvm.Cond.methodLink "java/util/Arrays" (300 : Nat) ({ cls := "java/util/Arrays", name := "copyOf", desc := "([Ljava/lang/Object;ILjava/lang/Class;)[Ljava/lang/Object;" } : Jvm.MethodName)) ∈ lw_all := lw_g (lw_at lw_m3 26 rfl) rfl
theorem q538 : (Jvm.Cond.static ({ cls := "java/util/Arrays", name := "copyOf", desc := "([Ljava/lang/Object;ILjava/lang/Class;)[Ljava/lang/Object;" } : Jvm.MethodName)) ∈ lw_all := lw_g (lw_at lw_m3 27 rfl) rfl
theorem q539 : (Jvm.Cond.code ({ cls := "java/util/Arrays", name := "copyOf", desc := "([Ljava/lang/Object;ILjava/lang/Class;)[Ljava/lang/Object;" } : Jvm.MethodName) prog_37_method_120_code (4 : Nat) (Option.some (Jvm.ClassFile.FieldType.array (Jvm.ClassFile.FieldType.object "java/lang/Object")))) ∈ lw_all := lw_g (lw_at lw_m3 28 rfl) rfl
theorem q540 : (Jvm.Cond.classLink "java/util/Arrays" (110 : Nat) "[Ljava/lang/Object;") ∈ lw_all := lw_g (lw_at lw_m3 29 rfl) rfl
theorem q542 : (Jvm.Cond.classLink "java/util/Arrays" (2 : Nat) "java/lang/Object") ∈ lw_all := lw_g (lw_at lw_m3 31 rfl) rfl
/-! java/lang/Number -/
set_option maxRecDepth 100000
def RJ16 : String := "java/lang/Number"
abbrev cJ16_init : ByteArray := prog_23_method_1_code
def yJ16_init : MethodName := ⟨RJ16, "<init>", "()V"⟩
theorem dJ16_init_0 : decode cJ16_init 0 = .ok (.aload_n 0, 1) := by decide +kernel
theorem dJ16_init_1 : decode cJ16_init 1 = .ok (.invokespecial 1, 3) := by decide +kernel
theorem dJ16_init_4 : decode cJ16_init 4 = .ok (.return_, 1) := by decide +kernel
theorem q52 : (Jvm.Cond.initialized "java/lang/Number") ∈ lw_all := lw_g (lw_at lw_m1 21 rfl) rfl
theorem q658 : (Jvm.Cond.instanceMethod ({ cls := "java/lang/Number", name := "<init>", desc := "()V" } : Jvm.MethodName)) ∈ lw_all := lw_g (lw_at lw_m3 147 rfl) rfl
theorem q659 : (Jvm.Cond.code ({ cls := "java/lang/Number", name := "<init>", desc := "()V" } : Jvm.MethodName) prog_23_method_1_code (1 : Nat) (Option.none : Option Jvm.ClassFile.FieldType)) ∈ lw_all := lw_g (lw_at lw_m3 148 rfl) rfl
theorem q660 : (Jvm.Cond.methodLink "java/lang/Number" (1 : Nat) ({ cls := "java/lang/Object", name := "<init>", desc := "()V" } : Jvm.MethodName)) ∈ lw_all := lw_g (lw_at lw_m3 149 rfl) rfl
/-! java/lang/Integer -/
set_option maxRecDepth 100000
def RJ17 : String := "java/lang/Integer"
def TJ17 : u_T := fun k => match k with
  | _ => ("java/lang/Integer", "value", "I", true)
def tyJ17 : Nat → FieldType := fun k => match k with
  | _ => .int
abbrev wsJ170 : List Cond := u_ws RJ17 TJ17 1
theorem nmJ17 : ∀ a, a < 1 → ∀ b, b < 1 → a ≠ b → (TJ17 a).2.1 ≠ (TJ17 b).2.1 := by decide +kernel
theorem tyJ17_ok : ∀ k, k < 1 → parseFieldDescriptor (TJ17 k).2.2.1 = some (tyJ17 k) := by decide +kernel
abbrev cJ17_stringSize : ByteArray := prog_19_method_13_code
def yJ17_stringSize : MethodName := ⟨RJ17, "stringSize", "(I)I"⟩
def dkwJ17_stringSize_1 : List UInt8 := [164, 0, 7, 29, 27, 96, 172, 16, 10, 28, 104, 61, 132, 3, 1, 167, 255, 233, 16, 10, 27, 96, 172]
abbrev dktJ17_stringSize_1 : List UInt8 := dkwJ17_stringSize_1 ++ []
def dkwJ17_stringSize_0 : List UInt8 := [4, 60, 26, 155, 0, 8, 3, 60, 26, 116, 59, 16, 246, 61, 4, 62, 29, 16, 10, 162, 0, 23, 26, 28]
abbrev dktJ17_stringSize_0 : List UInt8 := dkwJ17_stringSize_0 ++ dktJ17_stringSize_1
theorem dksJ17_stringSize_0 : cJ17_stringSize.data.toList.drop 0 = dktJ17_stringSize_0 := by decide +kernel
theorem dksJ17_stringSize_1 : cJ17_stringSize.data.toList.drop 24 = dktJ17_stringSize_1 := dk_seg dksJ17_stringSize_0 24 rfl rfl
theorem dJ17_stringSize_0 : decode cJ17_stringSize 0 = .ok (.iconst 1, 1) := dk_4 (dk_at dksJ17_stringSize_0 0 rfl rfl)
theorem dJ17_stringSize_1 : decode cJ17_stringSize 1 = .ok (.istore_n 1, 1) := dk_60 (dk_at dksJ17_stringSize_0 1 rfl rfl)
theorem dJ17_stringSize_2 : decode cJ17_stringSize 2 = .ok (.iload_n 0, 1) := dk_26 (dk_at dksJ17_stringSize_0 2 rfl rfl)
theorem dJ17_stringSize_3 : decode cJ17_stringSize 3 = .ok (.ifCond .lt 8, 3) := dk_155 0 8 (dk_at dksJ17_stringSize_0 3 rfl rfl)
theorem dJ17_stringSize_6 : decode cJ17_stringSize 6 = .ok (.iconst 0, 1) := dk_3 (dk_at dksJ17_stringSize_0 6 rfl rfl)
theorem dJ17_stringSize_7 : decode cJ17_stringSize 7 = .ok (.istore_n 1, 1) := dk_60 (dk_at dksJ17_stringSize_0 7 rfl rfl)
theorem dJ17_stringSize_8 : decode cJ17_stringSize 8 = .ok (.iload_n 0, 1) := dk_26 (dk_at dksJ17_stringSize_0 8 rfl rfl)
theorem dJ17_stringSize_9 : decode cJ17_stringSize 9 = .ok (.ineg, 1) := dk_116 (dk_at dksJ17_stringSize_0 9 rfl rfl)
theorem dJ17_stringSize_10 : decode cJ17_stringSize 10 = .ok (.istore_n 0, 1) := dk_59 (dk_at dksJ17_stringSize_0 10 rfl rfl)
theorem dJ17_stringSize_11 : decode cJ17_stringSize 11 = .ok (.bipush (-10), 2) := dk_16 246 (dk_at dksJ17_stringSize_0 11 rfl rfl)
theorem dJ17_stringSize_13 : decode cJ17_stringSize 13 = .ok (.istore_n 2, 1) := dk_61 (dk_at dksJ17_stringSize_0 13 rfl rfl)
theorem dJ17_stringSize_14 : decode cJ17_stringSize 14 = .ok (.iconst 1, 1) := dk_4 (dk_at dksJ17_stringSize_0 14 rfl rfl)
theorem dJ17_stringSize_15 : decode cJ17_stringSize 15 = .ok (.istore_n 3, 1) := dk_62 (dk_at dksJ17_stringSize_0 15 rfl rfl)
theorem dJ17_stringSize_16 : decode cJ17_stringSize 16 = .ok (.iload_n 3, 1) := dk_29 (dk_at dksJ17_stringSize_0 16 rfl rfl)
theorem dJ17_stringSize_17 : decode cJ17_stringSize 17 = .ok (.bipush 10, 2) := dk_16 10 (dk_at dksJ17_stringSize_0 17 rfl rfl)
theorem dJ17_stringSize_19 : decode cJ17_stringSize 19 = .ok (.if_icmp .ge 23, 3) := dk_162 0 23 (dk_at dksJ17_stringSize_0 19 rfl rfl)
theorem dJ17_stringSize_22 : decode cJ17_stringSize 22 = .ok (.iload_n 0, 1) := dk_26 (dk_at dksJ17_stringSize_0 22 rfl rfl)
theorem dJ17_stringSize_23 : decode cJ17_stringSize 23 = .ok (.iload_n 2, 1) := dk_28 (dk_at dksJ17_stringSize_0 23 rfl rfl)
theorem dJ17_stringSize_24 : decode cJ17_stringSize 24 = .ok (.if_icmp .le 7, 3) := dk_164 0 7 (dk_at dksJ17_stringSize_1 0 rfl rfl)
theorem dJ17_stringSize_27 : decode cJ17_stringSize 27 = .ok (.iload_n 3, 1) := dk_29 (dk_at dksJ17_stringSize_1 3 rfl rfl)
theorem dJ17_stringSize_28 : decode cJ17_stringSize 28 = .ok (.iload_n 1, 1) := dk_27 (dk_at dksJ17_stringSize_1 4 rfl rfl)
theorem dJ17_stringSize_29 : decode cJ17_stringSize 29 = .ok (.iadd, 1) := dk_96 (dk_at dksJ17_stringSize_1 5 rfl rfl)
theorem dJ17_stringSize_30 : decode cJ17_stringSize 30 = .ok (.ireturn, 1) := dk_172 (dk_at dksJ17_stringSize_1 6 rfl rfl)
theorem dJ17_stringSize_31 : decode cJ17_stringSize 31 = .ok (.bipush 10, 2) := dk_16 10 (dk_at dksJ17_stringSize_1 7 rfl rfl)
theorem dJ17_stringSize_33 : decode cJ17_stringSize 33 = .ok (.iload_n 2, 1) := dk_28 (dk_at dksJ17_stringSize_1 9 rfl rfl)
theorem dJ17_stringSize_34 : decode cJ17_stringSize 34 = .ok (.imul, 1) := dk_104 (dk_at dksJ17_stringSize_1 10 rfl rfl)
theorem dJ17_stringSize_35 : decode cJ17_stringSize 35 = .ok (.istore_n 2, 1) := dk_61 (dk_at dksJ17_stringSize_1 11 rfl rfl)
theorem dJ17_stringSize_36 : decode cJ17_stringSize 36 = .ok (.iinc 3 1, 3) := dk_132 3 1 (dk_at dksJ17_stringSize_1 12 rfl rfl)
theorem dJ17_stringSize_39 : decode cJ17_stringSize 39 = .ok (.goto (-23), 3) := dk_167 255 233 (dk_at dksJ17_stringSize_1 15 rfl rfl)
theorem dJ17_stringSize_42 : decode cJ17_stringSize 42 = .ok (.bipush 10, 2) := dk_16 10 (dk_at dksJ17_stringSize_1 18 rfl rfl)
theorem dJ17_stringSize_44 : decode cJ17_stringSize 44 = .ok (.iload_n 1, 1) := dk_27 (dk_at dksJ17_stringSize_1 20 rfl rfl)
theorem dJ17_stringSize_45 : decode cJ17_stringSize 45 = .ok (.iadd, 1) := dk_96 (dk_at dksJ17_stringSize_1 21 rfl rfl)
theorem dJ17_stringSize_46 : decode cJ17_stringSize 46 = .ok (.ireturn, 1) := dk_172 (dk_at dksJ17_stringSize_1 22 rfl rfl)
abbrev cJ17_getChars : ByteArray := prog_19_method_12_code
def yJ17_getChars : MethodName := ⟨RJ17, "getChars", "(II[B)I"⟩
def dkwJ17_getChars_5 : List UInt8 := [16, 45, 84, 21, 5, 172]
abbrev dktJ17_getChars_5 : List UInt8 := dkwJ17_getChars_5 ++ []
def dkwJ17_getChars_4 : List UInt8 := [132, 5, 255, 21, 5, 178, 0, 87, 26, 116, 51, 84, 21, 6, 153, 0, 12, 44, 132, 5, 255, 21, 5]
abbrev dktJ17_getChars_4 : List UInt8 := dkwJ17_getChars_4 ++ dktJ17_getChars_5
def dkwJ17_getChars_3 : List UInt8 := [167, 255, 209, 44, 132, 5, 255, 21, 5, 178, 0, 83, 26, 116, 51, 84, 26, 16, 247, 162, 0, 16, 44]
abbrev dktJ17_getChars_3 : List UInt8 := dkwJ17_getChars_3 ++ dktJ17_getChars_4
def dkwJ17_getChars_2 : List UInt8 := [21, 5, 178, 0, 83, 21, 4, 51, 84, 44, 132, 5, 255, 21, 5, 178, 0, 87, 21, 4, 51, 84]
abbrev dktJ17_getChars_2 : List UInt8 := dkwJ17_getChars_2 ++ dktJ17_getChars_3
def dkwJ17_getChars_1 : List UInt8 := [16, 156, 163, 0, 47, 26, 16, 100, 108, 62, 29, 16, 100, 104, 26, 100, 54, 4, 29, 59, 44, 132, 5, 255]
abbrev dktJ17_getChars_1 : List UInt8 := dkwJ17_getChars_1 ++ dktJ17_getChars_2
def dkwJ17_getChars_0 : List UInt8 := [27, 54, 5, 26, 156, 0, 7, 4, 167, 0, 4, 3, 54, 6, 21, 6, 154, 0, 6, 26, 116, 59, 26]
abbrev dktJ17_getChars_0 : List UInt8 := dkwJ17_getChars_0 ++ dktJ17_getChars_1
theorem dksJ17_getChars_0 : cJ17_getChars.data.toList.drop 0 = dktJ17_getChars_0 := by decide +kernel
theorem dksJ17_getChars_1 : cJ17_getChars.data.toList.drop 23 = dktJ17_getChars_1 := dk_seg dksJ17_getChars_0 23 rfl rfl
theorem dksJ17_getChars_2 : cJ17_getChars.data.toList.drop 47 = dktJ17_getChars_2 := dk_seg dksJ17_getChars_1 24 rfl rfl
theorem dksJ17_getChars_3 : cJ17_getChars.data.toList.drop 69 = dktJ17_getChars_3 := dk_seg dksJ17_getChars_2 22 rfl rfl
theorem dksJ17_getChars_4 : cJ17_getChars.data.toList.drop 92 = dktJ17_getChars_4 := dk_seg dksJ17_getChars_3 23 rfl rfl
theorem dksJ17_getChars_5 : cJ17_getChars.data.toList.drop 115 = dktJ17_getChars_5 := dk_seg dksJ17_getChars_4 23 rfl rfl
theorem dJ17_getChars_0 : decode cJ17_getChars 0 = .ok (.iload_n 1, 1) := dk_27 (dk_at dksJ17_getChars_0 0 rfl rfl)
theorem dJ17_getChars_1 : decode cJ17_getChars 1 = .ok (.istore 5, 2) := dk_54 5 (dk_at dksJ17_getChars_0 1 rfl rfl)
theorem dJ17_getChars_3 : decode cJ17_getChars 3 = .ok (.iload_n 0, 1) := dk_26 (dk_at dksJ17_getChars_0 3 rfl rfl)
theorem dJ17_getChars_4 : decode cJ17_getChars 4 = .ok (.ifCond .ge 7, 3) := dk_156 0 7 (dk_at dksJ17_getChars_0 4 rfl rfl)
theorem dJ17_getChars_7 : decode cJ17_getChars 7 = .ok (.iconst 1, 1) := dk_4 (dk_at dksJ17_getChars_0 7 rfl rfl)
theorem dJ17_getChars_8 : decode cJ17_getChars 8 = .ok (.goto 4, 3) := dk_167 0 4 (dk_at dksJ17_getChars_0 8 rfl rfl)
theorem dJ17_getChars_11 : decode cJ17_getChars 11 = .ok (.iconst 0, 1) := dk_3 (dk_at dksJ17_getChars_0 11 rfl rfl)
theorem dJ17_getChars_12 : decode cJ17_getChars 12 = .ok (.istore 6, 2) := dk_54 6 (dk_at dksJ17_getChars_0 12 rfl rfl)
theorem dJ17_getChars_14 : decode cJ17_getChars 14 = .ok (.iload 6, 2) := dk_21 6 (dk_at dksJ17_getChars_0 14 rfl rfl)
theorem dJ17_getChars_16 : decode cJ17_getChars 16 = .ok (.ifCond .ne 6, 3) := dk_154 0 6 (dk_at dksJ17_getChars_0 16 rfl rfl)
theorem dJ17_getChars_19 : decode cJ17_getChars 19 = .ok (.iload_n 0, 1) := dk_26 (dk_at dksJ17_getChars_0 19 rfl rfl)
theorem dJ17_getChars_20 : decode cJ17_getChars 20 = .ok (.ineg, 1) := dk_116 (dk_at dksJ17_getChars_0 20 rfl rfl)
theorem dJ17_getChars_21 : decode cJ17_getChars 21 = .ok (.istore_n 0, 1) := dk_59 (dk_at dksJ17_getChars_0 21 rfl rfl)
theorem dJ17_getChars_22 : decode cJ17_getChars 22 = .ok (.iload_n 0, 1) := dk_26 (dk_at dksJ17_getChars_0 22 rfl rfl)
theorem dJ17_getChars_23 : decode cJ17_getChars 23 = .ok (.bipush (-100), 2) := dk_16 156 (dk_at dksJ17_getChars_1 0 rfl rfl)
theorem dJ17_getChars_25 : decode cJ17_getChars 25 = .ok (.if_icmp .gt 47, 3) := dk_163 0 47 (dk_at dksJ17_getChars_1 2 rfl rfl)
theorem dJ17_getChars_28 : decode cJ17_getChars 28 = .ok (.iload_n 0, 1) := dk_26 (dk_at dksJ17_getChars_1 5 rfl rfl)
theorem dJ17_getChars_29 : decode cJ17_getChars 29 = .ok (.bipush 100, 2) := dk_16 100 (dk_at dksJ17_getChars_1 6 rfl rfl)
theorem dJ17_getChars_31 : decode cJ17_getChars 31 = .ok (.idiv, 1) := dk_108 (dk_at dksJ17_getChars_1 8 rfl rfl)
theorem dJ17_getChars_32 : decode cJ17_getChars 32 = .ok (.istore_n 3, 1) := dk_62 (dk_at dksJ17_getChars_1 9 rfl rfl)
theorem dJ17_getChars_33 : decode cJ17_getChars 33 = .ok (.iload_n 3, 1) := dk_29 (dk_at dksJ17_getChars_1 10 rfl rfl)
theorem dJ17_getChars_34 : decode cJ17_getChars 34 = .ok (.bipush 100, 2) := dk_16 100 (dk_at dksJ17_getChars_1 11 rfl rfl)
theorem dJ17_getChars_36 : decode cJ17_getChars 36 = .ok (.imul, 1) := dk_104 (dk_at dksJ17_getChars_1 13 rfl rfl)
theorem dJ17_getChars_37 : decode cJ17_getChars 37 = .ok (.iload_n 0, 1) := dk_26 (dk_at dksJ17_getChars_1 14 rfl rfl)
theorem dJ17_getChars_38 : decode cJ17_getChars 38 = .ok (.isub, 1) := dk_100 (dk_at dksJ17_getChars_1 15 rfl rfl)
theorem dJ17_getChars_39 : decode cJ17_getChars 39 = .ok (.istore 4, 2) := dk_54 4 (dk_at dksJ17_getChars_1 16 rfl rfl)
theorem dJ17_getChars_41 : decode cJ17_getChars 41 = .ok (.iload_n 3, 1) := dk_29 (dk_at dksJ17_getChars_1 18 rfl rfl)
theorem dJ17_getChars_42 : decode cJ17_getChars 42 = .ok (.istore_n 0, 1) := dk_59 (dk_at dksJ17_getChars_1 19 rfl rfl)
theorem dJ17_getChars_43 : decode cJ17_getChars 43 = .ok (.aload_n 2, 1) := dk_44 (dk_at dksJ17_getChars_1 20 rfl rfl)
theorem dJ17_getChars_44 : decode cJ17_getChars 44 = .ok (.iinc 5 (-1), 3) := dk_132 5 255 (dk_at dksJ17_getChars_1 21 rfl rfl)
theorem dJ17_getChars_47 : decode cJ17_getChars 47 = .ok (.iload 5, 2) := dk_21 5 (dk_at dksJ17_getChars_2 0 rfl rfl)
theorem dJ17_getChars_49 : decode cJ17_getChars 49 = .ok (.getstatic 83, 3) := dk_178 0 83 (dk_at dksJ17_getChars_2 2 rfl rfl)
theorem dJ17_getChars_52 : decode cJ17_getChars 52 = .ok (.iload 4, 2) := dk_21 4 (dk_at dksJ17_getChars_2 5 rfl rfl)
theorem dJ17_getChars_54 : decode cJ17_getChars 54 = .ok (.baload, 1) := dk_51 (dk_at dksJ17_getChars_2 7 rfl rfl)
theorem dJ17_getChars_55 : decode cJ17_getChars 55 = .ok (.bastore, 1) := dk_84 (dk_at dksJ17_getChars_2 8 rfl rfl)
theorem dJ17_getChars_56 : decode cJ17_getChars 56 = .ok (.aload_n 2, 1) := dk_44 (dk_at dksJ17_getChars_2 9 rfl rfl)
theorem dJ17_getChars_57 : decode cJ17_getChars 57 = .ok (.iinc 5 (-1), 3) := dk_132 5 255 (dk_at dksJ17_getChars_2 10 rfl rfl)
theorem dJ17_getChars_60 : decode cJ17_getChars 60 = .ok (.iload 5, 2) := dk_21 5 (dk_at dksJ17_getChars_2 13 rfl rfl)
theorem dJ17_getChars_62 : decode cJ17_getChars 62 = .ok (.getstatic 87, 3) := dk_178 0 87 (dk_at dksJ17_getChars_2 15 rfl rfl)
theorem dJ17_getChars_65 : decode cJ17_getChars 65 = .ok (.iload 4, 2) := dk_21 4 (dk_at dksJ17_getChars_2 18 rfl rfl)
theorem dJ17_getChars_67 : decode cJ17_getChars 67 = .ok (.baload, 1) := dk_51 (dk_at dksJ17_getChars_2 20 rfl rfl)
theorem dJ17_getChars_68 : decode cJ17_getChars 68 = .ok (.bastore, 1) := dk_84 (dk_at dksJ17_getChars_2 21 rfl rfl)
theorem dJ17_getChars_69 : decode cJ17_getChars 69 = .ok (.goto (-47), 3) := dk_167 255 209 (dk_at dksJ17_getChars_3 0 rfl rfl)
theorem dJ17_getChars_72 : decode cJ17_getChars 72 = .ok (.aload_n 2, 1) := dk_44 (dk_at dksJ17_getChars_3 3 rfl rfl)
theorem dJ17_getChars_73 : decode cJ17_getChars 73 = .ok (.iinc 5 (-1), 3) := dk_132 5 255 (dk_at dksJ17_getChars_3 4 rfl rfl)
theorem dJ17_getChars_76 : decode cJ17_getChars 76 = .ok (.iload 5, 2) := dk_21 5 (dk_at dksJ17_getChars_3 7 rfl rfl)
theorem dJ17_getChars_78 : decode cJ17_getChars 78 = .ok (.getstatic 83, 3) := dk_178 0 83 (dk_at dksJ17_getChars_3 9 rfl rfl)
theorem dJ17_getChars_81 : decode cJ17_getChars 81 = .ok (.iload_n 0, 1) := dk_26 (dk_at dksJ17_getChars_3 12 rfl rfl)
theorem dJ17_getChars_82 : decode cJ17_getChars 82 = .ok (.ineg, 1) := dk_116 (dk_at dksJ17_getChars_3 13 rfl rfl)
theorem dJ17_getChars_83 : decode cJ17_getChars 83 = .ok (.baload, 1) := dk_51 (dk_at dksJ17_getChars_3 14 rfl rfl)
theorem dJ17_getChars_84 : decode cJ17_getChars 84 = .ok (.bastore, 1) := dk_84 (dk_at dksJ17_getChars_3 15 rfl rfl)
theorem dJ17_getChars_85 : decode cJ17_getChars 85 = .ok (.iload_n 0, 1) := dk_26 (dk_at dksJ17_getChars_3 16 rfl rfl)
theorem dJ17_getChars_86 : decode cJ17_getChars 86 = .ok (.bipush (-9), 2) := dk_16 247 (dk_at dksJ17_getChars_3 17 rfl rfl)
theorem dJ17_getChars_88 : decode cJ17_getChars 88 = .ok (.if_icmp .ge 16, 3) := dk_162 0 16 (dk_at dksJ17_getChars_3 19 rfl rfl)
theorem dJ17_getChars_91 : decode cJ17_getChars 91 = .ok (.aload_n 2, 1) := dk_44 (dk_at dksJ17_getChars_3 22 rfl rfl)
theorem dJ17_getChars_92 : decode cJ17_getChars 92 = .ok (.iinc 5 (-1), 3) := dk_132 5 255 (dk_at dksJ17_getChars_4 0 rfl rfl)
theorem dJ17_getChars_95 : decode cJ17_getChars 95 = .ok (.iload 5, 2) := dk_21 5 (dk_at dksJ17_getChars_4 3 rfl rfl)
theorem dJ17_getChars_97 : decode cJ17_getChars 97 = .ok (.getstatic 87, 3) := dk_178 0 87 (dk_at dksJ17_getChars_4 5 rfl rfl)
theorem dJ17_getChars_100 : decode cJ17_getChars 100 = .ok (.iload_n 0, 1) := dk_26 (dk_at dksJ17_getChars_4 8 rfl rfl)
theorem dJ17_getChars_101 : decode cJ17_getChars 101 = .ok (.ineg, 1) := dk_116 (dk_at dksJ17_getChars_4 9 rfl rfl)
theorem dJ17_getChars_102 : decode cJ17_getChars 102 = .ok (.baload, 1) := dk_51 (dk_at dksJ17_getChars_4 10 rfl rfl)
theorem dJ17_getChars_103 : decode cJ17_getChars 103 = .ok (.bastore, 1) := dk_84 (dk_at dksJ17_getChars_4 11 rfl rfl)
theorem dJ17_getChars_104 : decode cJ17_getChars 104 = .ok (.iload 6, 2) := dk_21 6 (dk_at dksJ17_getChars_4 12 rfl rfl)
theorem dJ17_getChars_106 : decode cJ17_getChars 106 = .ok (.ifCond .eq 12, 3) := dk_153 0 12 (dk_at dksJ17_getChars_4 14 rfl rfl)
theorem dJ17_getChars_109 : decode cJ17_getChars 109 = .ok (.aload_n 2, 1) := dk_44 (dk_at dksJ17_getChars_4 17 rfl rfl)
theorem dJ17_getChars_110 : decode cJ17_getChars 110 = .ok (.iinc 5 (-1), 3) := dk_132 5 255 (dk_at dksJ17_getChars_4 18 rfl rfl)
theorem dJ17_getChars_113 : decode cJ17_getChars 113 = .ok (.iload 5, 2) := dk_21 5 (dk_at dksJ17_getChars_4 21 rfl rfl)
theorem dJ17_getChars_115 : decode cJ17_getChars 115 = .ok (.bipush 45, 2) := dk_16 45 (dk_at dksJ17_getChars_5 0 rfl rfl)
theorem dJ17_getChars_117 : decode cJ17_getChars 117 = .ok (.bastore, 1) := dk_84 (dk_at dksJ17_getChars_5 2 rfl rfl)
theorem dJ17_getChars_118 : decode cJ17_getChars 118 = .ok (.iload 5, 2) := dk_21 5 (dk_at dksJ17_getChars_5 3 rfl rfl)
theorem dJ17_getChars_120 : decode cJ17_getChars 120 = .ok (.ireturn, 1) := dk_172 (dk_at dksJ17_getChars_5 5 rfl rfl)
abbrev cJ17_valueOf : ByteArray := prog_19_method_22_code
def yJ17_valueOf : MethodName := ⟨RJ17, "valueOf", "(I)Ljava/lang/Integer;"⟩
def dkwJ17_valueOf_1 : List UInt8 := [187, 0, 1, 89, 26, 183, 0, 199, 176]
abbrev dktJ17_valueOf_1 : List UInt8 := dkwJ17_valueOf_1 ++ []
def dkwJ17_valueOf_0 : List UInt8 := [26, 16, 128, 161, 0, 20, 26, 178, 0, 191, 163, 0, 13, 178, 0, 195, 26, 17, 0, 128, 96, 50, 176]
abbrev dktJ17_valueOf_0 : List UInt8 := dkwJ17_valueOf_0 ++ dktJ17_valueOf_1
theorem dksJ17_valueOf_0 : cJ17_valueOf.data.toList.drop 0 = dktJ17_valueOf_0 := by decide +kernel
theorem dksJ17_valueOf_1 : cJ17_valueOf.data.toList.drop 23 = dktJ17_valueOf_1 := dk_seg dksJ17_valueOf_0 23 rfl rfl
theorem dJ17_valueOf_0 : decode cJ17_valueOf 0 = .ok (.iload_n 0, 1) := dk_26 (dk_at dksJ17_valueOf_0 0 rfl rfl)
theorem dJ17_valueOf_1 : decode cJ17_valueOf 1 = .ok (.bipush (-128), 2) := dk_16 128 (dk_at dksJ17_valueOf_0 1 rfl rfl)
theorem dJ17_valueOf_3 : decode cJ17_valueOf 3 = .ok (.if_icmp .lt 20, 3) := dk_161 0 20 (dk_at dksJ17_valueOf_0 3 rfl rfl)
theorem dJ17_valueOf_6 : decode cJ17_valueOf 6 = .ok (.iload_n 0, 1) := dk_26 (dk_at dksJ17_valueOf_0 6 rfl rfl)
theorem dJ17_valueOf_7 : decode cJ17_valueOf 7 = .ok (.getstatic 191, 3) := dk_178 0 191 (dk_at dksJ17_valueOf_0 7 rfl rfl)
theorem dJ17_valueOf_10 : decode cJ17_valueOf 10 = .ok (.if_icmp .gt 13, 3) := dk_163 0 13 (dk_at dksJ17_valueOf_0 10 rfl rfl)
theorem dJ17_valueOf_13 : decode cJ17_valueOf 13 = .ok (.getstatic 195, 3) := dk_178 0 195 (dk_at dksJ17_valueOf_0 13 rfl rfl)
theorem dJ17_valueOf_16 : decode cJ17_valueOf 16 = .ok (.iload_n 0, 1) := dk_26 (dk_at dksJ17_valueOf_0 16 rfl rfl)
theorem dJ17_valueOf_17 : decode cJ17_valueOf 17 = .ok (.sipush 128, 3) := dk_17 0 128 (dk_at dksJ17_valueOf_0 17 rfl rfl)
theorem dJ17_valueOf_20 : decode cJ17_valueOf 20 = .ok (.iadd, 1) := dk_96 (dk_at dksJ17_valueOf_0 20 rfl rfl)
theorem dJ17_valueOf_21 : decode cJ17_valueOf 21 = .ok (.aaload, 1) := dk_50 (dk_at dksJ17_valueOf_0 21 rfl rfl)
theorem dJ17_valueOf_22 : decode cJ17_valueOf 22 = .ok (.areturn, 1) := dk_176 (dk_at dksJ17_valueOf_0 22 rfl rfl)
theorem dJ17_valueOf_23 : decode cJ17_valueOf 23 = .ok (.new 1, 3) := dk_187 0 1 (dk_at dksJ17_valueOf_1 0 rfl rfl)
theorem dJ17_valueOf_26 : decode cJ17_valueOf 26 = .ok (.dup, 1) := dk_89 (dk_at dksJ17_valueOf_1 3 rfl rfl)
theorem dJ17_valueOf_27 : decode cJ17_valueOf 27 = .ok (.iload_n 0, 1) := dk_26 (dk_at dksJ17_valueOf_1 4 rfl rfl)
theorem dJ17_valueOf_28 : decode cJ17_valueOf 28 = .ok (.invokespecial 199, 3) := dk_183 0 199 (dk_at dksJ17_valueOf_1 5 rfl rfl)
theorem dJ17_valueOf_31 : decode cJ17_valueOf 31 = .ok (.areturn, 1) := dk_176 (dk_at dksJ17_valueOf_1 8 rfl rfl)
abbrev cJ17_init : ByteArray := prog_19_method_23_code
def yJ17_init : MethodName := ⟨RJ17, "<init>", "(I)V"⟩
def dkwJ17_init_0 : List UInt8 := [42, 183, 0, 202, 42, 27, 181, 0, 205, 177]
abbrev dktJ17_init_0 : List UInt8 := dkwJ17_init_0 ++ []
theorem dksJ17_init_0 : cJ17_init.data.toList.drop 0 = dktJ17_init_0 := by decide +kernel
theorem dJ17_init_0 : decode cJ17_init 0 = .ok (.aload_n 0, 1) := dk_42 (dk_at dksJ17_init_0 0 rfl rfl)
theorem dJ17_init_1 : decode cJ17_init 1 = .ok (.invokespecial 202, 3) := dk_183 0 202 (dk_at dksJ17_init_0 1 rfl rfl)
theorem dJ17_init_4 : decode cJ17_init 4 = .ok (.aload_n 0, 1) := dk_42 (dk_at dksJ17_init_0 4 rfl rfl)
theorem dJ17_init_5 : decode cJ17_init 5 = .ok (.iload_n 1, 1) := dk_27 (dk_at dksJ17_init_0 5 rfl rfl)
theorem dJ17_init_6 : decode cJ17_init 6 = .ok (.putfield 205, 3) := dk_181 0 205 (dk_at dksJ17_init_0 6 rfl rfl)
theorem dJ17_init_9 : decode cJ17_init 9 = .ok (.return_, 1) := dk_177 (dk_at dksJ17_init_0 9 rfl rfl)
abbrev cJ17_intValue : ByteArray := prog_19_method_27_code
def yJ17_intValue : MethodName := ⟨RJ17, "intValue", "()I"⟩
theorem dJ17_intValue_0 : decode cJ17_intValue 0 = .ok (.aload_n 0, 1) := by decide +kernel
theorem dJ17_intValue_1 : decode cJ17_intValue 1 = .ok (.getfield 205, 3) := by decide +kernel
theorem dJ17_intValue_4 : decode cJ17_intValue 4 = .ok (.ireturn, 1) := by decide +kernel
abbrev cJ17_equals : ByteArray := prog_19_method_34_code
def yJ17_equals : MethodName := ⟨RJ17, "equals", "(Ljava/lang/Object;)Z"⟩
def dkwJ17_equals_1 : List UInt8 := [167, 0, 4, 3, 172, 3, 172]
abbrev dktJ17_equals_1 : List UInt8 := dkwJ17_equals_1 ++ []
def dkwJ17_equals_0 : List UInt8 := [43, 193, 0, 1, 153, 0, 23, 42, 180, 0, 205, 43, 192, 0, 1, 182, 0, 211, 160, 0, 7, 4]
abbrev dktJ17_equals_0 : List UInt8 := dkwJ17_equals_0 ++ dktJ17_equals_1
theorem dksJ17_equals_0 : cJ17_equals.data.toList.drop 0 = dktJ17_equals_0 := by decide +kernel
theorem dksJ17_equals_1 : cJ17_equals.data.toList.drop 22 = dktJ17_equals_1 := dk_seg dksJ17_equals_0 22 rfl rfl
theorem dJ17_equals_0 : decode cJ17_equals 0 = .ok (.aload_n 1, 1) := dk_43 (dk_at dksJ17_equals_0 0 rfl rfl)
theorem dJ17_equals_1 : decode cJ17_equals 1 = .ok (.instanceof 1, 3) := dk_193 0 1 (dk_at dksJ17_equals_0 1 rfl rfl)
theorem dJ17_equals_4 : decode cJ17_equals 4 = .ok (.ifCond .eq 23, 3) := dk_153 0 23 (dk_at dksJ17_equals_0 4 rfl rfl)
theorem dJ17_equals_7 : decode cJ17_equals 7 = .ok (.aload_n 0, 1) := dk_42 (dk_at dksJ17_equals_0 7 rfl rfl)
theorem dJ17_equals_8 : decode cJ17_equals 8 = .ok (.getfield 205, 3) := dk_180 0 205 (dk_at dksJ17_equals_0 8 rfl rfl)
theorem dJ17_equals_11 : decode cJ17_equals 11 = .ok (.aload_n 1, 1) := dk_43 (dk_at dksJ17_equals_0 11 rfl rfl)
theorem dJ17_equals_12 : decode cJ17_equals 12 = .ok (.checkcast 1, 3) := dk_192 0 1 (dk_at dksJ17_equals_0 12 rfl rfl)
theorem dJ17_equals_15 : decode cJ17_equals 15 = .ok (.invokevirtual 211, 3) := dk_182 0 211 (dk_at dksJ17_equals_0 15 rfl rfl)
theorem dJ17_equals_18 : decode cJ17_equals 18 = .ok (.if_icmp .ne 7, 3) := dk_160 0 7 (dk_at dksJ17_equals_0 18 rfl rfl)
theorem dJ17_equals_21 : decode cJ17_equals 21 = .ok (.iconst 1, 1) := dk_4 (dk_at dksJ17_equals_0 21 rfl rfl)
theorem dJ17_equals_22 : decode cJ17_equals 22 = .ok (.goto 4, 3) := dk_167 0 4 (dk_at dksJ17_equals_1 0 rfl rfl)
theorem dJ17_equals_25 : decode cJ17_equals 25 = .ok (.iconst 0, 1) := dk_3 (dk_at dksJ17_equals_1 3 rfl rfl)
theorem dJ17_equals_26 : decode cJ17_equals 26 = .ok (.ireturn, 1) := dk_172 (dk_at dksJ17_equals_1 4 rfl rfl)
theorem dJ17_equals_27 : decode cJ17_equals 27 = .ok (.iconst 0, 1) := dk_3 (dk_at dksJ17_equals_1 5 rfl rfl)
theorem dJ17_equals_28 : decode cJ17_equals 28 = .ok (.ireturn, 1) := dk_172 (dk_at dksJ17_equals_1 6 rfl rfl)
theorem q53 : (Jvm.Cond.initialized "java/lang/Integer") ∈ lw_all := lw_g (lw_at lw_m1 22 rfl) rfl
theorem q364 : (Jvm.Cond.static ({ cls := "java/lang/Integer", name := "stringSize", desc := "(I)I" } : Jvm.MethodName)) ∈ lw_all := lw_g (lw_at lw_m2 93 rfl) rfl
theorem q365 : (Jvm.Cond.code ({ cls := "java/lang/Integer", name := "stringSize", desc := "(I)I" } : Jvm.MethodName) prog_19_method_13_code (4 : Nat) (Option.some Jvm.ClassFile.FieldType.int)) ∈ lw_all := lw_g (lw_at lw_m2 94 rfl) rfl
theorem q367 : (Jvm.Cond.static ({ cls := "java/lang/Integer", name := "getChars", desc := "(II[B)I" } : Jvm.MethodName)) ∈ lw_all := lw_g (lw_at lw_m2 96 rfl) rfl
theorem q368 : (Jvm.Cond.code ({ cls := "java/lang/Integer", name := "getChars", desc := "(II[B)I" } : Jvm.MethodName) prog_19_method_12_code (7 : Nat) (Option.some Jvm.ClassFile.FieldType.int)) ∈ lw_all := lw_g (lw_at lw_m2 97 rfl) rfl
theorem q369 : (Jvm.Cond.fieldLink "java/lang/Integer" (83 : Nat) "java/lang/Integer" "DigitOnes" "[B") ∈ lw_all := lw_g (lw_at lw_m2 98 rfl) rfl
theorem q370 : (Jvm.Cond.laysStatic "java/lang/Integer" "DigitOnes" "[B") ∈ lw_tbl := lw_at lw_m2 99 rfl
theorem q371 : (Jvm.Cond.fieldLink "java/lang/Integer" (87 : Nat) "java/lang/Integer" "DigitTens" "[B") ∈ lw_all := lw_g (lw_at lw_m2 100 rfl) rfl
theorem q372 : (Jvm.Cond.laysStatic "java/lang/Integer" "DigitTens" "[B") ∈ lw_tbl := lw_at lw_m2 101 rfl
theorem q530 : (Jvm.Cond.selects "java/lang/Integer" ({ cls := "java/lang/Object", name := "getClass", desc := "()Ljava/lang/Class;" } : Jvm.MethodName) ({ cls := "java/lang/Object", name := "getClass", desc := "()Ljava/lang/Class;" } : Jvm.MethodName)) ∈ lw_all := lw_g (lw_at lw_m3 19 rfl) rfl
theorem q646 : (Jvm.Cond.static ({ cls := "java/lang/Integer", name := "valueOf", desc := "(I)Ljava/lang/Integer;" } : Jvm.MethodName)) ∈ lw_all := lw_g (lw_at lw_m3 135 rfl) rfl
theorem q647 : (Jvm.Cond.code ({ cls := "java/lang/Integer", name := "valueOf", desc := "(I)Ljava/lang/Integer;" } : Jvm.MethodName) prog_19_method_22_code (1 : Nat) (Option.some (Jvm.ClassFile.FieldType.object "java/lang/Integer"))) ∈ lw_all := lw_g (lw_at lw_m3 136 rfl) rfl
theorem q648 : (Jvm.Cond.fieldLink "java/lang/Integer" (191 : Nat) "java/lang/Integer$IntegerCache" "high" "I") ∈ lw_all := lw_g (lw_at lw_m3 137 rfl) rfl
theorem q650 : (Jvm.Cond.fieldLink "java/lang/Integer" (195 : Nat) "java/lang/Integer$IntegerCache" "cache" "[Ljava/lang/Integer;") ∈ lw_all := lw_g (lw_at lw_m3 139 rfl) rfl
theorem q652 : (Jvm.Cond.classLink "java/lang/Integer" (1 : Nat) "java/lang/Integer") ∈ lw_all := lw_g (lw_at lw_m3 141 rfl) rfl
theorem q653 : (Jvm.Cond.instantiable "java/lang/Integer" (1 : Nat)) ∈ lw_all := lw_g (lw_at lw_m3 142 rfl) rfl
theorem q654 : (Jvm.Cond.methodLink "java/lang/Integer" (199 : Nat) ({ cls := "java/lang/Integer", name := "<init>", desc := "(I)V" } : Jvm.MethodName)) ∈ lw_all := lw_g (lw_at lw_m3 143 rfl) rfl
theorem q655 : (Jvm.Cond.instanceMethod ({ cls := "java/lang/Integer", name := "<init>", desc := "(I)V" } : Jvm.MethodName)) ∈ lw_all := lw_g (lw_at lw_m3 144 rfl) rfl
theorem q656 : (Jvm.Cond.code ({ cls := "java/lang/Integer", name := "<init>", desc := "(I)V" } : Jvm.MethodName) prog_19_method_23_code (2 : Nat) (Option.none : Option Jvm.ClassFile.FieldType)) ∈ lw_all := lw_g (lw_at lw_m3 145 rfl) rfl
theorem q657 : (Jvm.Cond.methodLink "java/lang/Integer" (202 : Nat) ({ cls := "java/lang/Number", name := "<init>", desc := "()V" } : Jvm.MethodName)) ∈ lw_all := lw_g (lw_at lw_m3 146 rfl) rfl
theorem q661 : (Jvm.Cond.fieldLink "java/lang/Integer" (205 : Nat) "java/lang/Integer" "value" "I") ∈ lw_all := lw_g (lw_at lw_m3 150 rfl) rfl
theorem q662 : (Jvm.Cond.laysFinal "java/lang/Integer" "java/lang/Integer" "value" "I") ∈ lw_all := lw_g (lw_at lw_m3 151 rfl) rfl
theorem q663 : (Jvm.Cond.soleField "java/lang/Integer" "value") ∈ lw_all := lw_g (lw_at lw_m3 152 rfl) rfl
theorem q664 : (Jvm.Cond.superclass "java/lang/Integer" "java/lang/Number") ∈ lw_all := lw_g (lw_at lw_m3 153 rfl) rfl
theorem q844 : (Jvm.Cond.instanceMethod ({ cls := "java/lang/Integer", name := "intValue", desc := "()I" } : Jvm.MethodName)) ∈ lw_all := lw_g (lw_at lw_m4 93 rfl) rfl
theorem q845 : (Jvm.Cond.selects "java/lang/Integer" ({ cls := "java/lang/Integer", name := "intValue", desc := "()I" } : Jvm.MethodName) ({ cls := "java/lang/Integer", name := "intValue", desc := "()I" } : Jvm.MethodName)) ∈ lw_all := lw_g (lw_at lw_m4 94 rfl) rfl
theorem q846 : (Jvm.Cond.code ({ cls := "java/lang/Integer", name := "intValue", desc := "()I" } : Jvm.MethodName) prog_19_method_27_code (1 : Nat) (Option.some Jvm.ClassFile.FieldType.int)) ∈ lw_all := lw_g (lw_at lw_m4 95 rfl) rfl
theorem q974 : (Jvm.Cond.selects "java/lang/Integer" ({ cls := "java/lang/Object", name := "equals", desc := "(Ljava/lang/Object;)Z" } : Jvm.MethodName) ({ cls := "java/lang/Integer", name := "equals", desc := "(Ljava/lang/Object;)Z" } : Jvm.MethodName)) ∈ lw_all := lw_g (lw_at lw_m4 223 rfl) rfl
theorem q975 : (Jvm.Cond.instanceMethod ({ cls := "java/lang/Integer", name := "equals", desc := "(Ljava/lang/Object;)Z" } : Jvm.MethodName)) ∈ lw_all := lw_g (lw_at lw_m4 224 rfl) rfl
theorem q976 : (Jvm.Cond.code ({ cls := "java/lang/Integer", name := "equals", desc := "(Ljava/lang/Object;)Z" } : Jvm.MethodName) prog_19_method_34_code (2 : Nat) (Option.some Jvm.ClassFile.FieldType.boolean)) ∈ lw_all := lw_g (lw_at lw_m4 225 rfl) rfl
theorem q977 : (Jvm.Cond.methodLink "java/lang/Integer" (211 : Nat) ({ cls := "java/lang/Integer", name := "intValue", desc := "()I" } : Jvm.MethodName)) ∈ lw_all := lw_g (lw_at lw_m4 226 rfl) rfl
theorem q1427 : (Jvm.Cond.castable "java/lang/Integer" "java/lang/Object") ∈ lw_tbl := lw_at lw_m6 196 rfl
theorem in_J17 : ∀ w ∈ wsJ170, w ∈ lw_all := lw_in wsJ170 [662] (by decide +kernel) (by decide +kernel)
/-! java/util/Objects -/
set_option maxRecDepth 100000
def RJ18 : String := "java/util/Objects"
abbrev cJ18_checkIndex : ByteArray := prog_42_method_17_code
def yJ18_checkIndex : MethodName := ⟨RJ18, "checkIndex", "(II)I"⟩
def dkwJ18_checkIndex_0 : List UInt8 := [26, 27, 1, 184, 0, 105, 172]
abbrev dktJ18_checkIndex_0 : List UInt8 := dkwJ18_checkIndex_0 ++ []
theorem dksJ18_checkIndex_0 : cJ18_checkIndex.data.toList.drop 0 = dktJ18_checkIndex_0 := by decide +kernel
theorem dJ18_checkIndex_0 : decode cJ18_checkIndex 0 = .ok (.iload_n 0, 1) := dk_26 (dk_at dksJ18_checkIndex_0 0 rfl rfl)
theorem dJ18_checkIndex_1 : decode cJ18_checkIndex 1 = .ok (.iload_n 1, 1) := dk_27 (dk_at dksJ18_checkIndex_0 1 rfl rfl)
theorem dJ18_checkIndex_2 : decode cJ18_checkIndex 2 = .ok (.aconst_null, 1) := dk_1 (dk_at dksJ18_checkIndex_0 2 rfl rfl)
theorem dJ18_checkIndex_3 : decode cJ18_checkIndex 3 = .ok (.invokestatic 105, 3) := dk_184 0 105 (dk_at dksJ18_checkIndex_0 3 rfl rfl)
theorem dJ18_checkIndex_6 : decode cJ18_checkIndex 6 = .ok (.ireturn, 1) := dk_172 (dk_at dksJ18_checkIndex_0 6 rfl rfl)
abbrev cJ18_equals : ByteArray := prog_42_method_2_code
def yJ18_equals : MethodName := ⟨RJ18, "equals", "(Ljava/lang/Object;Ljava/lang/Object;)Z"⟩
def dkwJ18_equals_0 : List UInt8 := [42, 43, 165, 0, 15, 42, 198, 0, 15, 42, 43, 182, 0, 14, 153, 0, 7, 4, 167, 0, 4, 3, 172]
abbrev dktJ18_equals_0 : List UInt8 := dkwJ18_equals_0 ++ []
theorem dksJ18_equals_0 : cJ18_equals.data.toList.drop 0 = dktJ18_equals_0 := by decide +kernel
theorem dJ18_equals_0 : decode cJ18_equals 0 = .ok (.aload_n 0, 1) := dk_42 (dk_at dksJ18_equals_0 0 rfl rfl)
theorem dJ18_equals_1 : decode cJ18_equals 1 = .ok (.aload_n 1, 1) := dk_43 (dk_at dksJ18_equals_0 1 rfl rfl)
theorem dJ18_equals_2 : decode cJ18_equals 2 = .ok (.if_acmp .eq 15, 3) := dk_165 0 15 (dk_at dksJ18_equals_0 2 rfl rfl)
theorem dJ18_equals_5 : decode cJ18_equals 5 = .ok (.aload_n 0, 1) := dk_42 (dk_at dksJ18_equals_0 5 rfl rfl)
theorem dJ18_equals_6 : decode cJ18_equals 6 = .ok (.ifnull 15, 3) := dk_198 0 15 (dk_at dksJ18_equals_0 6 rfl rfl)
theorem dJ18_equals_9 : decode cJ18_equals 9 = .ok (.aload_n 0, 1) := dk_42 (dk_at dksJ18_equals_0 9 rfl rfl)
theorem dJ18_equals_10 : decode cJ18_equals 10 = .ok (.aload_n 1, 1) := dk_43 (dk_at dksJ18_equals_0 10 rfl rfl)
theorem dJ18_equals_11 : decode cJ18_equals 11 = .ok (.invokevirtual 14, 3) := dk_182 0 14 (dk_at dksJ18_equals_0 11 rfl rfl)
theorem dJ18_equals_14 : decode cJ18_equals 14 = .ok (.ifCond .eq 7, 3) := dk_153 0 7 (dk_at dksJ18_equals_0 14 rfl rfl)
theorem dJ18_equals_17 : decode cJ18_equals 17 = .ok (.iconst 1, 1) := dk_4 (dk_at dksJ18_equals_0 17 rfl rfl)
theorem dJ18_equals_18 : decode cJ18_equals 18 = .ok (.goto 4, 3) := dk_167 0 4 (dk_at dksJ18_equals_0 18 rfl rfl)
theorem dJ18_equals_21 : decode cJ18_equals 21 = .ok (.iconst 0, 1) := dk_3 (dk_at dksJ18_equals_0 21 rfl rfl)
theorem dJ18_equals_22 : decode cJ18_equals 22 = .ok (.ireturn, 1) := dk_172 (dk_at dksJ18_equals_0 22 rfl rfl)
theorem q54 : (Jvm.Cond.initialized "java/util/Objects") ∈ lw_all := lw_g (lw_at lw_m1 23 rfl) rfl
theorem q554 : (Jvm.Cond.static ({ cls := "java/util/Objects", name := "checkIndex", desc := "(II)I" } : Jvm.MethodName)) ∈ lw_all := lw_g (lw_at lw_m3 43 rfl) rfl
theorem q555 : (Jvm.Cond.code ({ cls := "java/util/Objects", name := "checkIndex", desc := "(II)I" } : Jvm.MethodName) prog_42_method_17_code (2 : Nat) (Option.some Jvm.ClassFile.FieldType.int)) ∈ lw_all := lw_g (lw_at lw_m3 44 rfl) rfl
theorem q556 : (Jvm.Cond.methodLink "java/util/Objects" (105 : Nat) ({ cls := "jdk/internal/util/Preconditions", name := "checkIndex", desc := "(IILjava/util/function/BiFunction;)I" } : Jvm.MethodName)) ∈ lw_all := lw_g (lw_at lw_m3 45 rfl) rfl
theorem q959 : (Jvm.Cond.static ({ cls := "java/util/Objects", name := "equals", desc := "(Ljava/lang/Object;Ljava/lang/Object;)Z" } : Jvm.MethodName)) ∈ lw_all := lw_g (lw_at lw_m4 208 rfl) rfl
theorem q960 : (Jvm.Cond.code ({ cls := "java/util/Objects", name := "equals", desc := "(Ljava/lang/Object;Ljava/lang/Object;)Z" } : Jvm.MethodName) prog_42_method_2_code (2 : Nat) (Option.some Jvm.ClassFile.FieldType.boolean)) ∈ lw_all := lw_g (lw_at lw_m4 209 rfl) rfl
theorem q962 : (Jvm.Cond.methodLink "java/util/Objects" (14 : Nat) ({ cls := "java/lang/Object", name := "equals", desc := "(Ljava/lang/Object;)Z" } : Jvm.MethodName)) ∈ lw_all := lw_g (lw_at lw_m4 211 rfl) rfl
/-! java/lang/Object -/
set_option maxRecDepth 100000
def RJ22 : String := "java/lang/Object"
abbrev cJ22_init : ByteArray := object_method_1_code
def yJ22_init : MethodName := ⟨RJ22, "<init>", "()V"⟩
theorem dJ22_init_0 : decode cJ22_init 0 = .ok (.return_, 1) := by decide +kernel
abbrev cJ22_equals : ByteArray := object_method_4_code
def yJ22_equals : MethodName := ⟨RJ22, "equals", "(Ljava/lang/Object;)Z"⟩
def dkwJ22_equals_0 : List UInt8 := [42, 43, 166, 0, 7, 4, 167, 0, 4, 3, 172]
abbrev dktJ22_equals_0 : List UInt8 := dkwJ22_equals_0 ++ []
theorem dksJ22_equals_0 : cJ22_equals.data.toList.drop 0 = dktJ22_equals_0 := by decide +kernel
theorem dJ22_equals_0 : decode cJ22_equals 0 = .ok (.aload_n 0, 1) := dk_42 (dk_at dksJ22_equals_0 0 rfl rfl)
theorem dJ22_equals_1 : decode cJ22_equals 1 = .ok (.aload_n 1, 1) := dk_43 (dk_at dksJ22_equals_0 1 rfl rfl)
theorem dJ22_equals_2 : decode cJ22_equals 2 = .ok (.if_acmp .ne 7, 3) := dk_166 0 7 (dk_at dksJ22_equals_0 2 rfl rfl)
theorem dJ22_equals_5 : decode cJ22_equals 5 = .ok (.iconst 1, 1) := dk_4 (dk_at dksJ22_equals_0 5 rfl rfl)
theorem dJ22_equals_6 : decode cJ22_equals 6 = .ok (.goto 4, 3) := dk_167 0 4 (dk_at dksJ22_equals_0 6 rfl rfl)
theorem dJ22_equals_9 : decode cJ22_equals 9 = .ok (.iconst 0, 1) := dk_3 (dk_at dksJ22_equals_0 9 rfl rfl)
theorem dJ22_equals_10 : decode cJ22_equals 10 = .ok (.ireturn, 1) := dk_172 (dk_at dksJ22_equals_0 10 rfl rfl)
theorem q70 : (Jvm.Cond.instanceMethod ({ cls := "java/lang/Object", name := "<init>", desc := "()V" } : Jvm.MethodName)) ∈ lw_all := lw_g (lw_at lw_m1 39 rfl) rfl
theorem q71 : (Jvm.Cond.code ({ cls := "java/lang/Object", name := "<init>", desc := "()V" } : Jvm.MethodName) object_method_1_code (1 : Nat) (Option.none : Option Jvm.ClassFile.FieldType)) ∈ lw_all := lw_g (lw_at lw_m1 40 rfl) rfl
theorem q234 : (Jvm.Cond.native ({ cls := "java/lang/Object", name := "clone", desc := "()Ljava/lang/Object;" } : Jvm.MethodName)) ∈ lw_all := lw_g (lw_at lw_m1 203 rfl) rfl
theorem q235 : (Jvm.Cond.instanceMethod ({ cls := "java/lang/Object", name := "clone", desc := "()Ljava/lang/Object;" } : Jvm.MethodName)) ∈ lw_all := lw_g (lw_at lw_m1 204 rfl) rfl
theorem q519 : (Jvm.Cond.instanceMethod ({ cls := "java/lang/Object", name := "getClass", desc := "()Ljava/lang/Class;" } : Jvm.MethodName)) ∈ lw_all := lw_g (lw_at lw_m3 8 rfl) rfl
theorem q520 : (Jvm.Cond.sameMethod "java/lang/Object" "java/lang/Object" "getClass" "()Ljava/lang/Class;") ∈ lw_all := lw_g (lw_at lw_m3 9 rfl) rfl
theorem q536 : (Jvm.Cond.native ({ cls := "java/lang/Object", name := "getClass", desc := "()Ljava/lang/Class;" } : Jvm.MethodName)) ∈ lw_all := lw_g (lw_at lw_m3 25 rfl) rfl
theorem q961 : (Jvm.Cond.declares ({ cls := "java/lang/Object", name := "equals", desc := "(Ljava/lang/Object;)Z" } : Jvm.MethodName)) ∈ lw_tbl := lw_at lw_m4 210 rfl
theorem q963 : (Jvm.Cond.instanceMethod ({ cls := "java/lang/Object", name := "equals", desc := "(Ljava/lang/Object;)Z" } : Jvm.MethodName)) ∈ lw_all := lw_g (lw_at lw_m4 212 rfl) rfl
theorem q964 : (Jvm.Cond.sameMethod "java/lang/Object" "java/lang/Object" "equals" "(Ljava/lang/Object;)Z") ∈ lw_all := lw_g (lw_at lw_m4 213 rfl) rfl
theorem q980 : (Jvm.Cond.code ({ cls := "java/lang/Object", name := "equals", desc := "(Ljava/lang/Object;)Z" } : Jvm.MethodName) object_method_4_code (2 : Nat) (Option.some Jvm.ClassFile.FieldType.boolean)) ∈ lw_all := lw_g (lw_at lw_m4 229 rfl) rfl
theorem q1418 : (Jvm.Cond.initialized "java/lang/Object") ∈ lw_all := lw_g (lw_at lw_m6 187 rfl) rfl
theorem q1437 : (Jvm.Cond.declares ({ cls := "java/lang/Object", name := "getClass", desc := "()Ljava/lang/Class;" } : Jvm.MethodName)) ∈ lw_tbl := lw_at lw_m6 206 rfl
