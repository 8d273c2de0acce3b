/-! VaryStoreModel -/
set_option maxRecDepth 100000
def RX4 : String := "VaryStoreModel"
def TX4 : u_T := fun k => match k with
  | 0 => ("VaryStoreModel", "tape", "[I", true)
  | 1 => ("VaryStoreModel", "tapeLong", "I", false)
  | 2 => ("VaryStoreModel", "fault", "I", false)
  | 3 => ("VaryStoreModel", "time", "I", false)
  | 4 => ("VaryStoreModel", "thrown", "I", false)
  | 5 => ("VaryStoreModel", "events", "J", false)
  | 6 => ("VaryStoreModel", "request", "LVaryStoreModel$Text;", false)
  | 7 => ("VaryStoreModel", "things", "[LVaryStoreModel$Thing;", true)
  | _ => ("VaryStoreModel", "many", "I", false)
def tyX4 : Nat → FieldType := fun k => match k with
  | 0 => .array .int
  | 1 => .int
  | 2 => .int
  | 3 => .int
  | 4 => .int
  | 5 => .long
  | 6 => .object "VaryStoreModel$Text"
  | 7 => .array (.object "VaryStoreModel$Thing")
  | _ => .int
abbrev wsX40 : List Cond := u_ws RX4 TX4 9
theorem nmX4 : ∀ a, a < 9 → ∀ b, b < 9 → a ≠ b → (TX4 a).2.1 ≠ (TX4 b).2.1 := by decide +kernel
theorem tyX4_ok : ∀ k, k < 9 → parseFieldDescriptor (TX4 k).2.2.1 = some (tyX4 k) := by decide +kernel
abbrev cX4_init : ByteArray := prog_7_method_1_code
def yX4_init : MethodName := ⟨RX4, "<init>", "()V"⟩
def dkwX4_init_1 : List UInt8 := [183, 0, 19, 181, 0, 22, 42, 16, 25, 189, 0, 26, 181, 0, 28, 177]
abbrev dktX4_init_1 : List UInt8 := dkwX4_init_1 ++ []
def dkwX4_init_0 : List UInt8 := [42, 183, 0, 1, 42, 17, 1, 44, 188, 10, 181, 0, 7, 42, 2, 181, 0, 13, 42, 187, 0, 17, 89, 3]
abbrev dktX4_init_0 : List UInt8 := dkwX4_init_0 ++ dktX4_init_1
theorem dksX4_init_0 : cX4_init.data.toList.drop 0 = dktX4_init_0 := by decide +kernel
theorem dksX4_init_1 : cX4_init.data.toList.drop 24 = dktX4_init_1 := dk_seg dksX4_init_0 24 rfl rfl
theorem dX4_init_0 : decode cX4_init 0 = .ok (.aload_n 0, 1) := dk_42 (dk_at dksX4_init_0 0 rfl rfl)
theorem dX4_init_1 : decode cX4_init 1 = .ok (.invokespecial 1, 3) := dk_183 0 1 (dk_at dksX4_init_0 1 rfl rfl)
theorem dX4_init_4 : decode cX4_init 4 = .ok (.aload_n 0, 1) := dk_42 (dk_at dksX4_init_0 4 rfl rfl)
theorem dX4_init_5 : decode cX4_init 5 = .ok (.sipush 300, 3) := dk_17 1 44 (dk_at dksX4_init_0 5 rfl rfl)
theorem dX4_init_8 : decode cX4_init 8 = .ok (.newarray .int, 2) := dk_188_10 (dk_at dksX4_init_0 8 rfl rfl)
theorem dX4_init_10 : decode cX4_init 10 = .ok (.putfield 7, 3) := dk_181 0 7 (dk_at dksX4_init_0 10 rfl rfl)
theorem dX4_init_13 : decode cX4_init 13 = .ok (.aload_n 0, 1) := dk_42 (dk_at dksX4_init_0 13 rfl rfl)
theorem dX4_init_14 : decode cX4_init 14 = .ok (.iconst (-1), 1) := dk_2 (dk_at dksX4_init_0 14 rfl rfl)
theorem dX4_init_15 : decode cX4_init 15 = .ok (.putfield 13, 3) := dk_181 0 13 (dk_at dksX4_init_0 15 rfl rfl)
theorem dX4_init_18 : decode cX4_init 18 = .ok (.aload_n 0, 1) := dk_42 (dk_at dksX4_init_0 18 rfl rfl)
theorem dX4_init_19 : decode cX4_init 19 = .ok (.new 17, 3) := dk_187 0 17 (dk_at dksX4_init_0 19 rfl rfl)
theorem dX4_init_22 : decode cX4_init 22 = .ok (.dup, 1) := dk_89 (dk_at dksX4_init_0 22 rfl rfl)
theorem dX4_init_23 : decode cX4_init 23 = .ok (.iconst 0, 1) := dk_3 (dk_at dksX4_init_0 23 rfl rfl)
theorem dX4_init_24 : decode cX4_init 24 = .ok (.invokespecial 19, 3) := dk_183 0 19 (dk_at dksX4_init_1 0 rfl rfl)
theorem dX4_init_27 : decode cX4_init 27 = .ok (.putfield 22, 3) := dk_181 0 22 (dk_at dksX4_init_1 3 rfl rfl)
theorem dX4_init_30 : decode cX4_init 30 = .ok (.aload_n 0, 1) := dk_42 (dk_at dksX4_init_1 6 rfl rfl)
theorem dX4_init_31 : decode cX4_init 31 = .ok (.bipush 25, 2) := dk_16 25 (dk_at dksX4_init_1 7 rfl rfl)
theorem dX4_init_33 : decode cX4_init 33 = .ok (.anewarray 26, 3) := dk_189 0 26 (dk_at dksX4_init_1 9 rfl rfl)
theorem dX4_init_36 : decode cX4_init 36 = .ok (.putfield 28, 3) := dk_181 0 28 (dk_at dksX4_init_1 12 rfl rfl)
theorem dX4_init_39 : decode cX4_init 39 = .ok (.return_, 1) := dk_177 (dk_at dksX4_init_1 15 rfl rfl)
abbrev cX4_thrown : ByteArray := prog_7_method_2_code
def yX4_thrown : MethodName := ⟨RX4, "thrown", "()I"⟩
theorem dX4_thrown_0 : decode cX4_thrown 0 = .ok (.aload_n 0, 1) := by decide +kernel
theorem dX4_thrown_1 : decode cX4_thrown 1 = .ok (.getfield 32, 3) := by decide +kernel
theorem dX4_thrown_4 : decode cX4_thrown 4 = .ok (.ireturn, 1) := by decide +kernel
abbrev cX4_type : ByteArray := prog_7_method_3_code
def yX4_type : MethodName := ⟨RX4, "type", "(JI)Z"⟩
def dkwX4_type_5 : List UInt8 := [127, 136, 79, 132, 4, 1, 167, 255, 219, 42, 89, 180, 0, 35, 29, 96, 181, 0, 35, 4, 172]
abbrev dktX4_type_5 : List UInt8 := dkwX4_type_5 ++ []
def dkwX4_type_4 : List UInt8 := [180, 0, 7, 42, 180, 0, 35, 21, 4, 96, 31, 16, 8, 29, 4, 100, 21, 4, 100, 104, 125, 20, 0, 38]
abbrev dktX4_type_4 : List UInt8 := dkwX4_type_4 ++ dktX4_type_5
def dkwX4_type_3 : List UInt8 := [16, 126, 164, 0, 5, 3, 172, 132, 4, 1, 167, 255, 210, 3, 54, 4, 21, 4, 29, 162, 0, 37, 42]
abbrev dktX4_type_3 : List UInt8 := dkwX4_type_3 ++ dktX4_type_4
def dkwX4_type_2 : List UInt8 := [20, 0, 38, 127, 136, 54, 5, 21, 5, 16, 10, 159, 0, 19, 21, 5, 16, 32, 161, 0, 10, 21, 5]
abbrev dktX4_type_2 : List UInt8 := dkwX4_type_2 ++ dktX4_type_3
def dkwX4_type_1 : List UInt8 := [17, 1, 44, 164, 0, 5, 3, 172, 3, 54, 4, 21, 4, 29, 162, 0, 46, 31, 16, 8, 21, 4, 104, 125]
abbrev dktX4_type_1 : List UInt8 := dkwX4_type_1 ++ dktX4_type_2
def dkwX4_type_0 : List UInt8 := [42, 3, 181, 0, 32, 29, 4, 161, 0, 21, 29, 16, 8, 163, 0, 15, 42, 180, 0, 35, 29, 96]
abbrev dktX4_type_0 : List UInt8 := dkwX4_type_0 ++ dktX4_type_1
theorem dksX4_type_0 : cX4_type.data.toList.drop 0 = dktX4_type_0 := by decide +kernel
theorem dksX4_type_1 : cX4_type.data.toList.drop 22 = dktX4_type_1 := dk_seg dksX4_type_0 22 rfl rfl
theorem dksX4_type_2 : cX4_type.data.toList.drop 46 = dktX4_type_2 := dk_seg dksX4_type_1 24 rfl rfl
theorem dksX4_type_3 : cX4_type.data.toList.drop 69 = dktX4_type_3 := dk_seg dksX4_type_2 23 rfl rfl
theorem dksX4_type_4 : cX4_type.data.toList.drop 92 = dktX4_type_4 := dk_seg dksX4_type_3 23 rfl rfl
theorem dksX4_type_5 : cX4_type.data.toList.drop 116 = dktX4_type_5 := dk_seg dksX4_type_4 24 rfl rfl
theorem dX4_type_0 : decode cX4_type 0 = .ok (.aload_n 0, 1) := dk_42 (dk_at dksX4_type_0 0 rfl rfl)
theorem dX4_type_1 : decode cX4_type 1 = .ok (.iconst 0, 1) := dk_3 (dk_at dksX4_type_0 1 rfl rfl)
theorem dX4_type_2 : decode cX4_type 2 = .ok (.putfield 32, 3) := dk_181 0 32 (dk_at dksX4_type_0 2 rfl rfl)
theorem dX4_type_5 : decode cX4_type 5 = .ok (.iload_n 3, 1) := dk_29 (dk_at dksX4_type_0 5 rfl rfl)
theorem dX4_type_6 : decode cX4_type 6 = .ok (.iconst 1, 1) := dk_4 (dk_at dksX4_type_0 6 rfl rfl)
theorem dX4_type_7 : decode cX4_type 7 = .ok (.if_icmp .lt 21, 3) := dk_161 0 21 (dk_at dksX4_type_0 7 rfl rfl)
theorem dX4_type_10 : decode cX4_type 10 = .ok (.iload_n 3, 1) := dk_29 (dk_at dksX4_type_0 10 rfl rfl)
theorem dX4_type_11 : decode cX4_type 11 = .ok (.bipush 8, 2) := dk_16 8 (dk_at dksX4_type_0 11 rfl rfl)
theorem dX4_type_13 : decode cX4_type 13 = .ok (.if_icmp .gt 15, 3) := dk_163 0 15 (dk_at dksX4_type_0 13 rfl rfl)
theorem dX4_type_16 : decode cX4_type 16 = .ok (.aload_n 0, 1) := dk_42 (dk_at dksX4_type_0 16 rfl rfl)
theorem dX4_type_17 : decode cX4_type 17 = .ok (.getfield 35, 3) := dk_180 0 35 (dk_at dksX4_type_0 17 rfl rfl)
theorem dX4_type_20 : decode cX4_type 20 = .ok (.iload_n 3, 1) := dk_29 (dk_at dksX4_type_0 20 rfl rfl)
theorem dX4_type_21 : decode cX4_type 21 = .ok (.iadd, 1) := dk_96 (dk_at dksX4_type_0 21 rfl rfl)
theorem dX4_type_22 : decode cX4_type 22 = .ok (.sipush 300, 3) := dk_17 1 44 (dk_at dksX4_type_1 0 rfl rfl)
theorem dX4_type_25 : decode cX4_type 25 = .ok (.if_icmp .le 5, 3) := dk_164 0 5 (dk_at dksX4_type_1 3 rfl rfl)
theorem dX4_type_28 : decode cX4_type 28 = .ok (.iconst 0, 1) := dk_3 (dk_at dksX4_type_1 6 rfl rfl)
theorem dX4_type_29 : decode cX4_type 29 = .ok (.ireturn, 1) := dk_172 (dk_at dksX4_type_1 7 rfl rfl)
theorem dX4_type_30 : decode cX4_type 30 = .ok (.iconst 0, 1) := dk_3 (dk_at dksX4_type_1 8 rfl rfl)
theorem dX4_type_31 : decode cX4_type 31 = .ok (.istore 4, 2) := dk_54 4 (dk_at dksX4_type_1 9 rfl rfl)
theorem dX4_type_33 : decode cX4_type 33 = .ok (.iload 4, 2) := dk_21 4 (dk_at dksX4_type_1 11 rfl rfl)
theorem dX4_type_35 : decode cX4_type 35 = .ok (.iload_n 3, 1) := dk_29 (dk_at dksX4_type_1 13 rfl rfl)
theorem dX4_type_36 : decode cX4_type 36 = .ok (.if_icmp .ge 46, 3) := dk_162 0 46 (dk_at dksX4_type_1 14 rfl rfl)
theorem dX4_type_39 : decode cX4_type 39 = .ok (.lload_n 1, 1) := dk_31 (dk_at dksX4_type_1 17 rfl rfl)
theorem dX4_type_40 : decode cX4_type 40 = .ok (.bipush 8, 2) := dk_16 8 (dk_at dksX4_type_1 18 rfl rfl)
theorem dX4_type_42 : decode cX4_type 42 = .ok (.iload 4, 2) := dk_21 4 (dk_at dksX4_type_1 20 rfl rfl)
theorem dX4_type_44 : decode cX4_type 44 = .ok (.imul, 1) := dk_104 (dk_at dksX4_type_1 22 rfl rfl)
theorem dX4_type_45 : decode cX4_type 45 = .ok (.lushr, 1) := dk_125 (dk_at dksX4_type_1 23 rfl rfl)
theorem dX4_type_46 : decode cX4_type 46 = .ok (.ldc2_w 38, 3) := dk_20 0 38 (dk_at dksX4_type_2 0 rfl rfl)
theorem dX4_type_49 : decode cX4_type 49 = .ok (.land, 1) := dk_127 (dk_at dksX4_type_2 3 rfl rfl)
theorem dX4_type_50 : decode cX4_type 50 = .ok (.l2i, 1) := dk_136 (dk_at dksX4_type_2 4 rfl rfl)
theorem dX4_type_51 : decode cX4_type 51 = .ok (.istore 5, 2) := dk_54 5 (dk_at dksX4_type_2 5 rfl rfl)
theorem dX4_type_53 : decode cX4_type 53 = .ok (.iload 5, 2) := dk_21 5 (dk_at dksX4_type_2 7 rfl rfl)
theorem dX4_type_55 : decode cX4_type 55 = .ok (.bipush 10, 2) := dk_16 10 (dk_at dksX4_type_2 9 rfl rfl)
theorem dX4_type_57 : decode cX4_type 57 = .ok (.if_icmp .eq 19, 3) := dk_159 0 19 (dk_at dksX4_type_2 11 rfl rfl)
theorem dX4_type_60 : decode cX4_type 60 = .ok (.iload 5, 2) := dk_21 5 (dk_at dksX4_type_2 14 rfl rfl)
theorem dX4_type_62 : decode cX4_type 62 = .ok (.bipush 32, 2) := dk_16 32 (dk_at dksX4_type_2 16 rfl rfl)
theorem dX4_type_64 : decode cX4_type 64 = .ok (.if_icmp .lt 10, 3) := dk_161 0 10 (dk_at dksX4_type_2 18 rfl rfl)
theorem dX4_type_67 : decode cX4_type 67 = .ok (.iload 5, 2) := dk_21 5 (dk_at dksX4_type_2 21 rfl rfl)
theorem dX4_type_69 : decode cX4_type 69 = .ok (.bipush 126, 2) := dk_16 126 (dk_at dksX4_type_3 0 rfl rfl)
theorem dX4_type_71 : decode cX4_type 71 = .ok (.if_icmp .le 5, 3) := dk_164 0 5 (dk_at dksX4_type_3 2 rfl rfl)
theorem dX4_type_74 : decode cX4_type 74 = .ok (.iconst 0, 1) := dk_3 (dk_at dksX4_type_3 5 rfl rfl)
theorem dX4_type_75 : decode cX4_type 75 = .ok (.ireturn, 1) := dk_172 (dk_at dksX4_type_3 6 rfl rfl)
theorem dX4_type_76 : decode cX4_type 76 = .ok (.iinc 4 1, 3) := dk_132 4 1 (dk_at dksX4_type_3 7 rfl rfl)
theorem dX4_type_79 : decode cX4_type 79 = .ok (.goto (-46), 3) := dk_167 255 210 (dk_at dksX4_type_3 10 rfl rfl)
theorem dX4_type_82 : decode cX4_type 82 = .ok (.iconst 0, 1) := dk_3 (dk_at dksX4_type_3 13 rfl rfl)
theorem dX4_type_83 : decode cX4_type 83 = .ok (.istore 4, 2) := dk_54 4 (dk_at dksX4_type_3 14 rfl rfl)
theorem dX4_type_85 : decode cX4_type 85 = .ok (.iload 4, 2) := dk_21 4 (dk_at dksX4_type_3 16 rfl rfl)
theorem dX4_type_87 : decode cX4_type 87 = .ok (.iload_n 3, 1) := dk_29 (dk_at dksX4_type_3 18 rfl rfl)
theorem dX4_type_88 : decode cX4_type 88 = .ok (.if_icmp .ge 37, 3) := dk_162 0 37 (dk_at dksX4_type_3 19 rfl rfl)
theorem dX4_type_91 : decode cX4_type 91 = .ok (.aload_n 0, 1) := dk_42 (dk_at dksX4_type_3 22 rfl rfl)
theorem dX4_type_92 : decode cX4_type 92 = .ok (.getfield 7, 3) := dk_180 0 7 (dk_at dksX4_type_4 0 rfl rfl)
theorem dX4_type_95 : decode cX4_type 95 = .ok (.aload_n 0, 1) := dk_42 (dk_at dksX4_type_4 3 rfl rfl)
theorem dX4_type_96 : decode cX4_type 96 = .ok (.getfield 35, 3) := dk_180 0 35 (dk_at dksX4_type_4 4 rfl rfl)
theorem dX4_type_99 : decode cX4_type 99 = .ok (.iload 4, 2) := dk_21 4 (dk_at dksX4_type_4 7 rfl rfl)
theorem dX4_type_101 : decode cX4_type 101 = .ok (.iadd, 1) := dk_96 (dk_at dksX4_type_4 9 rfl rfl)
theorem dX4_type_102 : decode cX4_type 102 = .ok (.lload_n 1, 1) := dk_31 (dk_at dksX4_type_4 10 rfl rfl)
theorem dX4_type_103 : decode cX4_type 103 = .ok (.bipush 8, 2) := dk_16 8 (dk_at dksX4_type_4 11 rfl rfl)
theorem dX4_type_105 : decode cX4_type 105 = .ok (.iload_n 3, 1) := dk_29 (dk_at dksX4_type_4 13 rfl rfl)
theorem dX4_type_106 : decode cX4_type 106 = .ok (.iconst 1, 1) := dk_4 (dk_at dksX4_type_4 14 rfl rfl)
theorem dX4_type_107 : decode cX4_type 107 = .ok (.isub, 1) := dk_100 (dk_at dksX4_type_4 15 rfl rfl)
theorem dX4_type_108 : decode cX4_type 108 = .ok (.iload 4, 2) := dk_21 4 (dk_at dksX4_type_4 16 rfl rfl)
theorem dX4_type_110 : decode cX4_type 110 = .ok (.isub, 1) := dk_100 (dk_at dksX4_type_4 18 rfl rfl)
theorem dX4_type_111 : decode cX4_type 111 = .ok (.imul, 1) := dk_104 (dk_at dksX4_type_4 19 rfl rfl)
theorem dX4_type_112 : decode cX4_type 112 = .ok (.lushr, 1) := dk_125 (dk_at dksX4_type_4 20 rfl rfl)
theorem dX4_type_113 : decode cX4_type 113 = .ok (.ldc2_w 38, 3) := dk_20 0 38 (dk_at dksX4_type_4 21 rfl rfl)
theorem dX4_type_116 : decode cX4_type 116 = .ok (.land, 1) := dk_127 (dk_at dksX4_type_5 0 rfl rfl)
theorem dX4_type_117 : decode cX4_type 117 = .ok (.l2i, 1) := dk_136 (dk_at dksX4_type_5 1 rfl rfl)
theorem dX4_type_118 : decode cX4_type 118 = .ok (.iastore, 1) := dk_79 (dk_at dksX4_type_5 2 rfl rfl)
theorem dX4_type_119 : decode cX4_type 119 = .ok (.iinc 4 1, 3) := dk_132 4 1 (dk_at dksX4_type_5 3 rfl rfl)
theorem dX4_type_122 : decode cX4_type 122 = .ok (.goto (-37), 3) := dk_167 255 219 (dk_at dksX4_type_5 6 rfl rfl)
theorem dX4_type_125 : decode cX4_type 125 = .ok (.aload_n 0, 1) := dk_42 (dk_at dksX4_type_5 9 rfl rfl)
theorem dX4_type_126 : decode cX4_type 126 = .ok (.dup, 1) := dk_89 (dk_at dksX4_type_5 10 rfl rfl)
theorem dX4_type_127 : decode cX4_type 127 = .ok (.getfield 35, 3) := dk_180 0 35 (dk_at dksX4_type_5 11 rfl rfl)
theorem dX4_type_130 : decode cX4_type 130 = .ok (.iload_n 3, 1) := dk_29 (dk_at dksX4_type_5 14 rfl rfl)
theorem dX4_type_131 : decode cX4_type 131 = .ok (.iadd, 1) := dk_96 (dk_at dksX4_type_5 15 rfl rfl)
theorem dX4_type_132 : decode cX4_type 132 = .ok (.putfield 35, 3) := dk_181 0 35 (dk_at dksX4_type_5 16 rfl rfl)
theorem dX4_type_135 : decode cX4_type 135 = .ok (.iconst 1, 1) := dk_4 (dk_at dksX4_type_5 19 rfl rfl)
theorem dX4_type_136 : decode cX4_type 136 = .ok (.ireturn, 1) := dk_172 (dk_at dksX4_type_5 20 rfl rfl)
abbrev cX4_ask : ByteArray := prog_7_method_35_code
def yX4_ask : MethodName := ⟨RX4, "ask", "(I)I"⟩
def dkwX4_ask_5 : List UInt8 := [153, 0, 5, 7, 172, 21, 5, 172]
abbrev dktX4_ask_5 : List UInt8 := dkwX4_ask_5 ++ []
def dkwX4_ask_4 : List UInt8 := [180, 0, 28, 21, 4, 50, 182, 0, 184, 167, 0, 18, 45, 20, 0, 231, 20, 0, 233, 184, 0, 129]
abbrev dktX4_ask_4 : List UInt8 := dkwX4_ask_4 ++ dktX4_ask_5
def dkwX4_ask_3 : List UInt8 := [21, 4, 50, 45, 182, 0, 227, 54, 5, 21, 5, 4, 159, 0, 9, 21, 5, 5, 160, 0, 17, 42, 42]
abbrev dktX4_ask_3 : List UInt8 := dkwX4_ask_3 ++ dktX4_ask_4
def dkwX4_ask_2 : List UInt8 := [78, 42, 27, 182, 0, 224, 54, 4, 21, 4, 2, 160, 0, 7, 3, 167, 0, 15, 42, 42, 180, 0, 28]
abbrev dktX4_ask_2 : List UInt8 := dkwX4_ask_2 ++ dktX4_ask_3
def dkwX4_ask_1 : List UInt8 := [181, 0, 32, 42, 180, 0, 32, 153, 0, 5, 3, 172, 42, 44, 181, 0, 22, 44, 184, 0, 220, 184, 0, 91]
abbrev dktX4_ask_1 : List UInt8 := dkwX4_ask_1 ++ dktX4_ask_2
def dkwX4_ask_0 : List UInt8 := [42, 182, 0, 213, 77, 42, 44, 198, 0, 10, 27, 184, 0, 217, 154, 0, 7, 4, 167, 0, 4, 3]
abbrev dktX4_ask_0 : List UInt8 := dkwX4_ask_0 ++ dktX4_ask_1
theorem dksX4_ask_0 : cX4_ask.data.toList.drop 0 = dktX4_ask_0 := by decide +kernel
theorem dksX4_ask_1 : cX4_ask.data.toList.drop 22 = dktX4_ask_1 := dk_seg dksX4_ask_0 22 rfl rfl
theorem dksX4_ask_2 : cX4_ask.data.toList.drop 46 = dktX4_ask_2 := dk_seg dksX4_ask_1 24 rfl rfl
theorem dksX4_ask_3 : cX4_ask.data.toList.drop 69 = dktX4_ask_3 := dk_seg dksX4_ask_2 23 rfl rfl
theorem dksX4_ask_4 : cX4_ask.data.toList.drop 92 = dktX4_ask_4 := dk_seg dksX4_ask_3 23 rfl rfl
theorem dksX4_ask_5 : cX4_ask.data.toList.drop 114 = dktX4_ask_5 := dk_seg dksX4_ask_4 22 rfl rfl
theorem dX4_ask_0 : decode cX4_ask 0 = .ok (.aload_n 0, 1) := dk_42 (dk_at dksX4_ask_0 0 rfl rfl)
theorem dX4_ask_1 : decode cX4_ask 1 = .ok (.invokevirtual 213, 3) := dk_182 0 213 (dk_at dksX4_ask_0 1 rfl rfl)
theorem dX4_ask_4 : decode cX4_ask 4 = .ok (.astore_n 2, 1) := dk_77 (dk_at dksX4_ask_0 4 rfl rfl)
theorem dX4_ask_5 : decode cX4_ask 5 = .ok (.aload_n 0, 1) := dk_42 (dk_at dksX4_ask_0 5 rfl rfl)
theorem dX4_ask_6 : decode cX4_ask 6 = .ok (.aload_n 2, 1) := dk_44 (dk_at dksX4_ask_0 6 rfl rfl)
theorem dX4_ask_7 : decode cX4_ask 7 = .ok (.ifnull 10, 3) := dk_198 0 10 (dk_at dksX4_ask_0 7 rfl rfl)
theorem dX4_ask_10 : decode cX4_ask 10 = .ok (.iload_n 1, 1) := dk_27 (dk_at dksX4_ask_0 10 rfl rfl)
theorem dX4_ask_11 : decode cX4_ask 11 = .ok (.invokestatic 217, 3) := dk_184 0 217 (dk_at dksX4_ask_0 11 rfl rfl)
theorem dX4_ask_14 : decode cX4_ask 14 = .ok (.ifCond .ne 7, 3) := dk_154 0 7 (dk_at dksX4_ask_0 14 rfl rfl)
theorem dX4_ask_17 : decode cX4_ask 17 = .ok (.iconst 1, 1) := dk_4 (dk_at dksX4_ask_0 17 rfl rfl)
theorem dX4_ask_18 : decode cX4_ask 18 = .ok (.goto 4, 3) := dk_167 0 4 (dk_at dksX4_ask_0 18 rfl rfl)
theorem dX4_ask_21 : decode cX4_ask 21 = .ok (.iconst 0, 1) := dk_3 (dk_at dksX4_ask_0 21 rfl rfl)
theorem dX4_ask_22 : decode cX4_ask 22 = .ok (.putfield 32, 3) := dk_181 0 32 (dk_at dksX4_ask_1 0 rfl rfl)
theorem dX4_ask_25 : decode cX4_ask 25 = .ok (.aload_n 0, 1) := dk_42 (dk_at dksX4_ask_1 3 rfl rfl)
theorem dX4_ask_26 : decode cX4_ask 26 = .ok (.getfield 32, 3) := dk_180 0 32 (dk_at dksX4_ask_1 4 rfl rfl)
theorem dX4_ask_29 : decode cX4_ask 29 = .ok (.ifCond .eq 5, 3) := dk_153 0 5 (dk_at dksX4_ask_1 7 rfl rfl)
theorem dX4_ask_32 : decode cX4_ask 32 = .ok (.iconst 0, 1) := dk_3 (dk_at dksX4_ask_1 10 rfl rfl)
theorem dX4_ask_33 : decode cX4_ask 33 = .ok (.ireturn, 1) := dk_172 (dk_at dksX4_ask_1 11 rfl rfl)
theorem dX4_ask_34 : decode cX4_ask 34 = .ok (.aload_n 0, 1) := dk_42 (dk_at dksX4_ask_1 12 rfl rfl)
theorem dX4_ask_35 : decode cX4_ask 35 = .ok (.aload_n 2, 1) := dk_44 (dk_at dksX4_ask_1 13 rfl rfl)
theorem dX4_ask_36 : decode cX4_ask 36 = .ok (.putfield 22, 3) := dk_181 0 22 (dk_at dksX4_ask_1 14 rfl rfl)
theorem dX4_ask_39 : decode cX4_ask 39 = .ok (.aload_n 2, 1) := dk_44 (dk_at dksX4_ask_1 17 rfl rfl)
theorem dX4_ask_40 : decode cX4_ask 40 = .ok (.invokestatic 220, 3) := dk_184 0 220 (dk_at dksX4_ask_1 18 rfl rfl)
theorem dX4_ask_43 : decode cX4_ask 43 = .ok (.invokestatic 91, 3) := dk_184 0 91 (dk_at dksX4_ask_1 21 rfl rfl)
theorem dX4_ask_46 : decode cX4_ask 46 = .ok (.astore_n 3, 1) := dk_78 (dk_at dksX4_ask_2 0 rfl rfl)
theorem dX4_ask_47 : decode cX4_ask 47 = .ok (.aload_n 0, 1) := dk_42 (dk_at dksX4_ask_2 1 rfl rfl)
theorem dX4_ask_48 : decode cX4_ask 48 = .ok (.iload_n 1, 1) := dk_27 (dk_at dksX4_ask_2 2 rfl rfl)
theorem dX4_ask_49 : decode cX4_ask 49 = .ok (.invokevirtual 224, 3) := dk_182 0 224 (dk_at dksX4_ask_2 3 rfl rfl)
theorem dX4_ask_52 : decode cX4_ask 52 = .ok (.istore 4, 2) := dk_54 4 (dk_at dksX4_ask_2 6 rfl rfl)
theorem dX4_ask_54 : decode cX4_ask 54 = .ok (.iload 4, 2) := dk_21 4 (dk_at dksX4_ask_2 8 rfl rfl)
theorem dX4_ask_56 : decode cX4_ask 56 = .ok (.iconst (-1), 1) := dk_2 (dk_at dksX4_ask_2 10 rfl rfl)
theorem dX4_ask_57 : decode cX4_ask 57 = .ok (.if_icmp .ne 7, 3) := dk_160 0 7 (dk_at dksX4_ask_2 11 rfl rfl)
theorem dX4_ask_60 : decode cX4_ask 60 = .ok (.iconst 0, 1) := dk_3 (dk_at dksX4_ask_2 14 rfl rfl)
theorem dX4_ask_61 : decode cX4_ask 61 = .ok (.goto 15, 3) := dk_167 0 15 (dk_at dksX4_ask_2 15 rfl rfl)
theorem dX4_ask_64 : decode cX4_ask 64 = .ok (.aload_n 0, 1) := dk_42 (dk_at dksX4_ask_2 18 rfl rfl)
theorem dX4_ask_65 : decode cX4_ask 65 = .ok (.aload_n 0, 1) := dk_42 (dk_at dksX4_ask_2 19 rfl rfl)
theorem dX4_ask_66 : decode cX4_ask 66 = .ok (.getfield 28, 3) := dk_180 0 28 (dk_at dksX4_ask_2 20 rfl rfl)
theorem dX4_ask_69 : decode cX4_ask 69 = .ok (.iload 4, 2) := dk_21 4 (dk_at dksX4_ask_3 0 rfl rfl)
theorem dX4_ask_71 : decode cX4_ask 71 = .ok (.aaload, 1) := dk_50 (dk_at dksX4_ask_3 2 rfl rfl)
theorem dX4_ask_72 : decode cX4_ask 72 = .ok (.aload_n 3, 1) := dk_45 (dk_at dksX4_ask_3 3 rfl rfl)
theorem dX4_ask_73 : decode cX4_ask 73 = .ok (.invokevirtual 227, 3) := dk_182 0 227 (dk_at dksX4_ask_3 4 rfl rfl)
theorem dX4_ask_76 : decode cX4_ask 76 = .ok (.istore 5, 2) := dk_54 5 (dk_at dksX4_ask_3 7 rfl rfl)
theorem dX4_ask_78 : decode cX4_ask 78 = .ok (.iload 5, 2) := dk_21 5 (dk_at dksX4_ask_3 9 rfl rfl)
theorem dX4_ask_80 : decode cX4_ask 80 = .ok (.iconst 1, 1) := dk_4 (dk_at dksX4_ask_3 11 rfl rfl)
theorem dX4_ask_81 : decode cX4_ask 81 = .ok (.if_icmp .eq 9, 3) := dk_159 0 9 (dk_at dksX4_ask_3 12 rfl rfl)
theorem dX4_ask_84 : decode cX4_ask 84 = .ok (.iload 5, 2) := dk_21 5 (dk_at dksX4_ask_3 15 rfl rfl)
theorem dX4_ask_86 : decode cX4_ask 86 = .ok (.iconst 2, 1) := dk_5 (dk_at dksX4_ask_3 17 rfl rfl)
theorem dX4_ask_87 : decode cX4_ask 87 = .ok (.if_icmp .ne 17, 3) := dk_160 0 17 (dk_at dksX4_ask_3 18 rfl rfl)
theorem dX4_ask_90 : decode cX4_ask 90 = .ok (.aload_n 0, 1) := dk_42 (dk_at dksX4_ask_3 21 rfl rfl)
theorem dX4_ask_91 : decode cX4_ask 91 = .ok (.aload_n 0, 1) := dk_42 (dk_at dksX4_ask_3 22 rfl rfl)
theorem dX4_ask_92 : decode cX4_ask 92 = .ok (.getfield 28, 3) := dk_180 0 28 (dk_at dksX4_ask_4 0 rfl rfl)
theorem dX4_ask_95 : decode cX4_ask 95 = .ok (.iload 4, 2) := dk_21 4 (dk_at dksX4_ask_4 3 rfl rfl)
theorem dX4_ask_97 : decode cX4_ask 97 = .ok (.aaload, 1) := dk_50 (dk_at dksX4_ask_4 5 rfl rfl)
theorem dX4_ask_98 : decode cX4_ask 98 = .ok (.invokevirtual 184, 3) := dk_182 0 184 (dk_at dksX4_ask_4 6 rfl rfl)
theorem dX4_ask_101 : decode cX4_ask 101 = .ok (.goto 18, 3) := dk_167 0 18 (dk_at dksX4_ask_4 9 rfl rfl)
theorem dX4_ask_104 : decode cX4_ask 104 = .ok (.aload_n 3, 1) := dk_45 (dk_at dksX4_ask_4 12 rfl rfl)
theorem dX4_ask_105 : decode cX4_ask 105 = .ok (.ldc2_w 231, 3) := dk_20 0 231 (dk_at dksX4_ask_4 13 rfl rfl)
theorem dX4_ask_108 : decode cX4_ask 108 = .ok (.ldc2_w 233, 3) := dk_20 0 233 (dk_at dksX4_ask_4 16 rfl rfl)
theorem dX4_ask_111 : decode cX4_ask 111 = .ok (.invokestatic 129, 3) := dk_184 0 129 (dk_at dksX4_ask_4 19 rfl rfl)
theorem dX4_ask_114 : decode cX4_ask 114 = .ok (.ifCond .eq 5, 3) := dk_153 0 5 (dk_at dksX4_ask_5 0 rfl rfl)
theorem dX4_ask_117 : decode cX4_ask 117 = .ok (.iconst 4, 1) := dk_7 (dk_at dksX4_ask_5 3 rfl rfl)
theorem dX4_ask_118 : decode cX4_ask 118 = .ok (.ireturn, 1) := dk_172 (dk_at dksX4_ask_5 4 rfl rfl)
theorem dX4_ask_119 : decode cX4_ask 119 = .ok (.iload 5, 2) := dk_21 5 (dk_at dksX4_ask_5 5 rfl rfl)
theorem dX4_ask_121 : decode cX4_ask 121 = .ok (.ireturn, 1) := dk_172 (dk_at dksX4_ask_5 7 rfl rfl)
abbrev cX4_read : ByteArray := prog_7_method_8_code
def yX4_read : MethodName := ⟨RX4, "read", "()LVaryStoreModel$Text;"⟩
def dkwX4_read_8 : List UInt8 := [21, 4, 4, 96, 62, 167, 255, 116, 44, 176]
abbrev dktX4_read_8 : List UInt8 := dkwX4_read_8 ++ []
def dkwX4_read_7 : List UInt8 := [21, 5, 79, 44, 180, 0, 63, 44, 180, 0, 57, 21, 4, 79, 44, 89, 180, 0, 57, 4, 96, 181, 0, 57]
abbrev dktX4_read_7 : List UInt8 := dkwX4_read_7 ++ dktX4_read_8
def dkwX4_read_6 : List UInt8 := [181, 0, 13, 1, 176, 44, 180, 0, 54, 44, 180, 0, 57, 29, 79, 44, 180, 0, 60, 44, 180, 0, 57]
abbrev dktX4_read_6 : List UInt8 := dkwX4_read_6 ++ dktX4_read_7
def dkwX4_read_5 : List UInt8 := [21, 5, 21, 4, 159, 0, 16, 44, 180, 0, 47, 29, 21, 5, 184, 0, 50, 154, 0, 10, 42, 29]
abbrev dktX4_read_5 : List UInt8 := dkwX4_read_5 ++ dktX4_read_6
def dkwX4_read_4 : List UInt8 := [44, 180, 0, 47, 21, 5, 46, 16, 58, 159, 0, 9, 132, 5, 1, 167, 255, 234, 21, 4, 27, 159, 0, 23]
abbrev dktX4_read_4 : List UInt8 := dkwX4_read_4 ++ dktX4_read_5
def dkwX4_read_3 : List UInt8 := [21, 4, 46, 16, 10, 159, 0, 9, 132, 4, 1, 167, 255, 235, 29, 54, 5, 21, 5, 21, 4, 162, 0, 21]
abbrev dktX4_read_3 : List UInt8 := dkwX4_read_3 ++ dktX4_read_4
def dkwX4_read_2 : List UInt8 := [167, 255, 236, 3, 62, 29, 27, 162, 0, 141, 29, 54, 4, 21, 4, 27, 162, 0, 21, 44, 180, 0, 47]
abbrev dktX4_read_2 : List UInt8 := dkwX4_read_2 ++ dktX4_read_3
def dkwX4_read_1 : List UInt8 := [3, 62, 29, 27, 162, 0, 21, 44, 180, 0, 47, 29, 42, 180, 0, 7, 29, 46, 79, 132, 3, 1]
abbrev dktX4_read_1 : List UInt8 := dkwX4_read_1 ++ dktX4_read_2
def dkwX4_read_0 : List UInt8 := [42, 180, 0, 35, 60, 42, 3, 181, 0, 35, 42, 2, 181, 0, 13, 187, 0, 17, 89, 27, 183, 0, 19, 77]
abbrev dktX4_read_0 : List UInt8 := dkwX4_read_0 ++ dktX4_read_1
theorem dksX4_read_0 : cX4_read.data.toList.drop 0 = dktX4_read_0 := by decide +kernel
theorem dksX4_read_1 : cX4_read.data.toList.drop 24 = dktX4_read_1 := dk_seg dksX4_read_0 24 rfl rfl
theorem dksX4_read_2 : cX4_read.data.toList.drop 46 = dktX4_read_2 := dk_seg dksX4_read_1 22 rfl rfl
theorem dksX4_read_3 : cX4_read.data.toList.drop 69 = dktX4_read_3 := dk_seg dksX4_read_2 23 rfl rfl
theorem dksX4_read_4 : cX4_read.data.toList.drop 93 = dktX4_read_4 := dk_seg dksX4_read_3 24 rfl rfl
theorem dksX4_read_5 : cX4_read.data.toList.drop 117 = dktX4_read_5 := dk_seg dksX4_read_4 24 rfl rfl
theorem dksX4_read_6 : cX4_read.data.toList.drop 139 = dktX4_read_6 := dk_seg dksX4_read_5 22 rfl rfl
theorem dksX4_read_7 : cX4_read.data.toList.drop 162 = dktX4_read_7 := dk_seg dksX4_read_6 23 rfl rfl
theorem dksX4_read_8 : cX4_read.data.toList.drop 186 = dktX4_read_8 := dk_seg dksX4_read_7 24 rfl rfl
theorem dX4_read_0 : decode cX4_read 0 = .ok (.aload_n 0, 1) := dk_42 (dk_at dksX4_read_0 0 rfl rfl)
theorem dX4_read_1 : decode cX4_read 1 = .ok (.getfield 35, 3) := dk_180 0 35 (dk_at dksX4_read_0 1 rfl rfl)
theorem dX4_read_4 : decode cX4_read 4 = .ok (.istore_n 1, 1) := dk_60 (dk_at dksX4_read_0 4 rfl rfl)
theorem dX4_read_5 : decode cX4_read 5 = .ok (.aload_n 0, 1) := dk_42 (dk_at dksX4_read_0 5 rfl rfl)
theorem dX4_read_6 : decode cX4_read 6 = .ok (.iconst 0, 1) := dk_3 (dk_at dksX4_read_0 6 rfl rfl)
theorem dX4_read_7 : decode cX4_read 7 = .ok (.putfield 35, 3) := dk_181 0 35 (dk_at dksX4_read_0 7 rfl rfl)
theorem dX4_read_10 : decode cX4_read 10 = .ok (.aload_n 0, 1) := dk_42 (dk_at dksX4_read_0 10 rfl rfl)
theorem dX4_read_11 : decode cX4_read 11 = .ok (.iconst (-1), 1) := dk_2 (dk_at dksX4_read_0 11 rfl rfl)
theorem dX4_read_12 : decode cX4_read 12 = .ok (.putfield 13, 3) := dk_181 0 13 (dk_at dksX4_read_0 12 rfl rfl)
theorem dX4_read_15 : decode cX4_read 15 = .ok (.new 17, 3) := dk_187 0 17 (dk_at dksX4_read_0 15 rfl rfl)
theorem dX4_read_18 : decode cX4_read 18 = .ok (.dup, 1) := dk_89 (dk_at dksX4_read_0 18 rfl rfl)
theorem dX4_read_19 : decode cX4_read 19 = .ok (.iload_n 1, 1) := dk_27 (dk_at dksX4_read_0 19 rfl rfl)
theorem dX4_read_20 : decode cX4_read 20 = .ok (.invokespecial 19, 3) := dk_183 0 19 (dk_at dksX4_read_0 20 rfl rfl)
theorem dX4_read_23 : decode cX4_read 23 = .ok (.astore_n 2, 1) := dk_77 (dk_at dksX4_read_0 23 rfl rfl)
theorem dX4_read_24 : decode cX4_read 24 = .ok (.iconst 0, 1) := dk_3 (dk_at dksX4_read_1 0 rfl rfl)
theorem dX4_read_25 : decode cX4_read 25 = .ok (.istore_n 3, 1) := dk_62 (dk_at dksX4_read_1 1 rfl rfl)
theorem dX4_read_26 : decode cX4_read 26 = .ok (.iload_n 3, 1) := dk_29 (dk_at dksX4_read_1 2 rfl rfl)
theorem dX4_read_27 : decode cX4_read 27 = .ok (.iload_n 1, 1) := dk_27 (dk_at dksX4_read_1 3 rfl rfl)
theorem dX4_read_28 : decode cX4_read 28 = .ok (.if_icmp .ge 21, 3) := dk_162 0 21 (dk_at dksX4_read_1 4 rfl rfl)
theorem dX4_read_31 : decode cX4_read 31 = .ok (.aload_n 2, 1) := dk_44 (dk_at dksX4_read_1 7 rfl rfl)
theorem dX4_read_32 : decode cX4_read 32 = .ok (.getfield 47, 3) := dk_180 0 47 (dk_at dksX4_read_1 8 rfl rfl)
theorem dX4_read_35 : decode cX4_read 35 = .ok (.iload_n 3, 1) := dk_29 (dk_at dksX4_read_1 11 rfl rfl)
theorem dX4_read_36 : decode cX4_read 36 = .ok (.aload_n 0, 1) := dk_42 (dk_at dksX4_read_1 12 rfl rfl)
theorem dX4_read_37 : decode cX4_read 37 = .ok (.getfield 7, 3) := dk_180 0 7 (dk_at dksX4_read_1 13 rfl rfl)
theorem dX4_read_40 : decode cX4_read 40 = .ok (.iload_n 3, 1) := dk_29 (dk_at dksX4_read_1 16 rfl rfl)
theorem dX4_read_41 : decode cX4_read 41 = .ok (.iaload, 1) := dk_46 (dk_at dksX4_read_1 17 rfl rfl)
theorem dX4_read_42 : decode cX4_read 42 = .ok (.iastore, 1) := dk_79 (dk_at dksX4_read_1 18 rfl rfl)
theorem dX4_read_43 : decode cX4_read 43 = .ok (.iinc 3 1, 3) := dk_132 3 1 (dk_at dksX4_read_1 19 rfl rfl)
theorem dX4_read_46 : decode cX4_read 46 = .ok (.goto (-20), 3) := dk_167 255 236 (dk_at dksX4_read_2 0 rfl rfl)
theorem dX4_read_49 : decode cX4_read 49 = .ok (.iconst 0, 1) := dk_3 (dk_at dksX4_read_2 3 rfl rfl)
theorem dX4_read_50 : decode cX4_read 50 = .ok (.istore_n 3, 1) := dk_62 (dk_at dksX4_read_2 4 rfl rfl)
theorem dX4_read_51 : decode cX4_read 51 = .ok (.iload_n 3, 1) := dk_29 (dk_at dksX4_read_2 5 rfl rfl)
theorem dX4_read_52 : decode cX4_read 52 = .ok (.iload_n 1, 1) := dk_27 (dk_at dksX4_read_2 6 rfl rfl)
theorem dX4_read_53 : decode cX4_read 53 = .ok (.if_icmp .ge 141, 3) := dk_162 0 141 (dk_at dksX4_read_2 7 rfl rfl)
theorem dX4_read_56 : decode cX4_read 56 = .ok (.iload_n 3, 1) := dk_29 (dk_at dksX4_read_2 10 rfl rfl)
theorem dX4_read_57 : decode cX4_read 57 = .ok (.istore 4, 2) := dk_54 4 (dk_at dksX4_read_2 11 rfl rfl)
theorem dX4_read_59 : decode cX4_read 59 = .ok (.iload 4, 2) := dk_21 4 (dk_at dksX4_read_2 13 rfl rfl)
theorem dX4_read_61 : decode cX4_read 61 = .ok (.iload_n 1, 1) := dk_27 (dk_at dksX4_read_2 15 rfl rfl)
theorem dX4_read_62 : decode cX4_read 62 = .ok (.if_icmp .ge 21, 3) := dk_162 0 21 (dk_at dksX4_read_2 16 rfl rfl)
theorem dX4_read_65 : decode cX4_read 65 = .ok (.aload_n 2, 1) := dk_44 (dk_at dksX4_read_2 19 rfl rfl)
theorem dX4_read_66 : decode cX4_read 66 = .ok (.getfield 47, 3) := dk_180 0 47 (dk_at dksX4_read_2 20 rfl rfl)
theorem dX4_read_69 : decode cX4_read 69 = .ok (.iload 4, 2) := dk_21 4 (dk_at dksX4_read_3 0 rfl rfl)
theorem dX4_read_71 : decode cX4_read 71 = .ok (.iaload, 1) := dk_46 (dk_at dksX4_read_3 2 rfl rfl)
theorem dX4_read_72 : decode cX4_read 72 = .ok (.bipush 10, 2) := dk_16 10 (dk_at dksX4_read_3 3 rfl rfl)
theorem dX4_read_74 : decode cX4_read 74 = .ok (.if_icmp .eq 9, 3) := dk_159 0 9 (dk_at dksX4_read_3 5 rfl rfl)
theorem dX4_read_77 : decode cX4_read 77 = .ok (.iinc 4 1, 3) := dk_132 4 1 (dk_at dksX4_read_3 8 rfl rfl)
theorem dX4_read_80 : decode cX4_read 80 = .ok (.goto (-21), 3) := dk_167 255 235 (dk_at dksX4_read_3 11 rfl rfl)
theorem dX4_read_83 : decode cX4_read 83 = .ok (.iload_n 3, 1) := dk_29 (dk_at dksX4_read_3 14 rfl rfl)
theorem dX4_read_84 : decode cX4_read 84 = .ok (.istore 5, 2) := dk_54 5 (dk_at dksX4_read_3 15 rfl rfl)
theorem dX4_read_86 : decode cX4_read 86 = .ok (.iload 5, 2) := dk_21 5 (dk_at dksX4_read_3 17 rfl rfl)
theorem dX4_read_88 : decode cX4_read 88 = .ok (.iload 4, 2) := dk_21 4 (dk_at dksX4_read_3 19 rfl rfl)
theorem dX4_read_90 : decode cX4_read 90 = .ok (.if_icmp .ge 21, 3) := dk_162 0 21 (dk_at dksX4_read_3 21 rfl rfl)
theorem dX4_read_93 : decode cX4_read 93 = .ok (.aload_n 2, 1) := dk_44 (dk_at dksX4_read_4 0 rfl rfl)
theorem dX4_read_94 : decode cX4_read 94 = .ok (.getfield 47, 3) := dk_180 0 47 (dk_at dksX4_read_4 1 rfl rfl)
theorem dX4_read_97 : decode cX4_read 97 = .ok (.iload 5, 2) := dk_21 5 (dk_at dksX4_read_4 4 rfl rfl)
theorem dX4_read_99 : decode cX4_read 99 = .ok (.iaload, 1) := dk_46 (dk_at dksX4_read_4 6 rfl rfl)
theorem dX4_read_100 : decode cX4_read 100 = .ok (.bipush 58, 2) := dk_16 58 (dk_at dksX4_read_4 7 rfl rfl)
theorem dX4_read_102 : decode cX4_read 102 = .ok (.if_icmp .eq 9, 3) := dk_159 0 9 (dk_at dksX4_read_4 9 rfl rfl)
theorem dX4_read_105 : decode cX4_read 105 = .ok (.iinc 5 1, 3) := dk_132 5 1 (dk_at dksX4_read_4 12 rfl rfl)
theorem dX4_read_108 : decode cX4_read 108 = .ok (.goto (-22), 3) := dk_167 255 234 (dk_at dksX4_read_4 15 rfl rfl)
theorem dX4_read_111 : decode cX4_read 111 = .ok (.iload 4, 2) := dk_21 4 (dk_at dksX4_read_4 18 rfl rfl)
theorem dX4_read_113 : decode cX4_read 113 = .ok (.iload_n 1, 1) := dk_27 (dk_at dksX4_read_4 20 rfl rfl)
theorem dX4_read_114 : decode cX4_read 114 = .ok (.if_icmp .eq 23, 3) := dk_159 0 23 (dk_at dksX4_read_4 21 rfl rfl)
theorem dX4_read_117 : decode cX4_read 117 = .ok (.iload 5, 2) := dk_21 5 (dk_at dksX4_read_5 0 rfl rfl)
theorem dX4_read_119 : decode cX4_read 119 = .ok (.iload 4, 2) := dk_21 4 (dk_at dksX4_read_5 2 rfl rfl)
theorem dX4_read_121 : decode cX4_read 121 = .ok (.if_icmp .eq 16, 3) := dk_159 0 16 (dk_at dksX4_read_5 4 rfl rfl)
theorem dX4_read_124 : decode cX4_read 124 = .ok (.aload_n 2, 1) := dk_44 (dk_at dksX4_read_5 7 rfl rfl)
theorem dX4_read_125 : decode cX4_read 125 = .ok (.getfield 47, 3) := dk_180 0 47 (dk_at dksX4_read_5 8 rfl rfl)
theorem dX4_read_128 : decode cX4_read 128 = .ok (.iload_n 3, 1) := dk_29 (dk_at dksX4_read_5 11 rfl rfl)
theorem dX4_read_129 : decode cX4_read 129 = .ok (.iload 5, 2) := dk_21 5 (dk_at dksX4_read_5 12 rfl rfl)
theorem dX4_read_131 : decode cX4_read 131 = .ok (.invokestatic 50, 3) := dk_184 0 50 (dk_at dksX4_read_5 14 rfl rfl)
theorem dX4_read_134 : decode cX4_read 134 = .ok (.ifCond .ne 10, 3) := dk_154 0 10 (dk_at dksX4_read_5 17 rfl rfl)
theorem dX4_read_137 : decode cX4_read 137 = .ok (.aload_n 0, 1) := dk_42 (dk_at dksX4_read_5 20 rfl rfl)
theorem dX4_read_138 : decode cX4_read 138 = .ok (.iload_n 3, 1) := dk_29 (dk_at dksX4_read_5 21 rfl rfl)
theorem dX4_read_139 : decode cX4_read 139 = .ok (.putfield 13, 3) := dk_181 0 13 (dk_at dksX4_read_6 0 rfl rfl)
theorem dX4_read_142 : decode cX4_read 142 = .ok (.aconst_null, 1) := dk_1 (dk_at dksX4_read_6 3 rfl rfl)
theorem dX4_read_143 : decode cX4_read 143 = .ok (.areturn, 1) := dk_176 (dk_at dksX4_read_6 4 rfl rfl)
theorem dX4_read_144 : decode cX4_read 144 = .ok (.aload_n 2, 1) := dk_44 (dk_at dksX4_read_6 5 rfl rfl)
theorem dX4_read_145 : decode cX4_read 145 = .ok (.getfield 54, 3) := dk_180 0 54 (dk_at dksX4_read_6 6 rfl rfl)
theorem dX4_read_148 : decode cX4_read 148 = .ok (.aload_n 2, 1) := dk_44 (dk_at dksX4_read_6 9 rfl rfl)
theorem dX4_read_149 : decode cX4_read 149 = .ok (.getfield 57, 3) := dk_180 0 57 (dk_at dksX4_read_6 10 rfl rfl)
theorem dX4_read_152 : decode cX4_read 152 = .ok (.iload_n 3, 1) := dk_29 (dk_at dksX4_read_6 13 rfl rfl)
theorem dX4_read_153 : decode cX4_read 153 = .ok (.iastore, 1) := dk_79 (dk_at dksX4_read_6 14 rfl rfl)
theorem dX4_read_154 : decode cX4_read 154 = .ok (.aload_n 2, 1) := dk_44 (dk_at dksX4_read_6 15 rfl rfl)
theorem dX4_read_155 : decode cX4_read 155 = .ok (.getfield 60, 3) := dk_180 0 60 (dk_at dksX4_read_6 16 rfl rfl)
theorem dX4_read_158 : decode cX4_read 158 = .ok (.aload_n 2, 1) := dk_44 (dk_at dksX4_read_6 19 rfl rfl)
theorem dX4_read_159 : decode cX4_read 159 = .ok (.getfield 57, 3) := dk_180 0 57 (dk_at dksX4_read_6 20 rfl rfl)
theorem dX4_read_162 : decode cX4_read 162 = .ok (.iload 5, 2) := dk_21 5 (dk_at dksX4_read_7 0 rfl rfl)
theorem dX4_read_164 : decode cX4_read 164 = .ok (.iastore, 1) := dk_79 (dk_at dksX4_read_7 2 rfl rfl)
theorem dX4_read_165 : decode cX4_read 165 = .ok (.aload_n 2, 1) := dk_44 (dk_at dksX4_read_7 3 rfl rfl)
theorem dX4_read_166 : decode cX4_read 166 = .ok (.getfield 63, 3) := dk_180 0 63 (dk_at dksX4_read_7 4 rfl rfl)
theorem dX4_read_169 : decode cX4_read 169 = .ok (.aload_n 2, 1) := dk_44 (dk_at dksX4_read_7 7 rfl rfl)
theorem dX4_read_170 : decode cX4_read 170 = .ok (.getfield 57, 3) := dk_180 0 57 (dk_at dksX4_read_7 8 rfl rfl)
theorem dX4_read_173 : decode cX4_read 173 = .ok (.iload 4, 2) := dk_21 4 (dk_at dksX4_read_7 11 rfl rfl)
theorem dX4_read_175 : decode cX4_read 175 = .ok (.iastore, 1) := dk_79 (dk_at dksX4_read_7 13 rfl rfl)
theorem dX4_read_176 : decode cX4_read 176 = .ok (.aload_n 2, 1) := dk_44 (dk_at dksX4_read_7 14 rfl rfl)
theorem dX4_read_177 : decode cX4_read 177 = .ok (.dup, 1) := dk_89 (dk_at dksX4_read_7 15 rfl rfl)
theorem dX4_read_178 : decode cX4_read 178 = .ok (.getfield 57, 3) := dk_180 0 57 (dk_at dksX4_read_7 16 rfl rfl)
theorem dX4_read_181 : decode cX4_read 181 = .ok (.iconst 1, 1) := dk_4 (dk_at dksX4_read_7 19 rfl rfl)
theorem dX4_read_182 : decode cX4_read 182 = .ok (.iadd, 1) := dk_96 (dk_at dksX4_read_7 20 rfl rfl)
theorem dX4_read_183 : decode cX4_read 183 = .ok (.putfield 57, 3) := dk_181 0 57 (dk_at dksX4_read_7 21 rfl rfl)
theorem dX4_read_186 : decode cX4_read 186 = .ok (.iload 4, 2) := dk_21 4 (dk_at dksX4_read_8 0 rfl rfl)
theorem dX4_read_188 : decode cX4_read 188 = .ok (.iconst 1, 1) := dk_4 (dk_at dksX4_read_8 2 rfl rfl)
theorem dX4_read_189 : decode cX4_read 189 = .ok (.iadd, 1) := dk_96 (dk_at dksX4_read_8 3 rfl rfl)
theorem dX4_read_190 : decode cX4_read 190 = .ok (.istore_n 3, 1) := dk_62 (dk_at dksX4_read_8 4 rfl rfl)
theorem dX4_read_191 : decode cX4_read 191 = .ok (.goto (-140), 3) := dk_167 255 116 (dk_at dksX4_read_8 5 rfl rfl)
theorem dX4_read_194 : decode cX4_read 194 = .ok (.aload_n 2, 1) := dk_44 (dk_at dksX4_read_8 8 rfl rfl)
theorem dX4_read_195 : decode cX4_read 195 = .ok (.areturn, 1) := dk_176 (dk_at dksX4_read_8 9 rfl rfl)
abbrev cX4_isName : ByteArray := prog_7_method_7_code
def yX4_isName : MethodName := ⟨RX4, "isName", "([III)Z"⟩
def dkwX4_isName_1 : List UInt8 := [28, 27, 164, 0, 15, 28, 27, 100, 16, 16, 163, 0, 7, 4, 167, 0, 4, 3, 172]
abbrev dktX4_isName_1 : List UInt8 := dkwX4_isName_1 ++ []
def dkwX4_isName_0 : List UInt8 := [27, 62, 29, 28, 162, 0, 20, 42, 29, 46, 184, 0, 44, 154, 0, 5, 3, 172, 132, 3, 1, 167, 255, 237]
abbrev dktX4_isName_0 : List UInt8 := dkwX4_isName_0 ++ dktX4_isName_1
theorem dksX4_isName_0 : cX4_isName.data.toList.drop 0 = dktX4_isName_0 := by decide +kernel
theorem dksX4_isName_1 : cX4_isName.data.toList.drop 24 = dktX4_isName_1 := dk_seg dksX4_isName_0 24 rfl rfl
theorem dX4_isName_0 : decode cX4_isName 0 = .ok (.iload_n 1, 1) := dk_27 (dk_at dksX4_isName_0 0 rfl rfl)
theorem dX4_isName_1 : decode cX4_isName 1 = .ok (.istore_n 3, 1) := dk_62 (dk_at dksX4_isName_0 1 rfl rfl)
theorem dX4_isName_2 : decode cX4_isName 2 = .ok (.iload_n 3, 1) := dk_29 (dk_at dksX4_isName_0 2 rfl rfl)
theorem dX4_isName_3 : decode cX4_isName 3 = .ok (.iload_n 2, 1) := dk_28 (dk_at dksX4_isName_0 3 rfl rfl)
theorem dX4_isName_4 : decode cX4_isName 4 = .ok (.if_icmp .ge 20, 3) := dk_162 0 20 (dk_at dksX4_isName_0 4 rfl rfl)
theorem dX4_isName_7 : decode cX4_isName 7 = .ok (.aload_n 0, 1) := dk_42 (dk_at dksX4_isName_0 7 rfl rfl)
theorem dX4_isName_8 : decode cX4_isName 8 = .ok (.iload_n 3, 1) := dk_29 (dk_at dksX4_isName_0 8 rfl rfl)
theorem dX4_isName_9 : decode cX4_isName 9 = .ok (.iaload, 1) := dk_46 (dk_at dksX4_isName_0 9 rfl rfl)
theorem dX4_isName_10 : decode cX4_isName 10 = .ok (.invokestatic 44, 3) := dk_184 0 44 (dk_at dksX4_isName_0 10 rfl rfl)
theorem dX4_isName_13 : decode cX4_isName 13 = .ok (.ifCond .ne 5, 3) := dk_154 0 5 (dk_at dksX4_isName_0 13 rfl rfl)
theorem dX4_isName_16 : decode cX4_isName 16 = .ok (.iconst 0, 1) := dk_3 (dk_at dksX4_isName_0 16 rfl rfl)
theorem dX4_isName_17 : decode cX4_isName 17 = .ok (.ireturn, 1) := dk_172 (dk_at dksX4_isName_0 17 rfl rfl)
theorem dX4_isName_18 : decode cX4_isName 18 = .ok (.iinc 3 1, 3) := dk_132 3 1 (dk_at dksX4_isName_0 18 rfl rfl)
theorem dX4_isName_21 : decode cX4_isName 21 = .ok (.goto (-19), 3) := dk_167 255 237 (dk_at dksX4_isName_0 21 rfl rfl)
theorem dX4_isName_24 : decode cX4_isName 24 = .ok (.iload_n 2, 1) := dk_28 (dk_at dksX4_isName_1 0 rfl rfl)
theorem dX4_isName_25 : decode cX4_isName 25 = .ok (.iload_n 1, 1) := dk_27 (dk_at dksX4_isName_1 1 rfl rfl)
theorem dX4_isName_26 : decode cX4_isName 26 = .ok (.if_icmp .le 15, 3) := dk_164 0 15 (dk_at dksX4_isName_1 2 rfl rfl)
theorem dX4_isName_29 : decode cX4_isName 29 = .ok (.iload_n 2, 1) := dk_28 (dk_at dksX4_isName_1 5 rfl rfl)
theorem dX4_isName_30 : decode cX4_isName 30 = .ok (.iload_n 1, 1) := dk_27 (dk_at dksX4_isName_1 6 rfl rfl)
theorem dX4_isName_31 : decode cX4_isName 31 = .ok (.isub, 1) := dk_100 (dk_at dksX4_isName_1 7 rfl rfl)
theorem dX4_isName_32 : decode cX4_isName 32 = .ok (.bipush 16, 2) := dk_16 16 (dk_at dksX4_isName_1 8 rfl rfl)
theorem dX4_isName_34 : decode cX4_isName 34 = .ok (.if_icmp .gt 7, 3) := dk_163 0 7 (dk_at dksX4_isName_1 10 rfl rfl)
theorem dX4_isName_37 : decode cX4_isName 37 = .ok (.iconst 1, 1) := dk_4 (dk_at dksX4_isName_1 13 rfl rfl)
theorem dX4_isName_38 : decode cX4_isName 38 = .ok (.goto 4, 3) := dk_167 0 4 (dk_at dksX4_isName_1 14 rfl rfl)
theorem dX4_isName_41 : decode cX4_isName 41 = .ok (.iconst 0, 1) := dk_3 (dk_at dksX4_isName_1 17 rfl rfl)
theorem dX4_isName_42 : decode cX4_isName 42 = .ok (.ireturn, 1) := dk_172 (dk_at dksX4_isName_1 18 rfl rfl)
abbrev cX4_isNameSign : ByteArray := prog_7_method_6_code
def yX4_isNameSign : MethodName := ⟨RX4, "isNameSign", "(I)Z"⟩
def dkwX4_isNameSign_1 : List UInt8 := [26, 184, 0, 40, 154, 0, 9, 26, 16, 45, 160, 0, 7, 4, 167, 0, 4, 3, 172]
abbrev dktX4_isNameSign_1 : List UInt8 := dkwX4_isNameSign_1 ++ []
def dkwX4_isNameSign_0 : List UInt8 := [26, 16, 65, 161, 0, 9, 26, 16, 90, 164, 0, 28, 26, 16, 97, 161, 0, 9, 26, 16, 122, 164, 0, 16]
abbrev dktX4_isNameSign_0 : List UInt8 := dkwX4_isNameSign_0 ++ dktX4_isNameSign_1
theorem dksX4_isNameSign_0 : cX4_isNameSign.data.toList.drop 0 = dktX4_isNameSign_0 := by decide +kernel
theorem dksX4_isNameSign_1 : cX4_isNameSign.data.toList.drop 24 = dktX4_isNameSign_1 := dk_seg dksX4_isNameSign_0 24 rfl rfl
theorem dX4_isNameSign_0 : decode cX4_isNameSign 0 = .ok (.iload_n 0, 1) := dk_26 (dk_at dksX4_isNameSign_0 0 rfl rfl)
theorem dX4_isNameSign_1 : decode cX4_isNameSign 1 = .ok (.bipush 65, 2) := dk_16 65 (dk_at dksX4_isNameSign_0 1 rfl rfl)
theorem dX4_isNameSign_3 : decode cX4_isNameSign 3 = .ok (.if_icmp .lt 9, 3) := dk_161 0 9 (dk_at dksX4_isNameSign_0 3 rfl rfl)
theorem dX4_isNameSign_6 : decode cX4_isNameSign 6 = .ok (.iload_n 0, 1) := dk_26 (dk_at dksX4_isNameSign_0 6 rfl rfl)
theorem dX4_isNameSign_7 : decode cX4_isNameSign 7 = .ok (.bipush 90, 2) := dk_16 90 (dk_at dksX4_isNameSign_0 7 rfl rfl)
theorem dX4_isNameSign_9 : decode cX4_isNameSign 9 = .ok (.if_icmp .le 28, 3) := dk_164 0 28 (dk_at dksX4_isNameSign_0 9 rfl rfl)
theorem dX4_isNameSign_12 : decode cX4_isNameSign 12 = .ok (.iload_n 0, 1) := dk_26 (dk_at dksX4_isNameSign_0 12 rfl rfl)
theorem dX4_isNameSign_13 : decode cX4_isNameSign 13 = .ok (.bipush 97, 2) := dk_16 97 (dk_at dksX4_isNameSign_0 13 rfl rfl)
theorem dX4_isNameSign_15 : decode cX4_isNameSign 15 = .ok (.if_icmp .lt 9, 3) := dk_161 0 9 (dk_at dksX4_isNameSign_0 15 rfl rfl)
theorem dX4_isNameSign_18 : decode cX4_isNameSign 18 = .ok (.iload_n 0, 1) := dk_26 (dk_at dksX4_isNameSign_0 18 rfl rfl)
theorem dX4_isNameSign_19 : decode cX4_isNameSign 19 = .ok (.bipush 122, 2) := dk_16 122 (dk_at dksX4_isNameSign_0 19 rfl rfl)
theorem dX4_isNameSign_21 : decode cX4_isNameSign 21 = .ok (.if_icmp .le 16, 3) := dk_164 0 16 (dk_at dksX4_isNameSign_0 21 rfl rfl)
theorem dX4_isNameSign_24 : decode cX4_isNameSign 24 = .ok (.iload_n 0, 1) := dk_26 (dk_at dksX4_isNameSign_1 0 rfl rfl)
theorem dX4_isNameSign_25 : decode cX4_isNameSign 25 = .ok (.invokestatic 40, 3) := dk_184 0 40 (dk_at dksX4_isNameSign_1 1 rfl rfl)
theorem dX4_isNameSign_28 : decode cX4_isNameSign 28 = .ok (.ifCond .ne 9, 3) := dk_154 0 9 (dk_at dksX4_isNameSign_1 4 rfl rfl)
theorem dX4_isNameSign_31 : decode cX4_isNameSign 31 = .ok (.iload_n 0, 1) := dk_26 (dk_at dksX4_isNameSign_1 7 rfl rfl)
theorem dX4_isNameSign_32 : decode cX4_isNameSign 32 = .ok (.bipush 45, 2) := dk_16 45 (dk_at dksX4_isNameSign_1 8 rfl rfl)
theorem dX4_isNameSign_34 : decode cX4_isNameSign 34 = .ok (.if_icmp .ne 7, 3) := dk_160 0 7 (dk_at dksX4_isNameSign_1 10 rfl rfl)
theorem dX4_isNameSign_37 : decode cX4_isNameSign 37 = .ok (.iconst 1, 1) := dk_4 (dk_at dksX4_isNameSign_1 13 rfl rfl)
theorem dX4_isNameSign_38 : decode cX4_isNameSign 38 = .ok (.goto 4, 3) := dk_167 0 4 (dk_at dksX4_isNameSign_1 14 rfl rfl)
theorem dX4_isNameSign_41 : decode cX4_isNameSign 41 = .ok (.iconst 0, 1) := dk_3 (dk_at dksX4_isNameSign_1 17 rfl rfl)
theorem dX4_isNameSign_42 : decode cX4_isNameSign 42 = .ok (.ireturn, 1) := dk_172 (dk_at dksX4_isNameSign_1 18 rfl rfl)
abbrev cX4_isDigit : ByteArray := prog_7_method_5_code
def yX4_isDigit : MethodName := ⟨RX4, "isDigit", "(I)Z"⟩
def dkwX4_isDigit_0 : List UInt8 := [26, 16, 48, 161, 0, 13, 26, 16, 57, 163, 0, 7, 4, 167, 0, 4, 3, 172]
abbrev dktX4_isDigit_0 : List UInt8 := dkwX4_isDigit_0 ++ []
theorem dksX4_isDigit_0 : cX4_isDigit.data.toList.drop 0 = dktX4_isDigit_0 := by decide +kernel
theorem dX4_isDigit_0 : decode cX4_isDigit 0 = .ok (.iload_n 0, 1) := dk_26 (dk_at dksX4_isDigit_0 0 rfl rfl)
theorem dX4_isDigit_1 : decode cX4_isDigit 1 = .ok (.bipush 48, 2) := dk_16 48 (dk_at dksX4_isDigit_0 1 rfl rfl)
theorem dX4_isDigit_3 : decode cX4_isDigit 3 = .ok (.if_icmp .lt 13, 3) := dk_161 0 13 (dk_at dksX4_isDigit_0 3 rfl rfl)
theorem dX4_isDigit_6 : decode cX4_isDigit 6 = .ok (.iload_n 0, 1) := dk_26 (dk_at dksX4_isDigit_0 6 rfl rfl)
theorem dX4_isDigit_7 : decode cX4_isDigit 7 = .ok (.bipush 57, 2) := dk_16 57 (dk_at dksX4_isDigit_0 7 rfl rfl)
theorem dX4_isDigit_9 : decode cX4_isDigit 9 = .ok (.if_icmp .gt 7, 3) := dk_163 0 7 (dk_at dksX4_isDigit_0 9 rfl rfl)
theorem dX4_isDigit_12 : decode cX4_isDigit 12 = .ok (.iconst 1, 1) := dk_4 (dk_at dksX4_isDigit_0 12 rfl rfl)
theorem dX4_isDigit_13 : decode cX4_isDigit 13 = .ok (.goto 4, 3) := dk_167 0 4 (dk_at dksX4_isDigit_0 13 rfl rfl)
theorem dX4_isDigit_16 : decode cX4_isDigit 16 = .ok (.iconst 0, 1) := dk_3 (dk_at dksX4_isDigit_0 16 rfl rfl)
theorem dX4_isDigit_17 : decode cX4_isDigit 17 = .ok (.ireturn, 1) := dk_172 (dk_at dksX4_isDigit_0 17 rfl rfl)
abbrev cX4_isPath : ByteArray := prog_7_method_33_code
def yX4_isPath : MethodName := ⟨RX4, "isPath", "(I)Z"⟩
def dkwX4_isPath_0 : List UInt8 := [26, 155, 0, 13, 26, 16, 16, 162, 0, 7, 4, 167, 0, 4, 3, 172]
abbrev dktX4_isPath_0 : List UInt8 := dkwX4_isPath_0 ++ []
theorem dksX4_isPath_0 : cX4_isPath.data.toList.drop 0 = dktX4_isPath_0 := by decide +kernel
theorem dX4_isPath_0 : decode cX4_isPath 0 = .ok (.iload_n 0, 1) := dk_26 (dk_at dksX4_isPath_0 0 rfl rfl)
theorem dX4_isPath_1 : decode cX4_isPath 1 = .ok (.ifCond .lt 13, 3) := dk_155 0 13 (dk_at dksX4_isPath_0 1 rfl rfl)
theorem dX4_isPath_4 : decode cX4_isPath 4 = .ok (.iload_n 0, 1) := dk_26 (dk_at dksX4_isPath_0 4 rfl rfl)
theorem dX4_isPath_5 : decode cX4_isPath 5 = .ok (.bipush 16, 2) := dk_16 16 (dk_at dksX4_isPath_0 5 rfl rfl)
theorem dX4_isPath_7 : decode cX4_isPath 7 = .ok (.if_icmp .ge 7, 3) := dk_162 0 7 (dk_at dksX4_isPath_0 7 rfl rfl)
theorem dX4_isPath_10 : decode cX4_isPath 10 = .ok (.iconst 1, 1) := dk_4 (dk_at dksX4_isPath_0 10 rfl rfl)
theorem dX4_isPath_11 : decode cX4_isPath 11 = .ok (.goto 4, 3) := dk_167 0 4 (dk_at dksX4_isPath_0 11 rfl rfl)
theorem dX4_isPath_14 : decode cX4_isPath 14 = .ok (.iconst 0, 1) := dk_3 (dk_at dksX4_isPath_0 14 rfl rfl)
theorem dX4_isPath_15 : decode cX4_isPath 15 = .ok (.ireturn, 1) := dk_172 (dk_at dksX4_isPath_0 15 rfl rfl)
abbrev cX4_cacheControl : ByteArray := prog_7_method_22_code
def yX4_cacheControl : MethodName := ⟨RX4, "cacheControl", "()[I"⟩
def dkwX4_cacheControl_0 : List UInt8 := [20, 0, 109, 20, 0, 111, 184, 0, 105, 176]
abbrev dktX4_cacheControl_0 : List UInt8 := dkwX4_cacheControl_0 ++ []
theorem dksX4_cacheControl_0 : cX4_cacheControl.data.toList.drop 0 = dktX4_cacheControl_0 := by decide +kernel
theorem dX4_cacheControl_0 : decode cX4_cacheControl 0 = .ok (.ldc2_w 109, 3) := dk_20 0 109 (dk_at dksX4_cacheControl_0 0 rfl rfl)
theorem dX4_cacheControl_3 : decode cX4_cacheControl 3 = .ok (.ldc2_w 111, 3) := dk_20 0 111 (dk_at dksX4_cacheControl_0 3 rfl rfl)
theorem dX4_cacheControl_6 : decode cX4_cacheControl 6 = .ok (.invokestatic 105, 3) := dk_184 0 105 (dk_at dksX4_cacheControl_0 6 rfl rfl)
theorem dX4_cacheControl_9 : decode cX4_cacheControl 9 = .ok (.areturn, 1) := dk_176 (dk_at dksX4_cacheControl_0 9 rfl rfl)
abbrev cX4_name : ByteArray := prog_7_method_14_code
def yX4_name : MethodName := ⟨RX4, "name", "(JJ)[I"⟩
def dkwX4_name_7 : List UInt8 := [20, 0, 38, 127, 136, 79, 132, 7, 1, 167, 255, 221, 25, 6, 176]
abbrev dktX4_name_7 : List UInt8 := dkwX4_name_7 ++ []
def dkwX4_name_6 : List UInt8 := [21, 5, 162, 0, 34, 25, 6, 21, 4, 21, 7, 96, 32, 16, 8, 21, 5, 4, 100, 21, 7, 100, 104, 125]
abbrev dktX4_name_6 : List UInt8 := dkwX4_name_6 ++ dktX4_name_7
def dkwX4_name_5 : List UInt8 := [4, 100, 21, 7, 100, 104, 125, 20, 0, 38, 127, 136, 79, 132, 7, 1, 167, 255, 224, 3, 54, 7, 21, 7]
abbrev dktX4_name_5 : List UInt8 := dkwX4_name_5 ++ dktX4_name_6
def dkwX4_name_4 : List UInt8 := [96, 188, 10, 58, 6, 3, 54, 7, 21, 7, 21, 4, 162, 0, 31, 25, 6, 21, 7, 30, 16, 8, 21, 4]
abbrev dktX4_name_4 : List UInt8 := dkwX4_name_4 ++ dktX4_name_5
def dkwX4_name_3 : List UInt8 := [127, 9, 148, 153, 0, 7, 4, 167, 0, 4, 3, 96, 54, 5, 132, 6, 1, 167, 255, 220, 21, 4, 21, 5]
abbrev dktX4_name_3 : List UInt8 := dkwX4_name_3 ++ dktX4_name_4
def dkwX4_name_2 : List UInt8 := [54, 5, 3, 54, 6, 21, 6, 16, 8, 162, 0, 35, 21, 5, 32, 16, 8, 21, 6, 104, 125, 20, 0, 38]
abbrev dktX4_name_2 : List UInt8 := dkwX4_name_2 ++ dktX4_name_3
def dkwX4_name_1 : List UInt8 := [20, 0, 38, 127, 9, 148, 153, 0, 7, 4, 167, 0, 4, 3, 96, 54, 4, 132, 5, 1, 167, 255, 220, 3]
abbrev dktX4_name_1 : List UInt8 := dkwX4_name_1 ++ dktX4_name_2
def dkwX4_name_0 : List UInt8 := [3, 54, 4, 3, 54, 5, 21, 5, 16, 8, 162, 0, 35, 21, 4, 30, 16, 8, 21, 5, 104, 125]
abbrev dktX4_name_0 : List UInt8 := dkwX4_name_0 ++ dktX4_name_1
theorem dksX4_name_0 : cX4_name.data.toList.drop 0 = dktX4_name_0 := by decide +kernel
theorem dksX4_name_1 : cX4_name.data.toList.drop 22 = dktX4_name_1 := dk_seg dksX4_name_0 22 rfl rfl
theorem dksX4_name_2 : cX4_name.data.toList.drop 46 = dktX4_name_2 := dk_seg dksX4_name_1 24 rfl rfl
theorem dksX4_name_3 : cX4_name.data.toList.drop 70 = dktX4_name_3 := dk_seg dksX4_name_2 24 rfl rfl
theorem dksX4_name_4 : cX4_name.data.toList.drop 94 = dktX4_name_4 := dk_seg dksX4_name_3 24 rfl rfl
theorem dksX4_name_5 : cX4_name.data.toList.drop 118 = dktX4_name_5 := dk_seg dksX4_name_4 24 rfl rfl
theorem dksX4_name_6 : cX4_name.data.toList.drop 142 = dktX4_name_6 := dk_seg dksX4_name_5 24 rfl rfl
theorem dksX4_name_7 : cX4_name.data.toList.drop 166 = dktX4_name_7 := dk_seg dksX4_name_6 24 rfl rfl
theorem dX4_name_0 : decode cX4_name 0 = .ok (.iconst 0, 1) := dk_3 (dk_at dksX4_name_0 0 rfl rfl)
theorem dX4_name_1 : decode cX4_name 1 = .ok (.istore 4, 2) := dk_54 4 (dk_at dksX4_name_0 1 rfl rfl)
theorem dX4_name_3 : decode cX4_name 3 = .ok (.iconst 0, 1) := dk_3 (dk_at dksX4_name_0 3 rfl rfl)
theorem dX4_name_4 : decode cX4_name 4 = .ok (.istore 5, 2) := dk_54 5 (dk_at dksX4_name_0 4 rfl rfl)
theorem dX4_name_6 : decode cX4_name 6 = .ok (.iload 5, 2) := dk_21 5 (dk_at dksX4_name_0 6 rfl rfl)
theorem dX4_name_8 : decode cX4_name 8 = .ok (.bipush 8, 2) := dk_16 8 (dk_at dksX4_name_0 8 rfl rfl)
theorem dX4_name_10 : decode cX4_name 10 = .ok (.if_icmp .ge 35, 3) := dk_162 0 35 (dk_at dksX4_name_0 10 rfl rfl)
theorem dX4_name_13 : decode cX4_name 13 = .ok (.iload 4, 2) := dk_21 4 (dk_at dksX4_name_0 13 rfl rfl)
theorem dX4_name_15 : decode cX4_name 15 = .ok (.lload_n 0, 1) := dk_30 (dk_at dksX4_name_0 15 rfl rfl)
theorem dX4_name_16 : decode cX4_name 16 = .ok (.bipush 8, 2) := dk_16 8 (dk_at dksX4_name_0 16 rfl rfl)
theorem dX4_name_18 : decode cX4_name 18 = .ok (.iload 5, 2) := dk_21 5 (dk_at dksX4_name_0 18 rfl rfl)
theorem dX4_name_20 : decode cX4_name 20 = .ok (.imul, 1) := dk_104 (dk_at dksX4_name_0 20 rfl rfl)
theorem dX4_name_21 : decode cX4_name 21 = .ok (.lushr, 1) := dk_125 (dk_at dksX4_name_0 21 rfl rfl)
theorem dX4_name_22 : decode cX4_name 22 = .ok (.ldc2_w 38, 3) := dk_20 0 38 (dk_at dksX4_name_1 0 rfl rfl)
theorem dX4_name_25 : decode cX4_name 25 = .ok (.land, 1) := dk_127 (dk_at dksX4_name_1 3 rfl rfl)
theorem dX4_name_26 : decode cX4_name 26 = .ok (.lconst 0, 1) := dk_9 (dk_at dksX4_name_1 4 rfl rfl)
theorem dX4_name_27 : decode cX4_name 27 = .ok (.lcmp, 1) := dk_148 (dk_at dksX4_name_1 5 rfl rfl)
theorem dX4_name_28 : decode cX4_name 28 = .ok (.ifCond .eq 7, 3) := dk_153 0 7 (dk_at dksX4_name_1 6 rfl rfl)
theorem dX4_name_31 : decode cX4_name 31 = .ok (.iconst 1, 1) := dk_4 (dk_at dksX4_name_1 9 rfl rfl)
theorem dX4_name_32 : decode cX4_name 32 = .ok (.goto 4, 3) := dk_167 0 4 (dk_at dksX4_name_1 10 rfl rfl)
theorem dX4_name_35 : decode cX4_name 35 = .ok (.iconst 0, 1) := dk_3 (dk_at dksX4_name_1 13 rfl rfl)
theorem dX4_name_36 : decode cX4_name 36 = .ok (.iadd, 1) := dk_96 (dk_at dksX4_name_1 14 rfl rfl)
theorem dX4_name_37 : decode cX4_name 37 = .ok (.istore 4, 2) := dk_54 4 (dk_at dksX4_name_1 15 rfl rfl)
theorem dX4_name_39 : decode cX4_name 39 = .ok (.iinc 5 1, 3) := dk_132 5 1 (dk_at dksX4_name_1 17 rfl rfl)
theorem dX4_name_42 : decode cX4_name 42 = .ok (.goto (-36), 3) := dk_167 255 220 (dk_at dksX4_name_1 20 rfl rfl)
theorem dX4_name_45 : decode cX4_name 45 = .ok (.iconst 0, 1) := dk_3 (dk_at dksX4_name_1 23 rfl rfl)
theorem dX4_name_46 : decode cX4_name 46 = .ok (.istore 5, 2) := dk_54 5 (dk_at dksX4_name_2 0 rfl rfl)
theorem dX4_name_48 : decode cX4_name 48 = .ok (.iconst 0, 1) := dk_3 (dk_at dksX4_name_2 2 rfl rfl)
theorem dX4_name_49 : decode cX4_name 49 = .ok (.istore 6, 2) := dk_54 6 (dk_at dksX4_name_2 3 rfl rfl)
theorem dX4_name_51 : decode cX4_name 51 = .ok (.iload 6, 2) := dk_21 6 (dk_at dksX4_name_2 5 rfl rfl)
theorem dX4_name_53 : decode cX4_name 53 = .ok (.bipush 8, 2) := dk_16 8 (dk_at dksX4_name_2 7 rfl rfl)
theorem dX4_name_55 : decode cX4_name 55 = .ok (.if_icmp .ge 35, 3) := dk_162 0 35 (dk_at dksX4_name_2 9 rfl rfl)
theorem dX4_name_58 : decode cX4_name 58 = .ok (.iload 5, 2) := dk_21 5 (dk_at dksX4_name_2 12 rfl rfl)
theorem dX4_name_60 : decode cX4_name 60 = .ok (.lload_n 2, 1) := dk_32 (dk_at dksX4_name_2 14 rfl rfl)
theorem dX4_name_61 : decode cX4_name 61 = .ok (.bipush 8, 2) := dk_16 8 (dk_at dksX4_name_2 15 rfl rfl)
theorem dX4_name_63 : decode cX4_name 63 = .ok (.iload 6, 2) := dk_21 6 (dk_at dksX4_name_2 17 rfl rfl)
theorem dX4_name_65 : decode cX4_name 65 = .ok (.imul, 1) := dk_104 (dk_at dksX4_name_2 19 rfl rfl)
theorem dX4_name_66 : decode cX4_name 66 = .ok (.lushr, 1) := dk_125 (dk_at dksX4_name_2 20 rfl rfl)
theorem dX4_name_67 : decode cX4_name 67 = .ok (.ldc2_w 38, 3) := dk_20 0 38 (dk_at dksX4_name_2 21 rfl rfl)
theorem dX4_name_70 : decode cX4_name 70 = .ok (.land, 1) := dk_127 (dk_at dksX4_name_3 0 rfl rfl)
theorem dX4_name_71 : decode cX4_name 71 = .ok (.lconst 0, 1) := dk_9 (dk_at dksX4_name_3 1 rfl rfl)
theorem dX4_name_72 : decode cX4_name 72 = .ok (.lcmp, 1) := dk_148 (dk_at dksX4_name_3 2 rfl rfl)
theorem dX4_name_73 : decode cX4_name 73 = .ok (.ifCond .eq 7, 3) := dk_153 0 7 (dk_at dksX4_name_3 3 rfl rfl)
theorem dX4_name_76 : decode cX4_name 76 = .ok (.iconst 1, 1) := dk_4 (dk_at dksX4_name_3 6 rfl rfl)
theorem dX4_name_77 : decode cX4_name 77 = .ok (.goto 4, 3) := dk_167 0 4 (dk_at dksX4_name_3 7 rfl rfl)
theorem dX4_name_80 : decode cX4_name 80 = .ok (.iconst 0, 1) := dk_3 (dk_at dksX4_name_3 10 rfl rfl)
theorem dX4_name_81 : decode cX4_name 81 = .ok (.iadd, 1) := dk_96 (dk_at dksX4_name_3 11 rfl rfl)
theorem dX4_name_82 : decode cX4_name 82 = .ok (.istore 5, 2) := dk_54 5 (dk_at dksX4_name_3 12 rfl rfl)
theorem dX4_name_84 : decode cX4_name 84 = .ok (.iinc 6 1, 3) := dk_132 6 1 (dk_at dksX4_name_3 14 rfl rfl)
theorem dX4_name_87 : decode cX4_name 87 = .ok (.goto (-36), 3) := dk_167 255 220 (dk_at dksX4_name_3 17 rfl rfl)
theorem dX4_name_90 : decode cX4_name 90 = .ok (.iload 4, 2) := dk_21 4 (dk_at dksX4_name_3 20 rfl rfl)
theorem dX4_name_92 : decode cX4_name 92 = .ok (.iload 5, 2) := dk_21 5 (dk_at dksX4_name_3 22 rfl rfl)
theorem dX4_name_94 : decode cX4_name 94 = .ok (.iadd, 1) := dk_96 (dk_at dksX4_name_4 0 rfl rfl)
theorem dX4_name_95 : decode cX4_name 95 = .ok (.newarray .int, 2) := dk_188_10 (dk_at dksX4_name_4 1 rfl rfl)
theorem dX4_name_97 : decode cX4_name 97 = .ok (.astore 6, 2) := dk_58 6 (dk_at dksX4_name_4 3 rfl rfl)
theorem dX4_name_99 : decode cX4_name 99 = .ok (.iconst 0, 1) := dk_3 (dk_at dksX4_name_4 5 rfl rfl)
theorem dX4_name_100 : decode cX4_name 100 = .ok (.istore 7, 2) := dk_54 7 (dk_at dksX4_name_4 6 rfl rfl)
theorem dX4_name_102 : decode cX4_name 102 = .ok (.iload 7, 2) := dk_21 7 (dk_at dksX4_name_4 8 rfl rfl)
theorem dX4_name_104 : decode cX4_name 104 = .ok (.iload 4, 2) := dk_21 4 (dk_at dksX4_name_4 10 rfl rfl)
theorem dX4_name_106 : decode cX4_name 106 = .ok (.if_icmp .ge 31, 3) := dk_162 0 31 (dk_at dksX4_name_4 12 rfl rfl)
theorem dX4_name_109 : decode cX4_name 109 = .ok (.aload 6, 2) := dk_25 6 (dk_at dksX4_name_4 15 rfl rfl)
theorem dX4_name_111 : decode cX4_name 111 = .ok (.iload 7, 2) := dk_21 7 (dk_at dksX4_name_4 17 rfl rfl)
theorem dX4_name_113 : decode cX4_name 113 = .ok (.lload_n 0, 1) := dk_30 (dk_at dksX4_name_4 19 rfl rfl)
theorem dX4_name_114 : decode cX4_name 114 = .ok (.bipush 8, 2) := dk_16 8 (dk_at dksX4_name_4 20 rfl rfl)
theorem dX4_name_116 : decode cX4_name 116 = .ok (.iload 4, 2) := dk_21 4 (dk_at dksX4_name_4 22 rfl rfl)
theorem dX4_name_118 : decode cX4_name 118 = .ok (.iconst 1, 1) := dk_4 (dk_at dksX4_name_5 0 rfl rfl)
theorem dX4_name_119 : decode cX4_name 119 = .ok (.isub, 1) := dk_100 (dk_at dksX4_name_5 1 rfl rfl)
theorem dX4_name_120 : decode cX4_name 120 = .ok (.iload 7, 2) := dk_21 7 (dk_at dksX4_name_5 2 rfl rfl)
theorem dX4_name_122 : decode cX4_name 122 = .ok (.isub, 1) := dk_100 (dk_at dksX4_name_5 4 rfl rfl)
theorem dX4_name_123 : decode cX4_name 123 = .ok (.imul, 1) := dk_104 (dk_at dksX4_name_5 5 rfl rfl)
theorem dX4_name_124 : decode cX4_name 124 = .ok (.lushr, 1) := dk_125 (dk_at dksX4_name_5 6 rfl rfl)
theorem dX4_name_125 : decode cX4_name 125 = .ok (.ldc2_w 38, 3) := dk_20 0 38 (dk_at dksX4_name_5 7 rfl rfl)
theorem dX4_name_128 : decode cX4_name 128 = .ok (.land, 1) := dk_127 (dk_at dksX4_name_5 10 rfl rfl)
theorem dX4_name_129 : decode cX4_name 129 = .ok (.l2i, 1) := dk_136 (dk_at dksX4_name_5 11 rfl rfl)
theorem dX4_name_130 : decode cX4_name 130 = .ok (.iastore, 1) := dk_79 (dk_at dksX4_name_5 12 rfl rfl)
theorem dX4_name_131 : decode cX4_name 131 = .ok (.iinc 7 1, 3) := dk_132 7 1 (dk_at dksX4_name_5 13 rfl rfl)
theorem dX4_name_134 : decode cX4_name 134 = .ok (.goto (-32), 3) := dk_167 255 224 (dk_at dksX4_name_5 16 rfl rfl)
theorem dX4_name_137 : decode cX4_name 137 = .ok (.iconst 0, 1) := dk_3 (dk_at dksX4_name_5 19 rfl rfl)
theorem dX4_name_138 : decode cX4_name 138 = .ok (.istore 7, 2) := dk_54 7 (dk_at dksX4_name_5 20 rfl rfl)
theorem dX4_name_140 : decode cX4_name 140 = .ok (.iload 7, 2) := dk_21 7 (dk_at dksX4_name_5 22 rfl rfl)
theorem dX4_name_142 : decode cX4_name 142 = .ok (.iload 5, 2) := dk_21 5 (dk_at dksX4_name_6 0 rfl rfl)
theorem dX4_name_144 : decode cX4_name 144 = .ok (.if_icmp .ge 34, 3) := dk_162 0 34 (dk_at dksX4_name_6 2 rfl rfl)
theorem dX4_name_147 : decode cX4_name 147 = .ok (.aload 6, 2) := dk_25 6 (dk_at dksX4_name_6 5 rfl rfl)
theorem dX4_name_149 : decode cX4_name 149 = .ok (.iload 4, 2) := dk_21 4 (dk_at dksX4_name_6 7 rfl rfl)
theorem dX4_name_151 : decode cX4_name 151 = .ok (.iload 7, 2) := dk_21 7 (dk_at dksX4_name_6 9 rfl rfl)
theorem dX4_name_153 : decode cX4_name 153 = .ok (.iadd, 1) := dk_96 (dk_at dksX4_name_6 11 rfl rfl)
theorem dX4_name_154 : decode cX4_name 154 = .ok (.lload_n 2, 1) := dk_32 (dk_at dksX4_name_6 12 rfl rfl)
theorem dX4_name_155 : decode cX4_name 155 = .ok (.bipush 8, 2) := dk_16 8 (dk_at dksX4_name_6 13 rfl rfl)
theorem dX4_name_157 : decode cX4_name 157 = .ok (.iload 5, 2) := dk_21 5 (dk_at dksX4_name_6 15 rfl rfl)
theorem dX4_name_159 : decode cX4_name 159 = .ok (.iconst 1, 1) := dk_4 (dk_at dksX4_name_6 17 rfl rfl)
theorem dX4_name_160 : decode cX4_name 160 = .ok (.isub, 1) := dk_100 (dk_at dksX4_name_6 18 rfl rfl)
theorem dX4_name_161 : decode cX4_name 161 = .ok (.iload 7, 2) := dk_21 7 (dk_at dksX4_name_6 19 rfl rfl)
theorem dX4_name_163 : decode cX4_name 163 = .ok (.isub, 1) := dk_100 (dk_at dksX4_name_6 21 rfl rfl)
theorem dX4_name_164 : decode cX4_name 164 = .ok (.imul, 1) := dk_104 (dk_at dksX4_name_6 22 rfl rfl)
theorem dX4_name_165 : decode cX4_name 165 = .ok (.lushr, 1) := dk_125 (dk_at dksX4_name_6 23 rfl rfl)
theorem dX4_name_166 : decode cX4_name 166 = .ok (.ldc2_w 38, 3) := dk_20 0 38 (dk_at dksX4_name_7 0 rfl rfl)
theorem dX4_name_169 : decode cX4_name 169 = .ok (.land, 1) := dk_127 (dk_at dksX4_name_7 3 rfl rfl)
theorem dX4_name_170 : decode cX4_name 170 = .ok (.l2i, 1) := dk_136 (dk_at dksX4_name_7 4 rfl rfl)
theorem dX4_name_171 : decode cX4_name 171 = .ok (.iastore, 1) := dk_79 (dk_at dksX4_name_7 5 rfl rfl)
theorem dX4_name_172 : decode cX4_name 172 = .ok (.iinc 7 1, 3) := dk_132 7 1 (dk_at dksX4_name_7 6 rfl rfl)
theorem dX4_name_175 : decode cX4_name 175 = .ok (.goto (-35), 3) := dk_167 255 221 (dk_at dksX4_name_7 9 rfl rfl)
theorem dX4_name_178 : decode cX4_name 178 = .ok (.aload 6, 2) := dk_25 6 (dk_at dksX4_name_7 12 rfl rfl)
theorem dX4_name_180 : decode cX4_name 180 = .ok (.areturn, 1) := dk_176 (dk_at dksX4_name_7 14 rfl rfl)
abbrev cX4_valueOf : ByteArray := prog_7_method_13_code
def yX4_valueOf : MethodName := ⟨RX4, "valueOf", "(LVaryStoreModel$Text;[I)[I"⟩
def dkwX4_valueOf_6 : List UInt8 := [167, 255, 120, 44, 176]
abbrev dktX4_valueOf_6 : List UInt8 := dkwX4_valueOf_6 ++ []
def dkwX4_valueOf_5 : List UInt8 := [184, 0, 70, 58, 6, 44, 199, 0, 8, 25, 6, 167, 0, 9, 44, 25, 6, 184, 0, 74, 77, 132, 3, 1]
abbrev dktX4_valueOf_5 : List UInt8 := dkwX4_valueOf_5 ++ dktX4_valueOf_6
def dkwX4_valueOf_4 : List UInt8 := [21, 5, 153, 0, 42, 42, 180, 0, 47, 42, 180, 0, 60, 29, 46, 4, 96, 42, 180, 0, 63, 29, 46]
abbrev dktX4_valueOf_4 : List UInt8 := dkwX4_valueOf_4 ++ dktX4_valueOf_5
def dkwX4_valueOf_3 : List UInt8 := [184, 0, 66, 43, 21, 6, 46, 160, 0, 7, 4, 167, 0, 4, 3, 54, 5, 132, 6, 1, 167, 255, 210]
abbrev dktX4_valueOf_3 : List UInt8 := dkwX4_valueOf_3 ++ dktX4_valueOf_4
def dkwX4_valueOf_2 : List UInt8 := [162, 0, 45, 21, 5, 153, 0, 40, 42, 180, 0, 47, 42, 180, 0, 54, 29, 46, 21, 6, 96, 46]
abbrev dktX4_valueOf_2 : List UInt8 := dkwX4_valueOf_2 ++ dktX4_valueOf_3
def dkwX4_valueOf_1 : List UInt8 := [100, 54, 4, 21, 4, 43, 190, 160, 0, 7, 4, 167, 0, 4, 3, 54, 5, 3, 54, 6, 21, 6, 21, 4]
abbrev dktX4_valueOf_1 : List UInt8 := dkwX4_valueOf_1 ++ dktX4_valueOf_2
def dkwX4_valueOf_0 : List UInt8 := [1, 77, 3, 62, 29, 42, 180, 0, 57, 162, 0, 134, 42, 180, 0, 60, 29, 46, 42, 180, 0, 54, 29, 46]
abbrev dktX4_valueOf_0 : List UInt8 := dkwX4_valueOf_0 ++ dktX4_valueOf_1
theorem dksX4_valueOf_0 : cX4_valueOf.data.toList.drop 0 = dktX4_valueOf_0 := by decide +kernel
theorem dksX4_valueOf_1 : cX4_valueOf.data.toList.drop 24 = dktX4_valueOf_1 := dk_seg dksX4_valueOf_0 24 rfl rfl
theorem dksX4_valueOf_2 : cX4_valueOf.data.toList.drop 48 = dktX4_valueOf_2 := dk_seg dksX4_valueOf_1 24 rfl rfl
theorem dksX4_valueOf_3 : cX4_valueOf.data.toList.drop 70 = dktX4_valueOf_3 := dk_seg dksX4_valueOf_2 22 rfl rfl
theorem dksX4_valueOf_4 : cX4_valueOf.data.toList.drop 93 = dktX4_valueOf_4 := dk_seg dksX4_valueOf_3 23 rfl rfl
theorem dksX4_valueOf_5 : cX4_valueOf.data.toList.drop 116 = dktX4_valueOf_5 := dk_seg dksX4_valueOf_4 23 rfl rfl
theorem dksX4_valueOf_6 : cX4_valueOf.data.toList.drop 140 = dktX4_valueOf_6 := dk_seg dksX4_valueOf_5 24 rfl rfl
theorem dX4_valueOf_0 : decode cX4_valueOf 0 = .ok (.aconst_null, 1) := dk_1 (dk_at dksX4_valueOf_0 0 rfl rfl)
theorem dX4_valueOf_1 : decode cX4_valueOf 1 = .ok (.astore_n 2, 1) := dk_77 (dk_at dksX4_valueOf_0 1 rfl rfl)
theorem dX4_valueOf_2 : decode cX4_valueOf 2 = .ok (.iconst 0, 1) := dk_3 (dk_at dksX4_valueOf_0 2 rfl rfl)
theorem dX4_valueOf_3 : decode cX4_valueOf 3 = .ok (.istore_n 3, 1) := dk_62 (dk_at dksX4_valueOf_0 3 rfl rfl)
theorem dX4_valueOf_4 : decode cX4_valueOf 4 = .ok (.iload_n 3, 1) := dk_29 (dk_at dksX4_valueOf_0 4 rfl rfl)
theorem dX4_valueOf_5 : decode cX4_valueOf 5 = .ok (.aload_n 0, 1) := dk_42 (dk_at dksX4_valueOf_0 5 rfl rfl)
theorem dX4_valueOf_6 : decode cX4_valueOf 6 = .ok (.getfield 57, 3) := dk_180 0 57 (dk_at dksX4_valueOf_0 6 rfl rfl)
theorem dX4_valueOf_9 : decode cX4_valueOf 9 = .ok (.if_icmp .ge 134, 3) := dk_162 0 134 (dk_at dksX4_valueOf_0 9 rfl rfl)
theorem dX4_valueOf_12 : decode cX4_valueOf 12 = .ok (.aload_n 0, 1) := dk_42 (dk_at dksX4_valueOf_0 12 rfl rfl)
theorem dX4_valueOf_13 : decode cX4_valueOf 13 = .ok (.getfield 60, 3) := dk_180 0 60 (dk_at dksX4_valueOf_0 13 rfl rfl)
theorem dX4_valueOf_16 : decode cX4_valueOf 16 = .ok (.iload_n 3, 1) := dk_29 (dk_at dksX4_valueOf_0 16 rfl rfl)
theorem dX4_valueOf_17 : decode cX4_valueOf 17 = .ok (.iaload, 1) := dk_46 (dk_at dksX4_valueOf_0 17 rfl rfl)
theorem dX4_valueOf_18 : decode cX4_valueOf 18 = .ok (.aload_n 0, 1) := dk_42 (dk_at dksX4_valueOf_0 18 rfl rfl)
theorem dX4_valueOf_19 : decode cX4_valueOf 19 = .ok (.getfield 54, 3) := dk_180 0 54 (dk_at dksX4_valueOf_0 19 rfl rfl)
theorem dX4_valueOf_22 : decode cX4_valueOf 22 = .ok (.iload_n 3, 1) := dk_29 (dk_at dksX4_valueOf_0 22 rfl rfl)
theorem dX4_valueOf_23 : decode cX4_valueOf 23 = .ok (.iaload, 1) := dk_46 (dk_at dksX4_valueOf_0 23 rfl rfl)
theorem dX4_valueOf_24 : decode cX4_valueOf 24 = .ok (.isub, 1) := dk_100 (dk_at dksX4_valueOf_1 0 rfl rfl)
theorem dX4_valueOf_25 : decode cX4_valueOf 25 = .ok (.istore 4, 2) := dk_54 4 (dk_at dksX4_valueOf_1 1 rfl rfl)
theorem dX4_valueOf_27 : decode cX4_valueOf 27 = .ok (.iload 4, 2) := dk_21 4 (dk_at dksX4_valueOf_1 3 rfl rfl)
theorem dX4_valueOf_29 : decode cX4_valueOf 29 = .ok (.aload_n 1, 1) := dk_43 (dk_at dksX4_valueOf_1 5 rfl rfl)
theorem dX4_valueOf_30 : decode cX4_valueOf 30 = .ok (.arraylength, 1) := dk_190 (dk_at dksX4_valueOf_1 6 rfl rfl)
theorem dX4_valueOf_31 : decode cX4_valueOf 31 = .ok (.if_icmp .ne 7, 3) := dk_160 0 7 (dk_at dksX4_valueOf_1 7 rfl rfl)
theorem dX4_valueOf_34 : decode cX4_valueOf 34 = .ok (.iconst 1, 1) := dk_4 (dk_at dksX4_valueOf_1 10 rfl rfl)
theorem dX4_valueOf_35 : decode cX4_valueOf 35 = .ok (.goto 4, 3) := dk_167 0 4 (dk_at dksX4_valueOf_1 11 rfl rfl)
theorem dX4_valueOf_38 : decode cX4_valueOf 38 = .ok (.iconst 0, 1) := dk_3 (dk_at dksX4_valueOf_1 14 rfl rfl)
theorem dX4_valueOf_39 : decode cX4_valueOf 39 = .ok (.istore 5, 2) := dk_54 5 (dk_at dksX4_valueOf_1 15 rfl rfl)
theorem dX4_valueOf_41 : decode cX4_valueOf 41 = .ok (.iconst 0, 1) := dk_3 (dk_at dksX4_valueOf_1 17 rfl rfl)
theorem dX4_valueOf_42 : decode cX4_valueOf 42 = .ok (.istore 6, 2) := dk_54 6 (dk_at dksX4_valueOf_1 18 rfl rfl)
theorem dX4_valueOf_44 : decode cX4_valueOf 44 = .ok (.iload 6, 2) := dk_21 6 (dk_at dksX4_valueOf_1 20 rfl rfl)
theorem dX4_valueOf_46 : decode cX4_valueOf 46 = .ok (.iload 4, 2) := dk_21 4 (dk_at dksX4_valueOf_1 22 rfl rfl)
theorem dX4_valueOf_48 : decode cX4_valueOf 48 = .ok (.if_icmp .ge 45, 3) := dk_162 0 45 (dk_at dksX4_valueOf_2 0 rfl rfl)
theorem dX4_valueOf_51 : decode cX4_valueOf 51 = .ok (.iload 5, 2) := dk_21 5 (dk_at dksX4_valueOf_2 3 rfl rfl)
theorem dX4_valueOf_53 : decode cX4_valueOf 53 = .ok (.ifCond .eq 40, 3) := dk_153 0 40 (dk_at dksX4_valueOf_2 5 rfl rfl)
theorem dX4_valueOf_56 : decode cX4_valueOf 56 = .ok (.aload_n 0, 1) := dk_42 (dk_at dksX4_valueOf_2 8 rfl rfl)
theorem dX4_valueOf_57 : decode cX4_valueOf 57 = .ok (.getfield 47, 3) := dk_180 0 47 (dk_at dksX4_valueOf_2 9 rfl rfl)
theorem dX4_valueOf_60 : decode cX4_valueOf 60 = .ok (.aload_n 0, 1) := dk_42 (dk_at dksX4_valueOf_2 12 rfl rfl)
theorem dX4_valueOf_61 : decode cX4_valueOf 61 = .ok (.getfield 54, 3) := dk_180 0 54 (dk_at dksX4_valueOf_2 13 rfl rfl)
theorem dX4_valueOf_64 : decode cX4_valueOf 64 = .ok (.iload_n 3, 1) := dk_29 (dk_at dksX4_valueOf_2 16 rfl rfl)
theorem dX4_valueOf_65 : decode cX4_valueOf 65 = .ok (.iaload, 1) := dk_46 (dk_at dksX4_valueOf_2 17 rfl rfl)
theorem dX4_valueOf_66 : decode cX4_valueOf 66 = .ok (.iload 6, 2) := dk_21 6 (dk_at dksX4_valueOf_2 18 rfl rfl)
theorem dX4_valueOf_68 : decode cX4_valueOf 68 = .ok (.iadd, 1) := dk_96 (dk_at dksX4_valueOf_2 20 rfl rfl)
theorem dX4_valueOf_69 : decode cX4_valueOf 69 = .ok (.iaload, 1) := dk_46 (dk_at dksX4_valueOf_2 21 rfl rfl)
theorem dX4_valueOf_70 : decode cX4_valueOf 70 = .ok (.invokestatic 66, 3) := dk_184 0 66 (dk_at dksX4_valueOf_3 0 rfl rfl)
theorem dX4_valueOf_73 : decode cX4_valueOf 73 = .ok (.aload_n 1, 1) := dk_43 (dk_at dksX4_valueOf_3 3 rfl rfl)
theorem dX4_valueOf_74 : decode cX4_valueOf 74 = .ok (.iload 6, 2) := dk_21 6 (dk_at dksX4_valueOf_3 4 rfl rfl)
theorem dX4_valueOf_76 : decode cX4_valueOf 76 = .ok (.iaload, 1) := dk_46 (dk_at dksX4_valueOf_3 6 rfl rfl)
theorem dX4_valueOf_77 : decode cX4_valueOf 77 = .ok (.if_icmp .ne 7, 3) := dk_160 0 7 (dk_at dksX4_valueOf_3 7 rfl rfl)
theorem dX4_valueOf_80 : decode cX4_valueOf 80 = .ok (.iconst 1, 1) := dk_4 (dk_at dksX4_valueOf_3 10 rfl rfl)
theorem dX4_valueOf_81 : decode cX4_valueOf 81 = .ok (.goto 4, 3) := dk_167 0 4 (dk_at dksX4_valueOf_3 11 rfl rfl)
theorem dX4_valueOf_84 : decode cX4_valueOf 84 = .ok (.iconst 0, 1) := dk_3 (dk_at dksX4_valueOf_3 14 rfl rfl)
theorem dX4_valueOf_85 : decode cX4_valueOf 85 = .ok (.istore 5, 2) := dk_54 5 (dk_at dksX4_valueOf_3 15 rfl rfl)
theorem dX4_valueOf_87 : decode cX4_valueOf 87 = .ok (.iinc 6 1, 3) := dk_132 6 1 (dk_at dksX4_valueOf_3 17 rfl rfl)
theorem dX4_valueOf_90 : decode cX4_valueOf 90 = .ok (.goto (-46), 3) := dk_167 255 210 (dk_at dksX4_valueOf_3 20 rfl rfl)
theorem dX4_valueOf_93 : decode cX4_valueOf 93 = .ok (.iload 5, 2) := dk_21 5 (dk_at dksX4_valueOf_4 0 rfl rfl)
theorem dX4_valueOf_95 : decode cX4_valueOf 95 = .ok (.ifCond .eq 42, 3) := dk_153 0 42 (dk_at dksX4_valueOf_4 2 rfl rfl)
theorem dX4_valueOf_98 : decode cX4_valueOf 98 = .ok (.aload_n 0, 1) := dk_42 (dk_at dksX4_valueOf_4 5 rfl rfl)
theorem dX4_valueOf_99 : decode cX4_valueOf 99 = .ok (.getfield 47, 3) := dk_180 0 47 (dk_at dksX4_valueOf_4 6 rfl rfl)
theorem dX4_valueOf_102 : decode cX4_valueOf 102 = .ok (.aload_n 0, 1) := dk_42 (dk_at dksX4_valueOf_4 9 rfl rfl)
theorem dX4_valueOf_103 : decode cX4_valueOf 103 = .ok (.getfield 60, 3) := dk_180 0 60 (dk_at dksX4_valueOf_4 10 rfl rfl)
theorem dX4_valueOf_106 : decode cX4_valueOf 106 = .ok (.iload_n 3, 1) := dk_29 (dk_at dksX4_valueOf_4 13 rfl rfl)
theorem dX4_valueOf_107 : decode cX4_valueOf 107 = .ok (.iaload, 1) := dk_46 (dk_at dksX4_valueOf_4 14 rfl rfl)
theorem dX4_valueOf_108 : decode cX4_valueOf 108 = .ok (.iconst 1, 1) := dk_4 (dk_at dksX4_valueOf_4 15 rfl rfl)
theorem dX4_valueOf_109 : decode cX4_valueOf 109 = .ok (.iadd, 1) := dk_96 (dk_at dksX4_valueOf_4 16 rfl rfl)
theorem dX4_valueOf_110 : decode cX4_valueOf 110 = .ok (.aload_n 0, 1) := dk_42 (dk_at dksX4_valueOf_4 17 rfl rfl)
theorem dX4_valueOf_111 : decode cX4_valueOf 111 = .ok (.getfield 63, 3) := dk_180 0 63 (dk_at dksX4_valueOf_4 18 rfl rfl)
theorem dX4_valueOf_114 : decode cX4_valueOf 114 = .ok (.iload_n 3, 1) := dk_29 (dk_at dksX4_valueOf_4 21 rfl rfl)
theorem dX4_valueOf_115 : decode cX4_valueOf 115 = .ok (.iaload, 1) := dk_46 (dk_at dksX4_valueOf_4 22 rfl rfl)
theorem dX4_valueOf_116 : decode cX4_valueOf 116 = .ok (.invokestatic 70, 3) := dk_184 0 70 (dk_at dksX4_valueOf_5 0 rfl rfl)
theorem dX4_valueOf_119 : decode cX4_valueOf 119 = .ok (.astore 6, 2) := dk_58 6 (dk_at dksX4_valueOf_5 3 rfl rfl)
theorem dX4_valueOf_121 : decode cX4_valueOf 121 = .ok (.aload_n 2, 1) := dk_44 (dk_at dksX4_valueOf_5 5 rfl rfl)
theorem dX4_valueOf_122 : decode cX4_valueOf 122 = .ok (.ifnonnull 8, 3) := dk_199 0 8 (dk_at dksX4_valueOf_5 6 rfl rfl)
theorem dX4_valueOf_125 : decode cX4_valueOf 125 = .ok (.aload 6, 2) := dk_25 6 (dk_at dksX4_valueOf_5 9 rfl rfl)
theorem dX4_valueOf_127 : decode cX4_valueOf 127 = .ok (.goto 9, 3) := dk_167 0 9 (dk_at dksX4_valueOf_5 11 rfl rfl)
theorem dX4_valueOf_130 : decode cX4_valueOf 130 = .ok (.aload_n 2, 1) := dk_44 (dk_at dksX4_valueOf_5 14 rfl rfl)
theorem dX4_valueOf_131 : decode cX4_valueOf 131 = .ok (.aload 6, 2) := dk_25 6 (dk_at dksX4_valueOf_5 15 rfl rfl)
theorem dX4_valueOf_133 : decode cX4_valueOf 133 = .ok (.invokestatic 74, 3) := dk_184 0 74 (dk_at dksX4_valueOf_5 17 rfl rfl)
theorem dX4_valueOf_136 : decode cX4_valueOf 136 = .ok (.astore_n 2, 1) := dk_77 (dk_at dksX4_valueOf_5 20 rfl rfl)
theorem dX4_valueOf_137 : decode cX4_valueOf 137 = .ok (.iinc 3 1, 3) := dk_132 3 1 (dk_at dksX4_valueOf_5 21 rfl rfl)
theorem dX4_valueOf_140 : decode cX4_valueOf 140 = .ok (.goto (-136), 3) := dk_167 255 120 (dk_at dksX4_valueOf_6 0 rfl rfl)
theorem dX4_valueOf_143 : decode cX4_valueOf 143 = .ok (.aload_n 2, 1) := dk_44 (dk_at dksX4_valueOf_6 3 rfl rfl)
theorem dX4_valueOf_144 : decode cX4_valueOf 144 = .ok (.areturn, 1) := dk_176 (dk_at dksX4_valueOf_6 4 rfl rfl)
abbrev cX4_small : ByteArray := prog_7_method_4_code
def yX4_small : MethodName := ⟨RX4, "small", "(I)I"⟩
def dkwX4_small_0 : List UInt8 := [26, 16, 65, 161, 0, 16, 26, 16, 90, 163, 0, 10, 26, 16, 32, 96, 167, 0, 4, 26, 172]
abbrev dktX4_small_0 : List UInt8 := dkwX4_small_0 ++ []
theorem dksX4_small_0 : cX4_small.data.toList.drop 0 = dktX4_small_0 := by decide +kernel
theorem dX4_small_0 : decode cX4_small 0 = .ok (.iload_n 0, 1) := dk_26 (dk_at dksX4_small_0 0 rfl rfl)
theorem dX4_small_1 : decode cX4_small 1 = .ok (.bipush 65, 2) := dk_16 65 (dk_at dksX4_small_0 1 rfl rfl)
theorem dX4_small_3 : decode cX4_small 3 = .ok (.if_icmp .lt 16, 3) := dk_161 0 16 (dk_at dksX4_small_0 3 rfl rfl)
theorem dX4_small_6 : decode cX4_small 6 = .ok (.iload_n 0, 1) := dk_26 (dk_at dksX4_small_0 6 rfl rfl)
theorem dX4_small_7 : decode cX4_small 7 = .ok (.bipush 90, 2) := dk_16 90 (dk_at dksX4_small_0 7 rfl rfl)
theorem dX4_small_9 : decode cX4_small 9 = .ok (.if_icmp .gt 10, 3) := dk_163 0 10 (dk_at dksX4_small_0 9 rfl rfl)
theorem dX4_small_12 : decode cX4_small 12 = .ok (.iload_n 0, 1) := dk_26 (dk_at dksX4_small_0 12 rfl rfl)
theorem dX4_small_13 : decode cX4_small 13 = .ok (.bipush 32, 2) := dk_16 32 (dk_at dksX4_small_0 13 rfl rfl)
theorem dX4_small_15 : decode cX4_small 15 = .ok (.iadd, 1) := dk_96 (dk_at dksX4_small_0 15 rfl rfl)
theorem dX4_small_16 : decode cX4_small 16 = .ok (.goto 4, 3) := dk_167 0 4 (dk_at dksX4_small_0 16 rfl rfl)
theorem dX4_small_19 : decode cX4_small 19 = .ok (.iload_n 0, 1) := dk_26 (dk_at dksX4_small_0 19 rfl rfl)
theorem dX4_small_20 : decode cX4_small 20 = .ok (.ireturn, 1) := dk_172 (dk_at dksX4_small_0 20 rfl rfl)
abbrev cX4_trimmed : ByteArray := prog_7_method_9_code
def yX4_trimmed : MethodName := ⟨RX4, "trimmed", "([III)[I"⟩
def dkwX4_trimmed_3 : List UInt8 := [21, 6, 29, 100, 42, 21, 6, 46, 79, 132, 6, 1, 167, 255, 235, 25, 5, 176]
abbrev dktX4_trimmed_3 : List UInt8 := dkwX4_trimmed_3 ++ []
def dkwX4_trimmed_2 : List UInt8 := [167, 255, 236, 21, 4, 29, 100, 188, 10, 58, 5, 29, 54, 6, 21, 6, 21, 4, 162, 0, 20, 25, 5]
abbrev dktX4_trimmed_2 : List UInt8 := dkwX4_trimmed_2 ++ dktX4_trimmed_3
def dkwX4_trimmed_1 : List UInt8 := [167, 255, 239, 21, 4, 29, 164, 0, 20, 42, 21, 4, 4, 100, 46, 16, 32, 160, 0, 9, 132, 4, 255]
abbrev dktX4_trimmed_1 : List UInt8 := dkwX4_trimmed_1 ++ dktX4_trimmed_2
def dkwX4_trimmed_0 : List UInt8 := [27, 62, 28, 54, 4, 29, 21, 4, 162, 0, 17, 42, 29, 46, 16, 32, 160, 0, 9, 132, 3, 1]
abbrev dktX4_trimmed_0 : List UInt8 := dkwX4_trimmed_0 ++ dktX4_trimmed_1
theorem dksX4_trimmed_0 : cX4_trimmed.data.toList.drop 0 = dktX4_trimmed_0 := by decide +kernel
theorem dksX4_trimmed_1 : cX4_trimmed.data.toList.drop 22 = dktX4_trimmed_1 := dk_seg dksX4_trimmed_0 22 rfl rfl
theorem dksX4_trimmed_2 : cX4_trimmed.data.toList.drop 45 = dktX4_trimmed_2 := dk_seg dksX4_trimmed_1 23 rfl rfl
theorem dksX4_trimmed_3 : cX4_trimmed.data.toList.drop 68 = dktX4_trimmed_3 := dk_seg dksX4_trimmed_2 23 rfl rfl
theorem dX4_trimmed_0 : decode cX4_trimmed 0 = .ok (.iload_n 1, 1) := dk_27 (dk_at dksX4_trimmed_0 0 rfl rfl)
theorem dX4_trimmed_1 : decode cX4_trimmed 1 = .ok (.istore_n 3, 1) := dk_62 (dk_at dksX4_trimmed_0 1 rfl rfl)
theorem dX4_trimmed_2 : decode cX4_trimmed 2 = .ok (.iload_n 2, 1) := dk_28 (dk_at dksX4_trimmed_0 2 rfl rfl)
theorem dX4_trimmed_3 : decode cX4_trimmed 3 = .ok (.istore 4, 2) := dk_54 4 (dk_at dksX4_trimmed_0 3 rfl rfl)
theorem dX4_trimmed_5 : decode cX4_trimmed 5 = .ok (.iload_n 3, 1) := dk_29 (dk_at dksX4_trimmed_0 5 rfl rfl)
theorem dX4_trimmed_6 : decode cX4_trimmed 6 = .ok (.iload 4, 2) := dk_21 4 (dk_at dksX4_trimmed_0 6 rfl rfl)
theorem dX4_trimmed_8 : decode cX4_trimmed 8 = .ok (.if_icmp .ge 17, 3) := dk_162 0 17 (dk_at dksX4_trimmed_0 8 rfl rfl)
theorem dX4_trimmed_11 : decode cX4_trimmed 11 = .ok (.aload_n 0, 1) := dk_42 (dk_at dksX4_trimmed_0 11 rfl rfl)
theorem dX4_trimmed_12 : decode cX4_trimmed 12 = .ok (.iload_n 3, 1) := dk_29 (dk_at dksX4_trimmed_0 12 rfl rfl)
theorem dX4_trimmed_13 : decode cX4_trimmed 13 = .ok (.iaload, 1) := dk_46 (dk_at dksX4_trimmed_0 13 rfl rfl)
theorem dX4_trimmed_14 : decode cX4_trimmed 14 = .ok (.bipush 32, 2) := dk_16 32 (dk_at dksX4_trimmed_0 14 rfl rfl)
theorem dX4_trimmed_16 : decode cX4_trimmed 16 = .ok (.if_icmp .ne 9, 3) := dk_160 0 9 (dk_at dksX4_trimmed_0 16 rfl rfl)
theorem dX4_trimmed_19 : decode cX4_trimmed 19 = .ok (.iinc 3 1, 3) := dk_132 3 1 (dk_at dksX4_trimmed_0 19 rfl rfl)
theorem dX4_trimmed_22 : decode cX4_trimmed 22 = .ok (.goto (-17), 3) := dk_167 255 239 (dk_at dksX4_trimmed_1 0 rfl rfl)
theorem dX4_trimmed_25 : decode cX4_trimmed 25 = .ok (.iload 4, 2) := dk_21 4 (dk_at dksX4_trimmed_1 3 rfl rfl)
theorem dX4_trimmed_27 : decode cX4_trimmed 27 = .ok (.iload_n 3, 1) := dk_29 (dk_at dksX4_trimmed_1 5 rfl rfl)
theorem dX4_trimmed_28 : decode cX4_trimmed 28 = .ok (.if_icmp .le 20, 3) := dk_164 0 20 (dk_at dksX4_trimmed_1 6 rfl rfl)
theorem dX4_trimmed_31 : decode cX4_trimmed 31 = .ok (.aload_n 0, 1) := dk_42 (dk_at dksX4_trimmed_1 9 rfl rfl)
theorem dX4_trimmed_32 : decode cX4_trimmed 32 = .ok (.iload 4, 2) := dk_21 4 (dk_at dksX4_trimmed_1 10 rfl rfl)
theorem dX4_trimmed_34 : decode cX4_trimmed 34 = .ok (.iconst 1, 1) := dk_4 (dk_at dksX4_trimmed_1 12 rfl rfl)
theorem dX4_trimmed_35 : decode cX4_trimmed 35 = .ok (.isub, 1) := dk_100 (dk_at dksX4_trimmed_1 13 rfl rfl)
theorem dX4_trimmed_36 : decode cX4_trimmed 36 = .ok (.iaload, 1) := dk_46 (dk_at dksX4_trimmed_1 14 rfl rfl)
theorem dX4_trimmed_37 : decode cX4_trimmed 37 = .ok (.bipush 32, 2) := dk_16 32 (dk_at dksX4_trimmed_1 15 rfl rfl)
theorem dX4_trimmed_39 : decode cX4_trimmed 39 = .ok (.if_icmp .ne 9, 3) := dk_160 0 9 (dk_at dksX4_trimmed_1 17 rfl rfl)
theorem dX4_trimmed_42 : decode cX4_trimmed 42 = .ok (.iinc 4 (-1), 3) := dk_132 4 255 (dk_at dksX4_trimmed_1 20 rfl rfl)
theorem dX4_trimmed_45 : decode cX4_trimmed 45 = .ok (.goto (-20), 3) := dk_167 255 236 (dk_at dksX4_trimmed_2 0 rfl rfl)
theorem dX4_trimmed_48 : decode cX4_trimmed 48 = .ok (.iload 4, 2) := dk_21 4 (dk_at dksX4_trimmed_2 3 rfl rfl)
theorem dX4_trimmed_50 : decode cX4_trimmed 50 = .ok (.iload_n 3, 1) := dk_29 (dk_at dksX4_trimmed_2 5 rfl rfl)
theorem dX4_trimmed_51 : decode cX4_trimmed 51 = .ok (.isub, 1) := dk_100 (dk_at dksX4_trimmed_2 6 rfl rfl)
theorem dX4_trimmed_52 : decode cX4_trimmed 52 = .ok (.newarray .int, 2) := dk_188_10 (dk_at dksX4_trimmed_2 7 rfl rfl)
theorem dX4_trimmed_54 : decode cX4_trimmed 54 = .ok (.astore 5, 2) := dk_58 5 (dk_at dksX4_trimmed_2 9 rfl rfl)
theorem dX4_trimmed_56 : decode cX4_trimmed 56 = .ok (.iload_n 3, 1) := dk_29 (dk_at dksX4_trimmed_2 11 rfl rfl)
theorem dX4_trimmed_57 : decode cX4_trimmed 57 = .ok (.istore 6, 2) := dk_54 6 (dk_at dksX4_trimmed_2 12 rfl rfl)
theorem dX4_trimmed_59 : decode cX4_trimmed 59 = .ok (.iload 6, 2) := dk_21 6 (dk_at dksX4_trimmed_2 14 rfl rfl)
theorem dX4_trimmed_61 : decode cX4_trimmed 61 = .ok (.iload 4, 2) := dk_21 4 (dk_at dksX4_trimmed_2 16 rfl rfl)
theorem dX4_trimmed_63 : decode cX4_trimmed 63 = .ok (.if_icmp .ge 20, 3) := dk_162 0 20 (dk_at dksX4_trimmed_2 18 rfl rfl)
theorem dX4_trimmed_66 : decode cX4_trimmed 66 = .ok (.aload 5, 2) := dk_25 5 (dk_at dksX4_trimmed_2 21 rfl rfl)
theorem dX4_trimmed_68 : decode cX4_trimmed 68 = .ok (.iload 6, 2) := dk_21 6 (dk_at dksX4_trimmed_3 0 rfl rfl)
theorem dX4_trimmed_70 : decode cX4_trimmed 70 = .ok (.iload_n 3, 1) := dk_29 (dk_at dksX4_trimmed_3 2 rfl rfl)
theorem dX4_trimmed_71 : decode cX4_trimmed 71 = .ok (.isub, 1) := dk_100 (dk_at dksX4_trimmed_3 3 rfl rfl)
theorem dX4_trimmed_72 : decode cX4_trimmed 72 = .ok (.aload_n 0, 1) := dk_42 (dk_at dksX4_trimmed_3 4 rfl rfl)
theorem dX4_trimmed_73 : decode cX4_trimmed 73 = .ok (.iload 6, 2) := dk_21 6 (dk_at dksX4_trimmed_3 5 rfl rfl)
theorem dX4_trimmed_75 : decode cX4_trimmed 75 = .ok (.iaload, 1) := dk_46 (dk_at dksX4_trimmed_3 7 rfl rfl)
theorem dX4_trimmed_76 : decode cX4_trimmed 76 = .ok (.iastore, 1) := dk_79 (dk_at dksX4_trimmed_3 8 rfl rfl)
theorem dX4_trimmed_77 : decode cX4_trimmed 77 = .ok (.iinc 6 1, 3) := dk_132 6 1 (dk_at dksX4_trimmed_3 9 rfl rfl)
theorem dX4_trimmed_80 : decode cX4_trimmed 80 = .ok (.goto (-21), 3) := dk_167 255 235 (dk_at dksX4_trimmed_3 12 rfl rfl)
theorem dX4_trimmed_83 : decode cX4_trimmed 83 = .ok (.aload 5, 2) := dk_25 5 (dk_at dksX4_trimmed_3 15 rfl rfl)
theorem dX4_trimmed_85 : decode cX4_trimmed 85 = .ok (.areturn, 1) := dk_176 (dk_at dksX4_trimmed_3 17 rfl rfl)
abbrev cX4_joined : ByteArray := prog_7_method_12_code
def yX4_joined : MethodName := ⟨RX4, "joined", "([I[I)[I"⟩
def dkwX4_joined_2 : List UInt8 := [96, 29, 96, 43, 29, 46, 79, 132, 3, 1, 167, 255, 236, 44, 176]
abbrev dktX4_joined_2 : List UInt8 := dkwX4_joined_2 ++ []
def dkwX4_joined_1 : List UInt8 := [132, 3, 1, 167, 255, 241, 44, 42, 190, 16, 44, 79, 3, 62, 29, 43, 190, 162, 0, 20, 44, 42, 190, 4]
abbrev dktX4_joined_1 : List UInt8 := dkwX4_joined_1 ++ dktX4_joined_2
def dkwX4_joined_0 : List UInt8 := [42, 190, 4, 96, 43, 190, 96, 188, 10, 77, 3, 62, 29, 42, 190, 162, 0, 15, 44, 29, 42, 29, 46, 79]
abbrev dktX4_joined_0 : List UInt8 := dkwX4_joined_0 ++ dktX4_joined_1
theorem dksX4_joined_0 : cX4_joined.data.toList.drop 0 = dktX4_joined_0 := by decide +kernel
theorem dksX4_joined_1 : cX4_joined.data.toList.drop 24 = dktX4_joined_1 := dk_seg dksX4_joined_0 24 rfl rfl
theorem dksX4_joined_2 : cX4_joined.data.toList.drop 48 = dktX4_joined_2 := dk_seg dksX4_joined_1 24 rfl rfl
theorem dX4_joined_0 : decode cX4_joined 0 = .ok (.aload_n 0, 1) := dk_42 (dk_at dksX4_joined_0 0 rfl rfl)
theorem dX4_joined_1 : decode cX4_joined 1 = .ok (.arraylength, 1) := dk_190 (dk_at dksX4_joined_0 1 rfl rfl)
theorem dX4_joined_2 : decode cX4_joined 2 = .ok (.iconst 1, 1) := dk_4 (dk_at dksX4_joined_0 2 rfl rfl)
theorem dX4_joined_3 : decode cX4_joined 3 = .ok (.iadd, 1) := dk_96 (dk_at dksX4_joined_0 3 rfl rfl)
theorem dX4_joined_4 : decode cX4_joined 4 = .ok (.aload_n 1, 1) := dk_43 (dk_at dksX4_joined_0 4 rfl rfl)
theorem dX4_joined_5 : decode cX4_joined 5 = .ok (.arraylength, 1) := dk_190 (dk_at dksX4_joined_0 5 rfl rfl)
theorem dX4_joined_6 : decode cX4_joined 6 = .ok (.iadd, 1) := dk_96 (dk_at dksX4_joined_0 6 rfl rfl)
theorem dX4_joined_7 : decode cX4_joined 7 = .ok (.newarray .int, 2) := dk_188_10 (dk_at dksX4_joined_0 7 rfl rfl)
theorem dX4_joined_9 : decode cX4_joined 9 = .ok (.astore_n 2, 1) := dk_77 (dk_at dksX4_joined_0 9 rfl rfl)
theorem dX4_joined_10 : decode cX4_joined 10 = .ok (.iconst 0, 1) := dk_3 (dk_at dksX4_joined_0 10 rfl rfl)
theorem dX4_joined_11 : decode cX4_joined 11 = .ok (.istore_n 3, 1) := dk_62 (dk_at dksX4_joined_0 11 rfl rfl)
theorem dX4_joined_12 : decode cX4_joined 12 = .ok (.iload_n 3, 1) := dk_29 (dk_at dksX4_joined_0 12 rfl rfl)
theorem dX4_joined_13 : decode cX4_joined 13 = .ok (.aload_n 0, 1) := dk_42 (dk_at dksX4_joined_0 13 rfl rfl)
theorem dX4_joined_14 : decode cX4_joined 14 = .ok (.arraylength, 1) := dk_190 (dk_at dksX4_joined_0 14 rfl rfl)
theorem dX4_joined_15 : decode cX4_joined 15 = .ok (.if_icmp .ge 15, 3) := dk_162 0 15 (dk_at dksX4_joined_0 15 rfl rfl)
theorem dX4_joined_18 : decode cX4_joined 18 = .ok (.aload_n 2, 1) := dk_44 (dk_at dksX4_joined_0 18 rfl rfl)
theorem dX4_joined_19 : decode cX4_joined 19 = .ok (.iload_n 3, 1) := dk_29 (dk_at dksX4_joined_0 19 rfl rfl)
theorem dX4_joined_20 : decode cX4_joined 20 = .ok (.aload_n 0, 1) := dk_42 (dk_at dksX4_joined_0 20 rfl rfl)
theorem dX4_joined_21 : decode cX4_joined 21 = .ok (.iload_n 3, 1) := dk_29 (dk_at dksX4_joined_0 21 rfl rfl)
theorem dX4_joined_22 : decode cX4_joined 22 = .ok (.iaload, 1) := dk_46 (dk_at dksX4_joined_0 22 rfl rfl)
theorem dX4_joined_23 : decode cX4_joined 23 = .ok (.iastore, 1) := dk_79 (dk_at dksX4_joined_0 23 rfl rfl)
theorem dX4_joined_24 : decode cX4_joined 24 = .ok (.iinc 3 1, 3) := dk_132 3 1 (dk_at dksX4_joined_1 0 rfl rfl)
theorem dX4_joined_27 : decode cX4_joined 27 = .ok (.goto (-15), 3) := dk_167 255 241 (dk_at dksX4_joined_1 3 rfl rfl)
theorem dX4_joined_30 : decode cX4_joined 30 = .ok (.aload_n 2, 1) := dk_44 (dk_at dksX4_joined_1 6 rfl rfl)
theorem dX4_joined_31 : decode cX4_joined 31 = .ok (.aload_n 0, 1) := dk_42 (dk_at dksX4_joined_1 7 rfl rfl)
theorem dX4_joined_32 : decode cX4_joined 32 = .ok (.arraylength, 1) := dk_190 (dk_at dksX4_joined_1 8 rfl rfl)
theorem dX4_joined_33 : decode cX4_joined 33 = .ok (.bipush 44, 2) := dk_16 44 (dk_at dksX4_joined_1 9 rfl rfl)
theorem dX4_joined_35 : decode cX4_joined 35 = .ok (.iastore, 1) := dk_79 (dk_at dksX4_joined_1 11 rfl rfl)
theorem dX4_joined_36 : decode cX4_joined 36 = .ok (.iconst 0, 1) := dk_3 (dk_at dksX4_joined_1 12 rfl rfl)
theorem dX4_joined_37 : decode cX4_joined 37 = .ok (.istore_n 3, 1) := dk_62 (dk_at dksX4_joined_1 13 rfl rfl)
theorem dX4_joined_38 : decode cX4_joined 38 = .ok (.iload_n 3, 1) := dk_29 (dk_at dksX4_joined_1 14 rfl rfl)
theorem dX4_joined_39 : decode cX4_joined 39 = .ok (.aload_n 1, 1) := dk_43 (dk_at dksX4_joined_1 15 rfl rfl)
theorem dX4_joined_40 : decode cX4_joined 40 = .ok (.arraylength, 1) := dk_190 (dk_at dksX4_joined_1 16 rfl rfl)
theorem dX4_joined_41 : decode cX4_joined 41 = .ok (.if_icmp .ge 20, 3) := dk_162 0 20 (dk_at dksX4_joined_1 17 rfl rfl)
theorem dX4_joined_44 : decode cX4_joined 44 = .ok (.aload_n 2, 1) := dk_44 (dk_at dksX4_joined_1 20 rfl rfl)
theorem dX4_joined_45 : decode cX4_joined 45 = .ok (.aload_n 0, 1) := dk_42 (dk_at dksX4_joined_1 21 rfl rfl)
theorem dX4_joined_46 : decode cX4_joined 46 = .ok (.arraylength, 1) := dk_190 (dk_at dksX4_joined_1 22 rfl rfl)
theorem dX4_joined_47 : decode cX4_joined 47 = .ok (.iconst 1, 1) := dk_4 (dk_at dksX4_joined_1 23 rfl rfl)
theorem dX4_joined_48 : decode cX4_joined 48 = .ok (.iadd, 1) := dk_96 (dk_at dksX4_joined_2 0 rfl rfl)
theorem dX4_joined_49 : decode cX4_joined 49 = .ok (.iload_n 3, 1) := dk_29 (dk_at dksX4_joined_2 1 rfl rfl)
theorem dX4_joined_50 : decode cX4_joined 50 = .ok (.iadd, 1) := dk_96 (dk_at dksX4_joined_2 2 rfl rfl)
theorem dX4_joined_51 : decode cX4_joined 51 = .ok (.aload_n 1, 1) := dk_43 (dk_at dksX4_joined_2 3 rfl rfl)
theorem dX4_joined_52 : decode cX4_joined 52 = .ok (.iload_n 3, 1) := dk_29 (dk_at dksX4_joined_2 4 rfl rfl)
theorem dX4_joined_53 : decode cX4_joined 53 = .ok (.iaload, 1) := dk_46 (dk_at dksX4_joined_2 5 rfl rfl)
theorem dX4_joined_54 : decode cX4_joined 54 = .ok (.iastore, 1) := dk_79 (dk_at dksX4_joined_2 6 rfl rfl)
theorem dX4_joined_55 : decode cX4_joined 55 = .ok (.iinc 3 1, 3) := dk_132 3 1 (dk_at dksX4_joined_2 7 rfl rfl)
theorem dX4_joined_58 : decode cX4_joined 58 = .ok (.goto (-20), 3) := dk_167 255 236 (dk_at dksX4_joined_2 10 rfl rfl)
theorem dX4_joined_61 : decode cX4_joined 61 = .ok (.aload_n 2, 1) := dk_44 (dk_at dksX4_joined_2 13 rfl rfl)
theorem dX4_joined_62 : decode cX4_joined 62 = .ok (.areturn, 1) := dk_176 (dk_at dksX4_joined_2 14 rfl rfl)
abbrev cX4_theOne : ByteArray := prog_7_method_32_code
def yX4_theOne : MethodName := ⟨RX4, "theOne", "(I)I"⟩
def dkwX4_theOne_4 : List UInt8 := [153, 0, 5, 29, 61, 132, 3, 1, 167, 255, 161, 28, 172]
abbrev dktX4_theOne_4 : List UInt8 := dkwX4_theOne_4 ++ []
def dkwX4_theOne_3 : List UInt8 := [180, 0, 191, 21, 6, 50, 184, 0, 91, 184, 0, 198, 54, 5, 132, 6, 1, 167, 255, 209, 21, 5]
abbrev dktX4_theOne_3 : List UInt8 := dkwX4_theOne_3 ++ dktX4_theOne_4
def dkwX4_theOne_2 : List UInt8 := [190, 162, 0, 42, 21, 5, 153, 0, 37, 25, 4, 180, 0, 195, 21, 6, 50, 42, 180, 0, 22, 25, 4]
abbrev dktX4_theOne_2 : List UInt8 := dkwX4_theOne_2 ++ dktX4_theOne_3
def dkwX4_theOne_1 : List UInt8 := [180, 0, 188, 27, 160, 0, 7, 4, 167, 0, 4, 3, 54, 5, 3, 54, 6, 21, 6, 25, 4, 180, 0, 191]
abbrev dktX4_theOne_1 : List UInt8 := dkwX4_theOne_1 ++ dktX4_theOne_2
def dkwX4_theOne_0 : List UInt8 := [2, 61, 3, 62, 29, 42, 180, 0, 181, 162, 0, 93, 42, 180, 0, 28, 29, 50, 58, 4, 25, 4]
abbrev dktX4_theOne_0 : List UInt8 := dkwX4_theOne_0 ++ dktX4_theOne_1
theorem dksX4_theOne_0 : cX4_theOne.data.toList.drop 0 = dktX4_theOne_0 := by decide +kernel
theorem dksX4_theOne_1 : cX4_theOne.data.toList.drop 22 = dktX4_theOne_1 := dk_seg dksX4_theOne_0 22 rfl rfl
theorem dksX4_theOne_2 : cX4_theOne.data.toList.drop 46 = dktX4_theOne_2 := dk_seg dksX4_theOne_1 24 rfl rfl
theorem dksX4_theOne_3 : cX4_theOne.data.toList.drop 69 = dktX4_theOne_3 := dk_seg dksX4_theOne_2 23 rfl rfl
theorem dksX4_theOne_4 : cX4_theOne.data.toList.drop 91 = dktX4_theOne_4 := dk_seg dksX4_theOne_3 22 rfl rfl
theorem dX4_theOne_0 : decode cX4_theOne 0 = .ok (.iconst (-1), 1) := dk_2 (dk_at dksX4_theOne_0 0 rfl rfl)
theorem dX4_theOne_1 : decode cX4_theOne 1 = .ok (.istore_n 2, 1) := dk_61 (dk_at dksX4_theOne_0 1 rfl rfl)
theorem dX4_theOne_2 : decode cX4_theOne 2 = .ok (.iconst 0, 1) := dk_3 (dk_at dksX4_theOne_0 2 rfl rfl)
theorem dX4_theOne_3 : decode cX4_theOne 3 = .ok (.istore_n 3, 1) := dk_62 (dk_at dksX4_theOne_0 3 rfl rfl)
theorem dX4_theOne_4 : decode cX4_theOne 4 = .ok (.iload_n 3, 1) := dk_29 (dk_at dksX4_theOne_0 4 rfl rfl)
theorem dX4_theOne_5 : decode cX4_theOne 5 = .ok (.aload_n 0, 1) := dk_42 (dk_at dksX4_theOne_0 5 rfl rfl)
theorem dX4_theOne_6 : decode cX4_theOne 6 = .ok (.getfield 181, 3) := dk_180 0 181 (dk_at dksX4_theOne_0 6 rfl rfl)
theorem dX4_theOne_9 : decode cX4_theOne 9 = .ok (.if_icmp .ge 93, 3) := dk_162 0 93 (dk_at dksX4_theOne_0 9 rfl rfl)
theorem dX4_theOne_12 : decode cX4_theOne 12 = .ok (.aload_n 0, 1) := dk_42 (dk_at dksX4_theOne_0 12 rfl rfl)
theorem dX4_theOne_13 : decode cX4_theOne 13 = .ok (.getfield 28, 3) := dk_180 0 28 (dk_at dksX4_theOne_0 13 rfl rfl)
theorem dX4_theOne_16 : decode cX4_theOne 16 = .ok (.iload_n 3, 1) := dk_29 (dk_at dksX4_theOne_0 16 rfl rfl)
theorem dX4_theOne_17 : decode cX4_theOne 17 = .ok (.aaload, 1) := dk_50 (dk_at dksX4_theOne_0 17 rfl rfl)
theorem dX4_theOne_18 : decode cX4_theOne 18 = .ok (.astore 4, 2) := dk_58 4 (dk_at dksX4_theOne_0 18 rfl rfl)
theorem dX4_theOne_20 : decode cX4_theOne 20 = .ok (.aload 4, 2) := dk_25 4 (dk_at dksX4_theOne_0 20 rfl rfl)
theorem dX4_theOne_22 : decode cX4_theOne 22 = .ok (.getfield 188, 3) := dk_180 0 188 (dk_at dksX4_theOne_1 0 rfl rfl)
theorem dX4_theOne_25 : decode cX4_theOne 25 = .ok (.iload_n 1, 1) := dk_27 (dk_at dksX4_theOne_1 3 rfl rfl)
theorem dX4_theOne_26 : decode cX4_theOne 26 = .ok (.if_icmp .ne 7, 3) := dk_160 0 7 (dk_at dksX4_theOne_1 4 rfl rfl)
theorem dX4_theOne_29 : decode cX4_theOne 29 = .ok (.iconst 1, 1) := dk_4 (dk_at dksX4_theOne_1 7 rfl rfl)
theorem dX4_theOne_30 : decode cX4_theOne 30 = .ok (.goto 4, 3) := dk_167 0 4 (dk_at dksX4_theOne_1 8 rfl rfl)
theorem dX4_theOne_33 : decode cX4_theOne 33 = .ok (.iconst 0, 1) := dk_3 (dk_at dksX4_theOne_1 11 rfl rfl)
theorem dX4_theOne_34 : decode cX4_theOne 34 = .ok (.istore 5, 2) := dk_54 5 (dk_at dksX4_theOne_1 12 rfl rfl)
theorem dX4_theOne_36 : decode cX4_theOne 36 = .ok (.iconst 0, 1) := dk_3 (dk_at dksX4_theOne_1 14 rfl rfl)
theorem dX4_theOne_37 : decode cX4_theOne 37 = .ok (.istore 6, 2) := dk_54 6 (dk_at dksX4_theOne_1 15 rfl rfl)
theorem dX4_theOne_39 : decode cX4_theOne 39 = .ok (.iload 6, 2) := dk_21 6 (dk_at dksX4_theOne_1 17 rfl rfl)
theorem dX4_theOne_41 : decode cX4_theOne 41 = .ok (.aload 4, 2) := dk_25 4 (dk_at dksX4_theOne_1 19 rfl rfl)
theorem dX4_theOne_43 : decode cX4_theOne 43 = .ok (.getfield 191, 3) := dk_180 0 191 (dk_at dksX4_theOne_1 21 rfl rfl)
theorem dX4_theOne_46 : decode cX4_theOne 46 = .ok (.arraylength, 1) := dk_190 (dk_at dksX4_theOne_2 0 rfl rfl)
theorem dX4_theOne_47 : decode cX4_theOne 47 = .ok (.if_icmp .ge 42, 3) := dk_162 0 42 (dk_at dksX4_theOne_2 1 rfl rfl)
theorem dX4_theOne_50 : decode cX4_theOne 50 = .ok (.iload 5, 2) := dk_21 5 (dk_at dksX4_theOne_2 4 rfl rfl)
theorem dX4_theOne_52 : decode cX4_theOne 52 = .ok (.ifCond .eq 37, 3) := dk_153 0 37 (dk_at dksX4_theOne_2 6 rfl rfl)
theorem dX4_theOne_55 : decode cX4_theOne 55 = .ok (.aload 4, 2) := dk_25 4 (dk_at dksX4_theOne_2 9 rfl rfl)
theorem dX4_theOne_57 : decode cX4_theOne 57 = .ok (.getfield 195, 3) := dk_180 0 195 (dk_at dksX4_theOne_2 11 rfl rfl)
theorem dX4_theOne_60 : decode cX4_theOne 60 = .ok (.iload 6, 2) := dk_21 6 (dk_at dksX4_theOne_2 14 rfl rfl)
theorem dX4_theOne_62 : decode cX4_theOne 62 = .ok (.aaload, 1) := dk_50 (dk_at dksX4_theOne_2 16 rfl rfl)
theorem dX4_theOne_63 : decode cX4_theOne 63 = .ok (.aload_n 0, 1) := dk_42 (dk_at dksX4_theOne_2 17 rfl rfl)
theorem dX4_theOne_64 : decode cX4_theOne 64 = .ok (.getfield 22, 3) := dk_180 0 22 (dk_at dksX4_theOne_2 18 rfl rfl)
theorem dX4_theOne_67 : decode cX4_theOne 67 = .ok (.aload 4, 2) := dk_25 4 (dk_at dksX4_theOne_2 21 rfl rfl)
theorem dX4_theOne_69 : decode cX4_theOne 69 = .ok (.getfield 191, 3) := dk_180 0 191 (dk_at dksX4_theOne_3 0 rfl rfl)
theorem dX4_theOne_72 : decode cX4_theOne 72 = .ok (.iload 6, 2) := dk_21 6 (dk_at dksX4_theOne_3 3 rfl rfl)
theorem dX4_theOne_74 : decode cX4_theOne 74 = .ok (.aaload, 1) := dk_50 (dk_at dksX4_theOne_3 5 rfl rfl)
theorem dX4_theOne_75 : decode cX4_theOne 75 = .ok (.invokestatic 91, 3) := dk_184 0 91 (dk_at dksX4_theOne_3 6 rfl rfl)
theorem dX4_theOne_78 : decode cX4_theOne 78 = .ok (.invokestatic 198, 3) := dk_184 0 198 (dk_at dksX4_theOne_3 9 rfl rfl)
theorem dX4_theOne_81 : decode cX4_theOne 81 = .ok (.istore 5, 2) := dk_54 5 (dk_at dksX4_theOne_3 12 rfl rfl)
theorem dX4_theOne_83 : decode cX4_theOne 83 = .ok (.iinc 6 1, 3) := dk_132 6 1 (dk_at dksX4_theOne_3 14 rfl rfl)
theorem dX4_theOne_86 : decode cX4_theOne 86 = .ok (.goto (-47), 3) := dk_167 255 209 (dk_at dksX4_theOne_3 17 rfl rfl)
theorem dX4_theOne_89 : decode cX4_theOne 89 = .ok (.iload 5, 2) := dk_21 5 (dk_at dksX4_theOne_3 20 rfl rfl)
theorem dX4_theOne_91 : decode cX4_theOne 91 = .ok (.ifCond .eq 5, 3) := dk_153 0 5 (dk_at dksX4_theOne_4 0 rfl rfl)
theorem dX4_theOne_94 : decode cX4_theOne 94 = .ok (.iload_n 3, 1) := dk_29 (dk_at dksX4_theOne_4 3 rfl rfl)
theorem dX4_theOne_95 : decode cX4_theOne 95 = .ok (.istore_n 2, 1) := dk_61 (dk_at dksX4_theOne_4 4 rfl rfl)
theorem dX4_theOne_96 : decode cX4_theOne 96 = .ok (.iinc 3 1, 3) := dk_132 3 1 (dk_at dksX4_theOne_4 5 rfl rfl)
theorem dX4_theOne_99 : decode cX4_theOne 99 = .ok (.goto (-95), 3) := dk_167 255 161 (dk_at dksX4_theOne_4 8 rfl rfl)
theorem dX4_theOne_102 : decode cX4_theOne 102 = .ok (.iload_n 2, 1) := dk_28 (dk_at dksX4_theOne_4 11 rfl rfl)
theorem dX4_theOne_103 : decode cX4_theOne 103 = .ok (.ireturn, 1) := dk_172 (dk_at dksX4_theOne_4 12 rfl rfl)
abbrev cX4_alike : ByteArray := prog_7_method_17_code
def yX4_alike : MethodName := ⟨RX4, "alike", "([I[I)Z"⟩
def dkwX4_alike_1 : List UInt8 := [184, 0, 83, 184, 0, 87, 172]
abbrev dktX4_alike_1 : List UInt8 := dkwX4_alike_1 ++ []
def dkwX4_alike_0 : List UInt8 := [42, 198, 0, 7, 43, 199, 0, 14, 42, 43, 166, 0, 7, 4, 167, 0, 4, 3, 172, 42, 184, 0, 83, 43]
abbrev dktX4_alike_0 : List UInt8 := dkwX4_alike_0 ++ dktX4_alike_1
theorem dksX4_alike_0 : cX4_alike.data.toList.drop 0 = dktX4_alike_0 := by decide +kernel
theorem dksX4_alike_1 : cX4_alike.data.toList.drop 24 = dktX4_alike_1 := dk_seg dksX4_alike_0 24 rfl rfl
theorem dX4_alike_0 : decode cX4_alike 0 = .ok (.aload_n 0, 1) := dk_42 (dk_at dksX4_alike_0 0 rfl rfl)
theorem dX4_alike_1 : decode cX4_alike 1 = .ok (.ifnull 7, 3) := dk_198 0 7 (dk_at dksX4_alike_0 1 rfl rfl)
theorem dX4_alike_4 : decode cX4_alike 4 = .ok (.aload_n 1, 1) := dk_43 (dk_at dksX4_alike_0 4 rfl rfl)
theorem dX4_alike_5 : decode cX4_alike 5 = .ok (.ifnonnull 14, 3) := dk_199 0 14 (dk_at dksX4_alike_0 5 rfl rfl)
theorem dX4_alike_8 : decode cX4_alike 8 = .ok (.aload_n 0, 1) := dk_42 (dk_at dksX4_alike_0 8 rfl rfl)
theorem dX4_alike_9 : decode cX4_alike 9 = .ok (.aload_n 1, 1) := dk_43 (dk_at dksX4_alike_0 9 rfl rfl)
theorem dX4_alike_10 : decode cX4_alike 10 = .ok (.if_acmp .ne 7, 3) := dk_166 0 7 (dk_at dksX4_alike_0 10 rfl rfl)
theorem dX4_alike_13 : decode cX4_alike 13 = .ok (.iconst 1, 1) := dk_4 (dk_at dksX4_alike_0 13 rfl rfl)
theorem dX4_alike_14 : decode cX4_alike 14 = .ok (.goto 4, 3) := dk_167 0 4 (dk_at dksX4_alike_0 14 rfl rfl)
theorem dX4_alike_17 : decode cX4_alike 17 = .ok (.iconst 0, 1) := dk_3 (dk_at dksX4_alike_0 17 rfl rfl)
theorem dX4_alike_18 : decode cX4_alike 18 = .ok (.ireturn, 1) := dk_172 (dk_at dksX4_alike_0 18 rfl rfl)
theorem dX4_alike_19 : decode cX4_alike 19 = .ok (.aload_n 0, 1) := dk_42 (dk_at dksX4_alike_0 19 rfl rfl)
theorem dX4_alike_20 : decode cX4_alike 20 = .ok (.invokestatic 83, 3) := dk_184 0 83 (dk_at dksX4_alike_0 20 rfl rfl)
theorem dX4_alike_23 : decode cX4_alike 23 = .ok (.aload_n 1, 1) := dk_43 (dk_at dksX4_alike_0 23 rfl rfl)
theorem dX4_alike_24 : decode cX4_alike 24 = .ok (.invokestatic 83, 3) := dk_184 0 83 (dk_at dksX4_alike_1 0 rfl rfl)
theorem dX4_alike_27 : decode cX4_alike 27 = .ok (.invokestatic 87, 3) := dk_184 0 87 (dk_at dksX4_alike_1 3 rfl rfl)
theorem dX4_alike_30 : decode cX4_alike 30 = .ok (.ireturn, 1) := dk_172 (dk_at dksX4_alike_1 6 rfl rfl)
abbrev cX4_list : ByteArray := prog_7_method_15_code
def yX4_list : MethodName := ⟨RX4, "list", "([I)[[I"⟩
def dkwX4_list_4 : List UInt8 := [21, 5, 50, 83, 132, 5, 1, 167, 255, 238, 25, 4, 176]
abbrev dktX4_list_4 : List UInt8 := dkwX4_list_4 ++ []
def dkwX4_list_3 : List UInt8 := [167, 255, 202, 27, 189, 0, 78, 58, 4, 3, 54, 5, 21, 5, 27, 162, 0, 18, 25, 4, 21, 5, 44]
abbrev dktX4_list_3 : List UInt8 := dkwX4_list_3 ++ dktX4_list_4
def dkwX4_list_2 : List UInt8 := [25, 5, 190, 158, 0, 11, 44, 27, 25, 5, 83, 132, 1, 1, 21, 4, 4, 96, 62, 132, 4, 1]
abbrev dktX4_list_2 : List UInt8 := dkwX4_list_2 ++ dktX4_list_3
def dkwX4_list_1 : List UInt8 := [42, 190, 159, 0, 12, 42, 21, 4, 46, 16, 44, 160, 0, 31, 42, 29, 21, 4, 184, 0, 70, 58, 5]
abbrev dktX4_list_1 : List UInt8 := dkwX4_list_1 ++ dktX4_list_2
def dkwX4_list_0 : List UInt8 := [3, 60, 42, 190, 4, 96, 189, 0, 78, 77, 3, 62, 3, 54, 4, 21, 4, 42, 190, 163, 0, 53, 21, 4]
abbrev dktX4_list_0 : List UInt8 := dkwX4_list_0 ++ dktX4_list_1
theorem dksX4_list_0 : cX4_list.data.toList.drop 0 = dktX4_list_0 := by decide +kernel
theorem dksX4_list_1 : cX4_list.data.toList.drop 24 = dktX4_list_1 := dk_seg dksX4_list_0 24 rfl rfl
theorem dksX4_list_2 : cX4_list.data.toList.drop 47 = dktX4_list_2 := dk_seg dksX4_list_1 23 rfl rfl
theorem dksX4_list_3 : cX4_list.data.toList.drop 69 = dktX4_list_3 := dk_seg dksX4_list_2 22 rfl rfl
theorem dksX4_list_4 : cX4_list.data.toList.drop 92 = dktX4_list_4 := dk_seg dksX4_list_3 23 rfl rfl
theorem dX4_list_0 : decode cX4_list 0 = .ok (.iconst 0, 1) := dk_3 (dk_at dksX4_list_0 0 rfl rfl)
theorem dX4_list_1 : decode cX4_list 1 = .ok (.istore_n 1, 1) := dk_60 (dk_at dksX4_list_0 1 rfl rfl)
theorem dX4_list_2 : decode cX4_list 2 = .ok (.aload_n 0, 1) := dk_42 (dk_at dksX4_list_0 2 rfl rfl)
theorem dX4_list_3 : decode cX4_list 3 = .ok (.arraylength, 1) := dk_190 (dk_at dksX4_list_0 3 rfl rfl)
theorem dX4_list_4 : decode cX4_list 4 = .ok (.iconst 1, 1) := dk_4 (dk_at dksX4_list_0 4 rfl rfl)
theorem dX4_list_5 : decode cX4_list 5 = .ok (.iadd, 1) := dk_96 (dk_at dksX4_list_0 5 rfl rfl)
theorem dX4_list_6 : decode cX4_list 6 = .ok (.anewarray 78, 3) := dk_189 0 78 (dk_at dksX4_list_0 6 rfl rfl)
theorem dX4_list_9 : decode cX4_list 9 = .ok (.astore_n 2, 1) := dk_77 (dk_at dksX4_list_0 9 rfl rfl)
theorem dX4_list_10 : decode cX4_list 10 = .ok (.iconst 0, 1) := dk_3 (dk_at dksX4_list_0 10 rfl rfl)
theorem dX4_list_11 : decode cX4_list 11 = .ok (.istore_n 3, 1) := dk_62 (dk_at dksX4_list_0 11 rfl rfl)
theorem dX4_list_12 : decode cX4_list 12 = .ok (.iconst 0, 1) := dk_3 (dk_at dksX4_list_0 12 rfl rfl)
theorem dX4_list_13 : decode cX4_list 13 = .ok (.istore 4, 2) := dk_54 4 (dk_at dksX4_list_0 13 rfl rfl)
theorem dX4_list_15 : decode cX4_list 15 = .ok (.iload 4, 2) := dk_21 4 (dk_at dksX4_list_0 15 rfl rfl)
theorem dX4_list_17 : decode cX4_list 17 = .ok (.aload_n 0, 1) := dk_42 (dk_at dksX4_list_0 17 rfl rfl)
theorem dX4_list_18 : decode cX4_list 18 = .ok (.arraylength, 1) := dk_190 (dk_at dksX4_list_0 18 rfl rfl)
theorem dX4_list_19 : decode cX4_list 19 = .ok (.if_icmp .gt 53, 3) := dk_163 0 53 (dk_at dksX4_list_0 19 rfl rfl)
theorem dX4_list_22 : decode cX4_list 22 = .ok (.iload 4, 2) := dk_21 4 (dk_at dksX4_list_0 22 rfl rfl)
theorem dX4_list_24 : decode cX4_list 24 = .ok (.aload_n 0, 1) := dk_42 (dk_at dksX4_list_1 0 rfl rfl)
theorem dX4_list_25 : decode cX4_list 25 = .ok (.arraylength, 1) := dk_190 (dk_at dksX4_list_1 1 rfl rfl)
theorem dX4_list_26 : decode cX4_list 26 = .ok (.if_icmp .eq 12, 3) := dk_159 0 12 (dk_at dksX4_list_1 2 rfl rfl)
theorem dX4_list_29 : decode cX4_list 29 = .ok (.aload_n 0, 1) := dk_42 (dk_at dksX4_list_1 5 rfl rfl)
theorem dX4_list_30 : decode cX4_list 30 = .ok (.iload 4, 2) := dk_21 4 (dk_at dksX4_list_1 6 rfl rfl)
theorem dX4_list_32 : decode cX4_list 32 = .ok (.iaload, 1) := dk_46 (dk_at dksX4_list_1 8 rfl rfl)
theorem dX4_list_33 : decode cX4_list 33 = .ok (.bipush 44, 2) := dk_16 44 (dk_at dksX4_list_1 9 rfl rfl)
theorem dX4_list_35 : decode cX4_list 35 = .ok (.if_icmp .ne 31, 3) := dk_160 0 31 (dk_at dksX4_list_1 11 rfl rfl)
theorem dX4_list_38 : decode cX4_list 38 = .ok (.aload_n 0, 1) := dk_42 (dk_at dksX4_list_1 14 rfl rfl)
theorem dX4_list_39 : decode cX4_list 39 = .ok (.iload_n 3, 1) := dk_29 (dk_at dksX4_list_1 15 rfl rfl)
theorem dX4_list_40 : decode cX4_list 40 = .ok (.iload 4, 2) := dk_21 4 (dk_at dksX4_list_1 16 rfl rfl)
theorem dX4_list_42 : decode cX4_list 42 = .ok (.invokestatic 70, 3) := dk_184 0 70 (dk_at dksX4_list_1 18 rfl rfl)
theorem dX4_list_45 : decode cX4_list 45 = .ok (.astore 5, 2) := dk_58 5 (dk_at dksX4_list_1 21 rfl rfl)
theorem dX4_list_47 : decode cX4_list 47 = .ok (.aload 5, 2) := dk_25 5 (dk_at dksX4_list_2 0 rfl rfl)
theorem dX4_list_49 : decode cX4_list 49 = .ok (.arraylength, 1) := dk_190 (dk_at dksX4_list_2 2 rfl rfl)
theorem dX4_list_50 : decode cX4_list 50 = .ok (.ifCond .le 11, 3) := dk_158 0 11 (dk_at dksX4_list_2 3 rfl rfl)
theorem dX4_list_53 : decode cX4_list 53 = .ok (.aload_n 2, 1) := dk_44 (dk_at dksX4_list_2 6 rfl rfl)
theorem dX4_list_54 : decode cX4_list 54 = .ok (.iload_n 1, 1) := dk_27 (dk_at dksX4_list_2 7 rfl rfl)
theorem dX4_list_55 : decode cX4_list 55 = .ok (.aload 5, 2) := dk_25 5 (dk_at dksX4_list_2 8 rfl rfl)
theorem dX4_list_57 : decode cX4_list 57 = .ok (.aastore, 1) := dk_83 (dk_at dksX4_list_2 10 rfl rfl)
theorem dX4_list_58 : decode cX4_list 58 = .ok (.iinc 1 1, 3) := dk_132 1 1 (dk_at dksX4_list_2 11 rfl rfl)
theorem dX4_list_61 : decode cX4_list 61 = .ok (.iload 4, 2) := dk_21 4 (dk_at dksX4_list_2 14 rfl rfl)
theorem dX4_list_63 : decode cX4_list 63 = .ok (.iconst 1, 1) := dk_4 (dk_at dksX4_list_2 16 rfl rfl)
theorem dX4_list_64 : decode cX4_list 64 = .ok (.iadd, 1) := dk_96 (dk_at dksX4_list_2 17 rfl rfl)
theorem dX4_list_65 : decode cX4_list 65 = .ok (.istore_n 3, 1) := dk_62 (dk_at dksX4_list_2 18 rfl rfl)
theorem dX4_list_66 : decode cX4_list 66 = .ok (.iinc 4 1, 3) := dk_132 4 1 (dk_at dksX4_list_2 19 rfl rfl)
theorem dX4_list_69 : decode cX4_list 69 = .ok (.goto (-54), 3) := dk_167 255 202 (dk_at dksX4_list_3 0 rfl rfl)
theorem dX4_list_72 : decode cX4_list 72 = .ok (.iload_n 1, 1) := dk_27 (dk_at dksX4_list_3 3 rfl rfl)
theorem dX4_list_73 : decode cX4_list 73 = .ok (.anewarray 78, 3) := dk_189 0 78 (dk_at dksX4_list_3 4 rfl rfl)
theorem dX4_list_76 : decode cX4_list 76 = .ok (.astore 4, 2) := dk_58 4 (dk_at dksX4_list_3 7 rfl rfl)
theorem dX4_list_78 : decode cX4_list 78 = .ok (.iconst 0, 1) := dk_3 (dk_at dksX4_list_3 9 rfl rfl)
theorem dX4_list_79 : decode cX4_list 79 = .ok (.istore 5, 2) := dk_54 5 (dk_at dksX4_list_3 10 rfl rfl)
theorem dX4_list_81 : decode cX4_list 81 = .ok (.iload 5, 2) := dk_21 5 (dk_at dksX4_list_3 12 rfl rfl)
theorem dX4_list_83 : decode cX4_list 83 = .ok (.iload_n 1, 1) := dk_27 (dk_at dksX4_list_3 14 rfl rfl)
theorem dX4_list_84 : decode cX4_list 84 = .ok (.if_icmp .ge 18, 3) := dk_162 0 18 (dk_at dksX4_list_3 15 rfl rfl)
theorem dX4_list_87 : decode cX4_list 87 = .ok (.aload 4, 2) := dk_25 4 (dk_at dksX4_list_3 18 rfl rfl)
theorem dX4_list_89 : decode cX4_list 89 = .ok (.iload 5, 2) := dk_21 5 (dk_at dksX4_list_3 20 rfl rfl)
theorem dX4_list_91 : decode cX4_list 91 = .ok (.aload_n 2, 1) := dk_44 (dk_at dksX4_list_3 22 rfl rfl)
theorem dX4_list_92 : decode cX4_list 92 = .ok (.iload 5, 2) := dk_21 5 (dk_at dksX4_list_4 0 rfl rfl)
theorem dX4_list_94 : decode cX4_list 94 = .ok (.aaload, 1) := dk_50 (dk_at dksX4_list_4 2 rfl rfl)
theorem dX4_list_95 : decode cX4_list 95 = .ok (.aastore, 1) := dk_83 (dk_at dksX4_list_4 3 rfl rfl)
theorem dX4_list_96 : decode cX4_list 96 = .ok (.iinc 5 1, 3) := dk_132 5 1 (dk_at dksX4_list_4 4 rfl rfl)
theorem dX4_list_99 : decode cX4_list 99 = .ok (.goto (-18), 3) := dk_167 255 238 (dk_at dksX4_list_4 7 rfl rfl)
theorem dX4_list_102 : decode cX4_list 102 = .ok (.aload 4, 2) := dk_25 4 (dk_at dksX4_list_4 10 rfl rfl)
theorem dX4_list_104 : decode cX4_list 104 = .ok (.areturn, 1) := dk_176 (dk_at dksX4_list_4 12 rfl rfl)
abbrev cX4_sameList : ByteArray := prog_7_method_16_code
def yX4_sameList : MethodName := ⟨RX4, "sameList", "([[I[[I)Z"⟩
def dkwX4_sameList_1 : List UInt8 := [184, 0, 79, 154, 0, 5, 3, 172, 132, 2, 1, 167, 255, 233, 4, 172]
abbrev dktX4_sameList_1 : List UInt8 := dkwX4_sameList_1 ++ []
def dkwX4_sameList_0 : List UInt8 := [42, 190, 43, 190, 159, 0, 5, 3, 172, 3, 61, 28, 42, 190, 162, 0, 23, 42, 28, 50, 43, 28, 50]
abbrev dktX4_sameList_0 : List UInt8 := dkwX4_sameList_0 ++ dktX4_sameList_1
theorem dksX4_sameList_0 : cX4_sameList.data.toList.drop 0 = dktX4_sameList_0 := by decide +kernel
theorem dksX4_sameList_1 : cX4_sameList.data.toList.drop 23 = dktX4_sameList_1 := dk_seg dksX4_sameList_0 23 rfl rfl
theorem dX4_sameList_0 : decode cX4_sameList 0 = .ok (.aload_n 0, 1) := dk_42 (dk_at dksX4_sameList_0 0 rfl rfl)
theorem dX4_sameList_1 : decode cX4_sameList 1 = .ok (.arraylength, 1) := dk_190 (dk_at dksX4_sameList_0 1 rfl rfl)
theorem dX4_sameList_2 : decode cX4_sameList 2 = .ok (.aload_n 1, 1) := dk_43 (dk_at dksX4_sameList_0 2 rfl rfl)
theorem dX4_sameList_3 : decode cX4_sameList 3 = .ok (.arraylength, 1) := dk_190 (dk_at dksX4_sameList_0 3 rfl rfl)
theorem dX4_sameList_4 : decode cX4_sameList 4 = .ok (.if_icmp .eq 5, 3) := dk_159 0 5 (dk_at dksX4_sameList_0 4 rfl rfl)
theorem dX4_sameList_7 : decode cX4_sameList 7 = .ok (.iconst 0, 1) := dk_3 (dk_at dksX4_sameList_0 7 rfl rfl)
theorem dX4_sameList_8 : decode cX4_sameList 8 = .ok (.ireturn, 1) := dk_172 (dk_at dksX4_sameList_0 8 rfl rfl)
theorem dX4_sameList_9 : decode cX4_sameList 9 = .ok (.iconst 0, 1) := dk_3 (dk_at dksX4_sameList_0 9 rfl rfl)
theorem dX4_sameList_10 : decode cX4_sameList 10 = .ok (.istore_n 2, 1) := dk_61 (dk_at dksX4_sameList_0 10 rfl rfl)
theorem dX4_sameList_11 : decode cX4_sameList 11 = .ok (.iload_n 2, 1) := dk_28 (dk_at dksX4_sameList_0 11 rfl rfl)
theorem dX4_sameList_12 : decode cX4_sameList 12 = .ok (.aload_n 0, 1) := dk_42 (dk_at dksX4_sameList_0 12 rfl rfl)
theorem dX4_sameList_13 : decode cX4_sameList 13 = .ok (.arraylength, 1) := dk_190 (dk_at dksX4_sameList_0 13 rfl rfl)
theorem dX4_sameList_14 : decode cX4_sameList 14 = .ok (.if_icmp .ge 23, 3) := dk_162 0 23 (dk_at dksX4_sameList_0 14 rfl rfl)
theorem dX4_sameList_17 : decode cX4_sameList 17 = .ok (.aload_n 0, 1) := dk_42 (dk_at dksX4_sameList_0 17 rfl rfl)
theorem dX4_sameList_18 : decode cX4_sameList 18 = .ok (.iload_n 2, 1) := dk_28 (dk_at dksX4_sameList_0 18 rfl rfl)
theorem dX4_sameList_19 : decode cX4_sameList 19 = .ok (.aaload, 1) := dk_50 (dk_at dksX4_sameList_0 19 rfl rfl)
theorem dX4_sameList_20 : decode cX4_sameList 20 = .ok (.aload_n 1, 1) := dk_43 (dk_at dksX4_sameList_0 20 rfl rfl)
theorem dX4_sameList_21 : decode cX4_sameList 21 = .ok (.iload_n 2, 1) := dk_28 (dk_at dksX4_sameList_0 21 rfl rfl)
theorem dX4_sameList_22 : decode cX4_sameList 22 = .ok (.aaload, 1) := dk_50 (dk_at dksX4_sameList_0 22 rfl rfl)
theorem dX4_sameList_23 : decode cX4_sameList 23 = .ok (.invokestatic 79, 3) := dk_184 0 79 (dk_at dksX4_sameList_1 0 rfl rfl)
theorem dX4_sameList_26 : decode cX4_sameList 26 = .ok (.ifCond .ne 5, 3) := dk_154 0 5 (dk_at dksX4_sameList_1 3 rfl rfl)
theorem dX4_sameList_29 : decode cX4_sameList 29 = .ok (.iconst 0, 1) := dk_3 (dk_at dksX4_sameList_1 6 rfl rfl)
theorem dX4_sameList_30 : decode cX4_sameList 30 = .ok (.ireturn, 1) := dk_172 (dk_at dksX4_sameList_1 7 rfl rfl)
theorem dX4_sameList_31 : decode cX4_sameList 31 = .ok (.iinc 2 1, 3) := dk_132 2 1 (dk_at dksX4_sameList_1 8 rfl rfl)
theorem dX4_sameList_34 : decode cX4_sameList 34 = .ok (.goto (-23), 3) := dk_167 255 233 (dk_at dksX4_sameList_1 11 rfl rfl)
theorem dX4_sameList_37 : decode cX4_sameList 37 = .ok (.iconst 1, 1) := dk_4 (dk_at dksX4_sameList_1 14 rfl rfl)
theorem dX4_sameList_38 : decode cX4_sameList 38 = .ok (.ireturn, 1) := dk_172 (dk_at dksX4_sameList_1 15 rfl rfl)
abbrev cX4_same : ByteArray := prog_7_method_10_code
def yX4_same : MethodName := ⟨RX4, "same", "([I[I)Z"⟩
def dkwX4_same_1 : List UInt8 := [159, 0, 5, 3, 172, 132, 2, 1, 167, 255, 236, 4, 172]
abbrev dktX4_same_1 : List UInt8 := dkwX4_same_1 ++ []
def dkwX4_same_0 : List UInt8 := [42, 190, 43, 190, 159, 0, 5, 3, 172, 3, 61, 28, 42, 190, 162, 0, 20, 42, 28, 46, 43, 28, 46]
abbrev dktX4_same_0 : List UInt8 := dkwX4_same_0 ++ dktX4_same_1
theorem dksX4_same_0 : cX4_same.data.toList.drop 0 = dktX4_same_0 := by decide +kernel
theorem dksX4_same_1 : cX4_same.data.toList.drop 23 = dktX4_same_1 := dk_seg dksX4_same_0 23 rfl rfl
theorem dX4_same_0 : decode cX4_same 0 = .ok (.aload_n 0, 1) := dk_42 (dk_at dksX4_same_0 0 rfl rfl)
theorem dX4_same_1 : decode cX4_same 1 = .ok (.arraylength, 1) := dk_190 (dk_at dksX4_same_0 1 rfl rfl)
theorem dX4_same_2 : decode cX4_same 2 = .ok (.aload_n 1, 1) := dk_43 (dk_at dksX4_same_0 2 rfl rfl)
theorem dX4_same_3 : decode cX4_same 3 = .ok (.arraylength, 1) := dk_190 (dk_at dksX4_same_0 3 rfl rfl)
theorem dX4_same_4 : decode cX4_same 4 = .ok (.if_icmp .eq 5, 3) := dk_159 0 5 (dk_at dksX4_same_0 4 rfl rfl)
theorem dX4_same_7 : decode cX4_same 7 = .ok (.iconst 0, 1) := dk_3 (dk_at dksX4_same_0 7 rfl rfl)
theorem dX4_same_8 : decode cX4_same 8 = .ok (.ireturn, 1) := dk_172 (dk_at dksX4_same_0 8 rfl rfl)
theorem dX4_same_9 : decode cX4_same 9 = .ok (.iconst 0, 1) := dk_3 (dk_at dksX4_same_0 9 rfl rfl)
theorem dX4_same_10 : decode cX4_same 10 = .ok (.istore_n 2, 1) := dk_61 (dk_at dksX4_same_0 10 rfl rfl)
theorem dX4_same_11 : decode cX4_same 11 = .ok (.iload_n 2, 1) := dk_28 (dk_at dksX4_same_0 11 rfl rfl)
theorem dX4_same_12 : decode cX4_same 12 = .ok (.aload_n 0, 1) := dk_42 (dk_at dksX4_same_0 12 rfl rfl)
theorem dX4_same_13 : decode cX4_same 13 = .ok (.arraylength, 1) := dk_190 (dk_at dksX4_same_0 13 rfl rfl)
theorem dX4_same_14 : decode cX4_same 14 = .ok (.if_icmp .ge 20, 3) := dk_162 0 20 (dk_at dksX4_same_0 14 rfl rfl)
theorem dX4_same_17 : decode cX4_same 17 = .ok (.aload_n 0, 1) := dk_42 (dk_at dksX4_same_0 17 rfl rfl)
theorem dX4_same_18 : decode cX4_same 18 = .ok (.iload_n 2, 1) := dk_28 (dk_at dksX4_same_0 18 rfl rfl)
theorem dX4_same_19 : decode cX4_same 19 = .ok (.iaload, 1) := dk_46 (dk_at dksX4_same_0 19 rfl rfl)
theorem dX4_same_20 : decode cX4_same 20 = .ok (.aload_n 1, 1) := dk_43 (dk_at dksX4_same_0 20 rfl rfl)
theorem dX4_same_21 : decode cX4_same 21 = .ok (.iload_n 2, 1) := dk_28 (dk_at dksX4_same_0 21 rfl rfl)
theorem dX4_same_22 : decode cX4_same 22 = .ok (.iaload, 1) := dk_46 (dk_at dksX4_same_0 22 rfl rfl)
theorem dX4_same_23 : decode cX4_same 23 = .ok (.if_icmp .eq 5, 3) := dk_159 0 5 (dk_at dksX4_same_1 0 rfl rfl)
theorem dX4_same_26 : decode cX4_same 26 = .ok (.iconst 0, 1) := dk_3 (dk_at dksX4_same_1 3 rfl rfl)
theorem dX4_same_27 : decode cX4_same 27 = .ok (.ireturn, 1) := dk_172 (dk_at dksX4_same_1 4 rfl rfl)
theorem dX4_same_28 : decode cX4_same 28 = .ok (.iinc 2 1, 3) := dk_132 2 1 (dk_at dksX4_same_1 5 rfl rfl)
theorem dX4_same_31 : decode cX4_same 31 = .ok (.goto (-20), 3) := dk_167 255 236 (dk_at dksX4_same_1 8 rfl rfl)
theorem dX4_same_34 : decode cX4_same 34 = .ok (.iconst 1, 1) := dk_4 (dk_at dksX4_same_1 11 rfl rfl)
theorem dX4_same_35 : decode cX4_same 35 = .ok (.ireturn, 1) := dk_172 (dk_at dksX4_same_1 12 rfl rfl)
abbrev cX4_answer : ByteArray := prog_7_method_34_code
def yX4_answer : MethodName := ⟨RX4, "answer", "(LVaryStoreModel$Thing;[I)I"⟩
def dkwX4_answer_6 : List UInt8 := [153, 0, 7, 4, 167, 0, 4, 6, 172, 21, 6, 153, 0, 7, 5, 167, 0, 4, 6, 172]
abbrev dktX4_answer_6 : List UInt8 := dkwX4_answer_6 ++ []
def dkwX4_answer_5 : List UInt8 := [21, 4, 155, 0, 23, 42, 43, 182, 0, 170, 21, 4, 96, 43, 180, 0, 158, 161, 0, 8, 21, 6]
abbrev dktX4_answer_5 : List UInt8 := dkwX4_answer_5 ++ dktX4_answer_6
def dkwX4_answer_4 : List UInt8 := [180, 0, 158, 21, 5, 96, 162, 0, 7, 4, 167, 0, 4, 3, 54, 6, 42, 43, 182, 0, 209, 153, 0, 34]
abbrev dktX4_answer_4 : List UInt8 := dkwX4_answer_4 ++ dktX4_answer_5
def dkwX4_answer_3 : List UInt8 := [180, 0, 145, 154, 0, 33, 21, 5, 2, 159, 0, 23, 21, 5, 155, 0, 22, 42, 43, 182, 0, 170, 43]
abbrev dktX4_answer_3 : List UInt8 := dkwX4_answer_3 ++ dktX4_answer_4
def dkwX4_answer_2 : List UInt8 := [184, 0, 105, 184, 0, 113, 54, 4, 44, 20, 0, 205, 20, 0, 207, 184, 0, 105, 184, 0, 113, 54, 5, 43]
abbrev dktX4_answer_2 : List UInt8 := dkwX4_answer_2 ++ dktX4_answer_3
def dkwX4_answer_1 : List UInt8 := [62, 29, 155, 0, 14, 42, 43, 182, 0, 170, 29, 164, 0, 5, 6, 172, 44, 20, 0, 201, 20, 0, 203]
abbrev dktX4_answer_1 : List UInt8 := dkwX4_answer_1 ++ dktX4_answer_2
def dkwX4_answer_0 : List UInt8 := [44, 20, 0, 127, 9, 184, 0, 129, 153, 0, 5, 6, 172, 44, 20, 0, 122, 9, 184, 0, 105, 184, 0, 113]
abbrev dktX4_answer_0 : List UInt8 := dkwX4_answer_0 ++ dktX4_answer_1
theorem dksX4_answer_0 : cX4_answer.data.toList.drop 0 = dktX4_answer_0 := by decide +kernel
theorem dksX4_answer_1 : cX4_answer.data.toList.drop 24 = dktX4_answer_1 := dk_seg dksX4_answer_0 24 rfl rfl
theorem dksX4_answer_2 : cX4_answer.data.toList.drop 47 = dktX4_answer_2 := dk_seg dksX4_answer_1 23 rfl rfl
theorem dksX4_answer_3 : cX4_answer.data.toList.drop 71 = dktX4_answer_3 := dk_seg dksX4_answer_2 24 rfl rfl
theorem dksX4_answer_4 : cX4_answer.data.toList.drop 94 = dktX4_answer_4 := dk_seg dksX4_answer_3 23 rfl rfl
theorem dksX4_answer_5 : cX4_answer.data.toList.drop 118 = dktX4_answer_5 := dk_seg dksX4_answer_4 24 rfl rfl
theorem dksX4_answer_6 : cX4_answer.data.toList.drop 140 = dktX4_answer_6 := dk_seg dksX4_answer_5 22 rfl rfl
theorem dX4_answer_0 : decode cX4_answer 0 = .ok (.aload_n 2, 1) := dk_44 (dk_at dksX4_answer_0 0 rfl rfl)
theorem dX4_answer_1 : decode cX4_answer 1 = .ok (.ldc2_w 127, 3) := dk_20 0 127 (dk_at dksX4_answer_0 1 rfl rfl)
theorem dX4_answer_4 : decode cX4_answer 4 = .ok (.lconst 0, 1) := dk_9 (dk_at dksX4_answer_0 4 rfl rfl)
theorem dX4_answer_5 : decode cX4_answer 5 = .ok (.invokestatic 129, 3) := dk_184 0 129 (dk_at dksX4_answer_0 5 rfl rfl)
theorem dX4_answer_8 : decode cX4_answer 8 = .ok (.ifCond .eq 5, 3) := dk_153 0 5 (dk_at dksX4_answer_0 8 rfl rfl)
theorem dX4_answer_11 : decode cX4_answer 11 = .ok (.iconst 3, 1) := dk_6 (dk_at dksX4_answer_0 11 rfl rfl)
theorem dX4_answer_12 : decode cX4_answer 12 = .ok (.ireturn, 1) := dk_172 (dk_at dksX4_answer_0 12 rfl rfl)
theorem dX4_answer_13 : decode cX4_answer 13 = .ok (.aload_n 2, 1) := dk_44 (dk_at dksX4_answer_0 13 rfl rfl)
theorem dX4_answer_14 : decode cX4_answer 14 = .ok (.ldc2_w 122, 3) := dk_20 0 122 (dk_at dksX4_answer_0 14 rfl rfl)
theorem dX4_answer_17 : decode cX4_answer 17 = .ok (.lconst 0, 1) := dk_9 (dk_at dksX4_answer_0 17 rfl rfl)
theorem dX4_answer_18 : decode cX4_answer 18 = .ok (.invokestatic 105, 3) := dk_184 0 105 (dk_at dksX4_answer_0 18 rfl rfl)
theorem dX4_answer_21 : decode cX4_answer 21 = .ok (.invokestatic 113, 3) := dk_184 0 113 (dk_at dksX4_answer_0 21 rfl rfl)
theorem dX4_answer_24 : decode cX4_answer 24 = .ok (.istore_n 3, 1) := dk_62 (dk_at dksX4_answer_1 0 rfl rfl)
theorem dX4_answer_25 : decode cX4_answer 25 = .ok (.iload_n 3, 1) := dk_29 (dk_at dksX4_answer_1 1 rfl rfl)
theorem dX4_answer_26 : decode cX4_answer 26 = .ok (.ifCond .lt 14, 3) := dk_155 0 14 (dk_at dksX4_answer_1 2 rfl rfl)
theorem dX4_answer_29 : decode cX4_answer 29 = .ok (.aload_n 0, 1) := dk_42 (dk_at dksX4_answer_1 5 rfl rfl)
theorem dX4_answer_30 : decode cX4_answer 30 = .ok (.aload_n 1, 1) := dk_43 (dk_at dksX4_answer_1 6 rfl rfl)
theorem dX4_answer_31 : decode cX4_answer 31 = .ok (.invokevirtual 170, 3) := dk_182 0 170 (dk_at dksX4_answer_1 7 rfl rfl)
theorem dX4_answer_34 : decode cX4_answer 34 = .ok (.iload_n 3, 1) := dk_29 (dk_at dksX4_answer_1 10 rfl rfl)
theorem dX4_answer_35 : decode cX4_answer 35 = .ok (.if_icmp .le 5, 3) := dk_164 0 5 (dk_at dksX4_answer_1 11 rfl rfl)
theorem dX4_answer_38 : decode cX4_answer 38 = .ok (.iconst 3, 1) := dk_6 (dk_at dksX4_answer_1 14 rfl rfl)
theorem dX4_answer_39 : decode cX4_answer 39 = .ok (.ireturn, 1) := dk_172 (dk_at dksX4_answer_1 15 rfl rfl)
theorem dX4_answer_40 : decode cX4_answer 40 = .ok (.aload_n 2, 1) := dk_44 (dk_at dksX4_answer_1 16 rfl rfl)
theorem dX4_answer_41 : decode cX4_answer 41 = .ok (.ldc2_w 201, 3) := dk_20 0 201 (dk_at dksX4_answer_1 17 rfl rfl)
theorem dX4_answer_44 : decode cX4_answer 44 = .ok (.ldc2_w 203, 3) := dk_20 0 203 (dk_at dksX4_answer_1 20 rfl rfl)
theorem dX4_answer_47 : decode cX4_answer 47 = .ok (.invokestatic 105, 3) := dk_184 0 105 (dk_at dksX4_answer_2 0 rfl rfl)
theorem dX4_answer_50 : decode cX4_answer 50 = .ok (.invokestatic 113, 3) := dk_184 0 113 (dk_at dksX4_answer_2 3 rfl rfl)
theorem dX4_answer_53 : decode cX4_answer 53 = .ok (.istore 4, 2) := dk_54 4 (dk_at dksX4_answer_2 6 rfl rfl)
theorem dX4_answer_55 : decode cX4_answer 55 = .ok (.aload_n 2, 1) := dk_44 (dk_at dksX4_answer_2 8 rfl rfl)
theorem dX4_answer_56 : decode cX4_answer 56 = .ok (.ldc2_w 205, 3) := dk_20 0 205 (dk_at dksX4_answer_2 9 rfl rfl)
theorem dX4_answer_59 : decode cX4_answer 59 = .ok (.ldc2_w 207, 3) := dk_20 0 207 (dk_at dksX4_answer_2 12 rfl rfl)
theorem dX4_answer_62 : decode cX4_answer 62 = .ok (.invokestatic 105, 3) := dk_184 0 105 (dk_at dksX4_answer_2 15 rfl rfl)
theorem dX4_answer_65 : decode cX4_answer 65 = .ok (.invokestatic 113, 3) := dk_184 0 113 (dk_at dksX4_answer_2 18 rfl rfl)
theorem dX4_answer_68 : decode cX4_answer 68 = .ok (.istore 5, 2) := dk_54 5 (dk_at dksX4_answer_2 21 rfl rfl)
theorem dX4_answer_70 : decode cX4_answer 70 = .ok (.aload_n 1, 1) := dk_43 (dk_at dksX4_answer_2 23 rfl rfl)
theorem dX4_answer_71 : decode cX4_answer 71 = .ok (.getfield 145, 3) := dk_180 0 145 (dk_at dksX4_answer_3 0 rfl rfl)
theorem dX4_answer_74 : decode cX4_answer 74 = .ok (.ifCond .ne 33, 3) := dk_154 0 33 (dk_at dksX4_answer_3 3 rfl rfl)
theorem dX4_answer_77 : decode cX4_answer 77 = .ok (.iload 5, 2) := dk_21 5 (dk_at dksX4_answer_3 6 rfl rfl)
theorem dX4_answer_79 : decode cX4_answer 79 = .ok (.iconst (-1), 1) := dk_2 (dk_at dksX4_answer_3 8 rfl rfl)
theorem dX4_answer_80 : decode cX4_answer 80 = .ok (.if_icmp .eq 23, 3) := dk_159 0 23 (dk_at dksX4_answer_3 9 rfl rfl)
theorem dX4_answer_83 : decode cX4_answer 83 = .ok (.iload 5, 2) := dk_21 5 (dk_at dksX4_answer_3 12 rfl rfl)
theorem dX4_answer_85 : decode cX4_answer 85 = .ok (.ifCond .lt 22, 3) := dk_155 0 22 (dk_at dksX4_answer_3 14 rfl rfl)
theorem dX4_answer_88 : decode cX4_answer 88 = .ok (.aload_n 0, 1) := dk_42 (dk_at dksX4_answer_3 17 rfl rfl)
theorem dX4_answer_89 : decode cX4_answer 89 = .ok (.aload_n 1, 1) := dk_43 (dk_at dksX4_answer_3 18 rfl rfl)
theorem dX4_answer_90 : decode cX4_answer 90 = .ok (.invokevirtual 170, 3) := dk_182 0 170 (dk_at dksX4_answer_3 19 rfl rfl)
theorem dX4_answer_93 : decode cX4_answer 93 = .ok (.aload_n 1, 1) := dk_43 (dk_at dksX4_answer_3 22 rfl rfl)
theorem dX4_answer_94 : decode cX4_answer 94 = .ok (.getfield 158, 3) := dk_180 0 158 (dk_at dksX4_answer_4 0 rfl rfl)
theorem dX4_answer_97 : decode cX4_answer 97 = .ok (.iload 5, 2) := dk_21 5 (dk_at dksX4_answer_4 3 rfl rfl)
theorem dX4_answer_99 : decode cX4_answer 99 = .ok (.iadd, 1) := dk_96 (dk_at dksX4_answer_4 5 rfl rfl)
theorem dX4_answer_100 : decode cX4_answer 100 = .ok (.if_icmp .ge 7, 3) := dk_162 0 7 (dk_at dksX4_answer_4 6 rfl rfl)
theorem dX4_answer_103 : decode cX4_answer 103 = .ok (.iconst 1, 1) := dk_4 (dk_at dksX4_answer_4 9 rfl rfl)
theorem dX4_answer_104 : decode cX4_answer 104 = .ok (.goto 4, 3) := dk_167 0 4 (dk_at dksX4_answer_4 10 rfl rfl)
theorem dX4_answer_107 : decode cX4_answer 107 = .ok (.iconst 0, 1) := dk_3 (dk_at dksX4_answer_4 13 rfl rfl)
theorem dX4_answer_108 : decode cX4_answer 108 = .ok (.istore 6, 2) := dk_54 6 (dk_at dksX4_answer_4 14 rfl rfl)
theorem dX4_answer_110 : decode cX4_answer 110 = .ok (.aload_n 0, 1) := dk_42 (dk_at dksX4_answer_4 16 rfl rfl)
theorem dX4_answer_111 : decode cX4_answer 111 = .ok (.aload_n 1, 1) := dk_43 (dk_at dksX4_answer_4 17 rfl rfl)
theorem dX4_answer_112 : decode cX4_answer 112 = .ok (.invokevirtual 209, 3) := dk_182 0 209 (dk_at dksX4_answer_4 18 rfl rfl)
theorem dX4_answer_115 : decode cX4_answer 115 = .ok (.ifCond .eq 34, 3) := dk_153 0 34 (dk_at dksX4_answer_4 21 rfl rfl)
theorem dX4_answer_118 : decode cX4_answer 118 = .ok (.iload 4, 2) := dk_21 4 (dk_at dksX4_answer_5 0 rfl rfl)
theorem dX4_answer_120 : decode cX4_answer 120 = .ok (.ifCond .lt 23, 3) := dk_155 0 23 (dk_at dksX4_answer_5 2 rfl rfl)
theorem dX4_answer_123 : decode cX4_answer 123 = .ok (.aload_n 0, 1) := dk_42 (dk_at dksX4_answer_5 5 rfl rfl)
theorem dX4_answer_124 : decode cX4_answer 124 = .ok (.aload_n 1, 1) := dk_43 (dk_at dksX4_answer_5 6 rfl rfl)
theorem dX4_answer_125 : decode cX4_answer 125 = .ok (.invokevirtual 170, 3) := dk_182 0 170 (dk_at dksX4_answer_5 7 rfl rfl)
theorem dX4_answer_128 : decode cX4_answer 128 = .ok (.iload 4, 2) := dk_21 4 (dk_at dksX4_answer_5 10 rfl rfl)
theorem dX4_answer_130 : decode cX4_answer 130 = .ok (.iadd, 1) := dk_96 (dk_at dksX4_answer_5 12 rfl rfl)
theorem dX4_answer_131 : decode cX4_answer 131 = .ok (.aload_n 1, 1) := dk_43 (dk_at dksX4_answer_5 13 rfl rfl)
theorem dX4_answer_132 : decode cX4_answer 132 = .ok (.getfield 158, 3) := dk_180 0 158 (dk_at dksX4_answer_5 14 rfl rfl)
theorem dX4_answer_135 : decode cX4_answer 135 = .ok (.if_icmp .lt 8, 3) := dk_161 0 8 (dk_at dksX4_answer_5 17 rfl rfl)
theorem dX4_answer_138 : decode cX4_answer 138 = .ok (.iload 6, 2) := dk_21 6 (dk_at dksX4_answer_5 20 rfl rfl)
theorem dX4_answer_140 : decode cX4_answer 140 = .ok (.ifCond .eq 7, 3) := dk_153 0 7 (dk_at dksX4_answer_6 0 rfl rfl)
theorem dX4_answer_143 : decode cX4_answer 143 = .ok (.iconst 1, 1) := dk_4 (dk_at dksX4_answer_6 3 rfl rfl)
theorem dX4_answer_144 : decode cX4_answer 144 = .ok (.goto 4, 3) := dk_167 0 4 (dk_at dksX4_answer_6 4 rfl rfl)
theorem dX4_answer_147 : decode cX4_answer 147 = .ok (.iconst 3, 1) := dk_6 (dk_at dksX4_answer_6 7 rfl rfl)
theorem dX4_answer_148 : decode cX4_answer 148 = .ok (.ireturn, 1) := dk_172 (dk_at dksX4_answer_6 8 rfl rfl)
theorem dX4_answer_149 : decode cX4_answer 149 = .ok (.iload 6, 2) := dk_21 6 (dk_at dksX4_answer_6 9 rfl rfl)
theorem dX4_answer_151 : decode cX4_answer 151 = .ok (.ifCond .eq 7, 3) := dk_153 0 7 (dk_at dksX4_answer_6 11 rfl rfl)
theorem dX4_answer_154 : decode cX4_answer 154 = .ok (.iconst 2, 1) := dk_5 (dk_at dksX4_answer_6 14 rfl rfl)
theorem dX4_answer_155 : decode cX4_answer 155 = .ok (.goto 4, 3) := dk_167 0 4 (dk_at dksX4_answer_6 15 rfl rfl)
theorem dX4_answer_158 : decode cX4_answer 158 = .ok (.iconst 3, 1) := dk_6 (dk_at dksX4_answer_6 18 rfl rfl)
theorem dX4_answer_159 : decode cX4_answer 159 = .ok (.ireturn, 1) := dk_172 (dk_at dksX4_answer_6 19 rfl rfl)
abbrev cX4_has : ByteArray := prog_7_method_23_code
def yX4_has : MethodName := ⟨RX4, "has", "([IJJ)Z"⟩
def dkwX4_has_0 : List UInt8 := [42, 31, 33, 184, 0, 105, 184, 0, 113, 16, 254, 159, 0, 7, 4, 167, 0, 4, 3, 172]
abbrev dktX4_has_0 : List UInt8 := dkwX4_has_0 ++ []
theorem dksX4_has_0 : cX4_has.data.toList.drop 0 = dktX4_has_0 := by decide +kernel
theorem dX4_has_0 : decode cX4_has 0 = .ok (.aload_n 0, 1) := dk_42 (dk_at dksX4_has_0 0 rfl rfl)
theorem dX4_has_1 : decode cX4_has 1 = .ok (.lload_n 1, 1) := dk_31 (dk_at dksX4_has_0 1 rfl rfl)
theorem dX4_has_2 : decode cX4_has 2 = .ok (.lload_n 3, 1) := dk_33 (dk_at dksX4_has_0 2 rfl rfl)
theorem dX4_has_3 : decode cX4_has 3 = .ok (.invokestatic 105, 3) := dk_184 0 105 (dk_at dksX4_has_0 3 rfl rfl)
theorem dX4_has_6 : decode cX4_has 6 = .ok (.invokestatic 113, 3) := dk_184 0 113 (dk_at dksX4_has_0 6 rfl rfl)
theorem dX4_has_9 : decode cX4_has 9 = .ok (.bipush (-2), 2) := dk_16 254 (dk_at dksX4_has_0 9 rfl rfl)
theorem dX4_has_11 : decode cX4_has 11 = .ok (.if_icmp .eq 7, 3) := dk_159 0 7 (dk_at dksX4_has_0 11 rfl rfl)
theorem dX4_has_14 : decode cX4_has 14 = .ok (.iconst 1, 1) := dk_4 (dk_at dksX4_has_0 14 rfl rfl)
theorem dX4_has_15 : decode cX4_has 15 = .ok (.goto 4, 3) := dk_167 0 4 (dk_at dksX4_has_0 15 rfl rfl)
theorem dX4_has_18 : decode cX4_has 18 = .ok (.iconst 0, 1) := dk_3 (dk_at dksX4_has_0 18 rfl rfl)
theorem dX4_has_19 : decode cX4_has 19 = .ok (.ireturn, 1) := dk_172 (dk_at dksX4_has_0 19 rfl rfl)
abbrev cX4_word : ByteArray := prog_7_method_20_code
def yX4_word : MethodName := ⟨RX4, "word", "([I[I)I"⟩
def dkwX4_word_7 : List UInt8 := [184, 0, 95, 61, 132, 4, 1, 167, 255, 100, 28, 172]
abbrev dktX4_word_7 : List UInt8 := dkwX4_word_7 ++ []
def dkwX4_word_6 : List UInt8 := [21, 7, 153, 0, 25, 25, 5, 21, 6, 4, 96, 184, 0, 95, 155, 0, 13, 25, 5, 21, 6, 4, 96]
abbrev dktX4_word_6 : List UInt8 := dkwX4_word_6 ++ dktX4_word_7
def dkwX4_word_5 : List UInt8 := [132, 8, 1, 167, 255, 222, 21, 7, 153, 0, 16, 21, 6, 25, 5, 190, 160, 0, 8, 2, 61, 167, 0, 30]
abbrev dktX4_word_5 : List UInt8 := dkwX4_word_5 ++ dktX4_word_6
def dkwX4_word_4 : List UInt8 := [21, 7, 153, 0, 28, 25, 5, 21, 8, 46, 43, 21, 8, 46, 160, 0, 7, 4, 167, 0, 4, 3, 54, 7]
abbrev dktX4_word_4 : List UInt8 := dkwX4_word_4 ++ dktX4_word_5
def dkwX4_word_3 : List UInt8 := [184, 0, 50, 153, 0, 7, 4, 167, 0, 4, 3, 54, 7, 3, 54, 8, 21, 8, 21, 6, 162, 0, 33]
abbrev dktX4_word_3 : List UInt8 := dkwX4_word_3 ++ dktX4_word_4
def dkwX4_word_2 : List UInt8 := [46, 16, 61, 159, 0, 9, 132, 6, 1, 167, 255, 235, 21, 6, 43, 190, 160, 0, 18, 25, 5, 3, 21, 6]
abbrev dktX4_word_2 : List UInt8 := dkwX4_word_2 ++ dktX4_word_3
def dkwX4_word_1 : List UInt8 := [45, 21, 4, 50, 184, 0, 99, 58, 5, 3, 54, 6, 21, 6, 25, 5, 190, 162, 0, 19, 25, 5, 21, 6]
abbrev dktX4_word_1 : List UInt8 := dkwX4_word_1 ++ dktX4_word_2
def dkwX4_word_0 : List UInt8 := [16, 254, 61, 42, 199, 0, 5, 28, 172, 42, 184, 0, 83, 78, 3, 54, 4, 21, 4, 45, 190, 162, 0, 155]
abbrev dktX4_word_0 : List UInt8 := dkwX4_word_0 ++ dktX4_word_1
theorem dksX4_word_0 : cX4_word.data.toList.drop 0 = dktX4_word_0 := by decide +kernel
theorem dksX4_word_1 : cX4_word.data.toList.drop 24 = dktX4_word_1 := dk_seg dksX4_word_0 24 rfl rfl
theorem dksX4_word_2 : cX4_word.data.toList.drop 48 = dktX4_word_2 := dk_seg dksX4_word_1 24 rfl rfl
theorem dksX4_word_3 : cX4_word.data.toList.drop 72 = dktX4_word_3 := dk_seg dksX4_word_2 24 rfl rfl
theorem dksX4_word_4 : cX4_word.data.toList.drop 95 = dktX4_word_4 := dk_seg dksX4_word_3 23 rfl rfl
theorem dksX4_word_5 : cX4_word.data.toList.drop 119 = dktX4_word_5 := dk_seg dksX4_word_4 24 rfl rfl
theorem dksX4_word_6 : cX4_word.data.toList.drop 143 = dktX4_word_6 := dk_seg dksX4_word_5 24 rfl rfl
theorem dksX4_word_7 : cX4_word.data.toList.drop 166 = dktX4_word_7 := dk_seg dksX4_word_6 23 rfl rfl
theorem dX4_word_0 : decode cX4_word 0 = .ok (.bipush (-2), 2) := dk_16 254 (dk_at dksX4_word_0 0 rfl rfl)
theorem dX4_word_2 : decode cX4_word 2 = .ok (.istore_n 2, 1) := dk_61 (dk_at dksX4_word_0 2 rfl rfl)
theorem dX4_word_3 : decode cX4_word 3 = .ok (.aload_n 0, 1) := dk_42 (dk_at dksX4_word_0 3 rfl rfl)
theorem dX4_word_4 : decode cX4_word 4 = .ok (.ifnonnull 5, 3) := dk_199 0 5 (dk_at dksX4_word_0 4 rfl rfl)
theorem dX4_word_7 : decode cX4_word 7 = .ok (.iload_n 2, 1) := dk_28 (dk_at dksX4_word_0 7 rfl rfl)
theorem dX4_word_8 : decode cX4_word 8 = .ok (.ireturn, 1) := dk_172 (dk_at dksX4_word_0 8 rfl rfl)
theorem dX4_word_9 : decode cX4_word 9 = .ok (.aload_n 0, 1) := dk_42 (dk_at dksX4_word_0 9 rfl rfl)
theorem dX4_word_10 : decode cX4_word 10 = .ok (.invokestatic 83, 3) := dk_184 0 83 (dk_at dksX4_word_0 10 rfl rfl)
theorem dX4_word_13 : decode cX4_word 13 = .ok (.astore_n 3, 1) := dk_78 (dk_at dksX4_word_0 13 rfl rfl)
theorem dX4_word_14 : decode cX4_word 14 = .ok (.iconst 0, 1) := dk_3 (dk_at dksX4_word_0 14 rfl rfl)
theorem dX4_word_15 : decode cX4_word 15 = .ok (.istore 4, 2) := dk_54 4 (dk_at dksX4_word_0 15 rfl rfl)
theorem dX4_word_17 : decode cX4_word 17 = .ok (.iload 4, 2) := dk_21 4 (dk_at dksX4_word_0 17 rfl rfl)
theorem dX4_word_19 : decode cX4_word 19 = .ok (.aload_n 3, 1) := dk_45 (dk_at dksX4_word_0 19 rfl rfl)
theorem dX4_word_20 : decode cX4_word 20 = .ok (.arraylength, 1) := dk_190 (dk_at dksX4_word_0 20 rfl rfl)
theorem dX4_word_21 : decode cX4_word 21 = .ok (.if_icmp .ge 155, 3) := dk_162 0 155 (dk_at dksX4_word_0 21 rfl rfl)
theorem dX4_word_24 : decode cX4_word 24 = .ok (.aload_n 3, 1) := dk_45 (dk_at dksX4_word_1 0 rfl rfl)
theorem dX4_word_25 : decode cX4_word 25 = .ok (.iload 4, 2) := dk_21 4 (dk_at dksX4_word_1 1 rfl rfl)
theorem dX4_word_27 : decode cX4_word 27 = .ok (.aaload, 1) := dk_50 (dk_at dksX4_word_1 3 rfl rfl)
theorem dX4_word_28 : decode cX4_word 28 = .ok (.invokestatic 99, 3) := dk_184 0 99 (dk_at dksX4_word_1 4 rfl rfl)
theorem dX4_word_31 : decode cX4_word 31 = .ok (.astore 5, 2) := dk_58 5 (dk_at dksX4_word_1 7 rfl rfl)
theorem dX4_word_33 : decode cX4_word 33 = .ok (.iconst 0, 1) := dk_3 (dk_at dksX4_word_1 9 rfl rfl)
theorem dX4_word_34 : decode cX4_word 34 = .ok (.istore 6, 2) := dk_54 6 (dk_at dksX4_word_1 10 rfl rfl)
theorem dX4_word_36 : decode cX4_word 36 = .ok (.iload 6, 2) := dk_21 6 (dk_at dksX4_word_1 12 rfl rfl)
theorem dX4_word_38 : decode cX4_word 38 = .ok (.aload 5, 2) := dk_25 5 (dk_at dksX4_word_1 14 rfl rfl)
theorem dX4_word_40 : decode cX4_word 40 = .ok (.arraylength, 1) := dk_190 (dk_at dksX4_word_1 16 rfl rfl)
theorem dX4_word_41 : decode cX4_word 41 = .ok (.if_icmp .ge 19, 3) := dk_162 0 19 (dk_at dksX4_word_1 17 rfl rfl)
theorem dX4_word_44 : decode cX4_word 44 = .ok (.aload 5, 2) := dk_25 5 (dk_at dksX4_word_1 20 rfl rfl)
theorem dX4_word_46 : decode cX4_word 46 = .ok (.iload 6, 2) := dk_21 6 (dk_at dksX4_word_1 22 rfl rfl)
theorem dX4_word_48 : decode cX4_word 48 = .ok (.iaload, 1) := dk_46 (dk_at dksX4_word_2 0 rfl rfl)
theorem dX4_word_49 : decode cX4_word 49 = .ok (.bipush 61, 2) := dk_16 61 (dk_at dksX4_word_2 1 rfl rfl)
theorem dX4_word_51 : decode cX4_word 51 = .ok (.if_icmp .eq 9, 3) := dk_159 0 9 (dk_at dksX4_word_2 3 rfl rfl)
theorem dX4_word_54 : decode cX4_word 54 = .ok (.iinc 6 1, 3) := dk_132 6 1 (dk_at dksX4_word_2 6 rfl rfl)
theorem dX4_word_57 : decode cX4_word 57 = .ok (.goto (-21), 3) := dk_167 255 235 (dk_at dksX4_word_2 9 rfl rfl)
theorem dX4_word_60 : decode cX4_word 60 = .ok (.iload 6, 2) := dk_21 6 (dk_at dksX4_word_2 12 rfl rfl)
theorem dX4_word_62 : decode cX4_word 62 = .ok (.aload_n 1, 1) := dk_43 (dk_at dksX4_word_2 14 rfl rfl)
theorem dX4_word_63 : decode cX4_word 63 = .ok (.arraylength, 1) := dk_190 (dk_at dksX4_word_2 15 rfl rfl)
theorem dX4_word_64 : decode cX4_word 64 = .ok (.if_icmp .ne 18, 3) := dk_160 0 18 (dk_at dksX4_word_2 16 rfl rfl)
theorem dX4_word_67 : decode cX4_word 67 = .ok (.aload 5, 2) := dk_25 5 (dk_at dksX4_word_2 19 rfl rfl)
theorem dX4_word_69 : decode cX4_word 69 = .ok (.iconst 0, 1) := dk_3 (dk_at dksX4_word_2 21 rfl rfl)
theorem dX4_word_70 : decode cX4_word 70 = .ok (.iload 6, 2) := dk_21 6 (dk_at dksX4_word_2 22 rfl rfl)
theorem dX4_word_72 : decode cX4_word 72 = .ok (.invokestatic 50, 3) := dk_184 0 50 (dk_at dksX4_word_3 0 rfl rfl)
theorem dX4_word_75 : decode cX4_word 75 = .ok (.ifCond .eq 7, 3) := dk_153 0 7 (dk_at dksX4_word_3 3 rfl rfl)
theorem dX4_word_78 : decode cX4_word 78 = .ok (.iconst 1, 1) := dk_4 (dk_at dksX4_word_3 6 rfl rfl)
theorem dX4_word_79 : decode cX4_word 79 = .ok (.goto 4, 3) := dk_167 0 4 (dk_at dksX4_word_3 7 rfl rfl)
theorem dX4_word_82 : decode cX4_word 82 = .ok (.iconst 0, 1) := dk_3 (dk_at dksX4_word_3 10 rfl rfl)
theorem dX4_word_83 : decode cX4_word 83 = .ok (.istore 7, 2) := dk_54 7 (dk_at dksX4_word_3 11 rfl rfl)
theorem dX4_word_85 : decode cX4_word 85 = .ok (.iconst 0, 1) := dk_3 (dk_at dksX4_word_3 13 rfl rfl)
theorem dX4_word_86 : decode cX4_word 86 = .ok (.istore 8, 2) := dk_54 8 (dk_at dksX4_word_3 14 rfl rfl)
theorem dX4_word_88 : decode cX4_word 88 = .ok (.iload 8, 2) := dk_21 8 (dk_at dksX4_word_3 16 rfl rfl)
theorem dX4_word_90 : decode cX4_word 90 = .ok (.iload 6, 2) := dk_21 6 (dk_at dksX4_word_3 18 rfl rfl)
theorem dX4_word_92 : decode cX4_word 92 = .ok (.if_icmp .ge 33, 3) := dk_162 0 33 (dk_at dksX4_word_3 20 rfl rfl)
theorem dX4_word_95 : decode cX4_word 95 = .ok (.iload 7, 2) := dk_21 7 (dk_at dksX4_word_4 0 rfl rfl)
theorem dX4_word_97 : decode cX4_word 97 = .ok (.ifCond .eq 28, 3) := dk_153 0 28 (dk_at dksX4_word_4 2 rfl rfl)
theorem dX4_word_100 : decode cX4_word 100 = .ok (.aload 5, 2) := dk_25 5 (dk_at dksX4_word_4 5 rfl rfl)
theorem dX4_word_102 : decode cX4_word 102 = .ok (.iload 8, 2) := dk_21 8 (dk_at dksX4_word_4 7 rfl rfl)
theorem dX4_word_104 : decode cX4_word 104 = .ok (.iaload, 1) := dk_46 (dk_at dksX4_word_4 9 rfl rfl)
theorem dX4_word_105 : decode cX4_word 105 = .ok (.aload_n 1, 1) := dk_43 (dk_at dksX4_word_4 10 rfl rfl)
theorem dX4_word_106 : decode cX4_word 106 = .ok (.iload 8, 2) := dk_21 8 (dk_at dksX4_word_4 11 rfl rfl)
theorem dX4_word_108 : decode cX4_word 108 = .ok (.iaload, 1) := dk_46 (dk_at dksX4_word_4 13 rfl rfl)
theorem dX4_word_109 : decode cX4_word 109 = .ok (.if_icmp .ne 7, 3) := dk_160 0 7 (dk_at dksX4_word_4 14 rfl rfl)
theorem dX4_word_112 : decode cX4_word 112 = .ok (.iconst 1, 1) := dk_4 (dk_at dksX4_word_4 17 rfl rfl)
theorem dX4_word_113 : decode cX4_word 113 = .ok (.goto 4, 3) := dk_167 0 4 (dk_at dksX4_word_4 18 rfl rfl)
theorem dX4_word_116 : decode cX4_word 116 = .ok (.iconst 0, 1) := dk_3 (dk_at dksX4_word_4 21 rfl rfl)
theorem dX4_word_117 : decode cX4_word 117 = .ok (.istore 7, 2) := dk_54 7 (dk_at dksX4_word_4 22 rfl rfl)
theorem dX4_word_119 : decode cX4_word 119 = .ok (.iinc 8 1, 3) := dk_132 8 1 (dk_at dksX4_word_5 0 rfl rfl)
theorem dX4_word_122 : decode cX4_word 122 = .ok (.goto (-34), 3) := dk_167 255 222 (dk_at dksX4_word_5 3 rfl rfl)
theorem dX4_word_125 : decode cX4_word 125 = .ok (.iload 7, 2) := dk_21 7 (dk_at dksX4_word_5 6 rfl rfl)
theorem dX4_word_127 : decode cX4_word 127 = .ok (.ifCond .eq 16, 3) := dk_153 0 16 (dk_at dksX4_word_5 8 rfl rfl)
theorem dX4_word_130 : decode cX4_word 130 = .ok (.iload 6, 2) := dk_21 6 (dk_at dksX4_word_5 11 rfl rfl)
theorem dX4_word_132 : decode cX4_word 132 = .ok (.aload 5, 2) := dk_25 5 (dk_at dksX4_word_5 13 rfl rfl)
theorem dX4_word_134 : decode cX4_word 134 = .ok (.arraylength, 1) := dk_190 (dk_at dksX4_word_5 15 rfl rfl)
theorem dX4_word_135 : decode cX4_word 135 = .ok (.if_icmp .ne 8, 3) := dk_160 0 8 (dk_at dksX4_word_5 16 rfl rfl)
theorem dX4_word_138 : decode cX4_word 138 = .ok (.iconst (-1), 1) := dk_2 (dk_at dksX4_word_5 19 rfl rfl)
theorem dX4_word_139 : decode cX4_word 139 = .ok (.istore_n 2, 1) := dk_61 (dk_at dksX4_word_5 20 rfl rfl)
theorem dX4_word_140 : decode cX4_word 140 = .ok (.goto 30, 3) := dk_167 0 30 (dk_at dksX4_word_5 21 rfl rfl)
theorem dX4_word_143 : decode cX4_word 143 = .ok (.iload 7, 2) := dk_21 7 (dk_at dksX4_word_6 0 rfl rfl)
theorem dX4_word_145 : decode cX4_word 145 = .ok (.ifCond .eq 25, 3) := dk_153 0 25 (dk_at dksX4_word_6 2 rfl rfl)
theorem dX4_word_148 : decode cX4_word 148 = .ok (.aload 5, 2) := dk_25 5 (dk_at dksX4_word_6 5 rfl rfl)
theorem dX4_word_150 : decode cX4_word 150 = .ok (.iload 6, 2) := dk_21 6 (dk_at dksX4_word_6 7 rfl rfl)
theorem dX4_word_152 : decode cX4_word 152 = .ok (.iconst 1, 1) := dk_4 (dk_at dksX4_word_6 9 rfl rfl)
theorem dX4_word_153 : decode cX4_word 153 = .ok (.iadd, 1) := dk_96 (dk_at dksX4_word_6 10 rfl rfl)
theorem dX4_word_154 : decode cX4_word 154 = .ok (.invokestatic 95, 3) := dk_184 0 95 (dk_at dksX4_word_6 11 rfl rfl)
theorem dX4_word_157 : decode cX4_word 157 = .ok (.ifCond .lt 13, 3) := dk_155 0 13 (dk_at dksX4_word_6 14 rfl rfl)
theorem dX4_word_160 : decode cX4_word 160 = .ok (.aload 5, 2) := dk_25 5 (dk_at dksX4_word_6 17 rfl rfl)
theorem dX4_word_162 : decode cX4_word 162 = .ok (.iload 6, 2) := dk_21 6 (dk_at dksX4_word_6 19 rfl rfl)
theorem dX4_word_164 : decode cX4_word 164 = .ok (.iconst 1, 1) := dk_4 (dk_at dksX4_word_6 21 rfl rfl)
theorem dX4_word_165 : decode cX4_word 165 = .ok (.iadd, 1) := dk_96 (dk_at dksX4_word_6 22 rfl rfl)
theorem dX4_word_166 : decode cX4_word 166 = .ok (.invokestatic 95, 3) := dk_184 0 95 (dk_at dksX4_word_7 0 rfl rfl)
theorem dX4_word_169 : decode cX4_word 169 = .ok (.istore_n 2, 1) := dk_61 (dk_at dksX4_word_7 3 rfl rfl)
theorem dX4_word_170 : decode cX4_word 170 = .ok (.iinc 4 1, 3) := dk_132 4 1 (dk_at dksX4_word_7 4 rfl rfl)
theorem dX4_word_173 : decode cX4_word 173 = .ok (.goto (-156), 3) := dk_167 255 100 (dk_at dksX4_word_7 7 rfl rfl)
theorem dX4_word_176 : decode cX4_word 176 = .ok (.iload_n 2, 1) := dk_28 (dk_at dksX4_word_7 10 rfl rfl)
theorem dX4_word_177 : decode cX4_word 177 = .ok (.ireturn, 1) := dk_172 (dk_at dksX4_word_7 11 rfl rfl)
abbrev cX4_smallOf : ByteArray := prog_7_method_11_code
def yX4_smallOf : MethodName := ⟨RX4, "smallOf", "([I)[I"⟩
def dkwX4_smallOf_1 : List UInt8 := [132, 2, 1, 167, 255, 238, 43, 176]
abbrev dktX4_smallOf_1 : List UInt8 := dkwX4_smallOf_1 ++ []
def dkwX4_smallOf_0 : List UInt8 := [42, 190, 188, 10, 76, 3, 61, 28, 42, 190, 162, 0, 18, 43, 28, 42, 28, 46, 184, 0, 66, 79]
abbrev dktX4_smallOf_0 : List UInt8 := dkwX4_smallOf_0 ++ dktX4_smallOf_1
theorem dksX4_smallOf_0 : cX4_smallOf.data.toList.drop 0 = dktX4_smallOf_0 := by decide +kernel
theorem dksX4_smallOf_1 : cX4_smallOf.data.toList.drop 22 = dktX4_smallOf_1 := dk_seg dksX4_smallOf_0 22 rfl rfl
theorem dX4_smallOf_0 : decode cX4_smallOf 0 = .ok (.aload_n 0, 1) := dk_42 (dk_at dksX4_smallOf_0 0 rfl rfl)
theorem dX4_smallOf_1 : decode cX4_smallOf 1 = .ok (.arraylength, 1) := dk_190 (dk_at dksX4_smallOf_0 1 rfl rfl)
theorem dX4_smallOf_2 : decode cX4_smallOf 2 = .ok (.newarray .int, 2) := dk_188_10 (dk_at dksX4_smallOf_0 2 rfl rfl)
theorem dX4_smallOf_4 : decode cX4_smallOf 4 = .ok (.astore_n 1, 1) := dk_76 (dk_at dksX4_smallOf_0 4 rfl rfl)
theorem dX4_smallOf_5 : decode cX4_smallOf 5 = .ok (.iconst 0, 1) := dk_3 (dk_at dksX4_smallOf_0 5 rfl rfl)
theorem dX4_smallOf_6 : decode cX4_smallOf 6 = .ok (.istore_n 2, 1) := dk_61 (dk_at dksX4_smallOf_0 6 rfl rfl)
theorem dX4_smallOf_7 : decode cX4_smallOf 7 = .ok (.iload_n 2, 1) := dk_28 (dk_at dksX4_smallOf_0 7 rfl rfl)
theorem dX4_smallOf_8 : decode cX4_smallOf 8 = .ok (.aload_n 0, 1) := dk_42 (dk_at dksX4_smallOf_0 8 rfl rfl)
theorem dX4_smallOf_9 : decode cX4_smallOf 9 = .ok (.arraylength, 1) := dk_190 (dk_at dksX4_smallOf_0 9 rfl rfl)
theorem dX4_smallOf_10 : decode cX4_smallOf 10 = .ok (.if_icmp .ge 18, 3) := dk_162 0 18 (dk_at dksX4_smallOf_0 10 rfl rfl)
theorem dX4_smallOf_13 : decode cX4_smallOf 13 = .ok (.aload_n 1, 1) := dk_43 (dk_at dksX4_smallOf_0 13 rfl rfl)
theorem dX4_smallOf_14 : decode cX4_smallOf 14 = .ok (.iload_n 2, 1) := dk_28 (dk_at dksX4_smallOf_0 14 rfl rfl)
theorem dX4_smallOf_15 : decode cX4_smallOf 15 = .ok (.aload_n 0, 1) := dk_42 (dk_at dksX4_smallOf_0 15 rfl rfl)
theorem dX4_smallOf_16 : decode cX4_smallOf 16 = .ok (.iload_n 2, 1) := dk_28 (dk_at dksX4_smallOf_0 16 rfl rfl)
theorem dX4_smallOf_17 : decode cX4_smallOf 17 = .ok (.iaload, 1) := dk_46 (dk_at dksX4_smallOf_0 17 rfl rfl)
theorem dX4_smallOf_18 : decode cX4_smallOf 18 = .ok (.invokestatic 66, 3) := dk_184 0 66 (dk_at dksX4_smallOf_0 18 rfl rfl)
theorem dX4_smallOf_21 : decode cX4_smallOf 21 = .ok (.iastore, 1) := dk_79 (dk_at dksX4_smallOf_0 21 rfl rfl)
theorem dX4_smallOf_22 : decode cX4_smallOf 22 = .ok (.iinc 2 1, 3) := dk_132 2 1 (dk_at dksX4_smallOf_1 0 rfl rfl)
theorem dX4_smallOf_25 : decode cX4_smallOf 25 = .ok (.goto (-18), 3) := dk_167 255 238 (dk_at dksX4_smallOf_1 3 rfl rfl)
theorem dX4_smallOf_28 : decode cX4_smallOf 28 = .ok (.aload_n 1, 1) := dk_43 (dk_at dksX4_smallOf_1 6 rfl rfl)
theorem dX4_smallOf_29 : decode cX4_smallOf 29 = .ok (.areturn, 1) := dk_176 (dk_at dksX4_smallOf_1 7 rfl rfl)
abbrev cX4_numberOf : ByteArray := prog_7_method_18_code
def yX4_numberOf : MethodName := ⟨RX4, "numberOf", "([II)I"⟩
def dkwX4_numberOf_2 : List UInt8 := [21, 4, 46, 96, 16, 48, 100, 62, 132, 4, 1, 167, 255, 221, 29, 172]
abbrev dktX4_numberOf_2 : List UInt8 := dkwX4_numberOf_2 ++ []
def dkwX4_numberOf_1 : List UInt8 := [21, 4, 42, 190, 162, 0, 34, 42, 21, 4, 46, 184, 0, 40, 154, 0, 5, 2, 172, 16, 10, 29, 104, 42]
abbrev dktX4_numberOf_1 : List UInt8 := dkwX4_numberOf_1 ++ dktX4_numberOf_2
def dkwX4_numberOf_0 : List UInt8 := [42, 190, 27, 100, 61, 28, 4, 161, 0, 9, 28, 16, 6, 164, 0, 5, 2, 172, 3, 62, 27, 54, 4]
abbrev dktX4_numberOf_0 : List UInt8 := dkwX4_numberOf_0 ++ dktX4_numberOf_1
theorem dksX4_numberOf_0 : cX4_numberOf.data.toList.drop 0 = dktX4_numberOf_0 := by decide +kernel
theorem dksX4_numberOf_1 : cX4_numberOf.data.toList.drop 23 = dktX4_numberOf_1 := dk_seg dksX4_numberOf_0 23 rfl rfl
theorem dksX4_numberOf_2 : cX4_numberOf.data.toList.drop 47 = dktX4_numberOf_2 := dk_seg dksX4_numberOf_1 24 rfl rfl
theorem dX4_numberOf_0 : decode cX4_numberOf 0 = .ok (.aload_n 0, 1) := dk_42 (dk_at dksX4_numberOf_0 0 rfl rfl)
theorem dX4_numberOf_1 : decode cX4_numberOf 1 = .ok (.arraylength, 1) := dk_190 (dk_at dksX4_numberOf_0 1 rfl rfl)
theorem dX4_numberOf_2 : decode cX4_numberOf 2 = .ok (.iload_n 1, 1) := dk_27 (dk_at dksX4_numberOf_0 2 rfl rfl)
theorem dX4_numberOf_3 : decode cX4_numberOf 3 = .ok (.isub, 1) := dk_100 (dk_at dksX4_numberOf_0 3 rfl rfl)
theorem dX4_numberOf_4 : decode cX4_numberOf 4 = .ok (.istore_n 2, 1) := dk_61 (dk_at dksX4_numberOf_0 4 rfl rfl)
theorem dX4_numberOf_5 : decode cX4_numberOf 5 = .ok (.iload_n 2, 1) := dk_28 (dk_at dksX4_numberOf_0 5 rfl rfl)
theorem dX4_numberOf_6 : decode cX4_numberOf 6 = .ok (.iconst 1, 1) := dk_4 (dk_at dksX4_numberOf_0 6 rfl rfl)
theorem dX4_numberOf_7 : decode cX4_numberOf 7 = .ok (.if_icmp .lt 9, 3) := dk_161 0 9 (dk_at dksX4_numberOf_0 7 rfl rfl)
theorem dX4_numberOf_10 : decode cX4_numberOf 10 = .ok (.iload_n 2, 1) := dk_28 (dk_at dksX4_numberOf_0 10 rfl rfl)
theorem dX4_numberOf_11 : decode cX4_numberOf 11 = .ok (.bipush 6, 2) := dk_16 6 (dk_at dksX4_numberOf_0 11 rfl rfl)
theorem dX4_numberOf_13 : decode cX4_numberOf 13 = .ok (.if_icmp .le 5, 3) := dk_164 0 5 (dk_at dksX4_numberOf_0 13 rfl rfl)
theorem dX4_numberOf_16 : decode cX4_numberOf 16 = .ok (.iconst (-1), 1) := dk_2 (dk_at dksX4_numberOf_0 16 rfl rfl)
theorem dX4_numberOf_17 : decode cX4_numberOf 17 = .ok (.ireturn, 1) := dk_172 (dk_at dksX4_numberOf_0 17 rfl rfl)
theorem dX4_numberOf_18 : decode cX4_numberOf 18 = .ok (.iconst 0, 1) := dk_3 (dk_at dksX4_numberOf_0 18 rfl rfl)
theorem dX4_numberOf_19 : decode cX4_numberOf 19 = .ok (.istore_n 3, 1) := dk_62 (dk_at dksX4_numberOf_0 19 rfl rfl)
theorem dX4_numberOf_20 : decode cX4_numberOf 20 = .ok (.iload_n 1, 1) := dk_27 (dk_at dksX4_numberOf_0 20 rfl rfl)
theorem dX4_numberOf_21 : decode cX4_numberOf 21 = .ok (.istore 4, 2) := dk_54 4 (dk_at dksX4_numberOf_0 21 rfl rfl)
theorem dX4_numberOf_23 : decode cX4_numberOf 23 = .ok (.iload 4, 2) := dk_21 4 (dk_at dksX4_numberOf_1 0 rfl rfl)
theorem dX4_numberOf_25 : decode cX4_numberOf 25 = .ok (.aload_n 0, 1) := dk_42 (dk_at dksX4_numberOf_1 2 rfl rfl)
theorem dX4_numberOf_26 : decode cX4_numberOf 26 = .ok (.arraylength, 1) := dk_190 (dk_at dksX4_numberOf_1 3 rfl rfl)
theorem dX4_numberOf_27 : decode cX4_numberOf 27 = .ok (.if_icmp .ge 34, 3) := dk_162 0 34 (dk_at dksX4_numberOf_1 4 rfl rfl)
theorem dX4_numberOf_30 : decode cX4_numberOf 30 = .ok (.aload_n 0, 1) := dk_42 (dk_at dksX4_numberOf_1 7 rfl rfl)
theorem dX4_numberOf_31 : decode cX4_numberOf 31 = .ok (.iload 4, 2) := dk_21 4 (dk_at dksX4_numberOf_1 8 rfl rfl)
theorem dX4_numberOf_33 : decode cX4_numberOf 33 = .ok (.iaload, 1) := dk_46 (dk_at dksX4_numberOf_1 10 rfl rfl)
theorem dX4_numberOf_34 : decode cX4_numberOf 34 = .ok (.invokestatic 40, 3) := dk_184 0 40 (dk_at dksX4_numberOf_1 11 rfl rfl)
theorem dX4_numberOf_37 : decode cX4_numberOf 37 = .ok (.ifCond .ne 5, 3) := dk_154 0 5 (dk_at dksX4_numberOf_1 14 rfl rfl)
theorem dX4_numberOf_40 : decode cX4_numberOf 40 = .ok (.iconst (-1), 1) := dk_2 (dk_at dksX4_numberOf_1 17 rfl rfl)
theorem dX4_numberOf_41 : decode cX4_numberOf 41 = .ok (.ireturn, 1) := dk_172 (dk_at dksX4_numberOf_1 18 rfl rfl)
theorem dX4_numberOf_42 : decode cX4_numberOf 42 = .ok (.bipush 10, 2) := dk_16 10 (dk_at dksX4_numberOf_1 19 rfl rfl)
theorem dX4_numberOf_44 : decode cX4_numberOf 44 = .ok (.iload_n 3, 1) := dk_29 (dk_at dksX4_numberOf_1 21 rfl rfl)
theorem dX4_numberOf_45 : decode cX4_numberOf 45 = .ok (.imul, 1) := dk_104 (dk_at dksX4_numberOf_1 22 rfl rfl)
theorem dX4_numberOf_46 : decode cX4_numberOf 46 = .ok (.aload_n 0, 1) := dk_42 (dk_at dksX4_numberOf_1 23 rfl rfl)
theorem dX4_numberOf_47 : decode cX4_numberOf 47 = .ok (.iload 4, 2) := dk_21 4 (dk_at dksX4_numberOf_2 0 rfl rfl)
theorem dX4_numberOf_49 : decode cX4_numberOf 49 = .ok (.iaload, 1) := dk_46 (dk_at dksX4_numberOf_2 2 rfl rfl)
theorem dX4_numberOf_50 : decode cX4_numberOf 50 = .ok (.iadd, 1) := dk_96 (dk_at dksX4_numberOf_2 3 rfl rfl)
theorem dX4_numberOf_51 : decode cX4_numberOf 51 = .ok (.bipush 48, 2) := dk_16 48 (dk_at dksX4_numberOf_2 4 rfl rfl)
theorem dX4_numberOf_53 : decode cX4_numberOf 53 = .ok (.isub, 1) := dk_100 (dk_at dksX4_numberOf_2 6 rfl rfl)
theorem dX4_numberOf_54 : decode cX4_numberOf 54 = .ok (.istore_n 3, 1) := dk_62 (dk_at dksX4_numberOf_2 7 rfl rfl)
theorem dX4_numberOf_55 : decode cX4_numberOf 55 = .ok (.iinc 4 1, 3) := dk_132 4 1 (dk_at dksX4_numberOf_2 8 rfl rfl)
theorem dX4_numberOf_58 : decode cX4_numberOf 58 = .ok (.goto (-35), 3) := dk_167 255 221 (dk_at dksX4_numberOf_2 11 rfl rfl)
theorem dX4_numberOf_61 : decode cX4_numberOf 61 = .ok (.iload_n 3, 1) := dk_29 (dk_at dksX4_numberOf_2 14 rfl rfl)
theorem dX4_numberOf_62 : decode cX4_numberOf 62 = .ok (.ireturn, 1) := dk_172 (dk_at dksX4_numberOf_2 15 rfl rfl)
abbrev cX4_ageOf : ByteArray := prog_7_method_26_code
def yX4_ageOf : MethodName := ⟨RX4, "ageOf", "(LVaryStoreModel$Thing;)I"⟩
def dkwX4_ageOf_0 : List UInt8 := [43, 180, 0, 161, 42, 180, 0, 164, 96, 43, 180, 0, 167, 100, 172]
abbrev dktX4_ageOf_0 : List UInt8 := dkwX4_ageOf_0 ++ []
theorem dksX4_ageOf_0 : cX4_ageOf.data.toList.drop 0 = dktX4_ageOf_0 := by decide +kernel
theorem dX4_ageOf_0 : decode cX4_ageOf 0 = .ok (.aload_n 1, 1) := dk_43 (dk_at dksX4_ageOf_0 0 rfl rfl)
theorem dX4_ageOf_1 : decode cX4_ageOf 1 = .ok (.getfield 161, 3) := dk_180 0 161 (dk_at dksX4_ageOf_0 1 rfl rfl)
theorem dX4_ageOf_4 : decode cX4_ageOf 4 = .ok (.aload_n 0, 1) := dk_42 (dk_at dksX4_ageOf_0 4 rfl rfl)
theorem dX4_ageOf_5 : decode cX4_ageOf 5 = .ok (.getfield 164, 3) := dk_180 0 164 (dk_at dksX4_ageOf_0 5 rfl rfl)
theorem dX4_ageOf_8 : decode cX4_ageOf 8 = .ok (.iadd, 1) := dk_96 (dk_at dksX4_ageOf_0 8 rfl rfl)
theorem dX4_ageOf_9 : decode cX4_ageOf 9 = .ok (.aload_n 1, 1) := dk_43 (dk_at dksX4_ageOf_0 9 rfl rfl)
theorem dX4_ageOf_10 : decode cX4_ageOf 10 = .ok (.getfield 167, 3) := dk_180 0 167 (dk_at dksX4_ageOf_0 10 rfl rfl)
theorem dX4_ageOf_13 : decode cX4_ageOf 13 = .ok (.isub, 1) := dk_100 (dk_at dksX4_ageOf_0 13 rfl rfl)
theorem dX4_ageOf_14 : decode cX4_ageOf 14 = .ok (.ireturn, 1) := dk_172 (dk_at dksX4_ageOf_0 14 rfl rfl)
abbrev cX4_isFresh : ByteArray := prog_7_method_27_code
def yX4_isFresh : MethodName := ⟨RX4, "isFresh", "(LVaryStoreModel$Thing;)Z"⟩
def dkwX4_isFresh_1 : List UInt8 := [172]
abbrev dktX4_isFresh_1 : List UInt8 := dkwX4_isFresh_1 ++ []
def dkwX4_isFresh_0 : List UInt8 := [43, 180, 0, 133, 154, 0, 19, 42, 43, 182, 0, 170, 43, 180, 0, 158, 162, 0, 7, 4, 167, 0, 4, 3]
abbrev dktX4_isFresh_0 : List UInt8 := dkwX4_isFresh_0 ++ dktX4_isFresh_1
theorem dksX4_isFresh_0 : cX4_isFresh.data.toList.drop 0 = dktX4_isFresh_0 := by decide +kernel
theorem dksX4_isFresh_1 : cX4_isFresh.data.toList.drop 24 = dktX4_isFresh_1 := dk_seg dksX4_isFresh_0 24 rfl rfl
theorem dX4_isFresh_0 : decode cX4_isFresh 0 = .ok (.aload_n 1, 1) := dk_43 (dk_at dksX4_isFresh_0 0 rfl rfl)
theorem dX4_isFresh_1 : decode cX4_isFresh 1 = .ok (.getfield 133, 3) := dk_180 0 133 (dk_at dksX4_isFresh_0 1 rfl rfl)
theorem dX4_isFresh_4 : decode cX4_isFresh 4 = .ok (.ifCond .ne 19, 3) := dk_154 0 19 (dk_at dksX4_isFresh_0 4 rfl rfl)
theorem dX4_isFresh_7 : decode cX4_isFresh 7 = .ok (.aload_n 0, 1) := dk_42 (dk_at dksX4_isFresh_0 7 rfl rfl)
theorem dX4_isFresh_8 : decode cX4_isFresh 8 = .ok (.aload_n 1, 1) := dk_43 (dk_at dksX4_isFresh_0 8 rfl rfl)
theorem dX4_isFresh_9 : decode cX4_isFresh 9 = .ok (.invokevirtual 170, 3) := dk_182 0 170 (dk_at dksX4_isFresh_0 9 rfl rfl)
theorem dX4_isFresh_12 : decode cX4_isFresh 12 = .ok (.aload_n 1, 1) := dk_43 (dk_at dksX4_isFresh_0 12 rfl rfl)
theorem dX4_isFresh_13 : decode cX4_isFresh 13 = .ok (.getfield 158, 3) := dk_180 0 158 (dk_at dksX4_isFresh_0 13 rfl rfl)
theorem dX4_isFresh_16 : decode cX4_isFresh 16 = .ok (.if_icmp .ge 7, 3) := dk_162 0 7 (dk_at dksX4_isFresh_0 16 rfl rfl)
theorem dX4_isFresh_19 : decode cX4_isFresh 19 = .ok (.iconst 1, 1) := dk_4 (dk_at dksX4_isFresh_0 19 rfl rfl)
theorem dX4_isFresh_20 : decode cX4_isFresh 20 = .ok (.goto 4, 3) := dk_167 0 4 (dk_at dksX4_isFresh_0 20 rfl rfl)
theorem dX4_isFresh_23 : decode cX4_isFresh 23 = .ok (.iconst 0, 1) := dk_3 (dk_at dksX4_isFresh_0 23 rfl rfl)
theorem dX4_isFresh_24 : decode cX4_isFresh 24 = .ok (.ireturn, 1) := dk_172 (dk_at dksX4_isFresh_1 0 rfl rfl)
abbrev cX4_use : ByteArray := prog_7_method_28_code
def yX4_use : MethodName := ⟨RX4, "use", "(LVaryStoreModel$Thing;)V"⟩
def dkwX4_use_0 : List UInt8 := [42, 89, 180, 0, 174, 10, 97, 181, 0, 174, 43, 42, 180, 0, 174, 181, 0, 178, 177]
abbrev dktX4_use_0 : List UInt8 := dkwX4_use_0 ++ []
theorem dksX4_use_0 : cX4_use.data.toList.drop 0 = dktX4_use_0 := by decide +kernel
theorem dX4_use_0 : decode cX4_use 0 = .ok (.aload_n 0, 1) := dk_42 (dk_at dksX4_use_0 0 rfl rfl)
theorem dX4_use_1 : decode cX4_use 1 = .ok (.dup, 1) := dk_89 (dk_at dksX4_use_0 1 rfl rfl)
theorem dX4_use_2 : decode cX4_use 2 = .ok (.getfield 174, 3) := dk_180 0 174 (dk_at dksX4_use_0 2 rfl rfl)
theorem dX4_use_5 : decode cX4_use 5 = .ok (.lconst 1, 1) := dk_10 (dk_at dksX4_use_0 5 rfl rfl)
theorem dX4_use_6 : decode cX4_use 6 = .ok (.ladd, 1) := dk_97 (dk_at dksX4_use_0 6 rfl rfl)
theorem dX4_use_7 : decode cX4_use 7 = .ok (.putfield 174, 3) := dk_181 0 174 (dk_at dksX4_use_0 7 rfl rfl)
theorem dX4_use_10 : decode cX4_use 10 = .ok (.aload_n 1, 1) := dk_43 (dk_at dksX4_use_0 10 rfl rfl)
theorem dX4_use_11 : decode cX4_use 11 = .ok (.aload_n 0, 1) := dk_42 (dk_at dksX4_use_0 11 rfl rfl)
theorem dX4_use_12 : decode cX4_use 12 = .ok (.getfield 174, 3) := dk_180 0 174 (dk_at dksX4_use_0 12 rfl rfl)
theorem dX4_use_15 : decode cX4_use 15 = .ok (.putfield 178, 3) := dk_181 0 178 (dk_at dksX4_use_0 15 rfl rfl)
theorem dX4_use_18 : decode cX4_use 18 = .ok (.return_, 1) := dk_177 (dk_at dksX4_use_0 18 rfl rfl)
abbrev cX4_keep : ByteArray := prog_7_method_37_code
def yX4_keep : MethodName := ⟨RX4, "keep", "(I)Z"⟩
def dkwX4_keep_12 : List UInt8 := [42, 42, 182, 1, 14, 182, 1, 0, 4, 172]
abbrev dktX4_keep_12 : List UInt8 := dkwX4_keep_12 ++ []
def dkwX4_keep_11 : List UInt8 := [3, 54, 7, 21, 7, 154, 0, 5, 3, 172, 42, 45, 182, 1, 11, 42, 180, 0, 181, 16, 24, 164, 0, 11]
abbrev dktX4_keep_11 : List UInt8 := dkwX4_keep_11 ++ dktX4_keep_12
def dkwX4_keep_10 : List UInt8 := [184, 0, 129, 154, 0, 21, 45, 180, 0, 158, 157, 0, 10, 45, 180, 0, 242, 198, 0, 7, 4, 167, 0, 4]
abbrev dktX4_keep_10 : List UInt8 := dkwX4_keep_10 ++ dktX4_keep_11
def dkwX4_keep_9 : List UInt8 := [45, 180, 0, 191, 184, 1, 7, 154, 0, 41, 42, 180, 0, 22, 184, 0, 220, 184, 0, 91, 20, 1, 3, 9]
abbrev dktX4_keep_9 : List UInt8 := dkwX4_keep_9 ++ dktX4_keep_10
def dkwX4_keep_8 : List UInt8 := [25, 4, 20, 1, 3, 9, 184, 0, 129, 154, 0, 63, 25, 4, 20, 1, 5, 9, 184, 0, 129, 154, 0, 51]
abbrev dktX4_keep_8 : List UInt8 := dkwX4_keep_8 ++ dktX4_keep_9
def dkwX4_keep_7 : List UInt8 := [44, 182, 0, 249, 42, 45, 182, 0, 253, 54, 6, 21, 6, 2, 159, 0, 9, 42, 21, 6, 182, 1, 0]
abbrev dktX4_keep_7 : List UInt8 := dkwX4_keep_7 ++ dktX4_keep_8
def dkwX4_keep_6 : List UInt8 := [83, 132, 6, 1, 167, 255, 222, 45, 44, 184, 0, 238, 181, 0, 242, 42, 45, 25, 4, 182, 0, 245, 42, 45]
abbrev dktX4_keep_6 : List UInt8 := dkwX4_keep_6 ++ dktX4_keep_7
def dkwX4_keep_5 : List UInt8 := [190, 162, 0, 30, 45, 180, 0, 195, 21, 6, 42, 180, 0, 22, 45, 180, 0, 191, 21, 6, 50, 184, 0, 91]
abbrev dktX4_keep_5 : List UInt8 := dkwX4_keep_5 ++ dktX4_keep_6
def dkwX4_keep_4 : List UInt8 := [181, 0, 191, 45, 45, 180, 0, 191, 190, 189, 0, 78, 181, 0, 195, 3, 54, 6, 21, 6, 45, 180, 0, 191]
abbrev dktX4_keep_4 : List UInt8 := dkwX4_keep_4 ++ dktX4_keep_5
def dkwX4_keep_3 : List UInt8 := [58, 5, 45, 25, 5, 199, 0, 10, 3, 189, 0, 78, 167, 0, 11, 25, 5, 184, 0, 99, 184, 0, 83]
abbrev dktX4_keep_3 : List UInt8 := dkwX4_keep_3 ++ dktX4_keep_4
def dkwX4_keep_2 : List UInt8 := [181, 0, 188, 44, 184, 0, 220, 184, 0, 91, 58, 4, 44, 20, 0, 236, 9, 184, 0, 105, 184, 0, 91]
abbrev dktX4_keep_2 : List UInt8 := dkwX4_keep_2 ++ dktX4_keep_3
def dkwX4_keep_1 : List UInt8 := [181, 0, 32, 42, 180, 0, 32, 153, 0, 5, 3, 172, 187, 0, 26, 89, 183, 0, 235, 78, 45, 27]
abbrev dktX4_keep_1 : List UInt8 := dkwX4_keep_1 ++ dktX4_keep_2
def dkwX4_keep_0 : List UInt8 := [42, 182, 0, 213, 77, 42, 44, 198, 0, 10, 27, 184, 0, 217, 154, 0, 7, 4, 167, 0, 4, 3]
abbrev dktX4_keep_0 : List UInt8 := dkwX4_keep_0 ++ dktX4_keep_1
theorem dksX4_keep_0 : cX4_keep.data.toList.drop 0 = dktX4_keep_0 := by decide +kernel
theorem dksX4_keep_1 : cX4_keep.data.toList.drop 22 = dktX4_keep_1 := dk_seg dksX4_keep_0 22 rfl rfl
theorem dksX4_keep_2 : cX4_keep.data.toList.drop 44 = dktX4_keep_2 := dk_seg dksX4_keep_1 22 rfl rfl
theorem dksX4_keep_3 : cX4_keep.data.toList.drop 67 = dktX4_keep_3 := dk_seg dksX4_keep_2 23 rfl rfl
theorem dksX4_keep_4 : cX4_keep.data.toList.drop 90 = dktX4_keep_4 := dk_seg dksX4_keep_3 23 rfl rfl
theorem dksX4_keep_5 : cX4_keep.data.toList.drop 114 = dktX4_keep_5 := dk_seg dksX4_keep_4 24 rfl rfl
theorem dksX4_keep_6 : cX4_keep.data.toList.drop 138 = dktX4_keep_6 := dk_seg dksX4_keep_5 24 rfl rfl
theorem dksX4_keep_7 : cX4_keep.data.toList.drop 162 = dktX4_keep_7 := dk_seg dksX4_keep_6 24 rfl rfl
theorem dksX4_keep_8 : cX4_keep.data.toList.drop 185 = dktX4_keep_8 := dk_seg dksX4_keep_7 23 rfl rfl
theorem dksX4_keep_9 : cX4_keep.data.toList.drop 209 = dktX4_keep_9 := dk_seg dksX4_keep_8 24 rfl rfl
theorem dksX4_keep_10 : cX4_keep.data.toList.drop 233 = dktX4_keep_10 := dk_seg dksX4_keep_9 24 rfl rfl
theorem dksX4_keep_11 : cX4_keep.data.toList.drop 257 = dktX4_keep_11 := dk_seg dksX4_keep_10 24 rfl rfl
theorem dksX4_keep_12 : cX4_keep.data.toList.drop 281 = dktX4_keep_12 := dk_seg dksX4_keep_11 24 rfl rfl
theorem dX4_keep_0 : decode cX4_keep 0 = .ok (.aload_n 0, 1) := dk_42 (dk_at dksX4_keep_0 0 rfl rfl)
theorem dX4_keep_1 : decode cX4_keep 1 = .ok (.invokevirtual 213, 3) := dk_182 0 213 (dk_at dksX4_keep_0 1 rfl rfl)
theorem dX4_keep_4 : decode cX4_keep 4 = .ok (.astore_n 2, 1) := dk_77 (dk_at dksX4_keep_0 4 rfl rfl)
theorem dX4_keep_5 : decode cX4_keep 5 = .ok (.aload_n 0, 1) := dk_42 (dk_at dksX4_keep_0 5 rfl rfl)
theorem dX4_keep_6 : decode cX4_keep 6 = .ok (.aload_n 2, 1) := dk_44 (dk_at dksX4_keep_0 6 rfl rfl)
theorem dX4_keep_7 : decode cX4_keep 7 = .ok (.ifnull 10, 3) := dk_198 0 10 (dk_at dksX4_keep_0 7 rfl rfl)
theorem dX4_keep_10 : decode cX4_keep 10 = .ok (.iload_n 1, 1) := dk_27 (dk_at dksX4_keep_0 10 rfl rfl)
theorem dX4_keep_11 : decode cX4_keep 11 = .ok (.invokestatic 217, 3) := dk_184 0 217 (dk_at dksX4_keep_0 11 rfl rfl)
theorem dX4_keep_14 : decode cX4_keep 14 = .ok (.ifCond .ne 7, 3) := dk_154 0 7 (dk_at dksX4_keep_0 14 rfl rfl)
theorem dX4_keep_17 : decode cX4_keep 17 = .ok (.iconst 1, 1) := dk_4 (dk_at dksX4_keep_0 17 rfl rfl)
theorem dX4_keep_18 : decode cX4_keep 18 = .ok (.goto 4, 3) := dk_167 0 4 (dk_at dksX4_keep_0 18 rfl rfl)
theorem dX4_keep_21 : decode cX4_keep 21 = .ok (.iconst 0, 1) := dk_3 (dk_at dksX4_keep_0 21 rfl rfl)
theorem dX4_keep_22 : decode cX4_keep 22 = .ok (.putfield 32, 3) := dk_181 0 32 (dk_at dksX4_keep_1 0 rfl rfl)
theorem dX4_keep_25 : decode cX4_keep 25 = .ok (.aload_n 0, 1) := dk_42 (dk_at dksX4_keep_1 3 rfl rfl)
theorem dX4_keep_26 : decode cX4_keep 26 = .ok (.getfield 32, 3) := dk_180 0 32 (dk_at dksX4_keep_1 4 rfl rfl)
theorem dX4_keep_29 : decode cX4_keep 29 = .ok (.ifCond .eq 5, 3) := dk_153 0 5 (dk_at dksX4_keep_1 7 rfl rfl)
theorem dX4_keep_32 : decode cX4_keep 32 = .ok (.iconst 0, 1) := dk_3 (dk_at dksX4_keep_1 10 rfl rfl)
theorem dX4_keep_33 : decode cX4_keep 33 = .ok (.ireturn, 1) := dk_172 (dk_at dksX4_keep_1 11 rfl rfl)
theorem dX4_keep_34 : decode cX4_keep 34 = .ok (.new 26, 3) := dk_187 0 26 (dk_at dksX4_keep_1 12 rfl rfl)
theorem dX4_keep_37 : decode cX4_keep 37 = .ok (.dup, 1) := dk_89 (dk_at dksX4_keep_1 15 rfl rfl)
theorem dX4_keep_38 : decode cX4_keep 38 = .ok (.invokespecial 235, 3) := dk_183 0 235 (dk_at dksX4_keep_1 16 rfl rfl)
theorem dX4_keep_41 : decode cX4_keep 41 = .ok (.astore_n 3, 1) := dk_78 (dk_at dksX4_keep_1 19 rfl rfl)
theorem dX4_keep_42 : decode cX4_keep 42 = .ok (.aload_n 3, 1) := dk_45 (dk_at dksX4_keep_1 20 rfl rfl)
theorem dX4_keep_43 : decode cX4_keep 43 = .ok (.iload_n 1, 1) := dk_27 (dk_at dksX4_keep_1 21 rfl rfl)
theorem dX4_keep_44 : decode cX4_keep 44 = .ok (.putfield 188, 3) := dk_181 0 188 (dk_at dksX4_keep_2 0 rfl rfl)
theorem dX4_keep_47 : decode cX4_keep 47 = .ok (.aload_n 2, 1) := dk_44 (dk_at dksX4_keep_2 3 rfl rfl)
theorem dX4_keep_48 : decode cX4_keep 48 = .ok (.invokestatic 220, 3) := dk_184 0 220 (dk_at dksX4_keep_2 4 rfl rfl)
theorem dX4_keep_51 : decode cX4_keep 51 = .ok (.invokestatic 91, 3) := dk_184 0 91 (dk_at dksX4_keep_2 7 rfl rfl)
theorem dX4_keep_54 : decode cX4_keep 54 = .ok (.astore 4, 2) := dk_58 4 (dk_at dksX4_keep_2 10 rfl rfl)
theorem dX4_keep_56 : decode cX4_keep 56 = .ok (.aload_n 2, 1) := dk_44 (dk_at dksX4_keep_2 12 rfl rfl)
theorem dX4_keep_57 : decode cX4_keep 57 = .ok (.ldc2_w 236, 3) := dk_20 0 236 (dk_at dksX4_keep_2 13 rfl rfl)
theorem dX4_keep_60 : decode cX4_keep 60 = .ok (.lconst 0, 1) := dk_9 (dk_at dksX4_keep_2 16 rfl rfl)
theorem dX4_keep_61 : decode cX4_keep 61 = .ok (.invokestatic 105, 3) := dk_184 0 105 (dk_at dksX4_keep_2 17 rfl rfl)
theorem dX4_keep_64 : decode cX4_keep 64 = .ok (.invokestatic 91, 3) := dk_184 0 91 (dk_at dksX4_keep_2 20 rfl rfl)
theorem dX4_keep_67 : decode cX4_keep 67 = .ok (.astore 5, 2) := dk_58 5 (dk_at dksX4_keep_3 0 rfl rfl)
theorem dX4_keep_69 : decode cX4_keep 69 = .ok (.aload_n 3, 1) := dk_45 (dk_at dksX4_keep_3 2 rfl rfl)
theorem dX4_keep_70 : decode cX4_keep 70 = .ok (.aload 5, 2) := dk_25 5 (dk_at dksX4_keep_3 3 rfl rfl)
theorem dX4_keep_72 : decode cX4_keep 72 = .ok (.ifnonnull 10, 3) := dk_199 0 10 (dk_at dksX4_keep_3 5 rfl rfl)
theorem dX4_keep_75 : decode cX4_keep 75 = .ok (.iconst 0, 1) := dk_3 (dk_at dksX4_keep_3 8 rfl rfl)
theorem dX4_keep_76 : decode cX4_keep 76 = .ok (.anewarray 78, 3) := dk_189 0 78 (dk_at dksX4_keep_3 9 rfl rfl)
theorem dX4_keep_79 : decode cX4_keep 79 = .ok (.goto 11, 3) := dk_167 0 11 (dk_at dksX4_keep_3 12 rfl rfl)
theorem dX4_keep_82 : decode cX4_keep 82 = .ok (.aload 5, 2) := dk_25 5 (dk_at dksX4_keep_3 15 rfl rfl)
theorem dX4_keep_84 : decode cX4_keep 84 = .ok (.invokestatic 99, 3) := dk_184 0 99 (dk_at dksX4_keep_3 17 rfl rfl)
theorem dX4_keep_87 : decode cX4_keep 87 = .ok (.invokestatic 83, 3) := dk_184 0 83 (dk_at dksX4_keep_3 20 rfl rfl)
theorem dX4_keep_90 : decode cX4_keep 90 = .ok (.putfield 191, 3) := dk_181 0 191 (dk_at dksX4_keep_4 0 rfl rfl)
theorem dX4_keep_93 : decode cX4_keep 93 = .ok (.aload_n 3, 1) := dk_45 (dk_at dksX4_keep_4 3 rfl rfl)
theorem dX4_keep_94 : decode cX4_keep 94 = .ok (.aload_n 3, 1) := dk_45 (dk_at dksX4_keep_4 4 rfl rfl)
theorem dX4_keep_95 : decode cX4_keep 95 = .ok (.getfield 191, 3) := dk_180 0 191 (dk_at dksX4_keep_4 5 rfl rfl)
theorem dX4_keep_98 : decode cX4_keep 98 = .ok (.arraylength, 1) := dk_190 (dk_at dksX4_keep_4 8 rfl rfl)
theorem dX4_keep_99 : decode cX4_keep 99 = .ok (.anewarray 78, 3) := dk_189 0 78 (dk_at dksX4_keep_4 9 rfl rfl)
theorem dX4_keep_102 : decode cX4_keep 102 = .ok (.putfield 195, 3) := dk_181 0 195 (dk_at dksX4_keep_4 12 rfl rfl)
theorem dX4_keep_105 : decode cX4_keep 105 = .ok (.iconst 0, 1) := dk_3 (dk_at dksX4_keep_4 15 rfl rfl)
theorem dX4_keep_106 : decode cX4_keep 106 = .ok (.istore 6, 2) := dk_54 6 (dk_at dksX4_keep_4 16 rfl rfl)
theorem dX4_keep_108 : decode cX4_keep 108 = .ok (.iload 6, 2) := dk_21 6 (dk_at dksX4_keep_4 18 rfl rfl)
theorem dX4_keep_110 : decode cX4_keep 110 = .ok (.aload_n 3, 1) := dk_45 (dk_at dksX4_keep_4 20 rfl rfl)
theorem dX4_keep_111 : decode cX4_keep 111 = .ok (.getfield 191, 3) := dk_180 0 191 (dk_at dksX4_keep_4 21 rfl rfl)
theorem dX4_keep_114 : decode cX4_keep 114 = .ok (.arraylength, 1) := dk_190 (dk_at dksX4_keep_5 0 rfl rfl)
theorem dX4_keep_115 : decode cX4_keep 115 = .ok (.if_icmp .ge 30, 3) := dk_162 0 30 (dk_at dksX4_keep_5 1 rfl rfl)
theorem dX4_keep_118 : decode cX4_keep 118 = .ok (.aload_n 3, 1) := dk_45 (dk_at dksX4_keep_5 4 rfl rfl)
theorem dX4_keep_119 : decode cX4_keep 119 = .ok (.getfield 195, 3) := dk_180 0 195 (dk_at dksX4_keep_5 5 rfl rfl)
theorem dX4_keep_122 : decode cX4_keep 122 = .ok (.iload 6, 2) := dk_21 6 (dk_at dksX4_keep_5 8 rfl rfl)
theorem dX4_keep_124 : decode cX4_keep 124 = .ok (.aload_n 0, 1) := dk_42 (dk_at dksX4_keep_5 10 rfl rfl)
theorem dX4_keep_125 : decode cX4_keep 125 = .ok (.getfield 22, 3) := dk_180 0 22 (dk_at dksX4_keep_5 11 rfl rfl)
theorem dX4_keep_128 : decode cX4_keep 128 = .ok (.aload_n 3, 1) := dk_45 (dk_at dksX4_keep_5 14 rfl rfl)
theorem dX4_keep_129 : decode cX4_keep 129 = .ok (.getfield 191, 3) := dk_180 0 191 (dk_at dksX4_keep_5 15 rfl rfl)
theorem dX4_keep_132 : decode cX4_keep 132 = .ok (.iload 6, 2) := dk_21 6 (dk_at dksX4_keep_5 18 rfl rfl)
theorem dX4_keep_134 : decode cX4_keep 134 = .ok (.aaload, 1) := dk_50 (dk_at dksX4_keep_5 20 rfl rfl)
theorem dX4_keep_135 : decode cX4_keep 135 = .ok (.invokestatic 91, 3) := dk_184 0 91 (dk_at dksX4_keep_5 21 rfl rfl)
theorem dX4_keep_138 : decode cX4_keep 138 = .ok (.aastore, 1) := dk_83 (dk_at dksX4_keep_6 0 rfl rfl)
theorem dX4_keep_139 : decode cX4_keep 139 = .ok (.iinc 6 1, 3) := dk_132 6 1 (dk_at dksX4_keep_6 1 rfl rfl)
theorem dX4_keep_142 : decode cX4_keep 142 = .ok (.goto (-34), 3) := dk_167 255 222 (dk_at dksX4_keep_6 4 rfl rfl)
theorem dX4_keep_145 : decode cX4_keep 145 = .ok (.aload_n 3, 1) := dk_45 (dk_at dksX4_keep_6 7 rfl rfl)
theorem dX4_keep_146 : decode cX4_keep 146 = .ok (.aload_n 2, 1) := dk_44 (dk_at dksX4_keep_6 8 rfl rfl)
theorem dX4_keep_147 : decode cX4_keep 147 = .ok (.invokestatic 238, 3) := dk_184 0 238 (dk_at dksX4_keep_6 9 rfl rfl)
theorem dX4_keep_150 : decode cX4_keep 150 = .ok (.putfield 242, 3) := dk_181 0 242 (dk_at dksX4_keep_6 12 rfl rfl)
theorem dX4_keep_153 : decode cX4_keep 153 = .ok (.aload_n 0, 1) := dk_42 (dk_at dksX4_keep_6 15 rfl rfl)
theorem dX4_keep_154 : decode cX4_keep 154 = .ok (.aload_n 3, 1) := dk_45 (dk_at dksX4_keep_6 16 rfl rfl)
theorem dX4_keep_155 : decode cX4_keep 155 = .ok (.aload 4, 2) := dk_25 4 (dk_at dksX4_keep_6 17 rfl rfl)
theorem dX4_keep_157 : decode cX4_keep 157 = .ok (.invokevirtual 245, 3) := dk_182 0 245 (dk_at dksX4_keep_6 19 rfl rfl)
theorem dX4_keep_160 : decode cX4_keep 160 = .ok (.aload_n 0, 1) := dk_42 (dk_at dksX4_keep_6 22 rfl rfl)
theorem dX4_keep_161 : decode cX4_keep 161 = .ok (.aload_n 3, 1) := dk_45 (dk_at dksX4_keep_6 23 rfl rfl)
theorem dX4_keep_162 : decode cX4_keep 162 = .ok (.aload_n 2, 1) := dk_44 (dk_at dksX4_keep_7 0 rfl rfl)
theorem dX4_keep_163 : decode cX4_keep 163 = .ok (.invokevirtual 249, 3) := dk_182 0 249 (dk_at dksX4_keep_7 1 rfl rfl)
theorem dX4_keep_166 : decode cX4_keep 166 = .ok (.aload_n 0, 1) := dk_42 (dk_at dksX4_keep_7 4 rfl rfl)
theorem dX4_keep_167 : decode cX4_keep 167 = .ok (.aload_n 3, 1) := dk_45 (dk_at dksX4_keep_7 5 rfl rfl)
theorem dX4_keep_168 : decode cX4_keep 168 = .ok (.invokevirtual 253, 3) := dk_182 0 253 (dk_at dksX4_keep_7 6 rfl rfl)
theorem dX4_keep_171 : decode cX4_keep 171 = .ok (.istore 6, 2) := dk_54 6 (dk_at dksX4_keep_7 9 rfl rfl)
theorem dX4_keep_173 : decode cX4_keep 173 = .ok (.iload 6, 2) := dk_21 6 (dk_at dksX4_keep_7 11 rfl rfl)
theorem dX4_keep_175 : decode cX4_keep 175 = .ok (.iconst (-1), 1) := dk_2 (dk_at dksX4_keep_7 13 rfl rfl)
theorem dX4_keep_176 : decode cX4_keep 176 = .ok (.if_icmp .eq 9, 3) := dk_159 0 9 (dk_at dksX4_keep_7 14 rfl rfl)
theorem dX4_keep_179 : decode cX4_keep 179 = .ok (.aload_n 0, 1) := dk_42 (dk_at dksX4_keep_7 17 rfl rfl)
theorem dX4_keep_180 : decode cX4_keep 180 = .ok (.iload 6, 2) := dk_21 6 (dk_at dksX4_keep_7 18 rfl rfl)
theorem dX4_keep_182 : decode cX4_keep 182 = .ok (.invokevirtual 256, 3) := dk_182 1 0 (dk_at dksX4_keep_7 20 rfl rfl)
theorem dX4_keep_185 : decode cX4_keep 185 = .ok (.aload 4, 2) := dk_25 4 (dk_at dksX4_keep_8 0 rfl rfl)
theorem dX4_keep_187 : decode cX4_keep 187 = .ok (.ldc2_w 259, 3) := dk_20 1 3 (dk_at dksX4_keep_8 2 rfl rfl)
theorem dX4_keep_190 : decode cX4_keep 190 = .ok (.lconst 0, 1) := dk_9 (dk_at dksX4_keep_8 5 rfl rfl)
theorem dX4_keep_191 : decode cX4_keep 191 = .ok (.invokestatic 129, 3) := dk_184 0 129 (dk_at dksX4_keep_8 6 rfl rfl)
theorem dX4_keep_194 : decode cX4_keep 194 = .ok (.ifCond .ne 63, 3) := dk_154 0 63 (dk_at dksX4_keep_8 9 rfl rfl)
theorem dX4_keep_197 : decode cX4_keep 197 = .ok (.aload 4, 2) := dk_25 4 (dk_at dksX4_keep_8 12 rfl rfl)
theorem dX4_keep_199 : decode cX4_keep 199 = .ok (.ldc2_w 261, 3) := dk_20 1 5 (dk_at dksX4_keep_8 14 rfl rfl)
theorem dX4_keep_202 : decode cX4_keep 202 = .ok (.lconst 0, 1) := dk_9 (dk_at dksX4_keep_8 17 rfl rfl)
theorem dX4_keep_203 : decode cX4_keep 203 = .ok (.invokestatic 129, 3) := dk_184 0 129 (dk_at dksX4_keep_8 18 rfl rfl)
theorem dX4_keep_206 : decode cX4_keep 206 = .ok (.ifCond .ne 51, 3) := dk_154 0 51 (dk_at dksX4_keep_8 21 rfl rfl)
theorem dX4_keep_209 : decode cX4_keep 209 = .ok (.aload_n 3, 1) := dk_45 (dk_at dksX4_keep_9 0 rfl rfl)
theorem dX4_keep_210 : decode cX4_keep 210 = .ok (.getfield 191, 3) := dk_180 0 191 (dk_at dksX4_keep_9 1 rfl rfl)
theorem dX4_keep_213 : decode cX4_keep 213 = .ok (.invokestatic 263, 3) := dk_184 1 7 (dk_at dksX4_keep_9 4 rfl rfl)
theorem dX4_keep_216 : decode cX4_keep 216 = .ok (.ifCond .ne 41, 3) := dk_154 0 41 (dk_at dksX4_keep_9 7 rfl rfl)
theorem dX4_keep_219 : decode cX4_keep 219 = .ok (.aload_n 0, 1) := dk_42 (dk_at dksX4_keep_9 10 rfl rfl)
theorem dX4_keep_220 : decode cX4_keep 220 = .ok (.getfield 22, 3) := dk_180 0 22 (dk_at dksX4_keep_9 11 rfl rfl)
theorem dX4_keep_223 : decode cX4_keep 223 = .ok (.invokestatic 220, 3) := dk_184 0 220 (dk_at dksX4_keep_9 14 rfl rfl)
theorem dX4_keep_226 : decode cX4_keep 226 = .ok (.invokestatic 91, 3) := dk_184 0 91 (dk_at dksX4_keep_9 17 rfl rfl)
theorem dX4_keep_229 : decode cX4_keep 229 = .ok (.ldc2_w 259, 3) := dk_20 1 3 (dk_at dksX4_keep_9 20 rfl rfl)
theorem dX4_keep_232 : decode cX4_keep 232 = .ok (.lconst 0, 1) := dk_9 (dk_at dksX4_keep_9 23 rfl rfl)
theorem dX4_keep_233 : decode cX4_keep 233 = .ok (.invokestatic 129, 3) := dk_184 0 129 (dk_at dksX4_keep_10 0 rfl rfl)
theorem dX4_keep_236 : decode cX4_keep 236 = .ok (.ifCond .ne 21, 3) := dk_154 0 21 (dk_at dksX4_keep_10 3 rfl rfl)
theorem dX4_keep_239 : decode cX4_keep 239 = .ok (.aload_n 3, 1) := dk_45 (dk_at dksX4_keep_10 6 rfl rfl)
theorem dX4_keep_240 : decode cX4_keep 240 = .ok (.getfield 158, 3) := dk_180 0 158 (dk_at dksX4_keep_10 7 rfl rfl)
theorem dX4_keep_243 : decode cX4_keep 243 = .ok (.ifCond .gt 10, 3) := dk_157 0 10 (dk_at dksX4_keep_10 10 rfl rfl)
theorem dX4_keep_246 : decode cX4_keep 246 = .ok (.aload_n 3, 1) := dk_45 (dk_at dksX4_keep_10 13 rfl rfl)
theorem dX4_keep_247 : decode cX4_keep 247 = .ok (.getfield 242, 3) := dk_180 0 242 (dk_at dksX4_keep_10 14 rfl rfl)
theorem dX4_keep_250 : decode cX4_keep 250 = .ok (.ifnull 7, 3) := dk_198 0 7 (dk_at dksX4_keep_10 17 rfl rfl)
theorem dX4_keep_253 : decode cX4_keep 253 = .ok (.iconst 1, 1) := dk_4 (dk_at dksX4_keep_10 20 rfl rfl)
theorem dX4_keep_254 : decode cX4_keep 254 = .ok (.goto 4, 3) := dk_167 0 4 (dk_at dksX4_keep_10 21 rfl rfl)
theorem dX4_keep_257 : decode cX4_keep 257 = .ok (.iconst 0, 1) := dk_3 (dk_at dksX4_keep_11 0 rfl rfl)
theorem dX4_keep_258 : decode cX4_keep 258 = .ok (.istore 7, 2) := dk_54 7 (dk_at dksX4_keep_11 1 rfl rfl)
theorem dX4_keep_260 : decode cX4_keep 260 = .ok (.iload 7, 2) := dk_21 7 (dk_at dksX4_keep_11 3 rfl rfl)
theorem dX4_keep_262 : decode cX4_keep 262 = .ok (.ifCond .ne 5, 3) := dk_154 0 5 (dk_at dksX4_keep_11 5 rfl rfl)
theorem dX4_keep_265 : decode cX4_keep 265 = .ok (.iconst 0, 1) := dk_3 (dk_at dksX4_keep_11 8 rfl rfl)
theorem dX4_keep_266 : decode cX4_keep 266 = .ok (.ireturn, 1) := dk_172 (dk_at dksX4_keep_11 9 rfl rfl)
theorem dX4_keep_267 : decode cX4_keep 267 = .ok (.aload_n 0, 1) := dk_42 (dk_at dksX4_keep_11 10 rfl rfl)
theorem dX4_keep_268 : decode cX4_keep 268 = .ok (.aload_n 3, 1) := dk_45 (dk_at dksX4_keep_11 11 rfl rfl)
theorem dX4_keep_269 : decode cX4_keep 269 = .ok (.invokevirtual 267, 3) := dk_182 1 11 (dk_at dksX4_keep_11 12 rfl rfl)
theorem dX4_keep_272 : decode cX4_keep 272 = .ok (.aload_n 0, 1) := dk_42 (dk_at dksX4_keep_11 15 rfl rfl)
theorem dX4_keep_273 : decode cX4_keep 273 = .ok (.getfield 181, 3) := dk_180 0 181 (dk_at dksX4_keep_11 16 rfl rfl)
theorem dX4_keep_276 : decode cX4_keep 276 = .ok (.bipush 24, 2) := dk_16 24 (dk_at dksX4_keep_11 19 rfl rfl)
theorem dX4_keep_278 : decode cX4_keep 278 = .ok (.if_icmp .le 11, 3) := dk_164 0 11 (dk_at dksX4_keep_11 21 rfl rfl)
theorem dX4_keep_281 : decode cX4_keep 281 = .ok (.aload_n 0, 1) := dk_42 (dk_at dksX4_keep_12 0 rfl rfl)
theorem dX4_keep_282 : decode cX4_keep 282 = .ok (.aload_n 0, 1) := dk_42 (dk_at dksX4_keep_12 1 rfl rfl)
theorem dX4_keep_283 : decode cX4_keep 283 = .ok (.invokevirtual 270, 3) := dk_182 1 14 (dk_at dksX4_keep_12 2 rfl rfl)
theorem dX4_keep_286 : decode cX4_keep 286 = .ok (.invokevirtual 256, 3) := dk_182 1 0 (dk_at dksX4_keep_12 5 rfl rfl)
theorem dX4_keep_289 : decode cX4_keep 289 = .ok (.iconst 1, 1) := dk_4 (dk_at dksX4_keep_12 8 rfl rfl)
theorem dX4_keep_290 : decode cX4_keep 290 = .ok (.ireturn, 1) := dk_172 (dk_at dksX4_keep_12 9 rfl rfl)
abbrev cX4_etagOf : ByteArray := prog_7_method_21_code
def yX4_etagOf : MethodName := ⟨RX4, "etagOf", "(LVaryStoreModel$Text;)[I"⟩
def dkwX4_etagOf_1 : List UInt8 := [167, 0, 4, 43, 176]
abbrev dktX4_etagOf_1 : List UInt8 := dkwX4_etagOf_1 ++ []
def dkwX4_etagOf_0 : List UInt8 := [42, 20, 0, 103, 9, 184, 0, 105, 184, 0, 91, 76, 43, 198, 0, 8, 43, 190, 154, 0, 7, 1]
abbrev dktX4_etagOf_0 : List UInt8 := dkwX4_etagOf_0 ++ dktX4_etagOf_1
theorem dksX4_etagOf_0 : cX4_etagOf.data.toList.drop 0 = dktX4_etagOf_0 := by decide +kernel
theorem dksX4_etagOf_1 : cX4_etagOf.data.toList.drop 22 = dktX4_etagOf_1 := dk_seg dksX4_etagOf_0 22 rfl rfl
theorem dX4_etagOf_0 : decode cX4_etagOf 0 = .ok (.aload_n 0, 1) := dk_42 (dk_at dksX4_etagOf_0 0 rfl rfl)
theorem dX4_etagOf_1 : decode cX4_etagOf 1 = .ok (.ldc2_w 103, 3) := dk_20 0 103 (dk_at dksX4_etagOf_0 1 rfl rfl)
theorem dX4_etagOf_4 : decode cX4_etagOf 4 = .ok (.lconst 0, 1) := dk_9 (dk_at dksX4_etagOf_0 4 rfl rfl)
theorem dX4_etagOf_5 : decode cX4_etagOf 5 = .ok (.invokestatic 105, 3) := dk_184 0 105 (dk_at dksX4_etagOf_0 5 rfl rfl)
theorem dX4_etagOf_8 : decode cX4_etagOf 8 = .ok (.invokestatic 91, 3) := dk_184 0 91 (dk_at dksX4_etagOf_0 8 rfl rfl)
theorem dX4_etagOf_11 : decode cX4_etagOf 11 = .ok (.astore_n 1, 1) := dk_76 (dk_at dksX4_etagOf_0 11 rfl rfl)
theorem dX4_etagOf_12 : decode cX4_etagOf 12 = .ok (.aload_n 1, 1) := dk_43 (dk_at dksX4_etagOf_0 12 rfl rfl)
theorem dX4_etagOf_13 : decode cX4_etagOf 13 = .ok (.ifnull 8, 3) := dk_198 0 8 (dk_at dksX4_etagOf_0 13 rfl rfl)
theorem dX4_etagOf_16 : decode cX4_etagOf 16 = .ok (.aload_n 1, 1) := dk_43 (dk_at dksX4_etagOf_0 16 rfl rfl)
theorem dX4_etagOf_17 : decode cX4_etagOf 17 = .ok (.arraylength, 1) := dk_190 (dk_at dksX4_etagOf_0 17 rfl rfl)
theorem dX4_etagOf_18 : decode cX4_etagOf 18 = .ok (.ifCond .ne 7, 3) := dk_154 0 7 (dk_at dksX4_etagOf_0 18 rfl rfl)
theorem dX4_etagOf_21 : decode cX4_etagOf 21 = .ok (.aconst_null, 1) := dk_1 (dk_at dksX4_etagOf_0 21 rfl rfl)
theorem dX4_etagOf_22 : decode cX4_etagOf 22 = .ok (.goto 4, 3) := dk_167 0 4 (dk_at dksX4_etagOf_1 0 rfl rfl)
theorem dX4_etagOf_25 : decode cX4_etagOf 25 = .ok (.aload_n 1, 1) := dk_43 (dk_at dksX4_etagOf_1 3 rfl rfl)
theorem dX4_etagOf_26 : decode cX4_etagOf 26 = .ok (.areturn, 1) := dk_176 (dk_at dksX4_etagOf_1 4 rfl rfl)
abbrev cX4_setWords : ByteArray := prog_7_method_24_code
def yX4_setWords : MethodName := ⟨RX4, "setWords", "(LVaryStoreModel$Thing;[I)V"⟩
def dkwX4_setWords_4 : List UInt8 := [177]
abbrev dktX4_setWords_4 : List UInt8 := dkwX4_setWords_4 ++ []
def dkwX4_setWords_3 : List UInt8 := [154, 0, 16, 44, 20, 0, 141, 20, 0, 143, 184, 0, 129, 153, 0, 7, 4, 167, 0, 4, 3, 181, 0, 145]
abbrev dktX4_setWords_3 : List UInt8 := dkwX4_setWords_3 ++ dktX4_setWords_4
def dkwX4_setWords_2 : List UInt8 := [154, 0, 38, 43, 180, 0, 119, 16, 254, 160, 0, 29, 44, 20, 0, 137, 20, 0, 139, 184, 0, 129]
abbrev dktX4_setWords_2 : List UInt8 := dkwX4_setWords_2 ++ dktX4_setWords_3
def dkwX4_setWords_1 : List UInt8 := [184, 0, 113, 181, 0, 124, 43, 44, 20, 0, 127, 9, 184, 0, 129, 181, 0, 133, 43, 43, 180, 0, 133]
abbrev dktX4_setWords_1 : List UInt8 := dkwX4_setWords_1 ++ dktX4_setWords_2
def dkwX4_setWords_0 : List UInt8 := [43, 44, 20, 0, 117, 9, 184, 0, 105, 184, 0, 113, 181, 0, 119, 43, 44, 20, 0, 122, 9, 184, 0, 105]
abbrev dktX4_setWords_0 : List UInt8 := dkwX4_setWords_0 ++ dktX4_setWords_1
theorem dksX4_setWords_0 : cX4_setWords.data.toList.drop 0 = dktX4_setWords_0 := by decide +kernel
theorem dksX4_setWords_1 : cX4_setWords.data.toList.drop 24 = dktX4_setWords_1 := dk_seg dksX4_setWords_0 24 rfl rfl
theorem dksX4_setWords_2 : cX4_setWords.data.toList.drop 47 = dktX4_setWords_2 := dk_seg dksX4_setWords_1 23 rfl rfl
theorem dksX4_setWords_3 : cX4_setWords.data.toList.drop 69 = dktX4_setWords_3 := dk_seg dksX4_setWords_2 22 rfl rfl
theorem dksX4_setWords_4 : cX4_setWords.data.toList.drop 93 = dktX4_setWords_4 := dk_seg dksX4_setWords_3 24 rfl rfl
theorem dX4_setWords_0 : decode cX4_setWords 0 = .ok (.aload_n 1, 1) := dk_43 (dk_at dksX4_setWords_0 0 rfl rfl)
theorem dX4_setWords_1 : decode cX4_setWords 1 = .ok (.aload_n 2, 1) := dk_44 (dk_at dksX4_setWords_0 1 rfl rfl)
theorem dX4_setWords_2 : decode cX4_setWords 2 = .ok (.ldc2_w 117, 3) := dk_20 0 117 (dk_at dksX4_setWords_0 2 rfl rfl)
theorem dX4_setWords_5 : decode cX4_setWords 5 = .ok (.lconst 0, 1) := dk_9 (dk_at dksX4_setWords_0 5 rfl rfl)
theorem dX4_setWords_6 : decode cX4_setWords 6 = .ok (.invokestatic 105, 3) := dk_184 0 105 (dk_at dksX4_setWords_0 6 rfl rfl)
theorem dX4_setWords_9 : decode cX4_setWords 9 = .ok (.invokestatic 113, 3) := dk_184 0 113 (dk_at dksX4_setWords_0 9 rfl rfl)
theorem dX4_setWords_12 : decode cX4_setWords 12 = .ok (.putfield 119, 3) := dk_181 0 119 (dk_at dksX4_setWords_0 12 rfl rfl)
theorem dX4_setWords_15 : decode cX4_setWords 15 = .ok (.aload_n 1, 1) := dk_43 (dk_at dksX4_setWords_0 15 rfl rfl)
theorem dX4_setWords_16 : decode cX4_setWords 16 = .ok (.aload_n 2, 1) := dk_44 (dk_at dksX4_setWords_0 16 rfl rfl)
theorem dX4_setWords_17 : decode cX4_setWords 17 = .ok (.ldc2_w 122, 3) := dk_20 0 122 (dk_at dksX4_setWords_0 17 rfl rfl)
theorem dX4_setWords_20 : decode cX4_setWords 20 = .ok (.lconst 0, 1) := dk_9 (dk_at dksX4_setWords_0 20 rfl rfl)
theorem dX4_setWords_21 : decode cX4_setWords 21 = .ok (.invokestatic 105, 3) := dk_184 0 105 (dk_at dksX4_setWords_0 21 rfl rfl)
theorem dX4_setWords_24 : decode cX4_setWords 24 = .ok (.invokestatic 113, 3) := dk_184 0 113 (dk_at dksX4_setWords_1 0 rfl rfl)
theorem dX4_setWords_27 : decode cX4_setWords 27 = .ok (.putfield 124, 3) := dk_181 0 124 (dk_at dksX4_setWords_1 3 rfl rfl)
theorem dX4_setWords_30 : decode cX4_setWords 30 = .ok (.aload_n 1, 1) := dk_43 (dk_at dksX4_setWords_1 6 rfl rfl)
theorem dX4_setWords_31 : decode cX4_setWords 31 = .ok (.aload_n 2, 1) := dk_44 (dk_at dksX4_setWords_1 7 rfl rfl)
theorem dX4_setWords_32 : decode cX4_setWords 32 = .ok (.ldc2_w 127, 3) := dk_20 0 127 (dk_at dksX4_setWords_1 8 rfl rfl)
theorem dX4_setWords_35 : decode cX4_setWords 35 = .ok (.lconst 0, 1) := dk_9 (dk_at dksX4_setWords_1 11 rfl rfl)
theorem dX4_setWords_36 : decode cX4_setWords 36 = .ok (.invokestatic 129, 3) := dk_184 0 129 (dk_at dksX4_setWords_1 12 rfl rfl)
theorem dX4_setWords_39 : decode cX4_setWords 39 = .ok (.putfield 133, 3) := dk_181 0 133 (dk_at dksX4_setWords_1 15 rfl rfl)
theorem dX4_setWords_42 : decode cX4_setWords 42 = .ok (.aload_n 1, 1) := dk_43 (dk_at dksX4_setWords_1 18 rfl rfl)
theorem dX4_setWords_43 : decode cX4_setWords 43 = .ok (.aload_n 1, 1) := dk_43 (dk_at dksX4_setWords_1 19 rfl rfl)
theorem dX4_setWords_44 : decode cX4_setWords 44 = .ok (.getfield 133, 3) := dk_180 0 133 (dk_at dksX4_setWords_1 20 rfl rfl)
theorem dX4_setWords_47 : decode cX4_setWords 47 = .ok (.ifCond .ne 38, 3) := dk_154 0 38 (dk_at dksX4_setWords_2 0 rfl rfl)
theorem dX4_setWords_50 : decode cX4_setWords 50 = .ok (.aload_n 1, 1) := dk_43 (dk_at dksX4_setWords_2 3 rfl rfl)
theorem dX4_setWords_51 : decode cX4_setWords 51 = .ok (.getfield 119, 3) := dk_180 0 119 (dk_at dksX4_setWords_2 4 rfl rfl)
theorem dX4_setWords_54 : decode cX4_setWords 54 = .ok (.bipush (-2), 2) := dk_16 254 (dk_at dksX4_setWords_2 7 rfl rfl)
theorem dX4_setWords_56 : decode cX4_setWords 56 = .ok (.if_icmp .ne 29, 3) := dk_160 0 29 (dk_at dksX4_setWords_2 9 rfl rfl)
theorem dX4_setWords_59 : decode cX4_setWords 59 = .ok (.aload_n 2, 1) := dk_44 (dk_at dksX4_setWords_2 12 rfl rfl)
theorem dX4_setWords_60 : decode cX4_setWords 60 = .ok (.ldc2_w 137, 3) := dk_20 0 137 (dk_at dksX4_setWords_2 13 rfl rfl)
theorem dX4_setWords_63 : decode cX4_setWords 63 = .ok (.ldc2_w 139, 3) := dk_20 0 139 (dk_at dksX4_setWords_2 16 rfl rfl)
theorem dX4_setWords_66 : decode cX4_setWords 66 = .ok (.invokestatic 129, 3) := dk_184 0 129 (dk_at dksX4_setWords_2 19 rfl rfl)
theorem dX4_setWords_69 : decode cX4_setWords 69 = .ok (.ifCond .ne 16, 3) := dk_154 0 16 (dk_at dksX4_setWords_3 0 rfl rfl)
theorem dX4_setWords_72 : decode cX4_setWords 72 = .ok (.aload_n 2, 1) := dk_44 (dk_at dksX4_setWords_3 3 rfl rfl)
theorem dX4_setWords_73 : decode cX4_setWords 73 = .ok (.ldc2_w 141, 3) := dk_20 0 141 (dk_at dksX4_setWords_3 4 rfl rfl)
theorem dX4_setWords_76 : decode cX4_setWords 76 = .ok (.ldc2_w 143, 3) := dk_20 0 143 (dk_at dksX4_setWords_3 7 rfl rfl)
theorem dX4_setWords_79 : decode cX4_setWords 79 = .ok (.invokestatic 129, 3) := dk_184 0 129 (dk_at dksX4_setWords_3 10 rfl rfl)
theorem dX4_setWords_82 : decode cX4_setWords 82 = .ok (.ifCond .eq 7, 3) := dk_153 0 7 (dk_at dksX4_setWords_3 13 rfl rfl)
theorem dX4_setWords_85 : decode cX4_setWords 85 = .ok (.iconst 1, 1) := dk_4 (dk_at dksX4_setWords_3 16 rfl rfl)
theorem dX4_setWords_86 : decode cX4_setWords 86 = .ok (.goto 4, 3) := dk_167 0 4 (dk_at dksX4_setWords_3 17 rfl rfl)
theorem dX4_setWords_89 : decode cX4_setWords 89 = .ok (.iconst 0, 1) := dk_3 (dk_at dksX4_setWords_3 20 rfl rfl)
theorem dX4_setWords_90 : decode cX4_setWords 90 = .ok (.putfield 145, 3) := dk_181 0 145 (dk_at dksX4_setWords_3 21 rfl rfl)
theorem dX4_setWords_93 : decode cX4_setWords 93 = .ok (.return_, 1) := dk_177 (dk_at dksX4_setWords_4 0 rfl rfl)
abbrev cX4_setTimes : ByteArray := prog_7_method_25_code
def yX4_setTimes : MethodName := ⟨RX4, "setTimes", "(LVaryStoreModel$Thing;LVaryStoreModel$Text;)V"⟩
def dkwX4_setTimes_5 : List UInt8 := [181, 0, 167, 177]
abbrev dktX4_setTimes_5 : List UInt8 := dkwX4_setTimes_5 ++ []
def dkwX4_setTimes_4 : List UInt8 := [181, 0, 158, 43, 21, 5, 155, 0, 8, 21, 5, 167, 0, 4, 3, 181, 0, 161, 43, 42, 180, 0, 164]
abbrev dktX4_setTimes_4 : List UInt8 := dkwX4_setTimes_4 ++ dktX4_setTimes_5
def dkwX4_setTimes_3 : List UInt8 := [43, 180, 0, 119, 167, 0, 19, 43, 180, 0, 124, 155, 0, 10, 43, 180, 0, 124, 167, 0, 5, 21, 6]
abbrev dktX4_setTimes_3 : List UInt8 := dkwX4_setTimes_3 ++ dktX4_setTimes_4
def dkwX4_setTimes_2 : List UInt8 := [29, 21, 4, 164, 0, 10, 29, 21, 4, 100, 167, 0, 4, 3, 54, 6, 43, 43, 180, 0, 119, 155, 0, 10]
abbrev dktX4_setTimes_2 : List UInt8 := dkwX4_setTimes_2 ++ dktX4_setTimes_3
def dkwX4_setTimes_1 : List UInt8 := [54, 4, 44, 20, 0, 156, 9, 184, 0, 105, 184, 0, 150, 54, 5, 29, 155, 0, 21, 21, 4, 155, 0, 16]
abbrev dktX4_setTimes_1 : List UInt8 := dkwX4_setTimes_1 ++ dktX4_setTimes_2
def dkwX4_setTimes_0 : List UInt8 := [44, 20, 0, 148, 9, 184, 0, 105, 184, 0, 150, 62, 44, 20, 0, 154, 9, 184, 0, 105, 184, 0, 150]
abbrev dktX4_setTimes_0 : List UInt8 := dkwX4_setTimes_0 ++ dktX4_setTimes_1
theorem dksX4_setTimes_0 : cX4_setTimes.data.toList.drop 0 = dktX4_setTimes_0 := by decide +kernel
theorem dksX4_setTimes_1 : cX4_setTimes.data.toList.drop 23 = dktX4_setTimes_1 := dk_seg dksX4_setTimes_0 23 rfl rfl
theorem dksX4_setTimes_2 : cX4_setTimes.data.toList.drop 47 = dktX4_setTimes_2 := dk_seg dksX4_setTimes_1 24 rfl rfl
theorem dksX4_setTimes_3 : cX4_setTimes.data.toList.drop 71 = dktX4_setTimes_3 := dk_seg dksX4_setTimes_2 24 rfl rfl
theorem dksX4_setTimes_4 : cX4_setTimes.data.toList.drop 94 = dktX4_setTimes_4 := dk_seg dksX4_setTimes_3 23 rfl rfl
theorem dksX4_setTimes_5 : cX4_setTimes.data.toList.drop 117 = dktX4_setTimes_5 := dk_seg dksX4_setTimes_4 23 rfl rfl
theorem dX4_setTimes_0 : decode cX4_setTimes 0 = .ok (.aload_n 2, 1) := dk_44 (dk_at dksX4_setTimes_0 0 rfl rfl)
theorem dX4_setTimes_1 : decode cX4_setTimes 1 = .ok (.ldc2_w 148, 3) := dk_20 0 148 (dk_at dksX4_setTimes_0 1 rfl rfl)
theorem dX4_setTimes_4 : decode cX4_setTimes 4 = .ok (.lconst 0, 1) := dk_9 (dk_at dksX4_setTimes_0 4 rfl rfl)
theorem dX4_setTimes_5 : decode cX4_setTimes 5 = .ok (.invokestatic 105, 3) := dk_184 0 105 (dk_at dksX4_setTimes_0 5 rfl rfl)
theorem dX4_setTimes_8 : decode cX4_setTimes 8 = .ok (.invokestatic 150, 3) := dk_184 0 150 (dk_at dksX4_setTimes_0 8 rfl rfl)
theorem dX4_setTimes_11 : decode cX4_setTimes 11 = .ok (.istore_n 3, 1) := dk_62 (dk_at dksX4_setTimes_0 11 rfl rfl)
theorem dX4_setTimes_12 : decode cX4_setTimes 12 = .ok (.aload_n 2, 1) := dk_44 (dk_at dksX4_setTimes_0 12 rfl rfl)
theorem dX4_setTimes_13 : decode cX4_setTimes 13 = .ok (.ldc2_w 154, 3) := dk_20 0 154 (dk_at dksX4_setTimes_0 13 rfl rfl)
theorem dX4_setTimes_16 : decode cX4_setTimes 16 = .ok (.lconst 0, 1) := dk_9 (dk_at dksX4_setTimes_0 16 rfl rfl)
theorem dX4_setTimes_17 : decode cX4_setTimes 17 = .ok (.invokestatic 105, 3) := dk_184 0 105 (dk_at dksX4_setTimes_0 17 rfl rfl)
theorem dX4_setTimes_20 : decode cX4_setTimes 20 = .ok (.invokestatic 150, 3) := dk_184 0 150 (dk_at dksX4_setTimes_0 20 rfl rfl)
theorem dX4_setTimes_23 : decode cX4_setTimes 23 = .ok (.istore 4, 2) := dk_54 4 (dk_at dksX4_setTimes_1 0 rfl rfl)
theorem dX4_setTimes_25 : decode cX4_setTimes 25 = .ok (.aload_n 2, 1) := dk_44 (dk_at dksX4_setTimes_1 2 rfl rfl)
theorem dX4_setTimes_26 : decode cX4_setTimes 26 = .ok (.ldc2_w 156, 3) := dk_20 0 156 (dk_at dksX4_setTimes_1 3 rfl rfl)
theorem dX4_setTimes_29 : decode cX4_setTimes 29 = .ok (.lconst 0, 1) := dk_9 (dk_at dksX4_setTimes_1 6 rfl rfl)
theorem dX4_setTimes_30 : decode cX4_setTimes 30 = .ok (.invokestatic 105, 3) := dk_184 0 105 (dk_at dksX4_setTimes_1 7 rfl rfl)
theorem dX4_setTimes_33 : decode cX4_setTimes 33 = .ok (.invokestatic 150, 3) := dk_184 0 150 (dk_at dksX4_setTimes_1 10 rfl rfl)
theorem dX4_setTimes_36 : decode cX4_setTimes 36 = .ok (.istore 5, 2) := dk_54 5 (dk_at dksX4_setTimes_1 13 rfl rfl)
theorem dX4_setTimes_38 : decode cX4_setTimes 38 = .ok (.iload_n 3, 1) := dk_29 (dk_at dksX4_setTimes_1 15 rfl rfl)
theorem dX4_setTimes_39 : decode cX4_setTimes 39 = .ok (.ifCond .lt 21, 3) := dk_155 0 21 (dk_at dksX4_setTimes_1 16 rfl rfl)
theorem dX4_setTimes_42 : decode cX4_setTimes 42 = .ok (.iload 4, 2) := dk_21 4 (dk_at dksX4_setTimes_1 19 rfl rfl)
theorem dX4_setTimes_44 : decode cX4_setTimes 44 = .ok (.ifCond .lt 16, 3) := dk_155 0 16 (dk_at dksX4_setTimes_1 21 rfl rfl)
theorem dX4_setTimes_47 : decode cX4_setTimes 47 = .ok (.iload_n 3, 1) := dk_29 (dk_at dksX4_setTimes_2 0 rfl rfl)
theorem dX4_setTimes_48 : decode cX4_setTimes 48 = .ok (.iload 4, 2) := dk_21 4 (dk_at dksX4_setTimes_2 1 rfl rfl)
theorem dX4_setTimes_50 : decode cX4_setTimes 50 = .ok (.if_icmp .le 10, 3) := dk_164 0 10 (dk_at dksX4_setTimes_2 3 rfl rfl)
theorem dX4_setTimes_53 : decode cX4_setTimes 53 = .ok (.iload_n 3, 1) := dk_29 (dk_at dksX4_setTimes_2 6 rfl rfl)
theorem dX4_setTimes_54 : decode cX4_setTimes 54 = .ok (.iload 4, 2) := dk_21 4 (dk_at dksX4_setTimes_2 7 rfl rfl)
theorem dX4_setTimes_56 : decode cX4_setTimes 56 = .ok (.isub, 1) := dk_100 (dk_at dksX4_setTimes_2 9 rfl rfl)
theorem dX4_setTimes_57 : decode cX4_setTimes 57 = .ok (.goto 4, 3) := dk_167 0 4 (dk_at dksX4_setTimes_2 10 rfl rfl)
theorem dX4_setTimes_60 : decode cX4_setTimes 60 = .ok (.iconst 0, 1) := dk_3 (dk_at dksX4_setTimes_2 13 rfl rfl)
theorem dX4_setTimes_61 : decode cX4_setTimes 61 = .ok (.istore 6, 2) := dk_54 6 (dk_at dksX4_setTimes_2 14 rfl rfl)
theorem dX4_setTimes_63 : decode cX4_setTimes 63 = .ok (.aload_n 1, 1) := dk_43 (dk_at dksX4_setTimes_2 16 rfl rfl)
theorem dX4_setTimes_64 : decode cX4_setTimes 64 = .ok (.aload_n 1, 1) := dk_43 (dk_at dksX4_setTimes_2 17 rfl rfl)
theorem dX4_setTimes_65 : decode cX4_setTimes 65 = .ok (.getfield 119, 3) := dk_180 0 119 (dk_at dksX4_setTimes_2 18 rfl rfl)
theorem dX4_setTimes_68 : decode cX4_setTimes 68 = .ok (.ifCond .lt 10, 3) := dk_155 0 10 (dk_at dksX4_setTimes_2 21 rfl rfl)
theorem dX4_setTimes_71 : decode cX4_setTimes 71 = .ok (.aload_n 1, 1) := dk_43 (dk_at dksX4_setTimes_3 0 rfl rfl)
theorem dX4_setTimes_72 : decode cX4_setTimes 72 = .ok (.getfield 119, 3) := dk_180 0 119 (dk_at dksX4_setTimes_3 1 rfl rfl)
theorem dX4_setTimes_75 : decode cX4_setTimes 75 = .ok (.goto 19, 3) := dk_167 0 19 (dk_at dksX4_setTimes_3 4 rfl rfl)
theorem dX4_setTimes_78 : decode cX4_setTimes 78 = .ok (.aload_n 1, 1) := dk_43 (dk_at dksX4_setTimes_3 7 rfl rfl)
theorem dX4_setTimes_79 : decode cX4_setTimes 79 = .ok (.getfield 124, 3) := dk_180 0 124 (dk_at dksX4_setTimes_3 8 rfl rfl)
theorem dX4_setTimes_82 : decode cX4_setTimes 82 = .ok (.ifCond .lt 10, 3) := dk_155 0 10 (dk_at dksX4_setTimes_3 11 rfl rfl)
theorem dX4_setTimes_85 : decode cX4_setTimes 85 = .ok (.aload_n 1, 1) := dk_43 (dk_at dksX4_setTimes_3 14 rfl rfl)
theorem dX4_setTimes_86 : decode cX4_setTimes 86 = .ok (.getfield 124, 3) := dk_180 0 124 (dk_at dksX4_setTimes_3 15 rfl rfl)
theorem dX4_setTimes_89 : decode cX4_setTimes 89 = .ok (.goto 5, 3) := dk_167 0 5 (dk_at dksX4_setTimes_3 18 rfl rfl)
theorem dX4_setTimes_92 : decode cX4_setTimes 92 = .ok (.iload 6, 2) := dk_21 6 (dk_at dksX4_setTimes_3 21 rfl rfl)
theorem dX4_setTimes_94 : decode cX4_setTimes 94 = .ok (.putfield 158, 3) := dk_181 0 158 (dk_at dksX4_setTimes_4 0 rfl rfl)
theorem dX4_setTimes_97 : decode cX4_setTimes 97 = .ok (.aload_n 1, 1) := dk_43 (dk_at dksX4_setTimes_4 3 rfl rfl)
theorem dX4_setTimes_98 : decode cX4_setTimes 98 = .ok (.iload 5, 2) := dk_21 5 (dk_at dksX4_setTimes_4 4 rfl rfl)
theorem dX4_setTimes_100 : decode cX4_setTimes 100 = .ok (.ifCond .lt 8, 3) := dk_155 0 8 (dk_at dksX4_setTimes_4 6 rfl rfl)
theorem dX4_setTimes_103 : decode cX4_setTimes 103 = .ok (.iload 5, 2) := dk_21 5 (dk_at dksX4_setTimes_4 9 rfl rfl)
theorem dX4_setTimes_105 : decode cX4_setTimes 105 = .ok (.goto 4, 3) := dk_167 0 4 (dk_at dksX4_setTimes_4 11 rfl rfl)
theorem dX4_setTimes_108 : decode cX4_setTimes 108 = .ok (.iconst 0, 1) := dk_3 (dk_at dksX4_setTimes_4 14 rfl rfl)
theorem dX4_setTimes_109 : decode cX4_setTimes 109 = .ok (.putfield 161, 3) := dk_181 0 161 (dk_at dksX4_setTimes_4 15 rfl rfl)
theorem dX4_setTimes_112 : decode cX4_setTimes 112 = .ok (.aload_n 1, 1) := dk_43 (dk_at dksX4_setTimes_4 18 rfl rfl)
theorem dX4_setTimes_113 : decode cX4_setTimes 113 = .ok (.aload_n 0, 1) := dk_42 (dk_at dksX4_setTimes_4 19 rfl rfl)
theorem dX4_setTimes_114 : decode cX4_setTimes 114 = .ok (.getfield 164, 3) := dk_180 0 164 (dk_at dksX4_setTimes_4 20 rfl rfl)
theorem dX4_setTimes_117 : decode cX4_setTimes 117 = .ok (.putfield 167, 3) := dk_181 0 167 (dk_at dksX4_setTimes_5 0 rfl rfl)
theorem dX4_setTimes_120 : decode cX4_setTimes 120 = .ok (.return_, 1) := dk_177 (dk_at dksX4_setTimes_5 3 rfl rfl)
abbrev cX4_numberIn : ByteArray := prog_7_method_19_code
def yX4_numberIn : MethodName := ⟨RX4, "numberIn", "(LVaryStoreModel$Text;[I)I"⟩
def dkwX4_numberIn_0 : List UInt8 := [42, 43, 184, 0, 91, 77, 44, 199, 0, 7, 2, 167, 0, 8, 44, 3, 184, 0, 95, 172]
abbrev dktX4_numberIn_0 : List UInt8 := dkwX4_numberIn_0 ++ []
theorem dksX4_numberIn_0 : cX4_numberIn.data.toList.drop 0 = dktX4_numberIn_0 := by decide +kernel
theorem dX4_numberIn_0 : decode cX4_numberIn 0 = .ok (.aload_n 0, 1) := dk_42 (dk_at dksX4_numberIn_0 0 rfl rfl)
theorem dX4_numberIn_1 : decode cX4_numberIn 1 = .ok (.aload_n 1, 1) := dk_43 (dk_at dksX4_numberIn_0 1 rfl rfl)
theorem dX4_numberIn_2 : decode cX4_numberIn 2 = .ok (.invokestatic 91, 3) := dk_184 0 91 (dk_at dksX4_numberIn_0 2 rfl rfl)
theorem dX4_numberIn_5 : decode cX4_numberIn 5 = .ok (.astore_n 2, 1) := dk_77 (dk_at dksX4_numberIn_0 5 rfl rfl)
theorem dX4_numberIn_6 : decode cX4_numberIn 6 = .ok (.aload_n 2, 1) := dk_44 (dk_at dksX4_numberIn_0 6 rfl rfl)
theorem dX4_numberIn_7 : decode cX4_numberIn 7 = .ok (.ifnonnull 7, 3) := dk_199 0 7 (dk_at dksX4_numberIn_0 7 rfl rfl)
theorem dX4_numberIn_10 : decode cX4_numberIn 10 = .ok (.iconst (-1), 1) := dk_2 (dk_at dksX4_numberIn_0 10 rfl rfl)
theorem dX4_numberIn_11 : decode cX4_numberIn 11 = .ok (.goto 8, 3) := dk_167 0 8 (dk_at dksX4_numberIn_0 11 rfl rfl)
theorem dX4_numberIn_14 : decode cX4_numberIn 14 = .ok (.aload_n 2, 1) := dk_44 (dk_at dksX4_numberIn_0 14 rfl rfl)
theorem dX4_numberIn_15 : decode cX4_numberIn 15 = .ok (.iconst 0, 1) := dk_3 (dk_at dksX4_numberIn_0 15 rfl rfl)
theorem dX4_numberIn_16 : decode cX4_numberIn 16 = .ok (.invokestatic 95, 3) := dk_184 0 95 (dk_at dksX4_numberIn_0 16 rfl rfl)
theorem dX4_numberIn_19 : decode cX4_numberIn 19 = .ok (.ireturn, 1) := dk_172 (dk_at dksX4_numberIn_0 19 rfl rfl)
abbrev cX4_placeOf : ByteArray := prog_7_method_31_code
def yX4_placeOf : MethodName := ⟨RX4, "placeOf", "(LVaryStoreModel$Thing;)I"⟩
def dkwX4_placeOf_4 : List UInt8 := [21, 4, 153, 0, 5, 28, 172, 132, 2, 1, 167, 255, 156, 2, 172]
abbrev dktX4_placeOf_4 : List UInt8 := dkwX4_placeOf_4 ++ []
def dkwX4_placeOf_3 : List UInt8 := [180, 0, 195, 21, 5, 50, 43, 180, 0, 195, 21, 5, 50, 184, 0, 198, 54, 4, 132, 5, 1, 167, 255, 219]
abbrev dktX4_placeOf_3 : List UInt8 := dkwX4_placeOf_3 ++ dktX4_placeOf_4
def dkwX4_placeOf_2 : List UInt8 := [3, 54, 4, 3, 54, 5, 21, 5, 43, 180, 0, 191, 190, 162, 0, 33, 21, 4, 153, 0, 28, 45]
abbrev dktX4_placeOf_2 : List UInt8 := dkwX4_placeOf_2 ++ dktX4_placeOf_3
def dkwX4_placeOf_1 : List UInt8 := [180, 0, 188, 160, 0, 21, 45, 180, 0, 191, 43, 180, 0, 191, 184, 0, 87, 153, 0, 7, 4, 167, 0, 4]
abbrev dktX4_placeOf_1 : List UInt8 := dkwX4_placeOf_1 ++ dktX4_placeOf_2
def dkwX4_placeOf_0 : List UInt8 := [3, 61, 28, 42, 180, 0, 181, 162, 0, 98, 42, 180, 0, 28, 28, 50, 78, 45, 180, 0, 188, 43]
abbrev dktX4_placeOf_0 : List UInt8 := dkwX4_placeOf_0 ++ dktX4_placeOf_1
theorem dksX4_placeOf_0 : cX4_placeOf.data.toList.drop 0 = dktX4_placeOf_0 := by decide +kernel
theorem dksX4_placeOf_1 : cX4_placeOf.data.toList.drop 22 = dktX4_placeOf_1 := dk_seg dksX4_placeOf_0 22 rfl rfl
theorem dksX4_placeOf_2 : cX4_placeOf.data.toList.drop 46 = dktX4_placeOf_2 := dk_seg dksX4_placeOf_1 24 rfl rfl
theorem dksX4_placeOf_3 : cX4_placeOf.data.toList.drop 68 = dktX4_placeOf_3 := dk_seg dksX4_placeOf_2 22 rfl rfl
theorem dksX4_placeOf_4 : cX4_placeOf.data.toList.drop 92 = dktX4_placeOf_4 := dk_seg dksX4_placeOf_3 24 rfl rfl
theorem dX4_placeOf_0 : decode cX4_placeOf 0 = .ok (.iconst 0, 1) := dk_3 (dk_at dksX4_placeOf_0 0 rfl rfl)
theorem dX4_placeOf_1 : decode cX4_placeOf 1 = .ok (.istore_n 2, 1) := dk_61 (dk_at dksX4_placeOf_0 1 rfl rfl)
theorem dX4_placeOf_2 : decode cX4_placeOf 2 = .ok (.iload_n 2, 1) := dk_28 (dk_at dksX4_placeOf_0 2 rfl rfl)
theorem dX4_placeOf_3 : decode cX4_placeOf 3 = .ok (.aload_n 0, 1) := dk_42 (dk_at dksX4_placeOf_0 3 rfl rfl)
theorem dX4_placeOf_4 : decode cX4_placeOf 4 = .ok (.getfield 181, 3) := dk_180 0 181 (dk_at dksX4_placeOf_0 4 rfl rfl)
theorem dX4_placeOf_7 : decode cX4_placeOf 7 = .ok (.if_icmp .ge 98, 3) := dk_162 0 98 (dk_at dksX4_placeOf_0 7 rfl rfl)
theorem dX4_placeOf_10 : decode cX4_placeOf 10 = .ok (.aload_n 0, 1) := dk_42 (dk_at dksX4_placeOf_0 10 rfl rfl)
theorem dX4_placeOf_11 : decode cX4_placeOf 11 = .ok (.getfield 28, 3) := dk_180 0 28 (dk_at dksX4_placeOf_0 11 rfl rfl)
theorem dX4_placeOf_14 : decode cX4_placeOf 14 = .ok (.iload_n 2, 1) := dk_28 (dk_at dksX4_placeOf_0 14 rfl rfl)
theorem dX4_placeOf_15 : decode cX4_placeOf 15 = .ok (.aaload, 1) := dk_50 (dk_at dksX4_placeOf_0 15 rfl rfl)
theorem dX4_placeOf_16 : decode cX4_placeOf 16 = .ok (.astore_n 3, 1) := dk_78 (dk_at dksX4_placeOf_0 16 rfl rfl)
theorem dX4_placeOf_17 : decode cX4_placeOf 17 = .ok (.aload_n 3, 1) := dk_45 (dk_at dksX4_placeOf_0 17 rfl rfl)
theorem dX4_placeOf_18 : decode cX4_placeOf 18 = .ok (.getfield 188, 3) := dk_180 0 188 (dk_at dksX4_placeOf_0 18 rfl rfl)
theorem dX4_placeOf_21 : decode cX4_placeOf 21 = .ok (.aload_n 1, 1) := dk_43 (dk_at dksX4_placeOf_0 21 rfl rfl)
theorem dX4_placeOf_22 : decode cX4_placeOf 22 = .ok (.getfield 188, 3) := dk_180 0 188 (dk_at dksX4_placeOf_1 0 rfl rfl)
theorem dX4_placeOf_25 : decode cX4_placeOf 25 = .ok (.if_icmp .ne 21, 3) := dk_160 0 21 (dk_at dksX4_placeOf_1 3 rfl rfl)
theorem dX4_placeOf_28 : decode cX4_placeOf 28 = .ok (.aload_n 3, 1) := dk_45 (dk_at dksX4_placeOf_1 6 rfl rfl)
theorem dX4_placeOf_29 : decode cX4_placeOf 29 = .ok (.getfield 191, 3) := dk_180 0 191 (dk_at dksX4_placeOf_1 7 rfl rfl)
theorem dX4_placeOf_32 : decode cX4_placeOf 32 = .ok (.aload_n 1, 1) := dk_43 (dk_at dksX4_placeOf_1 10 rfl rfl)
theorem dX4_placeOf_33 : decode cX4_placeOf 33 = .ok (.getfield 191, 3) := dk_180 0 191 (dk_at dksX4_placeOf_1 11 rfl rfl)
theorem dX4_placeOf_36 : decode cX4_placeOf 36 = .ok (.invokestatic 87, 3) := dk_184 0 87 (dk_at dksX4_placeOf_1 14 rfl rfl)
theorem dX4_placeOf_39 : decode cX4_placeOf 39 = .ok (.ifCond .eq 7, 3) := dk_153 0 7 (dk_at dksX4_placeOf_1 17 rfl rfl)
theorem dX4_placeOf_42 : decode cX4_placeOf 42 = .ok (.iconst 1, 1) := dk_4 (dk_at dksX4_placeOf_1 20 rfl rfl)
theorem dX4_placeOf_43 : decode cX4_placeOf 43 = .ok (.goto 4, 3) := dk_167 0 4 (dk_at dksX4_placeOf_1 21 rfl rfl)
theorem dX4_placeOf_46 : decode cX4_placeOf 46 = .ok (.iconst 0, 1) := dk_3 (dk_at dksX4_placeOf_2 0 rfl rfl)
theorem dX4_placeOf_47 : decode cX4_placeOf 47 = .ok (.istore 4, 2) := dk_54 4 (dk_at dksX4_placeOf_2 1 rfl rfl)
theorem dX4_placeOf_49 : decode cX4_placeOf 49 = .ok (.iconst 0, 1) := dk_3 (dk_at dksX4_placeOf_2 3 rfl rfl)
theorem dX4_placeOf_50 : decode cX4_placeOf 50 = .ok (.istore 5, 2) := dk_54 5 (dk_at dksX4_placeOf_2 4 rfl rfl)
theorem dX4_placeOf_52 : decode cX4_placeOf 52 = .ok (.iload 5, 2) := dk_21 5 (dk_at dksX4_placeOf_2 6 rfl rfl)
theorem dX4_placeOf_54 : decode cX4_placeOf 54 = .ok (.aload_n 1, 1) := dk_43 (dk_at dksX4_placeOf_2 8 rfl rfl)
theorem dX4_placeOf_55 : decode cX4_placeOf 55 = .ok (.getfield 191, 3) := dk_180 0 191 (dk_at dksX4_placeOf_2 9 rfl rfl)
theorem dX4_placeOf_58 : decode cX4_placeOf 58 = .ok (.arraylength, 1) := dk_190 (dk_at dksX4_placeOf_2 12 rfl rfl)
theorem dX4_placeOf_59 : decode cX4_placeOf 59 = .ok (.if_icmp .ge 33, 3) := dk_162 0 33 (dk_at dksX4_placeOf_2 13 rfl rfl)
theorem dX4_placeOf_62 : decode cX4_placeOf 62 = .ok (.iload 4, 2) := dk_21 4 (dk_at dksX4_placeOf_2 16 rfl rfl)
theorem dX4_placeOf_64 : decode cX4_placeOf 64 = .ok (.ifCond .eq 28, 3) := dk_153 0 28 (dk_at dksX4_placeOf_2 18 rfl rfl)
theorem dX4_placeOf_67 : decode cX4_placeOf 67 = .ok (.aload_n 3, 1) := dk_45 (dk_at dksX4_placeOf_2 21 rfl rfl)
theorem dX4_placeOf_68 : decode cX4_placeOf 68 = .ok (.getfield 195, 3) := dk_180 0 195 (dk_at dksX4_placeOf_3 0 rfl rfl)
theorem dX4_placeOf_71 : decode cX4_placeOf 71 = .ok (.iload 5, 2) := dk_21 5 (dk_at dksX4_placeOf_3 3 rfl rfl)
theorem dX4_placeOf_73 : decode cX4_placeOf 73 = .ok (.aaload, 1) := dk_50 (dk_at dksX4_placeOf_3 5 rfl rfl)
theorem dX4_placeOf_74 : decode cX4_placeOf 74 = .ok (.aload_n 1, 1) := dk_43 (dk_at dksX4_placeOf_3 6 rfl rfl)
theorem dX4_placeOf_75 : decode cX4_placeOf 75 = .ok (.getfield 195, 3) := dk_180 0 195 (dk_at dksX4_placeOf_3 7 rfl rfl)
theorem dX4_placeOf_78 : decode cX4_placeOf 78 = .ok (.iload 5, 2) := dk_21 5 (dk_at dksX4_placeOf_3 10 rfl rfl)
theorem dX4_placeOf_80 : decode cX4_placeOf 80 = .ok (.aaload, 1) := dk_50 (dk_at dksX4_placeOf_3 12 rfl rfl)
theorem dX4_placeOf_81 : decode cX4_placeOf 81 = .ok (.invokestatic 198, 3) := dk_184 0 198 (dk_at dksX4_placeOf_3 13 rfl rfl)
theorem dX4_placeOf_84 : decode cX4_placeOf 84 = .ok (.istore 4, 2) := dk_54 4 (dk_at dksX4_placeOf_3 16 rfl rfl)
theorem dX4_placeOf_86 : decode cX4_placeOf 86 = .ok (.iinc 5 1, 3) := dk_132 5 1 (dk_at dksX4_placeOf_3 18 rfl rfl)
theorem dX4_placeOf_89 : decode cX4_placeOf 89 = .ok (.goto (-37), 3) := dk_167 255 219 (dk_at dksX4_placeOf_3 21 rfl rfl)
theorem dX4_placeOf_92 : decode cX4_placeOf 92 = .ok (.iload 4, 2) := dk_21 4 (dk_at dksX4_placeOf_4 0 rfl rfl)
theorem dX4_placeOf_94 : decode cX4_placeOf 94 = .ok (.ifCond .eq 5, 3) := dk_153 0 5 (dk_at dksX4_placeOf_4 2 rfl rfl)
theorem dX4_placeOf_97 : decode cX4_placeOf 97 = .ok (.iload_n 2, 1) := dk_28 (dk_at dksX4_placeOf_4 5 rfl rfl)
theorem dX4_placeOf_98 : decode cX4_placeOf 98 = .ok (.ireturn, 1) := dk_172 (dk_at dksX4_placeOf_4 6 rfl rfl)
theorem dX4_placeOf_99 : decode cX4_placeOf 99 = .ok (.iinc 2 1, 3) := dk_132 2 1 (dk_at dksX4_placeOf_4 7 rfl rfl)
theorem dX4_placeOf_102 : decode cX4_placeOf 102 = .ok (.goto (-100), 3) := dk_167 255 156 (dk_at dksX4_placeOf_4 10 rfl rfl)
theorem dX4_placeOf_105 : decode cX4_placeOf 105 = .ok (.iconst (-1), 1) := dk_2 (dk_at dksX4_placeOf_4 13 rfl rfl)
theorem dX4_placeOf_106 : decode cX4_placeOf 106 = .ok (.ireturn, 1) := dk_172 (dk_at dksX4_placeOf_4 14 rfl rfl)
abbrev cX4_takeOut : ByteArray := prog_7_method_29_code
def yX4_takeOut : MethodName := ⟨RX4, "takeOut", "(I)V"⟩
def dkwX4_takeOut_2 : List UInt8 := [1, 83, 177]
abbrev dktX4_takeOut_2 : List UInt8 := dkwX4_takeOut_2 ++ []
def dkwX4_takeOut_1 : List UInt8 := [28, 42, 180, 0, 28, 28, 4, 96, 50, 83, 132, 2, 1, 167, 255, 231, 42, 180, 0, 28, 42, 180, 0, 181]
abbrev dktX4_takeOut_1 : List UInt8 := dkwX4_takeOut_1 ++ dktX4_takeOut_2
def dkwX4_takeOut_0 : List UInt8 := [42, 89, 180, 0, 181, 4, 100, 181, 0, 181, 27, 61, 28, 42, 180, 0, 181, 162, 0, 23, 42, 180, 0, 28]
abbrev dktX4_takeOut_0 : List UInt8 := dkwX4_takeOut_0 ++ dktX4_takeOut_1
theorem dksX4_takeOut_0 : cX4_takeOut.data.toList.drop 0 = dktX4_takeOut_0 := by decide +kernel
theorem dksX4_takeOut_1 : cX4_takeOut.data.toList.drop 24 = dktX4_takeOut_1 := dk_seg dksX4_takeOut_0 24 rfl rfl
theorem dksX4_takeOut_2 : cX4_takeOut.data.toList.drop 48 = dktX4_takeOut_2 := dk_seg dksX4_takeOut_1 24 rfl rfl
theorem dX4_takeOut_0 : decode cX4_takeOut 0 = .ok (.aload_n 0, 1) := dk_42 (dk_at dksX4_takeOut_0 0 rfl rfl)
theorem dX4_takeOut_1 : decode cX4_takeOut 1 = .ok (.dup, 1) := dk_89 (dk_at dksX4_takeOut_0 1 rfl rfl)
theorem dX4_takeOut_2 : decode cX4_takeOut 2 = .ok (.getfield 181, 3) := dk_180 0 181 (dk_at dksX4_takeOut_0 2 rfl rfl)
theorem dX4_takeOut_5 : decode cX4_takeOut 5 = .ok (.iconst 1, 1) := dk_4 (dk_at dksX4_takeOut_0 5 rfl rfl)
theorem dX4_takeOut_6 : decode cX4_takeOut 6 = .ok (.isub, 1) := dk_100 (dk_at dksX4_takeOut_0 6 rfl rfl)
theorem dX4_takeOut_7 : decode cX4_takeOut 7 = .ok (.putfield 181, 3) := dk_181 0 181 (dk_at dksX4_takeOut_0 7 rfl rfl)
theorem dX4_takeOut_10 : decode cX4_takeOut 10 = .ok (.iload_n 1, 1) := dk_27 (dk_at dksX4_takeOut_0 10 rfl rfl)
theorem dX4_takeOut_11 : decode cX4_takeOut 11 = .ok (.istore_n 2, 1) := dk_61 (dk_at dksX4_takeOut_0 11 rfl rfl)
theorem dX4_takeOut_12 : decode cX4_takeOut 12 = .ok (.iload_n 2, 1) := dk_28 (dk_at dksX4_takeOut_0 12 rfl rfl)
theorem dX4_takeOut_13 : decode cX4_takeOut 13 = .ok (.aload_n 0, 1) := dk_42 (dk_at dksX4_takeOut_0 13 rfl rfl)
theorem dX4_takeOut_14 : decode cX4_takeOut 14 = .ok (.getfield 181, 3) := dk_180 0 181 (dk_at dksX4_takeOut_0 14 rfl rfl)
theorem dX4_takeOut_17 : decode cX4_takeOut 17 = .ok (.if_icmp .ge 23, 3) := dk_162 0 23 (dk_at dksX4_takeOut_0 17 rfl rfl)
theorem dX4_takeOut_20 : decode cX4_takeOut 20 = .ok (.aload_n 0, 1) := dk_42 (dk_at dksX4_takeOut_0 20 rfl rfl)
theorem dX4_takeOut_21 : decode cX4_takeOut 21 = .ok (.getfield 28, 3) := dk_180 0 28 (dk_at dksX4_takeOut_0 21 rfl rfl)
theorem dX4_takeOut_24 : decode cX4_takeOut 24 = .ok (.iload_n 2, 1) := dk_28 (dk_at dksX4_takeOut_1 0 rfl rfl)
theorem dX4_takeOut_25 : decode cX4_takeOut 25 = .ok (.aload_n 0, 1) := dk_42 (dk_at dksX4_takeOut_1 1 rfl rfl)
theorem dX4_takeOut_26 : decode cX4_takeOut 26 = .ok (.getfield 28, 3) := dk_180 0 28 (dk_at dksX4_takeOut_1 2 rfl rfl)
theorem dX4_takeOut_29 : decode cX4_takeOut 29 = .ok (.iload_n 2, 1) := dk_28 (dk_at dksX4_takeOut_1 5 rfl rfl)
theorem dX4_takeOut_30 : decode cX4_takeOut 30 = .ok (.iconst 1, 1) := dk_4 (dk_at dksX4_takeOut_1 6 rfl rfl)
theorem dX4_takeOut_31 : decode cX4_takeOut 31 = .ok (.iadd, 1) := dk_96 (dk_at dksX4_takeOut_1 7 rfl rfl)
theorem dX4_takeOut_32 : decode cX4_takeOut 32 = .ok (.aaload, 1) := dk_50 (dk_at dksX4_takeOut_1 8 rfl rfl)
theorem dX4_takeOut_33 : decode cX4_takeOut 33 = .ok (.aastore, 1) := dk_83 (dk_at dksX4_takeOut_1 9 rfl rfl)
theorem dX4_takeOut_34 : decode cX4_takeOut 34 = .ok (.iinc 2 1, 3) := dk_132 2 1 (dk_at dksX4_takeOut_1 10 rfl rfl)
theorem dX4_takeOut_37 : decode cX4_takeOut 37 = .ok (.goto (-25), 3) := dk_167 255 231 (dk_at dksX4_takeOut_1 13 rfl rfl)
theorem dX4_takeOut_40 : decode cX4_takeOut 40 = .ok (.aload_n 0, 1) := dk_42 (dk_at dksX4_takeOut_1 16 rfl rfl)
theorem dX4_takeOut_41 : decode cX4_takeOut 41 = .ok (.getfield 28, 3) := dk_180 0 28 (dk_at dksX4_takeOut_1 17 rfl rfl)
theorem dX4_takeOut_44 : decode cX4_takeOut 44 = .ok (.aload_n 0, 1) := dk_42 (dk_at dksX4_takeOut_1 20 rfl rfl)
theorem dX4_takeOut_45 : decode cX4_takeOut 45 = .ok (.getfield 181, 3) := dk_180 0 181 (dk_at dksX4_takeOut_1 21 rfl rfl)
theorem dX4_takeOut_48 : decode cX4_takeOut 48 = .ok (.aconst_null, 1) := dk_1 (dk_at dksX4_takeOut_2 0 rfl rfl)
theorem dX4_takeOut_49 : decode cX4_takeOut 49 = .ok (.aastore, 1) := dk_83 (dk_at dksX4_takeOut_2 1 rfl rfl)
theorem dX4_takeOut_50 : decode cX4_takeOut 50 = .ok (.return_, 1) := dk_177 (dk_at dksX4_takeOut_2 2 rfl rfl)
abbrev cX4_hasStar : ByteArray := prog_7_method_36_code
def yX4_hasStar : MethodName := ⟨RX4, "hasStar", "([[I)Z"⟩
def dkwX4_hasStar_1 : List UInt8 := [160, 0, 5, 4, 172, 132, 1, 1, 167, 255, 227, 3, 172]
abbrev dktX4_hasStar_1 : List UInt8 := dkwX4_hasStar_1 ++ []
def dkwX4_hasStar_0 : List UInt8 := [3, 60, 27, 42, 190, 162, 0, 29, 42, 27, 50, 190, 4, 160, 0, 15, 42, 27, 50, 3, 46, 16, 42]
abbrev dktX4_hasStar_0 : List UInt8 := dkwX4_hasStar_0 ++ dktX4_hasStar_1
theorem dksX4_hasStar_0 : cX4_hasStar.data.toList.drop 0 = dktX4_hasStar_0 := by decide +kernel
theorem dksX4_hasStar_1 : cX4_hasStar.data.toList.drop 23 = dktX4_hasStar_1 := dk_seg dksX4_hasStar_0 23 rfl rfl
theorem dX4_hasStar_0 : decode cX4_hasStar 0 = .ok (.iconst 0, 1) := dk_3 (dk_at dksX4_hasStar_0 0 rfl rfl)
theorem dX4_hasStar_1 : decode cX4_hasStar 1 = .ok (.istore_n 1, 1) := dk_60 (dk_at dksX4_hasStar_0 1 rfl rfl)
theorem dX4_hasStar_2 : decode cX4_hasStar 2 = .ok (.iload_n 1, 1) := dk_27 (dk_at dksX4_hasStar_0 2 rfl rfl)
theorem dX4_hasStar_3 : decode cX4_hasStar 3 = .ok (.aload_n 0, 1) := dk_42 (dk_at dksX4_hasStar_0 3 rfl rfl)
theorem dX4_hasStar_4 : decode cX4_hasStar 4 = .ok (.arraylength, 1) := dk_190 (dk_at dksX4_hasStar_0 4 rfl rfl)
theorem dX4_hasStar_5 : decode cX4_hasStar 5 = .ok (.if_icmp .ge 29, 3) := dk_162 0 29 (dk_at dksX4_hasStar_0 5 rfl rfl)
theorem dX4_hasStar_8 : decode cX4_hasStar 8 = .ok (.aload_n 0, 1) := dk_42 (dk_at dksX4_hasStar_0 8 rfl rfl)
theorem dX4_hasStar_9 : decode cX4_hasStar 9 = .ok (.iload_n 1, 1) := dk_27 (dk_at dksX4_hasStar_0 9 rfl rfl)
theorem dX4_hasStar_10 : decode cX4_hasStar 10 = .ok (.aaload, 1) := dk_50 (dk_at dksX4_hasStar_0 10 rfl rfl)
theorem dX4_hasStar_11 : decode cX4_hasStar 11 = .ok (.arraylength, 1) := dk_190 (dk_at dksX4_hasStar_0 11 rfl rfl)
theorem dX4_hasStar_12 : decode cX4_hasStar 12 = .ok (.iconst 1, 1) := dk_4 (dk_at dksX4_hasStar_0 12 rfl rfl)
theorem dX4_hasStar_13 : decode cX4_hasStar 13 = .ok (.if_icmp .ne 15, 3) := dk_160 0 15 (dk_at dksX4_hasStar_0 13 rfl rfl)
theorem dX4_hasStar_16 : decode cX4_hasStar 16 = .ok (.aload_n 0, 1) := dk_42 (dk_at dksX4_hasStar_0 16 rfl rfl)
theorem dX4_hasStar_17 : decode cX4_hasStar 17 = .ok (.iload_n 1, 1) := dk_27 (dk_at dksX4_hasStar_0 17 rfl rfl)
theorem dX4_hasStar_18 : decode cX4_hasStar 18 = .ok (.aaload, 1) := dk_50 (dk_at dksX4_hasStar_0 18 rfl rfl)
theorem dX4_hasStar_19 : decode cX4_hasStar 19 = .ok (.iconst 0, 1) := dk_3 (dk_at dksX4_hasStar_0 19 rfl rfl)
theorem dX4_hasStar_20 : decode cX4_hasStar 20 = .ok (.iaload, 1) := dk_46 (dk_at dksX4_hasStar_0 20 rfl rfl)
theorem dX4_hasStar_21 : decode cX4_hasStar 21 = .ok (.bipush 42, 2) := dk_16 42 (dk_at dksX4_hasStar_0 21 rfl rfl)
theorem dX4_hasStar_23 : decode cX4_hasStar 23 = .ok (.if_icmp .ne 5, 3) := dk_160 0 5 (dk_at dksX4_hasStar_1 0 rfl rfl)
theorem dX4_hasStar_26 : decode cX4_hasStar 26 = .ok (.iconst 1, 1) := dk_4 (dk_at dksX4_hasStar_1 3 rfl rfl)
theorem dX4_hasStar_27 : decode cX4_hasStar 27 = .ok (.ireturn, 1) := dk_172 (dk_at dksX4_hasStar_1 4 rfl rfl)
theorem dX4_hasStar_28 : decode cX4_hasStar 28 = .ok (.iinc 1 1, 3) := dk_132 1 1 (dk_at dksX4_hasStar_1 5 rfl rfl)
theorem dX4_hasStar_31 : decode cX4_hasStar 31 = .ok (.goto (-29), 3) := dk_167 255 227 (dk_at dksX4_hasStar_1 8 rfl rfl)
theorem dX4_hasStar_34 : decode cX4_hasStar 34 = .ok (.iconst 0, 1) := dk_3 (dk_at dksX4_hasStar_1 11 rfl rfl)
theorem dX4_hasStar_35 : decode cX4_hasStar 35 = .ok (.ireturn, 1) := dk_172 (dk_at dksX4_hasStar_1 12 rfl rfl)
abbrev cX4_putLast : ByteArray := prog_7_method_30_code
def yX4_putLast : MethodName := ⟨RX4, "putLast", "(LVaryStoreModel$Thing;)V"⟩
def dkwX4_putLast_1 : List UInt8 := [182, 0, 184, 177]
abbrev dktX4_putLast_1 : List UInt8 := dkwX4_putLast_1 ++ []
def dkwX4_putLast_0 : List UInt8 := [42, 180, 0, 28, 42, 180, 0, 181, 43, 83, 42, 89, 180, 0, 181, 4, 96, 181, 0, 181, 42, 43]
abbrev dktX4_putLast_0 : List UInt8 := dkwX4_putLast_0 ++ dktX4_putLast_1
theorem dksX4_putLast_0 : cX4_putLast.data.toList.drop 0 = dktX4_putLast_0 := by decide +kernel
theorem dksX4_putLast_1 : cX4_putLast.data.toList.drop 22 = dktX4_putLast_1 := dk_seg dksX4_putLast_0 22 rfl rfl
theorem dX4_putLast_0 : decode cX4_putLast 0 = .ok (.aload_n 0, 1) := dk_42 (dk_at dksX4_putLast_0 0 rfl rfl)
theorem dX4_putLast_1 : decode cX4_putLast 1 = .ok (.getfield 28, 3) := dk_180 0 28 (dk_at dksX4_putLast_0 1 rfl rfl)
theorem dX4_putLast_4 : decode cX4_putLast 4 = .ok (.aload_n 0, 1) := dk_42 (dk_at dksX4_putLast_0 4 rfl rfl)
theorem dX4_putLast_5 : decode cX4_putLast 5 = .ok (.getfield 181, 3) := dk_180 0 181 (dk_at dksX4_putLast_0 5 rfl rfl)
theorem dX4_putLast_8 : decode cX4_putLast 8 = .ok (.aload_n 1, 1) := dk_43 (dk_at dksX4_putLast_0 8 rfl rfl)
theorem dX4_putLast_9 : decode cX4_putLast 9 = .ok (.aastore, 1) := dk_83 (dk_at dksX4_putLast_0 9 rfl rfl)
theorem dX4_putLast_10 : decode cX4_putLast 10 = .ok (.aload_n 0, 1) := dk_42 (dk_at dksX4_putLast_0 10 rfl rfl)
theorem dX4_putLast_11 : decode cX4_putLast 11 = .ok (.dup, 1) := dk_89 (dk_at dksX4_putLast_0 11 rfl rfl)
theorem dX4_putLast_12 : decode cX4_putLast 12 = .ok (.getfield 181, 3) := dk_180 0 181 (dk_at dksX4_putLast_0 12 rfl rfl)
theorem dX4_putLast_15 : decode cX4_putLast 15 = .ok (.iconst 1, 1) := dk_4 (dk_at dksX4_putLast_0 15 rfl rfl)
theorem dX4_putLast_16 : decode cX4_putLast 16 = .ok (.iadd, 1) := dk_96 (dk_at dksX4_putLast_0 16 rfl rfl)
theorem dX4_putLast_17 : decode cX4_putLast 17 = .ok (.putfield 181, 3) := dk_181 0 181 (dk_at dksX4_putLast_0 17 rfl rfl)
theorem dX4_putLast_20 : decode cX4_putLast 20 = .ok (.aload_n 0, 1) := dk_42 (dk_at dksX4_putLast_0 20 rfl rfl)
theorem dX4_putLast_21 : decode cX4_putLast 21 = .ok (.aload_n 1, 1) := dk_43 (dk_at dksX4_putLast_0 21 rfl rfl)
theorem dX4_putLast_22 : decode cX4_putLast 22 = .ok (.invokevirtual 184, 3) := dk_182 0 184 (dk_at dksX4_putLast_1 0 rfl rfl)
theorem dX4_putLast_25 : decode cX4_putLast 25 = .ok (.return_, 1) := dk_177 (dk_at dksX4_putLast_1 3 rfl rfl)
abbrev cX4_longestAgo : ByteArray := prog_7_method_38_code
def yX4_longestAgo : MethodName := ⟨RX4, "longestAgo", "()I"⟩
def dkwX4_longestAgo_1 : List UInt8 := [180, 0, 28, 27, 50, 180, 0, 178, 148, 156, 0, 5, 28, 60, 132, 2, 1, 167, 255, 221, 27, 172]
abbrev dktX4_longestAgo_1 : List UInt8 := dkwX4_longestAgo_1 ++ []
def dkwX4_longestAgo_0 : List UInt8 := [3, 60, 4, 61, 28, 42, 180, 0, 181, 162, 0, 33, 42, 180, 0, 28, 28, 50, 180, 0, 178, 42]
abbrev dktX4_longestAgo_0 : List UInt8 := dkwX4_longestAgo_0 ++ dktX4_longestAgo_1
theorem dksX4_longestAgo_0 : cX4_longestAgo.data.toList.drop 0 = dktX4_longestAgo_0 := by decide +kernel
theorem dksX4_longestAgo_1 : cX4_longestAgo.data.toList.drop 22 = dktX4_longestAgo_1 := dk_seg dksX4_longestAgo_0 22 rfl rfl
theorem dX4_longestAgo_0 : decode cX4_longestAgo 0 = .ok (.iconst 0, 1) := dk_3 (dk_at dksX4_longestAgo_0 0 rfl rfl)
theorem dX4_longestAgo_1 : decode cX4_longestAgo 1 = .ok (.istore_n 1, 1) := dk_60 (dk_at dksX4_longestAgo_0 1 rfl rfl)
theorem dX4_longestAgo_2 : decode cX4_longestAgo 2 = .ok (.iconst 1, 1) := dk_4 (dk_at dksX4_longestAgo_0 2 rfl rfl)
theorem dX4_longestAgo_3 : decode cX4_longestAgo 3 = .ok (.istore_n 2, 1) := dk_61 (dk_at dksX4_longestAgo_0 3 rfl rfl)
theorem dX4_longestAgo_4 : decode cX4_longestAgo 4 = .ok (.iload_n 2, 1) := dk_28 (dk_at dksX4_longestAgo_0 4 rfl rfl)
theorem dX4_longestAgo_5 : decode cX4_longestAgo 5 = .ok (.aload_n 0, 1) := dk_42 (dk_at dksX4_longestAgo_0 5 rfl rfl)
theorem dX4_longestAgo_6 : decode cX4_longestAgo 6 = .ok (.getfield 181, 3) := dk_180 0 181 (dk_at dksX4_longestAgo_0 6 rfl rfl)
theorem dX4_longestAgo_9 : decode cX4_longestAgo 9 = .ok (.if_icmp .ge 33, 3) := dk_162 0 33 (dk_at dksX4_longestAgo_0 9 rfl rfl)
theorem dX4_longestAgo_12 : decode cX4_longestAgo 12 = .ok (.aload_n 0, 1) := dk_42 (dk_at dksX4_longestAgo_0 12 rfl rfl)
theorem dX4_longestAgo_13 : decode cX4_longestAgo 13 = .ok (.getfield 28, 3) := dk_180 0 28 (dk_at dksX4_longestAgo_0 13 rfl rfl)
theorem dX4_longestAgo_16 : decode cX4_longestAgo 16 = .ok (.iload_n 2, 1) := dk_28 (dk_at dksX4_longestAgo_0 16 rfl rfl)
theorem dX4_longestAgo_17 : decode cX4_longestAgo 17 = .ok (.aaload, 1) := dk_50 (dk_at dksX4_longestAgo_0 17 rfl rfl)
theorem dX4_longestAgo_18 : decode cX4_longestAgo 18 = .ok (.getfield 178, 3) := dk_180 0 178 (dk_at dksX4_longestAgo_0 18 rfl rfl)
theorem dX4_longestAgo_21 : decode cX4_longestAgo 21 = .ok (.aload_n 0, 1) := dk_42 (dk_at dksX4_longestAgo_0 21 rfl rfl)
theorem dX4_longestAgo_22 : decode cX4_longestAgo 22 = .ok (.getfield 28, 3) := dk_180 0 28 (dk_at dksX4_longestAgo_1 0 rfl rfl)
theorem dX4_longestAgo_25 : decode cX4_longestAgo 25 = .ok (.iload_n 1, 1) := dk_27 (dk_at dksX4_longestAgo_1 3 rfl rfl)
theorem dX4_longestAgo_26 : decode cX4_longestAgo 26 = .ok (.aaload, 1) := dk_50 (dk_at dksX4_longestAgo_1 4 rfl rfl)
theorem dX4_longestAgo_27 : decode cX4_longestAgo 27 = .ok (.getfield 178, 3) := dk_180 0 178 (dk_at dksX4_longestAgo_1 5 rfl rfl)
theorem dX4_longestAgo_30 : decode cX4_longestAgo 30 = .ok (.lcmp, 1) := dk_148 (dk_at dksX4_longestAgo_1 8 rfl rfl)
theorem dX4_longestAgo_31 : decode cX4_longestAgo 31 = .ok (.ifCond .ge 5, 3) := dk_156 0 5 (dk_at dksX4_longestAgo_1 9 rfl rfl)
theorem dX4_longestAgo_34 : decode cX4_longestAgo 34 = .ok (.iload_n 2, 1) := dk_28 (dk_at dksX4_longestAgo_1 12 rfl rfl)
theorem dX4_longestAgo_35 : decode cX4_longestAgo 35 = .ok (.istore_n 1, 1) := dk_60 (dk_at dksX4_longestAgo_1 13 rfl rfl)
theorem dX4_longestAgo_36 : decode cX4_longestAgo 36 = .ok (.iinc 2 1, 3) := dk_132 2 1 (dk_at dksX4_longestAgo_1 14 rfl rfl)
theorem dX4_longestAgo_39 : decode cX4_longestAgo 39 = .ok (.goto (-35), 3) := dk_167 255 221 (dk_at dksX4_longestAgo_1 17 rfl rfl)
theorem dX4_longestAgo_42 : decode cX4_longestAgo 42 = .ok (.iload_n 1, 1) := dk_27 (dk_at dksX4_longestAgo_1 20 rfl rfl)
theorem dX4_longestAgo_43 : decode cX4_longestAgo 43 = .ok (.ireturn, 1) := dk_172 (dk_at dksX4_longestAgo_1 21 rfl rfl)
abbrev cX4_again : ByteArray := prog_7_method_39_code
def yX4_again : MethodName := ⟨RX4, "again", "(I)Z"⟩
def dkwX4_again_5 : List UInt8 := [44, 182, 0, 249, 42, 29, 182, 1, 0, 42, 25, 4, 182, 1, 11, 4, 172]
abbrev dktX4_again_5 : List UInt8 := dkwX4_again_5 ++ []
def dkwX4_again_4 : List UInt8 := [184, 0, 220, 184, 0, 91, 58, 6, 25, 6, 198, 0, 11, 42, 25, 4, 25, 6, 182, 0, 245, 42, 25, 4]
abbrev dktX4_again_4 : List UInt8 := dkwX4_again_4 ++ dktX4_again_5
def dkwX4_again_3 : List UInt8 := [180, 0, 242, 198, 0, 16, 25, 5, 25, 4, 180, 0, 242, 184, 0, 79, 154, 0, 5, 3, 172, 44]
abbrev dktX4_again_3 : List UInt8 := dkwX4_again_3 ++ dktX4_again_4
def dkwX4_again_2 : List UInt8 := [172, 42, 180, 0, 28, 29, 50, 58, 4, 44, 184, 0, 238, 58, 5, 25, 5, 198, 0, 26, 25, 4]
abbrev dktX4_again_2 : List UInt8 := dkwX4_again_2 ++ dktX4_again_3
def dkwX4_again_1 : List UInt8 := [181, 0, 32, 42, 180, 0, 32, 153, 0, 5, 3, 172, 42, 27, 182, 0, 224, 62, 29, 2, 160, 0, 5, 3]
abbrev dktX4_again_1 : List UInt8 := dkwX4_again_1 ++ dktX4_again_2
def dkwX4_again_0 : List UInt8 := [42, 182, 0, 213, 77, 42, 44, 198, 0, 10, 27, 184, 0, 217, 154, 0, 7, 4, 167, 0, 4, 3]
abbrev dktX4_again_0 : List UInt8 := dkwX4_again_0 ++ dktX4_again_1
theorem dksX4_again_0 : cX4_again.data.toList.drop 0 = dktX4_again_0 := by decide +kernel
theorem dksX4_again_1 : cX4_again.data.toList.drop 22 = dktX4_again_1 := dk_seg dksX4_again_0 22 rfl rfl
theorem dksX4_again_2 : cX4_again.data.toList.drop 46 = dktX4_again_2 := dk_seg dksX4_again_1 24 rfl rfl
theorem dksX4_again_3 : cX4_again.data.toList.drop 68 = dktX4_again_3 := dk_seg dksX4_again_2 22 rfl rfl
theorem dksX4_again_4 : cX4_again.data.toList.drop 90 = dktX4_again_4 := dk_seg dksX4_again_3 22 rfl rfl
theorem dksX4_again_5 : cX4_again.data.toList.drop 114 = dktX4_again_5 := dk_seg dksX4_again_4 24 rfl rfl
theorem dX4_again_0 : decode cX4_again 0 = .ok (.aload_n 0, 1) := dk_42 (dk_at dksX4_again_0 0 rfl rfl)
theorem dX4_again_1 : decode cX4_again 1 = .ok (.invokevirtual 213, 3) := dk_182 0 213 (dk_at dksX4_again_0 1 rfl rfl)
theorem dX4_again_4 : decode cX4_again 4 = .ok (.astore_n 2, 1) := dk_77 (dk_at dksX4_again_0 4 rfl rfl)
theorem dX4_again_5 : decode cX4_again 5 = .ok (.aload_n 0, 1) := dk_42 (dk_at dksX4_again_0 5 rfl rfl)
theorem dX4_again_6 : decode cX4_again 6 = .ok (.aload_n 2, 1) := dk_44 (dk_at dksX4_again_0 6 rfl rfl)
theorem dX4_again_7 : decode cX4_again 7 = .ok (.ifnull 10, 3) := dk_198 0 10 (dk_at dksX4_again_0 7 rfl rfl)
theorem dX4_again_10 : decode cX4_again 10 = .ok (.iload_n 1, 1) := dk_27 (dk_at dksX4_again_0 10 rfl rfl)
theorem dX4_again_11 : decode cX4_again 11 = .ok (.invokestatic 217, 3) := dk_184 0 217 (dk_at dksX4_again_0 11 rfl rfl)
theorem dX4_again_14 : decode cX4_again 14 = .ok (.ifCond .ne 7, 3) := dk_154 0 7 (dk_at dksX4_again_0 14 rfl rfl)
theorem dX4_again_17 : decode cX4_again 17 = .ok (.iconst 1, 1) := dk_4 (dk_at dksX4_again_0 17 rfl rfl)
theorem dX4_again_18 : decode cX4_again 18 = .ok (.goto 4, 3) := dk_167 0 4 (dk_at dksX4_again_0 18 rfl rfl)
theorem dX4_again_21 : decode cX4_again 21 = .ok (.iconst 0, 1) := dk_3 (dk_at dksX4_again_0 21 rfl rfl)
theorem dX4_again_22 : decode cX4_again 22 = .ok (.putfield 32, 3) := dk_181 0 32 (dk_at dksX4_again_1 0 rfl rfl)
theorem dX4_again_25 : decode cX4_again 25 = .ok (.aload_n 0, 1) := dk_42 (dk_at dksX4_again_1 3 rfl rfl)
theorem dX4_again_26 : decode cX4_again 26 = .ok (.getfield 32, 3) := dk_180 0 32 (dk_at dksX4_again_1 4 rfl rfl)
theorem dX4_again_29 : decode cX4_again 29 = .ok (.ifCond .eq 5, 3) := dk_153 0 5 (dk_at dksX4_again_1 7 rfl rfl)
theorem dX4_again_32 : decode cX4_again 32 = .ok (.iconst 0, 1) := dk_3 (dk_at dksX4_again_1 10 rfl rfl)
theorem dX4_again_33 : decode cX4_again 33 = .ok (.ireturn, 1) := dk_172 (dk_at dksX4_again_1 11 rfl rfl)
theorem dX4_again_34 : decode cX4_again 34 = .ok (.aload_n 0, 1) := dk_42 (dk_at dksX4_again_1 12 rfl rfl)
theorem dX4_again_35 : decode cX4_again 35 = .ok (.iload_n 1, 1) := dk_27 (dk_at dksX4_again_1 13 rfl rfl)
theorem dX4_again_36 : decode cX4_again 36 = .ok (.invokevirtual 224, 3) := dk_182 0 224 (dk_at dksX4_again_1 14 rfl rfl)
theorem dX4_again_39 : decode cX4_again 39 = .ok (.istore_n 3, 1) := dk_62 (dk_at dksX4_again_1 17 rfl rfl)
theorem dX4_again_40 : decode cX4_again 40 = .ok (.iload_n 3, 1) := dk_29 (dk_at dksX4_again_1 18 rfl rfl)
theorem dX4_again_41 : decode cX4_again 41 = .ok (.iconst (-1), 1) := dk_2 (dk_at dksX4_again_1 19 rfl rfl)
theorem dX4_again_42 : decode cX4_again 42 = .ok (.if_icmp .ne 5, 3) := dk_160 0 5 (dk_at dksX4_again_1 20 rfl rfl)
theorem dX4_again_45 : decode cX4_again 45 = .ok (.iconst 0, 1) := dk_3 (dk_at dksX4_again_1 23 rfl rfl)
theorem dX4_again_46 : decode cX4_again 46 = .ok (.ireturn, 1) := dk_172 (dk_at dksX4_again_2 0 rfl rfl)
theorem dX4_again_47 : decode cX4_again 47 = .ok (.aload_n 0, 1) := dk_42 (dk_at dksX4_again_2 1 rfl rfl)
theorem dX4_again_48 : decode cX4_again 48 = .ok (.getfield 28, 3) := dk_180 0 28 (dk_at dksX4_again_2 2 rfl rfl)
theorem dX4_again_51 : decode cX4_again 51 = .ok (.iload_n 3, 1) := dk_29 (dk_at dksX4_again_2 5 rfl rfl)
theorem dX4_again_52 : decode cX4_again 52 = .ok (.aaload, 1) := dk_50 (dk_at dksX4_again_2 6 rfl rfl)
theorem dX4_again_53 : decode cX4_again 53 = .ok (.astore 4, 2) := dk_58 4 (dk_at dksX4_again_2 7 rfl rfl)
theorem dX4_again_55 : decode cX4_again 55 = .ok (.aload_n 2, 1) := dk_44 (dk_at dksX4_again_2 9 rfl rfl)
theorem dX4_again_56 : decode cX4_again 56 = .ok (.invokestatic 238, 3) := dk_184 0 238 (dk_at dksX4_again_2 10 rfl rfl)
theorem dX4_again_59 : decode cX4_again 59 = .ok (.astore 5, 2) := dk_58 5 (dk_at dksX4_again_2 13 rfl rfl)
theorem dX4_again_61 : decode cX4_again 61 = .ok (.aload 5, 2) := dk_25 5 (dk_at dksX4_again_2 15 rfl rfl)
theorem dX4_again_63 : decode cX4_again 63 = .ok (.ifnull 26, 3) := dk_198 0 26 (dk_at dksX4_again_2 17 rfl rfl)
theorem dX4_again_66 : decode cX4_again 66 = .ok (.aload 4, 2) := dk_25 4 (dk_at dksX4_again_2 20 rfl rfl)
theorem dX4_again_68 : decode cX4_again 68 = .ok (.getfield 242, 3) := dk_180 0 242 (dk_at dksX4_again_3 0 rfl rfl)
theorem dX4_again_71 : decode cX4_again 71 = .ok (.ifnull 16, 3) := dk_198 0 16 (dk_at dksX4_again_3 3 rfl rfl)
theorem dX4_again_74 : decode cX4_again 74 = .ok (.aload 5, 2) := dk_25 5 (dk_at dksX4_again_3 6 rfl rfl)
theorem dX4_again_76 : decode cX4_again 76 = .ok (.aload 4, 2) := dk_25 4 (dk_at dksX4_again_3 8 rfl rfl)
theorem dX4_again_78 : decode cX4_again 78 = .ok (.getfield 242, 3) := dk_180 0 242 (dk_at dksX4_again_3 10 rfl rfl)
theorem dX4_again_81 : decode cX4_again 81 = .ok (.invokestatic 79, 3) := dk_184 0 79 (dk_at dksX4_again_3 13 rfl rfl)
theorem dX4_again_84 : decode cX4_again 84 = .ok (.ifCond .ne 5, 3) := dk_154 0 5 (dk_at dksX4_again_3 16 rfl rfl)
theorem dX4_again_87 : decode cX4_again 87 = .ok (.iconst 0, 1) := dk_3 (dk_at dksX4_again_3 19 rfl rfl)
theorem dX4_again_88 : decode cX4_again 88 = .ok (.ireturn, 1) := dk_172 (dk_at dksX4_again_3 20 rfl rfl)
theorem dX4_again_89 : decode cX4_again 89 = .ok (.aload_n 2, 1) := dk_44 (dk_at dksX4_again_3 21 rfl rfl)
theorem dX4_again_90 : decode cX4_again 90 = .ok (.invokestatic 220, 3) := dk_184 0 220 (dk_at dksX4_again_4 0 rfl rfl)
theorem dX4_again_93 : decode cX4_again 93 = .ok (.invokestatic 91, 3) := dk_184 0 91 (dk_at dksX4_again_4 3 rfl rfl)
theorem dX4_again_96 : decode cX4_again 96 = .ok (.astore 6, 2) := dk_58 6 (dk_at dksX4_again_4 6 rfl rfl)
theorem dX4_again_98 : decode cX4_again 98 = .ok (.aload 6, 2) := dk_25 6 (dk_at dksX4_again_4 8 rfl rfl)
theorem dX4_again_100 : decode cX4_again 100 = .ok (.ifnull 11, 3) := dk_198 0 11 (dk_at dksX4_again_4 10 rfl rfl)
theorem dX4_again_103 : decode cX4_again 103 = .ok (.aload_n 0, 1) := dk_42 (dk_at dksX4_again_4 13 rfl rfl)
theorem dX4_again_104 : decode cX4_again 104 = .ok (.aload 4, 2) := dk_25 4 (dk_at dksX4_again_4 14 rfl rfl)
theorem dX4_again_106 : decode cX4_again 106 = .ok (.aload 6, 2) := dk_25 6 (dk_at dksX4_again_4 16 rfl rfl)
theorem dX4_again_108 : decode cX4_again 108 = .ok (.invokevirtual 245, 3) := dk_182 0 245 (dk_at dksX4_again_4 18 rfl rfl)
theorem dX4_again_111 : decode cX4_again 111 = .ok (.aload_n 0, 1) := dk_42 (dk_at dksX4_again_4 21 rfl rfl)
theorem dX4_again_112 : decode cX4_again 112 = .ok (.aload 4, 2) := dk_25 4 (dk_at dksX4_again_4 22 rfl rfl)
theorem dX4_again_114 : decode cX4_again 114 = .ok (.aload_n 2, 1) := dk_44 (dk_at dksX4_again_5 0 rfl rfl)
theorem dX4_again_115 : decode cX4_again 115 = .ok (.invokevirtual 249, 3) := dk_182 0 249 (dk_at dksX4_again_5 1 rfl rfl)
theorem dX4_again_118 : decode cX4_again 118 = .ok (.aload_n 0, 1) := dk_42 (dk_at dksX4_again_5 4 rfl rfl)
theorem dX4_again_119 : decode cX4_again 119 = .ok (.iload_n 3, 1) := dk_29 (dk_at dksX4_again_5 5 rfl rfl)
theorem dX4_again_120 : decode cX4_again 120 = .ok (.invokevirtual 256, 3) := dk_182 1 0 (dk_at dksX4_again_5 6 rfl rfl)
theorem dX4_again_123 : decode cX4_again 123 = .ok (.aload_n 0, 1) := dk_42 (dk_at dksX4_again_5 9 rfl rfl)
theorem dX4_again_124 : decode cX4_again 124 = .ok (.aload 4, 2) := dk_25 4 (dk_at dksX4_again_5 10 rfl rfl)
theorem dX4_again_126 : decode cX4_again 126 = .ok (.invokevirtual 267, 3) := dk_182 1 11 (dk_at dksX4_again_5 12 rfl rfl)
theorem dX4_again_129 : decode cX4_again 129 = .ok (.iconst 1, 1) := dk_4 (dk_at dksX4_again_5 15 rfl rfl)
theorem dX4_again_130 : decode cX4_again 130 = .ok (.ireturn, 1) := dk_172 (dk_at dksX4_again_5 16 rfl rfl)
abbrev cX4_fault : ByteArray := prog_7_method_40_code
def yX4_fault : MethodName := ⟨RX4, "fault", "()I"⟩
def dkwX4_fault_0 : List UInt8 := [42, 3, 181, 0, 32, 42, 180, 0, 13, 172]
abbrev dktX4_fault_0 : List UInt8 := dkwX4_fault_0 ++ []
theorem dksX4_fault_0 : cX4_fault.data.toList.drop 0 = dktX4_fault_0 := by decide +kernel
theorem dX4_fault_0 : decode cX4_fault 0 = .ok (.aload_n 0, 1) := dk_42 (dk_at dksX4_fault_0 0 rfl rfl)
theorem dX4_fault_1 : decode cX4_fault 1 = .ok (.iconst 0, 1) := dk_3 (dk_at dksX4_fault_0 1 rfl rfl)
theorem dX4_fault_2 : decode cX4_fault 2 = .ok (.putfield 32, 3) := dk_181 0 32 (dk_at dksX4_fault_0 2 rfl rfl)
theorem dX4_fault_5 : decode cX4_fault 5 = .ok (.aload_n 0, 1) := dk_42 (dk_at dksX4_fault_0 5 rfl rfl)
theorem dX4_fault_6 : decode cX4_fault 6 = .ok (.getfield 13, 3) := dk_180 0 13 (dk_at dksX4_fault_0 6 rfl rfl)
theorem dX4_fault_9 : decode cX4_fault 9 = .ok (.ireturn, 1) := dk_172 (dk_at dksX4_fault_0 9 rfl rfl)
abbrev cX4_purge : ByteArray := prog_7_method_41_code
def yX4_purge : MethodName := ⟨RX4, "purge", "(I)I"⟩
def dkwX4_purge_1 : List UInt8 := [180, 0, 188, 27, 160, 0, 11, 42, 29, 182, 1, 0, 132, 2, 1, 132, 3, 255, 167, 255, 228, 28, 172]
abbrev dktX4_purge_1 : List UInt8 := dkwX4_purge_1 ++ []
def dkwX4_purge_0 : List UInt8 := [42, 3, 181, 0, 32, 3, 61, 42, 180, 0, 181, 4, 100, 62, 29, 155, 0, 30, 42, 180, 0, 28, 29, 50]
abbrev dktX4_purge_0 : List UInt8 := dkwX4_purge_0 ++ dktX4_purge_1
theorem dksX4_purge_0 : cX4_purge.data.toList.drop 0 = dktX4_purge_0 := by decide +kernel
theorem dksX4_purge_1 : cX4_purge.data.toList.drop 24 = dktX4_purge_1 := dk_seg dksX4_purge_0 24 rfl rfl
theorem dX4_purge_0 : decode cX4_purge 0 = .ok (.aload_n 0, 1) := dk_42 (dk_at dksX4_purge_0 0 rfl rfl)
theorem dX4_purge_1 : decode cX4_purge 1 = .ok (.iconst 0, 1) := dk_3 (dk_at dksX4_purge_0 1 rfl rfl)
theorem dX4_purge_2 : decode cX4_purge 2 = .ok (.putfield 32, 3) := dk_181 0 32 (dk_at dksX4_purge_0 2 rfl rfl)
theorem dX4_purge_5 : decode cX4_purge 5 = .ok (.iconst 0, 1) := dk_3 (dk_at dksX4_purge_0 5 rfl rfl)
theorem dX4_purge_6 : decode cX4_purge 6 = .ok (.istore_n 2, 1) := dk_61 (dk_at dksX4_purge_0 6 rfl rfl)
theorem dX4_purge_7 : decode cX4_purge 7 = .ok (.aload_n 0, 1) := dk_42 (dk_at dksX4_purge_0 7 rfl rfl)
theorem dX4_purge_8 : decode cX4_purge 8 = .ok (.getfield 181, 3) := dk_180 0 181 (dk_at dksX4_purge_0 8 rfl rfl)
theorem dX4_purge_11 : decode cX4_purge 11 = .ok (.iconst 1, 1) := dk_4 (dk_at dksX4_purge_0 11 rfl rfl)
theorem dX4_purge_12 : decode cX4_purge 12 = .ok (.isub, 1) := dk_100 (dk_at dksX4_purge_0 12 rfl rfl)
theorem dX4_purge_13 : decode cX4_purge 13 = .ok (.istore_n 3, 1) := dk_62 (dk_at dksX4_purge_0 13 rfl rfl)
theorem dX4_purge_14 : decode cX4_purge 14 = .ok (.iload_n 3, 1) := dk_29 (dk_at dksX4_purge_0 14 rfl rfl)
theorem dX4_purge_15 : decode cX4_purge 15 = .ok (.ifCond .lt 30, 3) := dk_155 0 30 (dk_at dksX4_purge_0 15 rfl rfl)
theorem dX4_purge_18 : decode cX4_purge 18 = .ok (.aload_n 0, 1) := dk_42 (dk_at dksX4_purge_0 18 rfl rfl)
theorem dX4_purge_19 : decode cX4_purge 19 = .ok (.getfield 28, 3) := dk_180 0 28 (dk_at dksX4_purge_0 19 rfl rfl)
theorem dX4_purge_22 : decode cX4_purge 22 = .ok (.iload_n 3, 1) := dk_29 (dk_at dksX4_purge_0 22 rfl rfl)
theorem dX4_purge_23 : decode cX4_purge 23 = .ok (.aaload, 1) := dk_50 (dk_at dksX4_purge_0 23 rfl rfl)
theorem dX4_purge_24 : decode cX4_purge 24 = .ok (.getfield 188, 3) := dk_180 0 188 (dk_at dksX4_purge_1 0 rfl rfl)
theorem dX4_purge_27 : decode cX4_purge 27 = .ok (.iload_n 1, 1) := dk_27 (dk_at dksX4_purge_1 3 rfl rfl)
theorem dX4_purge_28 : decode cX4_purge 28 = .ok (.if_icmp .ne 11, 3) := dk_160 0 11 (dk_at dksX4_purge_1 4 rfl rfl)
theorem dX4_purge_31 : decode cX4_purge 31 = .ok (.aload_n 0, 1) := dk_42 (dk_at dksX4_purge_1 7 rfl rfl)
theorem dX4_purge_32 : decode cX4_purge 32 = .ok (.iload_n 3, 1) := dk_29 (dk_at dksX4_purge_1 8 rfl rfl)
theorem dX4_purge_33 : decode cX4_purge 33 = .ok (.invokevirtual 256, 3) := dk_182 1 0 (dk_at dksX4_purge_1 9 rfl rfl)
theorem dX4_purge_36 : decode cX4_purge 36 = .ok (.iinc 2 1, 3) := dk_132 2 1 (dk_at dksX4_purge_1 12 rfl rfl)
theorem dX4_purge_39 : decode cX4_purge 39 = .ok (.iinc 3 (-1), 3) := dk_132 3 255 (dk_at dksX4_purge_1 15 rfl rfl)
theorem dX4_purge_42 : decode cX4_purge 42 = .ok (.goto (-28), 3) := dk_167 255 228 (dk_at dksX4_purge_1 18 rfl rfl)
theorem dX4_purge_45 : decode cX4_purge 45 = .ok (.iload_n 2, 1) := dk_28 (dk_at dksX4_purge_1 21 rfl rfl)
theorem dX4_purge_46 : decode cX4_purge 46 = .ok (.ireturn, 1) := dk_172 (dk_at dksX4_purge_1 22 rfl rfl)
abbrev cX4_pass : ByteArray := prog_7_method_42_code
def yX4_pass : MethodName := ⟨RX4, "pass", "(I)I"⟩
def dkwX4_pass_2 : List UInt8 := [180, 0, 164, 27, 96, 181, 0, 164, 42, 180, 0, 164, 172]
abbrev dktX4_pass_2 : List UInt8 := dkwX4_pass_2 ++ []
def dkwX4_pass_1 : List UInt8 := [164, 0, 7, 4, 167, 0, 4, 3, 181, 0, 32, 42, 180, 0, 32, 153, 0, 5, 3, 172, 42, 89]
abbrev dktX4_pass_1 : List UInt8 := dkwX4_pass_1 ++ dktX4_pass_2
def dkwX4_pass_0 : List UInt8 := [42, 27, 4, 161, 0, 22, 27, 19, 1, 18, 163, 0, 15, 42, 180, 0, 164, 27, 96, 19, 1, 19]
abbrev dktX4_pass_0 : List UInt8 := dkwX4_pass_0 ++ dktX4_pass_1
theorem dksX4_pass_0 : cX4_pass.data.toList.drop 0 = dktX4_pass_0 := by decide +kernel
theorem dksX4_pass_1 : cX4_pass.data.toList.drop 22 = dktX4_pass_1 := dk_seg dksX4_pass_0 22 rfl rfl
theorem dksX4_pass_2 : cX4_pass.data.toList.drop 44 = dktX4_pass_2 := dk_seg dksX4_pass_1 22 rfl rfl
theorem dX4_pass_0 : decode cX4_pass 0 = .ok (.aload_n 0, 1) := dk_42 (dk_at dksX4_pass_0 0 rfl rfl)
theorem dX4_pass_1 : decode cX4_pass 1 = .ok (.iload_n 1, 1) := dk_27 (dk_at dksX4_pass_0 1 rfl rfl)
theorem dX4_pass_2 : decode cX4_pass 2 = .ok (.iconst 1, 1) := dk_4 (dk_at dksX4_pass_0 2 rfl rfl)
theorem dX4_pass_3 : decode cX4_pass 3 = .ok (.if_icmp .lt 22, 3) := dk_161 0 22 (dk_at dksX4_pass_0 3 rfl rfl)
theorem dX4_pass_6 : decode cX4_pass 6 = .ok (.iload_n 1, 1) := dk_27 (dk_at dksX4_pass_0 6 rfl rfl)
theorem dX4_pass_7 : decode cX4_pass 7 = .ok (.ldc_w 274, 3) := dk_19 1 18 (dk_at dksX4_pass_0 7 rfl rfl)
theorem dX4_pass_10 : decode cX4_pass 10 = .ok (.if_icmp .gt 15, 3) := dk_163 0 15 (dk_at dksX4_pass_0 10 rfl rfl)
theorem dX4_pass_13 : decode cX4_pass 13 = .ok (.aload_n 0, 1) := dk_42 (dk_at dksX4_pass_0 13 rfl rfl)
theorem dX4_pass_14 : decode cX4_pass 14 = .ok (.getfield 164, 3) := dk_180 0 164 (dk_at dksX4_pass_0 14 rfl rfl)
theorem dX4_pass_17 : decode cX4_pass 17 = .ok (.iload_n 1, 1) := dk_27 (dk_at dksX4_pass_0 17 rfl rfl)
theorem dX4_pass_18 : decode cX4_pass 18 = .ok (.iadd, 1) := dk_96 (dk_at dksX4_pass_0 18 rfl rfl)
theorem dX4_pass_19 : decode cX4_pass 19 = .ok (.ldc_w 275, 3) := dk_19 1 19 (dk_at dksX4_pass_0 19 rfl rfl)
theorem dX4_pass_22 : decode cX4_pass 22 = .ok (.if_icmp .le 7, 3) := dk_164 0 7 (dk_at dksX4_pass_1 0 rfl rfl)
theorem dX4_pass_25 : decode cX4_pass 25 = .ok (.iconst 1, 1) := dk_4 (dk_at dksX4_pass_1 3 rfl rfl)
theorem dX4_pass_26 : decode cX4_pass 26 = .ok (.goto 4, 3) := dk_167 0 4 (dk_at dksX4_pass_1 4 rfl rfl)
theorem dX4_pass_29 : decode cX4_pass 29 = .ok (.iconst 0, 1) := dk_3 (dk_at dksX4_pass_1 7 rfl rfl)
theorem dX4_pass_30 : decode cX4_pass 30 = .ok (.putfield 32, 3) := dk_181 0 32 (dk_at dksX4_pass_1 8 rfl rfl)
theorem dX4_pass_33 : decode cX4_pass 33 = .ok (.aload_n 0, 1) := dk_42 (dk_at dksX4_pass_1 11 rfl rfl)
theorem dX4_pass_34 : decode cX4_pass 34 = .ok (.getfield 32, 3) := dk_180 0 32 (dk_at dksX4_pass_1 12 rfl rfl)
theorem dX4_pass_37 : decode cX4_pass 37 = .ok (.ifCond .eq 5, 3) := dk_153 0 5 (dk_at dksX4_pass_1 15 rfl rfl)
theorem dX4_pass_40 : decode cX4_pass 40 = .ok (.iconst 0, 1) := dk_3 (dk_at dksX4_pass_1 18 rfl rfl)
theorem dX4_pass_41 : decode cX4_pass 41 = .ok (.ireturn, 1) := dk_172 (dk_at dksX4_pass_1 19 rfl rfl)
theorem dX4_pass_42 : decode cX4_pass 42 = .ok (.aload_n 0, 1) := dk_42 (dk_at dksX4_pass_1 20 rfl rfl)
theorem dX4_pass_43 : decode cX4_pass 43 = .ok (.dup, 1) := dk_89 (dk_at dksX4_pass_1 21 rfl rfl)
theorem dX4_pass_44 : decode cX4_pass 44 = .ok (.getfield 164, 3) := dk_180 0 164 (dk_at dksX4_pass_2 0 rfl rfl)
theorem dX4_pass_47 : decode cX4_pass 47 = .ok (.iload_n 1, 1) := dk_27 (dk_at dksX4_pass_2 3 rfl rfl)
theorem dX4_pass_48 : decode cX4_pass 48 = .ok (.iadd, 1) := dk_96 (dk_at dksX4_pass_2 4 rfl rfl)
theorem dX4_pass_49 : decode cX4_pass 49 = .ok (.putfield 164, 3) := dk_181 0 164 (dk_at dksX4_pass_2 5 rfl rfl)
theorem dX4_pass_52 : decode cX4_pass 52 = .ok (.aload_n 0, 1) := dk_42 (dk_at dksX4_pass_2 8 rfl rfl)
theorem dX4_pass_53 : decode cX4_pass 53 = .ok (.getfield 164, 3) := dk_180 0 164 (dk_at dksX4_pass_2 9 rfl rfl)
theorem dX4_pass_56 : decode cX4_pass 56 = .ok (.ireturn, 1) := dk_172 (dk_at dksX4_pass_2 12 rfl rfl)
abbrev cX4_thing : ByteArray := prog_7_method_43_code
def yX4_thing : MethodName := ⟨RX4, "thing", "(II)I"⟩
def dkwX4_thing_8 : List UInt8 := [180, 0, 145, 153, 0, 7, 4, 167, 0, 4, 3, 172, 25, 4, 180, 0, 242, 28, 16, 100, 100, 46, 172]
abbrev dktX4_thing_8 : List UInt8 := dkwX4_thing_8 ++ []
def dkwX4_thing_7 : List UInt8 := [182, 0, 209, 153, 0, 7, 4, 167, 0, 4, 3, 172, 25, 4, 180, 0, 191, 190, 172, 21, 5, 172, 25, 4]
abbrev dktX4_thing_7 : List UInt8 := dkwX4_thing_7 ++ dktX4_thing_8
def dkwX4_thing_6 : List UInt8 := [25, 4, 180, 0, 188, 172, 42, 25, 4, 182, 0, 170, 172, 25, 4, 180, 0, 158, 172, 42, 25, 4]
abbrev dktX4_thing_6 : List UInt8 := dkwX4_thing_6 ++ dktX4_thing_7
def dkwX4_thing_5 : List UInt8 := [170, 0, 0, 0, 0, 100, 0, 0, 0, 0, 0, 0, 0, 6, 0, 0, 0, 42, 0, 0, 0, 48, 0, 0, 0, 55, 0, 0, 0, 61, 0, 0, 0, 76, 0, 0, 0, 83, 0, 0, 0, 86]
abbrev dktX4_thing_5 : List UInt8 := dkwX4_thing_5 ++ dktX4_thing_6
def dkwX4_thing_4 : List UInt8 := [181, 0, 32, 42, 180, 0, 32, 153, 0, 5, 3, 172, 28]
abbrev dktX4_thing_4 : List UInt8 := dkwX4_thing_4 ++ dktX4_thing_5
def dkwX4_thing_3 : List UInt8 := [164, 0, 18, 28, 16, 100, 161, 0, 16, 28, 16, 100, 21, 5, 96, 162, 0, 7, 3, 167, 0, 4, 4]
abbrev dktX4_thing_3 : List UInt8 := dkwX4_thing_3 ++ dktX4_thing_4
def dkwX4_thing_2 : List UInt8 := [167, 0, 9, 25, 4, 180, 0, 242, 190, 54, 5, 42, 29, 153, 0, 32, 28, 155, 0, 9, 28, 16, 6]
abbrev dktX4_thing_2 : List UInt8 := dkwX4_thing_2 ++ dktX4_thing_3
def dkwX4_thing_1 : List UInt8 := [180, 0, 28, 27, 50, 167, 0, 4, 1, 58, 4, 29, 153, 0, 11, 25, 4, 180, 0, 242, 199, 0, 7, 3]
abbrev dktX4_thing_1 : List UInt8 := dkwX4_thing_1 ++ dktX4_thing_2
def dkwX4_thing_0 : List UInt8 := [27, 155, 0, 15, 27, 42, 180, 0, 181, 162, 0, 7, 4, 167, 0, 4, 3, 62, 29, 153, 0, 12, 42]
abbrev dktX4_thing_0 : List UInt8 := dkwX4_thing_0 ++ dktX4_thing_1
theorem dksX4_thing_0 : cX4_thing.data.toList.drop 0 = dktX4_thing_0 := by decide +kernel
theorem dksX4_thing_1 : cX4_thing.data.toList.drop 23 = dktX4_thing_1 := dk_seg dksX4_thing_0 23 rfl rfl
theorem dksX4_thing_2 : cX4_thing.data.toList.drop 47 = dktX4_thing_2 := dk_seg dksX4_thing_1 24 rfl rfl
theorem dksX4_thing_3 : cX4_thing.data.toList.drop 70 = dktX4_thing_3 := dk_seg dksX4_thing_2 23 rfl rfl
theorem dksX4_thing_4 : cX4_thing.data.toList.drop 93 = dktX4_thing_4 := dk_seg dksX4_thing_3 23 rfl rfl
theorem dksX4_thing_5 : cX4_thing.data.toList.drop 106 = dktX4_thing_5 := dk_seg dksX4_thing_4 13 rfl rfl
theorem dksX4_thing_6 : cX4_thing.data.toList.drop 148 = dktX4_thing_6 := dk_seg dksX4_thing_5 42 rfl rfl
theorem dksX4_thing_7 : cX4_thing.data.toList.drop 170 = dktX4_thing_7 := dk_seg dksX4_thing_6 22 rfl rfl
theorem dksX4_thing_8 : cX4_thing.data.toList.drop 194 = dktX4_thing_8 := dk_seg dksX4_thing_7 24 rfl rfl
theorem dX4_thing_0 : decode cX4_thing 0 = .ok (.iload_n 1, 1) := dk_27 (dk_at dksX4_thing_0 0 rfl rfl)
theorem dX4_thing_1 : decode cX4_thing 1 = .ok (.ifCond .lt 15, 3) := dk_155 0 15 (dk_at dksX4_thing_0 1 rfl rfl)
theorem dX4_thing_4 : decode cX4_thing 4 = .ok (.iload_n 1, 1) := dk_27 (dk_at dksX4_thing_0 4 rfl rfl)
theorem dX4_thing_5 : decode cX4_thing 5 = .ok (.aload_n 0, 1) := dk_42 (dk_at dksX4_thing_0 5 rfl rfl)
theorem dX4_thing_6 : decode cX4_thing 6 = .ok (.getfield 181, 3) := dk_180 0 181 (dk_at dksX4_thing_0 6 rfl rfl)
theorem dX4_thing_9 : decode cX4_thing 9 = .ok (.if_icmp .ge 7, 3) := dk_162 0 7 (dk_at dksX4_thing_0 9 rfl rfl)
theorem dX4_thing_12 : decode cX4_thing 12 = .ok (.iconst 1, 1) := dk_4 (dk_at dksX4_thing_0 12 rfl rfl)
theorem dX4_thing_13 : decode cX4_thing 13 = .ok (.goto 4, 3) := dk_167 0 4 (dk_at dksX4_thing_0 13 rfl rfl)
theorem dX4_thing_16 : decode cX4_thing 16 = .ok (.iconst 0, 1) := dk_3 (dk_at dksX4_thing_0 16 rfl rfl)
theorem dX4_thing_17 : decode cX4_thing 17 = .ok (.istore_n 3, 1) := dk_62 (dk_at dksX4_thing_0 17 rfl rfl)
theorem dX4_thing_18 : decode cX4_thing 18 = .ok (.iload_n 3, 1) := dk_29 (dk_at dksX4_thing_0 18 rfl rfl)
theorem dX4_thing_19 : decode cX4_thing 19 = .ok (.ifCond .eq 12, 3) := dk_153 0 12 (dk_at dksX4_thing_0 19 rfl rfl)
theorem dX4_thing_22 : decode cX4_thing 22 = .ok (.aload_n 0, 1) := dk_42 (dk_at dksX4_thing_0 22 rfl rfl)
theorem dX4_thing_23 : decode cX4_thing 23 = .ok (.getfield 28, 3) := dk_180 0 28 (dk_at dksX4_thing_1 0 rfl rfl)
theorem dX4_thing_26 : decode cX4_thing 26 = .ok (.iload_n 1, 1) := dk_27 (dk_at dksX4_thing_1 3 rfl rfl)
theorem dX4_thing_27 : decode cX4_thing 27 = .ok (.aaload, 1) := dk_50 (dk_at dksX4_thing_1 4 rfl rfl)
theorem dX4_thing_28 : decode cX4_thing 28 = .ok (.goto 4, 3) := dk_167 0 4 (dk_at dksX4_thing_1 5 rfl rfl)
theorem dX4_thing_31 : decode cX4_thing 31 = .ok (.aconst_null, 1) := dk_1 (dk_at dksX4_thing_1 8 rfl rfl)
theorem dX4_thing_32 : decode cX4_thing 32 = .ok (.astore 4, 2) := dk_58 4 (dk_at dksX4_thing_1 9 rfl rfl)
theorem dX4_thing_34 : decode cX4_thing 34 = .ok (.iload_n 3, 1) := dk_29 (dk_at dksX4_thing_1 11 rfl rfl)
theorem dX4_thing_35 : decode cX4_thing 35 = .ok (.ifCond .eq 11, 3) := dk_153 0 11 (dk_at dksX4_thing_1 12 rfl rfl)
theorem dX4_thing_38 : decode cX4_thing 38 = .ok (.aload 4, 2) := dk_25 4 (dk_at dksX4_thing_1 15 rfl rfl)
theorem dX4_thing_40 : decode cX4_thing 40 = .ok (.getfield 242, 3) := dk_180 0 242 (dk_at dksX4_thing_1 17 rfl rfl)
theorem dX4_thing_43 : decode cX4_thing 43 = .ok (.ifnonnull 7, 3) := dk_199 0 7 (dk_at dksX4_thing_1 20 rfl rfl)
theorem dX4_thing_46 : decode cX4_thing 46 = .ok (.iconst 0, 1) := dk_3 (dk_at dksX4_thing_1 23 rfl rfl)
theorem dX4_thing_47 : decode cX4_thing 47 = .ok (.goto 9, 3) := dk_167 0 9 (dk_at dksX4_thing_2 0 rfl rfl)
theorem dX4_thing_50 : decode cX4_thing 50 = .ok (.aload 4, 2) := dk_25 4 (dk_at dksX4_thing_2 3 rfl rfl)
theorem dX4_thing_52 : decode cX4_thing 52 = .ok (.getfield 242, 3) := dk_180 0 242 (dk_at dksX4_thing_2 5 rfl rfl)
theorem dX4_thing_55 : decode cX4_thing 55 = .ok (.arraylength, 1) := dk_190 (dk_at dksX4_thing_2 8 rfl rfl)
theorem dX4_thing_56 : decode cX4_thing 56 = .ok (.istore 5, 2) := dk_54 5 (dk_at dksX4_thing_2 9 rfl rfl)
theorem dX4_thing_58 : decode cX4_thing 58 = .ok (.aload_n 0, 1) := dk_42 (dk_at dksX4_thing_2 11 rfl rfl)
theorem dX4_thing_59 : decode cX4_thing 59 = .ok (.iload_n 3, 1) := dk_29 (dk_at dksX4_thing_2 12 rfl rfl)
theorem dX4_thing_60 : decode cX4_thing 60 = .ok (.ifCond .eq 32, 3) := dk_153 0 32 (dk_at dksX4_thing_2 13 rfl rfl)
theorem dX4_thing_63 : decode cX4_thing 63 = .ok (.iload_n 2, 1) := dk_28 (dk_at dksX4_thing_2 16 rfl rfl)
theorem dX4_thing_64 : decode cX4_thing 64 = .ok (.ifCond .lt 9, 3) := dk_155 0 9 (dk_at dksX4_thing_2 17 rfl rfl)
theorem dX4_thing_67 : decode cX4_thing 67 = .ok (.iload_n 2, 1) := dk_28 (dk_at dksX4_thing_2 20 rfl rfl)
theorem dX4_thing_68 : decode cX4_thing 68 = .ok (.bipush 6, 2) := dk_16 6 (dk_at dksX4_thing_2 21 rfl rfl)
theorem dX4_thing_70 : decode cX4_thing 70 = .ok (.if_icmp .le 18, 3) := dk_164 0 18 (dk_at dksX4_thing_3 0 rfl rfl)
theorem dX4_thing_73 : decode cX4_thing 73 = .ok (.iload_n 2, 1) := dk_28 (dk_at dksX4_thing_3 3 rfl rfl)
theorem dX4_thing_74 : decode cX4_thing 74 = .ok (.bipush 100, 2) := dk_16 100 (dk_at dksX4_thing_3 4 rfl rfl)
theorem dX4_thing_76 : decode cX4_thing 76 = .ok (.if_icmp .lt 16, 3) := dk_161 0 16 (dk_at dksX4_thing_3 6 rfl rfl)
theorem dX4_thing_79 : decode cX4_thing 79 = .ok (.iload_n 2, 1) := dk_28 (dk_at dksX4_thing_3 9 rfl rfl)
theorem dX4_thing_80 : decode cX4_thing 80 = .ok (.bipush 100, 2) := dk_16 100 (dk_at dksX4_thing_3 10 rfl rfl)
theorem dX4_thing_82 : decode cX4_thing 82 = .ok (.iload 5, 2) := dk_21 5 (dk_at dksX4_thing_3 12 rfl rfl)
theorem dX4_thing_84 : decode cX4_thing 84 = .ok (.iadd, 1) := dk_96 (dk_at dksX4_thing_3 14 rfl rfl)
theorem dX4_thing_85 : decode cX4_thing 85 = .ok (.if_icmp .ge 7, 3) := dk_162 0 7 (dk_at dksX4_thing_3 15 rfl rfl)
theorem dX4_thing_88 : decode cX4_thing 88 = .ok (.iconst 0, 1) := dk_3 (dk_at dksX4_thing_3 18 rfl rfl)
theorem dX4_thing_89 : decode cX4_thing 89 = .ok (.goto 4, 3) := dk_167 0 4 (dk_at dksX4_thing_3 19 rfl rfl)
theorem dX4_thing_92 : decode cX4_thing 92 = .ok (.iconst 1, 1) := dk_4 (dk_at dksX4_thing_3 22 rfl rfl)
theorem dX4_thing_93 : decode cX4_thing 93 = .ok (.putfield 32, 3) := dk_181 0 32 (dk_at dksX4_thing_4 0 rfl rfl)
theorem dX4_thing_96 : decode cX4_thing 96 = .ok (.aload_n 0, 1) := dk_42 (dk_at dksX4_thing_4 3 rfl rfl)
theorem dX4_thing_97 : decode cX4_thing 97 = .ok (.getfield 32, 3) := dk_180 0 32 (dk_at dksX4_thing_4 4 rfl rfl)
theorem dX4_thing_100 : decode cX4_thing 100 = .ok (.ifCond .eq 5, 3) := dk_153 0 5 (dk_at dksX4_thing_4 7 rfl rfl)
theorem dX4_thing_103 : decode cX4_thing 103 = .ok (.iconst 0, 1) := dk_3 (dk_at dksX4_thing_4 10 rfl rfl)
theorem dX4_thing_104 : decode cX4_thing 104 = .ok (.ireturn, 1) := dk_172 (dk_at dksX4_thing_4 11 rfl rfl)
theorem dX4_thing_105 : decode cX4_thing 105 = .ok (.iload_n 2, 1) := dk_28 (dk_at dksX4_thing_4 12 rfl rfl)
theorem dX4_thing_106 : decode cX4_thing 106 = .ok (.tableswitch 100 0 6 #[42, 48, 55, 61, 76, 83, 86], 42) := by decide +kernel
theorem dX4_thing_148 : decode cX4_thing 148 = .ok (.aload 4, 2) := dk_25 4 (dk_at dksX4_thing_6 0 rfl rfl)
theorem dX4_thing_150 : decode cX4_thing 150 = .ok (.getfield 188, 3) := dk_180 0 188 (dk_at dksX4_thing_6 2 rfl rfl)
theorem dX4_thing_153 : decode cX4_thing 153 = .ok (.ireturn, 1) := dk_172 (dk_at dksX4_thing_6 5 rfl rfl)
theorem dX4_thing_154 : decode cX4_thing 154 = .ok (.aload_n 0, 1) := dk_42 (dk_at dksX4_thing_6 6 rfl rfl)
theorem dX4_thing_155 : decode cX4_thing 155 = .ok (.aload 4, 2) := dk_25 4 (dk_at dksX4_thing_6 7 rfl rfl)
theorem dX4_thing_157 : decode cX4_thing 157 = .ok (.invokevirtual 170, 3) := dk_182 0 170 (dk_at dksX4_thing_6 9 rfl rfl)
theorem dX4_thing_160 : decode cX4_thing 160 = .ok (.ireturn, 1) := dk_172 (dk_at dksX4_thing_6 12 rfl rfl)
theorem dX4_thing_161 : decode cX4_thing 161 = .ok (.aload 4, 2) := dk_25 4 (dk_at dksX4_thing_6 13 rfl rfl)
theorem dX4_thing_163 : decode cX4_thing 163 = .ok (.getfield 158, 3) := dk_180 0 158 (dk_at dksX4_thing_6 15 rfl rfl)
theorem dX4_thing_166 : decode cX4_thing 166 = .ok (.ireturn, 1) := dk_172 (dk_at dksX4_thing_6 18 rfl rfl)
theorem dX4_thing_167 : decode cX4_thing 167 = .ok (.aload_n 0, 1) := dk_42 (dk_at dksX4_thing_6 19 rfl rfl)
theorem dX4_thing_168 : decode cX4_thing 168 = .ok (.aload 4, 2) := dk_25 4 (dk_at dksX4_thing_6 20 rfl rfl)
theorem dX4_thing_170 : decode cX4_thing 170 = .ok (.invokevirtual 209, 3) := dk_182 0 209 (dk_at dksX4_thing_7 0 rfl rfl)
theorem dX4_thing_173 : decode cX4_thing 173 = .ok (.ifCond .eq 7, 3) := dk_153 0 7 (dk_at dksX4_thing_7 3 rfl rfl)
theorem dX4_thing_176 : decode cX4_thing 176 = .ok (.iconst 1, 1) := dk_4 (dk_at dksX4_thing_7 6 rfl rfl)
theorem dX4_thing_177 : decode cX4_thing 177 = .ok (.goto 4, 3) := dk_167 0 4 (dk_at dksX4_thing_7 7 rfl rfl)
theorem dX4_thing_180 : decode cX4_thing 180 = .ok (.iconst 0, 1) := dk_3 (dk_at dksX4_thing_7 10 rfl rfl)
theorem dX4_thing_181 : decode cX4_thing 181 = .ok (.ireturn, 1) := dk_172 (dk_at dksX4_thing_7 11 rfl rfl)
theorem dX4_thing_182 : decode cX4_thing 182 = .ok (.aload 4, 2) := dk_25 4 (dk_at dksX4_thing_7 12 rfl rfl)
theorem dX4_thing_184 : decode cX4_thing 184 = .ok (.getfield 191, 3) := dk_180 0 191 (dk_at dksX4_thing_7 14 rfl rfl)
theorem dX4_thing_187 : decode cX4_thing 187 = .ok (.arraylength, 1) := dk_190 (dk_at dksX4_thing_7 17 rfl rfl)
theorem dX4_thing_188 : decode cX4_thing 188 = .ok (.ireturn, 1) := dk_172 (dk_at dksX4_thing_7 18 rfl rfl)
theorem dX4_thing_189 : decode cX4_thing 189 = .ok (.iload 5, 2) := dk_21 5 (dk_at dksX4_thing_7 19 rfl rfl)
theorem dX4_thing_191 : decode cX4_thing 191 = .ok (.ireturn, 1) := dk_172 (dk_at dksX4_thing_7 21 rfl rfl)
theorem dX4_thing_192 : decode cX4_thing 192 = .ok (.aload 4, 2) := dk_25 4 (dk_at dksX4_thing_7 22 rfl rfl)
theorem dX4_thing_194 : decode cX4_thing 194 = .ok (.getfield 145, 3) := dk_180 0 145 (dk_at dksX4_thing_8 0 rfl rfl)
theorem dX4_thing_197 : decode cX4_thing 197 = .ok (.ifCond .eq 7, 3) := dk_153 0 7 (dk_at dksX4_thing_8 3 rfl rfl)
theorem dX4_thing_200 : decode cX4_thing 200 = .ok (.iconst 1, 1) := dk_4 (dk_at dksX4_thing_8 6 rfl rfl)
theorem dX4_thing_201 : decode cX4_thing 201 = .ok (.goto 4, 3) := dk_167 0 4 (dk_at dksX4_thing_8 7 rfl rfl)
theorem dX4_thing_204 : decode cX4_thing 204 = .ok (.iconst 0, 1) := dk_3 (dk_at dksX4_thing_8 10 rfl rfl)
theorem dX4_thing_205 : decode cX4_thing 205 = .ok (.ireturn, 1) := dk_172 (dk_at dksX4_thing_8 11 rfl rfl)
theorem dX4_thing_206 : decode cX4_thing 206 = .ok (.aload 4, 2) := dk_25 4 (dk_at dksX4_thing_8 12 rfl rfl)
theorem dX4_thing_208 : decode cX4_thing 208 = .ok (.getfield 242, 3) := dk_180 0 242 (dk_at dksX4_thing_8 14 rfl rfl)
theorem dX4_thing_211 : decode cX4_thing 211 = .ok (.iload_n 2, 1) := dk_28 (dk_at dksX4_thing_8 17 rfl rfl)
theorem dX4_thing_212 : decode cX4_thing 212 = .ok (.bipush 100, 2) := dk_16 100 (dk_at dksX4_thing_8 18 rfl rfl)
theorem dX4_thing_214 : decode cX4_thing 214 = .ok (.isub, 1) := dk_100 (dk_at dksX4_thing_8 20 rfl rfl)
theorem dX4_thing_215 : decode cX4_thing 215 = .ok (.iaload, 1) := dk_46 (dk_at dksX4_thing_8 21 rfl rfl)
theorem dX4_thing_216 : decode cX4_thing 216 = .ok (.ireturn, 1) := dk_172 (dk_at dksX4_thing_8 22 rfl rfl)
abbrev cX4_things : ByteArray := prog_7_method_44_code
def yX4_things : MethodName := ⟨RX4, "things", "()I"⟩
def dkwX4_things_0 : List UInt8 := [42, 3, 181, 0, 32, 42, 180, 0, 181, 172]
abbrev dktX4_things_0 : List UInt8 := dkwX4_things_0 ++ []
theorem dksX4_things_0 : cX4_things.data.toList.drop 0 = dktX4_things_0 := by decide +kernel
theorem dX4_things_0 : decode cX4_things 0 = .ok (.aload_n 0, 1) := dk_42 (dk_at dksX4_things_0 0 rfl rfl)
theorem dX4_things_1 : decode cX4_things 1 = .ok (.iconst 0, 1) := dk_3 (dk_at dksX4_things_0 1 rfl rfl)
theorem dX4_things_2 : decode cX4_things 2 = .ok (.putfield 32, 3) := dk_181 0 32 (dk_at dksX4_things_0 2 rfl rfl)
theorem dX4_things_5 : decode cX4_things 5 = .ok (.aload_n 0, 1) := dk_42 (dk_at dksX4_things_0 5 rfl rfl)
theorem dX4_things_6 : decode cX4_things 6 = .ok (.getfield 181, 3) := dk_180 0 181 (dk_at dksX4_things_0 6 rfl rfl)
theorem dX4_things_9 : decode cX4_things 9 = .ok (.ireturn, 1) := dk_172 (dk_at dksX4_things_0 9 rfl rfl)
theorem q57 : (Jvm.Cond.initialized "VaryStoreModel") ∈ lw_all := lw_g (lw_at lw_m1 26 rfl) rfl
theorem q526 : (Jvm.Cond.selects "VaryStoreModel" ({ cls := "java/lang/Object", name := "getClass", desc := "()Ljava/lang/Class;" } : Jvm.MethodName) ({ cls := "java/lang/Object", name := "getClass", desc := "()Ljava/lang/Class;" } : Jvm.MethodName)) ∈ lw_all := lw_g (lw_at lw_m3 15 rfl) rfl
theorem q970 : (Jvm.Cond.selects "VaryStoreModel" ({ cls := "java/lang/Object", name := "equals", desc := "(Ljava/lang/Object;)Z" } : Jvm.MethodName) ({ cls := "java/lang/Object", name := "equals", desc := "(Ljava/lang/Object;)Z" } : Jvm.MethodName)) ∈ lw_all := lw_g (lw_at lw_m4 219 rfl) rfl
theorem q1121 : (Jvm.Cond.instantiable "VaryStoreModel" (9 : Nat)) ∈ lw_all := lw_g (lw_at lw_m5 130 rfl) rfl
theorem q1123 : (Jvm.Cond.instanceMethod ({ cls := "VaryStoreModel", name := "<init>", desc := "()V" } : Jvm.MethodName)) ∈ lw_all := lw_g (lw_at lw_m5 132 rfl) rfl
theorem q1124 : (Jvm.Cond.code ({ cls := "VaryStoreModel", name := "<init>", desc := "()V" } : Jvm.MethodName) prog_7_method_1_code (1 : Nat) (Option.none : Option Jvm.ClassFile.FieldType)) ∈ lw_all := lw_g (lw_at lw_m5 133 rfl) rfl
theorem q1125 : (Jvm.Cond.methodLink "VaryStoreModel" (1 : Nat) ({ cls := "java/lang/Object", name := "<init>", desc := "()V" } : Jvm.MethodName)) ∈ lw_all := lw_g (lw_at lw_m5 134 rfl) rfl
theorem q1126 : (Jvm.Cond.classLink "VaryStoreModel" (17 : Nat) "VaryStoreModel$Text") ∈ lw_all := lw_g (lw_at lw_m5 135 rfl) rfl
theorem q1128 : (Jvm.Cond.methodLink "VaryStoreModel" (19 : Nat) ({ cls := "VaryStoreModel$Text", name := "<init>", desc := "(I)V" } : Jvm.MethodName)) ∈ lw_all := lw_g (lw_at lw_m5 137 rfl) rfl
theorem q1133 : (Jvm.Cond.fieldLink "VaryStoreModel" (47 : Nat) "VaryStoreModel$Text" "chars" "[I") ∈ lw_all := lw_g (lw_at lw_m5 142 rfl) rfl
theorem q1134 : (Jvm.Cond.fieldLink "VaryStoreModel" (57 : Nat) "VaryStoreModel$Text" "lines" "I") ∈ lw_all := lw_g (lw_at lw_m5 143 rfl) rfl
theorem q1136 : (Jvm.Cond.fieldLink "VaryStoreModel" (54 : Nat) "VaryStoreModel$Text" "begin" "[I") ∈ lw_all := lw_g (lw_at lw_m5 145 rfl) rfl
theorem q1138 : (Jvm.Cond.fieldLink "VaryStoreModel" (60 : Nat) "VaryStoreModel$Text" "colon" "[I") ∈ lw_all := lw_g (lw_at lw_m5 147 rfl) rfl
theorem q1140 : (Jvm.Cond.fieldLink "VaryStoreModel" (63 : Nat) "VaryStoreModel$Text" "end" "[I") ∈ lw_all := lw_g (lw_at lw_m5 149 rfl) rfl
theorem q1153 : (Jvm.Cond.classLink "VaryStoreModel" (26 : Nat) "VaryStoreModel$Thing") ∈ lw_all := lw_g (lw_at lw_m5 162 rfl) rfl
theorem q1155 : (Jvm.Cond.fieldLink "VaryStoreModel" (7 : Nat) "VaryStoreModel" "tape" "[I") ∈ lw_all := lw_g (lw_at lw_m5 164 rfl) rfl
theorem q1156 : (Jvm.Cond.fieldLink "VaryStoreModel" (35 : Nat) "VaryStoreModel" "tapeLong" "I") ∈ lw_all := lw_g (lw_at lw_m5 165 rfl) rfl
theorem q1157 : (Jvm.Cond.fieldLink "VaryStoreModel" (13 : Nat) "VaryStoreModel" "fault" "I") ∈ lw_all := lw_g (lw_at lw_m5 166 rfl) rfl
theorem q1158 : (Jvm.Cond.fieldLink "VaryStoreModel" (164 : Nat) "VaryStoreModel" "time" "I") ∈ lw_all := lw_g (lw_at lw_m5 167 rfl) rfl
theorem q1159 : (Jvm.Cond.fieldLink "VaryStoreModel" (32 : Nat) "VaryStoreModel" "thrown" "I") ∈ lw_all := lw_g (lw_at lw_m5 168 rfl) rfl
theorem q1160 : (Jvm.Cond.fieldLink "VaryStoreModel" (174 : Nat) "VaryStoreModel" "events" "J") ∈ lw_all := lw_g (lw_at lw_m5 169 rfl) rfl
theorem q1161 : (Jvm.Cond.fieldLink "VaryStoreModel" (22 : Nat) "VaryStoreModel" "request" "LVaryStoreModel$Text;") ∈ lw_all := lw_g (lw_at lw_m5 170 rfl) rfl
theorem q1162 : (Jvm.Cond.fieldLink "VaryStoreModel" (28 : Nat) "VaryStoreModel" "things" "[LVaryStoreModel$Thing;") ∈ lw_all := lw_g (lw_at lw_m5 171 rfl) rfl
theorem q1163 : (Jvm.Cond.fieldLink "VaryStoreModel" (181 : Nat) "VaryStoreModel" "many" "I") ∈ lw_all := lw_g (lw_at lw_m5 172 rfl) rfl
theorem q1164 : (Jvm.Cond.laysFinal "VaryStoreModel" "VaryStoreModel" "tape" "[I") ∈ lw_all := lw_g (lw_at lw_m5 173 rfl) rfl
theorem q1165 : (Jvm.Cond.soleField "VaryStoreModel" "tape") ∈ lw_all := lw_g (lw_at lw_m5 174 rfl) rfl
theorem q1166 : (Jvm.Cond.lays "VaryStoreModel" "VaryStoreModel" "tapeLong" "I") ∈ lw_all := lw_g (lw_at lw_m5 175 rfl) rfl
theorem q1167 : (Jvm.Cond.soleField "VaryStoreModel" "tapeLong") ∈ lw_all := lw_g (lw_at lw_m5 176 rfl) rfl
theorem q1168 : (Jvm.Cond.lays "VaryStoreModel" "VaryStoreModel" "fault" "I") ∈ lw_all := lw_g (lw_at lw_m5 177 rfl) rfl
theorem q1169 : (Jvm.Cond.soleField "VaryStoreModel" "fault") ∈ lw_all := lw_g (lw_at lw_m5 178 rfl) rfl
theorem q1170 : (Jvm.Cond.lays "VaryStoreModel" "VaryStoreModel" "time" "I") ∈ lw_all := lw_g (lw_at lw_m5 179 rfl) rfl
theorem q1171 : (Jvm.Cond.soleField "VaryStoreModel" "time") ∈ lw_all := lw_g (lw_at lw_m5 180 rfl) rfl
theorem q1172 : (Jvm.Cond.lays "VaryStoreModel" "VaryStoreModel" "thrown" "I") ∈ lw_all := lw_g (lw_at lw_m5 181 rfl) rfl
theorem q1173 : (Jvm.Cond.soleField "VaryStoreModel" "thrown") ∈ lw_all := lw_g (lw_at lw_m5 182 rfl) rfl
theorem q1174 : (Jvm.Cond.lays "VaryStoreModel" "VaryStoreModel" "events" "J") ∈ lw_all := lw_g (lw_at lw_m5 183 rfl) rfl
theorem q1175 : (Jvm.Cond.soleField "VaryStoreModel" "events") ∈ lw_all := lw_g (lw_at lw_m5 184 rfl) rfl
theorem q1176 : (Jvm.Cond.lays "VaryStoreModel" "VaryStoreModel" "request" "LVaryStoreModel$Text;") ∈ lw_all := lw_g (lw_at lw_m5 185 rfl) rfl
theorem q1177 : (Jvm.Cond.soleField "VaryStoreModel" "request") ∈ lw_all := lw_g (lw_at lw_m5 186 rfl) rfl
theorem q1178 : (Jvm.Cond.laysFinal "VaryStoreModel" "VaryStoreModel" "things" "[LVaryStoreModel$Thing;") ∈ lw_all := lw_g (lw_at lw_m5 187 rfl) rfl
theorem q1179 : (Jvm.Cond.soleField "VaryStoreModel" "things") ∈ lw_all := lw_g (lw_at lw_m5 188 rfl) rfl
theorem q1180 : (Jvm.Cond.lays "VaryStoreModel" "VaryStoreModel" "many" "I") ∈ lw_all := lw_g (lw_at lw_m5 189 rfl) rfl
theorem q1181 : (Jvm.Cond.soleField "VaryStoreModel" "many") ∈ lw_all := lw_g (lw_at lw_m5 190 rfl) rfl
theorem q1182 : (Jvm.Cond.superclass "VaryStoreModel" "java/lang/Object") ∈ lw_all := lw_g (lw_at lw_m5 191 rfl) rfl
theorem q1184 : (Jvm.Cond.instanceMethod ({ cls := "VaryStoreModel", name := "thrown", desc := "()I" } : Jvm.MethodName)) ∈ lw_all := lw_g (lw_at lw_m5 193 rfl) rfl
theorem q1185 : (Jvm.Cond.selects "VaryStoreModel" ({ cls := "VaryStoreModel", name := "thrown", desc := "()I" } : Jvm.MethodName) ({ cls := "VaryStoreModel", name := "thrown", desc := "()I" } : Jvm.MethodName)) ∈ lw_all := lw_g (lw_at lw_m5 194 rfl) rfl
theorem q1186 : (Jvm.Cond.code ({ cls := "VaryStoreModel", name := "thrown", desc := "()I" } : Jvm.MethodName) prog_7_method_2_code (1 : Nat) (Option.some Jvm.ClassFile.FieldType.int)) ∈ lw_all := lw_g (lw_at lw_m5 195 rfl) rfl
theorem q1188 : (Jvm.Cond.instanceMethod ({ cls := "VaryStoreModel", name := "type", desc := "(JI)Z" } : Jvm.MethodName)) ∈ lw_all := lw_g (lw_at lw_m5 197 rfl) rfl
theorem q1189 : (Jvm.Cond.selects "VaryStoreModel" ({ cls := "VaryStoreModel", name := "type", desc := "(JI)Z" } : Jvm.MethodName) ({ cls := "VaryStoreModel", name := "type", desc := "(JI)Z" } : Jvm.MethodName)) ∈ lw_all := lw_g (lw_at lw_m5 198 rfl) rfl
theorem q1190 : (Jvm.Cond.code ({ cls := "VaryStoreModel", name := "type", desc := "(JI)Z" } : Jvm.MethodName) prog_7_method_3_code (6 : Nat) (Option.some Jvm.ClassFile.FieldType.boolean)) ∈ lw_all := lw_g (lw_at lw_m5 199 rfl) rfl
theorem q1191 : (Jvm.Cond.constantLong "VaryStoreModel" (38 : Nat) (255 : Int64)) ∈ lw_all := lw_g (lw_at lw_m5 200 rfl) rfl
theorem q1193 : (Jvm.Cond.instanceMethod ({ cls := "VaryStoreModel", name := "ask", desc := "(I)I" } : Jvm.MethodName)) ∈ lw_all := lw_g (lw_at lw_m5 202 rfl) rfl
theorem q1194 : (Jvm.Cond.selects "VaryStoreModel" ({ cls := "VaryStoreModel", name := "ask", desc := "(I)I" } : Jvm.MethodName) ({ cls := "VaryStoreModel", name := "ask", desc := "(I)I" } : Jvm.MethodName)) ∈ lw_all := lw_g (lw_at lw_m5 203 rfl) rfl
theorem q1195 : (Jvm.Cond.code ({ cls := "VaryStoreModel", name := "ask", desc := "(I)I" } : Jvm.MethodName) prog_7_method_35_code (6 : Nat) (Option.some Jvm.ClassFile.FieldType.int)) ∈ lw_all := lw_g (lw_at lw_m5 204 rfl) rfl
theorem q1196 : (Jvm.Cond.methodLink "VaryStoreModel" (213 : Nat) ({ cls := "VaryStoreModel", name := "read", desc := "()LVaryStoreModel$Text;" } : Jvm.MethodName)) ∈ lw_all := lw_g (lw_at lw_m5 205 rfl) rfl
theorem q1197 : (Jvm.Cond.privateMethod ({ cls := "VaryStoreModel", name := "read", desc := "()LVaryStoreModel$Text;" } : Jvm.MethodName)) ∈ lw_tbl := lw_at lw_m5 206 rfl
theorem q1198 : (Jvm.Cond.instanceMethod ({ cls := "VaryStoreModel", name := "read", desc := "()LVaryStoreModel$Text;" } : Jvm.MethodName)) ∈ lw_all := lw_g (lw_at lw_m5 207 rfl) rfl
theorem q1199 : (Jvm.Cond.code ({ cls := "VaryStoreModel", name := "read", desc := "()LVaryStoreModel$Text;" } : Jvm.MethodName) prog_7_method_8_code (6 : Nat) (Option.some (Jvm.ClassFile.FieldType.object "VaryStoreModel$Text"))) ∈ lw_all := lw_g (lw_at lw_m5 208 rfl) rfl
theorem q1200 : (Jvm.Cond.methodLink "VaryStoreModel" (50 : Nat) ({ cls := "VaryStoreModel", name := "isName", desc := "([III)Z" } : Jvm.MethodName)) ∈ lw_all := lw_g (lw_at lw_m5 209 rfl) rfl
theorem q1201 : (Jvm.Cond.static ({ cls := "VaryStoreModel", name := "isName", desc := "([III)Z" } : Jvm.MethodName)) ∈ lw_all := lw_g (lw_at lw_m5 210 rfl) rfl
theorem q1202 : (Jvm.Cond.code ({ cls := "VaryStoreModel", name := "isName", desc := "([III)Z" } : Jvm.MethodName) prog_7_method_7_code (4 : Nat) (Option.some Jvm.ClassFile.FieldType.boolean)) ∈ lw_all := lw_g (lw_at lw_m5 211 rfl) rfl
theorem q1203 : (Jvm.Cond.methodLink "VaryStoreModel" (44 : Nat) ({ cls := "VaryStoreModel", name := "isNameSign", desc := "(I)Z" } : Jvm.MethodName)) ∈ lw_all := lw_g (lw_at lw_m5 212 rfl) rfl
theorem q1204 : (Jvm.Cond.static ({ cls := "VaryStoreModel", name := "isNameSign", desc := "(I)Z" } : Jvm.MethodName)) ∈ lw_all := lw_g (lw_at lw_m5 213 rfl) rfl
theorem q1205 : (Jvm.Cond.code ({ cls := "VaryStoreModel", name := "isNameSign", desc := "(I)Z" } : Jvm.MethodName) prog_7_method_6_code (1 : Nat) (Option.some Jvm.ClassFile.FieldType.boolean)) ∈ lw_all := lw_g (lw_at lw_m5 214 rfl) rfl
theorem q1206 : (Jvm.Cond.methodLink "VaryStoreModel" (40 : Nat) ({ cls := "VaryStoreModel", name := "isDigit", desc := "(I)Z" } : Jvm.MethodName)) ∈ lw_all := lw_g (lw_at lw_m5 215 rfl) rfl
theorem q1207 : (Jvm.Cond.static ({ cls := "VaryStoreModel", name := "isDigit", desc := "(I)Z" } : Jvm.MethodName)) ∈ lw_all := lw_g (lw_at lw_m5 216 rfl) rfl
theorem q1208 : (Jvm.Cond.code ({ cls := "VaryStoreModel", name := "isDigit", desc := "(I)Z" } : Jvm.MethodName) prog_7_method_5_code (1 : Nat) (Option.some Jvm.ClassFile.FieldType.boolean)) ∈ lw_all := lw_g (lw_at lw_m5 217 rfl) rfl
theorem q1209 : (Jvm.Cond.methodLink "VaryStoreModel" (217 : Nat) ({ cls := "VaryStoreModel", name := "isPath", desc := "(I)Z" } : Jvm.MethodName)) ∈ lw_all := lw_g (lw_at lw_m5 218 rfl) rfl
theorem q1210 : (Jvm.Cond.static ({ cls := "VaryStoreModel", name := "isPath", desc := "(I)Z" } : Jvm.MethodName)) ∈ lw_all := lw_g (lw_at lw_m5 219 rfl) rfl
theorem q1211 : (Jvm.Cond.code ({ cls := "VaryStoreModel", name := "isPath", desc := "(I)Z" } : Jvm.MethodName) prog_7_method_33_code (1 : Nat) (Option.some Jvm.ClassFile.FieldType.boolean)) ∈ lw_all := lw_g (lw_at lw_m5 220 rfl) rfl
theorem q1212 : (Jvm.Cond.methodLink "VaryStoreModel" (220 : Nat) ({ cls := "VaryStoreModel", name := "cacheControl", desc := "()[I" } : Jvm.MethodName)) ∈ lw_all := lw_g (lw_at lw_m5 221 rfl) rfl
theorem q1213 : (Jvm.Cond.static ({ cls := "VaryStoreModel", name := "cacheControl", desc := "()[I" } : Jvm.MethodName)) ∈ lw_all := lw_g (lw_at lw_m5 222 rfl) rfl
theorem q1214 : (Jvm.Cond.code ({ cls := "VaryStoreModel", name := "cacheControl", desc := "()[I" } : Jvm.MethodName) prog_7_method_22_code (0 : Nat) (Option.some (Jvm.ClassFile.FieldType.array Jvm.ClassFile.FieldType.int))) ∈ lw_all := lw_g (lw_at lw_m5 223 rfl) rfl
theorem q1215 : (Jvm.Cond.constantLong "VaryStoreModel" (109 : Nat) (7161114182521021295 : Int64)) ∈ lw_all := lw_g (lw_at lw_m5 224 rfl) rfl
theorem q1216 : (Jvm.Cond.constantLong "VaryStoreModel" (111 : Nat) (474400059244 : Int64)) ∈ lw_all := lw_g (lw_at lw_m5 225 rfl) rfl
theorem q1217 : (Jvm.Cond.methodLink "VaryStoreModel" (105 : Nat) ({ cls := "VaryStoreModel", name := "name", desc := "(JJ)[I" } : Jvm.MethodName)) ∈ lw_all := lw_g (lw_at lw_m5 226 rfl) rfl
theorem q1218 : (Jvm.Cond.static ({ cls := "VaryStoreModel", name := "name", desc := "(JJ)[I" } : Jvm.MethodName)) ∈ lw_all := lw_g (lw_at lw_m5 227 rfl) rfl
theorem q1219 : (Jvm.Cond.code ({ cls := "VaryStoreModel", name := "name", desc := "(JJ)[I" } : Jvm.MethodName) prog_7_method_14_code (8 : Nat) (Option.some (Jvm.ClassFile.FieldType.array Jvm.ClassFile.FieldType.int))) ∈ lw_all := lw_g (lw_at lw_m5 228 rfl) rfl
theorem q1220 : (Jvm.Cond.methodLink "VaryStoreModel" (91 : Nat) ({ cls := "VaryStoreModel", name := "valueOf", desc := "(LVaryStoreModel$Text;[I)[I" } : Jvm.MethodName)) ∈ lw_all := lw_g (lw_at lw_m5 229 rfl) rfl
theorem q1221 : (Jvm.Cond.static ({ cls := "VaryStoreModel", name := "valueOf", desc := "(LVaryStoreModel$Text;[I)[I" } : Jvm.MethodName)) ∈ lw_all := lw_g (lw_at lw_m5 230 rfl) rfl
theorem q1222 : (Jvm.Cond.code ({ cls := "VaryStoreModel", name := "valueOf", desc := "(LVaryStoreModel$Text;[I)[I" } : Jvm.MethodName) prog_7_method_13_code (7 : Nat) (Option.some (Jvm.ClassFile.FieldType.array Jvm.ClassFile.FieldType.int))) ∈ lw_all := lw_g (lw_at lw_m5 231 rfl) rfl
theorem q1223 : (Jvm.Cond.methodLink "VaryStoreModel" (66 : Nat) ({ cls := "VaryStoreModel", name := "small", desc := "(I)I" } : Jvm.MethodName)) ∈ lw_all := lw_g (lw_at lw_m5 232 rfl) rfl
theorem q1224 : (Jvm.Cond.static ({ cls := "VaryStoreModel", name := "small", desc := "(I)I" } : Jvm.MethodName)) ∈ lw_all := lw_g (lw_at lw_m5 233 rfl) rfl
theorem q1225 : (Jvm.Cond.code ({ cls := "VaryStoreModel", name := "small", desc := "(I)I" } : Jvm.MethodName) prog_7_method_4_code (1 : Nat) (Option.some Jvm.ClassFile.FieldType.int)) ∈ lw_all := lw_g (lw_at lw_m5 234 rfl) rfl
theorem q1226 : (Jvm.Cond.methodLink "VaryStoreModel" (70 : Nat) ({ cls := "VaryStoreModel", name := "trimmed", desc := "([III)[I" } : Jvm.MethodName)) ∈ lw_all := lw_g (lw_at lw_m5 235 rfl) rfl
theorem q1227 : (Jvm.Cond.static ({ cls := "VaryStoreModel", name := "trimmed", desc := "([III)[I" } : Jvm.MethodName)) ∈ lw_all := lw_g (lw_at lw_m5 236 rfl) rfl
theorem q1228 : (Jvm.Cond.code ({ cls := "VaryStoreModel", name := "trimmed", desc := "([III)[I" } : Jvm.MethodName) prog_7_method_9_code (7 : Nat) (Option.some (Jvm.ClassFile.FieldType.array Jvm.ClassFile.FieldType.int))) ∈ lw_all := lw_g (lw_at lw_m5 237 rfl) rfl
theorem q1229 : (Jvm.Cond.methodLink "VaryStoreModel" (74 : Nat) ({ cls := "VaryStoreModel", name := "joined", desc := "([I[I)[I" } : Jvm.MethodName)) ∈ lw_all := lw_g (lw_at lw_m5 238 rfl) rfl
theorem q1230 : (Jvm.Cond.static ({ cls := "VaryStoreModel", name := "joined", desc := "([I[I)[I" } : Jvm.MethodName)) ∈ lw_all := lw_g (lw_at lw_m5 239 rfl) rfl
theorem q1231 : (Jvm.Cond.code ({ cls := "VaryStoreModel", name := "joined", desc := "([I[I)[I" } : Jvm.MethodName) prog_7_method_12_code (4 : Nat) (Option.some (Jvm.ClassFile.FieldType.array Jvm.ClassFile.FieldType.int))) ∈ lw_all := lw_g (lw_at lw_m6 0 rfl) rfl
theorem q1232 : (Jvm.Cond.methodLink "VaryStoreModel" (224 : Nat) ({ cls := "VaryStoreModel", name := "theOne", desc := "(I)I" } : Jvm.MethodName)) ∈ lw_all := lw_g (lw_at lw_m6 1 rfl) rfl
theorem q1233 : (Jvm.Cond.privateMethod ({ cls := "VaryStoreModel", name := "theOne", desc := "(I)I" } : Jvm.MethodName)) ∈ lw_tbl := lw_at lw_m6 2 rfl
theorem q1234 : (Jvm.Cond.instanceMethod ({ cls := "VaryStoreModel", name := "theOne", desc := "(I)I" } : Jvm.MethodName)) ∈ lw_all := lw_g (lw_at lw_m6 3 rfl) rfl
theorem q1235 : (Jvm.Cond.code ({ cls := "VaryStoreModel", name := "theOne", desc := "(I)I" } : Jvm.MethodName) prog_7_method_32_code (7 : Nat) (Option.some Jvm.ClassFile.FieldType.int)) ∈ lw_all := lw_g (lw_at lw_m6 4 rfl) rfl
theorem q1236 : (Jvm.Cond.methodLink "VaryStoreModel" (198 : Nat) ({ cls := "VaryStoreModel", name := "alike", desc := "([I[I)Z" } : Jvm.MethodName)) ∈ lw_all := lw_g (lw_at lw_m6 5 rfl) rfl
theorem q1237 : (Jvm.Cond.static ({ cls := "VaryStoreModel", name := "alike", desc := "([I[I)Z" } : Jvm.MethodName)) ∈ lw_all := lw_g (lw_at lw_m6 6 rfl) rfl
theorem q1238 : (Jvm.Cond.code ({ cls := "VaryStoreModel", name := "alike", desc := "([I[I)Z" } : Jvm.MethodName) prog_7_method_17_code (2 : Nat) (Option.some Jvm.ClassFile.FieldType.boolean)) ∈ lw_all := lw_g (lw_at lw_m6 7 rfl) rfl
theorem q1239 : (Jvm.Cond.methodLink "VaryStoreModel" (83 : Nat) ({ cls := "VaryStoreModel", name := "list", desc := "([I)[[I" } : Jvm.MethodName)) ∈ lw_all := lw_g (lw_at lw_m6 8 rfl) rfl
theorem q1240 : (Jvm.Cond.static ({ cls := "VaryStoreModel", name := "list", desc := "([I)[[I" } : Jvm.MethodName)) ∈ lw_all := lw_g (lw_at lw_m6 9 rfl) rfl
theorem q1241 : (Jvm.Cond.code ({ cls := "VaryStoreModel", name := "list", desc := "([I)[[I" } : Jvm.MethodName) prog_7_method_15_code (6 : Nat) (Option.some (Jvm.ClassFile.FieldType.array (Jvm.ClassFile.FieldType.array Jvm.ClassFile.FieldType.int)))) ∈ lw_all := lw_g (lw_at lw_m6 10 rfl) rfl
theorem q1242 : (Jvm.Cond.classLink "VaryStoreModel" (78 : Nat) "[I") ∈ lw_all := lw_g (lw_at lw_m6 11 rfl) rfl
theorem q1244 : (Jvm.Cond.methodLink "VaryStoreModel" (87 : Nat) ({ cls := "VaryStoreModel", name := "sameList", desc := "([[I[[I)Z" } : Jvm.MethodName)) ∈ lw_all := lw_g (lw_at lw_m6 13 rfl) rfl
theorem q1245 : (Jvm.Cond.static ({ cls := "VaryStoreModel", name := "sameList", desc := "([[I[[I)Z" } : Jvm.MethodName)) ∈ lw_all := lw_g (lw_at lw_m6 14 rfl) rfl
theorem q1246 : (Jvm.Cond.code ({ cls := "VaryStoreModel", name := "sameList", desc := "([[I[[I)Z" } : Jvm.MethodName) prog_7_method_16_code (3 : Nat) (Option.some Jvm.ClassFile.FieldType.boolean)) ∈ lw_all := lw_g (lw_at lw_m6 15 rfl) rfl
theorem q1247 : (Jvm.Cond.methodLink "VaryStoreModel" (79 : Nat) ({ cls := "VaryStoreModel", name := "same", desc := "([I[I)Z" } : Jvm.MethodName)) ∈ lw_all := lw_g (lw_at lw_m6 16 rfl) rfl
theorem q1248 : (Jvm.Cond.static ({ cls := "VaryStoreModel", name := "same", desc := "([I[I)Z" } : Jvm.MethodName)) ∈ lw_all := lw_g (lw_at lw_m6 17 rfl) rfl
theorem q1249 : (Jvm.Cond.code ({ cls := "VaryStoreModel", name := "same", desc := "([I[I)Z" } : Jvm.MethodName) prog_7_method_10_code (3 : Nat) (Option.some Jvm.ClassFile.FieldType.boolean)) ∈ lw_all := lw_g (lw_at lw_m6 18 rfl) rfl
theorem q1250 : (Jvm.Cond.methodLink "VaryStoreModel" (227 : Nat) ({ cls := "VaryStoreModel", name := "answer", desc := "(LVaryStoreModel$Thing;[I)I" } : Jvm.MethodName)) ∈ lw_all := lw_g (lw_at lw_m6 19 rfl) rfl
theorem q1251 : (Jvm.Cond.privateMethod ({ cls := "VaryStoreModel", name := "answer", desc := "(LVaryStoreModel$Thing;[I)I" } : Jvm.MethodName)) ∈ lw_tbl := lw_at lw_m6 20 rfl
theorem q1252 : (Jvm.Cond.instanceMethod ({ cls := "VaryStoreModel", name := "answer", desc := "(LVaryStoreModel$Thing;[I)I" } : Jvm.MethodName)) ∈ lw_all := lw_g (lw_at lw_m6 21 rfl) rfl
theorem q1253 : (Jvm.Cond.code ({ cls := "VaryStoreModel", name := "answer", desc := "(LVaryStoreModel$Thing;[I)I" } : Jvm.MethodName) prog_7_method_34_code (7 : Nat) (Option.some Jvm.ClassFile.FieldType.int)) ∈ lw_all := lw_g (lw_at lw_m6 22 rfl) rfl
theorem q1254 : (Jvm.Cond.constantLong "VaryStoreModel" (127 : Nat) (7957628971445872741 : Int64)) ∈ lw_all := lw_g (lw_at lw_m6 23 rfl) rfl
theorem q1255 : (Jvm.Cond.methodLink "VaryStoreModel" (129 : Nat) ({ cls := "VaryStoreModel", name := "has", desc := "([IJJ)Z" } : Jvm.MethodName)) ∈ lw_all := lw_g (lw_at lw_m6 24 rfl) rfl
theorem q1256 : (Jvm.Cond.static ({ cls := "VaryStoreModel", name := "has", desc := "([IJJ)Z" } : Jvm.MethodName)) ∈ lw_all := lw_g (lw_at lw_m6 25 rfl) rfl
theorem q1257 : (Jvm.Cond.code ({ cls := "VaryStoreModel", name := "has", desc := "([IJJ)Z" } : Jvm.MethodName) prog_7_method_23_code (5 : Nat) (Option.some Jvm.ClassFile.FieldType.boolean)) ∈ lw_all := lw_g (lw_at lw_m6 26 rfl) rfl
theorem q1258 : (Jvm.Cond.methodLink "VaryStoreModel" (113 : Nat) ({ cls := "VaryStoreModel", name := "word", desc := "([I[I)I" } : Jvm.MethodName)) ∈ lw_all := lw_g (lw_at lw_m6 27 rfl) rfl
theorem q1259 : (Jvm.Cond.static ({ cls := "VaryStoreModel", name := "word", desc := "([I[I)I" } : Jvm.MethodName)) ∈ lw_all := lw_g (lw_at lw_m6 28 rfl) rfl
theorem q1260 : (Jvm.Cond.code ({ cls := "VaryStoreModel", name := "word", desc := "([I[I)I" } : Jvm.MethodName) prog_7_method_20_code (9 : Nat) (Option.some Jvm.ClassFile.FieldType.int)) ∈ lw_all := lw_g (lw_at lw_m6 29 rfl) rfl
theorem q1261 : (Jvm.Cond.methodLink "VaryStoreModel" (99 : Nat) ({ cls := "VaryStoreModel", name := "smallOf", desc := "([I)[I" } : Jvm.MethodName)) ∈ lw_all := lw_g (lw_at lw_m6 30 rfl) rfl
theorem q1262 : (Jvm.Cond.static ({ cls := "VaryStoreModel", name := "smallOf", desc := "([I)[I" } : Jvm.MethodName)) ∈ lw_all := lw_g (lw_at lw_m6 31 rfl) rfl
theorem q1263 : (Jvm.Cond.code ({ cls := "VaryStoreModel", name := "smallOf", desc := "([I)[I" } : Jvm.MethodName) prog_7_method_11_code (3 : Nat) (Option.some (Jvm.ClassFile.FieldType.array Jvm.ClassFile.FieldType.int))) ∈ lw_all := lw_g (lw_at lw_m6 32 rfl) rfl
theorem q1264 : (Jvm.Cond.methodLink "VaryStoreModel" (95 : Nat) ({ cls := "VaryStoreModel", name := "numberOf", desc := "([II)I" } : Jvm.MethodName)) ∈ lw_all := lw_g (lw_at lw_m6 33 rfl) rfl
theorem q1265 : (Jvm.Cond.static ({ cls := "VaryStoreModel", name := "numberOf", desc := "([II)I" } : Jvm.MethodName)) ∈ lw_all := lw_g (lw_at lw_m6 34 rfl) rfl
theorem q1266 : (Jvm.Cond.code ({ cls := "VaryStoreModel", name := "numberOf", desc := "([II)I" } : Jvm.MethodName) prog_7_method_18_code (5 : Nat) (Option.some Jvm.ClassFile.FieldType.int)) ∈ lw_all := lw_g (lw_at lw_m6 35 rfl) rfl
theorem q1267 : (Jvm.Cond.constantLong "VaryStoreModel" (122 : Nat) (30787941246789477 : Int64)) ∈ lw_all := lw_g (lw_at lw_m6 36 rfl) rfl
theorem q1268 : (Jvm.Cond.methodLink "VaryStoreModel" (170 : Nat) ({ cls := "VaryStoreModel", name := "ageOf", desc := "(LVaryStoreModel$Thing;)I" } : Jvm.MethodName)) ∈ lw_all := lw_g (lw_at lw_m6 37 rfl) rfl
theorem q1269 : (Jvm.Cond.privateMethod ({ cls := "VaryStoreModel", name := "ageOf", desc := "(LVaryStoreModel$Thing;)I" } : Jvm.MethodName)) ∈ lw_tbl := lw_at lw_m6 38 rfl
theorem q1270 : (Jvm.Cond.instanceMethod ({ cls := "VaryStoreModel", name := "ageOf", desc := "(LVaryStoreModel$Thing;)I" } : Jvm.MethodName)) ∈ lw_all := lw_g (lw_at lw_m6 39 rfl) rfl
theorem q1271 : (Jvm.Cond.code ({ cls := "VaryStoreModel", name := "ageOf", desc := "(LVaryStoreModel$Thing;)I" } : Jvm.MethodName) prog_7_method_26_code (2 : Nat) (Option.some Jvm.ClassFile.FieldType.int)) ∈ lw_all := lw_g (lw_at lw_m6 40 rfl) rfl
theorem q1272 : (Jvm.Cond.constantLong "VaryStoreModel" (201 : Nat) (7883953763960120691 : Int64)) ∈ lw_all := lw_g (lw_at lw_m6 41 rfl) rfl
theorem q1273 : (Jvm.Cond.constantLong "VaryStoreModel" (203 : Nat) (104 : Int64)) ∈ lw_all := lw_g (lw_at lw_m6 42 rfl) rfl
theorem q1274 : (Jvm.Cond.constantLong "VaryStoreModel" (205 : Nat) (7881712959480947052 : Int64)) ∈ lw_all := lw_g (lw_at lw_m6 43 rfl) rfl
theorem q1275 : (Jvm.Cond.constantLong "VaryStoreModel" (207 : Nat) (101 : Int64)) ∈ lw_all := lw_g (lw_at lw_m6 44 rfl) rfl
theorem q1276 : (Jvm.Cond.methodLink "VaryStoreModel" (209 : Nat) ({ cls := "VaryStoreModel", name := "isFresh", desc := "(LVaryStoreModel$Thing;)Z" } : Jvm.MethodName)) ∈ lw_all := lw_g (lw_at lw_m6 45 rfl) rfl
theorem q1277 : (Jvm.Cond.privateMethod ({ cls := "VaryStoreModel", name := "isFresh", desc := "(LVaryStoreModel$Thing;)Z" } : Jvm.MethodName)) ∈ lw_tbl := lw_at lw_m6 46 rfl
theorem q1278 : (Jvm.Cond.instanceMethod ({ cls := "VaryStoreModel", name := "isFresh", desc := "(LVaryStoreModel$Thing;)Z" } : Jvm.MethodName)) ∈ lw_all := lw_g (lw_at lw_m6 47 rfl) rfl
theorem q1279 : (Jvm.Cond.code ({ cls := "VaryStoreModel", name := "isFresh", desc := "(LVaryStoreModel$Thing;)Z" } : Jvm.MethodName) prog_7_method_27_code (2 : Nat) (Option.some Jvm.ClassFile.FieldType.boolean)) ∈ lw_all := lw_g (lw_at lw_m6 48 rfl) rfl
theorem q1280 : (Jvm.Cond.methodLink "VaryStoreModel" (184 : Nat) ({ cls := "VaryStoreModel", name := "use", desc := "(LVaryStoreModel$Thing;)V" } : Jvm.MethodName)) ∈ lw_all := lw_g (lw_at lw_m6 49 rfl) rfl
theorem q1281 : (Jvm.Cond.privateMethod ({ cls := "VaryStoreModel", name := "use", desc := "(LVaryStoreModel$Thing;)V" } : Jvm.MethodName)) ∈ lw_tbl := lw_at lw_m6 50 rfl
theorem q1282 : (Jvm.Cond.instanceMethod ({ cls := "VaryStoreModel", name := "use", desc := "(LVaryStoreModel$Thing;)V" } : Jvm.MethodName)) ∈ lw_all := lw_g (lw_at lw_m6 51 rfl) rfl
theorem q1283 : (Jvm.Cond.code ({ cls := "VaryStoreModel", name := "use", desc := "(LVaryStoreModel$Thing;)V" } : Jvm.MethodName) prog_7_method_28_code (2 : Nat) (Option.none : Option Jvm.ClassFile.FieldType)) ∈ lw_all := lw_g (lw_at lw_m6 52 rfl) rfl
theorem q1284 : (Jvm.Cond.constantLong "VaryStoreModel" (231 : Nat) (8029474453356897837 : Int64)) ∈ lw_all := lw_g (lw_at lw_m6 53 rfl) rfl
theorem q1285 : (Jvm.Cond.constantLong "VaryStoreModel" (233 : Nat) (109269930763620 : Int64)) ∈ lw_all := lw_g (lw_at lw_m6 54 rfl) rfl
theorem q1287 : (Jvm.Cond.instanceMethod ({ cls := "VaryStoreModel", name := "keep", desc := "(I)Z" } : Jvm.MethodName)) ∈ lw_all := lw_g (lw_at lw_m6 56 rfl) rfl
theorem q1288 : (Jvm.Cond.selects "VaryStoreModel" ({ cls := "VaryStoreModel", name := "keep", desc := "(I)Z" } : Jvm.MethodName) ({ cls := "VaryStoreModel", name := "keep", desc := "(I)Z" } : Jvm.MethodName)) ∈ lw_all := lw_g (lw_at lw_m6 57 rfl) rfl
theorem q1289 : (Jvm.Cond.code ({ cls := "VaryStoreModel", name := "keep", desc := "(I)Z" } : Jvm.MethodName) prog_7_method_37_code (8 : Nat) (Option.some Jvm.ClassFile.FieldType.boolean)) ∈ lw_all := lw_g (lw_at lw_m6 58 rfl) rfl
theorem q1291 : (Jvm.Cond.methodLinkNest "VaryStoreModel" (235 : Nat) ({ cls := "VaryStoreModel$Thing", name := "<init>", desc := "()V" } : Jvm.MethodName) "VaryStoreModel") ∈ lw_tbl := lw_at lw_m6 60 rfl
theorem q1295 : (Jvm.Cond.fieldLink "VaryStoreModel" (188 : Nat) "VaryStoreModel$Thing" "path" "I") ∈ lw_all := lw_g (lw_at lw_m6 64 rfl) rfl
theorem q1297 : (Jvm.Cond.fieldLink "VaryStoreModel" (119 : Nat) "VaryStoreModel$Thing" "sMaxAge" "I") ∈ lw_all := lw_g (lw_at lw_m6 66 rfl) rfl
theorem q1299 : (Jvm.Cond.fieldLink "VaryStoreModel" (124 : Nat) "VaryStoreModel$Thing" "maxAge" "I") ∈ lw_all := lw_g (lw_at lw_m6 68 rfl) rfl
theorem q1300 : (Jvm.Cond.fieldLink "VaryStoreModel" (158 : Nat) "VaryStoreModel$Thing" "life" "I") ∈ lw_all := lw_g (lw_at lw_m6 69 rfl) rfl
theorem q1301 : (Jvm.Cond.fieldLink "VaryStoreModel" (161 : Nat) "VaryStoreModel$Thing" "age" "I") ∈ lw_all := lw_g (lw_at lw_m6 70 rfl) rfl
theorem q1302 : (Jvm.Cond.fieldLink "VaryStoreModel" (167 : Nat) "VaryStoreModel$Thing" "since" "I") ∈ lw_all := lw_g (lw_at lw_m6 71 rfl) rfl
theorem q1303 : (Jvm.Cond.fieldLink "VaryStoreModel" (133 : Nat) "VaryStoreModel$Thing" "noCache" "Z") ∈ lw_all := lw_g (lw_at lw_m6 72 rfl) rfl
theorem q1304 : (Jvm.Cond.fieldLink "VaryStoreModel" (145 : Nat) "VaryStoreModel$Thing" "mustAsk" "Z") ∈ lw_all := lw_g (lw_at lw_m6 73 rfl) rfl
theorem q1305 : (Jvm.Cond.fieldLink "VaryStoreModel" (242 : Nat) "VaryStoreModel$Thing" "etag" "[I") ∈ lw_all := lw_g (lw_at lw_m6 74 rfl) rfl
theorem q1306 : (Jvm.Cond.fieldLink "VaryStoreModel" (191 : Nat) "VaryStoreModel$Thing" "vary" "[[I") ∈ lw_all := lw_g (lw_at lw_m6 75 rfl) rfl
theorem q1307 : (Jvm.Cond.fieldLink "VaryStoreModel" (195 : Nat) "VaryStoreModel$Thing" "values" "[[I") ∈ lw_all := lw_g (lw_at lw_m6 76 rfl) rfl
theorem q1308 : (Jvm.Cond.fieldLink "VaryStoreModel" (178 : Nat) "VaryStoreModel$Thing" "used" "J") ∈ lw_all := lw_g (lw_at lw_m6 77 rfl) rfl
theorem q1334 : (Jvm.Cond.constantLong "VaryStoreModel" (236 : Nat) (1986097785 : Int64)) ∈ lw_all := lw_g (lw_at lw_m6 103 rfl) rfl
theorem q1335 : (Jvm.Cond.methodLink "VaryStoreModel" (238 : Nat) ({ cls := "VaryStoreModel", name := "etagOf", desc := "(LVaryStoreModel$Text;)[I" } : Jvm.MethodName)) ∈ lw_all := lw_g (lw_at lw_m6 104 rfl) rfl
theorem q1336 : (Jvm.Cond.static ({ cls := "VaryStoreModel", name := "etagOf", desc := "(LVaryStoreModel$Text;)[I" } : Jvm.MethodName)) ∈ lw_all := lw_g (lw_at lw_m6 105 rfl) rfl
theorem q1337 : (Jvm.Cond.code ({ cls := "VaryStoreModel", name := "etagOf", desc := "(LVaryStoreModel$Text;)[I" } : Jvm.MethodName) prog_7_method_21_code (2 : Nat) (Option.some (Jvm.ClassFile.FieldType.array Jvm.ClassFile.FieldType.int))) ∈ lw_all := lw_g (lw_at lw_m6 106 rfl) rfl
theorem q1338 : (Jvm.Cond.constantLong "VaryStoreModel" (103 : Nat) (1702125927 : Int64)) ∈ lw_all := lw_g (lw_at lw_m6 107 rfl) rfl
theorem q1339 : (Jvm.Cond.methodLink "VaryStoreModel" (245 : Nat) ({ cls := "VaryStoreModel", name := "setWords", desc := "(LVaryStoreModel$Thing;[I)V" } : Jvm.MethodName)) ∈ lw_all := lw_g (lw_at lw_m6 108 rfl) rfl
theorem q1340 : (Jvm.Cond.privateMethod ({ cls := "VaryStoreModel", name := "setWords", desc := "(LVaryStoreModel$Thing;[I)V" } : Jvm.MethodName)) ∈ lw_tbl := lw_at lw_m6 109 rfl
theorem q1341 : (Jvm.Cond.instanceMethod ({ cls := "VaryStoreModel", name := "setWords", desc := "(LVaryStoreModel$Thing;[I)V" } : Jvm.MethodName)) ∈ lw_all := lw_g (lw_at lw_m6 110 rfl) rfl
theorem q1342 : (Jvm.Cond.code ({ cls := "VaryStoreModel", name := "setWords", desc := "(LVaryStoreModel$Thing;[I)V" } : Jvm.MethodName) prog_7_method_24_code (3 : Nat) (Option.none : Option Jvm.ClassFile.FieldType)) ∈ lw_all := lw_g (lw_at lw_m6 111 rfl) rfl
theorem q1343 : (Jvm.Cond.constantLong "VaryStoreModel" (117 : Nat) (8299409953712596837 : Int64)) ∈ lw_all := lw_g (lw_at lw_m6 112 rfl) rfl
theorem q1344 : (Jvm.Cond.constantLong "VaryStoreModel" (137 : Nat) (7887337265225164150 : Int64)) ∈ lw_all := lw_g (lw_at lw_m6 113 rfl) rfl
theorem q1345 : (Jvm.Cond.constantLong "VaryStoreModel" (139 : Nat) (27422272652407909 : Int64)) ∈ lw_all := lw_g (lw_at lw_m6 114 rfl) rfl
theorem q1346 : (Jvm.Cond.constantLong "VaryStoreModel" (141 : Nat) (8102661242812723813 : Int64)) ∈ lw_all := lw_g (lw_at lw_m6 115 rfl) rfl
theorem q1347 : (Jvm.Cond.constantLong "VaryStoreModel" (143 : Nat) (8530218369127904357 : Int64)) ∈ lw_all := lw_g (lw_at lw_m6 116 rfl) rfl
theorem q1348 : (Jvm.Cond.methodLink "VaryStoreModel" (249 : Nat) ({ cls := "VaryStoreModel", name := "setTimes", desc := "(LVaryStoreModel$Thing;LVaryStoreModel$Text;)V" } : Jvm.MethodName)) ∈ lw_all := lw_g (lw_at lw_m6 117 rfl) rfl
theorem q1349 : (Jvm.Cond.privateMethod ({ cls := "VaryStoreModel", name := "setTimes", desc := "(LVaryStoreModel$Thing;LVaryStoreModel$Text;)V" } : Jvm.MethodName)) ∈ lw_tbl := lw_at lw_m6 118 rfl
theorem q1350 : (Jvm.Cond.instanceMethod ({ cls := "VaryStoreModel", name := "setTimes", desc := "(LVaryStoreModel$Thing;LVaryStoreModel$Text;)V" } : Jvm.MethodName)) ∈ lw_all := lw_g (lw_at lw_m6 119 rfl) rfl
theorem q1351 : (Jvm.Cond.code ({ cls := "VaryStoreModel", name := "setTimes", desc := "(LVaryStoreModel$Thing;LVaryStoreModel$Text;)V" } : Jvm.MethodName) prog_7_method_25_code (7 : Nat) (Option.none : Option Jvm.ClassFile.FieldType)) ∈ lw_all := lw_g (lw_at lw_m6 120 rfl) rfl
theorem q1352 : (Jvm.Cond.constantLong "VaryStoreModel" (148 : Nat) (28561396848551283 : Int64)) ∈ lw_all := lw_g (lw_at lw_m6 121 rfl) rfl
theorem q1353 : (Jvm.Cond.methodLink "VaryStoreModel" (150 : Nat) ({ cls := "VaryStoreModel", name := "numberIn", desc := "(LVaryStoreModel$Text;[I)I" } : Jvm.MethodName)) ∈ lw_all := lw_g (lw_at lw_m6 122 rfl) rfl
theorem q1354 : (Jvm.Cond.static ({ cls := "VaryStoreModel", name := "numberIn", desc := "(LVaryStoreModel$Text;[I)I" } : Jvm.MethodName)) ∈ lw_all := lw_g (lw_at lw_m6 123 rfl) rfl
theorem q1355 : (Jvm.Cond.code ({ cls := "VaryStoreModel", name := "numberIn", desc := "(LVaryStoreModel$Text;[I)I" } : Jvm.MethodName) prog_7_method_19_code (3 : Nat) (Option.some Jvm.ClassFile.FieldType.int)) ∈ lw_all := lw_g (lw_at lw_m6 124 rfl) rfl
theorem q1356 : (Jvm.Cond.constantLong "VaryStoreModel" (154 : Nat) (1684108389 : Int64)) ∈ lw_all := lw_g (lw_at lw_m6 125 rfl) rfl
theorem q1357 : (Jvm.Cond.constantLong "VaryStoreModel" (156 : Nat) (6383461 : Int64)) ∈ lw_all := lw_g (lw_at lw_m6 126 rfl) rfl
theorem q1358 : (Jvm.Cond.methodLink "VaryStoreModel" (253 : Nat) ({ cls := "VaryStoreModel", name := "placeOf", desc := "(LVaryStoreModel$Thing;)I" } : Jvm.MethodName)) ∈ lw_all := lw_g (lw_at lw_m6 127 rfl) rfl
theorem q1359 : (Jvm.Cond.privateMethod ({ cls := "VaryStoreModel", name := "placeOf", desc := "(LVaryStoreModel$Thing;)I" } : Jvm.MethodName)) ∈ lw_tbl := lw_at lw_m6 128 rfl
theorem q1360 : (Jvm.Cond.instanceMethod ({ cls := "VaryStoreModel", name := "placeOf", desc := "(LVaryStoreModel$Thing;)I" } : Jvm.MethodName)) ∈ lw_all := lw_g (lw_at lw_m6 129 rfl) rfl
theorem q1361 : (Jvm.Cond.code ({ cls := "VaryStoreModel", name := "placeOf", desc := "(LVaryStoreModel$Thing;)I" } : Jvm.MethodName) prog_7_method_31_code (6 : Nat) (Option.some Jvm.ClassFile.FieldType.int)) ∈ lw_all := lw_g (lw_at lw_m6 130 rfl) rfl
theorem q1362 : (Jvm.Cond.methodLink "VaryStoreModel" (256 : Nat) ({ cls := "VaryStoreModel", name := "takeOut", desc := "(I)V" } : Jvm.MethodName)) ∈ lw_all := lw_g (lw_at lw_m6 131 rfl) rfl
theorem q1363 : (Jvm.Cond.privateMethod ({ cls := "VaryStoreModel", name := "takeOut", desc := "(I)V" } : Jvm.MethodName)) ∈ lw_tbl := lw_at lw_m6 132 rfl
theorem q1364 : (Jvm.Cond.instanceMethod ({ cls := "VaryStoreModel", name := "takeOut", desc := "(I)V" } : Jvm.MethodName)) ∈ lw_all := lw_g (lw_at lw_m6 133 rfl) rfl
theorem q1365 : (Jvm.Cond.code ({ cls := "VaryStoreModel", name := "takeOut", desc := "(I)V" } : Jvm.MethodName) prog_7_method_29_code (3 : Nat) (Option.none : Option Jvm.ClassFile.FieldType)) ∈ lw_all := lw_g (lw_at lw_m6 134 rfl) rfl
theorem q1366 : (Jvm.Cond.constantLong "VaryStoreModel" (259 : Nat) (7957629040484905573 : Int64)) ∈ lw_all := lw_g (lw_at lw_m6 135 rfl) rfl
theorem q1367 : (Jvm.Cond.constantLong "VaryStoreModel" (261 : Nat) (31650994674824293 : Int64)) ∈ lw_all := lw_g (lw_at lw_m6 136 rfl) rfl
theorem q1368 : (Jvm.Cond.methodLink "VaryStoreModel" (263 : Nat) ({ cls := "VaryStoreModel", name := "hasStar", desc := "([[I)Z" } : Jvm.MethodName)) ∈ lw_all := lw_g (lw_at lw_m6 137 rfl) rfl
theorem q1369 : (Jvm.Cond.static ({ cls := "VaryStoreModel", name := "hasStar", desc := "([[I)Z" } : Jvm.MethodName)) ∈ lw_all := lw_g (lw_at lw_m6 138 rfl) rfl
theorem q1370 : (Jvm.Cond.code ({ cls := "VaryStoreModel", name := "hasStar", desc := "([[I)Z" } : Jvm.MethodName) prog_7_method_36_code (2 : Nat) (Option.some Jvm.ClassFile.FieldType.boolean)) ∈ lw_all := lw_g (lw_at lw_m6 139 rfl) rfl
theorem q1371 : (Jvm.Cond.methodLink "VaryStoreModel" (267 : Nat) ({ cls := "VaryStoreModel", name := "putLast", desc := "(LVaryStoreModel$Thing;)V" } : Jvm.MethodName)) ∈ lw_all := lw_g (lw_at lw_m6 140 rfl) rfl
theorem q1372 : (Jvm.Cond.privateMethod ({ cls := "VaryStoreModel", name := "putLast", desc := "(LVaryStoreModel$Thing;)V" } : Jvm.MethodName)) ∈ lw_tbl := lw_at lw_m6 141 rfl
theorem q1373 : (Jvm.Cond.instanceMethod ({ cls := "VaryStoreModel", name := "putLast", desc := "(LVaryStoreModel$Thing;)V" } : Jvm.MethodName)) ∈ lw_all := lw_g (lw_at lw_m6 142 rfl) rfl
theorem q1374 : (Jvm.Cond.code ({ cls := "VaryStoreModel", name := "putLast", desc := "(LVaryStoreModel$Thing;)V" } : Jvm.MethodName) prog_7_method_30_code (2 : Nat) (Option.none : Option Jvm.ClassFile.FieldType)) ∈ lw_all := lw_g (lw_at lw_m6 143 rfl) rfl
theorem q1375 : (Jvm.Cond.methodLink "VaryStoreModel" (270 : Nat) ({ cls := "VaryStoreModel", name := "longestAgo", desc := "()I" } : Jvm.MethodName)) ∈ lw_all := lw_g (lw_at lw_m6 144 rfl) rfl
theorem q1376 : (Jvm.Cond.privateMethod ({ cls := "VaryStoreModel", name := "longestAgo", desc := "()I" } : Jvm.MethodName)) ∈ lw_tbl := lw_at lw_m6 145 rfl
theorem q1377 : (Jvm.Cond.instanceMethod ({ cls := "VaryStoreModel", name := "longestAgo", desc := "()I" } : Jvm.MethodName)) ∈ lw_all := lw_g (lw_at lw_m6 146 rfl) rfl
theorem q1378 : (Jvm.Cond.code ({ cls := "VaryStoreModel", name := "longestAgo", desc := "()I" } : Jvm.MethodName) prog_7_method_38_code (3 : Nat) (Option.some Jvm.ClassFile.FieldType.int)) ∈ lw_all := lw_g (lw_at lw_m6 147 rfl) rfl
theorem q1380 : (Jvm.Cond.instanceMethod ({ cls := "VaryStoreModel", name := "again", desc := "(I)Z" } : Jvm.MethodName)) ∈ lw_all := lw_g (lw_at lw_m6 149 rfl) rfl
theorem q1381 : (Jvm.Cond.selects "VaryStoreModel" ({ cls := "VaryStoreModel", name := "again", desc := "(I)Z" } : Jvm.MethodName) ({ cls := "VaryStoreModel", name := "again", desc := "(I)Z" } : Jvm.MethodName)) ∈ lw_all := lw_g (lw_at lw_m6 150 rfl) rfl
theorem q1382 : (Jvm.Cond.code ({ cls := "VaryStoreModel", name := "again", desc := "(I)Z" } : Jvm.MethodName) prog_7_method_39_code (7 : Nat) (Option.some Jvm.ClassFile.FieldType.boolean)) ∈ lw_all := lw_g (lw_at lw_m6 151 rfl) rfl
theorem q1384 : (Jvm.Cond.instanceMethod ({ cls := "VaryStoreModel", name := "fault", desc := "()I" } : Jvm.MethodName)) ∈ lw_all := lw_g (lw_at lw_m6 153 rfl) rfl
theorem q1385 : (Jvm.Cond.selects "VaryStoreModel" ({ cls := "VaryStoreModel", name := "fault", desc := "()I" } : Jvm.MethodName) ({ cls := "VaryStoreModel", name := "fault", desc := "()I" } : Jvm.MethodName)) ∈ lw_all := lw_g (lw_at lw_m6 154 rfl) rfl
theorem q1386 : (Jvm.Cond.code ({ cls := "VaryStoreModel", name := "fault", desc := "()I" } : Jvm.MethodName) prog_7_method_40_code (1 : Nat) (Option.some Jvm.ClassFile.FieldType.int)) ∈ lw_all := lw_g (lw_at lw_m6 155 rfl) rfl
theorem q1388 : (Jvm.Cond.instanceMethod ({ cls := "VaryStoreModel", name := "purge", desc := "(I)I" } : Jvm.MethodName)) ∈ lw_all := lw_g (lw_at lw_m6 157 rfl) rfl
theorem q1389 : (Jvm.Cond.selects "VaryStoreModel" ({ cls := "VaryStoreModel", name := "purge", desc := "(I)I" } : Jvm.MethodName) ({ cls := "VaryStoreModel", name := "purge", desc := "(I)I" } : Jvm.MethodName)) ∈ lw_all := lw_g (lw_at lw_m6 158 rfl) rfl
theorem q1390 : (Jvm.Cond.code ({ cls := "VaryStoreModel", name := "purge", desc := "(I)I" } : Jvm.MethodName) prog_7_method_41_code (4 : Nat) (Option.some Jvm.ClassFile.FieldType.int)) ∈ lw_all := lw_g (lw_at lw_m6 159 rfl) rfl
theorem q1392 : (Jvm.Cond.instanceMethod ({ cls := "VaryStoreModel", name := "pass", desc := "(I)I" } : Jvm.MethodName)) ∈ lw_all := lw_g (lw_at lw_m6 161 rfl) rfl
theorem q1393 : (Jvm.Cond.selects "VaryStoreModel" ({ cls := "VaryStoreModel", name := "pass", desc := "(I)I" } : Jvm.MethodName) ({ cls := "VaryStoreModel", name := "pass", desc := "(I)I" } : Jvm.MethodName)) ∈ lw_all := lw_g (lw_at lw_m6 162 rfl) rfl
theorem q1394 : (Jvm.Cond.code ({ cls := "VaryStoreModel", name := "pass", desc := "(I)I" } : Jvm.MethodName) prog_7_method_42_code (2 : Nat) (Option.some Jvm.ClassFile.FieldType.int)) ∈ lw_all := lw_g (lw_at lw_m6 163 rfl) rfl
theorem q1395 : (Jvm.Cond.constant "VaryStoreModel" (274 : Nat) (100000 : Int32)) ∈ lw_all := lw_g (lw_at lw_m6 164 rfl) rfl
theorem q1396 : (Jvm.Cond.constant "VaryStoreModel" (275 : Nat) (1000000000 : Int32)) ∈ lw_all := lw_g (lw_at lw_m6 165 rfl) rfl
theorem q1398 : (Jvm.Cond.instanceMethod ({ cls := "VaryStoreModel", name := "thing", desc := "(II)I" } : Jvm.MethodName)) ∈ lw_all := lw_g (lw_at lw_m6 167 rfl) rfl
theorem q1399 : (Jvm.Cond.selects "VaryStoreModel" ({ cls := "VaryStoreModel", name := "thing", desc := "(II)I" } : Jvm.MethodName) ({ cls := "VaryStoreModel", name := "thing", desc := "(II)I" } : Jvm.MethodName)) ∈ lw_all := lw_g (lw_at lw_m6 168 rfl) rfl
theorem q1400 : (Jvm.Cond.code ({ cls := "VaryStoreModel", name := "thing", desc := "(II)I" } : Jvm.MethodName) prog_7_method_43_code (6 : Nat) (Option.some Jvm.ClassFile.FieldType.int)) ∈ lw_all := lw_g (lw_at lw_m6 169 rfl) rfl
theorem q1402 : (Jvm.Cond.instanceMethod ({ cls := "VaryStoreModel", name := "things", desc := "()I" } : Jvm.MethodName)) ∈ lw_all := lw_g (lw_at lw_m6 171 rfl) rfl
theorem q1403 : (Jvm.Cond.selects "VaryStoreModel" ({ cls := "VaryStoreModel", name := "things", desc := "()I" } : Jvm.MethodName) ({ cls := "VaryStoreModel", name := "things", desc := "()I" } : Jvm.MethodName)) ∈ lw_all := lw_g (lw_at lw_m6 172 rfl) rfl
theorem q1404 : (Jvm.Cond.code ({ cls := "VaryStoreModel", name := "things", desc := "()I" } : Jvm.MethodName) prog_7_method_44_code (1 : Nat) (Option.some Jvm.ClassFile.FieldType.int)) ∈ lw_all := lw_g (lw_at lw_m6 173 rfl) rfl
theorem q1428 : (Jvm.Cond.castable "VaryStoreModel" "java/lang/Object") ∈ lw_tbl := lw_at lw_m6 197 rfl
theorem in_X4 : ∀ w ∈ wsX40, w ∈ lw_all := lw_in wsX40 [1164, 1166, 1168, 1170, 1172, 1174, 1176, 1178, 1180] (by decide +kernel) (by decide +kernel)
/-! VaryStoreModel$Text -/
set_option maxRecDepth 100000
def RX5 : String := "VaryStoreModel$Text"
def TX5 : u_T := fun k => match k with
  | 0 => ("VaryStoreModel$Text", "chars", "[I", true)
  | 1 => ("VaryStoreModel$Text", "lines", "I", false)
  | 2 => ("VaryStoreModel$Text", "begin", "[I", true)
  | 3 => ("VaryStoreModel$Text", "colon", "[I", true)
  | _ => ("VaryStoreModel$Text", "end", "[I", true)
def tyX5 : Nat → FieldType := fun k => match k with
  | 0 => .array .int
  | 1 => .int
  | 2 => .array .int
  | 3 => .array .int
  | _ => .array .int
abbrev wsX50 : List Cond := u_ws RX5 TX5 5
theorem nmX5 : ∀ a, a < 5 → ∀ b, b < 5 → a ≠ b → (TX5 a).2.1 ≠ (TX5 b).2.1 := by decide +kernel
theorem tyX5_ok : ∀ k, k < 5 → parseFieldDescriptor (TX5 k).2.2.1 = some (tyX5 k) := by decide +kernel
abbrev cX5_init : ByteArray := prog_8_method_1_code
def yX5_init : MethodName := ⟨RX5, "<init>", "(I)V"⟩
def dkwX5_init_1 : List UInt8 := [188, 10, 181, 0, 16, 42, 27, 188, 10, 181, 0, 19, 177]
abbrev dktX5_init_1 : List UInt8 := dkwX5_init_1 ++ []
def dkwX5_init_0 : List UInt8 := [42, 183, 0, 1, 42, 16, 100, 188, 10, 181, 0, 7, 42, 16, 100, 188, 10, 181, 0, 13, 42, 16, 100]
abbrev dktX5_init_0 : List UInt8 := dkwX5_init_0 ++ dktX5_init_1
theorem dksX5_init_0 : cX5_init.data.toList.drop 0 = dktX5_init_0 := by decide +kernel
theorem dksX5_init_1 : cX5_init.data.toList.drop 23 = dktX5_init_1 := dk_seg dksX5_init_0 23 rfl rfl
theorem dX5_init_0 : decode cX5_init 0 = .ok (.aload_n 0, 1) := dk_42 (dk_at dksX5_init_0 0 rfl rfl)
theorem dX5_init_1 : decode cX5_init 1 = .ok (.invokespecial 1, 3) := dk_183 0 1 (dk_at dksX5_init_0 1 rfl rfl)
theorem dX5_init_4 : decode cX5_init 4 = .ok (.aload_n 0, 1) := dk_42 (dk_at dksX5_init_0 4 rfl rfl)
theorem dX5_init_5 : decode cX5_init 5 = .ok (.bipush 100, 2) := dk_16 100 (dk_at dksX5_init_0 5 rfl rfl)
theorem dX5_init_7 : decode cX5_init 7 = .ok (.newarray .int, 2) := dk_188_10 (dk_at dksX5_init_0 7 rfl rfl)
theorem dX5_init_9 : decode cX5_init 9 = .ok (.putfield 7, 3) := dk_181 0 7 (dk_at dksX5_init_0 9 rfl rfl)
theorem dX5_init_12 : decode cX5_init 12 = .ok (.aload_n 0, 1) := dk_42 (dk_at dksX5_init_0 12 rfl rfl)
theorem dX5_init_13 : decode cX5_init 13 = .ok (.bipush 100, 2) := dk_16 100 (dk_at dksX5_init_0 13 rfl rfl)
theorem dX5_init_15 : decode cX5_init 15 = .ok (.newarray .int, 2) := dk_188_10 (dk_at dksX5_init_0 15 rfl rfl)
theorem dX5_init_17 : decode cX5_init 17 = .ok (.putfield 13, 3) := dk_181 0 13 (dk_at dksX5_init_0 17 rfl rfl)
theorem dX5_init_20 : decode cX5_init 20 = .ok (.aload_n 0, 1) := dk_42 (dk_at dksX5_init_0 20 rfl rfl)
theorem dX5_init_21 : decode cX5_init 21 = .ok (.bipush 100, 2) := dk_16 100 (dk_at dksX5_init_0 21 rfl rfl)
theorem dX5_init_23 : decode cX5_init 23 = .ok (.newarray .int, 2) := dk_188_10 (dk_at dksX5_init_1 0 rfl rfl)
theorem dX5_init_25 : decode cX5_init 25 = .ok (.putfield 16, 3) := dk_181 0 16 (dk_at dksX5_init_1 2 rfl rfl)
theorem dX5_init_28 : decode cX5_init 28 = .ok (.aload_n 0, 1) := dk_42 (dk_at dksX5_init_1 5 rfl rfl)
theorem dX5_init_29 : decode cX5_init 29 = .ok (.iload_n 1, 1) := dk_27 (dk_at dksX5_init_1 6 rfl rfl)
theorem dX5_init_30 : decode cX5_init 30 = .ok (.newarray .int, 2) := dk_188_10 (dk_at dksX5_init_1 7 rfl rfl)
theorem dX5_init_32 : decode cX5_init 32 = .ok (.putfield 19, 3) := dk_181 0 19 (dk_at dksX5_init_1 9 rfl rfl)
theorem dX5_init_35 : decode cX5_init 35 = .ok (.return_, 1) := dk_177 (dk_at dksX5_init_1 12 rfl rfl)
theorem q58 : (Jvm.Cond.initialized "VaryStoreModel$Text") ∈ lw_all := lw_g (lw_at lw_m1 27 rfl) rfl
theorem q527 : (Jvm.Cond.selects "VaryStoreModel$Text" ({ cls := "java/lang/Object", name := "getClass", desc := "()Ljava/lang/Class;" } : Jvm.MethodName) ({ cls := "java/lang/Object", name := "getClass", desc := "()Ljava/lang/Class;" } : Jvm.MethodName)) ∈ lw_all := lw_g (lw_at lw_m3 16 rfl) rfl
theorem q971 : (Jvm.Cond.selects "VaryStoreModel$Text" ({ cls := "java/lang/Object", name := "equals", desc := "(Ljava/lang/Object;)Z" } : Jvm.MethodName) ({ cls := "java/lang/Object", name := "equals", desc := "(Ljava/lang/Object;)Z" } : Jvm.MethodName)) ∈ lw_all := lw_g (lw_at lw_m4 220 rfl) rfl
theorem q1127 : (Jvm.Cond.instantiable "VaryStoreModel$Text" (5 : Nat)) ∈ lw_all := lw_g (lw_at lw_m5 136 rfl) rfl
theorem q1129 : (Jvm.Cond.instanceMethod ({ cls := "VaryStoreModel$Text", name := "<init>", desc := "(I)V" } : Jvm.MethodName)) ∈ lw_all := lw_g (lw_at lw_m5 138 rfl) rfl
theorem q1130 : (Jvm.Cond.code ({ cls := "VaryStoreModel$Text", name := "<init>", desc := "(I)V" } : Jvm.MethodName) prog_8_method_1_code (2 : Nat) (Option.none : Option Jvm.ClassFile.FieldType)) ∈ lw_all := lw_g (lw_at lw_m5 139 rfl) rfl
theorem q1131 : (Jvm.Cond.methodLink "VaryStoreModel$Text" (1 : Nat) ({ cls := "java/lang/Object", name := "<init>", desc := "()V" } : Jvm.MethodName)) ∈ lw_all := lw_g (lw_at lw_m5 140 rfl) rfl
theorem q1132 : (Jvm.Cond.fieldLink "VaryStoreModel$Text" (19 : Nat) "VaryStoreModel$Text" "chars" "[I") ∈ lw_all := lw_g (lw_at lw_m5 141 rfl) rfl
theorem q1135 : (Jvm.Cond.fieldLink "VaryStoreModel$Text" (7 : Nat) "VaryStoreModel$Text" "begin" "[I") ∈ lw_all := lw_g (lw_at lw_m5 144 rfl) rfl
theorem q1137 : (Jvm.Cond.fieldLink "VaryStoreModel$Text" (13 : Nat) "VaryStoreModel$Text" "colon" "[I") ∈ lw_all := lw_g (lw_at lw_m5 146 rfl) rfl
theorem q1139 : (Jvm.Cond.fieldLink "VaryStoreModel$Text" (16 : Nat) "VaryStoreModel$Text" "end" "[I") ∈ lw_all := lw_g (lw_at lw_m5 148 rfl) rfl
theorem q1141 : (Jvm.Cond.laysFinal "VaryStoreModel$Text" "VaryStoreModel$Text" "chars" "[I") ∈ lw_all := lw_g (lw_at lw_m5 150 rfl) rfl
theorem q1142 : (Jvm.Cond.soleField "VaryStoreModel$Text" "chars") ∈ lw_all := lw_g (lw_at lw_m5 151 rfl) rfl
theorem q1143 : (Jvm.Cond.lays "VaryStoreModel$Text" "VaryStoreModel$Text" "lines" "I") ∈ lw_all := lw_g (lw_at lw_m5 152 rfl) rfl
theorem q1144 : (Jvm.Cond.soleField "VaryStoreModel$Text" "lines") ∈ lw_all := lw_g (lw_at lw_m5 153 rfl) rfl
theorem q1145 : (Jvm.Cond.laysFinal "VaryStoreModel$Text" "VaryStoreModel$Text" "begin" "[I") ∈ lw_all := lw_g (lw_at lw_m5 154 rfl) rfl
theorem q1146 : (Jvm.Cond.soleField "VaryStoreModel$Text" "begin") ∈ lw_all := lw_g (lw_at lw_m5 155 rfl) rfl
theorem q1147 : (Jvm.Cond.laysFinal "VaryStoreModel$Text" "VaryStoreModel$Text" "colon" "[I") ∈ lw_all := lw_g (lw_at lw_m5 156 rfl) rfl
theorem q1148 : (Jvm.Cond.soleField "VaryStoreModel$Text" "colon") ∈ lw_all := lw_g (lw_at lw_m5 157 rfl) rfl
theorem q1149 : (Jvm.Cond.laysFinal "VaryStoreModel$Text" "VaryStoreModel$Text" "end" "[I") ∈ lw_all := lw_g (lw_at lw_m5 158 rfl) rfl
theorem q1150 : (Jvm.Cond.soleField "VaryStoreModel$Text" "end") ∈ lw_all := lw_g (lw_at lw_m5 159 rfl) rfl
theorem q1151 : (Jvm.Cond.superclass "VaryStoreModel$Text" "java/lang/Object") ∈ lw_all := lw_g (lw_at lw_m5 160 rfl) rfl
theorem q1429 : (Jvm.Cond.castable "VaryStoreModel$Text" "java/lang/Object") ∈ lw_tbl := lw_at lw_m6 198 rfl
theorem in_X5 : ∀ w ∈ wsX50, w ∈ lw_all := lw_in wsX50 [1141, 1143, 1145, 1147, 1149] (by decide +kernel) (by decide +kernel)
/-! VaryStoreModel$Thing -/
set_option maxRecDepth 100000
def RX8 : String := "VaryStoreModel$Thing"
def TX8 : u_T := fun k => match k with
  | 0 => ("VaryStoreModel$Thing", "path", "I", false)
  | 1 => ("VaryStoreModel$Thing", "sMaxAge", "I", false)
  | 2 => ("VaryStoreModel$Thing", "maxAge", "I", false)
  | 3 => ("VaryStoreModel$Thing", "life", "I", false)
  | 4 => ("VaryStoreModel$Thing", "age", "I", false)
  | 5 => ("VaryStoreModel$Thing", "since", "I", false)
  | 6 => ("VaryStoreModel$Thing", "noCache", "Z", false)
  | 7 => ("VaryStoreModel$Thing", "mustAsk", "Z", false)
  | 8 => ("VaryStoreModel$Thing", "etag", "[I", false)
  | 9 => ("VaryStoreModel$Thing", "vary", "[[I", false)
  | 10 => ("VaryStoreModel$Thing", "values", "[[I", false)
  | _ => ("VaryStoreModel$Thing", "used", "J", false)
def tyX8 : Nat → FieldType := fun k => match k with
  | 0 => .int
  | 1 => .int
  | 2 => .int
  | 3 => .int
  | 4 => .int
  | 5 => .int
  | 6 => .boolean
  | 7 => .boolean
  | 8 => .array .int
  | 9 => .array (.array .int)
  | 10 => .array (.array .int)
  | _ => .long
abbrev wsX80 : List Cond := u_ws RX8 TX8 12
theorem nmX8 : ∀ a, a < 12 → ∀ b, b < 12 → a ≠ b → (TX8 a).2.1 ≠ (TX8 b).2.1 := by decide +kernel
theorem tyX8_ok : ∀ k, k < 12 → parseFieldDescriptor (TX8 k).2.2.1 = some (tyX8 k) := by decide +kernel
abbrev cX8_init : ByteArray := prog_9_method_1_code
def yX8_init : MethodName := ⟨RX8, "<init>", "()V"⟩
def dkwX8_init_0 : List UInt8 := [42, 183, 0, 3, 42, 16, 254, 181, 0, 9, 42, 16, 254, 181, 0, 15, 177]
abbrev dktX8_init_0 : List UInt8 := dkwX8_init_0 ++ []
theorem dksX8_init_0 : cX8_init.data.toList.drop 0 = dktX8_init_0 := by decide +kernel
theorem dX8_init_0 : decode cX8_init 0 = .ok (.aload_n 0, 1) := dk_42 (dk_at dksX8_init_0 0 rfl rfl)
theorem dX8_init_1 : decode cX8_init 1 = .ok (.invokespecial 3, 3) := dk_183 0 3 (dk_at dksX8_init_0 1 rfl rfl)
theorem dX8_init_4 : decode cX8_init 4 = .ok (.aload_n 0, 1) := dk_42 (dk_at dksX8_init_0 4 rfl rfl)
theorem dX8_init_5 : decode cX8_init 5 = .ok (.bipush (-2), 2) := dk_16 254 (dk_at dksX8_init_0 5 rfl rfl)
theorem dX8_init_7 : decode cX8_init 7 = .ok (.putfield 9, 3) := dk_181 0 9 (dk_at dksX8_init_0 7 rfl rfl)
theorem dX8_init_10 : decode cX8_init 10 = .ok (.aload_n 0, 1) := dk_42 (dk_at dksX8_init_0 10 rfl rfl)
theorem dX8_init_11 : decode cX8_init 11 = .ok (.bipush (-2), 2) := dk_16 254 (dk_at dksX8_init_0 11 rfl rfl)
theorem dX8_init_13 : decode cX8_init 13 = .ok (.putfield 15, 3) := dk_181 0 15 (dk_at dksX8_init_0 13 rfl rfl)
theorem dX8_init_16 : decode cX8_init 16 = .ok (.return_, 1) := dk_177 (dk_at dksX8_init_0 16 rfl rfl)
theorem q63 : (Jvm.Cond.initialized "VaryStoreModel$Thing") ∈ lw_all := lw_g (lw_at lw_m1 32 rfl) rfl
theorem q528 : (Jvm.Cond.selects "VaryStoreModel$Thing" ({ cls := "java/lang/Object", name := "getClass", desc := "()Ljava/lang/Class;" } : Jvm.MethodName) ({ cls := "java/lang/Object", name := "getClass", desc := "()Ljava/lang/Class;" } : Jvm.MethodName)) ∈ lw_all := lw_g (lw_at lw_m3 17 rfl) rfl
theorem q972 : (Jvm.Cond.selects "VaryStoreModel$Thing" ({ cls := "java/lang/Object", name := "equals", desc := "(Ljava/lang/Object;)Z" } : Jvm.MethodName) ({ cls := "java/lang/Object", name := "equals", desc := "(Ljava/lang/Object;)Z" } : Jvm.MethodName)) ∈ lw_all := lw_g (lw_at lw_m4 221 rfl) rfl
theorem q1290 : (Jvm.Cond.instantiable "VaryStoreModel$Thing" (12 : Nat)) ∈ lw_all := lw_g (lw_at lw_m6 59 rfl) rfl
theorem q1292 : (Jvm.Cond.instanceMethod ({ cls := "VaryStoreModel$Thing", name := "<init>", desc := "()V" } : Jvm.MethodName)) ∈ lw_all := lw_g (lw_at lw_m6 61 rfl) rfl
theorem q1293 : (Jvm.Cond.code ({ cls := "VaryStoreModel$Thing", name := "<init>", desc := "()V" } : Jvm.MethodName) prog_9_method_1_code (1 : Nat) (Option.none : Option Jvm.ClassFile.FieldType)) ∈ lw_all := lw_g (lw_at lw_m6 62 rfl) rfl
theorem q1294 : (Jvm.Cond.methodLink "VaryStoreModel$Thing" (3 : Nat) ({ cls := "java/lang/Object", name := "<init>", desc := "()V" } : Jvm.MethodName)) ∈ lw_all := lw_g (lw_at lw_m6 63 rfl) rfl
theorem q1296 : (Jvm.Cond.fieldLink "VaryStoreModel$Thing" (9 : Nat) "VaryStoreModel$Thing" "sMaxAge" "I") ∈ lw_all := lw_g (lw_at lw_m6 65 rfl) rfl
theorem q1298 : (Jvm.Cond.fieldLink "VaryStoreModel$Thing" (15 : Nat) "VaryStoreModel$Thing" "maxAge" "I") ∈ lw_all := lw_g (lw_at lw_m6 67 rfl) rfl
theorem q1309 : (Jvm.Cond.lays "VaryStoreModel$Thing" "VaryStoreModel$Thing" "path" "I") ∈ lw_all := lw_g (lw_at lw_m6 78 rfl) rfl
theorem q1310 : (Jvm.Cond.soleField "VaryStoreModel$Thing" "path") ∈ lw_all := lw_g (lw_at lw_m6 79 rfl) rfl
theorem q1311 : (Jvm.Cond.lays "VaryStoreModel$Thing" "VaryStoreModel$Thing" "sMaxAge" "I") ∈ lw_all := lw_g (lw_at lw_m6 80 rfl) rfl
theorem q1312 : (Jvm.Cond.soleField "VaryStoreModel$Thing" "sMaxAge") ∈ lw_all := lw_g (lw_at lw_m6 81 rfl) rfl
theorem q1313 : (Jvm.Cond.lays "VaryStoreModel$Thing" "VaryStoreModel$Thing" "maxAge" "I") ∈ lw_all := lw_g (lw_at lw_m6 82 rfl) rfl
theorem q1314 : (Jvm.Cond.soleField "VaryStoreModel$Thing" "maxAge") ∈ lw_all := lw_g (lw_at lw_m6 83 rfl) rfl
theorem q1315 : (Jvm.Cond.lays "VaryStoreModel$Thing" "VaryStoreModel$Thing" "life" "I") ∈ lw_all := lw_g (lw_at lw_m6 84 rfl) rfl
theorem q1316 : (Jvm.Cond.soleField "VaryStoreModel$Thing" "life") ∈ lw_all := lw_g (lw_at lw_m6 85 rfl) rfl
theorem q1317 : (Jvm.Cond.lays "VaryStoreModel$Thing" "VaryStoreModel$Thing" "age" "I") ∈ lw_all := lw_g (lw_at lw_m6 86 rfl) rfl
theorem q1318 : (Jvm.Cond.soleField "VaryStoreModel$Thing" "age") ∈ lw_all := lw_g (lw_at lw_m6 87 rfl) rfl
theorem q1319 : (Jvm.Cond.lays "VaryStoreModel$Thing" "VaryStoreModel$Thing" "since" "I") ∈ lw_all := lw_g (lw_at lw_m6 88 rfl) rfl
theorem q1320 : (Jvm.Cond.soleField "VaryStoreModel$Thing" "since") ∈ lw_all := lw_g (lw_at lw_m6 89 rfl) rfl
theorem q1321 : (Jvm.Cond.lays "VaryStoreModel$Thing" "VaryStoreModel$Thing" "noCache" "Z") ∈ lw_all := lw_g (lw_at lw_m6 90 rfl) rfl
theorem q1322 : (Jvm.Cond.soleField "VaryStoreModel$Thing" "noCache") ∈ lw_all := lw_g (lw_at lw_m6 91 rfl) rfl
theorem q1323 : (Jvm.Cond.lays "VaryStoreModel$Thing" "VaryStoreModel$Thing" "mustAsk" "Z") ∈ lw_all := lw_g (lw_at lw_m6 92 rfl) rfl
theorem q1324 : (Jvm.Cond.soleField "VaryStoreModel$Thing" "mustAsk") ∈ lw_all := lw_g (lw_at lw_m6 93 rfl) rfl
theorem q1325 : (Jvm.Cond.lays "VaryStoreModel$Thing" "VaryStoreModel$Thing" "etag" "[I") ∈ lw_all := lw_g (lw_at lw_m6 94 rfl) rfl
theorem q1326 : (Jvm.Cond.soleField "VaryStoreModel$Thing" "etag") ∈ lw_all := lw_g (lw_at lw_m6 95 rfl) rfl
theorem q1327 : (Jvm.Cond.lays "VaryStoreModel$Thing" "VaryStoreModel$Thing" "vary" "[[I") ∈ lw_all := lw_g (lw_at lw_m6 96 rfl) rfl
theorem q1328 : (Jvm.Cond.soleField "VaryStoreModel$Thing" "vary") ∈ lw_all := lw_g (lw_at lw_m6 97 rfl) rfl
theorem q1329 : (Jvm.Cond.lays "VaryStoreModel$Thing" "VaryStoreModel$Thing" "values" "[[I") ∈ lw_all := lw_g (lw_at lw_m6 98 rfl) rfl
theorem q1330 : (Jvm.Cond.soleField "VaryStoreModel$Thing" "values") ∈ lw_all := lw_g (lw_at lw_m6 99 rfl) rfl
theorem q1331 : (Jvm.Cond.lays "VaryStoreModel$Thing" "VaryStoreModel$Thing" "used" "J") ∈ lw_all := lw_g (lw_at lw_m6 100 rfl) rfl
theorem q1332 : (Jvm.Cond.soleField "VaryStoreModel$Thing" "used") ∈ lw_all := lw_g (lw_at lw_m6 101 rfl) rfl
theorem q1333 : (Jvm.Cond.superclass "VaryStoreModel$Thing" "java/lang/Object") ∈ lw_all := lw_g (lw_at lw_m6 102 rfl) rfl
theorem q1419 : (Jvm.Cond.castable "VaryStoreModel$Thing" "java/lang/Object") ∈ lw_tbl := lw_at lw_m6 188 rfl
theorem in_X8 : ∀ w ∈ wsX80, w ∈ lw_all := lw_in wsX80 [1309, 1311, 1313, 1315, 1317, 1319, 1321, 1323, 1325, 1327, 1329, 1331] (by decide +kernel) (by decide +kernel)
theorem q233 : (Jvm.Cond.sameMethod "[B" "java/lang/Object" "clone" "()Ljava/lang/Object;") ∈ lw_all := lw_g (lw_at lw_m1 202 rfl) rfl
set_option maxRecDepth 100000
theorem q236 : (Jvm.Cond.selects "[B" ({ cls := "[B", name := "clone", desc := "()Ljava/lang/Object;" } : Jvm.MethodName) ({ cls := "java/lang/Object", name := "clone", desc := "()Ljava/lang/Object;" } : Jvm.MethodName)) ∈ lw_all := lw_g (lw_at lw_m1 205 rfl) rfl
theorem q237 : (Jvm.Cond.castable "[B" "java/lang/Cloneable") ∈ lw_tbl := lw_at lw_m1 206 rfl
theorem q1438 : (Jvm.Cond.castable "[B" "java/lang/Object") ∈ lw_tbl := lw_at lw_m6 207 rfl
theorem q1440 : (Jvm.Cond.castable "[I" "java/lang/Object") ∈ lw_tbl := lw_at lw_m6 209 rfl
set_option maxRecDepth 100000
theorem q1443 : (Jvm.Cond.castable "[J" "java/lang/Object") ∈ lw_tbl := lw_at lw_m6 212 rfl
set_option maxRecDepth 100000
theorem q1441 : (Jvm.Cond.castable "[LVaryStoreModel$Thing;" "java/lang/Object") ∈ lw_tbl := lw_at lw_m6 210 rfl
set_option maxRecDepth 100000
theorem q1435 : (Jvm.Cond.sameMethod "[Ljava/lang/Object;" "java/lang/Object" "getClass" "()Ljava/lang/Class;") ∈ lw_all := lw_g (lw_at lw_m6 204 rfl) rfl
set_option maxRecDepth 100000
theorem q1436 : (Jvm.Cond.selects "[Ljava/lang/Object;" ({ cls := "java/lang/Object", name := "getClass", desc := "()Ljava/lang/Class;" } : Jvm.MethodName) ({ cls := "java/lang/Object", name := "getClass", desc := "()Ljava/lang/Class;" } : Jvm.MethodName)) ∈ lw_all := lw_g (lw_at lw_m6 205 rfl) rfl
theorem q1439 : (Jvm.Cond.castable "[Ljava/lang/Object;" "java/lang/Object") ∈ lw_tbl := lw_at lw_m6 208 rfl
theorem q1442 : (Jvm.Cond.castable "[[I" "java/lang/Object") ∈ lw_tbl := lw_at lw_m6 211 rfl
set_option maxRecDepth 100000
theorem q56 : (Jvm.Cond.initialized "java/lang/Integer$IntegerCache") ∈ lw_all := lw_g (lw_at lw_m1 25 rfl) rfl
set_option maxRecDepth 100000
theorem q649 : (Jvm.Cond.laysStatic "java/lang/Integer$IntegerCache" "high" "I") ∈ lw_tbl := lw_at lw_m3 138 rfl
theorem q651 : (Jvm.Cond.laysStatic "java/lang/Integer$IntegerCache" "cache" "[Ljava/lang/Integer;") ∈ lw_tbl := lw_at lw_m3 140 rfl
theorem q47 : (Jvm.Cond.initialized "java/lang/System") ∈ lw_all := lw_g (lw_at lw_m1 16 rfl) rfl
set_option maxRecDepth 100000
theorem q243 : (Jvm.Cond.static ({ cls := "java/lang/System", name := "arraycopy", desc := "(Ljava/lang/Object;ILjava/lang/Object;II)V" } : Jvm.MethodName)) ∈ lw_all := lw_g (lw_at lw_m1 212 rfl) rfl
theorem q244 : (Jvm.Cond.native ({ cls := "java/lang/System", name := "arraycopy", desc := "(Ljava/lang/Object;ILjava/lang/Object;II)V" } : Jvm.MethodName)) ∈ lw_all := lw_g (lw_at lw_m1 213 rfl) rfl
theorem q1020 : (Jvm.Cond.interfaceMethod "java/util/Iterator" "java/util/Iterator" "hasNext" "()Z") ∈ lw_tbl := lw_at lw_m5 29 rfl
set_option maxRecDepth 100000
theorem q1021 : (Jvm.Cond.declares ({ cls := "java/util/Iterator", name := "hasNext", desc := "()Z" } : Jvm.MethodName)) ∈ lw_tbl := lw_at lw_m5 30 rfl
theorem q1030 : (Jvm.Cond.interfaceMethod "java/util/Iterator" "java/util/Iterator" "next" "()Ljava/lang/Object;") ∈ lw_tbl := lw_at lw_m5 39 rfl
theorem q1031 : (Jvm.Cond.declares ({ cls := "java/util/Iterator", name := "next", desc := "()Ljava/lang/Object;" } : Jvm.MethodName)) ∈ lw_tbl := lw_at lw_m5 40 rfl
theorem q991 : (Jvm.Cond.interfaceMethod "java/util/List" "java/util/List" "iterator" "()Ljava/util/Iterator;") ∈ lw_tbl := lw_at lw_m5 0 rfl
set_option maxRecDepth 100000
theorem q992 : (Jvm.Cond.declares ({ cls := "java/util/List", name := "iterator", desc := "()Ljava/util/Iterator;" } : Jvm.MethodName)) ∈ lw_tbl := lw_at lw_m5 1 rfl
theorem q101 : (Jvm.Cond.arrayClass Jvm.ClassFile.FieldType.byte) ∈ lw_all := lw_g (lw_at lw_m1 70 rfl) rfl
set_option maxRecDepth 100000
theorem q541 : (Jvm.Cond.arrayOver (Jvm.ClassFile.FieldType.object "java/lang/Object")) ∈ lw_tbl := lw_at lw_m3 30 rfl
theorem q1152 : (Jvm.Cond.arrayClass Jvm.ClassFile.FieldType.int) ∈ lw_all := lw_g (lw_at lw_m5 161 rfl) rfl
theorem q1154 : (Jvm.Cond.arrayOver (Jvm.ClassFile.FieldType.object "VaryStoreModel$Thing")) ∈ lw_tbl := lw_at lw_m5 163 rfl
theorem q1243 : (Jvm.Cond.arrayOver (Jvm.ClassFile.FieldType.array Jvm.ClassFile.FieldType.int)) ∈ lw_tbl := lw_at lw_m6 12 rfl
theorem q1406 : (Jvm.Cond.arrayClass Jvm.ClassFile.FieldType.long) ∈ lw_all := lw_g (lw_at lw_m6 175 rfl) rfl
