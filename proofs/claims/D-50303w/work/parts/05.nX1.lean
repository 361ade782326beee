/-! FoldLister -/
set_option maxRecDepth 100000
def RX1 : String := "FoldLister"
def TX1 : u_T := fun k => match k with
  | 0 => ("FoldLister", "buffer", "[B", true)
  | 1 => ("FoldLister", "buffered", "I", false)
  | 2 => ("FoldLister", "parseError", "I", false)
  | 3 => ("FoldLister", "errorPosition", "I", false)
  | 4 => ("FoldLister", "page", "LFoldLister$Page;", false)
  | 5 => ("FoldLister", "past", "Ljava/util/ArrayDeque;", true)
  | 6 => ("FoldLister", "saved", "[LFoldLister$Page;", true)
  | _ => ("FoldLister", "output", "Ljava/lang/StringBuilder;", true)
def tyX1 : Nat → FieldType := fun k => match k with
  | 0 => .array .byte
  | 1 => .int
  | 2 => .int
  | 3 => .int
  | 4 => .object "FoldLister$Page"
  | 5 => .object "java/util/ArrayDeque"
  | 6 => .array (.object "FoldLister$Page")
  | _ => .object "java/lang/StringBuilder"
abbrev wsX10 : List Cond := u_ws RX1 TX1 8
theorem nmX1 : ∀ a, a < 8 → ∀ b, b < 8 → a ≠ b → (TX1 a).2.1 ≠ (TX1 b).2.1 := by decide +kernel
theorem tyX1_ok : ∀ k, k < 8 → parseFieldDescriptor (TX1 k).2.2.1 = some (tyX1 k) := by decide +kernel
abbrev cX1_init : ByteArray := prog_1_method_4_code
def yX1_init : MethodName := ⟨RX1, "<init>", "()V"⟩
def dkwX1_init_2 : List UInt8 := [181, 0, 35, 42, 187, 0, 39, 89, 183, 0, 41, 181, 0, 42, 177]
abbrev dktX1_init_2 : List UInt8 := dkwX1_init_2 ++ []
def dkwX1_init_1 : List UInt8 := [183, 0, 23, 181, 0, 24, 42, 187, 0, 28, 89, 183, 0, 30, 181, 0, 31, 42, 5, 189, 0, 21]
abbrev dktX1_init_1 : List UInt8 := dkwX1_init_1 ++ dktX1_init_2
def dkwX1_init_0 : List UInt8 := [42, 183, 0, 7, 42, 17, 2, 188, 188, 8, 181, 0, 13, 42, 2, 181, 0, 17, 42, 187, 0, 21, 89]
abbrev dktX1_init_0 : List UInt8 := dkwX1_init_0 ++ dktX1_init_1
theorem dksX1_init_0 : cX1_init.data.toList.drop 0 = dktX1_init_0 := by decide +kernel
theorem dksX1_init_1 : cX1_init.data.toList.drop 23 = dktX1_init_1 := dk_seg dksX1_init_0 23 rfl rfl
theorem dksX1_init_2 : cX1_init.data.toList.drop 45 = dktX1_init_2 := dk_seg dksX1_init_1 22 rfl rfl
theorem dX1_init_0 : decode cX1_init 0 = .ok (.aload_n 0, 1) := dk_42 (dk_at dksX1_init_0 0 rfl rfl)
theorem dX1_init_1 : decode cX1_init 1 = .ok (.invokespecial 7, 3) := dk_183 0 7 (dk_at dksX1_init_0 1 rfl rfl)
theorem dX1_init_4 : decode cX1_init 4 = .ok (.aload_n 0, 1) := dk_42 (dk_at dksX1_init_0 4 rfl rfl)
theorem dX1_init_5 : decode cX1_init 5 = .ok (.sipush 700, 3) := dk_17 2 188 (dk_at dksX1_init_0 5 rfl rfl)
theorem dX1_init_8 : decode cX1_init 8 = .ok (.newarray .byte, 2) := dk_188_8 (dk_at dksX1_init_0 8 rfl rfl)
theorem dX1_init_10 : decode cX1_init 10 = .ok (.putfield 13, 3) := dk_181 0 13 (dk_at dksX1_init_0 10 rfl rfl)
theorem dX1_init_13 : decode cX1_init 13 = .ok (.aload_n 0, 1) := dk_42 (dk_at dksX1_init_0 13 rfl rfl)
theorem dX1_init_14 : decode cX1_init 14 = .ok (.iconst (-1), 1) := dk_2 (dk_at dksX1_init_0 14 rfl rfl)
theorem dX1_init_15 : decode cX1_init 15 = .ok (.putfield 17, 3) := dk_181 0 17 (dk_at dksX1_init_0 15 rfl rfl)
theorem dX1_init_18 : decode cX1_init 18 = .ok (.aload_n 0, 1) := dk_42 (dk_at dksX1_init_0 18 rfl rfl)
theorem dX1_init_19 : decode cX1_init 19 = .ok (.new 21, 3) := dk_187 0 21 (dk_at dksX1_init_0 19 rfl rfl)
theorem dX1_init_22 : decode cX1_init 22 = .ok (.dup, 1) := dk_89 (dk_at dksX1_init_0 22 rfl rfl)
theorem dX1_init_23 : decode cX1_init 23 = .ok (.invokespecial 23, 3) := dk_183 0 23 (dk_at dksX1_init_1 0 rfl rfl)
theorem dX1_init_26 : decode cX1_init 26 = .ok (.putfield 24, 3) := dk_181 0 24 (dk_at dksX1_init_1 3 rfl rfl)
theorem dX1_init_29 : decode cX1_init 29 = .ok (.aload_n 0, 1) := dk_42 (dk_at dksX1_init_1 6 rfl rfl)
theorem dX1_init_30 : decode cX1_init 30 = .ok (.new 28, 3) := dk_187 0 28 (dk_at dksX1_init_1 7 rfl rfl)
theorem dX1_init_33 : decode cX1_init 33 = .ok (.dup, 1) := dk_89 (dk_at dksX1_init_1 10 rfl rfl)
theorem dX1_init_34 : decode cX1_init 34 = .ok (.invokespecial 30, 3) := dk_183 0 30 (dk_at dksX1_init_1 11 rfl rfl)
theorem dX1_init_37 : decode cX1_init 37 = .ok (.putfield 31, 3) := dk_181 0 31 (dk_at dksX1_init_1 14 rfl rfl)
theorem dX1_init_40 : decode cX1_init 40 = .ok (.aload_n 0, 1) := dk_42 (dk_at dksX1_init_1 17 rfl rfl)
theorem dX1_init_41 : decode cX1_init 41 = .ok (.iconst 2, 1) := dk_5 (dk_at dksX1_init_1 18 rfl rfl)
theorem dX1_init_42 : decode cX1_init 42 = .ok (.anewarray 21, 3) := dk_189 0 21 (dk_at dksX1_init_1 19 rfl rfl)
theorem dX1_init_45 : decode cX1_init 45 = .ok (.putfield 35, 3) := dk_181 0 35 (dk_at dksX1_init_2 0 rfl rfl)
theorem dX1_init_48 : decode cX1_init 48 = .ok (.aload_n 0, 1) := dk_42 (dk_at dksX1_init_2 3 rfl rfl)
theorem dX1_init_49 : decode cX1_init 49 = .ok (.new 39, 3) := dk_187 0 39 (dk_at dksX1_init_2 4 rfl rfl)
theorem dX1_init_52 : decode cX1_init 52 = .ok (.dup, 1) := dk_89 (dk_at dksX1_init_2 7 rfl rfl)
theorem dX1_init_53 : decode cX1_init 53 = .ok (.invokespecial 41, 3) := dk_183 0 41 (dk_at dksX1_init_2 8 rfl rfl)
theorem dX1_init_56 : decode cX1_init 56 = .ok (.putfield 42, 3) := dk_181 0 42 (dk_at dksX1_init_2 11 rfl rfl)
theorem dX1_init_59 : decode cX1_init 59 = .ok (.return_, 1) := dk_177 (dk_at dksX1_init_2 14 rfl rfl)
abbrev cX1_append : ByteArray := prog_1_method_14_code
def yX1_append : MethodName := ⟨RX1, "append", "(IIIII)I"⟩
def dkwX1_append_4 : List UInt8 := [96, 181, 0, 97, 132, 10, 248, 167, 255, 223, 132, 8, 1, 167, 255, 199, 42, 180, 0, 97, 172]
abbrev dktX1_append_4 : List UInt8 := dkwX1_append_4 ++ []
def dkwX1_append_3 : List UInt8 := [155, 0, 34, 42, 180, 0, 13, 42, 180, 0, 97, 21, 9, 21, 10, 122, 145, 84, 42, 89, 180, 0, 97, 4]
abbrev dktX1_append_3 : List UInt8 := dkwX1_append_3 ++ dktX1_append_4
def dkwX1_append_2 : List UInt8 := [54, 8, 21, 8, 21, 7, 162, 0, 56, 25, 6, 21, 8, 46, 54, 9, 16, 24, 54, 10, 21, 10]
abbrev dktX1_append_2 : List UInt8 := dkwX1_append_2 ++ dktX1_append_3
def dkwX1_append_1 : List UInt8 := [28, 79, 89, 5, 29, 79, 89, 6, 21, 4, 79, 89, 7, 21, 5, 79, 58, 6, 25, 6, 190, 54, 7, 3]
abbrev dktX1_append_1 : List UInt8 := dkwX1_append_1 ++ dktX1_append_2
def dkwX1_append_0 : List UInt8 := [42, 180, 0, 97, 16, 20, 96, 17, 2, 188, 164, 0, 5, 2, 172, 8, 188, 10, 89, 3, 27, 79, 89, 4]
abbrev dktX1_append_0 : List UInt8 := dkwX1_append_0 ++ dktX1_append_1
theorem dksX1_append_0 : cX1_append.data.toList.drop 0 = dktX1_append_0 := by decide +kernel
theorem dksX1_append_1 : cX1_append.data.toList.drop 24 = dktX1_append_1 := dk_seg dksX1_append_0 24 rfl rfl
theorem dksX1_append_2 : cX1_append.data.toList.drop 48 = dktX1_append_2 := dk_seg dksX1_append_1 24 rfl rfl
theorem dksX1_append_3 : cX1_append.data.toList.drop 70 = dktX1_append_3 := dk_seg dksX1_append_2 22 rfl rfl
theorem dksX1_append_4 : cX1_append.data.toList.drop 94 = dktX1_append_4 := dk_seg dksX1_append_3 24 rfl rfl
theorem dX1_append_0 : decode cX1_append 0 = .ok (.aload_n 0, 1) := dk_42 (dk_at dksX1_append_0 0 rfl rfl)
theorem dX1_append_1 : decode cX1_append 1 = .ok (.getfield 97, 3) := dk_180 0 97 (dk_at dksX1_append_0 1 rfl rfl)
theorem dX1_append_4 : decode cX1_append 4 = .ok (.bipush 20, 2) := dk_16 20 (dk_at dksX1_append_0 4 rfl rfl)
theorem dX1_append_6 : decode cX1_append 6 = .ok (.iadd, 1) := dk_96 (dk_at dksX1_append_0 6 rfl rfl)
theorem dX1_append_7 : decode cX1_append 7 = .ok (.sipush 700, 3) := dk_17 2 188 (dk_at dksX1_append_0 7 rfl rfl)
theorem dX1_append_10 : decode cX1_append 10 = .ok (.if_icmp .le 5, 3) := dk_164 0 5 (dk_at dksX1_append_0 10 rfl rfl)
theorem dX1_append_13 : decode cX1_append 13 = .ok (.iconst (-1), 1) := dk_2 (dk_at dksX1_append_0 13 rfl rfl)
theorem dX1_append_14 : decode cX1_append 14 = .ok (.ireturn, 1) := dk_172 (dk_at dksX1_append_0 14 rfl rfl)
theorem dX1_append_15 : decode cX1_append 15 = .ok (.iconst 5, 1) := dk_8 (dk_at dksX1_append_0 15 rfl rfl)
theorem dX1_append_16 : decode cX1_append 16 = .ok (.newarray .int, 2) := dk_188_10 (dk_at dksX1_append_0 16 rfl rfl)
theorem dX1_append_18 : decode cX1_append 18 = .ok (.dup, 1) := dk_89 (dk_at dksX1_append_0 18 rfl rfl)
theorem dX1_append_19 : decode cX1_append 19 = .ok (.iconst 0, 1) := dk_3 (dk_at dksX1_append_0 19 rfl rfl)
theorem dX1_append_20 : decode cX1_append 20 = .ok (.iload_n 1, 1) := dk_27 (dk_at dksX1_append_0 20 rfl rfl)
theorem dX1_append_21 : decode cX1_append 21 = .ok (.iastore, 1) := dk_79 (dk_at dksX1_append_0 21 rfl rfl)
theorem dX1_append_22 : decode cX1_append 22 = .ok (.dup, 1) := dk_89 (dk_at dksX1_append_0 22 rfl rfl)
theorem dX1_append_23 : decode cX1_append 23 = .ok (.iconst 1, 1) := dk_4 (dk_at dksX1_append_0 23 rfl rfl)
theorem dX1_append_24 : decode cX1_append 24 = .ok (.iload_n 2, 1) := dk_28 (dk_at dksX1_append_1 0 rfl rfl)
theorem dX1_append_25 : decode cX1_append 25 = .ok (.iastore, 1) := dk_79 (dk_at dksX1_append_1 1 rfl rfl)
theorem dX1_append_26 : decode cX1_append 26 = .ok (.dup, 1) := dk_89 (dk_at dksX1_append_1 2 rfl rfl)
theorem dX1_append_27 : decode cX1_append 27 = .ok (.iconst 2, 1) := dk_5 (dk_at dksX1_append_1 3 rfl rfl)
theorem dX1_append_28 : decode cX1_append 28 = .ok (.iload_n 3, 1) := dk_29 (dk_at dksX1_append_1 4 rfl rfl)
theorem dX1_append_29 : decode cX1_append 29 = .ok (.iastore, 1) := dk_79 (dk_at dksX1_append_1 5 rfl rfl)
theorem dX1_append_30 : decode cX1_append 30 = .ok (.dup, 1) := dk_89 (dk_at dksX1_append_1 6 rfl rfl)
theorem dX1_append_31 : decode cX1_append 31 = .ok (.iconst 3, 1) := dk_6 (dk_at dksX1_append_1 7 rfl rfl)
theorem dX1_append_32 : decode cX1_append 32 = .ok (.iload 4, 2) := dk_21 4 (dk_at dksX1_append_1 8 rfl rfl)
theorem dX1_append_34 : decode cX1_append 34 = .ok (.iastore, 1) := dk_79 (dk_at dksX1_append_1 10 rfl rfl)
theorem dX1_append_35 : decode cX1_append 35 = .ok (.dup, 1) := dk_89 (dk_at dksX1_append_1 11 rfl rfl)
theorem dX1_append_36 : decode cX1_append 36 = .ok (.iconst 4, 1) := dk_7 (dk_at dksX1_append_1 12 rfl rfl)
theorem dX1_append_37 : decode cX1_append 37 = .ok (.iload 5, 2) := dk_21 5 (dk_at dksX1_append_1 13 rfl rfl)
theorem dX1_append_39 : decode cX1_append 39 = .ok (.iastore, 1) := dk_79 (dk_at dksX1_append_1 15 rfl rfl)
theorem dX1_append_40 : decode cX1_append 40 = .ok (.astore 6, 2) := dk_58 6 (dk_at dksX1_append_1 16 rfl rfl)
theorem dX1_append_42 : decode cX1_append 42 = .ok (.aload 6, 2) := dk_25 6 (dk_at dksX1_append_1 18 rfl rfl)
theorem dX1_append_44 : decode cX1_append 44 = .ok (.arraylength, 1) := dk_190 (dk_at dksX1_append_1 20 rfl rfl)
theorem dX1_append_45 : decode cX1_append 45 = .ok (.istore 7, 2) := dk_54 7 (dk_at dksX1_append_1 21 rfl rfl)
theorem dX1_append_47 : decode cX1_append 47 = .ok (.iconst 0, 1) := dk_3 (dk_at dksX1_append_1 23 rfl rfl)
theorem dX1_append_48 : decode cX1_append 48 = .ok (.istore 8, 2) := dk_54 8 (dk_at dksX1_append_2 0 rfl rfl)
theorem dX1_append_50 : decode cX1_append 50 = .ok (.iload 8, 2) := dk_21 8 (dk_at dksX1_append_2 2 rfl rfl)
theorem dX1_append_52 : decode cX1_append 52 = .ok (.iload 7, 2) := dk_21 7 (dk_at dksX1_append_2 4 rfl rfl)
theorem dX1_append_54 : decode cX1_append 54 = .ok (.if_icmp .ge 56, 3) := dk_162 0 56 (dk_at dksX1_append_2 6 rfl rfl)
theorem dX1_append_57 : decode cX1_append 57 = .ok (.aload 6, 2) := dk_25 6 (dk_at dksX1_append_2 9 rfl rfl)
theorem dX1_append_59 : decode cX1_append 59 = .ok (.iload 8, 2) := dk_21 8 (dk_at dksX1_append_2 11 rfl rfl)
theorem dX1_append_61 : decode cX1_append 61 = .ok (.iaload, 1) := dk_46 (dk_at dksX1_append_2 13 rfl rfl)
theorem dX1_append_62 : decode cX1_append 62 = .ok (.istore 9, 2) := dk_54 9 (dk_at dksX1_append_2 14 rfl rfl)
theorem dX1_append_64 : decode cX1_append 64 = .ok (.bipush 24, 2) := dk_16 24 (dk_at dksX1_append_2 16 rfl rfl)
theorem dX1_append_66 : decode cX1_append 66 = .ok (.istore 10, 2) := dk_54 10 (dk_at dksX1_append_2 18 rfl rfl)
theorem dX1_append_68 : decode cX1_append 68 = .ok (.iload 10, 2) := dk_21 10 (dk_at dksX1_append_2 20 rfl rfl)
theorem dX1_append_70 : decode cX1_append 70 = .ok (.ifCond .lt 34, 3) := dk_155 0 34 (dk_at dksX1_append_3 0 rfl rfl)
theorem dX1_append_73 : decode cX1_append 73 = .ok (.aload_n 0, 1) := dk_42 (dk_at dksX1_append_3 3 rfl rfl)
theorem dX1_append_74 : decode cX1_append 74 = .ok (.getfield 13, 3) := dk_180 0 13 (dk_at dksX1_append_3 4 rfl rfl)
theorem dX1_append_77 : decode cX1_append 77 = .ok (.aload_n 0, 1) := dk_42 (dk_at dksX1_append_3 7 rfl rfl)
theorem dX1_append_78 : decode cX1_append 78 = .ok (.getfield 97, 3) := dk_180 0 97 (dk_at dksX1_append_3 8 rfl rfl)
theorem dX1_append_81 : decode cX1_append 81 = .ok (.iload 9, 2) := dk_21 9 (dk_at dksX1_append_3 11 rfl rfl)
theorem dX1_append_83 : decode cX1_append 83 = .ok (.iload 10, 2) := dk_21 10 (dk_at dksX1_append_3 13 rfl rfl)
theorem dX1_append_85 : decode cX1_append 85 = .ok (.ishr, 1) := dk_122 (dk_at dksX1_append_3 15 rfl rfl)
theorem dX1_append_86 : decode cX1_append 86 = .ok (.i2b, 1) := dk_145 (dk_at dksX1_append_3 16 rfl rfl)
theorem dX1_append_87 : decode cX1_append 87 = .ok (.bastore, 1) := dk_84 (dk_at dksX1_append_3 17 rfl rfl)
theorem dX1_append_88 : decode cX1_append 88 = .ok (.aload_n 0, 1) := dk_42 (dk_at dksX1_append_3 18 rfl rfl)
theorem dX1_append_89 : decode cX1_append 89 = .ok (.dup, 1) := dk_89 (dk_at dksX1_append_3 19 rfl rfl)
theorem dX1_append_90 : decode cX1_append 90 = .ok (.getfield 97, 3) := dk_180 0 97 (dk_at dksX1_append_3 20 rfl rfl)
theorem dX1_append_93 : decode cX1_append 93 = .ok (.iconst 1, 1) := dk_4 (dk_at dksX1_append_3 23 rfl rfl)
theorem dX1_append_94 : decode cX1_append 94 = .ok (.iadd, 1) := dk_96 (dk_at dksX1_append_4 0 rfl rfl)
theorem dX1_append_95 : decode cX1_append 95 = .ok (.putfield 97, 3) := dk_181 0 97 (dk_at dksX1_append_4 1 rfl rfl)
theorem dX1_append_98 : decode cX1_append 98 = .ok (.iinc 10 (-8), 3) := dk_132 10 248 (dk_at dksX1_append_4 4 rfl rfl)
theorem dX1_append_101 : decode cX1_append 101 = .ok (.goto (-33), 3) := dk_167 255 223 (dk_at dksX1_append_4 7 rfl rfl)
theorem dX1_append_104 : decode cX1_append 104 = .ok (.iinc 8 1, 3) := dk_132 8 1 (dk_at dksX1_append_4 10 rfl rfl)
theorem dX1_append_107 : decode cX1_append 107 = .ok (.goto (-57), 3) := dk_167 255 199 (dk_at dksX1_append_4 13 rfl rfl)
theorem dX1_append_110 : decode cX1_append 110 = .ok (.aload_n 0, 1) := dk_42 (dk_at dksX1_append_4 16 rfl rfl)
theorem dX1_append_111 : decode cX1_append 111 = .ok (.getfield 97, 3) := dk_180 0 97 (dk_at dksX1_append_4 17 rfl rfl)
theorem dX1_append_114 : decode cX1_append 114 = .ok (.ireturn, 1) := dk_172 (dk_at dksX1_append_4 20 rfl rfl)
abbrev cX1_parseError : ByteArray := prog_1_method_16_code
def yX1_parseError : MethodName := ⟨RX1, "parseError", "()I"⟩
theorem dX1_parseError_0 : decode cX1_parseError 0 = .ok (.aload_n 0, 1) := by decide +kernel
theorem dX1_parseError_1 : decode cX1_parseError 1 = .ok (.getfield 117, 3) := by decide +kernel
theorem dX1_parseError_4 : decode cX1_parseError 4 = .ok (.ireturn, 1) := by decide +kernel
abbrev cX1_errorPosition : ByteArray := prog_1_method_17_code
def yX1_errorPosition : MethodName := ⟨RX1, "errorPosition", "()I"⟩
theorem dX1_errorPosition_0 : decode cX1_errorPosition 0 = .ok (.aload_n 0, 1) := by decide +kernel
theorem dX1_errorPosition_1 : decode cX1_errorPosition 1 = .ok (.getfield 17, 3) := by decide +kernel
theorem dX1_errorPosition_4 : decode cX1_errorPosition 4 = .ok (.ireturn, 1) := by decide +kernel
abbrev cX1_buffered : ByteArray := prog_1_method_18_code
def yX1_buffered : MethodName := ⟨RX1, "buffered", "()I"⟩
theorem dX1_buffered_0 : decode cX1_buffered 0 = .ok (.aload_n 0, 1) := by decide +kernel
theorem dX1_buffered_1 : decode cX1_buffered 1 = .ok (.getfield 97, 3) := by decide +kernel
theorem dX1_buffered_4 : decode cX1_buffered 4 = .ok (.ireturn, 1) := by decide +kernel
abbrev cX1_lineOfKey : ByteArray := prog_1_method_28_code
def yX1_lineOfKey : MethodName := ⟨RX1, "lineOfKey", "(I)I"⟩
def dkwX1_lineOfKey_0 : List UInt8 := [42, 180, 0, 24, 27, 182, 0, 254, 4, 96, 172]
abbrev dktX1_lineOfKey_0 : List UInt8 := dkwX1_lineOfKey_0 ++ []
theorem dksX1_lineOfKey_0 : cX1_lineOfKey.data.toList.drop 0 = dktX1_lineOfKey_0 := by decide +kernel
theorem dX1_lineOfKey_0 : decode cX1_lineOfKey 0 = .ok (.aload_n 0, 1) := dk_42 (dk_at dksX1_lineOfKey_0 0 rfl rfl)
theorem dX1_lineOfKey_1 : decode cX1_lineOfKey 1 = .ok (.getfield 24, 3) := dk_180 0 24 (dk_at dksX1_lineOfKey_0 1 rfl rfl)
theorem dX1_lineOfKey_4 : decode cX1_lineOfKey 4 = .ok (.iload_n 1, 1) := dk_27 (dk_at dksX1_lineOfKey_0 4 rfl rfl)
theorem dX1_lineOfKey_5 : decode cX1_lineOfKey 5 = .ok (.invokevirtual 254, 3) := dk_182 0 254 (dk_at dksX1_lineOfKey_0 5 rfl rfl)
theorem dX1_lineOfKey_8 : decode cX1_lineOfKey 8 = .ok (.iconst 1, 1) := dk_4 (dk_at dksX1_lineOfKey_0 8 rfl rfl)
theorem dX1_lineOfKey_9 : decode cX1_lineOfKey 9 = .ok (.iadd, 1) := dk_96 (dk_at dksX1_lineOfKey_0 9 rfl rfl)
theorem dX1_lineOfKey_10 : decode cX1_lineOfKey 10 = .ok (.ireturn, 1) := dk_172 (dk_at dksX1_lineOfKey_0 10 rfl rfl)
abbrev cX1_widest : ByteArray := prog_1_method_32_code
def yX1_widest : MethodName := ⟨RX1, "widest", "()I"⟩
def dkwX1_widest_3 : List UInt8 := [60, 132, 2, 1, 167, 255, 187, 27, 4, 96, 172]
abbrev dktX1_widest_3 : List UInt8 := dkwX1_widest_3 ++ []
def dkwX1_widest_2 : List UInt8 := [180, 0, 222, 182, 0, 104, 42, 180, 0, 24, 27, 182, 0, 67, 180, 0, 222, 182, 0, 104, 164, 0, 5, 28]
abbrev dktX1_widest_2 : List UInt8 := dkwX1_widest_2 ++ dktX1_widest_3
def dkwX1_widest_1 : List UInt8 := [182, 0, 226, 154, 0, 6, 167, 0, 41, 27, 2, 159, 0, 34, 42, 180, 0, 24, 28, 182, 0, 67]
abbrev dktX1_widest_1 : List UInt8 := dkwX1_widest_1 ++ dktX1_widest_2
def dkwX1_widest_0 : List UInt8 := [2, 60, 3, 61, 28, 42, 180, 0, 24, 182, 0, 55, 162, 0, 64, 42, 180, 0, 24, 182, 0, 71, 28]
abbrev dktX1_widest_0 : List UInt8 := dkwX1_widest_0 ++ dktX1_widest_1
theorem dksX1_widest_0 : cX1_widest.data.toList.drop 0 = dktX1_widest_0 := by decide +kernel
theorem dksX1_widest_1 : cX1_widest.data.toList.drop 23 = dktX1_widest_1 := dk_seg dksX1_widest_0 23 rfl rfl
theorem dksX1_widest_2 : cX1_widest.data.toList.drop 45 = dktX1_widest_2 := dk_seg dksX1_widest_1 22 rfl rfl
theorem dksX1_widest_3 : cX1_widest.data.toList.drop 69 = dktX1_widest_3 := dk_seg dksX1_widest_2 24 rfl rfl
theorem dX1_widest_0 : decode cX1_widest 0 = .ok (.iconst (-1), 1) := dk_2 (dk_at dksX1_widest_0 0 rfl rfl)
theorem dX1_widest_1 : decode cX1_widest 1 = .ok (.istore_n 1, 1) := dk_60 (dk_at dksX1_widest_0 1 rfl rfl)
theorem dX1_widest_2 : decode cX1_widest 2 = .ok (.iconst 0, 1) := dk_3 (dk_at dksX1_widest_0 2 rfl rfl)
theorem dX1_widest_3 : decode cX1_widest 3 = .ok (.istore_n 2, 1) := dk_61 (dk_at dksX1_widest_0 3 rfl rfl)
theorem dX1_widest_4 : decode cX1_widest 4 = .ok (.iload_n 2, 1) := dk_28 (dk_at dksX1_widest_0 4 rfl rfl)
theorem dX1_widest_5 : decode cX1_widest 5 = .ok (.aload_n 0, 1) := dk_42 (dk_at dksX1_widest_0 5 rfl rfl)
theorem dX1_widest_6 : decode cX1_widest 6 = .ok (.getfield 24, 3) := dk_180 0 24 (dk_at dksX1_widest_0 6 rfl rfl)
theorem dX1_widest_9 : decode cX1_widest 9 = .ok (.invokevirtual 55, 3) := dk_182 0 55 (dk_at dksX1_widest_0 9 rfl rfl)
theorem dX1_widest_12 : decode cX1_widest 12 = .ok (.if_icmp .ge 64, 3) := dk_162 0 64 (dk_at dksX1_widest_0 12 rfl rfl)
theorem dX1_widest_15 : decode cX1_widest 15 = .ok (.aload_n 0, 1) := dk_42 (dk_at dksX1_widest_0 15 rfl rfl)
theorem dX1_widest_16 : decode cX1_widest 16 = .ok (.getfield 24, 3) := dk_180 0 24 (dk_at dksX1_widest_0 16 rfl rfl)
theorem dX1_widest_19 : decode cX1_widest 19 = .ok (.invokevirtual 71, 3) := dk_182 0 71 (dk_at dksX1_widest_0 19 rfl rfl)
theorem dX1_widest_22 : decode cX1_widest 22 = .ok (.iload_n 2, 1) := dk_28 (dk_at dksX1_widest_0 22 rfl rfl)
theorem dX1_widest_23 : decode cX1_widest 23 = .ok (.invokevirtual 226, 3) := dk_182 0 226 (dk_at dksX1_widest_1 0 rfl rfl)
theorem dX1_widest_26 : decode cX1_widest 26 = .ok (.ifCond .ne 6, 3) := dk_154 0 6 (dk_at dksX1_widest_1 3 rfl rfl)
theorem dX1_widest_29 : decode cX1_widest 29 = .ok (.goto 41, 3) := dk_167 0 41 (dk_at dksX1_widest_1 6 rfl rfl)
theorem dX1_widest_32 : decode cX1_widest 32 = .ok (.iload_n 1, 1) := dk_27 (dk_at dksX1_widest_1 9 rfl rfl)
theorem dX1_widest_33 : decode cX1_widest 33 = .ok (.iconst (-1), 1) := dk_2 (dk_at dksX1_widest_1 10 rfl rfl)
theorem dX1_widest_34 : decode cX1_widest 34 = .ok (.if_icmp .eq 34, 3) := dk_159 0 34 (dk_at dksX1_widest_1 11 rfl rfl)
theorem dX1_widest_37 : decode cX1_widest 37 = .ok (.aload_n 0, 1) := dk_42 (dk_at dksX1_widest_1 14 rfl rfl)
theorem dX1_widest_38 : decode cX1_widest 38 = .ok (.getfield 24, 3) := dk_180 0 24 (dk_at dksX1_widest_1 15 rfl rfl)
theorem dX1_widest_41 : decode cX1_widest 41 = .ok (.iload_n 2, 1) := dk_28 (dk_at dksX1_widest_1 18 rfl rfl)
theorem dX1_widest_42 : decode cX1_widest 42 = .ok (.invokevirtual 67, 3) := dk_182 0 67 (dk_at dksX1_widest_1 19 rfl rfl)
theorem dX1_widest_45 : decode cX1_widest 45 = .ok (.getfield 222, 3) := dk_180 0 222 (dk_at dksX1_widest_2 0 rfl rfl)
theorem dX1_widest_48 : decode cX1_widest 48 = .ok (.invokevirtual 104, 3) := dk_182 0 104 (dk_at dksX1_widest_2 3 rfl rfl)
theorem dX1_widest_51 : decode cX1_widest 51 = .ok (.aload_n 0, 1) := dk_42 (dk_at dksX1_widest_2 6 rfl rfl)
theorem dX1_widest_52 : decode cX1_widest 52 = .ok (.getfield 24, 3) := dk_180 0 24 (dk_at dksX1_widest_2 7 rfl rfl)
theorem dX1_widest_55 : decode cX1_widest 55 = .ok (.iload_n 1, 1) := dk_27 (dk_at dksX1_widest_2 10 rfl rfl)
theorem dX1_widest_56 : decode cX1_widest 56 = .ok (.invokevirtual 67, 3) := dk_182 0 67 (dk_at dksX1_widest_2 11 rfl rfl)
theorem dX1_widest_59 : decode cX1_widest 59 = .ok (.getfield 222, 3) := dk_180 0 222 (dk_at dksX1_widest_2 14 rfl rfl)
theorem dX1_widest_62 : decode cX1_widest 62 = .ok (.invokevirtual 104, 3) := dk_182 0 104 (dk_at dksX1_widest_2 17 rfl rfl)
theorem dX1_widest_65 : decode cX1_widest 65 = .ok (.if_icmp .le 5, 3) := dk_164 0 5 (dk_at dksX1_widest_2 20 rfl rfl)
theorem dX1_widest_68 : decode cX1_widest 68 = .ok (.iload_n 2, 1) := dk_28 (dk_at dksX1_widest_2 23 rfl rfl)
theorem dX1_widest_69 : decode cX1_widest 69 = .ok (.istore_n 1, 1) := dk_60 (dk_at dksX1_widest_3 0 rfl rfl)
theorem dX1_widest_70 : decode cX1_widest 70 = .ok (.iinc 2 1, 3) := dk_132 2 1 (dk_at dksX1_widest_3 1 rfl rfl)
theorem dX1_widest_73 : decode cX1_widest 73 = .ok (.goto (-69), 3) := dk_167 255 187 (dk_at dksX1_widest_3 4 rfl rfl)
theorem dX1_widest_76 : decode cX1_widest 76 = .ok (.iload_n 1, 1) := dk_27 (dk_at dksX1_widest_3 7 rfl rfl)
theorem dX1_widest_77 : decode cX1_widest 77 = .ok (.iconst 1, 1) := dk_4 (dk_at dksX1_widest_3 8 rfl rfl)
theorem dX1_widest_78 : decode cX1_widest 78 = .ok (.iadd, 1) := dk_96 (dk_at dksX1_widest_3 9 rfl rfl)
theorem dX1_widest_79 : decode cX1_widest 79 = .ok (.ireturn, 1) := dk_172 (dk_at dksX1_widest_3 10 rfl rfl)
abbrev cX1_meanLength : ByteArray := prog_1_method_34_code
def yX1_meanLength : MethodName := ⟨RX1, "meanLength", "()D"⟩
def dkwX1_meanLength_3 : List UInt8 := [111, 175]
abbrev dktX1_meanLength_3 : List UInt8 := dkwX1_meanLength_3 ++ []
def dkwX1_meanLength_2 : List UInt8 := [78, 27, 45, 180, 0, 222, 182, 0, 104, 96, 60, 167, 255, 227, 27, 135, 42, 180, 0, 24, 182, 0, 55, 135]
abbrev dktX1_meanLength_2 : List UInt8 := dkwX1_meanLength_2 ++ dktX1_meanLength_3
def dkwX1_meanLength_1 : List UInt8 := [185, 0, 152, 1, 0, 77, 44, 185, 0, 156, 1, 0, 153, 0, 26, 44, 185, 0, 162, 1, 0, 192, 0, 215]
abbrev dktX1_meanLength_1 : List UInt8 := dkwX1_meanLength_1 ++ dktX1_meanLength_2
def dkwX1_meanLength_0 : List UInt8 := [42, 180, 0, 24, 182, 0, 55, 154, 0, 5, 14, 175, 3, 60, 42, 180, 0, 24, 180, 1, 30]
abbrev dktX1_meanLength_0 : List UInt8 := dkwX1_meanLength_0 ++ dktX1_meanLength_1
theorem dksX1_meanLength_0 : cX1_meanLength.data.toList.drop 0 = dktX1_meanLength_0 := by decide +kernel
theorem dksX1_meanLength_1 : cX1_meanLength.data.toList.drop 21 = dktX1_meanLength_1 := dk_seg dksX1_meanLength_0 21 rfl rfl
theorem dksX1_meanLength_2 : cX1_meanLength.data.toList.drop 45 = dktX1_meanLength_2 := dk_seg dksX1_meanLength_1 24 rfl rfl
theorem dksX1_meanLength_3 : cX1_meanLength.data.toList.drop 69 = dktX1_meanLength_3 := dk_seg dksX1_meanLength_2 24 rfl rfl
theorem dX1_meanLength_0 : decode cX1_meanLength 0 = .ok (.aload_n 0, 1) := dk_42 (dk_at dksX1_meanLength_0 0 rfl rfl)
theorem dX1_meanLength_1 : decode cX1_meanLength 1 = .ok (.getfield 24, 3) := dk_180 0 24 (dk_at dksX1_meanLength_0 1 rfl rfl)
theorem dX1_meanLength_4 : decode cX1_meanLength 4 = .ok (.invokevirtual 55, 3) := dk_182 0 55 (dk_at dksX1_meanLength_0 4 rfl rfl)
theorem dX1_meanLength_7 : decode cX1_meanLength 7 = .ok (.ifCond .ne 5, 3) := dk_154 0 5 (dk_at dksX1_meanLength_0 7 rfl rfl)
theorem dX1_meanLength_10 : decode cX1_meanLength 10 = .ok (.dconst 0, 1) := dk_14 (dk_at dksX1_meanLength_0 10 rfl rfl)
theorem dX1_meanLength_11 : decode cX1_meanLength 11 = .ok (.dreturn, 1) := dk_175 (dk_at dksX1_meanLength_0 11 rfl rfl)
theorem dX1_meanLength_12 : decode cX1_meanLength 12 = .ok (.iconst 0, 1) := dk_3 (dk_at dksX1_meanLength_0 12 rfl rfl)
theorem dX1_meanLength_13 : decode cX1_meanLength 13 = .ok (.istore_n 1, 1) := dk_60 (dk_at dksX1_meanLength_0 13 rfl rfl)
theorem dX1_meanLength_14 : decode cX1_meanLength 14 = .ok (.aload_n 0, 1) := dk_42 (dk_at dksX1_meanLength_0 14 rfl rfl)
theorem dX1_meanLength_15 : decode cX1_meanLength 15 = .ok (.getfield 24, 3) := dk_180 0 24 (dk_at dksX1_meanLength_0 15 rfl rfl)
theorem dX1_meanLength_18 : decode cX1_meanLength 18 = .ok (.getfield 286, 3) := dk_180 1 30 (dk_at dksX1_meanLength_0 18 rfl rfl)
theorem dX1_meanLength_21 : decode cX1_meanLength 21 = .ok (.invokeinterface 152 1, 5) := by decide +kernel
theorem dX1_meanLength_26 : decode cX1_meanLength 26 = .ok (.astore_n 2, 1) := dk_77 (dk_at dksX1_meanLength_1 5 rfl rfl)
theorem dX1_meanLength_27 : decode cX1_meanLength 27 = .ok (.aload_n 2, 1) := dk_44 (dk_at dksX1_meanLength_1 6 rfl rfl)
theorem dX1_meanLength_28 : decode cX1_meanLength 28 = .ok (.invokeinterface 156 1, 5) := by decide +kernel
theorem dX1_meanLength_33 : decode cX1_meanLength 33 = .ok (.ifCond .eq 26, 3) := dk_153 0 26 (dk_at dksX1_meanLength_1 12 rfl rfl)
theorem dX1_meanLength_36 : decode cX1_meanLength 36 = .ok (.aload_n 2, 1) := dk_44 (dk_at dksX1_meanLength_1 15 rfl rfl)
theorem dX1_meanLength_37 : decode cX1_meanLength 37 = .ok (.invokeinterface 162 1, 5) := by decide +kernel
theorem dX1_meanLength_42 : decode cX1_meanLength 42 = .ok (.checkcast 215, 3) := dk_192 0 215 (dk_at dksX1_meanLength_1 21 rfl rfl)
theorem dX1_meanLength_45 : decode cX1_meanLength 45 = .ok (.astore_n 3, 1) := dk_78 (dk_at dksX1_meanLength_2 0 rfl rfl)
theorem dX1_meanLength_46 : decode cX1_meanLength 46 = .ok (.iload_n 1, 1) := dk_27 (dk_at dksX1_meanLength_2 1 rfl rfl)
theorem dX1_meanLength_47 : decode cX1_meanLength 47 = .ok (.aload_n 3, 1) := dk_45 (dk_at dksX1_meanLength_2 2 rfl rfl)
theorem dX1_meanLength_48 : decode cX1_meanLength 48 = .ok (.getfield 222, 3) := dk_180 0 222 (dk_at dksX1_meanLength_2 3 rfl rfl)
theorem dX1_meanLength_51 : decode cX1_meanLength 51 = .ok (.invokevirtual 104, 3) := dk_182 0 104 (dk_at dksX1_meanLength_2 6 rfl rfl)
theorem dX1_meanLength_54 : decode cX1_meanLength 54 = .ok (.iadd, 1) := dk_96 (dk_at dksX1_meanLength_2 9 rfl rfl)
theorem dX1_meanLength_55 : decode cX1_meanLength 55 = .ok (.istore_n 1, 1) := dk_60 (dk_at dksX1_meanLength_2 10 rfl rfl)
theorem dX1_meanLength_56 : decode cX1_meanLength 56 = .ok (.goto (-29), 3) := dk_167 255 227 (dk_at dksX1_meanLength_2 11 rfl rfl)
theorem dX1_meanLength_59 : decode cX1_meanLength 59 = .ok (.iload_n 1, 1) := dk_27 (dk_at dksX1_meanLength_2 14 rfl rfl)
theorem dX1_meanLength_60 : decode cX1_meanLength 60 = .ok (.i2d, 1) := dk_135 (dk_at dksX1_meanLength_2 15 rfl rfl)
theorem dX1_meanLength_61 : decode cX1_meanLength 61 = .ok (.aload_n 0, 1) := dk_42 (dk_at dksX1_meanLength_2 16 rfl rfl)
theorem dX1_meanLength_62 : decode cX1_meanLength 62 = .ok (.getfield 24, 3) := dk_180 0 24 (dk_at dksX1_meanLength_2 17 rfl rfl)
theorem dX1_meanLength_65 : decode cX1_meanLength 65 = .ok (.invokevirtual 55, 3) := dk_182 0 55 (dk_at dksX1_meanLength_2 20 rfl rfl)
theorem dX1_meanLength_68 : decode cX1_meanLength 68 = .ok (.i2d, 1) := dk_135 (dk_at dksX1_meanLength_2 23 rfl rfl)
theorem dX1_meanLength_69 : decode cX1_meanLength 69 = .ok (.ddiv, 1) := dk_111 (dk_at dksX1_meanLength_3 0 rfl rfl)
theorem dX1_meanLength_70 : decode cX1_meanLength 70 = .ok (.dreturn, 1) := dk_175 (dk_at dksX1_meanLength_3 1 rfl rfl)
abbrev cX1_shownShare : ByteArray := prog_1_method_35_code
def yX1_shownShare : MethodName := ⟨RX1, "shownShare", "()F"⟩
def dkwX1_shownShare_1 : List UInt8 := [134, 42, 180, 0, 24, 182, 0, 55, 134, 110, 174]
abbrev dktX1_shownShare_1 : List UInt8 := dkwX1_shownShare_1 ++ []
def dkwX1_shownShare_0 : List UInt8 := [42, 180, 0, 24, 182, 0, 55, 154, 0, 7, 11, 167, 0, 23, 42, 180, 0, 24, 182, 0, 71, 182, 0, 183]
abbrev dktX1_shownShare_0 : List UInt8 := dkwX1_shownShare_0 ++ dktX1_shownShare_1
theorem dksX1_shownShare_0 : cX1_shownShare.data.toList.drop 0 = dktX1_shownShare_0 := by decide +kernel
theorem dksX1_shownShare_1 : cX1_shownShare.data.toList.drop 24 = dktX1_shownShare_1 := dk_seg dksX1_shownShare_0 24 rfl rfl
theorem dX1_shownShare_0 : decode cX1_shownShare 0 = .ok (.aload_n 0, 1) := dk_42 (dk_at dksX1_shownShare_0 0 rfl rfl)
theorem dX1_shownShare_1 : decode cX1_shownShare 1 = .ok (.getfield 24, 3) := dk_180 0 24 (dk_at dksX1_shownShare_0 1 rfl rfl)
theorem dX1_shownShare_4 : decode cX1_shownShare 4 = .ok (.invokevirtual 55, 3) := dk_182 0 55 (dk_at dksX1_shownShare_0 4 rfl rfl)
theorem dX1_shownShare_7 : decode cX1_shownShare 7 = .ok (.ifCond .ne 7, 3) := dk_154 0 7 (dk_at dksX1_shownShare_0 7 rfl rfl)
theorem dX1_shownShare_10 : decode cX1_shownShare 10 = .ok (.fconst 0, 1) := dk_11 (dk_at dksX1_shownShare_0 10 rfl rfl)
theorem dX1_shownShare_11 : decode cX1_shownShare 11 = .ok (.goto 23, 3) := dk_167 0 23 (dk_at dksX1_shownShare_0 11 rfl rfl)
theorem dX1_shownShare_14 : decode cX1_shownShare 14 = .ok (.aload_n 0, 1) := dk_42 (dk_at dksX1_shownShare_0 14 rfl rfl)
theorem dX1_shownShare_15 : decode cX1_shownShare 15 = .ok (.getfield 24, 3) := dk_180 0 24 (dk_at dksX1_shownShare_0 15 rfl rfl)
theorem dX1_shownShare_18 : decode cX1_shownShare 18 = .ok (.invokevirtual 71, 3) := dk_182 0 71 (dk_at dksX1_shownShare_0 18 rfl rfl)
theorem dX1_shownShare_21 : decode cX1_shownShare 21 = .ok (.invokevirtual 183, 3) := dk_182 0 183 (dk_at dksX1_shownShare_0 21 rfl rfl)
theorem dX1_shownShare_24 : decode cX1_shownShare 24 = .ok (.i2f, 1) := dk_134 (dk_at dksX1_shownShare_1 0 rfl rfl)
theorem dX1_shownShare_25 : decode cX1_shownShare 25 = .ok (.aload_n 0, 1) := dk_42 (dk_at dksX1_shownShare_1 1 rfl rfl)
theorem dX1_shownShare_26 : decode cX1_shownShare 26 = .ok (.getfield 24, 3) := dk_180 0 24 (dk_at dksX1_shownShare_1 2 rfl rfl)
theorem dX1_shownShare_29 : decode cX1_shownShare 29 = .ok (.invokevirtual 55, 3) := dk_182 0 55 (dk_at dksX1_shownShare_1 5 rfl rfl)
theorem dX1_shownShare_32 : decode cX1_shownShare 32 = .ok (.i2f, 1) := dk_134 (dk_at dksX1_shownShare_1 8 rfl rfl)
theorem dX1_shownShare_33 : decode cX1_shownShare 33 = .ok (.fdiv, 1) := dk_110 (dk_at dksX1_shownShare_1 9 rfl rfl)
theorem dX1_shownShare_34 : decode cX1_shownShare 34 = .ok (.freturn, 1) := dk_174 (dk_at dksX1_shownShare_1 10 rfl rfl)
abbrev cX1_deepest : ByteArray := prog_1_method_41_code
def yX1_deepest : MethodName := ⟨RX1, "deepest", "()I"⟩
def dkwX1_deepest_2 : List UInt8 := [60, 132, 2, 1, 167, 255, 208, 27, 4, 96, 172]
abbrev dktX1_deepest_2 : List UInt8 := dkwX1_deepest_2 ++ []
def dkwX1_deepest_1 : List UInt8 := [182, 0, 71, 180, 0, 232, 28, 46, 42, 180, 0, 24, 182, 0, 71, 180, 0, 232, 27, 46, 164, 0, 5, 28]
abbrev dktX1_deepest_1 : List UInt8 := dkwX1_deepest_1 ++ dktX1_deepest_2
def dkwX1_deepest_0 : List UInt8 := [2, 60, 3, 61, 28, 42, 180, 0, 24, 182, 0, 55, 162, 0, 43, 27, 2, 159, 0, 30, 42, 180, 0, 24]
abbrev dktX1_deepest_0 : List UInt8 := dkwX1_deepest_0 ++ dktX1_deepest_1
theorem dksX1_deepest_0 : cX1_deepest.data.toList.drop 0 = dktX1_deepest_0 := by decide +kernel
theorem dksX1_deepest_1 : cX1_deepest.data.toList.drop 24 = dktX1_deepest_1 := dk_seg dksX1_deepest_0 24 rfl rfl
theorem dksX1_deepest_2 : cX1_deepest.data.toList.drop 48 = dktX1_deepest_2 := dk_seg dksX1_deepest_1 24 rfl rfl
theorem dX1_deepest_0 : decode cX1_deepest 0 = .ok (.iconst (-1), 1) := dk_2 (dk_at dksX1_deepest_0 0 rfl rfl)
theorem dX1_deepest_1 : decode cX1_deepest 1 = .ok (.istore_n 1, 1) := dk_60 (dk_at dksX1_deepest_0 1 rfl rfl)
theorem dX1_deepest_2 : decode cX1_deepest 2 = .ok (.iconst 0, 1) := dk_3 (dk_at dksX1_deepest_0 2 rfl rfl)
theorem dX1_deepest_3 : decode cX1_deepest 3 = .ok (.istore_n 2, 1) := dk_61 (dk_at dksX1_deepest_0 3 rfl rfl)
theorem dX1_deepest_4 : decode cX1_deepest 4 = .ok (.iload_n 2, 1) := dk_28 (dk_at dksX1_deepest_0 4 rfl rfl)
theorem dX1_deepest_5 : decode cX1_deepest 5 = .ok (.aload_n 0, 1) := dk_42 (dk_at dksX1_deepest_0 5 rfl rfl)
theorem dX1_deepest_6 : decode cX1_deepest 6 = .ok (.getfield 24, 3) := dk_180 0 24 (dk_at dksX1_deepest_0 6 rfl rfl)
theorem dX1_deepest_9 : decode cX1_deepest 9 = .ok (.invokevirtual 55, 3) := dk_182 0 55 (dk_at dksX1_deepest_0 9 rfl rfl)
theorem dX1_deepest_12 : decode cX1_deepest 12 = .ok (.if_icmp .ge 43, 3) := dk_162 0 43 (dk_at dksX1_deepest_0 12 rfl rfl)
theorem dX1_deepest_15 : decode cX1_deepest 15 = .ok (.iload_n 1, 1) := dk_27 (dk_at dksX1_deepest_0 15 rfl rfl)
theorem dX1_deepest_16 : decode cX1_deepest 16 = .ok (.iconst (-1), 1) := dk_2 (dk_at dksX1_deepest_0 16 rfl rfl)
theorem dX1_deepest_17 : decode cX1_deepest 17 = .ok (.if_icmp .eq 30, 3) := dk_159 0 30 (dk_at dksX1_deepest_0 17 rfl rfl)
theorem dX1_deepest_20 : decode cX1_deepest 20 = .ok (.aload_n 0, 1) := dk_42 (dk_at dksX1_deepest_0 20 rfl rfl)
theorem dX1_deepest_21 : decode cX1_deepest 21 = .ok (.getfield 24, 3) := dk_180 0 24 (dk_at dksX1_deepest_0 21 rfl rfl)
theorem dX1_deepest_24 : decode cX1_deepest 24 = .ok (.invokevirtual 71, 3) := dk_182 0 71 (dk_at dksX1_deepest_1 0 rfl rfl)
theorem dX1_deepest_27 : decode cX1_deepest 27 = .ok (.getfield 232, 3) := dk_180 0 232 (dk_at dksX1_deepest_1 3 rfl rfl)
theorem dX1_deepest_30 : decode cX1_deepest 30 = .ok (.iload_n 2, 1) := dk_28 (dk_at dksX1_deepest_1 6 rfl rfl)
theorem dX1_deepest_31 : decode cX1_deepest 31 = .ok (.iaload, 1) := dk_46 (dk_at dksX1_deepest_1 7 rfl rfl)
theorem dX1_deepest_32 : decode cX1_deepest 32 = .ok (.aload_n 0, 1) := dk_42 (dk_at dksX1_deepest_1 8 rfl rfl)
theorem dX1_deepest_33 : decode cX1_deepest 33 = .ok (.getfield 24, 3) := dk_180 0 24 (dk_at dksX1_deepest_1 9 rfl rfl)
theorem dX1_deepest_36 : decode cX1_deepest 36 = .ok (.invokevirtual 71, 3) := dk_182 0 71 (dk_at dksX1_deepest_1 12 rfl rfl)
theorem dX1_deepest_39 : decode cX1_deepest 39 = .ok (.getfield 232, 3) := dk_180 0 232 (dk_at dksX1_deepest_1 15 rfl rfl)
theorem dX1_deepest_42 : decode cX1_deepest 42 = .ok (.iload_n 1, 1) := dk_27 (dk_at dksX1_deepest_1 18 rfl rfl)
theorem dX1_deepest_43 : decode cX1_deepest 43 = .ok (.iaload, 1) := dk_46 (dk_at dksX1_deepest_1 19 rfl rfl)
theorem dX1_deepest_44 : decode cX1_deepest 44 = .ok (.if_icmp .le 5, 3) := dk_164 0 5 (dk_at dksX1_deepest_1 20 rfl rfl)
theorem dX1_deepest_47 : decode cX1_deepest 47 = .ok (.iload_n 2, 1) := dk_28 (dk_at dksX1_deepest_1 23 rfl rfl)
theorem dX1_deepest_48 : decode cX1_deepest 48 = .ok (.istore_n 1, 1) := dk_60 (dk_at dksX1_deepest_2 0 rfl rfl)
theorem dX1_deepest_49 : decode cX1_deepest 49 = .ok (.iinc 2 1, 3) := dk_132 2 1 (dk_at dksX1_deepest_2 1 rfl rfl)
theorem dX1_deepest_52 : decode cX1_deepest 52 = .ok (.goto (-48), 3) := dk_167 255 208 (dk_at dksX1_deepest_2 4 rfl rfl)
theorem dX1_deepest_55 : decode cX1_deepest 55 = .ok (.iload_n 1, 1) := dk_27 (dk_at dksX1_deepest_2 7 rfl rfl)
theorem dX1_deepest_56 : decode cX1_deepest 56 = .ok (.iconst 1, 1) := dk_4 (dk_at dksX1_deepest_2 8 rfl rfl)
theorem dX1_deepest_57 : decode cX1_deepest 57 = .ok (.iadd, 1) := dk_96 (dk_at dksX1_deepest_2 9 rfl rfl)
theorem dX1_deepest_58 : decode cX1_deepest 58 = .ok (.ireturn, 1) := dk_172 (dk_at dksX1_deepest_2 10 rfl rfl)
abbrev cX1_cursor : ByteArray := prog_1_method_50_code
def yX1_cursor : MethodName := ⟨RX1, "cursor", "()I"⟩
def dkwX1_cursor_0 : List UInt8 := [42, 180, 0, 24, 42, 180, 0, 24, 180, 1, 110, 182, 0, 254, 4, 96, 172]
abbrev dktX1_cursor_0 : List UInt8 := dkwX1_cursor_0 ++ []
theorem dksX1_cursor_0 : cX1_cursor.data.toList.drop 0 = dktX1_cursor_0 := by decide +kernel
theorem dX1_cursor_0 : decode cX1_cursor 0 = .ok (.aload_n 0, 1) := dk_42 (dk_at dksX1_cursor_0 0 rfl rfl)
theorem dX1_cursor_1 : decode cX1_cursor 1 = .ok (.getfield 24, 3) := dk_180 0 24 (dk_at dksX1_cursor_0 1 rfl rfl)
theorem dX1_cursor_4 : decode cX1_cursor 4 = .ok (.aload_n 0, 1) := dk_42 (dk_at dksX1_cursor_0 4 rfl rfl)
theorem dX1_cursor_5 : decode cX1_cursor 5 = .ok (.getfield 24, 3) := dk_180 0 24 (dk_at dksX1_cursor_0 5 rfl rfl)
theorem dX1_cursor_8 : decode cX1_cursor 8 = .ok (.getfield 366, 3) := dk_180 1 110 (dk_at dksX1_cursor_0 8 rfl rfl)
theorem dX1_cursor_11 : decode cX1_cursor 11 = .ok (.invokevirtual 254, 3) := dk_182 0 254 (dk_at dksX1_cursor_0 11 rfl rfl)
theorem dX1_cursor_14 : decode cX1_cursor 14 = .ok (.iconst 1, 1) := dk_4 (dk_at dksX1_cursor_0 14 rfl rfl)
theorem dX1_cursor_15 : decode cX1_cursor 15 = .ok (.iadd, 1) := dk_96 (dk_at dksX1_cursor_0 15 rfl rfl)
theorem dX1_cursor_16 : decode cX1_cursor 16 = .ok (.ireturn, 1) := dk_172 (dk_at dksX1_cursor_0 16 rfl rfl)
abbrev cX1_opensForMarked : ByteArray := prog_1_method_55_code
def yX1_opensForMarked : MethodName := ⟨RX1, "opensForMarked", "()I"⟩
def dkwX1_opensForMarked_3 : List UInt8 := [167, 255, 208, 43, 182, 1, 123, 172]
abbrev dktX1_opensForMarked_3 : List UInt8 := dkwX1_opensForMarked_3 ++ []
def dkwX1_opensForMarked_2 : List UInt8 := [159, 0, 19, 43, 42, 180, 0, 24, 182, 0, 71, 21, 6, 182, 1, 132, 182, 1, 137, 132, 4, 1]
abbrev dktX1_opensForMarked_2 : List UInt8 := dkwX1_opensForMarked_2 ++ dktX1_opensForMarked_3
def dkwX1_opensForMarked_1 : List UInt8 := [29, 162, 0, 48, 44, 21, 4, 46, 54, 5, 42, 180, 0, 24, 21, 5, 182, 0, 254, 54, 6, 21, 6, 2]
abbrev dktX1_opensForMarked_1 : List UInt8 := dkwX1_opensForMarked_1 ++ dktX1_opensForMarked_2
def dkwX1_opensForMarked_0 : List UInt8 := [187, 1, 124, 89, 183, 1, 136, 76, 42, 180, 0, 24, 180, 0, 145, 77, 44, 190, 62, 3, 54, 4, 21, 4]
abbrev dktX1_opensForMarked_0 : List UInt8 := dkwX1_opensForMarked_0 ++ dktX1_opensForMarked_1
theorem dksX1_opensForMarked_0 : cX1_opensForMarked.data.toList.drop 0 = dktX1_opensForMarked_0 := by decide +kernel
theorem dksX1_opensForMarked_1 : cX1_opensForMarked.data.toList.drop 24 = dktX1_opensForMarked_1 := dk_seg dksX1_opensForMarked_0 24 rfl rfl
theorem dksX1_opensForMarked_2 : cX1_opensForMarked.data.toList.drop 48 = dktX1_opensForMarked_2 := dk_seg dksX1_opensForMarked_1 24 rfl rfl
theorem dksX1_opensForMarked_3 : cX1_opensForMarked.data.toList.drop 70 = dktX1_opensForMarked_3 := dk_seg dksX1_opensForMarked_2 22 rfl rfl
theorem dX1_opensForMarked_0 : decode cX1_opensForMarked 0 = .ok (.new 380, 3) := dk_187 1 124 (dk_at dksX1_opensForMarked_0 0 rfl rfl)
theorem dX1_opensForMarked_3 : decode cX1_opensForMarked 3 = .ok (.dup, 1) := dk_89 (dk_at dksX1_opensForMarked_0 3 rfl rfl)
theorem dX1_opensForMarked_4 : decode cX1_opensForMarked 4 = .ok (.invokespecial 392, 3) := dk_183 1 136 (dk_at dksX1_opensForMarked_0 4 rfl rfl)
theorem dX1_opensForMarked_7 : decode cX1_opensForMarked 7 = .ok (.astore_n 1, 1) := dk_76 (dk_at dksX1_opensForMarked_0 7 rfl rfl)
theorem dX1_opensForMarked_8 : decode cX1_opensForMarked 8 = .ok (.aload_n 0, 1) := dk_42 (dk_at dksX1_opensForMarked_0 8 rfl rfl)
theorem dX1_opensForMarked_9 : decode cX1_opensForMarked 9 = .ok (.getfield 24, 3) := dk_180 0 24 (dk_at dksX1_opensForMarked_0 9 rfl rfl)
theorem dX1_opensForMarked_12 : decode cX1_opensForMarked 12 = .ok (.getfield 145, 3) := dk_180 0 145 (dk_at dksX1_opensForMarked_0 12 rfl rfl)
theorem dX1_opensForMarked_15 : decode cX1_opensForMarked 15 = .ok (.astore_n 2, 1) := dk_77 (dk_at dksX1_opensForMarked_0 15 rfl rfl)
theorem dX1_opensForMarked_16 : decode cX1_opensForMarked 16 = .ok (.aload_n 2, 1) := dk_44 (dk_at dksX1_opensForMarked_0 16 rfl rfl)
theorem dX1_opensForMarked_17 : decode cX1_opensForMarked 17 = .ok (.arraylength, 1) := dk_190 (dk_at dksX1_opensForMarked_0 17 rfl rfl)
theorem dX1_opensForMarked_18 : decode cX1_opensForMarked 18 = .ok (.istore_n 3, 1) := dk_62 (dk_at dksX1_opensForMarked_0 18 rfl rfl)
theorem dX1_opensForMarked_19 : decode cX1_opensForMarked 19 = .ok (.iconst 0, 1) := dk_3 (dk_at dksX1_opensForMarked_0 19 rfl rfl)
theorem dX1_opensForMarked_20 : decode cX1_opensForMarked 20 = .ok (.istore 4, 2) := dk_54 4 (dk_at dksX1_opensForMarked_0 20 rfl rfl)
theorem dX1_opensForMarked_22 : decode cX1_opensForMarked 22 = .ok (.iload 4, 2) := dk_21 4 (dk_at dksX1_opensForMarked_0 22 rfl rfl)
theorem dX1_opensForMarked_24 : decode cX1_opensForMarked 24 = .ok (.iload_n 3, 1) := dk_29 (dk_at dksX1_opensForMarked_1 0 rfl rfl)
theorem dX1_opensForMarked_25 : decode cX1_opensForMarked 25 = .ok (.if_icmp .ge 48, 3) := dk_162 0 48 (dk_at dksX1_opensForMarked_1 1 rfl rfl)
theorem dX1_opensForMarked_28 : decode cX1_opensForMarked 28 = .ok (.aload_n 2, 1) := dk_44 (dk_at dksX1_opensForMarked_1 4 rfl rfl)
theorem dX1_opensForMarked_29 : decode cX1_opensForMarked 29 = .ok (.iload 4, 2) := dk_21 4 (dk_at dksX1_opensForMarked_1 5 rfl rfl)
theorem dX1_opensForMarked_31 : decode cX1_opensForMarked 31 = .ok (.iaload, 1) := dk_46 (dk_at dksX1_opensForMarked_1 7 rfl rfl)
theorem dX1_opensForMarked_32 : decode cX1_opensForMarked 32 = .ok (.istore 5, 2) := dk_54 5 (dk_at dksX1_opensForMarked_1 8 rfl rfl)
theorem dX1_opensForMarked_34 : decode cX1_opensForMarked 34 = .ok (.aload_n 0, 1) := dk_42 (dk_at dksX1_opensForMarked_1 10 rfl rfl)
theorem dX1_opensForMarked_35 : decode cX1_opensForMarked 35 = .ok (.getfield 24, 3) := dk_180 0 24 (dk_at dksX1_opensForMarked_1 11 rfl rfl)
theorem dX1_opensForMarked_38 : decode cX1_opensForMarked 38 = .ok (.iload 5, 2) := dk_21 5 (dk_at dksX1_opensForMarked_1 14 rfl rfl)
theorem dX1_opensForMarked_40 : decode cX1_opensForMarked 40 = .ok (.invokevirtual 254, 3) := dk_182 0 254 (dk_at dksX1_opensForMarked_1 16 rfl rfl)
theorem dX1_opensForMarked_43 : decode cX1_opensForMarked 43 = .ok (.istore 6, 2) := dk_54 6 (dk_at dksX1_opensForMarked_1 19 rfl rfl)
theorem dX1_opensForMarked_45 : decode cX1_opensForMarked 45 = .ok (.iload 6, 2) := dk_21 6 (dk_at dksX1_opensForMarked_1 21 rfl rfl)
theorem dX1_opensForMarked_47 : decode cX1_opensForMarked 47 = .ok (.iconst (-1), 1) := dk_2 (dk_at dksX1_opensForMarked_1 23 rfl rfl)
theorem dX1_opensForMarked_48 : decode cX1_opensForMarked 48 = .ok (.if_icmp .eq 19, 3) := dk_159 0 19 (dk_at dksX1_opensForMarked_2 0 rfl rfl)
theorem dX1_opensForMarked_51 : decode cX1_opensForMarked 51 = .ok (.aload_n 1, 1) := dk_43 (dk_at dksX1_opensForMarked_2 3 rfl rfl)
theorem dX1_opensForMarked_52 : decode cX1_opensForMarked 52 = .ok (.aload_n 0, 1) := dk_42 (dk_at dksX1_opensForMarked_2 4 rfl rfl)
theorem dX1_opensForMarked_53 : decode cX1_opensForMarked 53 = .ok (.getfield 24, 3) := dk_180 0 24 (dk_at dksX1_opensForMarked_2 5 rfl rfl)
theorem dX1_opensForMarked_56 : decode cX1_opensForMarked 56 = .ok (.invokevirtual 71, 3) := dk_182 0 71 (dk_at dksX1_opensForMarked_2 8 rfl rfl)
theorem dX1_opensForMarked_59 : decode cX1_opensForMarked 59 = .ok (.iload 6, 2) := dk_21 6 (dk_at dksX1_opensForMarked_2 11 rfl rfl)
theorem dX1_opensForMarked_61 : decode cX1_opensForMarked 61 = .ok (.invokevirtual 388, 3) := dk_182 1 132 (dk_at dksX1_opensForMarked_2 13 rfl rfl)
theorem dX1_opensForMarked_64 : decode cX1_opensForMarked 64 = .ok (.invokevirtual 393, 3) := dk_182 1 137 (dk_at dksX1_opensForMarked_2 16 rfl rfl)
theorem dX1_opensForMarked_67 : decode cX1_opensForMarked 67 = .ok (.iinc 4 1, 3) := dk_132 4 1 (dk_at dksX1_opensForMarked_2 19 rfl rfl)
theorem dX1_opensForMarked_70 : decode cX1_opensForMarked 70 = .ok (.goto (-48), 3) := dk_167 255 208 (dk_at dksX1_opensForMarked_3 0 rfl rfl)
theorem dX1_opensForMarked_73 : decode cX1_opensForMarked 73 = .ok (.aload_n 1, 1) := dk_43 (dk_at dksX1_opensForMarked_3 3 rfl rfl)
theorem dX1_opensForMarked_74 : decode cX1_opensForMarked 74 = .ok (.invokevirtual 379, 3) := dk_182 1 123 (dk_at dksX1_opensForMarked_3 4 rfl rfl)
theorem dX1_opensForMarked_77 : decode cX1_opensForMarked 77 = .ok (.ireturn, 1) := dk_172 (dk_at dksX1_opensForMarked_3 7 rfl rfl)
abbrev cX1_bestClose : ByteArray := prog_1_method_56_code
def yX1_bestClose : MethodName := ⟨RX1, "bestClose", "()I"⟩
def dkwX1_bestClose_3 : List UInt8 := [167, 255, 202, 27, 4, 96, 172]
abbrev dktX1_bestClose_3 : List UInt8 := dkwX1_bestClose_3 ++ []
def dkwX1_bestClose_2 : List UInt8 := [182, 1, 128, 54, 4, 21, 4, 28, 161, 0, 6, 167, 0, 8, 29, 60, 21, 4, 61, 132, 3, 1]
abbrev dktX1_bestClose_2 : List UInt8 := dkwX1_bestClose_2 ++ dktX1_bestClose_3
def dkwX1_bestClose_1 : List UInt8 := [162, 0, 49, 42, 180, 0, 24, 29, 182, 0, 67, 180, 0, 235, 153, 0, 7, 28, 167, 0, 9, 42, 29, 4]
abbrev dktX1_bestClose_1 : List UInt8 := dkwX1_bestClose_1 ++ dktX1_bestClose_2
def dkwX1_bestClose_0 : List UInt8 := [2, 60, 42, 180, 0, 24, 182, 0, 71, 182, 0, 183, 61, 3, 62, 29, 42, 180, 0, 24, 182, 0, 55]
abbrev dktX1_bestClose_0 : List UInt8 := dkwX1_bestClose_0 ++ dktX1_bestClose_1
theorem dksX1_bestClose_0 : cX1_bestClose.data.toList.drop 0 = dktX1_bestClose_0 := by decide +kernel
theorem dksX1_bestClose_1 : cX1_bestClose.data.toList.drop 23 = dktX1_bestClose_1 := dk_seg dksX1_bestClose_0 23 rfl rfl
theorem dksX1_bestClose_2 : cX1_bestClose.data.toList.drop 47 = dktX1_bestClose_2 := dk_seg dksX1_bestClose_1 24 rfl rfl
theorem dksX1_bestClose_3 : cX1_bestClose.data.toList.drop 69 = dktX1_bestClose_3 := dk_seg dksX1_bestClose_2 22 rfl rfl
theorem dX1_bestClose_0 : decode cX1_bestClose 0 = .ok (.iconst (-1), 1) := dk_2 (dk_at dksX1_bestClose_0 0 rfl rfl)
theorem dX1_bestClose_1 : decode cX1_bestClose 1 = .ok (.istore_n 1, 1) := dk_60 (dk_at dksX1_bestClose_0 1 rfl rfl)
theorem dX1_bestClose_2 : decode cX1_bestClose 2 = .ok (.aload_n 0, 1) := dk_42 (dk_at dksX1_bestClose_0 2 rfl rfl)
theorem dX1_bestClose_3 : decode cX1_bestClose 3 = .ok (.getfield 24, 3) := dk_180 0 24 (dk_at dksX1_bestClose_0 3 rfl rfl)
theorem dX1_bestClose_6 : decode cX1_bestClose 6 = .ok (.invokevirtual 71, 3) := dk_182 0 71 (dk_at dksX1_bestClose_0 6 rfl rfl)
theorem dX1_bestClose_9 : decode cX1_bestClose 9 = .ok (.invokevirtual 183, 3) := dk_182 0 183 (dk_at dksX1_bestClose_0 9 rfl rfl)
theorem dX1_bestClose_12 : decode cX1_bestClose 12 = .ok (.istore_n 2, 1) := dk_61 (dk_at dksX1_bestClose_0 12 rfl rfl)
theorem dX1_bestClose_13 : decode cX1_bestClose 13 = .ok (.iconst 0, 1) := dk_3 (dk_at dksX1_bestClose_0 13 rfl rfl)
theorem dX1_bestClose_14 : decode cX1_bestClose 14 = .ok (.istore_n 3, 1) := dk_62 (dk_at dksX1_bestClose_0 14 rfl rfl)
theorem dX1_bestClose_15 : decode cX1_bestClose 15 = .ok (.iload_n 3, 1) := dk_29 (dk_at dksX1_bestClose_0 15 rfl rfl)
theorem dX1_bestClose_16 : decode cX1_bestClose 16 = .ok (.aload_n 0, 1) := dk_42 (dk_at dksX1_bestClose_0 16 rfl rfl)
theorem dX1_bestClose_17 : decode cX1_bestClose 17 = .ok (.getfield 24, 3) := dk_180 0 24 (dk_at dksX1_bestClose_0 17 rfl rfl)
theorem dX1_bestClose_20 : decode cX1_bestClose 20 = .ok (.invokevirtual 55, 3) := dk_182 0 55 (dk_at dksX1_bestClose_0 20 rfl rfl)
theorem dX1_bestClose_23 : decode cX1_bestClose 23 = .ok (.if_icmp .ge 49, 3) := dk_162 0 49 (dk_at dksX1_bestClose_1 0 rfl rfl)
theorem dX1_bestClose_26 : decode cX1_bestClose 26 = .ok (.aload_n 0, 1) := dk_42 (dk_at dksX1_bestClose_1 3 rfl rfl)
theorem dX1_bestClose_27 : decode cX1_bestClose 27 = .ok (.getfield 24, 3) := dk_180 0 24 (dk_at dksX1_bestClose_1 4 rfl rfl)
theorem dX1_bestClose_30 : decode cX1_bestClose 30 = .ok (.iload_n 3, 1) := dk_29 (dk_at dksX1_bestClose_1 7 rfl rfl)
theorem dX1_bestClose_31 : decode cX1_bestClose 31 = .ok (.invokevirtual 67, 3) := dk_182 0 67 (dk_at dksX1_bestClose_1 8 rfl rfl)
theorem dX1_bestClose_34 : decode cX1_bestClose 34 = .ok (.getfield 235, 3) := dk_180 0 235 (dk_at dksX1_bestClose_1 11 rfl rfl)
theorem dX1_bestClose_37 : decode cX1_bestClose 37 = .ok (.ifCond .eq 7, 3) := dk_153 0 7 (dk_at dksX1_bestClose_1 14 rfl rfl)
theorem dX1_bestClose_40 : decode cX1_bestClose 40 = .ok (.iload_n 2, 1) := dk_28 (dk_at dksX1_bestClose_1 17 rfl rfl)
theorem dX1_bestClose_41 : decode cX1_bestClose 41 = .ok (.goto 9, 3) := dk_167 0 9 (dk_at dksX1_bestClose_1 18 rfl rfl)
theorem dX1_bestClose_44 : decode cX1_bestClose 44 = .ok (.aload_n 0, 1) := dk_42 (dk_at dksX1_bestClose_1 21 rfl rfl)
theorem dX1_bestClose_45 : decode cX1_bestClose 45 = .ok (.iload_n 3, 1) := dk_29 (dk_at dksX1_bestClose_1 22 rfl rfl)
theorem dX1_bestClose_46 : decode cX1_bestClose 46 = .ok (.iconst 1, 1) := dk_4 (dk_at dksX1_bestClose_1 23 rfl rfl)
theorem dX1_bestClose_47 : decode cX1_bestClose 47 = .ok (.invokevirtual 384, 3) := dk_182 1 128 (dk_at dksX1_bestClose_2 0 rfl rfl)
theorem dX1_bestClose_50 : decode cX1_bestClose 50 = .ok (.istore 4, 2) := dk_54 4 (dk_at dksX1_bestClose_2 3 rfl rfl)
theorem dX1_bestClose_52 : decode cX1_bestClose 52 = .ok (.iload 4, 2) := dk_21 4 (dk_at dksX1_bestClose_2 5 rfl rfl)
theorem dX1_bestClose_54 : decode cX1_bestClose 54 = .ok (.iload_n 2, 1) := dk_28 (dk_at dksX1_bestClose_2 7 rfl rfl)
theorem dX1_bestClose_55 : decode cX1_bestClose 55 = .ok (.if_icmp .lt 6, 3) := dk_161 0 6 (dk_at dksX1_bestClose_2 8 rfl rfl)
theorem dX1_bestClose_58 : decode cX1_bestClose 58 = .ok (.goto 8, 3) := dk_167 0 8 (dk_at dksX1_bestClose_2 11 rfl rfl)
theorem dX1_bestClose_61 : decode cX1_bestClose 61 = .ok (.iload_n 3, 1) := dk_29 (dk_at dksX1_bestClose_2 14 rfl rfl)
theorem dX1_bestClose_62 : decode cX1_bestClose 62 = .ok (.istore_n 1, 1) := dk_60 (dk_at dksX1_bestClose_2 15 rfl rfl)
theorem dX1_bestClose_63 : decode cX1_bestClose 63 = .ok (.iload 4, 2) := dk_21 4 (dk_at dksX1_bestClose_2 16 rfl rfl)
theorem dX1_bestClose_65 : decode cX1_bestClose 65 = .ok (.istore_n 2, 1) := dk_61 (dk_at dksX1_bestClose_2 18 rfl rfl)
theorem dX1_bestClose_66 : decode cX1_bestClose 66 = .ok (.iinc 3 1, 3) := dk_132 3 1 (dk_at dksX1_bestClose_2 19 rfl rfl)
theorem dX1_bestClose_69 : decode cX1_bestClose 69 = .ok (.goto (-54), 3) := dk_167 255 202 (dk_at dksX1_bestClose_3 0 rfl rfl)
theorem dX1_bestClose_72 : decode cX1_bestClose 72 = .ok (.iload_n 1, 1) := dk_27 (dk_at dksX1_bestClose_3 3 rfl rfl)
theorem dX1_bestClose_73 : decode cX1_bestClose 73 = .ok (.iconst 1, 1) := dk_4 (dk_at dksX1_bestClose_3 4 rfl rfl)
theorem dX1_bestClose_74 : decode cX1_bestClose 74 = .ok (.iadd, 1) := dk_96 (dk_at dksX1_bestClose_3 5 rfl rfl)
theorem dX1_bestClose_75 : decode cX1_bestClose 75 = .ok (.ireturn, 1) := dk_172 (dk_at dksX1_bestClose_3 6 rfl rfl)
abbrev cX1_shownWith : ByteArray := prog_1_method_52_code
def yX1_shownWith : MethodName := ⟨RX1, "shownWith", "(IZ)I"⟩
def dkwX1_shownWith_1 : List UInt8 := [180, 0, 24, 182, 0, 55, 45, 182, 1, 123, 100, 172]
abbrev dktX1_shownWith_1 : List UInt8 := dkwX1_shownWith_1 ++ []
def dkwX1_shownWith_0 : List UInt8 := [42, 180, 0, 24, 182, 0, 71, 187, 1, 114, 89, 42, 27, 28, 183, 1, 116, 182, 1, 119, 78, 42]
abbrev dktX1_shownWith_0 : List UInt8 := dkwX1_shownWith_0 ++ dktX1_shownWith_1
theorem dksX1_shownWith_0 : cX1_shownWith.data.toList.drop 0 = dktX1_shownWith_0 := by decide +kernel
theorem dksX1_shownWith_1 : cX1_shownWith.data.toList.drop 22 = dktX1_shownWith_1 := dk_seg dksX1_shownWith_0 22 rfl rfl
theorem dX1_shownWith_0 : decode cX1_shownWith 0 = .ok (.aload_n 0, 1) := dk_42 (dk_at dksX1_shownWith_0 0 rfl rfl)
theorem dX1_shownWith_1 : decode cX1_shownWith 1 = .ok (.getfield 24, 3) := dk_180 0 24 (dk_at dksX1_shownWith_0 1 rfl rfl)
theorem dX1_shownWith_4 : decode cX1_shownWith 4 = .ok (.invokevirtual 71, 3) := dk_182 0 71 (dk_at dksX1_shownWith_0 4 rfl rfl)
theorem dX1_shownWith_7 : decode cX1_shownWith 7 = .ok (.new 370, 3) := dk_187 1 114 (dk_at dksX1_shownWith_0 7 rfl rfl)
theorem dX1_shownWith_10 : decode cX1_shownWith 10 = .ok (.dup, 1) := dk_89 (dk_at dksX1_shownWith_0 10 rfl rfl)
theorem dX1_shownWith_11 : decode cX1_shownWith 11 = .ok (.aload_n 0, 1) := dk_42 (dk_at dksX1_shownWith_0 11 rfl rfl)
theorem dX1_shownWith_12 : decode cX1_shownWith 12 = .ok (.iload_n 1, 1) := dk_27 (dk_at dksX1_shownWith_0 12 rfl rfl)
theorem dX1_shownWith_13 : decode cX1_shownWith 13 = .ok (.iload_n 2, 1) := dk_28 (dk_at dksX1_shownWith_0 13 rfl rfl)
theorem dX1_shownWith_14 : decode cX1_shownWith 14 = .ok (.invokespecial 372, 3) := dk_183 1 116 (dk_at dksX1_shownWith_0 14 rfl rfl)
theorem dX1_shownWith_17 : decode cX1_shownWith 17 = .ok (.invokevirtual 375, 3) := dk_182 1 119 (dk_at dksX1_shownWith_0 17 rfl rfl)
theorem dX1_shownWith_20 : decode cX1_shownWith 20 = .ok (.astore_n 3, 1) := dk_78 (dk_at dksX1_shownWith_0 20 rfl rfl)
theorem dX1_shownWith_21 : decode cX1_shownWith 21 = .ok (.aload_n 0, 1) := dk_42 (dk_at dksX1_shownWith_0 21 rfl rfl)
theorem dX1_shownWith_22 : decode cX1_shownWith 22 = .ok (.getfield 24, 3) := dk_180 0 24 (dk_at dksX1_shownWith_1 0 rfl rfl)
theorem dX1_shownWith_25 : decode cX1_shownWith 25 = .ok (.invokevirtual 55, 3) := dk_182 0 55 (dk_at dksX1_shownWith_1 3 rfl rfl)
theorem dX1_shownWith_28 : decode cX1_shownWith 28 = .ok (.aload_n 3, 1) := dk_45 (dk_at dksX1_shownWith_1 6 rfl rfl)
theorem dX1_shownWith_29 : decode cX1_shownWith 29 = .ok (.invokevirtual 379, 3) := dk_182 1 123 (dk_at dksX1_shownWith_1 7 rfl rfl)
theorem dX1_shownWith_32 : decode cX1_shownWith 32 = .ok (.isub, 1) := dk_100 (dk_at dksX1_shownWith_1 10 rfl rfl)
theorem dX1_shownWith_33 : decode cX1_shownWith 33 = .ok (.ireturn, 1) := dk_172 (dk_at dksX1_shownWith_1 11 rfl rfl)
abbrev cX1_writeOutline : ByteArray := prog_1_method_62_code
def yX1_writeOutline : MethodName := ⟨RX1, "writeOutline", "()I"⟩
def dkwX1_writeOutline_5 : List UInt8 := [16, 42, 182, 0, 93, 87, 167, 255, 156, 42, 180, 0, 42, 182, 1, 161, 172]
abbrev dktX1_writeOutline_5 : List UInt8 := dkwX1_writeOutline_5 ++ []
def dkwX1_writeOutline_4 : List UInt8 := [96, 182, 1, 148, 87, 42, 180, 0, 24, 182, 0, 71, 44, 182, 1, 53, 153, 0, 13, 42, 180, 0, 42]
abbrev dktX1_writeOutline_4 : List UInt8 := dkwX1_writeOutline_4 ++ dktX1_writeOutline_5
def dkwX1_writeOutline_3 : List UInt8 := [16, 47, 182, 0, 93, 44, 182, 1, 37, 4, 96, 182, 1, 148, 16, 45, 182, 0, 93, 44, 182, 1, 40, 4]
abbrev dktX1_writeOutline_3 : List UInt8 := dkwX1_writeOutline_3 ++ dktX1_writeOutline_4
def dkwX1_writeOutline_2 : List UInt8 := [158, 0, 13, 42, 180, 0, 42, 16, 32, 182, 0, 93, 87, 42, 180, 0, 42, 44, 180, 1, 57, 182, 1, 148]
abbrev dktX1_writeOutline_2 : List UInt8 := dkwX1_writeOutline_2 ++ dktX1_writeOutline_3
def dkwX1_writeOutline_1 : List UInt8 := [43, 185, 0, 156, 1, 0, 153, 0, 97, 43, 185, 0, 162, 1, 0, 192, 0, 88, 77, 44, 180, 0, 90]
abbrev dktX1_writeOutline_1 : List UInt8 := dkwX1_writeOutline_1 ++ dktX1_writeOutline_2
def dkwX1_writeOutline_0 : List UInt8 := [42, 180, 0, 42, 3, 182, 1, 154, 42, 180, 0, 24, 182, 0, 71, 180, 0, 75, 185, 0, 152, 1, 0, 76]
abbrev dktX1_writeOutline_0 : List UInt8 := dkwX1_writeOutline_0 ++ dktX1_writeOutline_1
theorem dksX1_writeOutline_0 : cX1_writeOutline.data.toList.drop 0 = dktX1_writeOutline_0 := by decide +kernel
theorem dksX1_writeOutline_1 : cX1_writeOutline.data.toList.drop 24 = dktX1_writeOutline_1 := dk_seg dksX1_writeOutline_0 24 rfl rfl
theorem dksX1_writeOutline_2 : cX1_writeOutline.data.toList.drop 47 = dktX1_writeOutline_2 := dk_seg dksX1_writeOutline_1 23 rfl rfl
theorem dksX1_writeOutline_3 : cX1_writeOutline.data.toList.drop 71 = dktX1_writeOutline_3 := dk_seg dksX1_writeOutline_2 24 rfl rfl
theorem dksX1_writeOutline_4 : cX1_writeOutline.data.toList.drop 95 = dktX1_writeOutline_4 := dk_seg dksX1_writeOutline_3 24 rfl rfl
theorem dksX1_writeOutline_5 : cX1_writeOutline.data.toList.drop 118 = dktX1_writeOutline_5 := dk_seg dksX1_writeOutline_4 23 rfl rfl
theorem dX1_writeOutline_0 : decode cX1_writeOutline 0 = .ok (.aload_n 0, 1) := dk_42 (dk_at dksX1_writeOutline_0 0 rfl rfl)
theorem dX1_writeOutline_1 : decode cX1_writeOutline 1 = .ok (.getfield 42, 3) := dk_180 0 42 (dk_at dksX1_writeOutline_0 1 rfl rfl)
theorem dX1_writeOutline_4 : decode cX1_writeOutline 4 = .ok (.iconst 0, 1) := dk_3 (dk_at dksX1_writeOutline_0 4 rfl rfl)
theorem dX1_writeOutline_5 : decode cX1_writeOutline 5 = .ok (.invokevirtual 410, 3) := dk_182 1 154 (dk_at dksX1_writeOutline_0 5 rfl rfl)
theorem dX1_writeOutline_8 : decode cX1_writeOutline 8 = .ok (.aload_n 0, 1) := dk_42 (dk_at dksX1_writeOutline_0 8 rfl rfl)
theorem dX1_writeOutline_9 : decode cX1_writeOutline 9 = .ok (.getfield 24, 3) := dk_180 0 24 (dk_at dksX1_writeOutline_0 9 rfl rfl)
theorem dX1_writeOutline_12 : decode cX1_writeOutline 12 = .ok (.invokevirtual 71, 3) := dk_182 0 71 (dk_at dksX1_writeOutline_0 12 rfl rfl)
theorem dX1_writeOutline_15 : decode cX1_writeOutline 15 = .ok (.getfield 75, 3) := dk_180 0 75 (dk_at dksX1_writeOutline_0 15 rfl rfl)
theorem dX1_writeOutline_18 : decode cX1_writeOutline 18 = .ok (.invokeinterface 152 1, 5) := by decide +kernel
theorem dX1_writeOutline_23 : decode cX1_writeOutline 23 = .ok (.astore_n 1, 1) := dk_76 (dk_at dksX1_writeOutline_0 23 rfl rfl)
theorem dX1_writeOutline_24 : decode cX1_writeOutline 24 = .ok (.aload_n 1, 1) := dk_43 (dk_at dksX1_writeOutline_1 0 rfl rfl)
theorem dX1_writeOutline_25 : decode cX1_writeOutline 25 = .ok (.invokeinterface 156 1, 5) := by decide +kernel
theorem dX1_writeOutline_30 : decode cX1_writeOutline 30 = .ok (.ifCond .eq 97, 3) := dk_153 0 97 (dk_at dksX1_writeOutline_1 6 rfl rfl)
theorem dX1_writeOutline_33 : decode cX1_writeOutline 33 = .ok (.aload_n 1, 1) := dk_43 (dk_at dksX1_writeOutline_1 9 rfl rfl)
theorem dX1_writeOutline_34 : decode cX1_writeOutline 34 = .ok (.invokeinterface 162 1, 5) := by decide +kernel
theorem dX1_writeOutline_39 : decode cX1_writeOutline 39 = .ok (.checkcast 88, 3) := dk_192 0 88 (dk_at dksX1_writeOutline_1 15 rfl rfl)
theorem dX1_writeOutline_42 : decode cX1_writeOutline 42 = .ok (.astore_n 2, 1) := dk_77 (dk_at dksX1_writeOutline_1 18 rfl rfl)
theorem dX1_writeOutline_43 : decode cX1_writeOutline 43 = .ok (.aload_n 2, 1) := dk_44 (dk_at dksX1_writeOutline_1 19 rfl rfl)
theorem dX1_writeOutline_44 : decode cX1_writeOutline 44 = .ok (.getfield 90, 3) := dk_180 0 90 (dk_at dksX1_writeOutline_1 20 rfl rfl)
theorem dX1_writeOutline_47 : decode cX1_writeOutline 47 = .ok (.ifCond .le 13, 3) := dk_158 0 13 (dk_at dksX1_writeOutline_2 0 rfl rfl)
theorem dX1_writeOutline_50 : decode cX1_writeOutline 50 = .ok (.aload_n 0, 1) := dk_42 (dk_at dksX1_writeOutline_2 3 rfl rfl)
theorem dX1_writeOutline_51 : decode cX1_writeOutline 51 = .ok (.getfield 42, 3) := dk_180 0 42 (dk_at dksX1_writeOutline_2 4 rfl rfl)
theorem dX1_writeOutline_54 : decode cX1_writeOutline 54 = .ok (.bipush 32, 2) := dk_16 32 (dk_at dksX1_writeOutline_2 7 rfl rfl)
theorem dX1_writeOutline_56 : decode cX1_writeOutline 56 = .ok (.invokevirtual 93, 3) := dk_182 0 93 (dk_at dksX1_writeOutline_2 9 rfl rfl)
theorem dX1_writeOutline_59 : decode cX1_writeOutline 59 = .ok (.pop, 1) := dk_87 (dk_at dksX1_writeOutline_2 12 rfl rfl)
theorem dX1_writeOutline_60 : decode cX1_writeOutline 60 = .ok (.aload_n 0, 1) := dk_42 (dk_at dksX1_writeOutline_2 13 rfl rfl)
theorem dX1_writeOutline_61 : decode cX1_writeOutline 61 = .ok (.getfield 42, 3) := dk_180 0 42 (dk_at dksX1_writeOutline_2 14 rfl rfl)
theorem dX1_writeOutline_64 : decode cX1_writeOutline 64 = .ok (.aload_n 2, 1) := dk_44 (dk_at dksX1_writeOutline_2 17 rfl rfl)
theorem dX1_writeOutline_65 : decode cX1_writeOutline 65 = .ok (.getfield 313, 3) := dk_180 1 57 (dk_at dksX1_writeOutline_2 18 rfl rfl)
theorem dX1_writeOutline_68 : decode cX1_writeOutline 68 = .ok (.invokevirtual 404, 3) := dk_182 1 148 (dk_at dksX1_writeOutline_2 21 rfl rfl)
theorem dX1_writeOutline_71 : decode cX1_writeOutline 71 = .ok (.bipush 47, 2) := dk_16 47 (dk_at dksX1_writeOutline_3 0 rfl rfl)
theorem dX1_writeOutline_73 : decode cX1_writeOutline 73 = .ok (.invokevirtual 93, 3) := dk_182 0 93 (dk_at dksX1_writeOutline_3 2 rfl rfl)
theorem dX1_writeOutline_76 : decode cX1_writeOutline 76 = .ok (.aload_n 2, 1) := dk_44 (dk_at dksX1_writeOutline_3 5 rfl rfl)
theorem dX1_writeOutline_77 : decode cX1_writeOutline 77 = .ok (.invokevirtual 293, 3) := dk_182 1 37 (dk_at dksX1_writeOutline_3 6 rfl rfl)
theorem dX1_writeOutline_80 : decode cX1_writeOutline 80 = .ok (.iconst 1, 1) := dk_4 (dk_at dksX1_writeOutline_3 9 rfl rfl)
theorem dX1_writeOutline_81 : decode cX1_writeOutline 81 = .ok (.iadd, 1) := dk_96 (dk_at dksX1_writeOutline_3 10 rfl rfl)
theorem dX1_writeOutline_82 : decode cX1_writeOutline 82 = .ok (.invokevirtual 404, 3) := dk_182 1 148 (dk_at dksX1_writeOutline_3 11 rfl rfl)
theorem dX1_writeOutline_85 : decode cX1_writeOutline 85 = .ok (.bipush 45, 2) := dk_16 45 (dk_at dksX1_writeOutline_3 14 rfl rfl)
theorem dX1_writeOutline_87 : decode cX1_writeOutline 87 = .ok (.invokevirtual 93, 3) := dk_182 0 93 (dk_at dksX1_writeOutline_3 16 rfl rfl)
theorem dX1_writeOutline_90 : decode cX1_writeOutline 90 = .ok (.aload_n 2, 1) := dk_44 (dk_at dksX1_writeOutline_3 19 rfl rfl)
theorem dX1_writeOutline_91 : decode cX1_writeOutline 91 = .ok (.invokevirtual 296, 3) := dk_182 1 40 (dk_at dksX1_writeOutline_3 20 rfl rfl)
theorem dX1_writeOutline_94 : decode cX1_writeOutline 94 = .ok (.iconst 1, 1) := dk_4 (dk_at dksX1_writeOutline_3 23 rfl rfl)
theorem dX1_writeOutline_95 : decode cX1_writeOutline 95 = .ok (.iadd, 1) := dk_96 (dk_at dksX1_writeOutline_4 0 rfl rfl)
theorem dX1_writeOutline_96 : decode cX1_writeOutline 96 = .ok (.invokevirtual 404, 3) := dk_182 1 148 (dk_at dksX1_writeOutline_4 1 rfl rfl)
theorem dX1_writeOutline_99 : decode cX1_writeOutline 99 = .ok (.pop, 1) := dk_87 (dk_at dksX1_writeOutline_4 4 rfl rfl)
theorem dX1_writeOutline_100 : decode cX1_writeOutline 100 = .ok (.aload_n 0, 1) := dk_42 (dk_at dksX1_writeOutline_4 5 rfl rfl)
theorem dX1_writeOutline_101 : decode cX1_writeOutline 101 = .ok (.getfield 24, 3) := dk_180 0 24 (dk_at dksX1_writeOutline_4 6 rfl rfl)
theorem dX1_writeOutline_104 : decode cX1_writeOutline 104 = .ok (.invokevirtual 71, 3) := dk_182 0 71 (dk_at dksX1_writeOutline_4 9 rfl rfl)
theorem dX1_writeOutline_107 : decode cX1_writeOutline 107 = .ok (.aload_n 2, 1) := dk_44 (dk_at dksX1_writeOutline_4 12 rfl rfl)
theorem dX1_writeOutline_108 : decode cX1_writeOutline 108 = .ok (.invokevirtual 309, 3) := dk_182 1 53 (dk_at dksX1_writeOutline_4 13 rfl rfl)
theorem dX1_writeOutline_111 : decode cX1_writeOutline 111 = .ok (.ifCond .eq 13, 3) := dk_153 0 13 (dk_at dksX1_writeOutline_4 16 rfl rfl)
theorem dX1_writeOutline_114 : decode cX1_writeOutline 114 = .ok (.aload_n 0, 1) := dk_42 (dk_at dksX1_writeOutline_4 19 rfl rfl)
theorem dX1_writeOutline_115 : decode cX1_writeOutline 115 = .ok (.getfield 42, 3) := dk_180 0 42 (dk_at dksX1_writeOutline_4 20 rfl rfl)
theorem dX1_writeOutline_118 : decode cX1_writeOutline 118 = .ok (.bipush 42, 2) := dk_16 42 (dk_at dksX1_writeOutline_5 0 rfl rfl)
theorem dX1_writeOutline_120 : decode cX1_writeOutline 120 = .ok (.invokevirtual 93, 3) := dk_182 0 93 (dk_at dksX1_writeOutline_5 2 rfl rfl)
theorem dX1_writeOutline_123 : decode cX1_writeOutline 123 = .ok (.pop, 1) := dk_87 (dk_at dksX1_writeOutline_5 5 rfl rfl)
theorem dX1_writeOutline_124 : decode cX1_writeOutline 124 = .ok (.goto (-100), 3) := dk_167 255 156 (dk_at dksX1_writeOutline_5 6 rfl rfl)
theorem dX1_writeOutline_127 : decode cX1_writeOutline 127 = .ok (.aload_n 0, 1) := dk_42 (dk_at dksX1_writeOutline_5 9 rfl rfl)
theorem dX1_writeOutline_128 : decode cX1_writeOutline 128 = .ok (.getfield 42, 3) := dk_180 0 42 (dk_at dksX1_writeOutline_5 10 rfl rfl)
theorem dX1_writeOutline_131 : decode cX1_writeOutline 131 = .ok (.invokevirtual 417, 3) := dk_182 1 161 (dk_at dksX1_writeOutline_5 13 rfl rfl)
theorem dX1_writeOutline_134 : decode cX1_writeOutline 134 = .ok (.ireturn, 1) := dk_172 (dk_at dksX1_writeOutline_5 16 rfl rfl)
abbrev cX1_openAll : ByteArray := prog_1_method_77_code
def yX1_openAll : MethodName := ⟨RX1, "openAll", "()I"⟩
def dkwX1_openAll_1 : List UInt8 := [42, 180, 0, 24, 182, 0, 55, 182, 1, 230, 42, 180, 0, 24, 43, 182, 1, 232, 172]
abbrev dktX1_openAll_1 : List UInt8 := dkwX1_openAll_1 ++ []
def dkwX1_openAll_0 : List UInt8 := [42, 182, 1, 177, 187, 1, 124, 89, 183, 1, 136, 76, 42, 180, 0, 24, 182, 0, 55, 158, 0, 15, 43, 3]
abbrev dktX1_openAll_0 : List UInt8 := dkwX1_openAll_0 ++ dktX1_openAll_1
theorem dksX1_openAll_0 : cX1_openAll.data.toList.drop 0 = dktX1_openAll_0 := by decide +kernel
theorem dksX1_openAll_1 : cX1_openAll.data.toList.drop 24 = dktX1_openAll_1 := dk_seg dksX1_openAll_0 24 rfl rfl
theorem dX1_openAll_0 : decode cX1_openAll 0 = .ok (.aload_n 0, 1) := dk_42 (dk_at dksX1_openAll_0 0 rfl rfl)
theorem dX1_openAll_1 : decode cX1_openAll 1 = .ok (.invokevirtual 433, 3) := dk_182 1 177 (dk_at dksX1_openAll_0 1 rfl rfl)
theorem dX1_openAll_4 : decode cX1_openAll 4 = .ok (.new 380, 3) := dk_187 1 124 (dk_at dksX1_openAll_0 4 rfl rfl)
theorem dX1_openAll_7 : decode cX1_openAll 7 = .ok (.dup, 1) := dk_89 (dk_at dksX1_openAll_0 7 rfl rfl)
theorem dX1_openAll_8 : decode cX1_openAll 8 = .ok (.invokespecial 392, 3) := dk_183 1 136 (dk_at dksX1_openAll_0 8 rfl rfl)
theorem dX1_openAll_11 : decode cX1_openAll 11 = .ok (.astore_n 1, 1) := dk_76 (dk_at dksX1_openAll_0 11 rfl rfl)
theorem dX1_openAll_12 : decode cX1_openAll 12 = .ok (.aload_n 0, 1) := dk_42 (dk_at dksX1_openAll_0 12 rfl rfl)
theorem dX1_openAll_13 : decode cX1_openAll 13 = .ok (.getfield 24, 3) := dk_180 0 24 (dk_at dksX1_openAll_0 13 rfl rfl)
theorem dX1_openAll_16 : decode cX1_openAll 16 = .ok (.invokevirtual 55, 3) := dk_182 0 55 (dk_at dksX1_openAll_0 16 rfl rfl)
theorem dX1_openAll_19 : decode cX1_openAll 19 = .ok (.ifCond .le 15, 3) := dk_158 0 15 (dk_at dksX1_openAll_0 19 rfl rfl)
theorem dX1_openAll_22 : decode cX1_openAll 22 = .ok (.aload_n 1, 1) := dk_43 (dk_at dksX1_openAll_0 22 rfl rfl)
theorem dX1_openAll_23 : decode cX1_openAll 23 = .ok (.iconst 0, 1) := dk_3 (dk_at dksX1_openAll_0 23 rfl rfl)
theorem dX1_openAll_24 : decode cX1_openAll 24 = .ok (.aload_n 0, 1) := dk_42 (dk_at dksX1_openAll_1 0 rfl rfl)
theorem dX1_openAll_25 : decode cX1_openAll 25 = .ok (.getfield 24, 3) := dk_180 0 24 (dk_at dksX1_openAll_1 1 rfl rfl)
theorem dX1_openAll_28 : decode cX1_openAll 28 = .ok (.invokevirtual 55, 3) := dk_182 0 55 (dk_at dksX1_openAll_1 4 rfl rfl)
theorem dX1_openAll_31 : decode cX1_openAll 31 = .ok (.invokevirtual 486, 3) := dk_182 1 230 (dk_at dksX1_openAll_1 7 rfl rfl)
theorem dX1_openAll_34 : decode cX1_openAll 34 = .ok (.aload_n 0, 1) := dk_42 (dk_at dksX1_openAll_1 10 rfl rfl)
theorem dX1_openAll_35 : decode cX1_openAll 35 = .ok (.getfield 24, 3) := dk_180 0 24 (dk_at dksX1_openAll_1 11 rfl rfl)
theorem dX1_openAll_38 : decode cX1_openAll 38 = .ok (.aload_n 1, 1) := dk_43 (dk_at dksX1_openAll_1 14 rfl rfl)
theorem dX1_openAll_39 : decode cX1_openAll 39 = .ok (.invokevirtual 488, 3) := dk_182 1 232 (dk_at dksX1_openAll_1 15 rfl rfl)
theorem dX1_openAll_42 : decode cX1_openAll 42 = .ok (.ireturn, 1) := dk_172 (dk_at dksX1_openAll_1 18 rfl rfl)
abbrev cX1_keep : ByteArray := prog_1_method_64_code
def yX1_keep : MethodName := ⟨RX1, "keep", "()V"⟩
def dkwX1_keep_1 : List UInt8 := [42, 180, 0, 24, 182, 1, 167, 182, 1, 170, 177]
abbrev dktX1_keep_1 : List UInt8 := dkwX1_keep_1 ++ []
def dkwX1_keep_0 : List UInt8 := [42, 180, 0, 31, 182, 1, 163, 16, 8, 160, 0, 11, 42, 180, 0, 31, 182, 1, 164, 87, 42, 180, 0, 31]
abbrev dktX1_keep_0 : List UInt8 := dkwX1_keep_0 ++ dktX1_keep_1
theorem dksX1_keep_0 : cX1_keep.data.toList.drop 0 = dktX1_keep_0 := by decide +kernel
theorem dksX1_keep_1 : cX1_keep.data.toList.drop 24 = dktX1_keep_1 := dk_seg dksX1_keep_0 24 rfl rfl
theorem dX1_keep_0 : decode cX1_keep 0 = .ok (.aload_n 0, 1) := dk_42 (dk_at dksX1_keep_0 0 rfl rfl)
theorem dX1_keep_1 : decode cX1_keep 1 = .ok (.getfield 31, 3) := dk_180 0 31 (dk_at dksX1_keep_0 1 rfl rfl)
theorem dX1_keep_4 : decode cX1_keep 4 = .ok (.invokevirtual 419, 3) := dk_182 1 163 (dk_at dksX1_keep_0 4 rfl rfl)
theorem dX1_keep_7 : decode cX1_keep 7 = .ok (.bipush 8, 2) := dk_16 8 (dk_at dksX1_keep_0 7 rfl rfl)
theorem dX1_keep_9 : decode cX1_keep 9 = .ok (.if_icmp .ne 11, 3) := dk_160 0 11 (dk_at dksX1_keep_0 9 rfl rfl)
theorem dX1_keep_12 : decode cX1_keep 12 = .ok (.aload_n 0, 1) := dk_42 (dk_at dksX1_keep_0 12 rfl rfl)
theorem dX1_keep_13 : decode cX1_keep 13 = .ok (.getfield 31, 3) := dk_180 0 31 (dk_at dksX1_keep_0 13 rfl rfl)
theorem dX1_keep_16 : decode cX1_keep 16 = .ok (.invokevirtual 420, 3) := dk_182 1 164 (dk_at dksX1_keep_0 16 rfl rfl)
theorem dX1_keep_19 : decode cX1_keep 19 = .ok (.pop, 1) := dk_87 (dk_at dksX1_keep_0 19 rfl rfl)
theorem dX1_keep_20 : decode cX1_keep 20 = .ok (.aload_n 0, 1) := dk_42 (dk_at dksX1_keep_0 20 rfl rfl)
theorem dX1_keep_21 : decode cX1_keep 21 = .ok (.getfield 31, 3) := dk_180 0 31 (dk_at dksX1_keep_0 21 rfl rfl)
theorem dX1_keep_24 : decode cX1_keep 24 = .ok (.aload_n 0, 1) := dk_42 (dk_at dksX1_keep_1 0 rfl rfl)
theorem dX1_keep_25 : decode cX1_keep 25 = .ok (.getfield 24, 3) := dk_180 0 24 (dk_at dksX1_keep_1 1 rfl rfl)
theorem dX1_keep_28 : decode cX1_keep 28 = .ok (.invokevirtual 423, 3) := dk_182 1 167 (dk_at dksX1_keep_1 4 rfl rfl)
theorem dX1_keep_31 : decode cX1_keep 31 = .ok (.invokevirtual 426, 3) := dk_182 1 170 (dk_at dksX1_keep_1 7 rfl rfl)
theorem dX1_keep_34 : decode cX1_keep 34 = .ok (.return_, 1) := dk_177 (dk_at dksX1_keep_1 10 rfl rfl)
abbrev cX1_undoable : ByteArray := prog_1_method_86_code
def yX1_undoable : MethodName := ⟨RX1, "undoable", "()I"⟩
def dkwX1_undoable_0 : List UInt8 := [42, 180, 0, 31, 182, 1, 163, 172]
abbrev dktX1_undoable_0 : List UInt8 := dkwX1_undoable_0 ++ []
theorem dksX1_undoable_0 : cX1_undoable.data.toList.drop 0 = dktX1_undoable_0 := by decide +kernel
theorem dX1_undoable_0 : decode cX1_undoable 0 = .ok (.aload_n 0, 1) := dk_42 (dk_at dksX1_undoable_0 0 rfl rfl)
theorem dX1_undoable_1 : decode cX1_undoable 1 = .ok (.getfield 31, 3) := dk_180 0 31 (dk_at dksX1_undoable_0 1 rfl rfl)
theorem dX1_undoable_4 : decode cX1_undoable 4 = .ok (.invokevirtual 419, 3) := dk_182 1 163 (dk_at dksX1_undoable_0 4 rfl rfl)
theorem dX1_undoable_7 : decode cX1_undoable 7 = .ok (.ireturn, 1) := dk_172 (dk_at dksX1_undoable_0 7 rfl rfl)
abbrev cX1_load : ByteArray := prog_1_method_15_code
def yX1_load : MethodName := ⟨RX1, "load", "(I)I"⟩
def dkwX1_load_4 : List UInt8 := [187, 0, 46, 89, 183, 0, 48, 191]
abbrev dktX1_load_4 : List UInt8 := dkwX1_load_4 ++ []
def dkwX1_load_3 : List UInt8 := [180, 0, 24, 182, 0, 55, 172, 77, 42, 44, 180, 0, 134, 181, 0, 117, 42, 44, 180, 0, 137, 181, 0, 17]
abbrev dktX1_load_3 : List UInt8 := dkwX1_load_3 ++ dktX1_load_4
def dkwX1_load_2 : List UInt8 := [182, 0, 129, 3, 61, 28, 5, 162, 0, 16, 42, 180, 0, 35, 28, 1, 83, 132, 2, 1, 167, 255, 241, 42]
abbrev dktX1_load_2 : List UInt8 := dkwX1_load_2 ++ dktX1_load_3
def dkwX1_load_1 : List UInt8 := [181, 0, 17, 42, 187, 0, 120, 89, 42, 27, 183, 0, 122, 182, 0, 125, 181, 0, 24, 42, 180, 0, 31]
abbrev dktX1_load_1 : List UInt8 := dkwX1_load_1 ++ dktX1_load_2
def dkwX1_load_0 : List UInt8 := [27, 42, 180, 0, 97, 4, 96, 184, 0, 59, 42, 3, 181, 0, 97, 42, 3, 181, 0, 117, 42, 2]
abbrev dktX1_load_0 : List UInt8 := dkwX1_load_0 ++ dktX1_load_1
theorem dksX1_load_0 : cX1_load.data.toList.drop 0 = dktX1_load_0 := by decide +kernel
theorem dksX1_load_1 : cX1_load.data.toList.drop 22 = dktX1_load_1 := dk_seg dksX1_load_0 22 rfl rfl
theorem dksX1_load_2 : cX1_load.data.toList.drop 45 = dktX1_load_2 := dk_seg dksX1_load_1 23 rfl rfl
theorem dksX1_load_3 : cX1_load.data.toList.drop 69 = dktX1_load_3 := dk_seg dksX1_load_2 24 rfl rfl
theorem dksX1_load_4 : cX1_load.data.toList.drop 93 = dktX1_load_4 := dk_seg dksX1_load_3 24 rfl rfl
theorem dX1_load_0 : decode cX1_load 0 = .ok (.iload_n 1, 1) := dk_27 (dk_at dksX1_load_0 0 rfl rfl)
theorem dX1_load_1 : decode cX1_load 1 = .ok (.aload_n 0, 1) := dk_42 (dk_at dksX1_load_0 1 rfl rfl)
theorem dX1_load_2 : decode cX1_load 2 = .ok (.getfield 97, 3) := dk_180 0 97 (dk_at dksX1_load_0 2 rfl rfl)
theorem dX1_load_5 : decode cX1_load 5 = .ok (.iconst 1, 1) := dk_4 (dk_at dksX1_load_0 5 rfl rfl)
theorem dX1_load_6 : decode cX1_load 6 = .ok (.iadd, 1) := dk_96 (dk_at dksX1_load_0 6 rfl rfl)
theorem dX1_load_7 : decode cX1_load 7 = .ok (.invokestatic 59, 3) := dk_184 0 59 (dk_at dksX1_load_0 7 rfl rfl)
theorem dX1_load_10 : decode cX1_load 10 = .ok (.aload_n 0, 1) := dk_42 (dk_at dksX1_load_0 10 rfl rfl)
theorem dX1_load_11 : decode cX1_load 11 = .ok (.iconst 0, 1) := dk_3 (dk_at dksX1_load_0 11 rfl rfl)
theorem dX1_load_12 : decode cX1_load 12 = .ok (.putfield 97, 3) := dk_181 0 97 (dk_at dksX1_load_0 12 rfl rfl)
theorem dX1_load_15 : decode cX1_load 15 = .ok (.aload_n 0, 1) := dk_42 (dk_at dksX1_load_0 15 rfl rfl)
theorem dX1_load_16 : decode cX1_load 16 = .ok (.iconst 0, 1) := dk_3 (dk_at dksX1_load_0 16 rfl rfl)
theorem dX1_load_17 : decode cX1_load 17 = .ok (.putfield 117, 3) := dk_181 0 117 (dk_at dksX1_load_0 17 rfl rfl)
theorem dX1_load_20 : decode cX1_load 20 = .ok (.aload_n 0, 1) := dk_42 (dk_at dksX1_load_0 20 rfl rfl)
theorem dX1_load_21 : decode cX1_load 21 = .ok (.iconst (-1), 1) := dk_2 (dk_at dksX1_load_0 21 rfl rfl)
theorem dX1_load_22 : decode cX1_load 22 = .ok (.putfield 17, 3) := dk_181 0 17 (dk_at dksX1_load_1 0 rfl rfl)
theorem dX1_load_25 : decode cX1_load 25 = .ok (.aload_n 0, 1) := dk_42 (dk_at dksX1_load_1 3 rfl rfl)
theorem dX1_load_26 : decode cX1_load 26 = .ok (.new 120, 3) := dk_187 0 120 (dk_at dksX1_load_1 4 rfl rfl)
theorem dX1_load_29 : decode cX1_load 29 = .ok (.dup, 1) := dk_89 (dk_at dksX1_load_1 7 rfl rfl)
theorem dX1_load_30 : decode cX1_load 30 = .ok (.aload_n 0, 1) := dk_42 (dk_at dksX1_load_1 8 rfl rfl)
theorem dX1_load_31 : decode cX1_load 31 = .ok (.iload_n 1, 1) := dk_27 (dk_at dksX1_load_1 9 rfl rfl)
theorem dX1_load_32 : decode cX1_load 32 = .ok (.invokespecial 122, 3) := dk_183 0 122 (dk_at dksX1_load_1 10 rfl rfl)
theorem dX1_load_35 : decode cX1_load 35 = .ok (.invokevirtual 125, 3) := dk_182 0 125 (dk_at dksX1_load_1 13 rfl rfl)
theorem dX1_load_38 : decode cX1_load 38 = .ok (.putfield 24, 3) := dk_181 0 24 (dk_at dksX1_load_1 16 rfl rfl)
theorem dX1_load_41 : decode cX1_load 41 = .ok (.aload_n 0, 1) := dk_42 (dk_at dksX1_load_1 19 rfl rfl)
theorem dX1_load_42 : decode cX1_load 42 = .ok (.getfield 31, 3) := dk_180 0 31 (dk_at dksX1_load_1 20 rfl rfl)
theorem dX1_load_45 : decode cX1_load 45 = .ok (.invokevirtual 129, 3) := dk_182 0 129 (dk_at dksX1_load_2 0 rfl rfl)
theorem dX1_load_48 : decode cX1_load 48 = .ok (.iconst 0, 1) := dk_3 (dk_at dksX1_load_2 3 rfl rfl)
theorem dX1_load_49 : decode cX1_load 49 = .ok (.istore_n 2, 1) := dk_61 (dk_at dksX1_load_2 4 rfl rfl)
theorem dX1_load_50 : decode cX1_load 50 = .ok (.iload_n 2, 1) := dk_28 (dk_at dksX1_load_2 5 rfl rfl)
theorem dX1_load_51 : decode cX1_load 51 = .ok (.iconst 2, 1) := dk_5 (dk_at dksX1_load_2 6 rfl rfl)
theorem dX1_load_52 : decode cX1_load 52 = .ok (.if_icmp .ge 16, 3) := dk_162 0 16 (dk_at dksX1_load_2 7 rfl rfl)
theorem dX1_load_55 : decode cX1_load 55 = .ok (.aload_n 0, 1) := dk_42 (dk_at dksX1_load_2 10 rfl rfl)
theorem dX1_load_56 : decode cX1_load 56 = .ok (.getfield 35, 3) := dk_180 0 35 (dk_at dksX1_load_2 11 rfl rfl)
theorem dX1_load_59 : decode cX1_load 59 = .ok (.iload_n 2, 1) := dk_28 (dk_at dksX1_load_2 14 rfl rfl)
theorem dX1_load_60 : decode cX1_load 60 = .ok (.aconst_null, 1) := dk_1 (dk_at dksX1_load_2 15 rfl rfl)
theorem dX1_load_61 : decode cX1_load 61 = .ok (.aastore, 1) := dk_83 (dk_at dksX1_load_2 16 rfl rfl)
theorem dX1_load_62 : decode cX1_load 62 = .ok (.iinc 2 1, 3) := dk_132 2 1 (dk_at dksX1_load_2 17 rfl rfl)
theorem dX1_load_65 : decode cX1_load 65 = .ok (.goto (-15), 3) := dk_167 255 241 (dk_at dksX1_load_2 20 rfl rfl)
theorem dX1_load_68 : decode cX1_load 68 = .ok (.aload_n 0, 1) := dk_42 (dk_at dksX1_load_2 23 rfl rfl)
theorem dX1_load_69 : decode cX1_load 69 = .ok (.getfield 24, 3) := dk_180 0 24 (dk_at dksX1_load_3 0 rfl rfl)
theorem dX1_load_72 : decode cX1_load 72 = .ok (.invokevirtual 55, 3) := dk_182 0 55 (dk_at dksX1_load_3 3 rfl rfl)
theorem dX1_load_75 : decode cX1_load 75 = .ok (.ireturn, 1) := dk_172 (dk_at dksX1_load_3 6 rfl rfl)
theorem dX1_load_76 : decode cX1_load 76 = .ok (.astore_n 2, 1) := dk_77 (dk_at dksX1_load_3 7 rfl rfl)
theorem dX1_load_77 : decode cX1_load 77 = .ok (.aload_n 0, 1) := dk_42 (dk_at dksX1_load_3 8 rfl rfl)
theorem dX1_load_78 : decode cX1_load 78 = .ok (.aload_n 2, 1) := dk_44 (dk_at dksX1_load_3 9 rfl rfl)
theorem dX1_load_79 : decode cX1_load 79 = .ok (.getfield 134, 3) := dk_180 0 134 (dk_at dksX1_load_3 10 rfl rfl)
theorem dX1_load_82 : decode cX1_load 82 = .ok (.putfield 117, 3) := dk_181 0 117 (dk_at dksX1_load_3 13 rfl rfl)
theorem dX1_load_85 : decode cX1_load 85 = .ok (.aload_n 0, 1) := dk_42 (dk_at dksX1_load_3 16 rfl rfl)
theorem dX1_load_86 : decode cX1_load 86 = .ok (.aload_n 2, 1) := dk_44 (dk_at dksX1_load_3 17 rfl rfl)
theorem dX1_load_87 : decode cX1_load 87 = .ok (.getfield 137, 3) := dk_180 0 137 (dk_at dksX1_load_3 18 rfl rfl)
theorem dX1_load_90 : decode cX1_load 90 = .ok (.putfield 17, 3) := dk_181 0 17 (dk_at dksX1_load_3 21 rfl rfl)
theorem dX1_load_93 : decode cX1_load 93 = .ok (.new 46, 3) := dk_187 0 46 (dk_at dksX1_load_4 0 rfl rfl)
theorem dX1_load_96 : decode cX1_load 96 = .ok (.dup, 1) := dk_89 (dk_at dksX1_load_4 3 rfl rfl)
theorem dX1_load_97 : decode cX1_load 97 = .ok (.invokespecial 48, 3) := dk_183 0 48 (dk_at dksX1_load_4 4 rfl rfl)
theorem dX1_load_100 : decode cX1_load 100 = .ok (.athrow, 1) := dk_191 (dk_at dksX1_load_4 7 rfl rfl)
abbrev cX1_checkIndex : ByteArray := prog_1_method_6_code
def yX1_checkIndex : MethodName := ⟨RX1, "checkIndex", "(II)V"⟩
def dkwX1_checkIndex_0 : List UInt8 := [26, 3, 27, 4, 100, 184, 0, 1, 154, 0, 11, 187, 0, 49, 89, 183, 0, 51, 191, 177]
abbrev dktX1_checkIndex_0 : List UInt8 := dkwX1_checkIndex_0 ++ []
theorem dksX1_checkIndex_0 : cX1_checkIndex.data.toList.drop 0 = dktX1_checkIndex_0 := by decide +kernel
theorem dX1_checkIndex_0 : decode cX1_checkIndex 0 = .ok (.iload_n 0, 1) := dk_26 (dk_at dksX1_checkIndex_0 0 rfl rfl)
theorem dX1_checkIndex_1 : decode cX1_checkIndex 1 = .ok (.iconst 0, 1) := dk_3 (dk_at dksX1_checkIndex_0 1 rfl rfl)
theorem dX1_checkIndex_2 : decode cX1_checkIndex 2 = .ok (.iload_n 1, 1) := dk_27 (dk_at dksX1_checkIndex_0 2 rfl rfl)
theorem dX1_checkIndex_3 : decode cX1_checkIndex 3 = .ok (.iconst 1, 1) := dk_4 (dk_at dksX1_checkIndex_0 3 rfl rfl)
theorem dX1_checkIndex_4 : decode cX1_checkIndex 4 = .ok (.isub, 1) := dk_100 (dk_at dksX1_checkIndex_0 4 rfl rfl)
theorem dX1_checkIndex_5 : decode cX1_checkIndex 5 = .ok (.invokestatic 1, 3) := dk_184 0 1 (dk_at dksX1_checkIndex_0 5 rfl rfl)
theorem dX1_checkIndex_8 : decode cX1_checkIndex 8 = .ok (.ifCond .ne 11, 3) := dk_154 0 11 (dk_at dksX1_checkIndex_0 8 rfl rfl)
theorem dX1_checkIndex_11 : decode cX1_checkIndex 11 = .ok (.new 49, 3) := dk_187 0 49 (dk_at dksX1_checkIndex_0 11 rfl rfl)
theorem dX1_checkIndex_14 : decode cX1_checkIndex 14 = .ok (.dup, 1) := dk_89 (dk_at dksX1_checkIndex_0 14 rfl rfl)
theorem dX1_checkIndex_15 : decode cX1_checkIndex 15 = .ok (.invokespecial 51, 3) := dk_183 0 51 (dk_at dksX1_checkIndex_0 15 rfl rfl)
theorem dX1_checkIndex_18 : decode cX1_checkIndex 18 = .ok (.athrow, 1) := dk_191 (dk_at dksX1_checkIndex_0 18 rfl rfl)
theorem dX1_checkIndex_19 : decode cX1_checkIndex 19 = .ok (.return_, 1) := dk_177 (dk_at dksX1_checkIndex_0 19 rfl rfl)
abbrev cX1_in : ByteArray := prog_1_method_1_code
def yX1_in : MethodName := ⟨RX1, "in", "(III)Z"⟩
def dkwX1_in_0 : List UInt8 := [26, 27, 161, 0, 12, 26, 28, 163, 0, 7, 4, 167, 0, 4, 3, 172]
abbrev dktX1_in_0 : List UInt8 := dkwX1_in_0 ++ []
theorem dksX1_in_0 : cX1_in.data.toList.drop 0 = dktX1_in_0 := by decide +kernel
theorem dX1_in_0 : decode cX1_in 0 = .ok (.iload_n 0, 1) := dk_26 (dk_at dksX1_in_0 0 rfl rfl)
theorem dX1_in_1 : decode cX1_in 1 = .ok (.iload_n 1, 1) := dk_27 (dk_at dksX1_in_0 1 rfl rfl)
theorem dX1_in_2 : decode cX1_in 2 = .ok (.if_icmp .lt 12, 3) := dk_161 0 12 (dk_at dksX1_in_0 2 rfl rfl)
theorem dX1_in_5 : decode cX1_in 5 = .ok (.iload_n 0, 1) := dk_26 (dk_at dksX1_in_0 5 rfl rfl)
theorem dX1_in_6 : decode cX1_in 6 = .ok (.iload_n 2, 1) := dk_28 (dk_at dksX1_in_0 6 rfl rfl)
theorem dX1_in_7 : decode cX1_in 7 = .ok (.if_icmp .gt 7, 3) := dk_163 0 7 (dk_at dksX1_in_0 7 rfl rfl)
theorem dX1_in_10 : decode cX1_in 10 = .ok (.iconst 1, 1) := dk_4 (dk_at dksX1_in_0 10 rfl rfl)
theorem dX1_in_11 : decode cX1_in 11 = .ok (.goto 4, 3) := dk_167 0 4 (dk_at dksX1_in_0 11 rfl rfl)
theorem dX1_in_14 : decode cX1_in 14 = .ok (.iconst 0, 1) := dk_3 (dk_at dksX1_in_0 14 rfl rfl)
theorem dX1_in_15 : decode cX1_in 15 = .ok (.ireturn, 1) := dk_172 (dk_at dksX1_in_0 15 rfl rfl)
abbrev cX1_isLetter : ByteArray := prog_1_method_2_code
def yX1_isLetter : MethodName := ⟨RX1, "isLetter", "(I)Z"⟩
def dkwX1_isLetter_0 : List UInt8 := [26, 16, 97, 16, 122, 184, 0, 1, 172]
abbrev dktX1_isLetter_0 : List UInt8 := dkwX1_isLetter_0 ++ []
theorem dksX1_isLetter_0 : cX1_isLetter.data.toList.drop 0 = dktX1_isLetter_0 := by decide +kernel
theorem dX1_isLetter_0 : decode cX1_isLetter 0 = .ok (.iload_n 0, 1) := dk_26 (dk_at dksX1_isLetter_0 0 rfl rfl)
theorem dX1_isLetter_1 : decode cX1_isLetter 1 = .ok (.bipush 97, 2) := dk_16 97 (dk_at dksX1_isLetter_0 1 rfl rfl)
theorem dX1_isLetter_3 : decode cX1_isLetter 3 = .ok (.bipush 122, 2) := dk_16 122 (dk_at dksX1_isLetter_0 3 rfl rfl)
theorem dX1_isLetter_5 : decode cX1_isLetter 5 = .ok (.invokestatic 1, 3) := dk_184 0 1 (dk_at dksX1_isLetter_0 5 rfl rfl)
theorem dX1_isLetter_8 : decode cX1_isLetter 8 = .ok (.ireturn, 1) := dk_172 (dk_at dksX1_isLetter_0 8 rfl rfl)
abbrev cX1_isPlain : ByteArray := prog_1_method_3_code
def yX1_isPlain : MethodName := ⟨RX1, "isPlain", "(I)Z"⟩
def dkwX1_isPlain_0 : List UInt8 := [26, 16, 32, 16, 126, 184, 0, 1, 153, 0, 13, 26, 16, 124, 159, 0, 7, 4, 167, 0, 4, 3, 172]
abbrev dktX1_isPlain_0 : List UInt8 := dkwX1_isPlain_0 ++ []
theorem dksX1_isPlain_0 : cX1_isPlain.data.toList.drop 0 = dktX1_isPlain_0 := by decide +kernel
theorem dX1_isPlain_0 : decode cX1_isPlain 0 = .ok (.iload_n 0, 1) := dk_26 (dk_at dksX1_isPlain_0 0 rfl rfl)
theorem dX1_isPlain_1 : decode cX1_isPlain 1 = .ok (.bipush 32, 2) := dk_16 32 (dk_at dksX1_isPlain_0 1 rfl rfl)
theorem dX1_isPlain_3 : decode cX1_isPlain 3 = .ok (.bipush 126, 2) := dk_16 126 (dk_at dksX1_isPlain_0 3 rfl rfl)
theorem dX1_isPlain_5 : decode cX1_isPlain 5 = .ok (.invokestatic 1, 3) := dk_184 0 1 (dk_at dksX1_isPlain_0 5 rfl rfl)
theorem dX1_isPlain_8 : decode cX1_isPlain 8 = .ok (.ifCond .eq 13, 3) := dk_153 0 13 (dk_at dksX1_isPlain_0 8 rfl rfl)
theorem dX1_isPlain_11 : decode cX1_isPlain 11 = .ok (.iload_n 0, 1) := dk_26 (dk_at dksX1_isPlain_0 11 rfl rfl)
theorem dX1_isPlain_12 : decode cX1_isPlain 12 = .ok (.bipush 124, 2) := dk_16 124 (dk_at dksX1_isPlain_0 12 rfl rfl)
theorem dX1_isPlain_14 : decode cX1_isPlain 14 = .ok (.if_icmp .eq 7, 3) := dk_159 0 7 (dk_at dksX1_isPlain_0 14 rfl rfl)
theorem dX1_isPlain_17 : decode cX1_isPlain 17 = .ok (.iconst 1, 1) := dk_4 (dk_at dksX1_isPlain_0 17 rfl rfl)
theorem dX1_isPlain_18 : decode cX1_isPlain 18 = .ok (.goto 4, 3) := dk_167 0 4 (dk_at dksX1_isPlain_0 18 rfl rfl)
theorem dX1_isPlain_21 : decode cX1_isPlain 21 = .ok (.iconst 0, 1) := dk_3 (dk_at dksX1_isPlain_0 21 rfl rfl)
theorem dX1_isPlain_22 : decode cX1_isPlain 22 = .ok (.ireturn, 1) := dk_172 (dk_at dksX1_isPlain_0 22 rfl rfl)
abbrev cX1_count : ByteArray := prog_1_method_24_code
def yX1_count : MethodName := ⟨RX1, "count", "(I)I"⟩
def dkwX1_count_7 : List UInt8 := [187, 0, 46, 89, 183, 0, 48, 191, 172]
abbrev dktX1_count_7 : List UInt8 := dkwX1_count_7 ++ []
def dkwX1_count_6 : List UInt8 := [180, 0, 24, 180, 0, 208, 182, 0, 205, 167, 0, 21, 42, 180, 0, 24, 180, 0, 211, 167, 0, 11]
abbrev dktX1_count_6 : List UInt8 := dkwX1_count_6 ++ dktX1_count_7
def dkwX1_count_5 : List UInt8 := [167, 0, 54, 42, 182, 0, 198, 167, 0, 47, 42, 180, 0, 24, 180, 0, 201, 182, 0, 205, 167, 0, 34, 42]
abbrev dktX1_count_5 : List UInt8 := dkwX1_count_5 ++ dktX1_count_6
def dkwX1_count_4 : List UInt8 := [182, 0, 186, 167, 0, 75, 42, 182, 0, 189, 167, 0, 68, 42, 182, 0, 192, 167, 0, 61, 42, 182, 0, 195]
abbrev dktX1_count_4 : List UInt8 := dkwX1_count_4 ++ dktX1_count_5
def dkwX1_count_3 : List UInt8 := [180, 0, 24, 182, 0, 71, 180, 0, 75, 185, 0, 81, 1, 0, 167, 0, 88, 42, 180, 0, 24, 182, 0, 71]
abbrev dktX1_count_3 : List UInt8 := dkwX1_count_3 ++ dktX1_count_4
def dkwX1_count_2 : List UInt8 := [42, 180, 0, 24, 182, 0, 55, 167, 0, 119, 42, 180, 0, 24, 182, 0, 71, 182, 0, 183, 167, 0, 106, 42]
abbrev dktX1_count_2 : List UInt8 := dkwX1_count_2 ++ dktX1_count_3
def dkwX1_count_1 : List UInt8 := [170, 0, 0, 0, 0, 0, 177, 0, 0, 0, 0, 0, 0, 0, 10, 0, 0, 0, 59, 0, 0, 0, 69, 0, 0, 0, 82, 0, 0, 0, 100, 0, 0, 0, 113, 0, 0, 0, 120, 0, 0, 0, 127, 0, 0, 0, 134, 0, 0, 0, 141, 0, 0, 0, 154, 0, 0, 0, 167]
abbrev dktX1_count_1 : List UInt8 := dkwX1_count_1 ++ dktX1_count_2
def dkwX1_count_0 : List UInt8 := [27]
abbrev dktX1_count_0 : List UInt8 := dkwX1_count_0 ++ dktX1_count_1
theorem dksX1_count_0 : cX1_count.data.toList.drop 0 = dktX1_count_0 := by decide +kernel
theorem dksX1_count_1 : cX1_count.data.toList.drop 1 = dktX1_count_1 := dk_seg dksX1_count_0 1 rfl rfl
theorem dksX1_count_2 : cX1_count.data.toList.drop 60 = dktX1_count_2 := dk_seg dksX1_count_1 59 rfl rfl
theorem dksX1_count_3 : cX1_count.data.toList.drop 84 = dktX1_count_3 := dk_seg dksX1_count_2 24 rfl rfl
theorem dksX1_count_4 : cX1_count.data.toList.drop 108 = dktX1_count_4 := dk_seg dksX1_count_3 24 rfl rfl
theorem dksX1_count_5 : cX1_count.data.toList.drop 132 = dktX1_count_5 := dk_seg dksX1_count_4 24 rfl rfl
theorem dksX1_count_6 : cX1_count.data.toList.drop 156 = dktX1_count_6 := dk_seg dksX1_count_5 24 rfl rfl
theorem dksX1_count_7 : cX1_count.data.toList.drop 178 = dktX1_count_7 := dk_seg dksX1_count_6 22 rfl rfl
theorem dX1_count_0 : decode cX1_count 0 = .ok (.iload_n 1, 1) := dk_27 (dk_at dksX1_count_0 0 rfl rfl)
theorem dX1_count_1 : decode cX1_count 1 = .ok (.tableswitch 177 0 10 #[59, 69, 82, 100, 113, 120, 127, 134, 141, 154, 167], 59) := by decide +kernel
theorem dX1_count_60 : decode cX1_count 60 = .ok (.aload_n 0, 1) := dk_42 (dk_at dksX1_count_2 0 rfl rfl)
theorem dX1_count_61 : decode cX1_count 61 = .ok (.getfield 24, 3) := dk_180 0 24 (dk_at dksX1_count_2 1 rfl rfl)
theorem dX1_count_64 : decode cX1_count 64 = .ok (.invokevirtual 55, 3) := dk_182 0 55 (dk_at dksX1_count_2 4 rfl rfl)
theorem dX1_count_67 : decode cX1_count 67 = .ok (.goto 119, 3) := dk_167 0 119 (dk_at dksX1_count_2 7 rfl rfl)
theorem dX1_count_70 : decode cX1_count 70 = .ok (.aload_n 0, 1) := dk_42 (dk_at dksX1_count_2 10 rfl rfl)
theorem dX1_count_71 : decode cX1_count 71 = .ok (.getfield 24, 3) := dk_180 0 24 (dk_at dksX1_count_2 11 rfl rfl)
theorem dX1_count_74 : decode cX1_count 74 = .ok (.invokevirtual 71, 3) := dk_182 0 71 (dk_at dksX1_count_2 14 rfl rfl)
theorem dX1_count_77 : decode cX1_count 77 = .ok (.invokevirtual 183, 3) := dk_182 0 183 (dk_at dksX1_count_2 17 rfl rfl)
theorem dX1_count_80 : decode cX1_count 80 = .ok (.goto 106, 3) := dk_167 0 106 (dk_at dksX1_count_2 20 rfl rfl)
theorem dX1_count_83 : decode cX1_count 83 = .ok (.aload_n 0, 1) := dk_42 (dk_at dksX1_count_2 23 rfl rfl)
theorem dX1_count_84 : decode cX1_count 84 = .ok (.getfield 24, 3) := dk_180 0 24 (dk_at dksX1_count_3 0 rfl rfl)
theorem dX1_count_87 : decode cX1_count 87 = .ok (.invokevirtual 71, 3) := dk_182 0 71 (dk_at dksX1_count_3 3 rfl rfl)
theorem dX1_count_90 : decode cX1_count 90 = .ok (.getfield 75, 3) := dk_180 0 75 (dk_at dksX1_count_3 6 rfl rfl)
theorem dX1_count_93 : decode cX1_count 93 = .ok (.invokeinterface 81 1, 5) := by decide +kernel
theorem dX1_count_98 : decode cX1_count 98 = .ok (.goto 88, 3) := dk_167 0 88 (dk_at dksX1_count_3 14 rfl rfl)
theorem dX1_count_101 : decode cX1_count 101 = .ok (.aload_n 0, 1) := dk_42 (dk_at dksX1_count_3 17 rfl rfl)
theorem dX1_count_102 : decode cX1_count 102 = .ok (.getfield 24, 3) := dk_180 0 24 (dk_at dksX1_count_3 18 rfl rfl)
theorem dX1_count_105 : decode cX1_count 105 = .ok (.invokevirtual 71, 3) := dk_182 0 71 (dk_at dksX1_count_3 21 rfl rfl)
theorem dX1_count_108 : decode cX1_count 108 = .ok (.invokevirtual 186, 3) := dk_182 0 186 (dk_at dksX1_count_4 0 rfl rfl)
theorem dX1_count_111 : decode cX1_count 111 = .ok (.goto 75, 3) := dk_167 0 75 (dk_at dksX1_count_4 3 rfl rfl)
theorem dX1_count_114 : decode cX1_count 114 = .ok (.aload_n 0, 1) := dk_42 (dk_at dksX1_count_4 6 rfl rfl)
theorem dX1_count_115 : decode cX1_count 115 = .ok (.invokevirtual 189, 3) := dk_182 0 189 (dk_at dksX1_count_4 7 rfl rfl)
theorem dX1_count_118 : decode cX1_count 118 = .ok (.goto 68, 3) := dk_167 0 68 (dk_at dksX1_count_4 10 rfl rfl)
theorem dX1_count_121 : decode cX1_count 121 = .ok (.aload_n 0, 1) := dk_42 (dk_at dksX1_count_4 13 rfl rfl)
theorem dX1_count_122 : decode cX1_count 122 = .ok (.invokevirtual 192, 3) := dk_182 0 192 (dk_at dksX1_count_4 14 rfl rfl)
theorem dX1_count_125 : decode cX1_count 125 = .ok (.goto 61, 3) := dk_167 0 61 (dk_at dksX1_count_4 17 rfl rfl)
theorem dX1_count_128 : decode cX1_count 128 = .ok (.aload_n 0, 1) := dk_42 (dk_at dksX1_count_4 20 rfl rfl)
theorem dX1_count_129 : decode cX1_count 129 = .ok (.invokevirtual 195, 3) := dk_182 0 195 (dk_at dksX1_count_4 21 rfl rfl)
theorem dX1_count_132 : decode cX1_count 132 = .ok (.goto 54, 3) := dk_167 0 54 (dk_at dksX1_count_5 0 rfl rfl)
theorem dX1_count_135 : decode cX1_count 135 = .ok (.aload_n 0, 1) := dk_42 (dk_at dksX1_count_5 3 rfl rfl)
theorem dX1_count_136 : decode cX1_count 136 = .ok (.invokevirtual 198, 3) := dk_182 0 198 (dk_at dksX1_count_5 4 rfl rfl)
theorem dX1_count_139 : decode cX1_count 139 = .ok (.goto 47, 3) := dk_167 0 47 (dk_at dksX1_count_5 7 rfl rfl)
theorem dX1_count_142 : decode cX1_count 142 = .ok (.aload_n 0, 1) := dk_42 (dk_at dksX1_count_5 10 rfl rfl)
theorem dX1_count_143 : decode cX1_count 143 = .ok (.getfield 24, 3) := dk_180 0 24 (dk_at dksX1_count_5 11 rfl rfl)
theorem dX1_count_146 : decode cX1_count 146 = .ok (.getfield 201, 3) := dk_180 0 201 (dk_at dksX1_count_5 14 rfl rfl)
theorem dX1_count_149 : decode cX1_count 149 = .ok (.invokevirtual 205, 3) := dk_182 0 205 (dk_at dksX1_count_5 17 rfl rfl)
theorem dX1_count_152 : decode cX1_count 152 = .ok (.goto 34, 3) := dk_167 0 34 (dk_at dksX1_count_5 20 rfl rfl)
theorem dX1_count_155 : decode cX1_count 155 = .ok (.aload_n 0, 1) := dk_42 (dk_at dksX1_count_5 23 rfl rfl)
theorem dX1_count_156 : decode cX1_count 156 = .ok (.getfield 24, 3) := dk_180 0 24 (dk_at dksX1_count_6 0 rfl rfl)
theorem dX1_count_159 : decode cX1_count 159 = .ok (.getfield 208, 3) := dk_180 0 208 (dk_at dksX1_count_6 3 rfl rfl)
theorem dX1_count_162 : decode cX1_count 162 = .ok (.invokevirtual 205, 3) := dk_182 0 205 (dk_at dksX1_count_6 6 rfl rfl)
theorem dX1_count_165 : decode cX1_count 165 = .ok (.goto 21, 3) := dk_167 0 21 (dk_at dksX1_count_6 9 rfl rfl)
theorem dX1_count_168 : decode cX1_count 168 = .ok (.aload_n 0, 1) := dk_42 (dk_at dksX1_count_6 12 rfl rfl)
theorem dX1_count_169 : decode cX1_count 169 = .ok (.getfield 24, 3) := dk_180 0 24 (dk_at dksX1_count_6 13 rfl rfl)
theorem dX1_count_172 : decode cX1_count 172 = .ok (.getfield 211, 3) := dk_180 0 211 (dk_at dksX1_count_6 16 rfl rfl)
theorem dX1_count_175 : decode cX1_count 175 = .ok (.goto 11, 3) := dk_167 0 11 (dk_at dksX1_count_6 19 rfl rfl)
theorem dX1_count_178 : decode cX1_count 178 = .ok (.new 46, 3) := dk_187 0 46 (dk_at dksX1_count_7 0 rfl rfl)
theorem dX1_count_181 : decode cX1_count 181 = .ok (.dup, 1) := dk_89 (dk_at dksX1_count_7 3 rfl rfl)
theorem dX1_count_182 : decode cX1_count 182 = .ok (.invokespecial 48, 3) := dk_183 0 48 (dk_at dksX1_count_7 4 rfl rfl)
theorem dX1_count_185 : decode cX1_count 185 = .ok (.athrow, 1) := dk_191 (dk_at dksX1_count_7 7 rfl rfl)
theorem dX1_count_186 : decode cX1_count 186 = .ok (.ireturn, 1) := dk_172 (dk_at dksX1_count_7 8 rfl rfl)
abbrev cX1_markersOn : ByteArray := prog_1_method_20_code
def yX1_markersOn : MethodName := ⟨RX1, "markersOn", "()I"⟩
def dkwX1_markersOn_2 : List UInt8 := [167, 255, 227, 27, 172]
abbrev dktX1_markersOn_2 : List UInt8 := dkwX1_markersOn_2 ++ []
def dkwX1_markersOn_1 : List UInt8 := [21, 4, 46, 54, 5, 27, 21, 5, 2, 160, 0, 7, 3, 167, 0, 4, 4, 96, 60, 132, 4, 1]
abbrev dktX1_markersOn_1 : List UInt8 := dkwX1_markersOn_1 ++ dktX1_markersOn_2
def dkwX1_markersOn_0 : List UInt8 := [3, 60, 42, 180, 0, 24, 180, 0, 145, 77, 44, 190, 62, 3, 54, 4, 21, 4, 29, 162, 0, 29, 44]
abbrev dktX1_markersOn_0 : List UInt8 := dkwX1_markersOn_0 ++ dktX1_markersOn_1
theorem dksX1_markersOn_0 : cX1_markersOn.data.toList.drop 0 = dktX1_markersOn_0 := by decide +kernel
theorem dksX1_markersOn_1 : cX1_markersOn.data.toList.drop 23 = dktX1_markersOn_1 := dk_seg dksX1_markersOn_0 23 rfl rfl
theorem dksX1_markersOn_2 : cX1_markersOn.data.toList.drop 45 = dktX1_markersOn_2 := dk_seg dksX1_markersOn_1 22 rfl rfl
theorem dX1_markersOn_0 : decode cX1_markersOn 0 = .ok (.iconst 0, 1) := dk_3 (dk_at dksX1_markersOn_0 0 rfl rfl)
theorem dX1_markersOn_1 : decode cX1_markersOn 1 = .ok (.istore_n 1, 1) := dk_60 (dk_at dksX1_markersOn_0 1 rfl rfl)
theorem dX1_markersOn_2 : decode cX1_markersOn 2 = .ok (.aload_n 0, 1) := dk_42 (dk_at dksX1_markersOn_0 2 rfl rfl)
theorem dX1_markersOn_3 : decode cX1_markersOn 3 = .ok (.getfield 24, 3) := dk_180 0 24 (dk_at dksX1_markersOn_0 3 rfl rfl)
theorem dX1_markersOn_6 : decode cX1_markersOn 6 = .ok (.getfield 145, 3) := dk_180 0 145 (dk_at dksX1_markersOn_0 6 rfl rfl)
theorem dX1_markersOn_9 : decode cX1_markersOn 9 = .ok (.astore_n 2, 1) := dk_77 (dk_at dksX1_markersOn_0 9 rfl rfl)
theorem dX1_markersOn_10 : decode cX1_markersOn 10 = .ok (.aload_n 2, 1) := dk_44 (dk_at dksX1_markersOn_0 10 rfl rfl)
theorem dX1_markersOn_11 : decode cX1_markersOn 11 = .ok (.arraylength, 1) := dk_190 (dk_at dksX1_markersOn_0 11 rfl rfl)
theorem dX1_markersOn_12 : decode cX1_markersOn 12 = .ok (.istore_n 3, 1) := dk_62 (dk_at dksX1_markersOn_0 12 rfl rfl)
theorem dX1_markersOn_13 : decode cX1_markersOn 13 = .ok (.iconst 0, 1) := dk_3 (dk_at dksX1_markersOn_0 13 rfl rfl)
theorem dX1_markersOn_14 : decode cX1_markersOn 14 = .ok (.istore 4, 2) := dk_54 4 (dk_at dksX1_markersOn_0 14 rfl rfl)
theorem dX1_markersOn_16 : decode cX1_markersOn 16 = .ok (.iload 4, 2) := dk_21 4 (dk_at dksX1_markersOn_0 16 rfl rfl)
theorem dX1_markersOn_18 : decode cX1_markersOn 18 = .ok (.iload_n 3, 1) := dk_29 (dk_at dksX1_markersOn_0 18 rfl rfl)
theorem dX1_markersOn_19 : decode cX1_markersOn 19 = .ok (.if_icmp .ge 29, 3) := dk_162 0 29 (dk_at dksX1_markersOn_0 19 rfl rfl)
theorem dX1_markersOn_22 : decode cX1_markersOn 22 = .ok (.aload_n 2, 1) := dk_44 (dk_at dksX1_markersOn_0 22 rfl rfl)
theorem dX1_markersOn_23 : decode cX1_markersOn 23 = .ok (.iload 4, 2) := dk_21 4 (dk_at dksX1_markersOn_1 0 rfl rfl)
theorem dX1_markersOn_25 : decode cX1_markersOn 25 = .ok (.iaload, 1) := dk_46 (dk_at dksX1_markersOn_1 2 rfl rfl)
theorem dX1_markersOn_26 : decode cX1_markersOn 26 = .ok (.istore 5, 2) := dk_54 5 (dk_at dksX1_markersOn_1 3 rfl rfl)
theorem dX1_markersOn_28 : decode cX1_markersOn 28 = .ok (.iload_n 1, 1) := dk_27 (dk_at dksX1_markersOn_1 5 rfl rfl)
theorem dX1_markersOn_29 : decode cX1_markersOn 29 = .ok (.iload 5, 2) := dk_21 5 (dk_at dksX1_markersOn_1 6 rfl rfl)
theorem dX1_markersOn_31 : decode cX1_markersOn 31 = .ok (.iconst (-1), 1) := dk_2 (dk_at dksX1_markersOn_1 8 rfl rfl)
theorem dX1_markersOn_32 : decode cX1_markersOn 32 = .ok (.if_icmp .ne 7, 3) := dk_160 0 7 (dk_at dksX1_markersOn_1 9 rfl rfl)
theorem dX1_markersOn_35 : decode cX1_markersOn 35 = .ok (.iconst 0, 1) := dk_3 (dk_at dksX1_markersOn_1 12 rfl rfl)
theorem dX1_markersOn_36 : decode cX1_markersOn 36 = .ok (.goto 4, 3) := dk_167 0 4 (dk_at dksX1_markersOn_1 13 rfl rfl)
theorem dX1_markersOn_39 : decode cX1_markersOn 39 = .ok (.iconst 1, 1) := dk_4 (dk_at dksX1_markersOn_1 16 rfl rfl)
theorem dX1_markersOn_40 : decode cX1_markersOn 40 = .ok (.iadd, 1) := dk_96 (dk_at dksX1_markersOn_1 17 rfl rfl)
theorem dX1_markersOn_41 : decode cX1_markersOn 41 = .ok (.istore_n 1, 1) := dk_60 (dk_at dksX1_markersOn_1 18 rfl rfl)
theorem dX1_markersOn_42 : decode cX1_markersOn 42 = .ok (.iinc 4 1, 3) := dk_132 4 1 (dk_at dksX1_markersOn_1 19 rfl rfl)
theorem dX1_markersOn_45 : decode cX1_markersOn 45 = .ok (.goto (-29), 3) := dk_167 255 227 (dk_at dksX1_markersOn_2 0 rfl rfl)
theorem dX1_markersOn_48 : decode cX1_markersOn 48 = .ok (.iload_n 1, 1) := dk_27 (dk_at dksX1_markersOn_2 3 rfl rfl)
theorem dX1_markersOn_49 : decode cX1_markersOn 49 = .ok (.ireturn, 1) := dk_172 (dk_at dksX1_markersOn_2 4 rfl rfl)
abbrev cX1_labelledLines : ByteArray := prog_1_method_22_code
def yX1_labelledLines : MethodName := ⟨RX1, "labelledLines", "()I"⟩
def dkwX1_labelledLines_0 : List UInt8 := [42, 187, 0, 171, 89, 42, 183, 0, 173, 182, 0, 176, 172]
abbrev dktX1_labelledLines_0 : List UInt8 := dkwX1_labelledLines_0 ++ []
theorem dksX1_labelledLines_0 : cX1_labelledLines.data.toList.drop 0 = dktX1_labelledLines_0 := by decide +kernel
theorem dX1_labelledLines_0 : decode cX1_labelledLines 0 = .ok (.aload_n 0, 1) := dk_42 (dk_at dksX1_labelledLines_0 0 rfl rfl)
theorem dX1_labelledLines_1 : decode cX1_labelledLines 1 = .ok (.new 171, 3) := dk_187 0 171 (dk_at dksX1_labelledLines_0 1 rfl rfl)
theorem dX1_labelledLines_4 : decode cX1_labelledLines 4 = .ok (.dup, 1) := dk_89 (dk_at dksX1_labelledLines_0 4 rfl rfl)
theorem dX1_labelledLines_5 : decode cX1_labelledLines 5 = .ok (.aload_n 0, 1) := dk_42 (dk_at dksX1_labelledLines_0 5 rfl rfl)
theorem dX1_labelledLines_6 : decode cX1_labelledLines 6 = .ok (.invokespecial 173, 3) := dk_183 0 173 (dk_at dksX1_labelledLines_0 6 rfl rfl)
theorem dX1_labelledLines_9 : decode cX1_labelledLines 9 = .ok (.invokevirtual 176, 3) := dk_182 0 176 (dk_at dksX1_labelledLines_0 9 rfl rfl)
theorem dX1_labelledLines_12 : decode cX1_labelledLines 12 = .ok (.ireturn, 1) := dk_172 (dk_at dksX1_labelledLines_0 12 rfl rfl)
abbrev cX1_those : ByteArray := prog_1_method_19_code
def yX1_those : MethodName := ⟨RX1, "those", "(LFoldLister$Feature;)I"⟩
def dkwX1_those_1 : List UInt8 := [153, 0, 7, 4, 167, 0, 4, 3, 96, 61, 132, 3, 1, 167, 255, 224, 28, 172]
abbrev dktX1_those_1 : List UInt8 := dkwX1_those_1 ++ []
def dkwX1_those_0 : List UInt8 := [3, 61, 3, 62, 29, 42, 180, 0, 24, 182, 0, 55, 162, 0, 27, 28, 43, 29, 185, 0, 140, 2, 0]
abbrev dktX1_those_0 : List UInt8 := dkwX1_those_0 ++ dktX1_those_1
theorem dksX1_those_0 : cX1_those.data.toList.drop 0 = dktX1_those_0 := by decide +kernel
theorem dksX1_those_1 : cX1_those.data.toList.drop 23 = dktX1_those_1 := dk_seg dksX1_those_0 23 rfl rfl
theorem dX1_those_0 : decode cX1_those 0 = .ok (.iconst 0, 1) := dk_3 (dk_at dksX1_those_0 0 rfl rfl)
theorem dX1_those_1 : decode cX1_those 1 = .ok (.istore_n 2, 1) := dk_61 (dk_at dksX1_those_0 1 rfl rfl)
theorem dX1_those_2 : decode cX1_those 2 = .ok (.iconst 0, 1) := dk_3 (dk_at dksX1_those_0 2 rfl rfl)
theorem dX1_those_3 : decode cX1_those 3 = .ok (.istore_n 3, 1) := dk_62 (dk_at dksX1_those_0 3 rfl rfl)
theorem dX1_those_4 : decode cX1_those 4 = .ok (.iload_n 3, 1) := dk_29 (dk_at dksX1_those_0 4 rfl rfl)
theorem dX1_those_5 : decode cX1_those 5 = .ok (.aload_n 0, 1) := dk_42 (dk_at dksX1_those_0 5 rfl rfl)
theorem dX1_those_6 : decode cX1_those 6 = .ok (.getfield 24, 3) := dk_180 0 24 (dk_at dksX1_those_0 6 rfl rfl)
theorem dX1_those_9 : decode cX1_those 9 = .ok (.invokevirtual 55, 3) := dk_182 0 55 (dk_at dksX1_those_0 9 rfl rfl)
theorem dX1_those_12 : decode cX1_those 12 = .ok (.if_icmp .ge 27, 3) := dk_162 0 27 (dk_at dksX1_those_0 12 rfl rfl)
theorem dX1_those_15 : decode cX1_those 15 = .ok (.iload_n 2, 1) := dk_28 (dk_at dksX1_those_0 15 rfl rfl)
theorem dX1_those_16 : decode cX1_those 16 = .ok (.aload_n 1, 1) := dk_43 (dk_at dksX1_those_0 16 rfl rfl)
theorem dX1_those_17 : decode cX1_those 17 = .ok (.iload_n 3, 1) := dk_29 (dk_at dksX1_those_0 17 rfl rfl)
theorem dX1_those_18 : decode cX1_those 18 = .ok (.invokeinterface 140 2, 5) := by decide +kernel
theorem dX1_those_23 : decode cX1_those 23 = .ok (.ifCond .eq 7, 3) := dk_153 0 7 (dk_at dksX1_those_1 0 rfl rfl)
theorem dX1_those_26 : decode cX1_those 26 = .ok (.iconst 1, 1) := dk_4 (dk_at dksX1_those_1 3 rfl rfl)
theorem dX1_those_27 : decode cX1_those 27 = .ok (.goto 4, 3) := dk_167 0 4 (dk_at dksX1_those_1 4 rfl rfl)
theorem dX1_those_30 : decode cX1_those 30 = .ok (.iconst 0, 1) := dk_3 (dk_at dksX1_those_1 7 rfl rfl)
theorem dX1_those_31 : decode cX1_those 31 = .ok (.iadd, 1) := dk_96 (dk_at dksX1_those_1 8 rfl rfl)
theorem dX1_those_32 : decode cX1_those 32 = .ok (.istore_n 2, 1) := dk_61 (dk_at dksX1_those_1 9 rfl rfl)
theorem dX1_those_33 : decode cX1_those 33 = .ok (.iinc 3 1, 3) := dk_132 3 1 (dk_at dksX1_those_1 10 rfl rfl)
theorem dX1_those_36 : decode cX1_those 36 = .ok (.goto (-32), 3) := dk_167 255 224 (dk_at dksX1_those_1 13 rfl rfl)
theorem dX1_those_39 : decode cX1_those 39 = .ok (.iload_n 2, 1) := dk_28 (dk_at dksX1_those_1 16 rfl rfl)
theorem dX1_those_40 : decode cX1_those 40 = .ok (.ireturn, 1) := dk_172 (dk_at dksX1_those_1 17 rfl rfl)
abbrev cX1_referringLines : ByteArray := prog_1_method_23_code
def yX1_referringLines : MethodName := ⟨RX1, "referringLines", "()I"⟩
def dkwX1_referringLines_0 : List UInt8 := [42, 187, 0, 180, 89, 42, 183, 0, 182, 182, 0, 176, 172]
abbrev dktX1_referringLines_0 : List UInt8 := dkwX1_referringLines_0 ++ []
theorem dksX1_referringLines_0 : cX1_referringLines.data.toList.drop 0 = dktX1_referringLines_0 := by decide +kernel
theorem dX1_referringLines_0 : decode cX1_referringLines 0 = .ok (.aload_n 0, 1) := dk_42 (dk_at dksX1_referringLines_0 0 rfl rfl)
theorem dX1_referringLines_1 : decode cX1_referringLines 1 = .ok (.new 180, 3) := dk_187 0 180 (dk_at dksX1_referringLines_0 1 rfl rfl)
theorem dX1_referringLines_4 : decode cX1_referringLines 4 = .ok (.dup, 1) := dk_89 (dk_at dksX1_referringLines_0 4 rfl rfl)
theorem dX1_referringLines_5 : decode cX1_referringLines 5 = .ok (.aload_n 0, 1) := dk_42 (dk_at dksX1_referringLines_0 5 rfl rfl)
theorem dX1_referringLines_6 : decode cX1_referringLines 6 = .ok (.invokespecial 182, 3) := dk_183 0 182 (dk_at dksX1_referringLines_0 6 rfl rfl)
theorem dX1_referringLines_9 : decode cX1_referringLines 9 = .ok (.invokevirtual 176, 3) := dk_182 0 176 (dk_at dksX1_referringLines_0 9 rfl rfl)
theorem dX1_referringLines_12 : decode cX1_referringLines 12 = .ok (.ireturn, 1) := dk_172 (dk_at dksX1_referringLines_0 12 rfl rfl)
abbrev cX1_looseMany : ByteArray := prog_1_method_21_code
def yX1_looseMany : MethodName := ⟨RX1, "looseMany", "()I"⟩
def dkwX1_looseMany_2 : List UInt8 := [167, 0, 4, 3, 96, 60, 167, 255, 222, 27, 172]
abbrev dktX1_looseMany_2 : List UInt8 := dkwX1_looseMany_2 ++ []
def dkwX1_looseMany_1 : List UInt8 := [153, 0, 31, 44, 185, 0, 162, 1, 0, 192, 0, 166, 78, 27, 45, 182, 0, 168, 153, 0, 7, 4]
abbrev dktX1_looseMany_1 : List UInt8 := dkwX1_looseMany_1 ++ dktX1_looseMany_2
def dkwX1_looseMany_0 : List UInt8 := [3, 60, 42, 180, 0, 24, 182, 0, 71, 180, 0, 149, 185, 0, 152, 1, 0, 77, 44, 185, 0, 156, 1, 0]
abbrev dktX1_looseMany_0 : List UInt8 := dkwX1_looseMany_0 ++ dktX1_looseMany_1
theorem dksX1_looseMany_0 : cX1_looseMany.data.toList.drop 0 = dktX1_looseMany_0 := by decide +kernel
theorem dksX1_looseMany_1 : cX1_looseMany.data.toList.drop 24 = dktX1_looseMany_1 := dk_seg dksX1_looseMany_0 24 rfl rfl
theorem dksX1_looseMany_2 : cX1_looseMany.data.toList.drop 46 = dktX1_looseMany_2 := dk_seg dksX1_looseMany_1 22 rfl rfl
theorem dX1_looseMany_0 : decode cX1_looseMany 0 = .ok (.iconst 0, 1) := dk_3 (dk_at dksX1_looseMany_0 0 rfl rfl)
theorem dX1_looseMany_1 : decode cX1_looseMany 1 = .ok (.istore_n 1, 1) := dk_60 (dk_at dksX1_looseMany_0 1 rfl rfl)
theorem dX1_looseMany_2 : decode cX1_looseMany 2 = .ok (.aload_n 0, 1) := dk_42 (dk_at dksX1_looseMany_0 2 rfl rfl)
theorem dX1_looseMany_3 : decode cX1_looseMany 3 = .ok (.getfield 24, 3) := dk_180 0 24 (dk_at dksX1_looseMany_0 3 rfl rfl)
theorem dX1_looseMany_6 : decode cX1_looseMany 6 = .ok (.invokevirtual 71, 3) := dk_182 0 71 (dk_at dksX1_looseMany_0 6 rfl rfl)
theorem dX1_looseMany_9 : decode cX1_looseMany 9 = .ok (.getfield 149, 3) := dk_180 0 149 (dk_at dksX1_looseMany_0 9 rfl rfl)
theorem dX1_looseMany_12 : decode cX1_looseMany 12 = .ok (.invokeinterface 152 1, 5) := by decide +kernel
theorem dX1_looseMany_17 : decode cX1_looseMany 17 = .ok (.astore_n 2, 1) := dk_77 (dk_at dksX1_looseMany_0 17 rfl rfl)
theorem dX1_looseMany_18 : decode cX1_looseMany 18 = .ok (.aload_n 2, 1) := dk_44 (dk_at dksX1_looseMany_0 18 rfl rfl)
theorem dX1_looseMany_19 : decode cX1_looseMany 19 = .ok (.invokeinterface 156 1, 5) := by decide +kernel
theorem dX1_looseMany_24 : decode cX1_looseMany 24 = .ok (.ifCond .eq 31, 3) := dk_153 0 31 (dk_at dksX1_looseMany_1 0 rfl rfl)
theorem dX1_looseMany_27 : decode cX1_looseMany 27 = .ok (.aload_n 2, 1) := dk_44 (dk_at dksX1_looseMany_1 3 rfl rfl)
theorem dX1_looseMany_28 : decode cX1_looseMany 28 = .ok (.invokeinterface 162 1, 5) := by decide +kernel
theorem dX1_looseMany_33 : decode cX1_looseMany 33 = .ok (.checkcast 166, 3) := dk_192 0 166 (dk_at dksX1_looseMany_1 9 rfl rfl)
theorem dX1_looseMany_36 : decode cX1_looseMany 36 = .ok (.astore_n 3, 1) := dk_78 (dk_at dksX1_looseMany_1 12 rfl rfl)
theorem dX1_looseMany_37 : decode cX1_looseMany 37 = .ok (.iload_n 1, 1) := dk_27 (dk_at dksX1_looseMany_1 13 rfl rfl)
theorem dX1_looseMany_38 : decode cX1_looseMany 38 = .ok (.aload_n 3, 1) := dk_45 (dk_at dksX1_looseMany_1 14 rfl rfl)
theorem dX1_looseMany_39 : decode cX1_looseMany 39 = .ok (.invokevirtual 168, 3) := dk_182 0 168 (dk_at dksX1_looseMany_1 15 rfl rfl)
theorem dX1_looseMany_42 : decode cX1_looseMany 42 = .ok (.ifCond .eq 7, 3) := dk_153 0 7 (dk_at dksX1_looseMany_1 18 rfl rfl)
theorem dX1_looseMany_45 : decode cX1_looseMany 45 = .ok (.iconst 1, 1) := dk_4 (dk_at dksX1_looseMany_1 21 rfl rfl)
theorem dX1_looseMany_46 : decode cX1_looseMany 46 = .ok (.goto 4, 3) := dk_167 0 4 (dk_at dksX1_looseMany_2 0 rfl rfl)
theorem dX1_looseMany_49 : decode cX1_looseMany 49 = .ok (.iconst 0, 1) := dk_3 (dk_at dksX1_looseMany_2 3 rfl rfl)
theorem dX1_looseMany_50 : decode cX1_looseMany 50 = .ok (.iadd, 1) := dk_96 (dk_at dksX1_looseMany_2 4 rfl rfl)
theorem dX1_looseMany_51 : decode cX1_looseMany 51 = .ok (.istore_n 1, 1) := dk_60 (dk_at dksX1_looseMany_2 5 rfl rfl)
theorem dX1_looseMany_52 : decode cX1_looseMany 52 = .ok (.goto (-34), 3) := dk_167 255 222 (dk_at dksX1_looseMany_2 6 rfl rfl)
theorem dX1_looseMany_55 : decode cX1_looseMany 55 = .ok (.iload_n 1, 1) := dk_27 (dk_at dksX1_looseMany_2 9 rfl rfl)
theorem dX1_looseMany_56 : decode cX1_looseMany 56 = .ok (.ireturn, 1) := dk_172 (dk_at dksX1_looseMany_2 10 rfl rfl)
abbrev cX1_line : ByteArray := prog_1_method_26_code
def yX1_line : MethodName := ⟨RX1, "line", "(II)I"⟩
def dkwX1_line_8 : List UInt8 := [167, 0, 18, 45, 182, 0, 248, 167, 0, 11, 187, 0, 46, 89, 183, 0, 48, 191, 172]
abbrev dktX1_line_8 : List UInt8 := dkwX1_line_8 ++ []
def dkwX1_line_7 : List UInt8 := [167, 0, 42, 42, 21, 4, 182, 0, 242, 167, 0, 33, 42, 180, 0, 24, 182, 0, 71, 21, 4, 182, 0, 245]
abbrev dktX1_line_7 : List UInt8 := dkwX1_line_7 ++ dktX1_line_8
def dkwX1_line_6 : List UInt8 := [153, 0, 7, 4, 167, 0, 61, 3, 167, 0, 57, 42, 180, 0, 24, 182, 0, 71, 21, 4, 182, 0, 239]
abbrev dktX1_line_6 : List UInt8 := dkwX1_line_6 ++ dktX1_line_7
def dkwX1_line_5 : List UInt8 := [167, 0, 88, 42, 180, 0, 24, 182, 0, 71, 180, 0, 232, 21, 4, 46, 167, 0, 72, 45, 180, 0, 235]
abbrev dktX1_line_5 : List UInt8 := dkwX1_line_5 ++ dktX1_line_6
def dkwX1_line_4 : List UInt8 := [21, 4, 182, 0, 226, 153, 0, 18, 42, 180, 0, 24, 182, 0, 71, 21, 4, 182, 0, 229, 167, 0, 92, 3]
abbrev dktX1_line_4 : List UInt8 := dkwX1_line_4 ++ dktX1_line_5
def dkwX1_line_3 : List UInt8 := [21, 4, 182, 0, 226, 153, 0, 7, 4, 167, 0, 126, 3, 167, 0, 122, 42, 180, 0, 24, 182, 0, 71]
abbrev dktX1_line_3 : List UInt8 := dkwX1_line_3 ++ dktX1_line_4
def dkwX1_line_2 : List UInt8 := [45, 180, 0, 214, 167, 0, 155, 45, 180, 0, 222, 182, 0, 104, 167, 0, 145, 42, 180, 0, 24, 182, 0, 71]
abbrev dktX1_line_2 : List UInt8 := dkwX1_line_2 ++ dktX1_line_3
def dkwX1_line_1 : List UInt8 := [170, 0, 0, 0, 0, 0, 0, 207, 0, 0, 0, 0, 0, 0, 0, 9, 0, 0, 0, 56, 0, 0, 0, 63, 0, 0, 0, 73, 0, 0, 0, 96, 0, 0, 0, 130, 0, 0, 0, 146, 0, 0, 0, 161, 0, 0, 0, 176, 0, 0, 0, 185, 0, 0, 0, 200]
abbrev dktX1_line_1 : List UInt8 := dkwX1_line_1 ++ dktX1_line_2
def dkwX1_line_0 : List UInt8 := [42, 27, 182, 0, 219, 78, 27, 4, 100, 54, 4, 28]
abbrev dktX1_line_0 : List UInt8 := dkwX1_line_0 ++ dktX1_line_1
theorem dksX1_line_0 : cX1_line.data.toList.drop 0 = dktX1_line_0 := by decide +kernel
theorem dksX1_line_1 : cX1_line.data.toList.drop 12 = dktX1_line_1 := dk_seg dksX1_line_0 12 rfl rfl
theorem dksX1_line_2 : cX1_line.data.toList.drop 68 = dktX1_line_2 := dk_seg dksX1_line_1 56 rfl rfl
theorem dksX1_line_3 : cX1_line.data.toList.drop 92 = dktX1_line_3 := dk_seg dksX1_line_2 24 rfl rfl
theorem dksX1_line_4 : cX1_line.data.toList.drop 115 = dktX1_line_4 := dk_seg dksX1_line_3 23 rfl rfl
theorem dksX1_line_5 : cX1_line.data.toList.drop 139 = dktX1_line_5 := dk_seg dksX1_line_4 24 rfl rfl
theorem dksX1_line_6 : cX1_line.data.toList.drop 162 = dktX1_line_6 := dk_seg dksX1_line_5 23 rfl rfl
theorem dksX1_line_7 : cX1_line.data.toList.drop 185 = dktX1_line_7 := dk_seg dksX1_line_6 23 rfl rfl
theorem dksX1_line_8 : cX1_line.data.toList.drop 209 = dktX1_line_8 := dk_seg dksX1_line_7 24 rfl rfl
theorem dX1_line_0 : decode cX1_line 0 = .ok (.aload_n 0, 1) := dk_42 (dk_at dksX1_line_0 0 rfl rfl)
theorem dX1_line_1 : decode cX1_line 1 = .ok (.iload_n 1, 1) := dk_27 (dk_at dksX1_line_0 1 rfl rfl)
theorem dX1_line_2 : decode cX1_line 2 = .ok (.invokevirtual 219, 3) := dk_182 0 219 (dk_at dksX1_line_0 2 rfl rfl)
theorem dX1_line_5 : decode cX1_line 5 = .ok (.astore_n 3, 1) := dk_78 (dk_at dksX1_line_0 5 rfl rfl)
theorem dX1_line_6 : decode cX1_line 6 = .ok (.iload_n 1, 1) := dk_27 (dk_at dksX1_line_0 6 rfl rfl)
theorem dX1_line_7 : decode cX1_line 7 = .ok (.iconst 1, 1) := dk_4 (dk_at dksX1_line_0 7 rfl rfl)
theorem dX1_line_8 : decode cX1_line 8 = .ok (.isub, 1) := dk_100 (dk_at dksX1_line_0 8 rfl rfl)
theorem dX1_line_9 : decode cX1_line 9 = .ok (.istore 4, 2) := dk_54 4 (dk_at dksX1_line_0 9 rfl rfl)
theorem dX1_line_11 : decode cX1_line 11 = .ok (.iload_n 2, 1) := dk_28 (dk_at dksX1_line_0 11 rfl rfl)
theorem dX1_line_12 : decode cX1_line 12 = .ok (.tableswitch 207 0 9 #[56, 63, 73, 96, 130, 146, 161, 176, 185, 200], 56) := by decide +kernel
theorem dX1_line_68 : decode cX1_line 68 = .ok (.aload_n 3, 1) := dk_45 (dk_at dksX1_line_2 0 rfl rfl)
theorem dX1_line_69 : decode cX1_line 69 = .ok (.getfield 214, 3) := dk_180 0 214 (dk_at dksX1_line_2 1 rfl rfl)
theorem dX1_line_72 : decode cX1_line 72 = .ok (.goto 155, 3) := dk_167 0 155 (dk_at dksX1_line_2 4 rfl rfl)
theorem dX1_line_75 : decode cX1_line 75 = .ok (.aload_n 3, 1) := dk_45 (dk_at dksX1_line_2 7 rfl rfl)
theorem dX1_line_76 : decode cX1_line 76 = .ok (.getfield 222, 3) := dk_180 0 222 (dk_at dksX1_line_2 8 rfl rfl)
theorem dX1_line_79 : decode cX1_line 79 = .ok (.invokevirtual 104, 3) := dk_182 0 104 (dk_at dksX1_line_2 11 rfl rfl)
theorem dX1_line_82 : decode cX1_line 82 = .ok (.goto 145, 3) := dk_167 0 145 (dk_at dksX1_line_2 14 rfl rfl)
theorem dX1_line_85 : decode cX1_line 85 = .ok (.aload_n 0, 1) := dk_42 (dk_at dksX1_line_2 17 rfl rfl)
theorem dX1_line_86 : decode cX1_line 86 = .ok (.getfield 24, 3) := dk_180 0 24 (dk_at dksX1_line_2 18 rfl rfl)
theorem dX1_line_89 : decode cX1_line 89 = .ok (.invokevirtual 71, 3) := dk_182 0 71 (dk_at dksX1_line_2 21 rfl rfl)
theorem dX1_line_92 : decode cX1_line 92 = .ok (.iload 4, 2) := dk_21 4 (dk_at dksX1_line_3 0 rfl rfl)
theorem dX1_line_94 : decode cX1_line 94 = .ok (.invokevirtual 226, 3) := dk_182 0 226 (dk_at dksX1_line_3 2 rfl rfl)
theorem dX1_line_97 : decode cX1_line 97 = .ok (.ifCond .eq 7, 3) := dk_153 0 7 (dk_at dksX1_line_3 5 rfl rfl)
theorem dX1_line_100 : decode cX1_line 100 = .ok (.iconst 1, 1) := dk_4 (dk_at dksX1_line_3 8 rfl rfl)
theorem dX1_line_101 : decode cX1_line 101 = .ok (.goto 126, 3) := dk_167 0 126 (dk_at dksX1_line_3 9 rfl rfl)
theorem dX1_line_104 : decode cX1_line 104 = .ok (.iconst 0, 1) := dk_3 (dk_at dksX1_line_3 12 rfl rfl)
theorem dX1_line_105 : decode cX1_line 105 = .ok (.goto 122, 3) := dk_167 0 122 (dk_at dksX1_line_3 13 rfl rfl)
theorem dX1_line_108 : decode cX1_line 108 = .ok (.aload_n 0, 1) := dk_42 (dk_at dksX1_line_3 16 rfl rfl)
theorem dX1_line_109 : decode cX1_line 109 = .ok (.getfield 24, 3) := dk_180 0 24 (dk_at dksX1_line_3 17 rfl rfl)
theorem dX1_line_112 : decode cX1_line 112 = .ok (.invokevirtual 71, 3) := dk_182 0 71 (dk_at dksX1_line_3 20 rfl rfl)
theorem dX1_line_115 : decode cX1_line 115 = .ok (.iload 4, 2) := dk_21 4 (dk_at dksX1_line_4 0 rfl rfl)
theorem dX1_line_117 : decode cX1_line 117 = .ok (.invokevirtual 226, 3) := dk_182 0 226 (dk_at dksX1_line_4 2 rfl rfl)
theorem dX1_line_120 : decode cX1_line 120 = .ok (.ifCond .eq 18, 3) := dk_153 0 18 (dk_at dksX1_line_4 5 rfl rfl)
theorem dX1_line_123 : decode cX1_line 123 = .ok (.aload_n 0, 1) := dk_42 (dk_at dksX1_line_4 8 rfl rfl)
theorem dX1_line_124 : decode cX1_line 124 = .ok (.getfield 24, 3) := dk_180 0 24 (dk_at dksX1_line_4 9 rfl rfl)
theorem dX1_line_127 : decode cX1_line 127 = .ok (.invokevirtual 71, 3) := dk_182 0 71 (dk_at dksX1_line_4 12 rfl rfl)
theorem dX1_line_130 : decode cX1_line 130 = .ok (.iload 4, 2) := dk_21 4 (dk_at dksX1_line_4 15 rfl rfl)
theorem dX1_line_132 : decode cX1_line 132 = .ok (.invokevirtual 229, 3) := dk_182 0 229 (dk_at dksX1_line_4 17 rfl rfl)
theorem dX1_line_135 : decode cX1_line 135 = .ok (.goto 92, 3) := dk_167 0 92 (dk_at dksX1_line_4 20 rfl rfl)
theorem dX1_line_138 : decode cX1_line 138 = .ok (.iconst 0, 1) := dk_3 (dk_at dksX1_line_4 23 rfl rfl)
theorem dX1_line_139 : decode cX1_line 139 = .ok (.goto 88, 3) := dk_167 0 88 (dk_at dksX1_line_5 0 rfl rfl)
theorem dX1_line_142 : decode cX1_line 142 = .ok (.aload_n 0, 1) := dk_42 (dk_at dksX1_line_5 3 rfl rfl)
theorem dX1_line_143 : decode cX1_line 143 = .ok (.getfield 24, 3) := dk_180 0 24 (dk_at dksX1_line_5 4 rfl rfl)
theorem dX1_line_146 : decode cX1_line 146 = .ok (.invokevirtual 71, 3) := dk_182 0 71 (dk_at dksX1_line_5 7 rfl rfl)
theorem dX1_line_149 : decode cX1_line 149 = .ok (.getfield 232, 3) := dk_180 0 232 (dk_at dksX1_line_5 10 rfl rfl)
theorem dX1_line_152 : decode cX1_line 152 = .ok (.iload 4, 2) := dk_21 4 (dk_at dksX1_line_5 13 rfl rfl)
theorem dX1_line_154 : decode cX1_line 154 = .ok (.iaload, 1) := dk_46 (dk_at dksX1_line_5 15 rfl rfl)
theorem dX1_line_155 : decode cX1_line 155 = .ok (.goto 72, 3) := dk_167 0 72 (dk_at dksX1_line_5 16 rfl rfl)
theorem dX1_line_158 : decode cX1_line 158 = .ok (.aload_n 3, 1) := dk_45 (dk_at dksX1_line_5 19 rfl rfl)
theorem dX1_line_159 : decode cX1_line 159 = .ok (.getfield 235, 3) := dk_180 0 235 (dk_at dksX1_line_5 20 rfl rfl)
theorem dX1_line_162 : decode cX1_line 162 = .ok (.ifCond .eq 7, 3) := dk_153 0 7 (dk_at dksX1_line_6 0 rfl rfl)
theorem dX1_line_165 : decode cX1_line 165 = .ok (.iconst 1, 1) := dk_4 (dk_at dksX1_line_6 3 rfl rfl)
theorem dX1_line_166 : decode cX1_line 166 = .ok (.goto 61, 3) := dk_167 0 61 (dk_at dksX1_line_6 4 rfl rfl)
theorem dX1_line_169 : decode cX1_line 169 = .ok (.iconst 0, 1) := dk_3 (dk_at dksX1_line_6 7 rfl rfl)
theorem dX1_line_170 : decode cX1_line 170 = .ok (.goto 57, 3) := dk_167 0 57 (dk_at dksX1_line_6 8 rfl rfl)
theorem dX1_line_173 : decode cX1_line 173 = .ok (.aload_n 0, 1) := dk_42 (dk_at dksX1_line_6 11 rfl rfl)
theorem dX1_line_174 : decode cX1_line 174 = .ok (.getfield 24, 3) := dk_180 0 24 (dk_at dksX1_line_6 12 rfl rfl)
theorem dX1_line_177 : decode cX1_line 177 = .ok (.invokevirtual 71, 3) := dk_182 0 71 (dk_at dksX1_line_6 15 rfl rfl)
theorem dX1_line_180 : decode cX1_line 180 = .ok (.iload 4, 2) := dk_21 4 (dk_at dksX1_line_6 18 rfl rfl)
theorem dX1_line_182 : decode cX1_line 182 = .ok (.invokevirtual 239, 3) := dk_182 0 239 (dk_at dksX1_line_6 20 rfl rfl)
theorem dX1_line_185 : decode cX1_line 185 = .ok (.goto 42, 3) := dk_167 0 42 (dk_at dksX1_line_7 0 rfl rfl)
theorem dX1_line_188 : decode cX1_line 188 = .ok (.aload_n 0, 1) := dk_42 (dk_at dksX1_line_7 3 rfl rfl)
theorem dX1_line_189 : decode cX1_line 189 = .ok (.iload 4, 2) := dk_21 4 (dk_at dksX1_line_7 4 rfl rfl)
theorem dX1_line_191 : decode cX1_line 191 = .ok (.invokevirtual 242, 3) := dk_182 0 242 (dk_at dksX1_line_7 6 rfl rfl)
theorem dX1_line_194 : decode cX1_line 194 = .ok (.goto 33, 3) := dk_167 0 33 (dk_at dksX1_line_7 9 rfl rfl)
theorem dX1_line_197 : decode cX1_line 197 = .ok (.aload_n 0, 1) := dk_42 (dk_at dksX1_line_7 12 rfl rfl)
theorem dX1_line_198 : decode cX1_line 198 = .ok (.getfield 24, 3) := dk_180 0 24 (dk_at dksX1_line_7 13 rfl rfl)
theorem dX1_line_201 : decode cX1_line 201 = .ok (.invokevirtual 71, 3) := dk_182 0 71 (dk_at dksX1_line_7 16 rfl rfl)
theorem dX1_line_204 : decode cX1_line 204 = .ok (.iload 4, 2) := dk_21 4 (dk_at dksX1_line_7 19 rfl rfl)
theorem dX1_line_206 : decode cX1_line 206 = .ok (.invokevirtual 245, 3) := dk_182 0 245 (dk_at dksX1_line_7 21 rfl rfl)
theorem dX1_line_209 : decode cX1_line 209 = .ok (.goto 18, 3) := dk_167 0 18 (dk_at dksX1_line_8 0 rfl rfl)
theorem dX1_line_212 : decode cX1_line 212 = .ok (.aload_n 3, 1) := dk_45 (dk_at dksX1_line_8 3 rfl rfl)
theorem dX1_line_213 : decode cX1_line 213 = .ok (.invokevirtual 248, 3) := dk_182 0 248 (dk_at dksX1_line_8 4 rfl rfl)
theorem dX1_line_216 : decode cX1_line 216 = .ok (.goto 11, 3) := dk_167 0 11 (dk_at dksX1_line_8 7 rfl rfl)
theorem dX1_line_219 : decode cX1_line 219 = .ok (.new 46, 3) := dk_187 0 46 (dk_at dksX1_line_8 10 rfl rfl)
theorem dX1_line_222 : decode cX1_line 222 = .ok (.dup, 1) := dk_89 (dk_at dksX1_line_8 13 rfl rfl)
theorem dX1_line_223 : decode cX1_line 223 = .ok (.invokespecial 48, 3) := dk_183 0 48 (dk_at dksX1_line_8 14 rfl rfl)
theorem dX1_line_226 : decode cX1_line 226 = .ok (.athrow, 1) := dk_191 (dk_at dksX1_line_8 17 rfl rfl)
theorem dX1_line_227 : decode cX1_line 227 = .ok (.ireturn, 1) := dk_172 (dk_at dksX1_line_8 18 rfl rfl)
abbrev cX1_lineAt : ByteArray := prog_1_method_9_code
def yX1_lineAt : MethodName := ⟨RX1, "lineAt", "(I)LFoldLister$Line;"⟩
def dkwX1_lineAt_0 : List UInt8 := [42, 180, 0, 24, 42, 27, 182, 0, 63, 182, 0, 67, 176]
abbrev dktX1_lineAt_0 : List UInt8 := dkwX1_lineAt_0 ++ []
theorem dksX1_lineAt_0 : cX1_lineAt.data.toList.drop 0 = dktX1_lineAt_0 := by decide +kernel
theorem dX1_lineAt_0 : decode cX1_lineAt 0 = .ok (.aload_n 0, 1) := dk_42 (dk_at dksX1_lineAt_0 0 rfl rfl)
theorem dX1_lineAt_1 : decode cX1_lineAt 1 = .ok (.getfield 24, 3) := dk_180 0 24 (dk_at dksX1_lineAt_0 1 rfl rfl)
theorem dX1_lineAt_4 : decode cX1_lineAt 4 = .ok (.aload_n 0, 1) := dk_42 (dk_at dksX1_lineAt_0 4 rfl rfl)
theorem dX1_lineAt_5 : decode cX1_lineAt 5 = .ok (.iload_n 1, 1) := dk_27 (dk_at dksX1_lineAt_0 5 rfl rfl)
theorem dX1_lineAt_6 : decode cX1_lineAt 6 = .ok (.invokevirtual 63, 3) := dk_182 0 63 (dk_at dksX1_lineAt_0 6 rfl rfl)
theorem dX1_lineAt_9 : decode cX1_lineAt 9 = .ok (.invokevirtual 67, 3) := dk_182 0 67 (dk_at dksX1_lineAt_0 9 rfl rfl)
theorem dX1_lineAt_12 : decode cX1_lineAt 12 = .ok (.areturn, 1) := dk_176 (dk_at dksX1_lineAt_0 12 rfl rfl)
abbrev cX1_withLine : ByteArray := prog_1_method_8_code
def yX1_withLine : MethodName := ⟨RX1, "withLine", "(I)I"⟩
def dkwX1_withLine_0 : List UInt8 := [27, 4, 100, 42, 180, 0, 24, 182, 0, 55, 184, 0, 59, 27, 4, 100, 172]
abbrev dktX1_withLine_0 : List UInt8 := dkwX1_withLine_0 ++ []
theorem dksX1_withLine_0 : cX1_withLine.data.toList.drop 0 = dktX1_withLine_0 := by decide +kernel
theorem dX1_withLine_0 : decode cX1_withLine 0 = .ok (.iload_n 1, 1) := dk_27 (dk_at dksX1_withLine_0 0 rfl rfl)
theorem dX1_withLine_1 : decode cX1_withLine 1 = .ok (.iconst 1, 1) := dk_4 (dk_at dksX1_withLine_0 1 rfl rfl)
theorem dX1_withLine_2 : decode cX1_withLine 2 = .ok (.isub, 1) := dk_100 (dk_at dksX1_withLine_0 2 rfl rfl)
theorem dX1_withLine_3 : decode cX1_withLine 3 = .ok (.aload_n 0, 1) := dk_42 (dk_at dksX1_withLine_0 3 rfl rfl)
theorem dX1_withLine_4 : decode cX1_withLine 4 = .ok (.getfield 24, 3) := dk_180 0 24 (dk_at dksX1_withLine_0 4 rfl rfl)
theorem dX1_withLine_7 : decode cX1_withLine 7 = .ok (.invokevirtual 55, 3) := dk_182 0 55 (dk_at dksX1_withLine_0 7 rfl rfl)
theorem dX1_withLine_10 : decode cX1_withLine 10 = .ok (.invokestatic 59, 3) := dk_184 0 59 (dk_at dksX1_withLine_0 10 rfl rfl)
theorem dX1_withLine_13 : decode cX1_withLine 13 = .ok (.iload_n 1, 1) := dk_27 (dk_at dksX1_withLine_0 13 rfl rfl)
theorem dX1_withLine_14 : decode cX1_withLine 14 = .ok (.iconst 1, 1) := dk_4 (dk_at dksX1_withLine_0 14 rfl rfl)
theorem dX1_withLine_15 : decode cX1_withLine 15 = .ok (.isub, 1) := dk_100 (dk_at dksX1_withLine_0 15 rfl rfl)
theorem dX1_withLine_16 : decode cX1_withLine 16 = .ok (.ireturn, 1) := dk_172 (dk_at dksX1_withLine_0 16 rfl rfl)
abbrev cX1_markersAt : ByteArray := prog_1_method_25_code
def yX1_markersAt : MethodName := ⟨RX1, "markersAt", "(I)I"⟩
def dkwX1_markersAt_1 : List UInt8 := [182, 0, 67, 180, 0, 214, 160, 0, 9, 28, 4, 29, 120, 128, 61, 132, 3, 1, 167, 255, 218, 28, 172]
abbrev dktX1_markersAt_1 : List UInt8 := dkwX1_markersAt_1 ++ []
def dkwX1_markersAt_0 : List UInt8 := [3, 61, 3, 62, 29, 16, 10, 162, 0, 38, 42, 180, 0, 24, 180, 0, 145, 29, 46, 42, 180, 0, 24, 27]
abbrev dktX1_markersAt_0 : List UInt8 := dkwX1_markersAt_0 ++ dktX1_markersAt_1
theorem dksX1_markersAt_0 : cX1_markersAt.data.toList.drop 0 = dktX1_markersAt_0 := by decide +kernel
theorem dksX1_markersAt_1 : cX1_markersAt.data.toList.drop 24 = dktX1_markersAt_1 := dk_seg dksX1_markersAt_0 24 rfl rfl
theorem dX1_markersAt_0 : decode cX1_markersAt 0 = .ok (.iconst 0, 1) := dk_3 (dk_at dksX1_markersAt_0 0 rfl rfl)
theorem dX1_markersAt_1 : decode cX1_markersAt 1 = .ok (.istore_n 2, 1) := dk_61 (dk_at dksX1_markersAt_0 1 rfl rfl)
theorem dX1_markersAt_2 : decode cX1_markersAt 2 = .ok (.iconst 0, 1) := dk_3 (dk_at dksX1_markersAt_0 2 rfl rfl)
theorem dX1_markersAt_3 : decode cX1_markersAt 3 = .ok (.istore_n 3, 1) := dk_62 (dk_at dksX1_markersAt_0 3 rfl rfl)
theorem dX1_markersAt_4 : decode cX1_markersAt 4 = .ok (.iload_n 3, 1) := dk_29 (dk_at dksX1_markersAt_0 4 rfl rfl)
theorem dX1_markersAt_5 : decode cX1_markersAt 5 = .ok (.bipush 10, 2) := dk_16 10 (dk_at dksX1_markersAt_0 5 rfl rfl)
theorem dX1_markersAt_7 : decode cX1_markersAt 7 = .ok (.if_icmp .ge 38, 3) := dk_162 0 38 (dk_at dksX1_markersAt_0 7 rfl rfl)
theorem dX1_markersAt_10 : decode cX1_markersAt 10 = .ok (.aload_n 0, 1) := dk_42 (dk_at dksX1_markersAt_0 10 rfl rfl)
theorem dX1_markersAt_11 : decode cX1_markersAt 11 = .ok (.getfield 24, 3) := dk_180 0 24 (dk_at dksX1_markersAt_0 11 rfl rfl)
theorem dX1_markersAt_14 : decode cX1_markersAt 14 = .ok (.getfield 145, 3) := dk_180 0 145 (dk_at dksX1_markersAt_0 14 rfl rfl)
theorem dX1_markersAt_17 : decode cX1_markersAt 17 = .ok (.iload_n 3, 1) := dk_29 (dk_at dksX1_markersAt_0 17 rfl rfl)
theorem dX1_markersAt_18 : decode cX1_markersAt 18 = .ok (.iaload, 1) := dk_46 (dk_at dksX1_markersAt_0 18 rfl rfl)
theorem dX1_markersAt_19 : decode cX1_markersAt 19 = .ok (.aload_n 0, 1) := dk_42 (dk_at dksX1_markersAt_0 19 rfl rfl)
theorem dX1_markersAt_20 : decode cX1_markersAt 20 = .ok (.getfield 24, 3) := dk_180 0 24 (dk_at dksX1_markersAt_0 20 rfl rfl)
theorem dX1_markersAt_23 : decode cX1_markersAt 23 = .ok (.iload_n 1, 1) := dk_27 (dk_at dksX1_markersAt_0 23 rfl rfl)
theorem dX1_markersAt_24 : decode cX1_markersAt 24 = .ok (.invokevirtual 67, 3) := dk_182 0 67 (dk_at dksX1_markersAt_1 0 rfl rfl)
theorem dX1_markersAt_27 : decode cX1_markersAt 27 = .ok (.getfield 214, 3) := dk_180 0 214 (dk_at dksX1_markersAt_1 3 rfl rfl)
theorem dX1_markersAt_30 : decode cX1_markersAt 30 = .ok (.if_icmp .ne 9, 3) := dk_160 0 9 (dk_at dksX1_markersAt_1 6 rfl rfl)
theorem dX1_markersAt_33 : decode cX1_markersAt 33 = .ok (.iload_n 2, 1) := dk_28 (dk_at dksX1_markersAt_1 9 rfl rfl)
theorem dX1_markersAt_34 : decode cX1_markersAt 34 = .ok (.iconst 1, 1) := dk_4 (dk_at dksX1_markersAt_1 10 rfl rfl)
theorem dX1_markersAt_35 : decode cX1_markersAt 35 = .ok (.iload_n 3, 1) := dk_29 (dk_at dksX1_markersAt_1 11 rfl rfl)
theorem dX1_markersAt_36 : decode cX1_markersAt 36 = .ok (.ishl, 1) := dk_120 (dk_at dksX1_markersAt_1 12 rfl rfl)
theorem dX1_markersAt_37 : decode cX1_markersAt 37 = .ok (.ior, 1) := dk_128 (dk_at dksX1_markersAt_1 13 rfl rfl)
theorem dX1_markersAt_38 : decode cX1_markersAt 38 = .ok (.istore_n 2, 1) := dk_61 (dk_at dksX1_markersAt_1 14 rfl rfl)
theorem dX1_markersAt_39 : decode cX1_markersAt 39 = .ok (.iinc 3 1, 3) := dk_132 3 1 (dk_at dksX1_markersAt_1 15 rfl rfl)
theorem dX1_markersAt_42 : decode cX1_markersAt 42 = .ok (.goto (-38), 3) := dk_167 255 218 (dk_at dksX1_markersAt_1 18 rfl rfl)
theorem dX1_markersAt_45 : decode cX1_markersAt 45 = .ok (.iload_n 2, 1) := dk_28 (dk_at dksX1_markersAt_1 21 rfl rfl)
theorem dX1_markersAt_46 : decode cX1_markersAt 46 = .ok (.ireturn, 1) := dk_172 (dk_at dksX1_markersAt_1 22 rfl rfl)
abbrev cX1_byteOf : ByteArray := prog_1_method_27_code
def yX1_byteOf : MethodName := ⟨RX1, "byteOf", "(II)I"⟩
def dkwX1_byteOf_0 : List UInt8 := [42, 27, 182, 0, 219, 78, 28, 45, 180, 0, 222, 182, 0, 104, 184, 0, 59, 45, 28, 182, 0, 251, 172]
abbrev dktX1_byteOf_0 : List UInt8 := dkwX1_byteOf_0 ++ []
theorem dksX1_byteOf_0 : cX1_byteOf.data.toList.drop 0 = dktX1_byteOf_0 := by decide +kernel
theorem dX1_byteOf_0 : decode cX1_byteOf 0 = .ok (.aload_n 0, 1) := dk_42 (dk_at dksX1_byteOf_0 0 rfl rfl)
theorem dX1_byteOf_1 : decode cX1_byteOf 1 = .ok (.iload_n 1, 1) := dk_27 (dk_at dksX1_byteOf_0 1 rfl rfl)
theorem dX1_byteOf_2 : decode cX1_byteOf 2 = .ok (.invokevirtual 219, 3) := dk_182 0 219 (dk_at dksX1_byteOf_0 2 rfl rfl)
theorem dX1_byteOf_5 : decode cX1_byteOf 5 = .ok (.astore_n 3, 1) := dk_78 (dk_at dksX1_byteOf_0 5 rfl rfl)
theorem dX1_byteOf_6 : decode cX1_byteOf 6 = .ok (.iload_n 2, 1) := dk_28 (dk_at dksX1_byteOf_0 6 rfl rfl)
theorem dX1_byteOf_7 : decode cX1_byteOf 7 = .ok (.aload_n 3, 1) := dk_45 (dk_at dksX1_byteOf_0 7 rfl rfl)
theorem dX1_byteOf_8 : decode cX1_byteOf 8 = .ok (.getfield 222, 3) := dk_180 0 222 (dk_at dksX1_byteOf_0 8 rfl rfl)
theorem dX1_byteOf_11 : decode cX1_byteOf 11 = .ok (.invokevirtual 104, 3) := dk_182 0 104 (dk_at dksX1_byteOf_0 11 rfl rfl)
theorem dX1_byteOf_14 : decode cX1_byteOf 14 = .ok (.invokestatic 59, 3) := dk_184 0 59 (dk_at dksX1_byteOf_0 14 rfl rfl)
theorem dX1_byteOf_17 : decode cX1_byteOf 17 = .ok (.aload_n 3, 1) := dk_45 (dk_at dksX1_byteOf_0 17 rfl rfl)
theorem dX1_byteOf_18 : decode cX1_byteOf 18 = .ok (.iload_n 2, 1) := dk_28 (dk_at dksX1_byteOf_0 18 rfl rfl)
theorem dX1_byteOf_19 : decode cX1_byteOf 19 = .ok (.invokevirtual 251, 3) := dk_182 0 251 (dk_at dksX1_byteOf_0 19 rfl rfl)
theorem dX1_byteOf_22 : decode cX1_byteOf 22 = .ok (.ireturn, 1) := dk_172 (dk_at dksX1_byteOf_0 22 rfl rfl)
abbrev cX1_lineOfRow : ByteArray := prog_1_method_29_code
def yX1_lineOfRow : MethodName := ⟨RX1, "lineOfRow", "(I)I"⟩
def dkwX1_lineOfRow_1 : List UInt8 := [182, 1, 1, 4, 96, 172]
abbrev dktX1_lineOfRow_1 : List UInt8 := dkwX1_lineOfRow_1 ++ []
def dkwX1_lineOfRow_0 : List UInt8 := [27, 4, 100, 42, 180, 0, 24, 182, 0, 71, 182, 0, 183, 184, 0, 59, 42, 180, 0, 24, 182, 0, 71, 27]
abbrev dktX1_lineOfRow_0 : List UInt8 := dkwX1_lineOfRow_0 ++ dktX1_lineOfRow_1
theorem dksX1_lineOfRow_0 : cX1_lineOfRow.data.toList.drop 0 = dktX1_lineOfRow_0 := by decide +kernel
theorem dksX1_lineOfRow_1 : cX1_lineOfRow.data.toList.drop 24 = dktX1_lineOfRow_1 := dk_seg dksX1_lineOfRow_0 24 rfl rfl
theorem dX1_lineOfRow_0 : decode cX1_lineOfRow 0 = .ok (.iload_n 1, 1) := dk_27 (dk_at dksX1_lineOfRow_0 0 rfl rfl)
theorem dX1_lineOfRow_1 : decode cX1_lineOfRow 1 = .ok (.iconst 1, 1) := dk_4 (dk_at dksX1_lineOfRow_0 1 rfl rfl)
theorem dX1_lineOfRow_2 : decode cX1_lineOfRow 2 = .ok (.isub, 1) := dk_100 (dk_at dksX1_lineOfRow_0 2 rfl rfl)
theorem dX1_lineOfRow_3 : decode cX1_lineOfRow 3 = .ok (.aload_n 0, 1) := dk_42 (dk_at dksX1_lineOfRow_0 3 rfl rfl)
theorem dX1_lineOfRow_4 : decode cX1_lineOfRow 4 = .ok (.getfield 24, 3) := dk_180 0 24 (dk_at dksX1_lineOfRow_0 4 rfl rfl)
theorem dX1_lineOfRow_7 : decode cX1_lineOfRow 7 = .ok (.invokevirtual 71, 3) := dk_182 0 71 (dk_at dksX1_lineOfRow_0 7 rfl rfl)
theorem dX1_lineOfRow_10 : decode cX1_lineOfRow 10 = .ok (.invokevirtual 183, 3) := dk_182 0 183 (dk_at dksX1_lineOfRow_0 10 rfl rfl)
theorem dX1_lineOfRow_13 : decode cX1_lineOfRow 13 = .ok (.invokestatic 59, 3) := dk_184 0 59 (dk_at dksX1_lineOfRow_0 13 rfl rfl)
theorem dX1_lineOfRow_16 : decode cX1_lineOfRow 16 = .ok (.aload_n 0, 1) := dk_42 (dk_at dksX1_lineOfRow_0 16 rfl rfl)
theorem dX1_lineOfRow_17 : decode cX1_lineOfRow 17 = .ok (.getfield 24, 3) := dk_180 0 24 (dk_at dksX1_lineOfRow_0 17 rfl rfl)
theorem dX1_lineOfRow_20 : decode cX1_lineOfRow 20 = .ok (.invokevirtual 71, 3) := dk_182 0 71 (dk_at dksX1_lineOfRow_0 20 rfl rfl)
theorem dX1_lineOfRow_23 : decode cX1_lineOfRow 23 = .ok (.iload_n 1, 1) := dk_27 (dk_at dksX1_lineOfRow_0 23 rfl rfl)
theorem dX1_lineOfRow_24 : decode cX1_lineOfRow 24 = .ok (.invokevirtual 257, 3) := dk_182 1 1 (dk_at dksX1_lineOfRow_1 0 rfl rfl)
theorem dX1_lineOfRow_27 : decode cX1_lineOfRow 27 = .ok (.iconst 1, 1) := dk_4 (dk_at dksX1_lineOfRow_1 3 rfl rfl)
theorem dX1_lineOfRow_28 : decode cX1_lineOfRow 28 = .ok (.iadd, 1) := dk_96 (dk_at dksX1_lineOfRow_1 4 rfl rfl)
theorem dX1_lineOfRow_29 : decode cX1_lineOfRow 29 = .ok (.ireturn, 1) := dk_172 (dk_at dksX1_lineOfRow_1 5 rfl rfl)
abbrev cX1_rowNear : ByteArray := prog_1_method_30_code
def yX1_rowNear : MethodName := ⟨RX1, "rowNear", "(I)I"⟩
def dkwX1_rowNear_0 : List UInt8 := [42, 180, 0, 24, 182, 0, 71, 42, 27, 182, 0, 63, 182, 0, 229, 172]
abbrev dktX1_rowNear_0 : List UInt8 := dkwX1_rowNear_0 ++ []
theorem dksX1_rowNear_0 : cX1_rowNear.data.toList.drop 0 = dktX1_rowNear_0 := by decide +kernel
theorem dX1_rowNear_0 : decode cX1_rowNear 0 = .ok (.aload_n 0, 1) := dk_42 (dk_at dksX1_rowNear_0 0 rfl rfl)
theorem dX1_rowNear_1 : decode cX1_rowNear 1 = .ok (.getfield 24, 3) := dk_180 0 24 (dk_at dksX1_rowNear_0 1 rfl rfl)
theorem dX1_rowNear_4 : decode cX1_rowNear 4 = .ok (.invokevirtual 71, 3) := dk_182 0 71 (dk_at dksX1_rowNear_0 4 rfl rfl)
theorem dX1_rowNear_7 : decode cX1_rowNear 7 = .ok (.aload_n 0, 1) := dk_42 (dk_at dksX1_rowNear_0 7 rfl rfl)
theorem dX1_rowNear_8 : decode cX1_rowNear 8 = .ok (.iload_n 1, 1) := dk_27 (dk_at dksX1_rowNear_0 8 rfl rfl)
theorem dX1_rowNear_9 : decode cX1_rowNear 9 = .ok (.invokevirtual 63, 3) := dk_182 0 63 (dk_at dksX1_rowNear_0 9 rfl rfl)
theorem dX1_rowNear_12 : decode cX1_rowNear 12 = .ok (.invokevirtual 229, 3) := dk_182 0 229 (dk_at dksX1_rowNear_0 12 rfl rfl)
theorem dX1_rowNear_15 : decode cX1_rowNear 15 = .ok (.ireturn, 1) := dk_172 (dk_at dksX1_rowNear_0 15 rfl rfl)
abbrev cX1_rowsBetween : ByteArray := prog_1_method_31_code
def yX1_rowsBetween : MethodName := ⟨RX1, "rowsBetween", "(II)I"⟩
def dkwX1_rowsBetween_2 : List UInt8 := [100, 172]
abbrev dktX1_rowsBetween_2 : List UInt8 := dkwX1_rowsBetween_2 ++ []
def dkwX1_rowsBetween_1 : List UInt8 := [184, 1, 4, 182, 0, 229, 42, 180, 0, 24, 182, 0, 71, 29, 21, 4, 184, 1, 10, 4, 100, 182, 0, 229]
abbrev dktX1_rowsBetween_1 : List UInt8 := dkwX1_rowsBetween_1 ++ dktX1_rowsBetween_2
def dkwX1_rowsBetween_0 : List UInt8 := [42, 27, 182, 0, 63, 62, 42, 28, 182, 0, 63, 54, 4, 42, 180, 0, 24, 182, 0, 71, 29, 21, 4]
abbrev dktX1_rowsBetween_0 : List UInt8 := dkwX1_rowsBetween_0 ++ dktX1_rowsBetween_1
theorem dksX1_rowsBetween_0 : cX1_rowsBetween.data.toList.drop 0 = dktX1_rowsBetween_0 := by decide +kernel
theorem dksX1_rowsBetween_1 : cX1_rowsBetween.data.toList.drop 23 = dktX1_rowsBetween_1 := dk_seg dksX1_rowsBetween_0 23 rfl rfl
theorem dksX1_rowsBetween_2 : cX1_rowsBetween.data.toList.drop 47 = dktX1_rowsBetween_2 := dk_seg dksX1_rowsBetween_1 24 rfl rfl
theorem dX1_rowsBetween_0 : decode cX1_rowsBetween 0 = .ok (.aload_n 0, 1) := dk_42 (dk_at dksX1_rowsBetween_0 0 rfl rfl)
theorem dX1_rowsBetween_1 : decode cX1_rowsBetween 1 = .ok (.iload_n 1, 1) := dk_27 (dk_at dksX1_rowsBetween_0 1 rfl rfl)
theorem dX1_rowsBetween_2 : decode cX1_rowsBetween 2 = .ok (.invokevirtual 63, 3) := dk_182 0 63 (dk_at dksX1_rowsBetween_0 2 rfl rfl)
theorem dX1_rowsBetween_5 : decode cX1_rowsBetween 5 = .ok (.istore_n 3, 1) := dk_62 (dk_at dksX1_rowsBetween_0 5 rfl rfl)
theorem dX1_rowsBetween_6 : decode cX1_rowsBetween 6 = .ok (.aload_n 0, 1) := dk_42 (dk_at dksX1_rowsBetween_0 6 rfl rfl)
theorem dX1_rowsBetween_7 : decode cX1_rowsBetween 7 = .ok (.iload_n 2, 1) := dk_28 (dk_at dksX1_rowsBetween_0 7 rfl rfl)
theorem dX1_rowsBetween_8 : decode cX1_rowsBetween 8 = .ok (.invokevirtual 63, 3) := dk_182 0 63 (dk_at dksX1_rowsBetween_0 8 rfl rfl)
theorem dX1_rowsBetween_11 : decode cX1_rowsBetween 11 = .ok (.istore 4, 2) := dk_54 4 (dk_at dksX1_rowsBetween_0 11 rfl rfl)
theorem dX1_rowsBetween_13 : decode cX1_rowsBetween 13 = .ok (.aload_n 0, 1) := dk_42 (dk_at dksX1_rowsBetween_0 13 rfl rfl)
theorem dX1_rowsBetween_14 : decode cX1_rowsBetween 14 = .ok (.getfield 24, 3) := dk_180 0 24 (dk_at dksX1_rowsBetween_0 14 rfl rfl)
theorem dX1_rowsBetween_17 : decode cX1_rowsBetween 17 = .ok (.invokevirtual 71, 3) := dk_182 0 71 (dk_at dksX1_rowsBetween_0 17 rfl rfl)
theorem dX1_rowsBetween_20 : decode cX1_rowsBetween 20 = .ok (.iload_n 3, 1) := dk_29 (dk_at dksX1_rowsBetween_0 20 rfl rfl)
theorem dX1_rowsBetween_21 : decode cX1_rowsBetween 21 = .ok (.iload 4, 2) := dk_21 4 (dk_at dksX1_rowsBetween_0 21 rfl rfl)
theorem dX1_rowsBetween_23 : decode cX1_rowsBetween 23 = .ok (.invokestatic 260, 3) := dk_184 1 4 (dk_at dksX1_rowsBetween_1 0 rfl rfl)
theorem dX1_rowsBetween_26 : decode cX1_rowsBetween 26 = .ok (.invokevirtual 229, 3) := dk_182 0 229 (dk_at dksX1_rowsBetween_1 3 rfl rfl)
theorem dX1_rowsBetween_29 : decode cX1_rowsBetween 29 = .ok (.aload_n 0, 1) := dk_42 (dk_at dksX1_rowsBetween_1 6 rfl rfl)
theorem dX1_rowsBetween_30 : decode cX1_rowsBetween 30 = .ok (.getfield 24, 3) := dk_180 0 24 (dk_at dksX1_rowsBetween_1 7 rfl rfl)
theorem dX1_rowsBetween_33 : decode cX1_rowsBetween 33 = .ok (.invokevirtual 71, 3) := dk_182 0 71 (dk_at dksX1_rowsBetween_1 10 rfl rfl)
theorem dX1_rowsBetween_36 : decode cX1_rowsBetween 36 = .ok (.iload_n 3, 1) := dk_29 (dk_at dksX1_rowsBetween_1 13 rfl rfl)
theorem dX1_rowsBetween_37 : decode cX1_rowsBetween 37 = .ok (.iload 4, 2) := dk_21 4 (dk_at dksX1_rowsBetween_1 14 rfl rfl)
theorem dX1_rowsBetween_39 : decode cX1_rowsBetween 39 = .ok (.invokestatic 266, 3) := dk_184 1 10 (dk_at dksX1_rowsBetween_1 16 rfl rfl)
theorem dX1_rowsBetween_42 : decode cX1_rowsBetween 42 = .ok (.iconst 1, 1) := dk_4 (dk_at dksX1_rowsBetween_1 19 rfl rfl)
theorem dX1_rowsBetween_43 : decode cX1_rowsBetween 43 = .ok (.isub, 1) := dk_100 (dk_at dksX1_rowsBetween_1 20 rfl rfl)
theorem dX1_rowsBetween_44 : decode cX1_rowsBetween 44 = .ok (.invokevirtual 229, 3) := dk_182 0 229 (dk_at dksX1_rowsBetween_1 21 rfl rfl)
theorem dX1_rowsBetween_47 : decode cX1_rowsBetween 47 = .ok (.isub, 1) := dk_100 (dk_at dksX1_rowsBetween_2 0 rfl rfl)
theorem dX1_rowsBetween_48 : decode cX1_rowsBetween 48 = .ok (.ireturn, 1) := dk_172 (dk_at dksX1_rowsBetween_2 1 rfl rfl)
abbrev cX1_seek : ByteArray := prog_1_method_33_code
def yX1_seek : MethodName := ⟨RX1, "seek", "(IIZ)I"⟩
def dkwX1_seek_4 : List UInt8 := [25, 5, 182, 1, 26, 153, 0, 8, 21, 7, 4, 96, 172, 167, 255, 190, 3, 172]
abbrev dktX1_seek_4 : List UInt8 := dkwX1_seek_4 ++ []
def dkwX1_seek_3 : List UInt8 := [180, 0, 24, 182, 0, 71, 21, 7, 182, 0, 226, 153, 0, 25, 42, 180, 0, 24, 21, 7, 182, 0, 67]
abbrev dktX1_seek_3 : List UInt8 := dkwX1_seek_3 ++ dktX1_seek_4
def dkwX1_seek_2 : List UInt8 := [153, 0, 62, 25, 6, 185, 0, 162, 1, 0, 192, 1, 21, 182, 1, 23, 54, 7, 29, 153, 0, 18, 42]
abbrev dktX1_seek_2 : List UInt8 := dkwX1_seek_2 ++ dktX1_seek_3
def dkwX1_seek_1 : List UInt8 := [187, 1, 17, 89, 42, 21, 4, 183, 1, 19, 182, 1, 20, 58, 6, 25, 6, 185, 0, 156, 1, 0]
abbrev dktX1_seek_1 : List UInt8 := dkwX1_seek_1 ++ dktX1_seek_2
def dkwX1_seek_0 : List UInt8 := [27, 4, 100, 42, 180, 0, 97, 184, 0, 59, 42, 28, 182, 0, 63, 54, 4, 42, 27, 182, 1, 13, 58, 5]
abbrev dktX1_seek_0 : List UInt8 := dkwX1_seek_0 ++ dktX1_seek_1
theorem dksX1_seek_0 : cX1_seek.data.toList.drop 0 = dktX1_seek_0 := by decide +kernel
theorem dksX1_seek_1 : cX1_seek.data.toList.drop 24 = dktX1_seek_1 := dk_seg dksX1_seek_0 24 rfl rfl
theorem dksX1_seek_2 : cX1_seek.data.toList.drop 46 = dktX1_seek_2 := dk_seg dksX1_seek_1 22 rfl rfl
theorem dksX1_seek_3 : cX1_seek.data.toList.drop 69 = dktX1_seek_3 := dk_seg dksX1_seek_2 23 rfl rfl
theorem dksX1_seek_4 : cX1_seek.data.toList.drop 92 = dktX1_seek_4 := dk_seg dksX1_seek_3 23 rfl rfl
theorem dX1_seek_0 : decode cX1_seek 0 = .ok (.iload_n 1, 1) := dk_27 (dk_at dksX1_seek_0 0 rfl rfl)
theorem dX1_seek_1 : decode cX1_seek 1 = .ok (.iconst 1, 1) := dk_4 (dk_at dksX1_seek_0 1 rfl rfl)
theorem dX1_seek_2 : decode cX1_seek 2 = .ok (.isub, 1) := dk_100 (dk_at dksX1_seek_0 2 rfl rfl)
theorem dX1_seek_3 : decode cX1_seek 3 = .ok (.aload_n 0, 1) := dk_42 (dk_at dksX1_seek_0 3 rfl rfl)
theorem dX1_seek_4 : decode cX1_seek 4 = .ok (.getfield 97, 3) := dk_180 0 97 (dk_at dksX1_seek_0 4 rfl rfl)
theorem dX1_seek_7 : decode cX1_seek 7 = .ok (.invokestatic 59, 3) := dk_184 0 59 (dk_at dksX1_seek_0 7 rfl rfl)
theorem dX1_seek_10 : decode cX1_seek 10 = .ok (.aload_n 0, 1) := dk_42 (dk_at dksX1_seek_0 10 rfl rfl)
theorem dX1_seek_11 : decode cX1_seek 11 = .ok (.iload_n 2, 1) := dk_28 (dk_at dksX1_seek_0 11 rfl rfl)
theorem dX1_seek_12 : decode cX1_seek 12 = .ok (.invokevirtual 63, 3) := dk_182 0 63 (dk_at dksX1_seek_0 12 rfl rfl)
theorem dX1_seek_15 : decode cX1_seek 15 = .ok (.istore 4, 2) := dk_54 4 (dk_at dksX1_seek_0 15 rfl rfl)
theorem dX1_seek_17 : decode cX1_seek 17 = .ok (.aload_n 0, 1) := dk_42 (dk_at dksX1_seek_0 17 rfl rfl)
theorem dX1_seek_18 : decode cX1_seek 18 = .ok (.iload_n 1, 1) := dk_27 (dk_at dksX1_seek_0 18 rfl rfl)
theorem dX1_seek_19 : decode cX1_seek 19 = .ok (.invokevirtual 269, 3) := dk_182 1 13 (dk_at dksX1_seek_0 19 rfl rfl)
theorem dX1_seek_22 : decode cX1_seek 22 = .ok (.astore 5, 2) := dk_58 5 (dk_at dksX1_seek_0 22 rfl rfl)
theorem dX1_seek_24 : decode cX1_seek 24 = .ok (.new 273, 3) := dk_187 1 17 (dk_at dksX1_seek_1 0 rfl rfl)
theorem dX1_seek_27 : decode cX1_seek 27 = .ok (.dup, 1) := dk_89 (dk_at dksX1_seek_1 3 rfl rfl)
theorem dX1_seek_28 : decode cX1_seek 28 = .ok (.aload_n 0, 1) := dk_42 (dk_at dksX1_seek_1 4 rfl rfl)
theorem dX1_seek_29 : decode cX1_seek 29 = .ok (.iload 4, 2) := dk_21 4 (dk_at dksX1_seek_1 5 rfl rfl)
theorem dX1_seek_31 : decode cX1_seek 31 = .ok (.invokespecial 275, 3) := dk_183 1 19 (dk_at dksX1_seek_1 7 rfl rfl)
theorem dX1_seek_34 : decode cX1_seek 34 = .ok (.invokevirtual 276, 3) := dk_182 1 20 (dk_at dksX1_seek_1 10 rfl rfl)
theorem dX1_seek_37 : decode cX1_seek 37 = .ok (.astore 6, 2) := dk_58 6 (dk_at dksX1_seek_1 13 rfl rfl)
theorem dX1_seek_39 : decode cX1_seek 39 = .ok (.aload 6, 2) := dk_25 6 (dk_at dksX1_seek_1 15 rfl rfl)
theorem dX1_seek_41 : decode cX1_seek 41 = .ok (.invokeinterface 156 1, 5) := by decide +kernel
theorem dX1_seek_46 : decode cX1_seek 46 = .ok (.ifCond .eq 62, 3) := dk_153 0 62 (dk_at dksX1_seek_2 0 rfl rfl)
theorem dX1_seek_49 : decode cX1_seek 49 = .ok (.aload 6, 2) := dk_25 6 (dk_at dksX1_seek_2 3 rfl rfl)
theorem dX1_seek_51 : decode cX1_seek 51 = .ok (.invokeinterface 162 1, 5) := by decide +kernel
theorem dX1_seek_56 : decode cX1_seek 56 = .ok (.checkcast 277, 3) := dk_192 1 21 (dk_at dksX1_seek_2 10 rfl rfl)
theorem dX1_seek_59 : decode cX1_seek 59 = .ok (.invokevirtual 279, 3) := dk_182 1 23 (dk_at dksX1_seek_2 13 rfl rfl)
theorem dX1_seek_62 : decode cX1_seek 62 = .ok (.istore 7, 2) := dk_54 7 (dk_at dksX1_seek_2 16 rfl rfl)
theorem dX1_seek_64 : decode cX1_seek 64 = .ok (.iload_n 3, 1) := dk_29 (dk_at dksX1_seek_2 18 rfl rfl)
theorem dX1_seek_65 : decode cX1_seek 65 = .ok (.ifCond .eq 18, 3) := dk_153 0 18 (dk_at dksX1_seek_2 19 rfl rfl)
theorem dX1_seek_68 : decode cX1_seek 68 = .ok (.aload_n 0, 1) := dk_42 (dk_at dksX1_seek_2 22 rfl rfl)
theorem dX1_seek_69 : decode cX1_seek 69 = .ok (.getfield 24, 3) := dk_180 0 24 (dk_at dksX1_seek_3 0 rfl rfl)
theorem dX1_seek_72 : decode cX1_seek 72 = .ok (.invokevirtual 71, 3) := dk_182 0 71 (dk_at dksX1_seek_3 3 rfl rfl)
theorem dX1_seek_75 : decode cX1_seek 75 = .ok (.iload 7, 2) := dk_21 7 (dk_at dksX1_seek_3 6 rfl rfl)
theorem dX1_seek_77 : decode cX1_seek 77 = .ok (.invokevirtual 226, 3) := dk_182 0 226 (dk_at dksX1_seek_3 8 rfl rfl)
theorem dX1_seek_80 : decode cX1_seek 80 = .ok (.ifCond .eq 25, 3) := dk_153 0 25 (dk_at dksX1_seek_3 11 rfl rfl)
theorem dX1_seek_83 : decode cX1_seek 83 = .ok (.aload_n 0, 1) := dk_42 (dk_at dksX1_seek_3 14 rfl rfl)
theorem dX1_seek_84 : decode cX1_seek 84 = .ok (.getfield 24, 3) := dk_180 0 24 (dk_at dksX1_seek_3 15 rfl rfl)
theorem dX1_seek_87 : decode cX1_seek 87 = .ok (.iload 7, 2) := dk_21 7 (dk_at dksX1_seek_3 18 rfl rfl)
theorem dX1_seek_89 : decode cX1_seek 89 = .ok (.invokevirtual 67, 3) := dk_182 0 67 (dk_at dksX1_seek_3 20 rfl rfl)
theorem dX1_seek_92 : decode cX1_seek 92 = .ok (.aload 5, 2) := dk_25 5 (dk_at dksX1_seek_4 0 rfl rfl)
theorem dX1_seek_94 : decode cX1_seek 94 = .ok (.invokevirtual 282, 3) := dk_182 1 26 (dk_at dksX1_seek_4 2 rfl rfl)
theorem dX1_seek_97 : decode cX1_seek 97 = .ok (.ifCond .eq 8, 3) := dk_153 0 8 (dk_at dksX1_seek_4 5 rfl rfl)
theorem dX1_seek_100 : decode cX1_seek 100 = .ok (.iload 7, 2) := dk_21 7 (dk_at dksX1_seek_4 8 rfl rfl)
theorem dX1_seek_102 : decode cX1_seek 102 = .ok (.iconst 1, 1) := dk_4 (dk_at dksX1_seek_4 10 rfl rfl)
theorem dX1_seek_103 : decode cX1_seek 103 = .ok (.iadd, 1) := dk_96 (dk_at dksX1_seek_4 11 rfl rfl)
theorem dX1_seek_104 : decode cX1_seek 104 = .ok (.ireturn, 1) := dk_172 (dk_at dksX1_seek_4 12 rfl rfl)
theorem dX1_seek_105 : decode cX1_seek 105 = .ok (.goto (-66), 3) := dk_167 255 190 (dk_at dksX1_seek_4 13 rfl rfl)
theorem dX1_seek_108 : decode cX1_seek 108 = .ok (.iconst 0, 1) := dk_3 (dk_at dksX1_seek_4 16 rfl rfl)
theorem dX1_seek_109 : decode cX1_seek 109 = .ok (.ireturn, 1) := dk_172 (dk_at dksX1_seek_4 17 rfl rfl)
abbrev cX1_taken : ByteArray := prog_1_method_12_code
def yX1_taken : MethodName := ⟨RX1, "taken", "(I)Ljava/lang/String;"⟩
def dkwX1_taken_2 : List UInt8 := [176]
abbrev dktX1_taken_2 : List UInt8 := dkwX1_taken_2 ++ []
def dkwX1_taken_1 : List UInt8 := [17, 0, 255, 126, 146, 182, 0, 93, 87, 132, 3, 1, 167, 255, 232, 42, 3, 181, 0, 97, 44, 182, 0, 100]
abbrev dktX1_taken_1 : List UInt8 := dkwX1_taken_1 ++ dktX1_taken_2
def dkwX1_taken_0 : List UInt8 := [187, 0, 39, 89, 183, 0, 41, 77, 3, 62, 29, 27, 162, 0, 25, 44, 42, 180, 0, 13, 29, 51]
abbrev dktX1_taken_0 : List UInt8 := dkwX1_taken_0 ++ dktX1_taken_1
theorem dksX1_taken_0 : cX1_taken.data.toList.drop 0 = dktX1_taken_0 := by decide +kernel
theorem dksX1_taken_1 : cX1_taken.data.toList.drop 22 = dktX1_taken_1 := dk_seg dksX1_taken_0 22 rfl rfl
theorem dksX1_taken_2 : cX1_taken.data.toList.drop 46 = dktX1_taken_2 := dk_seg dksX1_taken_1 24 rfl rfl
theorem dX1_taken_0 : decode cX1_taken 0 = .ok (.new 39, 3) := dk_187 0 39 (dk_at dksX1_taken_0 0 rfl rfl)
theorem dX1_taken_3 : decode cX1_taken 3 = .ok (.dup, 1) := dk_89 (dk_at dksX1_taken_0 3 rfl rfl)
theorem dX1_taken_4 : decode cX1_taken 4 = .ok (.invokespecial 41, 3) := dk_183 0 41 (dk_at dksX1_taken_0 4 rfl rfl)
theorem dX1_taken_7 : decode cX1_taken 7 = .ok (.astore_n 2, 1) := dk_77 (dk_at dksX1_taken_0 7 rfl rfl)
theorem dX1_taken_8 : decode cX1_taken 8 = .ok (.iconst 0, 1) := dk_3 (dk_at dksX1_taken_0 8 rfl rfl)
theorem dX1_taken_9 : decode cX1_taken 9 = .ok (.istore_n 3, 1) := dk_62 (dk_at dksX1_taken_0 9 rfl rfl)
theorem dX1_taken_10 : decode cX1_taken 10 = .ok (.iload_n 3, 1) := dk_29 (dk_at dksX1_taken_0 10 rfl rfl)
theorem dX1_taken_11 : decode cX1_taken 11 = .ok (.iload_n 1, 1) := dk_27 (dk_at dksX1_taken_0 11 rfl rfl)
theorem dX1_taken_12 : decode cX1_taken 12 = .ok (.if_icmp .ge 25, 3) := dk_162 0 25 (dk_at dksX1_taken_0 12 rfl rfl)
theorem dX1_taken_15 : decode cX1_taken 15 = .ok (.aload_n 2, 1) := dk_44 (dk_at dksX1_taken_0 15 rfl rfl)
theorem dX1_taken_16 : decode cX1_taken 16 = .ok (.aload_n 0, 1) := dk_42 (dk_at dksX1_taken_0 16 rfl rfl)
theorem dX1_taken_17 : decode cX1_taken 17 = .ok (.getfield 13, 3) := dk_180 0 13 (dk_at dksX1_taken_0 17 rfl rfl)
theorem dX1_taken_20 : decode cX1_taken 20 = .ok (.iload_n 3, 1) := dk_29 (dk_at dksX1_taken_0 20 rfl rfl)
theorem dX1_taken_21 : decode cX1_taken 21 = .ok (.baload, 1) := dk_51 (dk_at dksX1_taken_0 21 rfl rfl)
theorem dX1_taken_22 : decode cX1_taken 22 = .ok (.sipush 255, 3) := dk_17 0 255 (dk_at dksX1_taken_1 0 rfl rfl)
theorem dX1_taken_25 : decode cX1_taken 25 = .ok (.iand, 1) := dk_126 (dk_at dksX1_taken_1 3 rfl rfl)
theorem dX1_taken_26 : decode cX1_taken 26 = .ok (.i2c, 1) := dk_146 (dk_at dksX1_taken_1 4 rfl rfl)
theorem dX1_taken_27 : decode cX1_taken 27 = .ok (.invokevirtual 93, 3) := dk_182 0 93 (dk_at dksX1_taken_1 5 rfl rfl)
theorem dX1_taken_30 : decode cX1_taken 30 = .ok (.pop, 1) := dk_87 (dk_at dksX1_taken_1 8 rfl rfl)
theorem dX1_taken_31 : decode cX1_taken 31 = .ok (.iinc 3 1, 3) := dk_132 3 1 (dk_at dksX1_taken_1 9 rfl rfl)
theorem dX1_taken_34 : decode cX1_taken 34 = .ok (.goto (-24), 3) := dk_167 255 232 (dk_at dksX1_taken_1 12 rfl rfl)
theorem dX1_taken_37 : decode cX1_taken 37 = .ok (.aload_n 0, 1) := dk_42 (dk_at dksX1_taken_1 15 rfl rfl)
theorem dX1_taken_38 : decode cX1_taken 38 = .ok (.iconst 0, 1) := dk_3 (dk_at dksX1_taken_1 16 rfl rfl)
theorem dX1_taken_39 : decode cX1_taken 39 = .ok (.putfield 97, 3) := dk_181 0 97 (dk_at dksX1_taken_1 17 rfl rfl)
theorem dX1_taken_42 : decode cX1_taken 42 = .ok (.aload_n 2, 1) := dk_44 (dk_at dksX1_taken_1 20 rfl rfl)
theorem dX1_taken_43 : decode cX1_taken 43 = .ok (.invokevirtual 100, 3) := dk_182 0 100 (dk_at dksX1_taken_1 21 rfl rfl)
theorem dX1_taken_46 : decode cX1_taken 46 = .ok (.areturn, 1) := dk_176 (dk_at dksX1_taken_2 0 rfl rfl)
abbrev cX1_region : ByteArray := prog_1_method_36_code
def yX1_region : MethodName := ⟨RX1, "region", "(II)I"⟩
def dkwX1_region_6 : List UInt8 := [187, 0, 46, 89, 183, 0, 48, 191, 172]
abbrev dktX1_region_6 : List UInt8 := dkwX1_region_6 ++ []
def dkwX1_region_5 : List UInt8 := [182, 1, 40, 45, 182, 1, 37, 100, 4, 100, 167, 0, 21, 45, 180, 1, 60, 184, 1, 64, 167, 0, 11]
abbrev dktX1_region_5 : List UInt8 := dkwX1_region_5 ++ dktX1_region_6
def dkwX1_region_4 : List UInt8 := [182, 1, 53, 153, 0, 7, 4, 167, 0, 46, 3, 167, 0, 42, 45, 180, 1, 57, 167, 0, 35, 45]
abbrev dktX1_region_4 : List UInt8 := dkwX1_region_4 ++ dktX1_region_5
def dkwX1_region_3 : List UInt8 := [180, 1, 47, 167, 0, 74, 45, 180, 1, 50, 180, 1, 47, 167, 0, 64, 42, 180, 0, 24, 182, 0, 71, 45]
abbrev dktX1_region_3 : List UInt8 := dkwX1_region_3 ++ dktX1_region_4
def dkwX1_region_2 : List UInt8 := [45, 182, 1, 37, 4, 96, 167, 0, 93, 45, 182, 1, 40, 4, 96, 167, 0, 84, 45, 180, 1, 43]
abbrev dktX1_region_2 : List UInt8 := dkwX1_region_2 ++ dktX1_region_3
def dkwX1_region_1 : List UInt8 := [170, 0, 0, 0, 136, 0, 0, 0, 0, 0, 0, 0, 7, 0, 0, 0, 45, 0, 0, 0, 54, 0, 0, 0, 63, 0, 0, 0, 73, 0, 0, 0, 83, 0, 0, 0, 105, 0, 0, 0, 112, 0, 0, 0, 126]
abbrev dktX1_region_1 : List UInt8 := dkwX1_region_1 ++ dktX1_region_2
def dkwX1_region_0 : List UInt8 := [42, 27, 182, 1, 33, 78, 28]
abbrev dktX1_region_0 : List UInt8 := dkwX1_region_0 ++ dktX1_region_1
theorem dksX1_region_0 : cX1_region.data.toList.drop 0 = dktX1_region_0 := by decide +kernel
theorem dksX1_region_1 : cX1_region.data.toList.drop 7 = dktX1_region_1 := dk_seg dksX1_region_0 7 rfl rfl
theorem dksX1_region_2 : cX1_region.data.toList.drop 52 = dktX1_region_2 := dk_seg dksX1_region_1 45 rfl rfl
theorem dksX1_region_3 : cX1_region.data.toList.drop 74 = dktX1_region_3 := dk_seg dksX1_region_2 22 rfl rfl
theorem dksX1_region_4 : cX1_region.data.toList.drop 98 = dktX1_region_4 := dk_seg dksX1_region_3 24 rfl rfl
theorem dksX1_region_5 : cX1_region.data.toList.drop 120 = dktX1_region_5 := dk_seg dksX1_region_4 22 rfl rfl
theorem dksX1_region_6 : cX1_region.data.toList.drop 143 = dktX1_region_6 := dk_seg dksX1_region_5 23 rfl rfl
theorem dX1_region_0 : decode cX1_region 0 = .ok (.aload_n 0, 1) := dk_42 (dk_at dksX1_region_0 0 rfl rfl)
theorem dX1_region_1 : decode cX1_region 1 = .ok (.iload_n 1, 1) := dk_27 (dk_at dksX1_region_0 1 rfl rfl)
theorem dX1_region_2 : decode cX1_region 2 = .ok (.invokevirtual 289, 3) := dk_182 1 33 (dk_at dksX1_region_0 2 rfl rfl)
theorem dX1_region_5 : decode cX1_region 5 = .ok (.astore_n 3, 1) := dk_78 (dk_at dksX1_region_0 5 rfl rfl)
theorem dX1_region_6 : decode cX1_region 6 = .ok (.iload_n 2, 1) := dk_28 (dk_at dksX1_region_0 6 rfl rfl)
theorem dX1_region_7 : decode cX1_region 7 = .ok (.tableswitch 136 0 7 #[45, 54, 63, 73, 83, 105, 112, 126], 45) := by decide +kernel
theorem dX1_region_52 : decode cX1_region 52 = .ok (.aload_n 3, 1) := dk_45 (dk_at dksX1_region_2 0 rfl rfl)
theorem dX1_region_53 : decode cX1_region 53 = .ok (.invokevirtual 293, 3) := dk_182 1 37 (dk_at dksX1_region_2 1 rfl rfl)
theorem dX1_region_56 : decode cX1_region 56 = .ok (.iconst 1, 1) := dk_4 (dk_at dksX1_region_2 4 rfl rfl)
theorem dX1_region_57 : decode cX1_region 57 = .ok (.iadd, 1) := dk_96 (dk_at dksX1_region_2 5 rfl rfl)
theorem dX1_region_58 : decode cX1_region 58 = .ok (.goto 93, 3) := dk_167 0 93 (dk_at dksX1_region_2 6 rfl rfl)
theorem dX1_region_61 : decode cX1_region 61 = .ok (.aload_n 3, 1) := dk_45 (dk_at dksX1_region_2 9 rfl rfl)
theorem dX1_region_62 : decode cX1_region 62 = .ok (.invokevirtual 296, 3) := dk_182 1 40 (dk_at dksX1_region_2 10 rfl rfl)
theorem dX1_region_65 : decode cX1_region 65 = .ok (.iconst 1, 1) := dk_4 (dk_at dksX1_region_2 13 rfl rfl)
theorem dX1_region_66 : decode cX1_region 66 = .ok (.iadd, 1) := dk_96 (dk_at dksX1_region_2 14 rfl rfl)
theorem dX1_region_67 : decode cX1_region 67 = .ok (.goto 84, 3) := dk_167 0 84 (dk_at dksX1_region_2 15 rfl rfl)
theorem dX1_region_70 : decode cX1_region 70 = .ok (.aload_n 3, 1) := dk_45 (dk_at dksX1_region_2 18 rfl rfl)
theorem dX1_region_71 : decode cX1_region 71 = .ok (.getfield 299, 3) := dk_180 1 43 (dk_at dksX1_region_2 19 rfl rfl)
theorem dX1_region_74 : decode cX1_region 74 = .ok (.getfield 303, 3) := dk_180 1 47 (dk_at dksX1_region_3 0 rfl rfl)
theorem dX1_region_77 : decode cX1_region 77 = .ok (.goto 74, 3) := dk_167 0 74 (dk_at dksX1_region_3 3 rfl rfl)
theorem dX1_region_80 : decode cX1_region 80 = .ok (.aload_n 3, 1) := dk_45 (dk_at dksX1_region_3 6 rfl rfl)
theorem dX1_region_81 : decode cX1_region 81 = .ok (.getfield 306, 3) := dk_180 1 50 (dk_at dksX1_region_3 7 rfl rfl)
theorem dX1_region_84 : decode cX1_region 84 = .ok (.getfield 303, 3) := dk_180 1 47 (dk_at dksX1_region_3 10 rfl rfl)
theorem dX1_region_87 : decode cX1_region 87 = .ok (.goto 64, 3) := dk_167 0 64 (dk_at dksX1_region_3 13 rfl rfl)
theorem dX1_region_90 : decode cX1_region 90 = .ok (.aload_n 0, 1) := dk_42 (dk_at dksX1_region_3 16 rfl rfl)
theorem dX1_region_91 : decode cX1_region 91 = .ok (.getfield 24, 3) := dk_180 0 24 (dk_at dksX1_region_3 17 rfl rfl)
theorem dX1_region_94 : decode cX1_region 94 = .ok (.invokevirtual 71, 3) := dk_182 0 71 (dk_at dksX1_region_3 20 rfl rfl)
theorem dX1_region_97 : decode cX1_region 97 = .ok (.aload_n 3, 1) := dk_45 (dk_at dksX1_region_3 23 rfl rfl)
theorem dX1_region_98 : decode cX1_region 98 = .ok (.invokevirtual 309, 3) := dk_182 1 53 (dk_at dksX1_region_4 0 rfl rfl)
theorem dX1_region_101 : decode cX1_region 101 = .ok (.ifCond .eq 7, 3) := dk_153 0 7 (dk_at dksX1_region_4 3 rfl rfl)
theorem dX1_region_104 : decode cX1_region 104 = .ok (.iconst 1, 1) := dk_4 (dk_at dksX1_region_4 6 rfl rfl)
theorem dX1_region_105 : decode cX1_region 105 = .ok (.goto 46, 3) := dk_167 0 46 (dk_at dksX1_region_4 7 rfl rfl)
theorem dX1_region_108 : decode cX1_region 108 = .ok (.iconst 0, 1) := dk_3 (dk_at dksX1_region_4 10 rfl rfl)
theorem dX1_region_109 : decode cX1_region 109 = .ok (.goto 42, 3) := dk_167 0 42 (dk_at dksX1_region_4 11 rfl rfl)
theorem dX1_region_112 : decode cX1_region 112 = .ok (.aload_n 3, 1) := dk_45 (dk_at dksX1_region_4 14 rfl rfl)
theorem dX1_region_113 : decode cX1_region 113 = .ok (.getfield 313, 3) := dk_180 1 57 (dk_at dksX1_region_4 15 rfl rfl)
theorem dX1_region_116 : decode cX1_region 116 = .ok (.goto 35, 3) := dk_167 0 35 (dk_at dksX1_region_4 18 rfl rfl)
theorem dX1_region_119 : decode cX1_region 119 = .ok (.aload_n 3, 1) := dk_45 (dk_at dksX1_region_4 21 rfl rfl)
theorem dX1_region_120 : decode cX1_region 120 = .ok (.invokevirtual 296, 3) := dk_182 1 40 (dk_at dksX1_region_5 0 rfl rfl)
theorem dX1_region_123 : decode cX1_region 123 = .ok (.aload_n 3, 1) := dk_45 (dk_at dksX1_region_5 3 rfl rfl)
theorem dX1_region_124 : decode cX1_region 124 = .ok (.invokevirtual 293, 3) := dk_182 1 37 (dk_at dksX1_region_5 4 rfl rfl)
theorem dX1_region_127 : decode cX1_region 127 = .ok (.isub, 1) := dk_100 (dk_at dksX1_region_5 7 rfl rfl)
theorem dX1_region_128 : decode cX1_region 128 = .ok (.iconst 1, 1) := dk_4 (dk_at dksX1_region_5 8 rfl rfl)
theorem dX1_region_129 : decode cX1_region 129 = .ok (.isub, 1) := dk_100 (dk_at dksX1_region_5 9 rfl rfl)
theorem dX1_region_130 : decode cX1_region 130 = .ok (.goto 21, 3) := dk_167 0 21 (dk_at dksX1_region_5 10 rfl rfl)
theorem dX1_region_133 : decode cX1_region 133 = .ok (.aload_n 3, 1) := dk_45 (dk_at dksX1_region_5 13 rfl rfl)
theorem dX1_region_134 : decode cX1_region 134 = .ok (.getfield 316, 3) := dk_180 1 60 (dk_at dksX1_region_5 14 rfl rfl)
theorem dX1_region_137 : decode cX1_region 137 = .ok (.invokestatic 320, 3) := dk_184 1 64 (dk_at dksX1_region_5 17 rfl rfl)
theorem dX1_region_140 : decode cX1_region 140 = .ok (.goto 11, 3) := dk_167 0 11 (dk_at dksX1_region_5 20 rfl rfl)
theorem dX1_region_143 : decode cX1_region 143 = .ok (.new 46, 3) := dk_187 0 46 (dk_at dksX1_region_6 0 rfl rfl)
theorem dX1_region_146 : decode cX1_region 146 = .ok (.dup, 1) := dk_89 (dk_at dksX1_region_6 3 rfl rfl)
theorem dX1_region_147 : decode cX1_region 147 = .ok (.invokespecial 48, 3) := dk_183 0 48 (dk_at dksX1_region_6 4 rfl rfl)
theorem dX1_region_150 : decode cX1_region 150 = .ok (.athrow, 1) := dk_191 (dk_at dksX1_region_6 7 rfl rfl)
theorem dX1_region_151 : decode cX1_region 151 = .ok (.ireturn, 1) := dk_172 (dk_at dksX1_region_6 8 rfl rfl)
abbrev cX1_regionAtNumber : ByteArray := prog_1_method_10_code
def yX1_regionAtNumber : MethodName := ⟨RX1, "regionAtNumber", "(I)LFoldLister$Region;"⟩
def dkwX1_regionAtNumber_1 : List UInt8 := [182, 0, 71, 180, 0, 75, 27, 185, 0, 84, 2, 0, 192, 0, 88, 176]
abbrev dktX1_regionAtNumber_1 : List UInt8 := dkwX1_regionAtNumber_1 ++ []
def dkwX1_regionAtNumber_0 : List UInt8 := [27, 42, 180, 0, 24, 182, 0, 71, 180, 0, 75, 185, 0, 81, 1, 0, 184, 0, 59, 42, 180, 0, 24]
abbrev dktX1_regionAtNumber_0 : List UInt8 := dkwX1_regionAtNumber_0 ++ dktX1_regionAtNumber_1
theorem dksX1_regionAtNumber_0 : cX1_regionAtNumber.data.toList.drop 0 = dktX1_regionAtNumber_0 := by decide +kernel
theorem dksX1_regionAtNumber_1 : cX1_regionAtNumber.data.toList.drop 23 = dktX1_regionAtNumber_1 := dk_seg dksX1_regionAtNumber_0 23 rfl rfl
theorem dX1_regionAtNumber_0 : decode cX1_regionAtNumber 0 = .ok (.iload_n 1, 1) := dk_27 (dk_at dksX1_regionAtNumber_0 0 rfl rfl)
theorem dX1_regionAtNumber_1 : decode cX1_regionAtNumber 1 = .ok (.aload_n 0, 1) := dk_42 (dk_at dksX1_regionAtNumber_0 1 rfl rfl)
theorem dX1_regionAtNumber_2 : decode cX1_regionAtNumber 2 = .ok (.getfield 24, 3) := dk_180 0 24 (dk_at dksX1_regionAtNumber_0 2 rfl rfl)
theorem dX1_regionAtNumber_5 : decode cX1_regionAtNumber 5 = .ok (.invokevirtual 71, 3) := dk_182 0 71 (dk_at dksX1_regionAtNumber_0 5 rfl rfl)
theorem dX1_regionAtNumber_8 : decode cX1_regionAtNumber 8 = .ok (.getfield 75, 3) := dk_180 0 75 (dk_at dksX1_regionAtNumber_0 8 rfl rfl)
theorem dX1_regionAtNumber_11 : decode cX1_regionAtNumber 11 = .ok (.invokeinterface 81 1, 5) := by decide +kernel
theorem dX1_regionAtNumber_16 : decode cX1_regionAtNumber 16 = .ok (.invokestatic 59, 3) := dk_184 0 59 (dk_at dksX1_regionAtNumber_0 16 rfl rfl)
theorem dX1_regionAtNumber_19 : decode cX1_regionAtNumber 19 = .ok (.aload_n 0, 1) := dk_42 (dk_at dksX1_regionAtNumber_0 19 rfl rfl)
theorem dX1_regionAtNumber_20 : decode cX1_regionAtNumber 20 = .ok (.getfield 24, 3) := dk_180 0 24 (dk_at dksX1_regionAtNumber_0 20 rfl rfl)
theorem dX1_regionAtNumber_23 : decode cX1_regionAtNumber 23 = .ok (.invokevirtual 71, 3) := dk_182 0 71 (dk_at dksX1_regionAtNumber_1 0 rfl rfl)
theorem dX1_regionAtNumber_26 : decode cX1_regionAtNumber 26 = .ok (.getfield 75, 3) := dk_180 0 75 (dk_at dksX1_regionAtNumber_1 3 rfl rfl)
theorem dX1_regionAtNumber_29 : decode cX1_regionAtNumber 29 = .ok (.iload_n 1, 1) := dk_27 (dk_at dksX1_regionAtNumber_1 6 rfl rfl)
theorem dX1_regionAtNumber_30 : decode cX1_regionAtNumber 30 = .ok (.invokeinterface 84 2, 5) := by decide +kernel
theorem dX1_regionAtNumber_35 : decode cX1_regionAtNumber 35 = .ok (.checkcast 88, 3) := dk_192 0 88 (dk_at dksX1_regionAtNumber_1 12 rfl rfl)
theorem dX1_regionAtNumber_38 : decode cX1_regionAtNumber 38 = .ok (.areturn, 1) := dk_176 (dk_at dksX1_regionAtNumber_1 15 rfl rfl)
abbrev cX1_numberOf : ByteArray := prog_1_method_11_code
def yX1_numberOf : MethodName := ⟨RX1, "numberOf", "(LFoldLister$Region;)I"⟩
def dkwX1_numberOf_0 : List UInt8 := [42, 199, 0, 7, 2, 167, 0, 7, 42, 180, 0, 90, 172]
abbrev dktX1_numberOf_0 : List UInt8 := dkwX1_numberOf_0 ++ []
theorem dksX1_numberOf_0 : cX1_numberOf.data.toList.drop 0 = dktX1_numberOf_0 := by decide +kernel
theorem dX1_numberOf_0 : decode cX1_numberOf 0 = .ok (.aload_n 0, 1) := dk_42 (dk_at dksX1_numberOf_0 0 rfl rfl)
theorem dX1_numberOf_1 : decode cX1_numberOf 1 = .ok (.ifnonnull 7, 3) := dk_199 0 7 (dk_at dksX1_numberOf_0 1 rfl rfl)
theorem dX1_numberOf_4 : decode cX1_numberOf 4 = .ok (.iconst (-1), 1) := dk_2 (dk_at dksX1_numberOf_0 4 rfl rfl)
theorem dX1_numberOf_5 : decode cX1_numberOf 5 = .ok (.goto 7, 3) := dk_167 0 7 (dk_at dksX1_numberOf_0 5 rfl rfl)
theorem dX1_numberOf_8 : decode cX1_numberOf 8 = .ok (.aload_n 0, 1) := dk_42 (dk_at dksX1_numberOf_0 8 rfl rfl)
theorem dX1_numberOf_9 : decode cX1_numberOf 9 = .ok (.getfield 90, 3) := dk_180 0 90 (dk_at dksX1_numberOf_0 9 rfl rfl)
theorem dX1_numberOf_12 : decode cX1_numberOf 12 = .ok (.ireturn, 1) := dk_172 (dk_at dksX1_numberOf_0 12 rfl rfl)
abbrev cX1_regionAt : ByteArray := prog_1_method_37_code
def yX1_regionAt : MethodName := ⟨RX1, "regionAt", "(I)I"⟩
def dkwX1_regionAt_0 : List UInt8 := [42, 180, 0, 24, 182, 0, 71, 42, 27, 182, 0, 63, 182, 1, 68, 184, 1, 64, 172]
abbrev dktX1_regionAt_0 : List UInt8 := dkwX1_regionAt_0 ++ []
theorem dksX1_regionAt_0 : cX1_regionAt.data.toList.drop 0 = dktX1_regionAt_0 := by decide +kernel
theorem dX1_regionAt_0 : decode cX1_regionAt 0 = .ok (.aload_n 0, 1) := dk_42 (dk_at dksX1_regionAt_0 0 rfl rfl)
theorem dX1_regionAt_1 : decode cX1_regionAt 1 = .ok (.getfield 24, 3) := dk_180 0 24 (dk_at dksX1_regionAt_0 1 rfl rfl)
theorem dX1_regionAt_4 : decode cX1_regionAt 4 = .ok (.invokevirtual 71, 3) := dk_182 0 71 (dk_at dksX1_regionAt_0 4 rfl rfl)
theorem dX1_regionAt_7 : decode cX1_regionAt 7 = .ok (.aload_n 0, 1) := dk_42 (dk_at dksX1_regionAt_0 7 rfl rfl)
theorem dX1_regionAt_8 : decode cX1_regionAt 8 = .ok (.iload_n 1, 1) := dk_27 (dk_at dksX1_regionAt_0 8 rfl rfl)
theorem dX1_regionAt_9 : decode cX1_regionAt 9 = .ok (.invokevirtual 63, 3) := dk_182 0 63 (dk_at dksX1_regionAt_0 9 rfl rfl)
theorem dX1_regionAt_12 : decode cX1_regionAt 12 = .ok (.invokevirtual 324, 3) := dk_182 1 68 (dk_at dksX1_regionAt_0 12 rfl rfl)
theorem dX1_regionAt_15 : decode cX1_regionAt 15 = .ok (.invokestatic 320, 3) := dk_184 1 64 (dk_at dksX1_regionAt_0 15 rfl rfl)
theorem dX1_regionAt_18 : decode cX1_regionAt 18 = .ok (.ireturn, 1) := dk_172 (dk_at dksX1_regionAt_0 18 rfl rfl)
abbrev cX1_hiddenBy : ByteArray := prog_1_method_38_code
def yX1_hiddenBy : MethodName := ⟨RX1, "hiddenBy", "(I)I"⟩
def dkwX1_hiddenBy_0 : List UInt8 := [42, 180, 0, 24, 182, 0, 71, 42, 27, 182, 0, 63, 182, 1, 71, 184, 1, 64, 172]
abbrev dktX1_hiddenBy_0 : List UInt8 := dkwX1_hiddenBy_0 ++ []
theorem dksX1_hiddenBy_0 : cX1_hiddenBy.data.toList.drop 0 = dktX1_hiddenBy_0 := by decide +kernel
theorem dX1_hiddenBy_0 : decode cX1_hiddenBy 0 = .ok (.aload_n 0, 1) := dk_42 (dk_at dksX1_hiddenBy_0 0 rfl rfl)
theorem dX1_hiddenBy_1 : decode cX1_hiddenBy 1 = .ok (.getfield 24, 3) := dk_180 0 24 (dk_at dksX1_hiddenBy_0 1 rfl rfl)
theorem dX1_hiddenBy_4 : decode cX1_hiddenBy 4 = .ok (.invokevirtual 71, 3) := dk_182 0 71 (dk_at dksX1_hiddenBy_0 4 rfl rfl)
theorem dX1_hiddenBy_7 : decode cX1_hiddenBy 7 = .ok (.aload_n 0, 1) := dk_42 (dk_at dksX1_hiddenBy_0 7 rfl rfl)
theorem dX1_hiddenBy_8 : decode cX1_hiddenBy 8 = .ok (.iload_n 1, 1) := dk_27 (dk_at dksX1_hiddenBy_0 8 rfl rfl)
theorem dX1_hiddenBy_9 : decode cX1_hiddenBy 9 = .ok (.invokevirtual 63, 3) := dk_182 0 63 (dk_at dksX1_hiddenBy_0 9 rfl rfl)
theorem dX1_hiddenBy_12 : decode cX1_hiddenBy 12 = .ok (.invokevirtual 327, 3) := dk_182 1 71 (dk_at dksX1_hiddenBy_0 12 rfl rfl)
theorem dX1_hiddenBy_15 : decode cX1_hiddenBy 15 = .ok (.invokestatic 320, 3) := dk_184 1 64 (dk_at dksX1_hiddenBy_0 15 rfl rfl)
theorem dX1_hiddenBy_18 : decode cX1_hiddenBy 18 = .ok (.ireturn, 1) := dk_172 (dk_at dksX1_hiddenBy_0 18 rfl rfl)
abbrev cX1_partner : ByteArray := prog_1_method_39_code
def yX1_partner : MethodName := ⟨RX1, "partner", "(II)I"⟩
def dkwX1_partner_2 : List UInt8 := [153, 0, 7, 2, 167, 0, 10, 45, 180, 1, 82, 182, 1, 85, 172]
abbrev dktX1_partner_2 : List UInt8 := dkwX1_partner_2 ++ []
def dkwX1_partner_1 : List UInt8 := [100, 28, 182, 1, 74, 78, 45, 198, 0, 7, 4, 167, 0, 4, 3, 184, 1, 78, 45, 182, 0, 168]
abbrev dktX1_partner_1 : List UInt8 := dkwX1_partner_1 ++ dktX1_partner_2
def dkwX1_partner_0 : List UInt8 := [28, 42, 27, 182, 0, 219, 180, 0, 222, 182, 0, 104, 184, 0, 59, 42, 180, 0, 24, 182, 0, 71, 27, 4]
abbrev dktX1_partner_0 : List UInt8 := dkwX1_partner_0 ++ dktX1_partner_1
theorem dksX1_partner_0 : cX1_partner.data.toList.drop 0 = dktX1_partner_0 := by decide +kernel
theorem dksX1_partner_1 : cX1_partner.data.toList.drop 24 = dktX1_partner_1 := dk_seg dksX1_partner_0 24 rfl rfl
theorem dksX1_partner_2 : cX1_partner.data.toList.drop 46 = dktX1_partner_2 := dk_seg dksX1_partner_1 22 rfl rfl
theorem dX1_partner_0 : decode cX1_partner 0 = .ok (.iload_n 2, 1) := dk_28 (dk_at dksX1_partner_0 0 rfl rfl)
theorem dX1_partner_1 : decode cX1_partner 1 = .ok (.aload_n 0, 1) := dk_42 (dk_at dksX1_partner_0 1 rfl rfl)
theorem dX1_partner_2 : decode cX1_partner 2 = .ok (.iload_n 1, 1) := dk_27 (dk_at dksX1_partner_0 2 rfl rfl)
theorem dX1_partner_3 : decode cX1_partner 3 = .ok (.invokevirtual 219, 3) := dk_182 0 219 (dk_at dksX1_partner_0 3 rfl rfl)
theorem dX1_partner_6 : decode cX1_partner 6 = .ok (.getfield 222, 3) := dk_180 0 222 (dk_at dksX1_partner_0 6 rfl rfl)
theorem dX1_partner_9 : decode cX1_partner 9 = .ok (.invokevirtual 104, 3) := dk_182 0 104 (dk_at dksX1_partner_0 9 rfl rfl)
theorem dX1_partner_12 : decode cX1_partner 12 = .ok (.invokestatic 59, 3) := dk_184 0 59 (dk_at dksX1_partner_0 12 rfl rfl)
theorem dX1_partner_15 : decode cX1_partner 15 = .ok (.aload_n 0, 1) := dk_42 (dk_at dksX1_partner_0 15 rfl rfl)
theorem dX1_partner_16 : decode cX1_partner 16 = .ok (.getfield 24, 3) := dk_180 0 24 (dk_at dksX1_partner_0 16 rfl rfl)
theorem dX1_partner_19 : decode cX1_partner 19 = .ok (.invokevirtual 71, 3) := dk_182 0 71 (dk_at dksX1_partner_0 19 rfl rfl)
theorem dX1_partner_22 : decode cX1_partner 22 = .ok (.iload_n 1, 1) := dk_27 (dk_at dksX1_partner_0 22 rfl rfl)
theorem dX1_partner_23 : decode cX1_partner 23 = .ok (.iconst 1, 1) := dk_4 (dk_at dksX1_partner_0 23 rfl rfl)
theorem dX1_partner_24 : decode cX1_partner 24 = .ok (.isub, 1) := dk_100 (dk_at dksX1_partner_1 0 rfl rfl)
theorem dX1_partner_25 : decode cX1_partner 25 = .ok (.iload_n 2, 1) := dk_28 (dk_at dksX1_partner_1 1 rfl rfl)
theorem dX1_partner_26 : decode cX1_partner 26 = .ok (.invokevirtual 330, 3) := dk_182 1 74 (dk_at dksX1_partner_1 2 rfl rfl)
theorem dX1_partner_29 : decode cX1_partner 29 = .ok (.astore_n 3, 1) := dk_78 (dk_at dksX1_partner_1 5 rfl rfl)
theorem dX1_partner_30 : decode cX1_partner 30 = .ok (.aload_n 3, 1) := dk_45 (dk_at dksX1_partner_1 6 rfl rfl)
theorem dX1_partner_31 : decode cX1_partner 31 = .ok (.ifnull 7, 3) := dk_198 0 7 (dk_at dksX1_partner_1 7 rfl rfl)
theorem dX1_partner_34 : decode cX1_partner 34 = .ok (.iconst 1, 1) := dk_4 (dk_at dksX1_partner_1 10 rfl rfl)
theorem dX1_partner_35 : decode cX1_partner 35 = .ok (.goto 4, 3) := dk_167 0 4 (dk_at dksX1_partner_1 11 rfl rfl)
theorem dX1_partner_38 : decode cX1_partner 38 = .ok (.iconst 0, 1) := dk_3 (dk_at dksX1_partner_1 14 rfl rfl)
theorem dX1_partner_39 : decode cX1_partner 39 = .ok (.invokestatic 334, 3) := dk_184 1 78 (dk_at dksX1_partner_1 15 rfl rfl)
theorem dX1_partner_42 : decode cX1_partner 42 = .ok (.aload_n 3, 1) := dk_45 (dk_at dksX1_partner_1 18 rfl rfl)
theorem dX1_partner_43 : decode cX1_partner 43 = .ok (.invokevirtual 168, 3) := dk_182 0 168 (dk_at dksX1_partner_1 19 rfl rfl)
theorem dX1_partner_46 : decode cX1_partner 46 = .ok (.ifCond .eq 7, 3) := dk_153 0 7 (dk_at dksX1_partner_2 0 rfl rfl)
theorem dX1_partner_49 : decode cX1_partner 49 = .ok (.iconst (-1), 1) := dk_2 (dk_at dksX1_partner_2 3 rfl rfl)
theorem dX1_partner_50 : decode cX1_partner 50 = .ok (.goto 10, 3) := dk_167 0 10 (dk_at dksX1_partner_2 4 rfl rfl)
theorem dX1_partner_53 : decode cX1_partner 53 = .ok (.aload_n 3, 1) := dk_45 (dk_at dksX1_partner_2 7 rfl rfl)
theorem dX1_partner_54 : decode cX1_partner 54 = .ok (.getfield 338, 3) := dk_180 1 82 (dk_at dksX1_partner_2 8 rfl rfl)
theorem dX1_partner_57 : decode cX1_partner 57 = .ok (.invokevirtual 341, 3) := dk_182 1 85 (dk_at dksX1_partner_2 11 rfl rfl)
theorem dX1_partner_60 : decode cX1_partner 60 = .ok (.ireturn, 1) := dk_172 (dk_at dksX1_partner_2 14 rfl rfl)
abbrev cX1_checkArgument : ByteArray := prog_1_method_5_code
def yX1_checkArgument : MethodName := ⟨RX1, "checkArgument", "(Z)V"⟩
def dkwX1_checkArgument_0 : List UInt8 := [26, 154, 0, 11, 187, 0, 46, 89, 183, 0, 48, 191, 177]
abbrev dktX1_checkArgument_0 : List UInt8 := dkwX1_checkArgument_0 ++ []
theorem dksX1_checkArgument_0 : cX1_checkArgument.data.toList.drop 0 = dktX1_checkArgument_0 := by decide +kernel
theorem dX1_checkArgument_0 : decode cX1_checkArgument 0 = .ok (.iload_n 0, 1) := dk_26 (dk_at dksX1_checkArgument_0 0 rfl rfl)
theorem dX1_checkArgument_1 : decode cX1_checkArgument 1 = .ok (.ifCond .ne 11, 3) := dk_154 0 11 (dk_at dksX1_checkArgument_0 1 rfl rfl)
theorem dX1_checkArgument_4 : decode cX1_checkArgument 4 = .ok (.new 46, 3) := dk_187 0 46 (dk_at dksX1_checkArgument_0 4 rfl rfl)
theorem dX1_checkArgument_7 : decode cX1_checkArgument 7 = .ok (.dup, 1) := dk_89 (dk_at dksX1_checkArgument_0 7 rfl rfl)
theorem dX1_checkArgument_8 : decode cX1_checkArgument 8 = .ok (.invokespecial 48, 3) := dk_183 0 48 (dk_at dksX1_checkArgument_0 8 rfl rfl)
theorem dX1_checkArgument_11 : decode cX1_checkArgument 11 = .ok (.athrow, 1) := dk_191 (dk_at dksX1_checkArgument_0 11 rfl rfl)
theorem dX1_checkArgument_12 : decode cX1_checkArgument 12 = .ok (.return_, 1) := dk_177 (dk_at dksX1_checkArgument_0 12 rfl rfl)
abbrev cX1_loose : ByteArray := prog_1_method_40_code
def yX1_loose : MethodName := ⟨RX1, "loose", "(I)I"⟩
def dkwX1_loose_3 : List UInt8 := [182, 1, 85, 62, 132, 2, 255, 167, 255, 210, 29, 172]
abbrev dktX1_loose_3 : List UInt8 := dkwX1_loose_3 ++ []
def dkwX1_loose_2 : List UInt8 := [192, 0, 166, 58, 5, 25, 5, 182, 0, 168, 154, 0, 6, 167, 255, 226, 28, 154, 0, 9, 25, 5]
abbrev dktX1_loose_2 : List UInt8 := dkwX1_loose_2 ++ dktX1_loose_3
def dkwX1_loose_1 : List UInt8 := [185, 0, 152, 1, 0, 58, 4, 25, 4, 185, 0, 156, 1, 0, 153, 0, 42, 25, 4, 185, 0, 162, 1, 0]
abbrev dktX1_loose_1 : List UInt8 := dkwX1_loose_1 ++ dktX1_loose_2
def dkwX1_loose_0 : List UInt8 := [27, 42, 182, 0, 198, 184, 0, 59, 27, 61, 2, 62, 42, 180, 0, 24, 182, 0, 71, 180, 0, 149]
abbrev dktX1_loose_0 : List UInt8 := dkwX1_loose_0 ++ dktX1_loose_1
theorem dksX1_loose_0 : cX1_loose.data.toList.drop 0 = dktX1_loose_0 := by decide +kernel
theorem dksX1_loose_1 : cX1_loose.data.toList.drop 22 = dktX1_loose_1 := dk_seg dksX1_loose_0 22 rfl rfl
theorem dksX1_loose_2 : cX1_loose.data.toList.drop 46 = dktX1_loose_2 := dk_seg dksX1_loose_1 24 rfl rfl
theorem dksX1_loose_3 : cX1_loose.data.toList.drop 68 = dktX1_loose_3 := dk_seg dksX1_loose_2 22 rfl rfl
theorem dX1_loose_0 : decode cX1_loose 0 = .ok (.iload_n 1, 1) := dk_27 (dk_at dksX1_loose_0 0 rfl rfl)
theorem dX1_loose_1 : decode cX1_loose 1 = .ok (.aload_n 0, 1) := dk_42 (dk_at dksX1_loose_0 1 rfl rfl)
theorem dX1_loose_2 : decode cX1_loose 2 = .ok (.invokevirtual 198, 3) := dk_182 0 198 (dk_at dksX1_loose_0 2 rfl rfl)
theorem dX1_loose_5 : decode cX1_loose 5 = .ok (.invokestatic 59, 3) := dk_184 0 59 (dk_at dksX1_loose_0 5 rfl rfl)
theorem dX1_loose_8 : decode cX1_loose 8 = .ok (.iload_n 1, 1) := dk_27 (dk_at dksX1_loose_0 8 rfl rfl)
theorem dX1_loose_9 : decode cX1_loose 9 = .ok (.istore_n 2, 1) := dk_61 (dk_at dksX1_loose_0 9 rfl rfl)
theorem dX1_loose_10 : decode cX1_loose 10 = .ok (.iconst (-1), 1) := dk_2 (dk_at dksX1_loose_0 10 rfl rfl)
theorem dX1_loose_11 : decode cX1_loose 11 = .ok (.istore_n 3, 1) := dk_62 (dk_at dksX1_loose_0 11 rfl rfl)
theorem dX1_loose_12 : decode cX1_loose 12 = .ok (.aload_n 0, 1) := dk_42 (dk_at dksX1_loose_0 12 rfl rfl)
theorem dX1_loose_13 : decode cX1_loose 13 = .ok (.getfield 24, 3) := dk_180 0 24 (dk_at dksX1_loose_0 13 rfl rfl)
theorem dX1_loose_16 : decode cX1_loose 16 = .ok (.invokevirtual 71, 3) := dk_182 0 71 (dk_at dksX1_loose_0 16 rfl rfl)
theorem dX1_loose_19 : decode cX1_loose 19 = .ok (.getfield 149, 3) := dk_180 0 149 (dk_at dksX1_loose_0 19 rfl rfl)
theorem dX1_loose_22 : decode cX1_loose 22 = .ok (.invokeinterface 152 1, 5) := by decide +kernel
theorem dX1_loose_27 : decode cX1_loose 27 = .ok (.astore 4, 2) := dk_58 4 (dk_at dksX1_loose_1 5 rfl rfl)
theorem dX1_loose_29 : decode cX1_loose 29 = .ok (.aload 4, 2) := dk_25 4 (dk_at dksX1_loose_1 7 rfl rfl)
theorem dX1_loose_31 : decode cX1_loose 31 = .ok (.invokeinterface 156 1, 5) := by decide +kernel
theorem dX1_loose_36 : decode cX1_loose 36 = .ok (.ifCond .eq 42, 3) := dk_153 0 42 (dk_at dksX1_loose_1 14 rfl rfl)
theorem dX1_loose_39 : decode cX1_loose 39 = .ok (.aload 4, 2) := dk_25 4 (dk_at dksX1_loose_1 17 rfl rfl)
theorem dX1_loose_41 : decode cX1_loose 41 = .ok (.invokeinterface 162 1, 5) := by decide +kernel
theorem dX1_loose_46 : decode cX1_loose 46 = .ok (.checkcast 166, 3) := dk_192 0 166 (dk_at dksX1_loose_2 0 rfl rfl)
theorem dX1_loose_49 : decode cX1_loose 49 = .ok (.astore 5, 2) := dk_58 5 (dk_at dksX1_loose_2 3 rfl rfl)
theorem dX1_loose_51 : decode cX1_loose 51 = .ok (.aload 5, 2) := dk_25 5 (dk_at dksX1_loose_2 5 rfl rfl)
theorem dX1_loose_53 : decode cX1_loose 53 = .ok (.invokevirtual 168, 3) := dk_182 0 168 (dk_at dksX1_loose_2 7 rfl rfl)
theorem dX1_loose_56 : decode cX1_loose 56 = .ok (.ifCond .ne 6, 3) := dk_154 0 6 (dk_at dksX1_loose_2 10 rfl rfl)
theorem dX1_loose_59 : decode cX1_loose 59 = .ok (.goto (-30), 3) := dk_167 255 226 (dk_at dksX1_loose_2 13 rfl rfl)
theorem dX1_loose_62 : decode cX1_loose 62 = .ok (.iload_n 2, 1) := dk_28 (dk_at dksX1_loose_2 16 rfl rfl)
theorem dX1_loose_63 : decode cX1_loose 63 = .ok (.ifCond .ne 9, 3) := dk_154 0 9 (dk_at dksX1_loose_2 17 rfl rfl)
theorem dX1_loose_66 : decode cX1_loose 66 = .ok (.aload 5, 2) := dk_25 5 (dk_at dksX1_loose_2 20 rfl rfl)
theorem dX1_loose_68 : decode cX1_loose 68 = .ok (.invokevirtual 341, 3) := dk_182 1 85 (dk_at dksX1_loose_3 0 rfl rfl)
theorem dX1_loose_71 : decode cX1_loose 71 = .ok (.istore_n 3, 1) := dk_62 (dk_at dksX1_loose_3 3 rfl rfl)
theorem dX1_loose_72 : decode cX1_loose 72 = .ok (.iinc 2 (-1), 3) := dk_132 2 255 (dk_at dksX1_loose_3 4 rfl rfl)
theorem dX1_loose_75 : decode cX1_loose 75 = .ok (.goto (-46), 3) := dk_167 255 210 (dk_at dksX1_loose_3 7 rfl rfl)
theorem dX1_loose_78 : decode cX1_loose 78 = .ok (.iload_n 3, 1) := dk_29 (dk_at dksX1_loose_3 10 rfl rfl)
theorem dX1_loose_79 : decode cX1_loose 79 = .ok (.ireturn, 1) := dk_172 (dk_at dksX1_loose_3 11 rfl rfl)
abbrev cX1_outline : ByteArray := prog_1_method_42_code
def yX1_outline : MethodName := ⟨RX1, "outline", "(II)I"⟩
def dkwX1_outline_3 : List UInt8 := [167, 255, 209, 187, 0, 49, 89, 183, 0, 51, 191]
abbrev dktX1_outline_3 : List UInt8 := dkwX1_outline_3 ++ []
def dkwX1_outline_2 : List UInt8 := [180, 1, 57, 27, 159, 0, 6, 167, 255, 225, 29, 154, 0, 9, 25, 5, 180, 0, 90, 172, 132, 3, 255]
abbrev dktX1_outline_2 : List UInt8 := dkwX1_outline_2 ++ dktX1_outline_3
def dkwX1_outline_1 : List UInt8 := [185, 0, 156, 1, 0, 153, 0, 43, 25, 4, 185, 0, 162, 1, 0, 192, 0, 88, 58, 5, 25, 5]
abbrev dktX1_outline_1 : List UInt8 := dkwX1_outline_1 ++ dktX1_outline_2
def dkwX1_outline_0 : List UInt8 := [28, 62, 42, 180, 0, 24, 182, 0, 71, 180, 0, 75, 185, 0, 152, 1, 0, 58, 4, 25, 4]
abbrev dktX1_outline_0 : List UInt8 := dkwX1_outline_0 ++ dktX1_outline_1
theorem dksX1_outline_0 : cX1_outline.data.toList.drop 0 = dktX1_outline_0 := by decide +kernel
theorem dksX1_outline_1 : cX1_outline.data.toList.drop 21 = dktX1_outline_1 := dk_seg dksX1_outline_0 21 rfl rfl
theorem dksX1_outline_2 : cX1_outline.data.toList.drop 43 = dktX1_outline_2 := dk_seg dksX1_outline_1 22 rfl rfl
theorem dksX1_outline_3 : cX1_outline.data.toList.drop 66 = dktX1_outline_3 := dk_seg dksX1_outline_2 23 rfl rfl
theorem dX1_outline_0 : decode cX1_outline 0 = .ok (.iload_n 2, 1) := dk_28 (dk_at dksX1_outline_0 0 rfl rfl)
theorem dX1_outline_1 : decode cX1_outline 1 = .ok (.istore_n 3, 1) := dk_62 (dk_at dksX1_outline_0 1 rfl rfl)
theorem dX1_outline_2 : decode cX1_outline 2 = .ok (.aload_n 0, 1) := dk_42 (dk_at dksX1_outline_0 2 rfl rfl)
theorem dX1_outline_3 : decode cX1_outline 3 = .ok (.getfield 24, 3) := dk_180 0 24 (dk_at dksX1_outline_0 3 rfl rfl)
theorem dX1_outline_6 : decode cX1_outline 6 = .ok (.invokevirtual 71, 3) := dk_182 0 71 (dk_at dksX1_outline_0 6 rfl rfl)
theorem dX1_outline_9 : decode cX1_outline 9 = .ok (.getfield 75, 3) := dk_180 0 75 (dk_at dksX1_outline_0 9 rfl rfl)
theorem dX1_outline_12 : decode cX1_outline 12 = .ok (.invokeinterface 152 1, 5) := by decide +kernel
theorem dX1_outline_17 : decode cX1_outline 17 = .ok (.astore 4, 2) := dk_58 4 (dk_at dksX1_outline_0 17 rfl rfl)
theorem dX1_outline_19 : decode cX1_outline 19 = .ok (.aload 4, 2) := dk_25 4 (dk_at dksX1_outline_0 19 rfl rfl)
theorem dX1_outline_21 : decode cX1_outline 21 = .ok (.invokeinterface 156 1, 5) := by decide +kernel
theorem dX1_outline_26 : decode cX1_outline 26 = .ok (.ifCond .eq 43, 3) := dk_153 0 43 (dk_at dksX1_outline_1 5 rfl rfl)
theorem dX1_outline_29 : decode cX1_outline 29 = .ok (.aload 4, 2) := dk_25 4 (dk_at dksX1_outline_1 8 rfl rfl)
theorem dX1_outline_31 : decode cX1_outline 31 = .ok (.invokeinterface 162 1, 5) := by decide +kernel
theorem dX1_outline_36 : decode cX1_outline 36 = .ok (.checkcast 88, 3) := dk_192 0 88 (dk_at dksX1_outline_1 15 rfl rfl)
theorem dX1_outline_39 : decode cX1_outline 39 = .ok (.astore 5, 2) := dk_58 5 (dk_at dksX1_outline_1 18 rfl rfl)
theorem dX1_outline_41 : decode cX1_outline 41 = .ok (.aload 5, 2) := dk_25 5 (dk_at dksX1_outline_1 20 rfl rfl)
theorem dX1_outline_43 : decode cX1_outline 43 = .ok (.getfield 313, 3) := dk_180 1 57 (dk_at dksX1_outline_2 0 rfl rfl)
theorem dX1_outline_46 : decode cX1_outline 46 = .ok (.iload_n 1, 1) := dk_27 (dk_at dksX1_outline_2 3 rfl rfl)
theorem dX1_outline_47 : decode cX1_outline 47 = .ok (.if_icmp .eq 6, 3) := dk_159 0 6 (dk_at dksX1_outline_2 4 rfl rfl)
theorem dX1_outline_50 : decode cX1_outline 50 = .ok (.goto (-31), 3) := dk_167 255 225 (dk_at dksX1_outline_2 7 rfl rfl)
theorem dX1_outline_53 : decode cX1_outline 53 = .ok (.iload_n 3, 1) := dk_29 (dk_at dksX1_outline_2 10 rfl rfl)
theorem dX1_outline_54 : decode cX1_outline 54 = .ok (.ifCond .ne 9, 3) := dk_154 0 9 (dk_at dksX1_outline_2 11 rfl rfl)
theorem dX1_outline_57 : decode cX1_outline 57 = .ok (.aload 5, 2) := dk_25 5 (dk_at dksX1_outline_2 14 rfl rfl)
theorem dX1_outline_59 : decode cX1_outline 59 = .ok (.getfield 90, 3) := dk_180 0 90 (dk_at dksX1_outline_2 16 rfl rfl)
theorem dX1_outline_62 : decode cX1_outline 62 = .ok (.ireturn, 1) := dk_172 (dk_at dksX1_outline_2 19 rfl rfl)
theorem dX1_outline_63 : decode cX1_outline 63 = .ok (.iinc 3 (-1), 3) := dk_132 3 255 (dk_at dksX1_outline_2 20 rfl rfl)
theorem dX1_outline_66 : decode cX1_outline 66 = .ok (.goto (-47), 3) := dk_167 255 209 (dk_at dksX1_outline_3 0 rfl rfl)
theorem dX1_outline_69 : decode cX1_outline 69 = .ok (.new 49, 3) := dk_187 0 49 (dk_at dksX1_outline_3 3 rfl rfl)
theorem dX1_outline_72 : decode cX1_outline 72 = .ok (.dup, 1) := dk_89 (dk_at dksX1_outline_3 6 rfl rfl)
theorem dX1_outline_73 : decode cX1_outline 73 = .ok (.invokespecial 51, 3) := dk_183 0 51 (dk_at dksX1_outline_3 7 rfl rfl)
theorem dX1_outline_76 : decode cX1_outline 76 = .ok (.athrow, 1) := dk_191 (dk_at dksX1_outline_3 10 rfl rfl)
abbrev cX1_marker : ByteArray := prog_1_method_43_code
def yX1_marker : MethodName := ⟨RX1, "marker", "(I)I"⟩
def dkwX1_marker_1 : List UInt8 := [172]
abbrev dktX1_marker_1 : List UInt8 := dkwX1_marker_1 ++ []
def dkwX1_marker_0 : List UInt8 := [27, 16, 10, 184, 0, 59, 42, 180, 0, 24, 42, 180, 0, 24, 180, 0, 145, 27, 46, 182, 0, 254, 4, 96]
abbrev dktX1_marker_0 : List UInt8 := dkwX1_marker_0 ++ dktX1_marker_1
theorem dksX1_marker_0 : cX1_marker.data.toList.drop 0 = dktX1_marker_0 := by decide +kernel
theorem dksX1_marker_1 : cX1_marker.data.toList.drop 24 = dktX1_marker_1 := dk_seg dksX1_marker_0 24 rfl rfl
theorem dX1_marker_0 : decode cX1_marker 0 = .ok (.iload_n 1, 1) := dk_27 (dk_at dksX1_marker_0 0 rfl rfl)
theorem dX1_marker_1 : decode cX1_marker 1 = .ok (.bipush 10, 2) := dk_16 10 (dk_at dksX1_marker_0 1 rfl rfl)
theorem dX1_marker_3 : decode cX1_marker 3 = .ok (.invokestatic 59, 3) := dk_184 0 59 (dk_at dksX1_marker_0 3 rfl rfl)
theorem dX1_marker_6 : decode cX1_marker 6 = .ok (.aload_n 0, 1) := dk_42 (dk_at dksX1_marker_0 6 rfl rfl)
theorem dX1_marker_7 : decode cX1_marker 7 = .ok (.getfield 24, 3) := dk_180 0 24 (dk_at dksX1_marker_0 7 rfl rfl)
theorem dX1_marker_10 : decode cX1_marker 10 = .ok (.aload_n 0, 1) := dk_42 (dk_at dksX1_marker_0 10 rfl rfl)
theorem dX1_marker_11 : decode cX1_marker 11 = .ok (.getfield 24, 3) := dk_180 0 24 (dk_at dksX1_marker_0 11 rfl rfl)
theorem dX1_marker_14 : decode cX1_marker 14 = .ok (.getfield 145, 3) := dk_180 0 145 (dk_at dksX1_marker_0 14 rfl rfl)
theorem dX1_marker_17 : decode cX1_marker 17 = .ok (.iload_n 1, 1) := dk_27 (dk_at dksX1_marker_0 17 rfl rfl)
theorem dX1_marker_18 : decode cX1_marker 18 = .ok (.iaload, 1) := dk_46 (dk_at dksX1_marker_0 18 rfl rfl)
theorem dX1_marker_19 : decode cX1_marker 19 = .ok (.invokevirtual 254, 3) := dk_182 0 254 (dk_at dksX1_marker_0 19 rfl rfl)
theorem dX1_marker_22 : decode cX1_marker 22 = .ok (.iconst 1, 1) := dk_4 (dk_at dksX1_marker_0 22 rfl rfl)
theorem dX1_marker_23 : decode cX1_marker 23 = .ok (.iadd, 1) := dk_96 (dk_at dksX1_marker_0 23 rfl rfl)
theorem dX1_marker_24 : decode cX1_marker 24 = .ok (.ireturn, 1) := dk_172 (dk_at dksX1_marker_1 0 rfl rfl)
abbrev cX1_nextMarked : ByteArray := prog_1_method_44_code
def yX1_nextMarked : MethodName := ⟨RX1, "nextMarked", "(IZ)I"⟩
def dkwX1_nextMarked_2 : List UInt8 := [54, 6, 42, 21, 6, 182, 0, 242, 153, 0, 8, 21, 6, 4, 96, 172, 132, 5, 1, 167, 255, 210, 3, 172]
abbrev dktX1_nextMarked_2 : List UInt8 := dkwX1_nextMarked_2 ++ []
def dkwX1_nextMarked_1 : List UInt8 := [163, 0, 45, 28, 153, 0, 10, 29, 21, 5, 96, 167, 0, 7, 29, 21, 5, 100, 21, 4, 184, 1, 88]
abbrev dktX1_nextMarked_1 : List UInt8 := dkwX1_nextMarked_1 ++ dktX1_nextMarked_2
def dkwX1_nextMarked_0 : List UInt8 := [42, 27, 182, 0, 63, 62, 42, 180, 0, 24, 182, 0, 55, 54, 4, 4, 54, 5, 21, 5, 21, 4]
abbrev dktX1_nextMarked_0 : List UInt8 := dkwX1_nextMarked_0 ++ dktX1_nextMarked_1
theorem dksX1_nextMarked_0 : cX1_nextMarked.data.toList.drop 0 = dktX1_nextMarked_0 := by decide +kernel
theorem dksX1_nextMarked_1 : cX1_nextMarked.data.toList.drop 22 = dktX1_nextMarked_1 := dk_seg dksX1_nextMarked_0 22 rfl rfl
theorem dksX1_nextMarked_2 : cX1_nextMarked.data.toList.drop 45 = dktX1_nextMarked_2 := dk_seg dksX1_nextMarked_1 23 rfl rfl
theorem dX1_nextMarked_0 : decode cX1_nextMarked 0 = .ok (.aload_n 0, 1) := dk_42 (dk_at dksX1_nextMarked_0 0 rfl rfl)
theorem dX1_nextMarked_1 : decode cX1_nextMarked 1 = .ok (.iload_n 1, 1) := dk_27 (dk_at dksX1_nextMarked_0 1 rfl rfl)
theorem dX1_nextMarked_2 : decode cX1_nextMarked 2 = .ok (.invokevirtual 63, 3) := dk_182 0 63 (dk_at dksX1_nextMarked_0 2 rfl rfl)
theorem dX1_nextMarked_5 : decode cX1_nextMarked 5 = .ok (.istore_n 3, 1) := dk_62 (dk_at dksX1_nextMarked_0 5 rfl rfl)
theorem dX1_nextMarked_6 : decode cX1_nextMarked 6 = .ok (.aload_n 0, 1) := dk_42 (dk_at dksX1_nextMarked_0 6 rfl rfl)
theorem dX1_nextMarked_7 : decode cX1_nextMarked 7 = .ok (.getfield 24, 3) := dk_180 0 24 (dk_at dksX1_nextMarked_0 7 rfl rfl)
theorem dX1_nextMarked_10 : decode cX1_nextMarked 10 = .ok (.invokevirtual 55, 3) := dk_182 0 55 (dk_at dksX1_nextMarked_0 10 rfl rfl)
theorem dX1_nextMarked_13 : decode cX1_nextMarked 13 = .ok (.istore 4, 2) := dk_54 4 (dk_at dksX1_nextMarked_0 13 rfl rfl)
theorem dX1_nextMarked_15 : decode cX1_nextMarked 15 = .ok (.iconst 1, 1) := dk_4 (dk_at dksX1_nextMarked_0 15 rfl rfl)
theorem dX1_nextMarked_16 : decode cX1_nextMarked 16 = .ok (.istore 5, 2) := dk_54 5 (dk_at dksX1_nextMarked_0 16 rfl rfl)
theorem dX1_nextMarked_18 : decode cX1_nextMarked 18 = .ok (.iload 5, 2) := dk_21 5 (dk_at dksX1_nextMarked_0 18 rfl rfl)
theorem dX1_nextMarked_20 : decode cX1_nextMarked 20 = .ok (.iload 4, 2) := dk_21 4 (dk_at dksX1_nextMarked_0 20 rfl rfl)
theorem dX1_nextMarked_22 : decode cX1_nextMarked 22 = .ok (.if_icmp .gt 45, 3) := dk_163 0 45 (dk_at dksX1_nextMarked_1 0 rfl rfl)
theorem dX1_nextMarked_25 : decode cX1_nextMarked 25 = .ok (.iload_n 2, 1) := dk_28 (dk_at dksX1_nextMarked_1 3 rfl rfl)
theorem dX1_nextMarked_26 : decode cX1_nextMarked 26 = .ok (.ifCond .eq 10, 3) := dk_153 0 10 (dk_at dksX1_nextMarked_1 4 rfl rfl)
theorem dX1_nextMarked_29 : decode cX1_nextMarked 29 = .ok (.iload_n 3, 1) := dk_29 (dk_at dksX1_nextMarked_1 7 rfl rfl)
theorem dX1_nextMarked_30 : decode cX1_nextMarked 30 = .ok (.iload 5, 2) := dk_21 5 (dk_at dksX1_nextMarked_1 8 rfl rfl)
theorem dX1_nextMarked_32 : decode cX1_nextMarked 32 = .ok (.iadd, 1) := dk_96 (dk_at dksX1_nextMarked_1 10 rfl rfl)
theorem dX1_nextMarked_33 : decode cX1_nextMarked 33 = .ok (.goto 7, 3) := dk_167 0 7 (dk_at dksX1_nextMarked_1 11 rfl rfl)
theorem dX1_nextMarked_36 : decode cX1_nextMarked 36 = .ok (.iload_n 3, 1) := dk_29 (dk_at dksX1_nextMarked_1 14 rfl rfl)
theorem dX1_nextMarked_37 : decode cX1_nextMarked 37 = .ok (.iload 5, 2) := dk_21 5 (dk_at dksX1_nextMarked_1 15 rfl rfl)
theorem dX1_nextMarked_39 : decode cX1_nextMarked 39 = .ok (.isub, 1) := dk_100 (dk_at dksX1_nextMarked_1 17 rfl rfl)
theorem dX1_nextMarked_40 : decode cX1_nextMarked 40 = .ok (.iload 4, 2) := dk_21 4 (dk_at dksX1_nextMarked_1 18 rfl rfl)
theorem dX1_nextMarked_42 : decode cX1_nextMarked 42 = .ok (.invokestatic 344, 3) := dk_184 1 88 (dk_at dksX1_nextMarked_1 20 rfl rfl)
theorem dX1_nextMarked_45 : decode cX1_nextMarked 45 = .ok (.istore 6, 2) := dk_54 6 (dk_at dksX1_nextMarked_2 0 rfl rfl)
theorem dX1_nextMarked_47 : decode cX1_nextMarked 47 = .ok (.aload_n 0, 1) := dk_42 (dk_at dksX1_nextMarked_2 2 rfl rfl)
theorem dX1_nextMarked_48 : decode cX1_nextMarked 48 = .ok (.iload 6, 2) := dk_21 6 (dk_at dksX1_nextMarked_2 3 rfl rfl)
theorem dX1_nextMarked_50 : decode cX1_nextMarked 50 = .ok (.invokevirtual 242, 3) := dk_182 0 242 (dk_at dksX1_nextMarked_2 5 rfl rfl)
theorem dX1_nextMarked_53 : decode cX1_nextMarked 53 = .ok (.ifCond .eq 8, 3) := dk_153 0 8 (dk_at dksX1_nextMarked_2 8 rfl rfl)
theorem dX1_nextMarked_56 : decode cX1_nextMarked 56 = .ok (.iload 6, 2) := dk_21 6 (dk_at dksX1_nextMarked_2 11 rfl rfl)
theorem dX1_nextMarked_58 : decode cX1_nextMarked 58 = .ok (.iconst 1, 1) := dk_4 (dk_at dksX1_nextMarked_2 13 rfl rfl)
theorem dX1_nextMarked_59 : decode cX1_nextMarked 59 = .ok (.iadd, 1) := dk_96 (dk_at dksX1_nextMarked_2 14 rfl rfl)
theorem dX1_nextMarked_60 : decode cX1_nextMarked 60 = .ok (.ireturn, 1) := dk_172 (dk_at dksX1_nextMarked_2 15 rfl rfl)
theorem dX1_nextMarked_61 : decode cX1_nextMarked 61 = .ok (.iinc 5 1, 3) := dk_132 5 1 (dk_at dksX1_nextMarked_2 16 rfl rfl)
theorem dX1_nextMarked_64 : decode cX1_nextMarked 64 = .ok (.goto (-46), 3) := dk_167 255 210 (dk_at dksX1_nextMarked_2 19 rfl rfl)
theorem dX1_nextMarked_67 : decode cX1_nextMarked 67 = .ok (.iconst 0, 1) := dk_3 (dk_at dksX1_nextMarked_2 22 rfl rfl)
theorem dX1_nextMarked_68 : decode cX1_nextMarked 68 = .ok (.ireturn, 1) := dk_172 (dk_at dksX1_nextMarked_2 23 rfl rfl)
abbrev cX1_labelled : ByteArray := prog_1_method_45_code
def yX1_labelled : MethodName := ⟨RX1, "labelled", "(I)I"⟩
def dkwX1_labelled_1 : List UInt8 := [172]
abbrev dktX1_labelled_1 : List UInt8 := dkwX1_labelled_1 ++ []
def dkwX1_labelled_0 : List UInt8 := [27, 42, 180, 0, 97, 4, 96, 184, 0, 59, 42, 180, 0, 24, 42, 27, 182, 1, 13, 182, 1, 91, 4, 96]
abbrev dktX1_labelled_0 : List UInt8 := dkwX1_labelled_0 ++ dktX1_labelled_1
theorem dksX1_labelled_0 : cX1_labelled.data.toList.drop 0 = dktX1_labelled_0 := by decide +kernel
theorem dksX1_labelled_1 : cX1_labelled.data.toList.drop 24 = dktX1_labelled_1 := dk_seg dksX1_labelled_0 24 rfl rfl
theorem dX1_labelled_0 : decode cX1_labelled 0 = .ok (.iload_n 1, 1) := dk_27 (dk_at dksX1_labelled_0 0 rfl rfl)
theorem dX1_labelled_1 : decode cX1_labelled 1 = .ok (.aload_n 0, 1) := dk_42 (dk_at dksX1_labelled_0 1 rfl rfl)
theorem dX1_labelled_2 : decode cX1_labelled 2 = .ok (.getfield 97, 3) := dk_180 0 97 (dk_at dksX1_labelled_0 2 rfl rfl)
theorem dX1_labelled_5 : decode cX1_labelled 5 = .ok (.iconst 1, 1) := dk_4 (dk_at dksX1_labelled_0 5 rfl rfl)
theorem dX1_labelled_6 : decode cX1_labelled 6 = .ok (.iadd, 1) := dk_96 (dk_at dksX1_labelled_0 6 rfl rfl)
theorem dX1_labelled_7 : decode cX1_labelled 7 = .ok (.invokestatic 59, 3) := dk_184 0 59 (dk_at dksX1_labelled_0 7 rfl rfl)
theorem dX1_labelled_10 : decode cX1_labelled 10 = .ok (.aload_n 0, 1) := dk_42 (dk_at dksX1_labelled_0 10 rfl rfl)
theorem dX1_labelled_11 : decode cX1_labelled 11 = .ok (.getfield 24, 3) := dk_180 0 24 (dk_at dksX1_labelled_0 11 rfl rfl)
theorem dX1_labelled_14 : decode cX1_labelled 14 = .ok (.aload_n 0, 1) := dk_42 (dk_at dksX1_labelled_0 14 rfl rfl)
theorem dX1_labelled_15 : decode cX1_labelled 15 = .ok (.iload_n 1, 1) := dk_27 (dk_at dksX1_labelled_0 15 rfl rfl)
theorem dX1_labelled_16 : decode cX1_labelled 16 = .ok (.invokevirtual 269, 3) := dk_182 1 13 (dk_at dksX1_labelled_0 16 rfl rfl)
theorem dX1_labelled_19 : decode cX1_labelled 19 = .ok (.invokevirtual 347, 3) := dk_182 1 91 (dk_at dksX1_labelled_0 19 rfl rfl)
theorem dX1_labelled_22 : decode cX1_labelled 22 = .ok (.iconst 1, 1) := dk_4 (dk_at dksX1_labelled_0 22 rfl rfl)
theorem dX1_labelled_23 : decode cX1_labelled 23 = .ok (.iadd, 1) := dk_96 (dk_at dksX1_labelled_0 23 rfl rfl)
theorem dX1_labelled_24 : decode cX1_labelled 24 = .ok (.ireturn, 1) := dk_172 (dk_at dksX1_labelled_1 0 rfl rfl)
abbrev cX1_labelLength : ByteArray := prog_1_method_46_code
def yX1_labelLength : MethodName := ⟨RX1, "labelLength", "(I)I"⟩
def dkwX1_labelLength_0 : List UInt8 := [42, 27, 182, 0, 219, 182, 1, 95, 182, 0, 104, 172]
abbrev dktX1_labelLength_0 : List UInt8 := dkwX1_labelLength_0 ++ []
theorem dksX1_labelLength_0 : cX1_labelLength.data.toList.drop 0 = dktX1_labelLength_0 := by decide +kernel
theorem dX1_labelLength_0 : decode cX1_labelLength 0 = .ok (.aload_n 0, 1) := dk_42 (dk_at dksX1_labelLength_0 0 rfl rfl)
theorem dX1_labelLength_1 : decode cX1_labelLength 1 = .ok (.iload_n 1, 1) := dk_27 (dk_at dksX1_labelLength_0 1 rfl rfl)
theorem dX1_labelLength_2 : decode cX1_labelLength 2 = .ok (.invokevirtual 219, 3) := dk_182 0 219 (dk_at dksX1_labelLength_0 2 rfl rfl)
theorem dX1_labelLength_5 : decode cX1_labelLength 5 = .ok (.invokevirtual 351, 3) := dk_182 1 95 (dk_at dksX1_labelLength_0 5 rfl rfl)
theorem dX1_labelLength_8 : decode cX1_labelLength 8 = .ok (.invokevirtual 104, 3) := dk_182 0 104 (dk_at dksX1_labelLength_0 8 rfl rfl)
theorem dX1_labelLength_11 : decode cX1_labelLength 11 = .ok (.ireturn, 1) := dk_172 (dk_at dksX1_labelLength_0 11 rfl rfl)
abbrev cX1_target : ByteArray := prog_1_method_47_code
def yX1_target : MethodName := ⟨RX1, "target", "(I)I"⟩
def dkwX1_target_1 : List UInt8 := [182, 1, 104, 61, 28, 2, 160, 0, 7, 2, 167, 0, 6, 28, 4, 96, 172]
abbrev dktX1_target_1 : List UInt8 := dkwX1_target_1 ++ []
def dkwX1_target_0 : List UInt8 := [42, 27, 182, 0, 219, 182, 1, 98, 182, 1, 101, 153, 0, 5, 3, 172, 42, 180, 0, 24, 27, 4, 100]
abbrev dktX1_target_0 : List UInt8 := dkwX1_target_0 ++ dktX1_target_1
theorem dksX1_target_0 : cX1_target.data.toList.drop 0 = dktX1_target_0 := by decide +kernel
theorem dksX1_target_1 : cX1_target.data.toList.drop 23 = dktX1_target_1 := dk_seg dksX1_target_0 23 rfl rfl
theorem dX1_target_0 : decode cX1_target 0 = .ok (.aload_n 0, 1) := dk_42 (dk_at dksX1_target_0 0 rfl rfl)
theorem dX1_target_1 : decode cX1_target 1 = .ok (.iload_n 1, 1) := dk_27 (dk_at dksX1_target_0 1 rfl rfl)
theorem dX1_target_2 : decode cX1_target 2 = .ok (.invokevirtual 219, 3) := dk_182 0 219 (dk_at dksX1_target_0 2 rfl rfl)
theorem dX1_target_5 : decode cX1_target 5 = .ok (.invokevirtual 354, 3) := dk_182 1 98 (dk_at dksX1_target_0 5 rfl rfl)
theorem dX1_target_8 : decode cX1_target 8 = .ok (.invokevirtual 357, 3) := dk_182 1 101 (dk_at dksX1_target_0 8 rfl rfl)
theorem dX1_target_11 : decode cX1_target 11 = .ok (.ifCond .eq 5, 3) := dk_153 0 5 (dk_at dksX1_target_0 11 rfl rfl)
theorem dX1_target_14 : decode cX1_target 14 = .ok (.iconst 0, 1) := dk_3 (dk_at dksX1_target_0 14 rfl rfl)
theorem dX1_target_15 : decode cX1_target 15 = .ok (.ireturn, 1) := dk_172 (dk_at dksX1_target_0 15 rfl rfl)
theorem dX1_target_16 : decode cX1_target 16 = .ok (.aload_n 0, 1) := dk_42 (dk_at dksX1_target_0 16 rfl rfl)
theorem dX1_target_17 : decode cX1_target 17 = .ok (.getfield 24, 3) := dk_180 0 24 (dk_at dksX1_target_0 17 rfl rfl)
theorem dX1_target_20 : decode cX1_target 20 = .ok (.iload_n 1, 1) := dk_27 (dk_at dksX1_target_0 20 rfl rfl)
theorem dX1_target_21 : decode cX1_target 21 = .ok (.iconst 1, 1) := dk_4 (dk_at dksX1_target_0 21 rfl rfl)
theorem dX1_target_22 : decode cX1_target 22 = .ok (.isub, 1) := dk_100 (dk_at dksX1_target_0 22 rfl rfl)
theorem dX1_target_23 : decode cX1_target 23 = .ok (.invokevirtual 360, 3) := dk_182 1 104 (dk_at dksX1_target_1 0 rfl rfl)
theorem dX1_target_26 : decode cX1_target 26 = .ok (.istore_n 2, 1) := dk_61 (dk_at dksX1_target_1 3 rfl rfl)
theorem dX1_target_27 : decode cX1_target 27 = .ok (.iload_n 2, 1) := dk_28 (dk_at dksX1_target_1 4 rfl rfl)
theorem dX1_target_28 : decode cX1_target 28 = .ok (.iconst (-1), 1) := dk_2 (dk_at dksX1_target_1 5 rfl rfl)
theorem dX1_target_29 : decode cX1_target 29 = .ok (.if_icmp .ne 7, 3) := dk_160 0 7 (dk_at dksX1_target_1 6 rfl rfl)
theorem dX1_target_32 : decode cX1_target 32 = .ok (.iconst (-1), 1) := dk_2 (dk_at dksX1_target_1 9 rfl rfl)
theorem dX1_target_33 : decode cX1_target 33 = .ok (.goto 6, 3) := dk_167 0 6 (dk_at dksX1_target_1 10 rfl rfl)
theorem dX1_target_36 : decode cX1_target 36 = .ok (.iload_n 2, 1) := dk_28 (dk_at dksX1_target_1 13 rfl rfl)
theorem dX1_target_37 : decode cX1_target 37 = .ok (.iconst 1, 1) := dk_4 (dk_at dksX1_target_1 14 rfl rfl)
theorem dX1_target_38 : decode cX1_target 38 = .ok (.iadd, 1) := dk_96 (dk_at dksX1_target_1 15 rfl rfl)
theorem dX1_target_39 : decode cX1_target 39 = .ok (.ireturn, 1) := dk_172 (dk_at dksX1_target_1 16 rfl rfl)
abbrev cX1_referrers : ByteArray := prog_1_method_48_code
def yX1_referrers : MethodName := ⟨RX1, "referrers", "(I)I"⟩
def dkwX1_referrers_0 : List UInt8 := [42, 27, 182, 0, 63, 61, 42, 187, 1, 107, 89, 42, 28, 183, 1, 109, 182, 0, 176, 172]
abbrev dktX1_referrers_0 : List UInt8 := dkwX1_referrers_0 ++ []
theorem dksX1_referrers_0 : cX1_referrers.data.toList.drop 0 = dktX1_referrers_0 := by decide +kernel
theorem dX1_referrers_0 : decode cX1_referrers 0 = .ok (.aload_n 0, 1) := dk_42 (dk_at dksX1_referrers_0 0 rfl rfl)
theorem dX1_referrers_1 : decode cX1_referrers 1 = .ok (.iload_n 1, 1) := dk_27 (dk_at dksX1_referrers_0 1 rfl rfl)
theorem dX1_referrers_2 : decode cX1_referrers 2 = .ok (.invokevirtual 63, 3) := dk_182 0 63 (dk_at dksX1_referrers_0 2 rfl rfl)
theorem dX1_referrers_5 : decode cX1_referrers 5 = .ok (.istore_n 2, 1) := dk_61 (dk_at dksX1_referrers_0 5 rfl rfl)
theorem dX1_referrers_6 : decode cX1_referrers 6 = .ok (.aload_n 0, 1) := dk_42 (dk_at dksX1_referrers_0 6 rfl rfl)
theorem dX1_referrers_7 : decode cX1_referrers 7 = .ok (.new 363, 3) := dk_187 1 107 (dk_at dksX1_referrers_0 7 rfl rfl)
theorem dX1_referrers_10 : decode cX1_referrers 10 = .ok (.dup, 1) := dk_89 (dk_at dksX1_referrers_0 10 rfl rfl)
theorem dX1_referrers_11 : decode cX1_referrers 11 = .ok (.aload_n 0, 1) := dk_42 (dk_at dksX1_referrers_0 11 rfl rfl)
theorem dX1_referrers_12 : decode cX1_referrers 12 = .ok (.iload_n 2, 1) := dk_28 (dk_at dksX1_referrers_0 12 rfl rfl)
theorem dX1_referrers_13 : decode cX1_referrers 13 = .ok (.invokespecial 365, 3) := dk_183 1 109 (dk_at dksX1_referrers_0 13 rfl rfl)
theorem dX1_referrers_16 : decode cX1_referrers 16 = .ok (.invokevirtual 176, 3) := dk_182 0 176 (dk_at dksX1_referrers_0 16 rfl rfl)
theorem dX1_referrers_19 : decode cX1_referrers 19 = .ok (.ireturn, 1) := dk_172 (dk_at dksX1_referrers_0 19 rfl rfl)
abbrev cX1_referrer : ByteArray := prog_1_method_49_code
def yX1_referrer : MethodName := ⟨RX1, "referrer", "(II)I"⟩
def dkwX1_referrer_2 : List UInt8 := [96, 172, 132, 4, 255, 132, 5, 1, 167, 255, 212, 187, 0, 49, 89, 183, 0, 51, 191]
abbrev dktX1_referrer_2 : List UInt8 := dkwX1_referrer_2 ++ []
def dkwX1_referrer_1 : List UInt8 := [42, 180, 0, 24, 21, 5, 182, 1, 104, 29, 159, 0, 6, 167, 0, 16, 21, 4, 154, 0, 8, 21, 5, 4]
abbrev dktX1_referrer_1 : List UInt8 := dkwX1_referrer_1 ++ dktX1_referrer_2
def dkwX1_referrer_0 : List UInt8 := [42, 27, 182, 0, 63, 62, 28, 54, 4, 3, 54, 5, 21, 5, 42, 180, 0, 24, 182, 0, 55, 162, 0, 38]
abbrev dktX1_referrer_0 : List UInt8 := dkwX1_referrer_0 ++ dktX1_referrer_1
theorem dksX1_referrer_0 : cX1_referrer.data.toList.drop 0 = dktX1_referrer_0 := by decide +kernel
theorem dksX1_referrer_1 : cX1_referrer.data.toList.drop 24 = dktX1_referrer_1 := dk_seg dksX1_referrer_0 24 rfl rfl
theorem dksX1_referrer_2 : cX1_referrer.data.toList.drop 48 = dktX1_referrer_2 := dk_seg dksX1_referrer_1 24 rfl rfl
theorem dX1_referrer_0 : decode cX1_referrer 0 = .ok (.aload_n 0, 1) := dk_42 (dk_at dksX1_referrer_0 0 rfl rfl)
theorem dX1_referrer_1 : decode cX1_referrer 1 = .ok (.iload_n 1, 1) := dk_27 (dk_at dksX1_referrer_0 1 rfl rfl)
theorem dX1_referrer_2 : decode cX1_referrer 2 = .ok (.invokevirtual 63, 3) := dk_182 0 63 (dk_at dksX1_referrer_0 2 rfl rfl)
theorem dX1_referrer_5 : decode cX1_referrer 5 = .ok (.istore_n 3, 1) := dk_62 (dk_at dksX1_referrer_0 5 rfl rfl)
theorem dX1_referrer_6 : decode cX1_referrer 6 = .ok (.iload_n 2, 1) := dk_28 (dk_at dksX1_referrer_0 6 rfl rfl)
theorem dX1_referrer_7 : decode cX1_referrer 7 = .ok (.istore 4, 2) := dk_54 4 (dk_at dksX1_referrer_0 7 rfl rfl)
theorem dX1_referrer_9 : decode cX1_referrer 9 = .ok (.iconst 0, 1) := dk_3 (dk_at dksX1_referrer_0 9 rfl rfl)
theorem dX1_referrer_10 : decode cX1_referrer 10 = .ok (.istore 5, 2) := dk_54 5 (dk_at dksX1_referrer_0 10 rfl rfl)
theorem dX1_referrer_12 : decode cX1_referrer 12 = .ok (.iload 5, 2) := dk_21 5 (dk_at dksX1_referrer_0 12 rfl rfl)
theorem dX1_referrer_14 : decode cX1_referrer 14 = .ok (.aload_n 0, 1) := dk_42 (dk_at dksX1_referrer_0 14 rfl rfl)
theorem dX1_referrer_15 : decode cX1_referrer 15 = .ok (.getfield 24, 3) := dk_180 0 24 (dk_at dksX1_referrer_0 15 rfl rfl)
theorem dX1_referrer_18 : decode cX1_referrer 18 = .ok (.invokevirtual 55, 3) := dk_182 0 55 (dk_at dksX1_referrer_0 18 rfl rfl)
theorem dX1_referrer_21 : decode cX1_referrer 21 = .ok (.if_icmp .ge 38, 3) := dk_162 0 38 (dk_at dksX1_referrer_0 21 rfl rfl)
theorem dX1_referrer_24 : decode cX1_referrer 24 = .ok (.aload_n 0, 1) := dk_42 (dk_at dksX1_referrer_1 0 rfl rfl)
theorem dX1_referrer_25 : decode cX1_referrer 25 = .ok (.getfield 24, 3) := dk_180 0 24 (dk_at dksX1_referrer_1 1 rfl rfl)
theorem dX1_referrer_28 : decode cX1_referrer 28 = .ok (.iload 5, 2) := dk_21 5 (dk_at dksX1_referrer_1 4 rfl rfl)
theorem dX1_referrer_30 : decode cX1_referrer 30 = .ok (.invokevirtual 360, 3) := dk_182 1 104 (dk_at dksX1_referrer_1 6 rfl rfl)
theorem dX1_referrer_33 : decode cX1_referrer 33 = .ok (.iload_n 3, 1) := dk_29 (dk_at dksX1_referrer_1 9 rfl rfl)
theorem dX1_referrer_34 : decode cX1_referrer 34 = .ok (.if_icmp .eq 6, 3) := dk_159 0 6 (dk_at dksX1_referrer_1 10 rfl rfl)
theorem dX1_referrer_37 : decode cX1_referrer 37 = .ok (.goto 16, 3) := dk_167 0 16 (dk_at dksX1_referrer_1 13 rfl rfl)
theorem dX1_referrer_40 : decode cX1_referrer 40 = .ok (.iload 4, 2) := dk_21 4 (dk_at dksX1_referrer_1 16 rfl rfl)
theorem dX1_referrer_42 : decode cX1_referrer 42 = .ok (.ifCond .ne 8, 3) := dk_154 0 8 (dk_at dksX1_referrer_1 18 rfl rfl)
theorem dX1_referrer_45 : decode cX1_referrer 45 = .ok (.iload 5, 2) := dk_21 5 (dk_at dksX1_referrer_1 21 rfl rfl)
theorem dX1_referrer_47 : decode cX1_referrer 47 = .ok (.iconst 1, 1) := dk_4 (dk_at dksX1_referrer_1 23 rfl rfl)
theorem dX1_referrer_48 : decode cX1_referrer 48 = .ok (.iadd, 1) := dk_96 (dk_at dksX1_referrer_2 0 rfl rfl)
theorem dX1_referrer_49 : decode cX1_referrer 49 = .ok (.ireturn, 1) := dk_172 (dk_at dksX1_referrer_2 1 rfl rfl)
theorem dX1_referrer_50 : decode cX1_referrer 50 = .ok (.iinc 4 (-1), 3) := dk_132 4 255 (dk_at dksX1_referrer_2 2 rfl rfl)
theorem dX1_referrer_53 : decode cX1_referrer 53 = .ok (.iinc 5 1, 3) := dk_132 5 1 (dk_at dksX1_referrer_2 5 rfl rfl)
theorem dX1_referrer_56 : decode cX1_referrer 56 = .ok (.goto (-44), 3) := dk_167 255 212 (dk_at dksX1_referrer_2 8 rfl rfl)
theorem dX1_referrer_59 : decode cX1_referrer 59 = .ok (.new 49, 3) := dk_187 0 49 (dk_at dksX1_referrer_2 11 rfl rfl)
theorem dX1_referrer_62 : decode cX1_referrer 62 = .ok (.dup, 1) := dk_89 (dk_at dksX1_referrer_2 14 rfl rfl)
theorem dX1_referrer_63 : decode cX1_referrer 63 = .ok (.invokespecial 51, 3) := dk_183 0 51 (dk_at dksX1_referrer_2 15 rfl rfl)
theorem dX1_referrer_66 : decode cX1_referrer 66 = .ok (.athrow, 1) := dk_191 (dk_at dksX1_referrer_2 18 rfl rfl)
abbrev cX1_jumped : ByteArray := prog_1_method_51_code
def yX1_jumped : MethodName := ⟨RX1, "jumped", "(ZI)I"⟩
def dkwX1_jumped_2 : List UInt8 := [192, 1, 21, 182, 1, 23, 182, 0, 254, 4, 96, 172]
abbrev dktX1_jumped_2 : List UInt8 := dkwX1_jumped_2 ++ []
def dkwX1_jumped_1 : List UInt8 := [182, 0, 205, 184, 0, 59, 42, 180, 0, 24, 45, 45, 182, 0, 205, 4, 100, 28, 100, 182, 1, 113]
abbrev dktX1_jumped_1 : List UInt8 := dkwX1_jumped_1 ++ dktX1_jumped_2
def dkwX1_jumped_0 : List UInt8 := [27, 153, 0, 13, 42, 180, 0, 24, 180, 0, 208, 167, 0, 10, 42, 180, 0, 24, 180, 0, 201, 78, 28, 45]
abbrev dktX1_jumped_0 : List UInt8 := dkwX1_jumped_0 ++ dktX1_jumped_1
theorem dksX1_jumped_0 : cX1_jumped.data.toList.drop 0 = dktX1_jumped_0 := by decide +kernel
theorem dksX1_jumped_1 : cX1_jumped.data.toList.drop 24 = dktX1_jumped_1 := dk_seg dksX1_jumped_0 24 rfl rfl
theorem dksX1_jumped_2 : cX1_jumped.data.toList.drop 46 = dktX1_jumped_2 := dk_seg dksX1_jumped_1 22 rfl rfl
theorem dX1_jumped_0 : decode cX1_jumped 0 = .ok (.iload_n 1, 1) := dk_27 (dk_at dksX1_jumped_0 0 rfl rfl)
theorem dX1_jumped_1 : decode cX1_jumped 1 = .ok (.ifCond .eq 13, 3) := dk_153 0 13 (dk_at dksX1_jumped_0 1 rfl rfl)
theorem dX1_jumped_4 : decode cX1_jumped 4 = .ok (.aload_n 0, 1) := dk_42 (dk_at dksX1_jumped_0 4 rfl rfl)
theorem dX1_jumped_5 : decode cX1_jumped 5 = .ok (.getfield 24, 3) := dk_180 0 24 (dk_at dksX1_jumped_0 5 rfl rfl)
theorem dX1_jumped_8 : decode cX1_jumped 8 = .ok (.getfield 208, 3) := dk_180 0 208 (dk_at dksX1_jumped_0 8 rfl rfl)
theorem dX1_jumped_11 : decode cX1_jumped 11 = .ok (.goto 10, 3) := dk_167 0 10 (dk_at dksX1_jumped_0 11 rfl rfl)
theorem dX1_jumped_14 : decode cX1_jumped 14 = .ok (.aload_n 0, 1) := dk_42 (dk_at dksX1_jumped_0 14 rfl rfl)
theorem dX1_jumped_15 : decode cX1_jumped 15 = .ok (.getfield 24, 3) := dk_180 0 24 (dk_at dksX1_jumped_0 15 rfl rfl)
theorem dX1_jumped_18 : decode cX1_jumped 18 = .ok (.getfield 201, 3) := dk_180 0 201 (dk_at dksX1_jumped_0 18 rfl rfl)
theorem dX1_jumped_21 : decode cX1_jumped 21 = .ok (.astore_n 3, 1) := dk_78 (dk_at dksX1_jumped_0 21 rfl rfl)
theorem dX1_jumped_22 : decode cX1_jumped 22 = .ok (.iload_n 2, 1) := dk_28 (dk_at dksX1_jumped_0 22 rfl rfl)
theorem dX1_jumped_23 : decode cX1_jumped 23 = .ok (.aload_n 3, 1) := dk_45 (dk_at dksX1_jumped_0 23 rfl rfl)
theorem dX1_jumped_24 : decode cX1_jumped 24 = .ok (.invokevirtual 205, 3) := dk_182 0 205 (dk_at dksX1_jumped_1 0 rfl rfl)
theorem dX1_jumped_27 : decode cX1_jumped 27 = .ok (.invokestatic 59, 3) := dk_184 0 59 (dk_at dksX1_jumped_1 3 rfl rfl)
theorem dX1_jumped_30 : decode cX1_jumped 30 = .ok (.aload_n 0, 1) := dk_42 (dk_at dksX1_jumped_1 6 rfl rfl)
theorem dX1_jumped_31 : decode cX1_jumped 31 = .ok (.getfield 24, 3) := dk_180 0 24 (dk_at dksX1_jumped_1 7 rfl rfl)
theorem dX1_jumped_34 : decode cX1_jumped 34 = .ok (.aload_n 3, 1) := dk_45 (dk_at dksX1_jumped_1 10 rfl rfl)
theorem dX1_jumped_35 : decode cX1_jumped 35 = .ok (.aload_n 3, 1) := dk_45 (dk_at dksX1_jumped_1 11 rfl rfl)
theorem dX1_jumped_36 : decode cX1_jumped 36 = .ok (.invokevirtual 205, 3) := dk_182 0 205 (dk_at dksX1_jumped_1 12 rfl rfl)
theorem dX1_jumped_39 : decode cX1_jumped 39 = .ok (.iconst 1, 1) := dk_4 (dk_at dksX1_jumped_1 15 rfl rfl)
theorem dX1_jumped_40 : decode cX1_jumped 40 = .ok (.isub, 1) := dk_100 (dk_at dksX1_jumped_1 16 rfl rfl)
theorem dX1_jumped_41 : decode cX1_jumped 41 = .ok (.iload_n 2, 1) := dk_28 (dk_at dksX1_jumped_1 17 rfl rfl)
theorem dX1_jumped_42 : decode cX1_jumped 42 = .ok (.isub, 1) := dk_100 (dk_at dksX1_jumped_1 18 rfl rfl)
theorem dX1_jumped_43 : decode cX1_jumped 43 = .ok (.invokevirtual 369, 3) := dk_182 1 113 (dk_at dksX1_jumped_1 19 rfl rfl)
theorem dX1_jumped_46 : decode cX1_jumped 46 = .ok (.checkcast 277, 3) := dk_192 1 21 (dk_at dksX1_jumped_2 0 rfl rfl)
theorem dX1_jumped_49 : decode cX1_jumped 49 = .ok (.invokevirtual 279, 3) := dk_182 1 23 (dk_at dksX1_jumped_2 3 rfl rfl)
theorem dX1_jumped_52 : decode cX1_jumped 52 = .ok (.invokevirtual 254, 3) := dk_182 0 254 (dk_at dksX1_jumped_2 6 rfl rfl)
theorem dX1_jumped_55 : decode cX1_jumped 55 = .ok (.iconst 1, 1) := dk_4 (dk_at dksX1_jumped_2 9 rfl rfl)
theorem dX1_jumped_56 : decode cX1_jumped 56 = .ok (.iadd, 1) := dk_96 (dk_at dksX1_jumped_2 10 rfl rfl)
theorem dX1_jumped_57 : decode cX1_jumped 57 = .ok (.ireturn, 1) := dk_172 (dk_at dksX1_jumped_2 11 rfl rfl)
abbrev cX1_shownIf : ByteArray := prog_1_method_53_code
def yX1_shownIf : MethodName := ⟨RX1, "shownIf", "(IZ)I"⟩
def dkwX1_shownIf_0 : List UInt8 := [42, 42, 27, 182, 0, 63, 28, 182, 1, 128, 172]
abbrev dktX1_shownIf_0 : List UInt8 := dkwX1_shownIf_0 ++ []
theorem dksX1_shownIf_0 : cX1_shownIf.data.toList.drop 0 = dktX1_shownIf_0 := by decide +kernel
theorem dX1_shownIf_0 : decode cX1_shownIf 0 = .ok (.aload_n 0, 1) := dk_42 (dk_at dksX1_shownIf_0 0 rfl rfl)
theorem dX1_shownIf_1 : decode cX1_shownIf 1 = .ok (.aload_n 0, 1) := dk_42 (dk_at dksX1_shownIf_0 1 rfl rfl)
theorem dX1_shownIf_2 : decode cX1_shownIf 2 = .ok (.iload_n 1, 1) := dk_27 (dk_at dksX1_shownIf_0 2 rfl rfl)
theorem dX1_shownIf_3 : decode cX1_shownIf 3 = .ok (.invokevirtual 63, 3) := dk_182 0 63 (dk_at dksX1_shownIf_0 3 rfl rfl)
theorem dX1_shownIf_6 : decode cX1_shownIf 6 = .ok (.iload_n 2, 1) := dk_28 (dk_at dksX1_shownIf_0 6 rfl rfl)
theorem dX1_shownIf_7 : decode cX1_shownIf 7 = .ok (.invokevirtual 384, 3) := dk_182 1 128 (dk_at dksX1_shownIf_0 7 rfl rfl)
theorem dX1_shownIf_10 : decode cX1_shownIf 10 = .ok (.ireturn, 1) := dk_172 (dk_at dksX1_shownIf_0 10 rfl rfl)
abbrev cX1_opensFor : ByteArray := prog_1_method_54_code
def yX1_opensFor : MethodName := ⟨RX1, "opensFor", "(I)I"⟩
def dkwX1_opensFor_0 : List UInt8 := [42, 180, 0, 24, 182, 0, 71, 42, 27, 182, 0, 63, 182, 1, 132, 182, 1, 123, 172]
abbrev dktX1_opensFor_0 : List UInt8 := dkwX1_opensFor_0 ++ []
theorem dksX1_opensFor_0 : cX1_opensFor.data.toList.drop 0 = dktX1_opensFor_0 := by decide +kernel
theorem dX1_opensFor_0 : decode cX1_opensFor 0 = .ok (.aload_n 0, 1) := dk_42 (dk_at dksX1_opensFor_0 0 rfl rfl)
theorem dX1_opensFor_1 : decode cX1_opensFor 1 = .ok (.getfield 24, 3) := dk_180 0 24 (dk_at dksX1_opensFor_0 1 rfl rfl)
theorem dX1_opensFor_4 : decode cX1_opensFor 4 = .ok (.invokevirtual 71, 3) := dk_182 0 71 (dk_at dksX1_opensFor_0 4 rfl rfl)
theorem dX1_opensFor_7 : decode cX1_opensFor 7 = .ok (.aload_n 0, 1) := dk_42 (dk_at dksX1_opensFor_0 7 rfl rfl)
theorem dX1_opensFor_8 : decode cX1_opensFor 8 = .ok (.iload_n 1, 1) := dk_27 (dk_at dksX1_opensFor_0 8 rfl rfl)
theorem dX1_opensFor_9 : decode cX1_opensFor 9 = .ok (.invokevirtual 63, 3) := dk_182 0 63 (dk_at dksX1_opensFor_0 9 rfl rfl)
theorem dX1_opensFor_12 : decode cX1_opensFor 12 = .ok (.invokevirtual 388, 3) := dk_182 1 132 (dk_at dksX1_opensFor_0 12 rfl rfl)
theorem dX1_opensFor_15 : decode cX1_opensFor 15 = .ok (.invokevirtual 379, 3) := dk_182 1 123 (dk_at dksX1_opensFor_0 15 rfl rfl)
theorem dX1_opensFor_18 : decode cX1_opensFor 18 = .ok (.ireturn, 1) := dk_172 (dk_at dksX1_opensFor_0 18 rfl rfl)
abbrev cX1_rowIf : ByteArray := prog_1_method_57_code
def yX1_rowIf : MethodName := ⟨RX1, "rowIf", "(I)I"⟩
def dkwX1_rowIf_3 : List UInt8 := [54, 5, 132, 6, 1, 167, 255, 227, 21, 5, 172]
abbrev dktX1_rowIf_3 : List UInt8 := dkwX1_rowIf_3 ++ []
def dkwX1_rowIf_2 : List UInt8 := [21, 6, 28, 163, 0, 29, 21, 5, 25, 4, 21, 6, 182, 1, 146, 153, 0, 7, 3, 167, 0, 4, 4, 96]
abbrev dktX1_rowIf_2 : List UInt8 := dkwX1_rowIf_2 ++ dktX1_rowIf_3
def dkwX1_rowIf_1 : List UInt8 := [182, 0, 71, 187, 1, 141, 89, 42, 45, 183, 1, 143, 182, 1, 119, 58, 4, 3, 54, 5, 3, 54, 6]
abbrev dktX1_rowIf_1 : List UInt8 := dkwX1_rowIf_1 ++ dktX1_rowIf_2
def dkwX1_rowIf_0 : List UInt8 := [42, 27, 182, 0, 63, 61, 42, 180, 0, 24, 182, 0, 71, 28, 182, 1, 132, 78, 42, 180, 0, 24]
abbrev dktX1_rowIf_0 : List UInt8 := dkwX1_rowIf_0 ++ dktX1_rowIf_1
theorem dksX1_rowIf_0 : cX1_rowIf.data.toList.drop 0 = dktX1_rowIf_0 := by decide +kernel
theorem dksX1_rowIf_1 : cX1_rowIf.data.toList.drop 22 = dktX1_rowIf_1 := dk_seg dksX1_rowIf_0 22 rfl rfl
theorem dksX1_rowIf_2 : cX1_rowIf.data.toList.drop 45 = dktX1_rowIf_2 := dk_seg dksX1_rowIf_1 23 rfl rfl
theorem dksX1_rowIf_3 : cX1_rowIf.data.toList.drop 69 = dktX1_rowIf_3 := dk_seg dksX1_rowIf_2 24 rfl rfl
theorem dX1_rowIf_0 : decode cX1_rowIf 0 = .ok (.aload_n 0, 1) := dk_42 (dk_at dksX1_rowIf_0 0 rfl rfl)
theorem dX1_rowIf_1 : decode cX1_rowIf 1 = .ok (.iload_n 1, 1) := dk_27 (dk_at dksX1_rowIf_0 1 rfl rfl)
theorem dX1_rowIf_2 : decode cX1_rowIf 2 = .ok (.invokevirtual 63, 3) := dk_182 0 63 (dk_at dksX1_rowIf_0 2 rfl rfl)
theorem dX1_rowIf_5 : decode cX1_rowIf 5 = .ok (.istore_n 2, 1) := dk_61 (dk_at dksX1_rowIf_0 5 rfl rfl)
theorem dX1_rowIf_6 : decode cX1_rowIf 6 = .ok (.aload_n 0, 1) := dk_42 (dk_at dksX1_rowIf_0 6 rfl rfl)
theorem dX1_rowIf_7 : decode cX1_rowIf 7 = .ok (.getfield 24, 3) := dk_180 0 24 (dk_at dksX1_rowIf_0 7 rfl rfl)
theorem dX1_rowIf_10 : decode cX1_rowIf 10 = .ok (.invokevirtual 71, 3) := dk_182 0 71 (dk_at dksX1_rowIf_0 10 rfl rfl)
theorem dX1_rowIf_13 : decode cX1_rowIf 13 = .ok (.iload_n 2, 1) := dk_28 (dk_at dksX1_rowIf_0 13 rfl rfl)
theorem dX1_rowIf_14 : decode cX1_rowIf 14 = .ok (.invokevirtual 388, 3) := dk_182 1 132 (dk_at dksX1_rowIf_0 14 rfl rfl)
theorem dX1_rowIf_17 : decode cX1_rowIf 17 = .ok (.astore_n 3, 1) := dk_78 (dk_at dksX1_rowIf_0 17 rfl rfl)
theorem dX1_rowIf_18 : decode cX1_rowIf 18 = .ok (.aload_n 0, 1) := dk_42 (dk_at dksX1_rowIf_0 18 rfl rfl)
theorem dX1_rowIf_19 : decode cX1_rowIf 19 = .ok (.getfield 24, 3) := dk_180 0 24 (dk_at dksX1_rowIf_0 19 rfl rfl)
theorem dX1_rowIf_22 : decode cX1_rowIf 22 = .ok (.invokevirtual 71, 3) := dk_182 0 71 (dk_at dksX1_rowIf_1 0 rfl rfl)
theorem dX1_rowIf_25 : decode cX1_rowIf 25 = .ok (.new 397, 3) := dk_187 1 141 (dk_at dksX1_rowIf_1 3 rfl rfl)
theorem dX1_rowIf_28 : decode cX1_rowIf 28 = .ok (.dup, 1) := dk_89 (dk_at dksX1_rowIf_1 6 rfl rfl)
theorem dX1_rowIf_29 : decode cX1_rowIf 29 = .ok (.aload_n 0, 1) := dk_42 (dk_at dksX1_rowIf_1 7 rfl rfl)
theorem dX1_rowIf_30 : decode cX1_rowIf 30 = .ok (.aload_n 3, 1) := dk_45 (dk_at dksX1_rowIf_1 8 rfl rfl)
theorem dX1_rowIf_31 : decode cX1_rowIf 31 = .ok (.invokespecial 399, 3) := dk_183 1 143 (dk_at dksX1_rowIf_1 9 rfl rfl)
theorem dX1_rowIf_34 : decode cX1_rowIf 34 = .ok (.invokevirtual 375, 3) := dk_182 1 119 (dk_at dksX1_rowIf_1 12 rfl rfl)
theorem dX1_rowIf_37 : decode cX1_rowIf 37 = .ok (.astore 4, 2) := dk_58 4 (dk_at dksX1_rowIf_1 15 rfl rfl)
theorem dX1_rowIf_39 : decode cX1_rowIf 39 = .ok (.iconst 0, 1) := dk_3 (dk_at dksX1_rowIf_1 17 rfl rfl)
theorem dX1_rowIf_40 : decode cX1_rowIf 40 = .ok (.istore 5, 2) := dk_54 5 (dk_at dksX1_rowIf_1 18 rfl rfl)
theorem dX1_rowIf_42 : decode cX1_rowIf 42 = .ok (.iconst 0, 1) := dk_3 (dk_at dksX1_rowIf_1 20 rfl rfl)
theorem dX1_rowIf_43 : decode cX1_rowIf 43 = .ok (.istore 6, 2) := dk_54 6 (dk_at dksX1_rowIf_1 21 rfl rfl)
theorem dX1_rowIf_45 : decode cX1_rowIf 45 = .ok (.iload 6, 2) := dk_21 6 (dk_at dksX1_rowIf_2 0 rfl rfl)
theorem dX1_rowIf_47 : decode cX1_rowIf 47 = .ok (.iload_n 2, 1) := dk_28 (dk_at dksX1_rowIf_2 2 rfl rfl)
theorem dX1_rowIf_48 : decode cX1_rowIf 48 = .ok (.if_icmp .gt 29, 3) := dk_163 0 29 (dk_at dksX1_rowIf_2 3 rfl rfl)
theorem dX1_rowIf_51 : decode cX1_rowIf 51 = .ok (.iload 5, 2) := dk_21 5 (dk_at dksX1_rowIf_2 6 rfl rfl)
theorem dX1_rowIf_53 : decode cX1_rowIf 53 = .ok (.aload 4, 2) := dk_25 4 (dk_at dksX1_rowIf_2 8 rfl rfl)
theorem dX1_rowIf_55 : decode cX1_rowIf 55 = .ok (.iload 6, 2) := dk_21 6 (dk_at dksX1_rowIf_2 10 rfl rfl)
theorem dX1_rowIf_57 : decode cX1_rowIf 57 = .ok (.invokevirtual 402, 3) := dk_182 1 146 (dk_at dksX1_rowIf_2 12 rfl rfl)
theorem dX1_rowIf_60 : decode cX1_rowIf 60 = .ok (.ifCond .eq 7, 3) := dk_153 0 7 (dk_at dksX1_rowIf_2 15 rfl rfl)
theorem dX1_rowIf_63 : decode cX1_rowIf 63 = .ok (.iconst 0, 1) := dk_3 (dk_at dksX1_rowIf_2 18 rfl rfl)
theorem dX1_rowIf_64 : decode cX1_rowIf 64 = .ok (.goto 4, 3) := dk_167 0 4 (dk_at dksX1_rowIf_2 19 rfl rfl)
theorem dX1_rowIf_67 : decode cX1_rowIf 67 = .ok (.iconst 1, 1) := dk_4 (dk_at dksX1_rowIf_2 22 rfl rfl)
theorem dX1_rowIf_68 : decode cX1_rowIf 68 = .ok (.iadd, 1) := dk_96 (dk_at dksX1_rowIf_2 23 rfl rfl)
theorem dX1_rowIf_69 : decode cX1_rowIf 69 = .ok (.istore 5, 2) := dk_54 5 (dk_at dksX1_rowIf_3 0 rfl rfl)
theorem dX1_rowIf_71 : decode cX1_rowIf 71 = .ok (.iinc 6 1, 3) := dk_132 6 1 (dk_at dksX1_rowIf_3 2 rfl rfl)
theorem dX1_rowIf_74 : decode cX1_rowIf 74 = .ok (.goto (-29), 3) := dk_167 255 227 (dk_at dksX1_rowIf_3 5 rfl rfl)
theorem dX1_rowIf_77 : decode cX1_rowIf 77 = .ok (.iload 5, 2) := dk_21 5 (dk_at dksX1_rowIf_3 8 rfl rfl)
theorem dX1_rowIf_79 : decode cX1_rowIf 79 = .ok (.ireturn, 1) := dk_172 (dk_at dksX1_rowIf_3 10 rfl rfl)
abbrev cX1_steps : ByteArray := prog_1_method_58_code
def yX1_steps : MethodName := ⟨RX1, "steps", "(II)I"⟩
def dkwX1_steps_2 : List UInt8 := [172, 42, 180, 0, 24, 21, 5, 182, 1, 104, 54, 5, 132, 6, 1, 167, 255, 214, 2, 172]
abbrev dktX1_steps_2 : List UInt8 := dkwX1_steps_2 ++ []
def dkwX1_steps_1 : List UInt8 := [180, 0, 24, 182, 0, 55, 163, 0, 36, 21, 5, 2, 159, 0, 30, 21, 5, 21, 4, 160, 0, 6, 21, 6]
abbrev dktX1_steps_1 : List UInt8 := dkwX1_steps_1 ++ dktX1_steps_2
def dkwX1_steps_0 : List UInt8 := [42, 27, 182, 0, 63, 62, 42, 28, 182, 0, 63, 54, 4, 29, 54, 5, 3, 54, 6, 21, 6, 42]
abbrev dktX1_steps_0 : List UInt8 := dkwX1_steps_0 ++ dktX1_steps_1
theorem dksX1_steps_0 : cX1_steps.data.toList.drop 0 = dktX1_steps_0 := by decide +kernel
theorem dksX1_steps_1 : cX1_steps.data.toList.drop 22 = dktX1_steps_1 := dk_seg dksX1_steps_0 22 rfl rfl
theorem dksX1_steps_2 : cX1_steps.data.toList.drop 46 = dktX1_steps_2 := dk_seg dksX1_steps_1 24 rfl rfl
theorem dX1_steps_0 : decode cX1_steps 0 = .ok (.aload_n 0, 1) := dk_42 (dk_at dksX1_steps_0 0 rfl rfl)
theorem dX1_steps_1 : decode cX1_steps 1 = .ok (.iload_n 1, 1) := dk_27 (dk_at dksX1_steps_0 1 rfl rfl)
theorem dX1_steps_2 : decode cX1_steps 2 = .ok (.invokevirtual 63, 3) := dk_182 0 63 (dk_at dksX1_steps_0 2 rfl rfl)
theorem dX1_steps_5 : decode cX1_steps 5 = .ok (.istore_n 3, 1) := dk_62 (dk_at dksX1_steps_0 5 rfl rfl)
theorem dX1_steps_6 : decode cX1_steps 6 = .ok (.aload_n 0, 1) := dk_42 (dk_at dksX1_steps_0 6 rfl rfl)
theorem dX1_steps_7 : decode cX1_steps 7 = .ok (.iload_n 2, 1) := dk_28 (dk_at dksX1_steps_0 7 rfl rfl)
theorem dX1_steps_8 : decode cX1_steps 8 = .ok (.invokevirtual 63, 3) := dk_182 0 63 (dk_at dksX1_steps_0 8 rfl rfl)
theorem dX1_steps_11 : decode cX1_steps 11 = .ok (.istore 4, 2) := dk_54 4 (dk_at dksX1_steps_0 11 rfl rfl)
theorem dX1_steps_13 : decode cX1_steps 13 = .ok (.iload_n 3, 1) := dk_29 (dk_at dksX1_steps_0 13 rfl rfl)
theorem dX1_steps_14 : decode cX1_steps 14 = .ok (.istore 5, 2) := dk_54 5 (dk_at dksX1_steps_0 14 rfl rfl)
theorem dX1_steps_16 : decode cX1_steps 16 = .ok (.iconst 0, 1) := dk_3 (dk_at dksX1_steps_0 16 rfl rfl)
theorem dX1_steps_17 : decode cX1_steps 17 = .ok (.istore 6, 2) := dk_54 6 (dk_at dksX1_steps_0 17 rfl rfl)
theorem dX1_steps_19 : decode cX1_steps 19 = .ok (.iload 6, 2) := dk_21 6 (dk_at dksX1_steps_0 19 rfl rfl)
theorem dX1_steps_21 : decode cX1_steps 21 = .ok (.aload_n 0, 1) := dk_42 (dk_at dksX1_steps_0 21 rfl rfl)
theorem dX1_steps_22 : decode cX1_steps 22 = .ok (.getfield 24, 3) := dk_180 0 24 (dk_at dksX1_steps_1 0 rfl rfl)
theorem dX1_steps_25 : decode cX1_steps 25 = .ok (.invokevirtual 55, 3) := dk_182 0 55 (dk_at dksX1_steps_1 3 rfl rfl)
theorem dX1_steps_28 : decode cX1_steps 28 = .ok (.if_icmp .gt 36, 3) := dk_163 0 36 (dk_at dksX1_steps_1 6 rfl rfl)
theorem dX1_steps_31 : decode cX1_steps 31 = .ok (.iload 5, 2) := dk_21 5 (dk_at dksX1_steps_1 9 rfl rfl)
theorem dX1_steps_33 : decode cX1_steps 33 = .ok (.iconst (-1), 1) := dk_2 (dk_at dksX1_steps_1 11 rfl rfl)
theorem dX1_steps_34 : decode cX1_steps 34 = .ok (.if_icmp .eq 30, 3) := dk_159 0 30 (dk_at dksX1_steps_1 12 rfl rfl)
theorem dX1_steps_37 : decode cX1_steps 37 = .ok (.iload 5, 2) := dk_21 5 (dk_at dksX1_steps_1 15 rfl rfl)
theorem dX1_steps_39 : decode cX1_steps 39 = .ok (.iload 4, 2) := dk_21 4 (dk_at dksX1_steps_1 17 rfl rfl)
theorem dX1_steps_41 : decode cX1_steps 41 = .ok (.if_icmp .ne 6, 3) := dk_160 0 6 (dk_at dksX1_steps_1 19 rfl rfl)
theorem dX1_steps_44 : decode cX1_steps 44 = .ok (.iload 6, 2) := dk_21 6 (dk_at dksX1_steps_1 22 rfl rfl)
theorem dX1_steps_46 : decode cX1_steps 46 = .ok (.ireturn, 1) := dk_172 (dk_at dksX1_steps_2 0 rfl rfl)
theorem dX1_steps_47 : decode cX1_steps 47 = .ok (.aload_n 0, 1) := dk_42 (dk_at dksX1_steps_2 1 rfl rfl)
theorem dX1_steps_48 : decode cX1_steps 48 = .ok (.getfield 24, 3) := dk_180 0 24 (dk_at dksX1_steps_2 2 rfl rfl)
theorem dX1_steps_51 : decode cX1_steps 51 = .ok (.iload 5, 2) := dk_21 5 (dk_at dksX1_steps_2 5 rfl rfl)
theorem dX1_steps_53 : decode cX1_steps 53 = .ok (.invokevirtual 360, 3) := dk_182 1 104 (dk_at dksX1_steps_2 7 rfl rfl)
theorem dX1_steps_56 : decode cX1_steps 56 = .ok (.istore 5, 2) := dk_54 5 (dk_at dksX1_steps_2 10 rfl rfl)
theorem dX1_steps_58 : decode cX1_steps 58 = .ok (.iinc 6 1, 3) := dk_132 6 1 (dk_at dksX1_steps_2 12 rfl rfl)
theorem dX1_steps_61 : decode cX1_steps 61 = .ok (.goto (-42), 3) := dk_167 255 214 (dk_at dksX1_steps_2 15 rfl rfl)
theorem dX1_steps_64 : decode cX1_steps 64 = .ok (.iconst (-1), 1) := dk_2 (dk_at dksX1_steps_2 18 rfl rfl)
theorem dX1_steps_65 : decode cX1_steps 65 = .ok (.ireturn, 1) := dk_172 (dk_at dksX1_steps_2 19 rfl rfl)
abbrev cX1_writeLine : ByteArray := prog_1_method_60_code
def yX1_writeLine : MethodName := ⟨RX1, "writeLine", "(I)I"⟩
def dkwX1_writeLine_1 : List UInt8 := [182, 1, 161, 172]
abbrev dktX1_writeLine_1 : List UInt8 := dkwX1_writeLine_1 ++ []
def dkwX1_writeLine_0 : List UInt8 := [42, 27, 182, 0, 63, 61, 42, 180, 0, 42, 3, 182, 1, 154, 42, 28, 182, 1, 158, 42, 180, 0, 42]
abbrev dktX1_writeLine_0 : List UInt8 := dkwX1_writeLine_0 ++ dktX1_writeLine_1
theorem dksX1_writeLine_0 : cX1_writeLine.data.toList.drop 0 = dktX1_writeLine_0 := by decide +kernel
theorem dksX1_writeLine_1 : cX1_writeLine.data.toList.drop 23 = dktX1_writeLine_1 := dk_seg dksX1_writeLine_0 23 rfl rfl
theorem dX1_writeLine_0 : decode cX1_writeLine 0 = .ok (.aload_n 0, 1) := dk_42 (dk_at dksX1_writeLine_0 0 rfl rfl)
theorem dX1_writeLine_1 : decode cX1_writeLine 1 = .ok (.iload_n 1, 1) := dk_27 (dk_at dksX1_writeLine_0 1 rfl rfl)
theorem dX1_writeLine_2 : decode cX1_writeLine 2 = .ok (.invokevirtual 63, 3) := dk_182 0 63 (dk_at dksX1_writeLine_0 2 rfl rfl)
theorem dX1_writeLine_5 : decode cX1_writeLine 5 = .ok (.istore_n 2, 1) := dk_61 (dk_at dksX1_writeLine_0 5 rfl rfl)
theorem dX1_writeLine_6 : decode cX1_writeLine 6 = .ok (.aload_n 0, 1) := dk_42 (dk_at dksX1_writeLine_0 6 rfl rfl)
theorem dX1_writeLine_7 : decode cX1_writeLine 7 = .ok (.getfield 42, 3) := dk_180 0 42 (dk_at dksX1_writeLine_0 7 rfl rfl)
theorem dX1_writeLine_10 : decode cX1_writeLine 10 = .ok (.iconst 0, 1) := dk_3 (dk_at dksX1_writeLine_0 10 rfl rfl)
theorem dX1_writeLine_11 : decode cX1_writeLine 11 = .ok (.invokevirtual 410, 3) := dk_182 1 154 (dk_at dksX1_writeLine_0 11 rfl rfl)
theorem dX1_writeLine_14 : decode cX1_writeLine 14 = .ok (.aload_n 0, 1) := dk_42 (dk_at dksX1_writeLine_0 14 rfl rfl)
theorem dX1_writeLine_15 : decode cX1_writeLine 15 = .ok (.iload_n 2, 1) := dk_28 (dk_at dksX1_writeLine_0 15 rfl rfl)
theorem dX1_writeLine_16 : decode cX1_writeLine 16 = .ok (.invokevirtual 414, 3) := dk_182 1 158 (dk_at dksX1_writeLine_0 16 rfl rfl)
theorem dX1_writeLine_19 : decode cX1_writeLine 19 = .ok (.aload_n 0, 1) := dk_42 (dk_at dksX1_writeLine_0 19 rfl rfl)
theorem dX1_writeLine_20 : decode cX1_writeLine 20 = .ok (.getfield 42, 3) := dk_180 0 42 (dk_at dksX1_writeLine_0 20 rfl rfl)
theorem dX1_writeLine_23 : decode cX1_writeLine 23 = .ok (.invokevirtual 417, 3) := dk_182 1 161 (dk_at dksX1_writeLine_1 0 rfl rfl)
theorem dX1_writeLine_26 : decode cX1_writeLine 26 = .ok (.ireturn, 1) := dk_172 (dk_at dksX1_writeLine_1 3 rfl rfl)
abbrev cX1_write : ByteArray := prog_1_method_59_code
def yX1_write : MethodName := ⟨RX1, "write", "(I)V"⟩
def dkwX1_write_2 : List UInt8 := [87, 177]
abbrev dktX1_write_2 : List UInt8 := dkwX1_write_2 ++ []
def dkwX1_write_1 : List UInt8 := [16, 43, 167, 0, 5, 16, 58, 182, 0, 93, 42, 180, 0, 24, 27, 182, 0, 67, 180, 0, 222, 182, 1, 151]
abbrev dktX1_write_1 : List UInt8 := dkwX1_write_1 ++ dktX1_write_2
def dkwX1_write_0 : List UInt8 := [42, 180, 0, 42, 27, 4, 96, 182, 1, 148, 42, 180, 0, 24, 182, 0, 71, 27, 182, 0, 239, 158, 0, 8]
abbrev dktX1_write_0 : List UInt8 := dkwX1_write_0 ++ dktX1_write_1
theorem dksX1_write_0 : cX1_write.data.toList.drop 0 = dktX1_write_0 := by decide +kernel
theorem dksX1_write_1 : cX1_write.data.toList.drop 24 = dktX1_write_1 := dk_seg dksX1_write_0 24 rfl rfl
theorem dksX1_write_2 : cX1_write.data.toList.drop 48 = dktX1_write_2 := dk_seg dksX1_write_1 24 rfl rfl
theorem dX1_write_0 : decode cX1_write 0 = .ok (.aload_n 0, 1) := dk_42 (dk_at dksX1_write_0 0 rfl rfl)
theorem dX1_write_1 : decode cX1_write 1 = .ok (.getfield 42, 3) := dk_180 0 42 (dk_at dksX1_write_0 1 rfl rfl)
theorem dX1_write_4 : decode cX1_write 4 = .ok (.iload_n 1, 1) := dk_27 (dk_at dksX1_write_0 4 rfl rfl)
theorem dX1_write_5 : decode cX1_write 5 = .ok (.iconst 1, 1) := dk_4 (dk_at dksX1_write_0 5 rfl rfl)
theorem dX1_write_6 : decode cX1_write 6 = .ok (.iadd, 1) := dk_96 (dk_at dksX1_write_0 6 rfl rfl)
theorem dX1_write_7 : decode cX1_write 7 = .ok (.invokevirtual 404, 3) := dk_182 1 148 (dk_at dksX1_write_0 7 rfl rfl)
theorem dX1_write_10 : decode cX1_write 10 = .ok (.aload_n 0, 1) := dk_42 (dk_at dksX1_write_0 10 rfl rfl)
theorem dX1_write_11 : decode cX1_write 11 = .ok (.getfield 24, 3) := dk_180 0 24 (dk_at dksX1_write_0 11 rfl rfl)
theorem dX1_write_14 : decode cX1_write 14 = .ok (.invokevirtual 71, 3) := dk_182 0 71 (dk_at dksX1_write_0 14 rfl rfl)
theorem dX1_write_17 : decode cX1_write 17 = .ok (.iload_n 1, 1) := dk_27 (dk_at dksX1_write_0 17 rfl rfl)
theorem dX1_write_18 : decode cX1_write 18 = .ok (.invokevirtual 239, 3) := dk_182 0 239 (dk_at dksX1_write_0 18 rfl rfl)
theorem dX1_write_21 : decode cX1_write 21 = .ok (.ifCond .le 8, 3) := dk_158 0 8 (dk_at dksX1_write_0 21 rfl rfl)
theorem dX1_write_24 : decode cX1_write 24 = .ok (.bipush 43, 2) := dk_16 43 (dk_at dksX1_write_1 0 rfl rfl)
theorem dX1_write_26 : decode cX1_write 26 = .ok (.goto 5, 3) := dk_167 0 5 (dk_at dksX1_write_1 2 rfl rfl)
theorem dX1_write_29 : decode cX1_write 29 = .ok (.bipush 58, 2) := dk_16 58 (dk_at dksX1_write_1 5 rfl rfl)
theorem dX1_write_31 : decode cX1_write 31 = .ok (.invokevirtual 93, 3) := dk_182 0 93 (dk_at dksX1_write_1 7 rfl rfl)
theorem dX1_write_34 : decode cX1_write 34 = .ok (.aload_n 0, 1) := dk_42 (dk_at dksX1_write_1 10 rfl rfl)
theorem dX1_write_35 : decode cX1_write 35 = .ok (.getfield 24, 3) := dk_180 0 24 (dk_at dksX1_write_1 11 rfl rfl)
theorem dX1_write_38 : decode cX1_write 38 = .ok (.iload_n 1, 1) := dk_27 (dk_at dksX1_write_1 14 rfl rfl)
theorem dX1_write_39 : decode cX1_write 39 = .ok (.invokevirtual 67, 3) := dk_182 0 67 (dk_at dksX1_write_1 15 rfl rfl)
theorem dX1_write_42 : decode cX1_write 42 = .ok (.getfield 222, 3) := dk_180 0 222 (dk_at dksX1_write_1 18 rfl rfl)
theorem dX1_write_45 : decode cX1_write 45 = .ok (.invokevirtual 407, 3) := dk_182 1 151 (dk_at dksX1_write_1 21 rfl rfl)
theorem dX1_write_48 : decode cX1_write 48 = .ok (.pop, 1) := dk_87 (dk_at dksX1_write_2 0 rfl rfl)
theorem dX1_write_49 : decode cX1_write 49 = .ok (.return_, 1) := dk_177 (dk_at dksX1_write_2 1 rfl rfl)
abbrev cX1_writeRows : ByteArray := prog_1_method_61_code
def yX1_writeRows : MethodName := ⟨RX1, "writeRows", "(II)I"⟩
def dkwX1_writeRows_5 : List UInt8 := [132, 4, 1, 167, 255, 190, 42, 180, 0, 42, 182, 1, 161, 172]
abbrev dktX1_writeRows_5 : List UInt8 := dkwX1_writeRows_5 ++ []
def dkwX1_writeRows_4 : List UInt8 := [158, 0, 13, 42, 180, 0, 42, 16, 124, 182, 0, 93, 87, 42, 21, 4, 182, 1, 158, 132, 3, 255]
abbrev dktX1_writeRows_4 : List UInt8 := dkwX1_writeRows_4 ++ dktX1_writeRows_5
def dkwX1_writeRows_3 : List UInt8 := [180, 0, 24, 182, 0, 71, 21, 4, 182, 0, 226, 154, 0, 6, 167, 0, 32, 42, 180, 0, 42, 182, 1, 161]
abbrev dktX1_writeRows_3 : List UInt8 := dkwX1_writeRows_3 ++ dktX1_writeRows_4
def dkwX1_writeRows_2 : List UInt8 := [27, 182, 1, 1, 54, 4, 21, 4, 42, 180, 0, 24, 182, 0, 55, 162, 0, 60, 29, 158, 0, 56, 42]
abbrev dktX1_writeRows_2 : List UInt8 := dkwX1_writeRows_2 ++ dktX1_writeRows_3
def dkwX1_writeRows_1 : List UInt8 := [167, 0, 4, 3, 184, 1, 78, 42, 180, 0, 42, 3, 182, 1, 154, 28, 62, 42, 180, 0, 24, 182, 0, 71]
abbrev dktX1_writeRows_1 : List UInt8 := dkwX1_writeRows_1 ++ dktX1_writeRows_2
def dkwX1_writeRows_0 : List UInt8 := [27, 4, 100, 42, 180, 0, 24, 182, 0, 71, 182, 0, 183, 184, 0, 59, 28, 4, 161, 0, 7, 4]
abbrev dktX1_writeRows_0 : List UInt8 := dkwX1_writeRows_0 ++ dktX1_writeRows_1
theorem dksX1_writeRows_0 : cX1_writeRows.data.toList.drop 0 = dktX1_writeRows_0 := by decide +kernel
theorem dksX1_writeRows_1 : cX1_writeRows.data.toList.drop 22 = dktX1_writeRows_1 := dk_seg dksX1_writeRows_0 22 rfl rfl
theorem dksX1_writeRows_2 : cX1_writeRows.data.toList.drop 46 = dktX1_writeRows_2 := dk_seg dksX1_writeRows_1 24 rfl rfl
theorem dksX1_writeRows_3 : cX1_writeRows.data.toList.drop 69 = dktX1_writeRows_3 := dk_seg dksX1_writeRows_2 23 rfl rfl
theorem dksX1_writeRows_4 : cX1_writeRows.data.toList.drop 93 = dktX1_writeRows_4 := dk_seg dksX1_writeRows_3 24 rfl rfl
theorem dksX1_writeRows_5 : cX1_writeRows.data.toList.drop 115 = dktX1_writeRows_5 := dk_seg dksX1_writeRows_4 22 rfl rfl
theorem dX1_writeRows_0 : decode cX1_writeRows 0 = .ok (.iload_n 1, 1) := dk_27 (dk_at dksX1_writeRows_0 0 rfl rfl)
theorem dX1_writeRows_1 : decode cX1_writeRows 1 = .ok (.iconst 1, 1) := dk_4 (dk_at dksX1_writeRows_0 1 rfl rfl)
theorem dX1_writeRows_2 : decode cX1_writeRows 2 = .ok (.isub, 1) := dk_100 (dk_at dksX1_writeRows_0 2 rfl rfl)
theorem dX1_writeRows_3 : decode cX1_writeRows 3 = .ok (.aload_n 0, 1) := dk_42 (dk_at dksX1_writeRows_0 3 rfl rfl)
theorem dX1_writeRows_4 : decode cX1_writeRows 4 = .ok (.getfield 24, 3) := dk_180 0 24 (dk_at dksX1_writeRows_0 4 rfl rfl)
theorem dX1_writeRows_7 : decode cX1_writeRows 7 = .ok (.invokevirtual 71, 3) := dk_182 0 71 (dk_at dksX1_writeRows_0 7 rfl rfl)
theorem dX1_writeRows_10 : decode cX1_writeRows 10 = .ok (.invokevirtual 183, 3) := dk_182 0 183 (dk_at dksX1_writeRows_0 10 rfl rfl)
theorem dX1_writeRows_13 : decode cX1_writeRows 13 = .ok (.invokestatic 59, 3) := dk_184 0 59 (dk_at dksX1_writeRows_0 13 rfl rfl)
theorem dX1_writeRows_16 : decode cX1_writeRows 16 = .ok (.iload_n 2, 1) := dk_28 (dk_at dksX1_writeRows_0 16 rfl rfl)
theorem dX1_writeRows_17 : decode cX1_writeRows 17 = .ok (.iconst 1, 1) := dk_4 (dk_at dksX1_writeRows_0 17 rfl rfl)
theorem dX1_writeRows_18 : decode cX1_writeRows 18 = .ok (.if_icmp .lt 7, 3) := dk_161 0 7 (dk_at dksX1_writeRows_0 18 rfl rfl)
theorem dX1_writeRows_21 : decode cX1_writeRows 21 = .ok (.iconst 1, 1) := dk_4 (dk_at dksX1_writeRows_0 21 rfl rfl)
theorem dX1_writeRows_22 : decode cX1_writeRows 22 = .ok (.goto 4, 3) := dk_167 0 4 (dk_at dksX1_writeRows_1 0 rfl rfl)
theorem dX1_writeRows_25 : decode cX1_writeRows 25 = .ok (.iconst 0, 1) := dk_3 (dk_at dksX1_writeRows_1 3 rfl rfl)
theorem dX1_writeRows_26 : decode cX1_writeRows 26 = .ok (.invokestatic 334, 3) := dk_184 1 78 (dk_at dksX1_writeRows_1 4 rfl rfl)
theorem dX1_writeRows_29 : decode cX1_writeRows 29 = .ok (.aload_n 0, 1) := dk_42 (dk_at dksX1_writeRows_1 7 rfl rfl)
theorem dX1_writeRows_30 : decode cX1_writeRows 30 = .ok (.getfield 42, 3) := dk_180 0 42 (dk_at dksX1_writeRows_1 8 rfl rfl)
theorem dX1_writeRows_33 : decode cX1_writeRows 33 = .ok (.iconst 0, 1) := dk_3 (dk_at dksX1_writeRows_1 11 rfl rfl)
theorem dX1_writeRows_34 : decode cX1_writeRows 34 = .ok (.invokevirtual 410, 3) := dk_182 1 154 (dk_at dksX1_writeRows_1 12 rfl rfl)
theorem dX1_writeRows_37 : decode cX1_writeRows 37 = .ok (.iload_n 2, 1) := dk_28 (dk_at dksX1_writeRows_1 15 rfl rfl)
theorem dX1_writeRows_38 : decode cX1_writeRows 38 = .ok (.istore_n 3, 1) := dk_62 (dk_at dksX1_writeRows_1 16 rfl rfl)
theorem dX1_writeRows_39 : decode cX1_writeRows 39 = .ok (.aload_n 0, 1) := dk_42 (dk_at dksX1_writeRows_1 17 rfl rfl)
theorem dX1_writeRows_40 : decode cX1_writeRows 40 = .ok (.getfield 24, 3) := dk_180 0 24 (dk_at dksX1_writeRows_1 18 rfl rfl)
theorem dX1_writeRows_43 : decode cX1_writeRows 43 = .ok (.invokevirtual 71, 3) := dk_182 0 71 (dk_at dksX1_writeRows_1 21 rfl rfl)
theorem dX1_writeRows_46 : decode cX1_writeRows 46 = .ok (.iload_n 1, 1) := dk_27 (dk_at dksX1_writeRows_2 0 rfl rfl)
theorem dX1_writeRows_47 : decode cX1_writeRows 47 = .ok (.invokevirtual 257, 3) := dk_182 1 1 (dk_at dksX1_writeRows_2 1 rfl rfl)
theorem dX1_writeRows_50 : decode cX1_writeRows 50 = .ok (.istore 4, 2) := dk_54 4 (dk_at dksX1_writeRows_2 4 rfl rfl)
theorem dX1_writeRows_52 : decode cX1_writeRows 52 = .ok (.iload 4, 2) := dk_21 4 (dk_at dksX1_writeRows_2 6 rfl rfl)
theorem dX1_writeRows_54 : decode cX1_writeRows 54 = .ok (.aload_n 0, 1) := dk_42 (dk_at dksX1_writeRows_2 8 rfl rfl)
theorem dX1_writeRows_55 : decode cX1_writeRows 55 = .ok (.getfield 24, 3) := dk_180 0 24 (dk_at dksX1_writeRows_2 9 rfl rfl)
theorem dX1_writeRows_58 : decode cX1_writeRows 58 = .ok (.invokevirtual 55, 3) := dk_182 0 55 (dk_at dksX1_writeRows_2 12 rfl rfl)
theorem dX1_writeRows_61 : decode cX1_writeRows 61 = .ok (.if_icmp .ge 60, 3) := dk_162 0 60 (dk_at dksX1_writeRows_2 15 rfl rfl)
theorem dX1_writeRows_64 : decode cX1_writeRows 64 = .ok (.iload_n 3, 1) := dk_29 (dk_at dksX1_writeRows_2 18 rfl rfl)
theorem dX1_writeRows_65 : decode cX1_writeRows 65 = .ok (.ifCond .le 56, 3) := dk_158 0 56 (dk_at dksX1_writeRows_2 19 rfl rfl)
theorem dX1_writeRows_68 : decode cX1_writeRows 68 = .ok (.aload_n 0, 1) := dk_42 (dk_at dksX1_writeRows_2 22 rfl rfl)
theorem dX1_writeRows_69 : decode cX1_writeRows 69 = .ok (.getfield 24, 3) := dk_180 0 24 (dk_at dksX1_writeRows_3 0 rfl rfl)
theorem dX1_writeRows_72 : decode cX1_writeRows 72 = .ok (.invokevirtual 71, 3) := dk_182 0 71 (dk_at dksX1_writeRows_3 3 rfl rfl)
theorem dX1_writeRows_75 : decode cX1_writeRows 75 = .ok (.iload 4, 2) := dk_21 4 (dk_at dksX1_writeRows_3 6 rfl rfl)
theorem dX1_writeRows_77 : decode cX1_writeRows 77 = .ok (.invokevirtual 226, 3) := dk_182 0 226 (dk_at dksX1_writeRows_3 8 rfl rfl)
theorem dX1_writeRows_80 : decode cX1_writeRows 80 = .ok (.ifCond .ne 6, 3) := dk_154 0 6 (dk_at dksX1_writeRows_3 11 rfl rfl)
theorem dX1_writeRows_83 : decode cX1_writeRows 83 = .ok (.goto 32, 3) := dk_167 0 32 (dk_at dksX1_writeRows_3 14 rfl rfl)
theorem dX1_writeRows_86 : decode cX1_writeRows 86 = .ok (.aload_n 0, 1) := dk_42 (dk_at dksX1_writeRows_3 17 rfl rfl)
theorem dX1_writeRows_87 : decode cX1_writeRows 87 = .ok (.getfield 42, 3) := dk_180 0 42 (dk_at dksX1_writeRows_3 18 rfl rfl)
theorem dX1_writeRows_90 : decode cX1_writeRows 90 = .ok (.invokevirtual 417, 3) := dk_182 1 161 (dk_at dksX1_writeRows_3 21 rfl rfl)
theorem dX1_writeRows_93 : decode cX1_writeRows 93 = .ok (.ifCond .le 13, 3) := dk_158 0 13 (dk_at dksX1_writeRows_4 0 rfl rfl)
theorem dX1_writeRows_96 : decode cX1_writeRows 96 = .ok (.aload_n 0, 1) := dk_42 (dk_at dksX1_writeRows_4 3 rfl rfl)
theorem dX1_writeRows_97 : decode cX1_writeRows 97 = .ok (.getfield 42, 3) := dk_180 0 42 (dk_at dksX1_writeRows_4 4 rfl rfl)
theorem dX1_writeRows_100 : decode cX1_writeRows 100 = .ok (.bipush 124, 2) := dk_16 124 (dk_at dksX1_writeRows_4 7 rfl rfl)
theorem dX1_writeRows_102 : decode cX1_writeRows 102 = .ok (.invokevirtual 93, 3) := dk_182 0 93 (dk_at dksX1_writeRows_4 9 rfl rfl)
theorem dX1_writeRows_105 : decode cX1_writeRows 105 = .ok (.pop, 1) := dk_87 (dk_at dksX1_writeRows_4 12 rfl rfl)
theorem dX1_writeRows_106 : decode cX1_writeRows 106 = .ok (.aload_n 0, 1) := dk_42 (dk_at dksX1_writeRows_4 13 rfl rfl)
theorem dX1_writeRows_107 : decode cX1_writeRows 107 = .ok (.iload 4, 2) := dk_21 4 (dk_at dksX1_writeRows_4 14 rfl rfl)
theorem dX1_writeRows_109 : decode cX1_writeRows 109 = .ok (.invokevirtual 414, 3) := dk_182 1 158 (dk_at dksX1_writeRows_4 16 rfl rfl)
theorem dX1_writeRows_112 : decode cX1_writeRows 112 = .ok (.iinc 3 (-1), 3) := dk_132 3 255 (dk_at dksX1_writeRows_4 19 rfl rfl)
theorem dX1_writeRows_115 : decode cX1_writeRows 115 = .ok (.iinc 4 1, 3) := dk_132 4 1 (dk_at dksX1_writeRows_5 0 rfl rfl)
theorem dX1_writeRows_118 : decode cX1_writeRows 118 = .ok (.goto (-66), 3) := dk_167 255 190 (dk_at dksX1_writeRows_5 3 rfl rfl)
theorem dX1_writeRows_121 : decode cX1_writeRows 121 = .ok (.aload_n 0, 1) := dk_42 (dk_at dksX1_writeRows_5 6 rfl rfl)
theorem dX1_writeRows_122 : decode cX1_writeRows 122 = .ok (.getfield 42, 3) := dk_180 0 42 (dk_at dksX1_writeRows_5 7 rfl rfl)
theorem dX1_writeRows_125 : decode cX1_writeRows 125 = .ok (.invokevirtual 417, 3) := dk_182 1 161 (dk_at dksX1_writeRows_5 10 rfl rfl)
theorem dX1_writeRows_128 : decode cX1_writeRows 128 = .ok (.ireturn, 1) := dk_172 (dk_at dksX1_writeRows_5 13 rfl rfl)
abbrev cX1_textByte : ByteArray := prog_1_method_63_code
def yX1_textByte : MethodName := ⟨RX1, "textByte", "(I)I"⟩
def dkwX1_textByte_0 : List UInt8 := [27, 42, 180, 0, 42, 182, 1, 161, 184, 0, 59, 42, 180, 0, 42, 27, 182, 1, 162, 172]
abbrev dktX1_textByte_0 : List UInt8 := dkwX1_textByte_0 ++ []
theorem dksX1_textByte_0 : cX1_textByte.data.toList.drop 0 = dktX1_textByte_0 := by decide +kernel
theorem dX1_textByte_0 : decode cX1_textByte 0 = .ok (.iload_n 1, 1) := dk_27 (dk_at dksX1_textByte_0 0 rfl rfl)
theorem dX1_textByte_1 : decode cX1_textByte 1 = .ok (.aload_n 0, 1) := dk_42 (dk_at dksX1_textByte_0 1 rfl rfl)
theorem dX1_textByte_2 : decode cX1_textByte 2 = .ok (.getfield 42, 3) := dk_180 0 42 (dk_at dksX1_textByte_0 2 rfl rfl)
theorem dX1_textByte_5 : decode cX1_textByte 5 = .ok (.invokevirtual 417, 3) := dk_182 1 161 (dk_at dksX1_textByte_0 5 rfl rfl)
theorem dX1_textByte_8 : decode cX1_textByte 8 = .ok (.invokestatic 59, 3) := dk_184 0 59 (dk_at dksX1_textByte_0 8 rfl rfl)
theorem dX1_textByte_11 : decode cX1_textByte 11 = .ok (.aload_n 0, 1) := dk_42 (dk_at dksX1_textByte_0 11 rfl rfl)
theorem dX1_textByte_12 : decode cX1_textByte 12 = .ok (.getfield 42, 3) := dk_180 0 42 (dk_at dksX1_textByte_0 12 rfl rfl)
theorem dX1_textByte_15 : decode cX1_textByte 15 = .ok (.iload_n 1, 1) := dk_27 (dk_at dksX1_textByte_0 15 rfl rfl)
theorem dX1_textByte_16 : decode cX1_textByte 16 = .ok (.invokevirtual 418, 3) := dk_182 1 162 (dk_at dksX1_textByte_0 16 rfl rfl)
theorem dX1_textByte_19 : decode cX1_textByte 19 = .ok (.ireturn, 1) := dk_172 (dk_at dksX1_textByte_0 19 rfl rfl)
abbrev cX1_insert : ByteArray := prog_1_method_65_code
def yX1_insert : MethodName := ⟨RX1, "insert", "(II)I"⟩
def dkwX1_insert_3 : List UInt8 := [182, 1, 180, 58, 4, 42, 180, 0, 24, 27, 4, 100, 25, 4, 182, 1, 184, 25, 4, 180, 0, 214, 172]
abbrev dktX1_insert_3 : List UInt8 := dkwX1_insert_3 ++ []
def dkwX1_insert_2 : List UInt8 := [184, 1, 174, 153, 0, 7, 4, 167, 0, 4, 3, 184, 1, 78, 42, 182, 1, 177, 42, 180, 0, 24, 45]
abbrev dktX1_insert_2 : List UInt8 := dkwX1_insert_2 ++ dktX1_insert_3
def dkwX1_insert_1 : List UInt8 := [184, 0, 59, 42, 28, 182, 1, 13, 78, 42, 180, 0, 24, 182, 0, 55, 16, 80, 162, 0, 14, 45]
abbrev dktX1_insert_1 : List UInt8 := dkwX1_insert_1 ++ dktX1_insert_2
def dkwX1_insert_0 : List UInt8 := [27, 4, 100, 42, 180, 0, 24, 182, 0, 55, 4, 96, 184, 0, 59, 28, 42, 180, 0, 97, 4, 96]
abbrev dktX1_insert_0 : List UInt8 := dkwX1_insert_0 ++ dktX1_insert_1
theorem dksX1_insert_0 : cX1_insert.data.toList.drop 0 = dktX1_insert_0 := by decide +kernel
theorem dksX1_insert_1 : cX1_insert.data.toList.drop 22 = dktX1_insert_1 := dk_seg dksX1_insert_0 22 rfl rfl
theorem dksX1_insert_2 : cX1_insert.data.toList.drop 44 = dktX1_insert_2 := dk_seg dksX1_insert_1 22 rfl rfl
theorem dksX1_insert_3 : cX1_insert.data.toList.drop 67 = dktX1_insert_3 := dk_seg dksX1_insert_2 23 rfl rfl
theorem dX1_insert_0 : decode cX1_insert 0 = .ok (.iload_n 1, 1) := dk_27 (dk_at dksX1_insert_0 0 rfl rfl)
theorem dX1_insert_1 : decode cX1_insert 1 = .ok (.iconst 1, 1) := dk_4 (dk_at dksX1_insert_0 1 rfl rfl)
theorem dX1_insert_2 : decode cX1_insert 2 = .ok (.isub, 1) := dk_100 (dk_at dksX1_insert_0 2 rfl rfl)
theorem dX1_insert_3 : decode cX1_insert 3 = .ok (.aload_n 0, 1) := dk_42 (dk_at dksX1_insert_0 3 rfl rfl)
theorem dX1_insert_4 : decode cX1_insert 4 = .ok (.getfield 24, 3) := dk_180 0 24 (dk_at dksX1_insert_0 4 rfl rfl)
theorem dX1_insert_7 : decode cX1_insert 7 = .ok (.invokevirtual 55, 3) := dk_182 0 55 (dk_at dksX1_insert_0 7 rfl rfl)
theorem dX1_insert_10 : decode cX1_insert 10 = .ok (.iconst 1, 1) := dk_4 (dk_at dksX1_insert_0 10 rfl rfl)
theorem dX1_insert_11 : decode cX1_insert 11 = .ok (.iadd, 1) := dk_96 (dk_at dksX1_insert_0 11 rfl rfl)
theorem dX1_insert_12 : decode cX1_insert 12 = .ok (.invokestatic 59, 3) := dk_184 0 59 (dk_at dksX1_insert_0 12 rfl rfl)
theorem dX1_insert_15 : decode cX1_insert 15 = .ok (.iload_n 2, 1) := dk_28 (dk_at dksX1_insert_0 15 rfl rfl)
theorem dX1_insert_16 : decode cX1_insert 16 = .ok (.aload_n 0, 1) := dk_42 (dk_at dksX1_insert_0 16 rfl rfl)
theorem dX1_insert_17 : decode cX1_insert 17 = .ok (.getfield 97, 3) := dk_180 0 97 (dk_at dksX1_insert_0 17 rfl rfl)
theorem dX1_insert_20 : decode cX1_insert 20 = .ok (.iconst 1, 1) := dk_4 (dk_at dksX1_insert_0 20 rfl rfl)
theorem dX1_insert_21 : decode cX1_insert 21 = .ok (.iadd, 1) := dk_96 (dk_at dksX1_insert_0 21 rfl rfl)
theorem dX1_insert_22 : decode cX1_insert 22 = .ok (.invokestatic 59, 3) := dk_184 0 59 (dk_at dksX1_insert_1 0 rfl rfl)
theorem dX1_insert_25 : decode cX1_insert 25 = .ok (.aload_n 0, 1) := dk_42 (dk_at dksX1_insert_1 3 rfl rfl)
theorem dX1_insert_26 : decode cX1_insert 26 = .ok (.iload_n 2, 1) := dk_28 (dk_at dksX1_insert_1 4 rfl rfl)
theorem dX1_insert_27 : decode cX1_insert 27 = .ok (.invokevirtual 269, 3) := dk_182 1 13 (dk_at dksX1_insert_1 5 rfl rfl)
theorem dX1_insert_30 : decode cX1_insert 30 = .ok (.astore_n 3, 1) := dk_78 (dk_at dksX1_insert_1 8 rfl rfl)
theorem dX1_insert_31 : decode cX1_insert 31 = .ok (.aload_n 0, 1) := dk_42 (dk_at dksX1_insert_1 9 rfl rfl)
theorem dX1_insert_32 : decode cX1_insert 32 = .ok (.getfield 24, 3) := dk_180 0 24 (dk_at dksX1_insert_1 10 rfl rfl)
theorem dX1_insert_35 : decode cX1_insert 35 = .ok (.invokevirtual 55, 3) := dk_182 0 55 (dk_at dksX1_insert_1 13 rfl rfl)
theorem dX1_insert_38 : decode cX1_insert 38 = .ok (.bipush 80, 2) := dk_16 80 (dk_at dksX1_insert_1 16 rfl rfl)
theorem dX1_insert_40 : decode cX1_insert 40 = .ok (.if_icmp .ge 14, 3) := dk_162 0 14 (dk_at dksX1_insert_1 18 rfl rfl)
theorem dX1_insert_43 : decode cX1_insert 43 = .ok (.aload_n 3, 1) := dk_45 (dk_at dksX1_insert_1 21 rfl rfl)
theorem dX1_insert_44 : decode cX1_insert 44 = .ok (.invokestatic 430, 3) := dk_184 1 174 (dk_at dksX1_insert_2 0 rfl rfl)
theorem dX1_insert_47 : decode cX1_insert 47 = .ok (.ifCond .eq 7, 3) := dk_153 0 7 (dk_at dksX1_insert_2 3 rfl rfl)
theorem dX1_insert_50 : decode cX1_insert 50 = .ok (.iconst 1, 1) := dk_4 (dk_at dksX1_insert_2 6 rfl rfl)
theorem dX1_insert_51 : decode cX1_insert 51 = .ok (.goto 4, 3) := dk_167 0 4 (dk_at dksX1_insert_2 7 rfl rfl)
theorem dX1_insert_54 : decode cX1_insert 54 = .ok (.iconst 0, 1) := dk_3 (dk_at dksX1_insert_2 10 rfl rfl)
theorem dX1_insert_55 : decode cX1_insert 55 = .ok (.invokestatic 334, 3) := dk_184 1 78 (dk_at dksX1_insert_2 11 rfl rfl)
theorem dX1_insert_58 : decode cX1_insert 58 = .ok (.aload_n 0, 1) := dk_42 (dk_at dksX1_insert_2 14 rfl rfl)
theorem dX1_insert_59 : decode cX1_insert 59 = .ok (.invokevirtual 433, 3) := dk_182 1 177 (dk_at dksX1_insert_2 15 rfl rfl)
theorem dX1_insert_62 : decode cX1_insert 62 = .ok (.aload_n 0, 1) := dk_42 (dk_at dksX1_insert_2 18 rfl rfl)
theorem dX1_insert_63 : decode cX1_insert 63 = .ok (.getfield 24, 3) := dk_180 0 24 (dk_at dksX1_insert_2 19 rfl rfl)
theorem dX1_insert_66 : decode cX1_insert 66 = .ok (.aload_n 3, 1) := dk_45 (dk_at dksX1_insert_2 22 rfl rfl)
theorem dX1_insert_67 : decode cX1_insert 67 = .ok (.invokevirtual 436, 3) := dk_182 1 180 (dk_at dksX1_insert_3 0 rfl rfl)
theorem dX1_insert_70 : decode cX1_insert 70 = .ok (.astore 4, 2) := dk_58 4 (dk_at dksX1_insert_3 3 rfl rfl)
theorem dX1_insert_72 : decode cX1_insert 72 = .ok (.aload_n 0, 1) := dk_42 (dk_at dksX1_insert_3 5 rfl rfl)
theorem dX1_insert_73 : decode cX1_insert 73 = .ok (.getfield 24, 3) := dk_180 0 24 (dk_at dksX1_insert_3 6 rfl rfl)
theorem dX1_insert_76 : decode cX1_insert 76 = .ok (.iload_n 1, 1) := dk_27 (dk_at dksX1_insert_3 9 rfl rfl)
theorem dX1_insert_77 : decode cX1_insert 77 = .ok (.iconst 1, 1) := dk_4 (dk_at dksX1_insert_3 10 rfl rfl)
theorem dX1_insert_78 : decode cX1_insert 78 = .ok (.isub, 1) := dk_100 (dk_at dksX1_insert_3 11 rfl rfl)
theorem dX1_insert_79 : decode cX1_insert 79 = .ok (.aload 4, 2) := dk_25 4 (dk_at dksX1_insert_3 12 rfl rfl)
theorem dX1_insert_81 : decode cX1_insert 81 = .ok (.invokevirtual 440, 3) := dk_182 1 184 (dk_at dksX1_insert_3 14 rfl rfl)
theorem dX1_insert_84 : decode cX1_insert 84 = .ok (.aload 4, 2) := dk_25 4 (dk_at dksX1_insert_3 17 rfl rfl)
theorem dX1_insert_86 : decode cX1_insert 86 = .ok (.getfield 214, 3) := dk_180 0 214 (dk_at dksX1_insert_3 19 rfl rfl)
theorem dX1_insert_89 : decode cX1_insert 89 = .ok (.ireturn, 1) := dk_172 (dk_at dksX1_insert_3 22 rfl rfl)
abbrev cX1_isText : ByteArray := prog_1_method_13_code
def yX1_isText : MethodName := ⟨RX1, "isText", "(Ljava/lang/String;)Z"⟩
def dkwX1_isText_1 : List UInt8 := [162, 0, 20, 27, 42, 28, 182, 0, 109, 184, 0, 113, 126, 60, 132, 2, 1, 167, 255, 234, 27, 172]
abbrev dktX1_isText_1 : List UInt8 := dkwX1_isText_1 ++ []
def dkwX1_isText_0 : List UInt8 := [42, 182, 0, 104, 16, 24, 163, 0, 7, 4, 167, 0, 4, 3, 60, 3, 61, 28, 42, 182, 0, 104]
abbrev dktX1_isText_0 : List UInt8 := dkwX1_isText_0 ++ dktX1_isText_1
theorem dksX1_isText_0 : cX1_isText.data.toList.drop 0 = dktX1_isText_0 := by decide +kernel
theorem dksX1_isText_1 : cX1_isText.data.toList.drop 22 = dktX1_isText_1 := dk_seg dksX1_isText_0 22 rfl rfl
theorem dX1_isText_0 : decode cX1_isText 0 = .ok (.aload_n 0, 1) := dk_42 (dk_at dksX1_isText_0 0 rfl rfl)
theorem dX1_isText_1 : decode cX1_isText 1 = .ok (.invokevirtual 104, 3) := dk_182 0 104 (dk_at dksX1_isText_0 1 rfl rfl)
theorem dX1_isText_4 : decode cX1_isText 4 = .ok (.bipush 24, 2) := dk_16 24 (dk_at dksX1_isText_0 4 rfl rfl)
theorem dX1_isText_6 : decode cX1_isText 6 = .ok (.if_icmp .gt 7, 3) := dk_163 0 7 (dk_at dksX1_isText_0 6 rfl rfl)
theorem dX1_isText_9 : decode cX1_isText 9 = .ok (.iconst 1, 1) := dk_4 (dk_at dksX1_isText_0 9 rfl rfl)
theorem dX1_isText_10 : decode cX1_isText 10 = .ok (.goto 4, 3) := dk_167 0 4 (dk_at dksX1_isText_0 10 rfl rfl)
theorem dX1_isText_13 : decode cX1_isText 13 = .ok (.iconst 0, 1) := dk_3 (dk_at dksX1_isText_0 13 rfl rfl)
theorem dX1_isText_14 : decode cX1_isText 14 = .ok (.istore_n 1, 1) := dk_60 (dk_at dksX1_isText_0 14 rfl rfl)
theorem dX1_isText_15 : decode cX1_isText 15 = .ok (.iconst 0, 1) := dk_3 (dk_at dksX1_isText_0 15 rfl rfl)
theorem dX1_isText_16 : decode cX1_isText 16 = .ok (.istore_n 2, 1) := dk_61 (dk_at dksX1_isText_0 16 rfl rfl)
theorem dX1_isText_17 : decode cX1_isText 17 = .ok (.iload_n 2, 1) := dk_28 (dk_at dksX1_isText_0 17 rfl rfl)
theorem dX1_isText_18 : decode cX1_isText 18 = .ok (.aload_n 0, 1) := dk_42 (dk_at dksX1_isText_0 18 rfl rfl)
theorem dX1_isText_19 : decode cX1_isText 19 = .ok (.invokevirtual 104, 3) := dk_182 0 104 (dk_at dksX1_isText_0 19 rfl rfl)
theorem dX1_isText_22 : decode cX1_isText 22 = .ok (.if_icmp .ge 20, 3) := dk_162 0 20 (dk_at dksX1_isText_1 0 rfl rfl)
theorem dX1_isText_25 : decode cX1_isText 25 = .ok (.iload_n 1, 1) := dk_27 (dk_at dksX1_isText_1 3 rfl rfl)
theorem dX1_isText_26 : decode cX1_isText 26 = .ok (.aload_n 0, 1) := dk_42 (dk_at dksX1_isText_1 4 rfl rfl)
theorem dX1_isText_27 : decode cX1_isText 27 = .ok (.iload_n 2, 1) := dk_28 (dk_at dksX1_isText_1 5 rfl rfl)
theorem dX1_isText_28 : decode cX1_isText 28 = .ok (.invokevirtual 109, 3) := dk_182 0 109 (dk_at dksX1_isText_1 6 rfl rfl)
theorem dX1_isText_31 : decode cX1_isText 31 = .ok (.invokestatic 113, 3) := dk_184 0 113 (dk_at dksX1_isText_1 9 rfl rfl)
theorem dX1_isText_34 : decode cX1_isText 34 = .ok (.iand, 1) := dk_126 (dk_at dksX1_isText_1 12 rfl rfl)
theorem dX1_isText_35 : decode cX1_isText 35 = .ok (.istore_n 1, 1) := dk_60 (dk_at dksX1_isText_1 13 rfl rfl)
theorem dX1_isText_36 : decode cX1_isText 36 = .ok (.iinc 2 1, 3) := dk_132 2 1 (dk_at dksX1_isText_1 14 rfl rfl)
theorem dX1_isText_39 : decode cX1_isText 39 = .ok (.goto (-22), 3) := dk_167 255 234 (dk_at dksX1_isText_1 17 rfl rfl)
theorem dX1_isText_42 : decode cX1_isText 42 = .ok (.iload_n 1, 1) := dk_27 (dk_at dksX1_isText_1 20 rfl rfl)
theorem dX1_isText_43 : decode cX1_isText 43 = .ok (.ireturn, 1) := dk_172 (dk_at dksX1_isText_1 21 rfl rfl)
abbrev cX1_replace : ByteArray := prog_1_method_66_code
def yX1_replace : MethodName := ⟨RX1, "replace", "(II)I"⟩
def dkwX1_replace_2 : List UInt8 := [182, 1, 188, 182, 1, 191, 45, 180, 0, 222, 182, 0, 104, 172]
abbrev dktX1_replace_2 : List UInt8 := dkwX1_replace_2 ++ []
def dkwX1_replace_1 : List UInt8 := [25, 4, 184, 1, 174, 184, 1, 78, 42, 182, 1, 177, 42, 180, 0, 24, 27, 4, 100, 45, 25, 4]
abbrev dktX1_replace_1 : List UInt8 := dkwX1_replace_1 ++ dktX1_replace_2
def dkwX1_replace_0 : List UInt8 := [42, 27, 182, 0, 219, 78, 28, 42, 180, 0, 97, 4, 96, 184, 0, 59, 42, 28, 182, 1, 13, 58, 4]
abbrev dktX1_replace_0 : List UInt8 := dkwX1_replace_0 ++ dktX1_replace_1
theorem dksX1_replace_0 : cX1_replace.data.toList.drop 0 = dktX1_replace_0 := by decide +kernel
theorem dksX1_replace_1 : cX1_replace.data.toList.drop 23 = dktX1_replace_1 := dk_seg dksX1_replace_0 23 rfl rfl
theorem dksX1_replace_2 : cX1_replace.data.toList.drop 45 = dktX1_replace_2 := dk_seg dksX1_replace_1 22 rfl rfl
theorem dX1_replace_0 : decode cX1_replace 0 = .ok (.aload_n 0, 1) := dk_42 (dk_at dksX1_replace_0 0 rfl rfl)
theorem dX1_replace_1 : decode cX1_replace 1 = .ok (.iload_n 1, 1) := dk_27 (dk_at dksX1_replace_0 1 rfl rfl)
theorem dX1_replace_2 : decode cX1_replace 2 = .ok (.invokevirtual 219, 3) := dk_182 0 219 (dk_at dksX1_replace_0 2 rfl rfl)
theorem dX1_replace_5 : decode cX1_replace 5 = .ok (.astore_n 3, 1) := dk_78 (dk_at dksX1_replace_0 5 rfl rfl)
theorem dX1_replace_6 : decode cX1_replace 6 = .ok (.iload_n 2, 1) := dk_28 (dk_at dksX1_replace_0 6 rfl rfl)
theorem dX1_replace_7 : decode cX1_replace 7 = .ok (.aload_n 0, 1) := dk_42 (dk_at dksX1_replace_0 7 rfl rfl)
theorem dX1_replace_8 : decode cX1_replace 8 = .ok (.getfield 97, 3) := dk_180 0 97 (dk_at dksX1_replace_0 8 rfl rfl)
theorem dX1_replace_11 : decode cX1_replace 11 = .ok (.iconst 1, 1) := dk_4 (dk_at dksX1_replace_0 11 rfl rfl)
theorem dX1_replace_12 : decode cX1_replace 12 = .ok (.iadd, 1) := dk_96 (dk_at dksX1_replace_0 12 rfl rfl)
theorem dX1_replace_13 : decode cX1_replace 13 = .ok (.invokestatic 59, 3) := dk_184 0 59 (dk_at dksX1_replace_0 13 rfl rfl)
theorem dX1_replace_16 : decode cX1_replace 16 = .ok (.aload_n 0, 1) := dk_42 (dk_at dksX1_replace_0 16 rfl rfl)
theorem dX1_replace_17 : decode cX1_replace 17 = .ok (.iload_n 2, 1) := dk_28 (dk_at dksX1_replace_0 17 rfl rfl)
theorem dX1_replace_18 : decode cX1_replace 18 = .ok (.invokevirtual 269, 3) := dk_182 1 13 (dk_at dksX1_replace_0 18 rfl rfl)
theorem dX1_replace_21 : decode cX1_replace 21 = .ok (.astore 4, 2) := dk_58 4 (dk_at dksX1_replace_0 21 rfl rfl)
theorem dX1_replace_23 : decode cX1_replace 23 = .ok (.aload 4, 2) := dk_25 4 (dk_at dksX1_replace_1 0 rfl rfl)
theorem dX1_replace_25 : decode cX1_replace 25 = .ok (.invokestatic 430, 3) := dk_184 1 174 (dk_at dksX1_replace_1 2 rfl rfl)
theorem dX1_replace_28 : decode cX1_replace 28 = .ok (.invokestatic 334, 3) := dk_184 1 78 (dk_at dksX1_replace_1 5 rfl rfl)
theorem dX1_replace_31 : decode cX1_replace 31 = .ok (.aload_n 0, 1) := dk_42 (dk_at dksX1_replace_1 8 rfl rfl)
theorem dX1_replace_32 : decode cX1_replace 32 = .ok (.invokevirtual 433, 3) := dk_182 1 177 (dk_at dksX1_replace_1 9 rfl rfl)
theorem dX1_replace_35 : decode cX1_replace 35 = .ok (.aload_n 0, 1) := dk_42 (dk_at dksX1_replace_1 12 rfl rfl)
theorem dX1_replace_36 : decode cX1_replace 36 = .ok (.getfield 24, 3) := dk_180 0 24 (dk_at dksX1_replace_1 13 rfl rfl)
theorem dX1_replace_39 : decode cX1_replace 39 = .ok (.iload_n 1, 1) := dk_27 (dk_at dksX1_replace_1 16 rfl rfl)
theorem dX1_replace_40 : decode cX1_replace 40 = .ok (.iconst 1, 1) := dk_4 (dk_at dksX1_replace_1 17 rfl rfl)
theorem dX1_replace_41 : decode cX1_replace 41 = .ok (.isub, 1) := dk_100 (dk_at dksX1_replace_1 18 rfl rfl)
theorem dX1_replace_42 : decode cX1_replace 42 = .ok (.aload_n 3, 1) := dk_45 (dk_at dksX1_replace_1 19 rfl rfl)
theorem dX1_replace_43 : decode cX1_replace 43 = .ok (.aload 4, 2) := dk_25 4 (dk_at dksX1_replace_1 20 rfl rfl)
theorem dX1_replace_45 : decode cX1_replace 45 = .ok (.invokevirtual 444, 3) := dk_182 1 188 (dk_at dksX1_replace_2 0 rfl rfl)
theorem dX1_replace_48 : decode cX1_replace 48 = .ok (.invokevirtual 447, 3) := dk_182 1 191 (dk_at dksX1_replace_2 3 rfl rfl)
theorem dX1_replace_51 : decode cX1_replace 51 = .ok (.aload_n 3, 1) := dk_45 (dk_at dksX1_replace_2 6 rfl rfl)
theorem dX1_replace_52 : decode cX1_replace 52 = .ok (.getfield 222, 3) := dk_180 0 222 (dk_at dksX1_replace_2 7 rfl rfl)
theorem dX1_replace_55 : decode cX1_replace 55 = .ok (.invokevirtual 104, 3) := dk_182 0 104 (dk_at dksX1_replace_2 10 rfl rfl)
theorem dX1_replace_58 : decode cX1_replace 58 = .ok (.ireturn, 1) := dk_172 (dk_at dksX1_replace_2 13 rfl rfl)
abbrev cX1_join : ByteArray := prog_1_method_68_code
def yX1_join : MethodName := ⟨RX1, "join", "(I)I"⟩
def dkwX1_join_5 : List UInt8 := [182, 0, 104, 96, 172]
abbrev dktX1_join_5 : List UInt8 := dkwX1_join_5 ++ []
def dkwX1_join_4 : List UInt8 := [182, 1, 191, 42, 180, 0, 24, 27, 27, 182, 1, 194, 44, 180, 0, 222, 182, 0, 104, 45, 180, 0, 222]
abbrev dktX1_join_4 : List UInt8 := dkwX1_join_4 ++ dktX1_join_5
def dkwX1_join_3 : List UInt8 := [183, 0, 41, 44, 180, 0, 222, 182, 1, 151, 45, 180, 0, 222, 182, 1, 151, 182, 0, 100, 182, 1, 188]
abbrev dktX1_join_3 : List UInt8 := dkwX1_join_3 ++ dktX1_join_4
def dkwX1_join_2 : List UInt8 := [4, 167, 0, 4, 3, 184, 1, 78, 42, 182, 1, 177, 42, 180, 0, 24, 27, 4, 100, 44, 187, 0, 39, 89]
abbrev dktX1_join_2 : List UInt8 := dkwX1_join_2 ++ dktX1_join_3
def dkwX1_join_1 : List UInt8 := [182, 0, 67, 78, 44, 180, 0, 222, 182, 0, 104, 45, 180, 0, 222, 182, 0, 104, 96, 16, 24, 163, 0, 7]
abbrev dktX1_join_1 : List UInt8 := dkwX1_join_1 ++ dktX1_join_2
def dkwX1_join_0 : List UInt8 := [42, 27, 182, 0, 219, 77, 27, 42, 180, 0, 24, 182, 0, 55, 184, 0, 59, 42, 180, 0, 24, 27]
abbrev dktX1_join_0 : List UInt8 := dkwX1_join_0 ++ dktX1_join_1
theorem dksX1_join_0 : cX1_join.data.toList.drop 0 = dktX1_join_0 := by decide +kernel
theorem dksX1_join_1 : cX1_join.data.toList.drop 22 = dktX1_join_1 := dk_seg dksX1_join_0 22 rfl rfl
theorem dksX1_join_2 : cX1_join.data.toList.drop 46 = dktX1_join_2 := dk_seg dksX1_join_1 24 rfl rfl
theorem dksX1_join_3 : cX1_join.data.toList.drop 70 = dktX1_join_3 := dk_seg dksX1_join_2 24 rfl rfl
theorem dksX1_join_4 : cX1_join.data.toList.drop 93 = dktX1_join_4 := dk_seg dksX1_join_3 23 rfl rfl
theorem dksX1_join_5 : cX1_join.data.toList.drop 116 = dktX1_join_5 := dk_seg dksX1_join_4 23 rfl rfl
theorem dX1_join_0 : decode cX1_join 0 = .ok (.aload_n 0, 1) := dk_42 (dk_at dksX1_join_0 0 rfl rfl)
theorem dX1_join_1 : decode cX1_join 1 = .ok (.iload_n 1, 1) := dk_27 (dk_at dksX1_join_0 1 rfl rfl)
theorem dX1_join_2 : decode cX1_join 2 = .ok (.invokevirtual 219, 3) := dk_182 0 219 (dk_at dksX1_join_0 2 rfl rfl)
theorem dX1_join_5 : decode cX1_join 5 = .ok (.astore_n 2, 1) := dk_77 (dk_at dksX1_join_0 5 rfl rfl)
theorem dX1_join_6 : decode cX1_join 6 = .ok (.iload_n 1, 1) := dk_27 (dk_at dksX1_join_0 6 rfl rfl)
theorem dX1_join_7 : decode cX1_join 7 = .ok (.aload_n 0, 1) := dk_42 (dk_at dksX1_join_0 7 rfl rfl)
theorem dX1_join_8 : decode cX1_join 8 = .ok (.getfield 24, 3) := dk_180 0 24 (dk_at dksX1_join_0 8 rfl rfl)
theorem dX1_join_11 : decode cX1_join 11 = .ok (.invokevirtual 55, 3) := dk_182 0 55 (dk_at dksX1_join_0 11 rfl rfl)
theorem dX1_join_14 : decode cX1_join 14 = .ok (.invokestatic 59, 3) := dk_184 0 59 (dk_at dksX1_join_0 14 rfl rfl)
theorem dX1_join_17 : decode cX1_join 17 = .ok (.aload_n 0, 1) := dk_42 (dk_at dksX1_join_0 17 rfl rfl)
theorem dX1_join_18 : decode cX1_join 18 = .ok (.getfield 24, 3) := dk_180 0 24 (dk_at dksX1_join_0 18 rfl rfl)
theorem dX1_join_21 : decode cX1_join 21 = .ok (.iload_n 1, 1) := dk_27 (dk_at dksX1_join_0 21 rfl rfl)
theorem dX1_join_22 : decode cX1_join 22 = .ok (.invokevirtual 67, 3) := dk_182 0 67 (dk_at dksX1_join_1 0 rfl rfl)
theorem dX1_join_25 : decode cX1_join 25 = .ok (.astore_n 3, 1) := dk_78 (dk_at dksX1_join_1 3 rfl rfl)
theorem dX1_join_26 : decode cX1_join 26 = .ok (.aload_n 2, 1) := dk_44 (dk_at dksX1_join_1 4 rfl rfl)
theorem dX1_join_27 : decode cX1_join 27 = .ok (.getfield 222, 3) := dk_180 0 222 (dk_at dksX1_join_1 5 rfl rfl)
theorem dX1_join_30 : decode cX1_join 30 = .ok (.invokevirtual 104, 3) := dk_182 0 104 (dk_at dksX1_join_1 8 rfl rfl)
theorem dX1_join_33 : decode cX1_join 33 = .ok (.aload_n 3, 1) := dk_45 (dk_at dksX1_join_1 11 rfl rfl)
theorem dX1_join_34 : decode cX1_join 34 = .ok (.getfield 222, 3) := dk_180 0 222 (dk_at dksX1_join_1 12 rfl rfl)
theorem dX1_join_37 : decode cX1_join 37 = .ok (.invokevirtual 104, 3) := dk_182 0 104 (dk_at dksX1_join_1 15 rfl rfl)
theorem dX1_join_40 : decode cX1_join 40 = .ok (.iadd, 1) := dk_96 (dk_at dksX1_join_1 18 rfl rfl)
theorem dX1_join_41 : decode cX1_join 41 = .ok (.bipush 24, 2) := dk_16 24 (dk_at dksX1_join_1 19 rfl rfl)
theorem dX1_join_43 : decode cX1_join 43 = .ok (.if_icmp .gt 7, 3) := dk_163 0 7 (dk_at dksX1_join_1 21 rfl rfl)
theorem dX1_join_46 : decode cX1_join 46 = .ok (.iconst 1, 1) := dk_4 (dk_at dksX1_join_2 0 rfl rfl)
theorem dX1_join_47 : decode cX1_join 47 = .ok (.goto 4, 3) := dk_167 0 4 (dk_at dksX1_join_2 1 rfl rfl)
theorem dX1_join_50 : decode cX1_join 50 = .ok (.iconst 0, 1) := dk_3 (dk_at dksX1_join_2 4 rfl rfl)
theorem dX1_join_51 : decode cX1_join 51 = .ok (.invokestatic 334, 3) := dk_184 1 78 (dk_at dksX1_join_2 5 rfl rfl)
theorem dX1_join_54 : decode cX1_join 54 = .ok (.aload_n 0, 1) := dk_42 (dk_at dksX1_join_2 8 rfl rfl)
theorem dX1_join_55 : decode cX1_join 55 = .ok (.invokevirtual 433, 3) := dk_182 1 177 (dk_at dksX1_join_2 9 rfl rfl)
theorem dX1_join_58 : decode cX1_join 58 = .ok (.aload_n 0, 1) := dk_42 (dk_at dksX1_join_2 12 rfl rfl)
theorem dX1_join_59 : decode cX1_join 59 = .ok (.getfield 24, 3) := dk_180 0 24 (dk_at dksX1_join_2 13 rfl rfl)
theorem dX1_join_62 : decode cX1_join 62 = .ok (.iload_n 1, 1) := dk_27 (dk_at dksX1_join_2 16 rfl rfl)
theorem dX1_join_63 : decode cX1_join 63 = .ok (.iconst 1, 1) := dk_4 (dk_at dksX1_join_2 17 rfl rfl)
theorem dX1_join_64 : decode cX1_join 64 = .ok (.isub, 1) := dk_100 (dk_at dksX1_join_2 18 rfl rfl)
theorem dX1_join_65 : decode cX1_join 65 = .ok (.aload_n 2, 1) := dk_44 (dk_at dksX1_join_2 19 rfl rfl)
theorem dX1_join_66 : decode cX1_join 66 = .ok (.new 39, 3) := dk_187 0 39 (dk_at dksX1_join_2 20 rfl rfl)
theorem dX1_join_69 : decode cX1_join 69 = .ok (.dup, 1) := dk_89 (dk_at dksX1_join_2 23 rfl rfl)
theorem dX1_join_70 : decode cX1_join 70 = .ok (.invokespecial 41, 3) := dk_183 0 41 (dk_at dksX1_join_3 0 rfl rfl)
theorem dX1_join_73 : decode cX1_join 73 = .ok (.aload_n 2, 1) := dk_44 (dk_at dksX1_join_3 3 rfl rfl)
theorem dX1_join_74 : decode cX1_join 74 = .ok (.getfield 222, 3) := dk_180 0 222 (dk_at dksX1_join_3 4 rfl rfl)
theorem dX1_join_77 : decode cX1_join 77 = .ok (.invokevirtual 407, 3) := dk_182 1 151 (dk_at dksX1_join_3 7 rfl rfl)
theorem dX1_join_80 : decode cX1_join 80 = .ok (.aload_n 3, 1) := dk_45 (dk_at dksX1_join_3 10 rfl rfl)
theorem dX1_join_81 : decode cX1_join 81 = .ok (.getfield 222, 3) := dk_180 0 222 (dk_at dksX1_join_3 11 rfl rfl)
theorem dX1_join_84 : decode cX1_join 84 = .ok (.invokevirtual 407, 3) := dk_182 1 151 (dk_at dksX1_join_3 14 rfl rfl)
theorem dX1_join_87 : decode cX1_join 87 = .ok (.invokevirtual 100, 3) := dk_182 0 100 (dk_at dksX1_join_3 17 rfl rfl)
theorem dX1_join_90 : decode cX1_join 90 = .ok (.invokevirtual 444, 3) := dk_182 1 188 (dk_at dksX1_join_3 20 rfl rfl)
theorem dX1_join_93 : decode cX1_join 93 = .ok (.invokevirtual 447, 3) := dk_182 1 191 (dk_at dksX1_join_4 0 rfl rfl)
theorem dX1_join_96 : decode cX1_join 96 = .ok (.aload_n 0, 1) := dk_42 (dk_at dksX1_join_4 3 rfl rfl)
theorem dX1_join_97 : decode cX1_join 97 = .ok (.getfield 24, 3) := dk_180 0 24 (dk_at dksX1_join_4 4 rfl rfl)
theorem dX1_join_100 : decode cX1_join 100 = .ok (.iload_n 1, 1) := dk_27 (dk_at dksX1_join_4 7 rfl rfl)
theorem dX1_join_101 : decode cX1_join 101 = .ok (.iload_n 1, 1) := dk_27 (dk_at dksX1_join_4 8 rfl rfl)
theorem dX1_join_102 : decode cX1_join 102 = .ok (.invokevirtual 450, 3) := dk_182 1 194 (dk_at dksX1_join_4 9 rfl rfl)
theorem dX1_join_105 : decode cX1_join 105 = .ok (.aload_n 2, 1) := dk_44 (dk_at dksX1_join_4 12 rfl rfl)
theorem dX1_join_106 : decode cX1_join 106 = .ok (.getfield 222, 3) := dk_180 0 222 (dk_at dksX1_join_4 13 rfl rfl)
theorem dX1_join_109 : decode cX1_join 109 = .ok (.invokevirtual 104, 3) := dk_182 0 104 (dk_at dksX1_join_4 16 rfl rfl)
theorem dX1_join_112 : decode cX1_join 112 = .ok (.aload_n 3, 1) := dk_45 (dk_at dksX1_join_4 19 rfl rfl)
theorem dX1_join_113 : decode cX1_join 113 = .ok (.getfield 222, 3) := dk_180 0 222 (dk_at dksX1_join_4 20 rfl rfl)
theorem dX1_join_116 : decode cX1_join 116 = .ok (.invokevirtual 104, 3) := dk_182 0 104 (dk_at dksX1_join_5 0 rfl rfl)
theorem dX1_join_119 : decode cX1_join 119 = .ok (.iadd, 1) := dk_96 (dk_at dksX1_join_5 3 rfl rfl)
theorem dX1_join_120 : decode cX1_join 120 = .ok (.ireturn, 1) := dk_172 (dk_at dksX1_join_5 4 rfl rfl)
abbrev cX1_part : ByteArray := prog_1_method_69_code
def yX1_part : MethodName := ⟨RX1, "part", "(II)I"⟩
def dkwX1_part_4 : List UInt8 := [25, 4, 180, 0, 214, 172]
abbrev dktX1_part_4 : List UInt8 := dkwX1_part_4 ++ []
def dkwX1_part_3 : List UInt8 := [180, 0, 222, 3, 28, 182, 1, 200, 182, 1, 188, 182, 1, 191, 42, 180, 0, 24, 27, 25, 4, 182, 1, 184]
abbrev dktX1_part_3 : List UInt8 := dkwX1_part_3 ++ dktX1_part_4
def dkwX1_part_2 : List UInt8 := [45, 180, 0, 222, 28, 182, 1, 197, 182, 1, 180, 58, 4, 42, 180, 0, 24, 27, 4, 100, 45, 45]
abbrev dktX1_part_2 : List UInt8 := dkwX1_part_2 ++ dktX1_part_3
def dkwX1_part_1 : List UInt8 := [182, 0, 55, 16, 80, 162, 0, 7, 4, 167, 0, 4, 3, 184, 1, 78, 42, 182, 1, 177, 42, 180, 0, 24]
abbrev dktX1_part_1 : List UInt8 := dkwX1_part_1 ++ dktX1_part_2
def dkwX1_part_0 : List UInt8 := [42, 27, 182, 0, 219, 78, 28, 45, 180, 0, 222, 182, 0, 104, 4, 96, 184, 0, 59, 42, 180, 0, 24]
abbrev dktX1_part_0 : List UInt8 := dkwX1_part_0 ++ dktX1_part_1
theorem dksX1_part_0 : cX1_part.data.toList.drop 0 = dktX1_part_0 := by decide +kernel
theorem dksX1_part_1 : cX1_part.data.toList.drop 23 = dktX1_part_1 := dk_seg dksX1_part_0 23 rfl rfl
theorem dksX1_part_2 : cX1_part.data.toList.drop 47 = dktX1_part_2 := dk_seg dksX1_part_1 24 rfl rfl
theorem dksX1_part_3 : cX1_part.data.toList.drop 69 = dktX1_part_3 := dk_seg dksX1_part_2 22 rfl rfl
theorem dksX1_part_4 : cX1_part.data.toList.drop 93 = dktX1_part_4 := dk_seg dksX1_part_3 24 rfl rfl
theorem dX1_part_0 : decode cX1_part 0 = .ok (.aload_n 0, 1) := dk_42 (dk_at dksX1_part_0 0 rfl rfl)
theorem dX1_part_1 : decode cX1_part 1 = .ok (.iload_n 1, 1) := dk_27 (dk_at dksX1_part_0 1 rfl rfl)
theorem dX1_part_2 : decode cX1_part 2 = .ok (.invokevirtual 219, 3) := dk_182 0 219 (dk_at dksX1_part_0 2 rfl rfl)
theorem dX1_part_5 : decode cX1_part 5 = .ok (.astore_n 3, 1) := dk_78 (dk_at dksX1_part_0 5 rfl rfl)
theorem dX1_part_6 : decode cX1_part 6 = .ok (.iload_n 2, 1) := dk_28 (dk_at dksX1_part_0 6 rfl rfl)
theorem dX1_part_7 : decode cX1_part 7 = .ok (.aload_n 3, 1) := dk_45 (dk_at dksX1_part_0 7 rfl rfl)
theorem dX1_part_8 : decode cX1_part 8 = .ok (.getfield 222, 3) := dk_180 0 222 (dk_at dksX1_part_0 8 rfl rfl)
theorem dX1_part_11 : decode cX1_part 11 = .ok (.invokevirtual 104, 3) := dk_182 0 104 (dk_at dksX1_part_0 11 rfl rfl)
theorem dX1_part_14 : decode cX1_part 14 = .ok (.iconst 1, 1) := dk_4 (dk_at dksX1_part_0 14 rfl rfl)
theorem dX1_part_15 : decode cX1_part 15 = .ok (.iadd, 1) := dk_96 (dk_at dksX1_part_0 15 rfl rfl)
theorem dX1_part_16 : decode cX1_part 16 = .ok (.invokestatic 59, 3) := dk_184 0 59 (dk_at dksX1_part_0 16 rfl rfl)
theorem dX1_part_19 : decode cX1_part 19 = .ok (.aload_n 0, 1) := dk_42 (dk_at dksX1_part_0 19 rfl rfl)
theorem dX1_part_20 : decode cX1_part 20 = .ok (.getfield 24, 3) := dk_180 0 24 (dk_at dksX1_part_0 20 rfl rfl)
theorem dX1_part_23 : decode cX1_part 23 = .ok (.invokevirtual 55, 3) := dk_182 0 55 (dk_at dksX1_part_1 0 rfl rfl)
theorem dX1_part_26 : decode cX1_part 26 = .ok (.bipush 80, 2) := dk_16 80 (dk_at dksX1_part_1 3 rfl rfl)
theorem dX1_part_28 : decode cX1_part 28 = .ok (.if_icmp .ge 7, 3) := dk_162 0 7 (dk_at dksX1_part_1 5 rfl rfl)
theorem dX1_part_31 : decode cX1_part 31 = .ok (.iconst 1, 1) := dk_4 (dk_at dksX1_part_1 8 rfl rfl)
theorem dX1_part_32 : decode cX1_part 32 = .ok (.goto 4, 3) := dk_167 0 4 (dk_at dksX1_part_1 9 rfl rfl)
theorem dX1_part_35 : decode cX1_part 35 = .ok (.iconst 0, 1) := dk_3 (dk_at dksX1_part_1 12 rfl rfl)
theorem dX1_part_36 : decode cX1_part 36 = .ok (.invokestatic 334, 3) := dk_184 1 78 (dk_at dksX1_part_1 13 rfl rfl)
theorem dX1_part_39 : decode cX1_part 39 = .ok (.aload_n 0, 1) := dk_42 (dk_at dksX1_part_1 16 rfl rfl)
theorem dX1_part_40 : decode cX1_part 40 = .ok (.invokevirtual 433, 3) := dk_182 1 177 (dk_at dksX1_part_1 17 rfl rfl)
theorem dX1_part_43 : decode cX1_part 43 = .ok (.aload_n 0, 1) := dk_42 (dk_at dksX1_part_1 20 rfl rfl)
theorem dX1_part_44 : decode cX1_part 44 = .ok (.getfield 24, 3) := dk_180 0 24 (dk_at dksX1_part_1 21 rfl rfl)
theorem dX1_part_47 : decode cX1_part 47 = .ok (.aload_n 3, 1) := dk_45 (dk_at dksX1_part_2 0 rfl rfl)
theorem dX1_part_48 : decode cX1_part 48 = .ok (.getfield 222, 3) := dk_180 0 222 (dk_at dksX1_part_2 1 rfl rfl)
theorem dX1_part_51 : decode cX1_part 51 = .ok (.iload_n 2, 1) := dk_28 (dk_at dksX1_part_2 4 rfl rfl)
theorem dX1_part_52 : decode cX1_part 52 = .ok (.invokevirtual 453, 3) := dk_182 1 197 (dk_at dksX1_part_2 5 rfl rfl)
theorem dX1_part_55 : decode cX1_part 55 = .ok (.invokevirtual 436, 3) := dk_182 1 180 (dk_at dksX1_part_2 8 rfl rfl)
theorem dX1_part_58 : decode cX1_part 58 = .ok (.astore 4, 2) := dk_58 4 (dk_at dksX1_part_2 11 rfl rfl)
theorem dX1_part_60 : decode cX1_part 60 = .ok (.aload_n 0, 1) := dk_42 (dk_at dksX1_part_2 13 rfl rfl)
theorem dX1_part_61 : decode cX1_part 61 = .ok (.getfield 24, 3) := dk_180 0 24 (dk_at dksX1_part_2 14 rfl rfl)
theorem dX1_part_64 : decode cX1_part 64 = .ok (.iload_n 1, 1) := dk_27 (dk_at dksX1_part_2 17 rfl rfl)
theorem dX1_part_65 : decode cX1_part 65 = .ok (.iconst 1, 1) := dk_4 (dk_at dksX1_part_2 18 rfl rfl)
theorem dX1_part_66 : decode cX1_part 66 = .ok (.isub, 1) := dk_100 (dk_at dksX1_part_2 19 rfl rfl)
theorem dX1_part_67 : decode cX1_part 67 = .ok (.aload_n 3, 1) := dk_45 (dk_at dksX1_part_2 20 rfl rfl)
theorem dX1_part_68 : decode cX1_part 68 = .ok (.aload_n 3, 1) := dk_45 (dk_at dksX1_part_2 21 rfl rfl)
theorem dX1_part_69 : decode cX1_part 69 = .ok (.getfield 222, 3) := dk_180 0 222 (dk_at dksX1_part_3 0 rfl rfl)
theorem dX1_part_72 : decode cX1_part 72 = .ok (.iconst 0, 1) := dk_3 (dk_at dksX1_part_3 3 rfl rfl)
theorem dX1_part_73 : decode cX1_part 73 = .ok (.iload_n 2, 1) := dk_28 (dk_at dksX1_part_3 4 rfl rfl)
theorem dX1_part_74 : decode cX1_part 74 = .ok (.invokevirtual 456, 3) := dk_182 1 200 (dk_at dksX1_part_3 5 rfl rfl)
theorem dX1_part_77 : decode cX1_part 77 = .ok (.invokevirtual 444, 3) := dk_182 1 188 (dk_at dksX1_part_3 8 rfl rfl)
theorem dX1_part_80 : decode cX1_part 80 = .ok (.invokevirtual 447, 3) := dk_182 1 191 (dk_at dksX1_part_3 11 rfl rfl)
theorem dX1_part_83 : decode cX1_part 83 = .ok (.aload_n 0, 1) := dk_42 (dk_at dksX1_part_3 14 rfl rfl)
theorem dX1_part_84 : decode cX1_part 84 = .ok (.getfield 24, 3) := dk_180 0 24 (dk_at dksX1_part_3 15 rfl rfl)
theorem dX1_part_87 : decode cX1_part 87 = .ok (.iload_n 1, 1) := dk_27 (dk_at dksX1_part_3 18 rfl rfl)
theorem dX1_part_88 : decode cX1_part 88 = .ok (.aload 4, 2) := dk_25 4 (dk_at dksX1_part_3 19 rfl rfl)
theorem dX1_part_90 : decode cX1_part 90 = .ok (.invokevirtual 440, 3) := dk_182 1 184 (dk_at dksX1_part_3 21 rfl rfl)
theorem dX1_part_93 : decode cX1_part 93 = .ok (.aload 4, 2) := dk_25 4 (dk_at dksX1_part_4 0 rfl rfl)
theorem dX1_part_95 : decode cX1_part 95 = .ok (.getfield 214, 3) := dk_180 0 214 (dk_at dksX1_part_4 2 rfl rfl)
theorem dX1_part_98 : decode cX1_part 98 = .ok (.ireturn, 1) := dk_172 (dk_at dksX1_part_4 5 rfl rfl)
abbrev cX1_remove : ByteArray := prog_1_method_70_code
def yX1_remove : MethodName := ⟨RX1, "remove", "(II)I"⟩
def dkwX1_remove_1 : List UInt8 := [180, 0, 24, 27, 4, 100, 28, 4, 100, 182, 1, 194, 42, 180, 0, 24, 182, 0, 55, 172]
abbrev dktX1_remove_1 : List UInt8 := dkwX1_remove_1 ++ []
def dkwX1_remove_0 : List UInt8 := [42, 27, 28, 182, 1, 203, 27, 28, 163, 0, 7, 4, 167, 0, 4, 3, 184, 1, 78, 42, 182, 1, 177, 42]
abbrev dktX1_remove_0 : List UInt8 := dkwX1_remove_0 ++ dktX1_remove_1
theorem dksX1_remove_0 : cX1_remove.data.toList.drop 0 = dktX1_remove_0 := by decide +kernel
theorem dksX1_remove_1 : cX1_remove.data.toList.drop 24 = dktX1_remove_1 := dk_seg dksX1_remove_0 24 rfl rfl
theorem dX1_remove_0 : decode cX1_remove 0 = .ok (.aload_n 0, 1) := dk_42 (dk_at dksX1_remove_0 0 rfl rfl)
theorem dX1_remove_1 : decode cX1_remove 1 = .ok (.iload_n 1, 1) := dk_27 (dk_at dksX1_remove_0 1 rfl rfl)
theorem dX1_remove_2 : decode cX1_remove 2 = .ok (.iload_n 2, 1) := dk_28 (dk_at dksX1_remove_0 2 rfl rfl)
theorem dX1_remove_3 : decode cX1_remove 3 = .ok (.invokevirtual 459, 3) := dk_182 1 203 (dk_at dksX1_remove_0 3 rfl rfl)
theorem dX1_remove_6 : decode cX1_remove 6 = .ok (.iload_n 1, 1) := dk_27 (dk_at dksX1_remove_0 6 rfl rfl)
theorem dX1_remove_7 : decode cX1_remove 7 = .ok (.iload_n 2, 1) := dk_28 (dk_at dksX1_remove_0 7 rfl rfl)
theorem dX1_remove_8 : decode cX1_remove 8 = .ok (.if_icmp .gt 7, 3) := dk_163 0 7 (dk_at dksX1_remove_0 8 rfl rfl)
theorem dX1_remove_11 : decode cX1_remove 11 = .ok (.iconst 1, 1) := dk_4 (dk_at dksX1_remove_0 11 rfl rfl)
theorem dX1_remove_12 : decode cX1_remove 12 = .ok (.goto 4, 3) := dk_167 0 4 (dk_at dksX1_remove_0 12 rfl rfl)
theorem dX1_remove_15 : decode cX1_remove 15 = .ok (.iconst 0, 1) := dk_3 (dk_at dksX1_remove_0 15 rfl rfl)
theorem dX1_remove_16 : decode cX1_remove 16 = .ok (.invokestatic 334, 3) := dk_184 1 78 (dk_at dksX1_remove_0 16 rfl rfl)
theorem dX1_remove_19 : decode cX1_remove 19 = .ok (.aload_n 0, 1) := dk_42 (dk_at dksX1_remove_0 19 rfl rfl)
theorem dX1_remove_20 : decode cX1_remove 20 = .ok (.invokevirtual 433, 3) := dk_182 1 177 (dk_at dksX1_remove_0 20 rfl rfl)
theorem dX1_remove_23 : decode cX1_remove 23 = .ok (.aload_n 0, 1) := dk_42 (dk_at dksX1_remove_0 23 rfl rfl)
theorem dX1_remove_24 : decode cX1_remove 24 = .ok (.getfield 24, 3) := dk_180 0 24 (dk_at dksX1_remove_1 0 rfl rfl)
theorem dX1_remove_27 : decode cX1_remove 27 = .ok (.iload_n 1, 1) := dk_27 (dk_at dksX1_remove_1 3 rfl rfl)
theorem dX1_remove_28 : decode cX1_remove 28 = .ok (.iconst 1, 1) := dk_4 (dk_at dksX1_remove_1 4 rfl rfl)
theorem dX1_remove_29 : decode cX1_remove 29 = .ok (.isub, 1) := dk_100 (dk_at dksX1_remove_1 5 rfl rfl)
theorem dX1_remove_30 : decode cX1_remove 30 = .ok (.iload_n 2, 1) := dk_28 (dk_at dksX1_remove_1 6 rfl rfl)
theorem dX1_remove_31 : decode cX1_remove 31 = .ok (.iconst 1, 1) := dk_4 (dk_at dksX1_remove_1 7 rfl rfl)
theorem dX1_remove_32 : decode cX1_remove 32 = .ok (.isub, 1) := dk_100 (dk_at dksX1_remove_1 8 rfl rfl)
theorem dX1_remove_33 : decode cX1_remove 33 = .ok (.invokevirtual 450, 3) := dk_182 1 194 (dk_at dksX1_remove_1 9 rfl rfl)
theorem dX1_remove_36 : decode cX1_remove 36 = .ok (.aload_n 0, 1) := dk_42 (dk_at dksX1_remove_1 12 rfl rfl)
theorem dX1_remove_37 : decode cX1_remove 37 = .ok (.getfield 24, 3) := dk_180 0 24 (dk_at dksX1_remove_1 13 rfl rfl)
theorem dX1_remove_40 : decode cX1_remove 40 = .ok (.invokevirtual 55, 3) := dk_182 0 55 (dk_at dksX1_remove_1 16 rfl rfl)
theorem dX1_remove_43 : decode cX1_remove 43 = .ok (.ireturn, 1) := dk_172 (dk_at dksX1_remove_1 19 rfl rfl)
abbrev cX1_checkBlock : ByteArray := prog_1_method_67_code
def yX1_checkBlock : MethodName := ⟨RX1, "checkBlock", "(II)V"⟩
def dkwX1_checkBlock_0 : List UInt8 := [42, 27, 182, 0, 63, 62, 42, 28, 182, 0, 63, 54, 4, 177]
abbrev dktX1_checkBlock_0 : List UInt8 := dkwX1_checkBlock_0 ++ []
theorem dksX1_checkBlock_0 : cX1_checkBlock.data.toList.drop 0 = dktX1_checkBlock_0 := by decide +kernel
theorem dX1_checkBlock_0 : decode cX1_checkBlock 0 = .ok (.aload_n 0, 1) := dk_42 (dk_at dksX1_checkBlock_0 0 rfl rfl)
theorem dX1_checkBlock_1 : decode cX1_checkBlock 1 = .ok (.iload_n 1, 1) := dk_27 (dk_at dksX1_checkBlock_0 1 rfl rfl)
theorem dX1_checkBlock_2 : decode cX1_checkBlock 2 = .ok (.invokevirtual 63, 3) := dk_182 0 63 (dk_at dksX1_checkBlock_0 2 rfl rfl)
theorem dX1_checkBlock_5 : decode cX1_checkBlock 5 = .ok (.istore_n 3, 1) := dk_62 (dk_at dksX1_checkBlock_0 5 rfl rfl)
theorem dX1_checkBlock_6 : decode cX1_checkBlock 6 = .ok (.aload_n 0, 1) := dk_42 (dk_at dksX1_checkBlock_0 6 rfl rfl)
theorem dX1_checkBlock_7 : decode cX1_checkBlock 7 = .ok (.iload_n 2, 1) := dk_28 (dk_at dksX1_checkBlock_0 7 rfl rfl)
theorem dX1_checkBlock_8 : decode cX1_checkBlock 8 = .ok (.invokevirtual 63, 3) := dk_182 0 63 (dk_at dksX1_checkBlock_0 8 rfl rfl)
theorem dX1_checkBlock_11 : decode cX1_checkBlock 11 = .ok (.istore 4, 2) := dk_54 4 (dk_at dksX1_checkBlock_0 11 rfl rfl)
theorem dX1_checkBlock_13 : decode cX1_checkBlock 13 = .ok (.return_, 1) := dk_177 (dk_at dksX1_checkBlock_0 13 rfl rfl)
abbrev cX1_move : ByteArray := prog_1_method_71_code
def yX1_move : MethodName := ⟨RX1, "move", "(III)I"⟩
def dkwX1_move_6 : List UInt8 := [87, 42, 180, 0, 24, 182, 1, 220, 21, 5, 4, 96, 172]
abbrev dktX1_move_6 : List UInt8 := dkwX1_move_6 ++ []
def dkwX1_move_5 : List UInt8 := [167, 0, 6, 29, 4, 100, 54, 5, 42, 180, 0, 24, 180, 1, 30, 21, 5, 25, 4, 185, 1, 216, 3, 0]
abbrev dktX1_move_5 : List UInt8 := dkwX1_move_5 ++ dktX1_move_6
def dkwX1_move_4 : List UInt8 := [132, 5, 1, 167, 255, 221, 29, 28, 164, 0, 17, 29, 4, 100, 25, 4, 185, 0, 81, 1, 0, 100]
abbrev dktX1_move_4 : List UInt8 := dkwX1_move_4 ++ dktX1_move_5
def dkwX1_move_3 : List UInt8 := [180, 0, 24, 180, 1, 30, 27, 4, 100, 185, 1, 209, 2, 0, 192, 0, 215, 185, 1, 212, 2, 0, 87]
abbrev dktX1_move_3 : List UInt8 := dkwX1_move_3 ++ dktX1_move_4
def dkwX1_move_2 : List UInt8 := [182, 1, 177, 187, 1, 206, 89, 183, 1, 208, 58, 4, 27, 54, 5, 21, 5, 28, 163, 0, 35, 25, 4, 42]
abbrev dktX1_move_2 : List UInt8 := dkwX1_move_2 ++ dktX1_move_3
def dkwX1_move_1 : List UInt8 := [163, 0, 18, 29, 27, 4, 96, 28, 184, 0, 1, 154, 0, 7, 4, 167, 0, 4, 3, 184, 1, 78, 42]
abbrev dktX1_move_1 : List UInt8 := dkwX1_move_1 ++ dktX1_move_2
def dkwX1_move_0 : List UInt8 := [42, 27, 28, 182, 1, 203, 29, 4, 100, 42, 180, 0, 24, 182, 0, 55, 4, 96, 184, 0, 59, 27, 28]
abbrev dktX1_move_0 : List UInt8 := dkwX1_move_0 ++ dktX1_move_1
theorem dksX1_move_0 : cX1_move.data.toList.drop 0 = dktX1_move_0 := by decide +kernel
theorem dksX1_move_1 : cX1_move.data.toList.drop 23 = dktX1_move_1 := dk_seg dksX1_move_0 23 rfl rfl
theorem dksX1_move_2 : cX1_move.data.toList.drop 46 = dktX1_move_2 := dk_seg dksX1_move_1 23 rfl rfl
theorem dksX1_move_3 : cX1_move.data.toList.drop 70 = dktX1_move_3 := dk_seg dksX1_move_2 24 rfl rfl
theorem dksX1_move_4 : cX1_move.data.toList.drop 93 = dktX1_move_4 := dk_seg dksX1_move_3 23 rfl rfl
theorem dksX1_move_5 : cX1_move.data.toList.drop 115 = dktX1_move_5 := dk_seg dksX1_move_4 22 rfl rfl
theorem dksX1_move_6 : cX1_move.data.toList.drop 139 = dktX1_move_6 := dk_seg dksX1_move_5 24 rfl rfl
theorem dX1_move_0 : decode cX1_move 0 = .ok (.aload_n 0, 1) := dk_42 (dk_at dksX1_move_0 0 rfl rfl)
theorem dX1_move_1 : decode cX1_move 1 = .ok (.iload_n 1, 1) := dk_27 (dk_at dksX1_move_0 1 rfl rfl)
theorem dX1_move_2 : decode cX1_move 2 = .ok (.iload_n 2, 1) := dk_28 (dk_at dksX1_move_0 2 rfl rfl)
theorem dX1_move_3 : decode cX1_move 3 = .ok (.invokevirtual 459, 3) := dk_182 1 203 (dk_at dksX1_move_0 3 rfl rfl)
theorem dX1_move_6 : decode cX1_move 6 = .ok (.iload_n 3, 1) := dk_29 (dk_at dksX1_move_0 6 rfl rfl)
theorem dX1_move_7 : decode cX1_move 7 = .ok (.iconst 1, 1) := dk_4 (dk_at dksX1_move_0 7 rfl rfl)
theorem dX1_move_8 : decode cX1_move 8 = .ok (.isub, 1) := dk_100 (dk_at dksX1_move_0 8 rfl rfl)
theorem dX1_move_9 : decode cX1_move 9 = .ok (.aload_n 0, 1) := dk_42 (dk_at dksX1_move_0 9 rfl rfl)
theorem dX1_move_10 : decode cX1_move 10 = .ok (.getfield 24, 3) := dk_180 0 24 (dk_at dksX1_move_0 10 rfl rfl)
theorem dX1_move_13 : decode cX1_move 13 = .ok (.invokevirtual 55, 3) := dk_182 0 55 (dk_at dksX1_move_0 13 rfl rfl)
theorem dX1_move_16 : decode cX1_move 16 = .ok (.iconst 1, 1) := dk_4 (dk_at dksX1_move_0 16 rfl rfl)
theorem dX1_move_17 : decode cX1_move 17 = .ok (.iadd, 1) := dk_96 (dk_at dksX1_move_0 17 rfl rfl)
theorem dX1_move_18 : decode cX1_move 18 = .ok (.invokestatic 59, 3) := dk_184 0 59 (dk_at dksX1_move_0 18 rfl rfl)
theorem dX1_move_21 : decode cX1_move 21 = .ok (.iload_n 1, 1) := dk_27 (dk_at dksX1_move_0 21 rfl rfl)
theorem dX1_move_22 : decode cX1_move 22 = .ok (.iload_n 2, 1) := dk_28 (dk_at dksX1_move_0 22 rfl rfl)
theorem dX1_move_23 : decode cX1_move 23 = .ok (.if_icmp .gt 18, 3) := dk_163 0 18 (dk_at dksX1_move_1 0 rfl rfl)
theorem dX1_move_26 : decode cX1_move 26 = .ok (.iload_n 3, 1) := dk_29 (dk_at dksX1_move_1 3 rfl rfl)
theorem dX1_move_27 : decode cX1_move 27 = .ok (.iload_n 1, 1) := dk_27 (dk_at dksX1_move_1 4 rfl rfl)
theorem dX1_move_28 : decode cX1_move 28 = .ok (.iconst 1, 1) := dk_4 (dk_at dksX1_move_1 5 rfl rfl)
theorem dX1_move_29 : decode cX1_move 29 = .ok (.iadd, 1) := dk_96 (dk_at dksX1_move_1 6 rfl rfl)
theorem dX1_move_30 : decode cX1_move 30 = .ok (.iload_n 2, 1) := dk_28 (dk_at dksX1_move_1 7 rfl rfl)
theorem dX1_move_31 : decode cX1_move 31 = .ok (.invokestatic 1, 3) := dk_184 0 1 (dk_at dksX1_move_1 8 rfl rfl)
theorem dX1_move_34 : decode cX1_move 34 = .ok (.ifCond .ne 7, 3) := dk_154 0 7 (dk_at dksX1_move_1 11 rfl rfl)
theorem dX1_move_37 : decode cX1_move 37 = .ok (.iconst 1, 1) := dk_4 (dk_at dksX1_move_1 14 rfl rfl)
theorem dX1_move_38 : decode cX1_move 38 = .ok (.goto 4, 3) := dk_167 0 4 (dk_at dksX1_move_1 15 rfl rfl)
theorem dX1_move_41 : decode cX1_move 41 = .ok (.iconst 0, 1) := dk_3 (dk_at dksX1_move_1 18 rfl rfl)
theorem dX1_move_42 : decode cX1_move 42 = .ok (.invokestatic 334, 3) := dk_184 1 78 (dk_at dksX1_move_1 19 rfl rfl)
theorem dX1_move_45 : decode cX1_move 45 = .ok (.aload_n 0, 1) := dk_42 (dk_at dksX1_move_1 22 rfl rfl)
theorem dX1_move_46 : decode cX1_move 46 = .ok (.invokevirtual 433, 3) := dk_182 1 177 (dk_at dksX1_move_2 0 rfl rfl)
theorem dX1_move_49 : decode cX1_move 49 = .ok (.new 462, 3) := dk_187 1 206 (dk_at dksX1_move_2 3 rfl rfl)
theorem dX1_move_52 : decode cX1_move 52 = .ok (.dup, 1) := dk_89 (dk_at dksX1_move_2 6 rfl rfl)
theorem dX1_move_53 : decode cX1_move 53 = .ok (.invokespecial 464, 3) := dk_183 1 208 (dk_at dksX1_move_2 7 rfl rfl)
theorem dX1_move_56 : decode cX1_move 56 = .ok (.astore 4, 2) := dk_58 4 (dk_at dksX1_move_2 10 rfl rfl)
theorem dX1_move_58 : decode cX1_move 58 = .ok (.iload_n 1, 1) := dk_27 (dk_at dksX1_move_2 12 rfl rfl)
theorem dX1_move_59 : decode cX1_move 59 = .ok (.istore 5, 2) := dk_54 5 (dk_at dksX1_move_2 13 rfl rfl)
theorem dX1_move_61 : decode cX1_move 61 = .ok (.iload 5, 2) := dk_21 5 (dk_at dksX1_move_2 15 rfl rfl)
theorem dX1_move_63 : decode cX1_move 63 = .ok (.iload_n 2, 1) := dk_28 (dk_at dksX1_move_2 17 rfl rfl)
theorem dX1_move_64 : decode cX1_move 64 = .ok (.if_icmp .gt 35, 3) := dk_163 0 35 (dk_at dksX1_move_2 18 rfl rfl)
theorem dX1_move_67 : decode cX1_move 67 = .ok (.aload 4, 2) := dk_25 4 (dk_at dksX1_move_2 21 rfl rfl)
theorem dX1_move_69 : decode cX1_move 69 = .ok (.aload_n 0, 1) := dk_42 (dk_at dksX1_move_2 23 rfl rfl)
theorem dX1_move_70 : decode cX1_move 70 = .ok (.getfield 24, 3) := dk_180 0 24 (dk_at dksX1_move_3 0 rfl rfl)
theorem dX1_move_73 : decode cX1_move 73 = .ok (.getfield 286, 3) := dk_180 1 30 (dk_at dksX1_move_3 3 rfl rfl)
theorem dX1_move_76 : decode cX1_move 76 = .ok (.iload_n 1, 1) := dk_27 (dk_at dksX1_move_3 6 rfl rfl)
theorem dX1_move_77 : decode cX1_move 77 = .ok (.iconst 1, 1) := dk_4 (dk_at dksX1_move_3 7 rfl rfl)
theorem dX1_move_78 : decode cX1_move 78 = .ok (.isub, 1) := dk_100 (dk_at dksX1_move_3 8 rfl rfl)
theorem dX1_move_79 : decode cX1_move 79 = .ok (.invokeinterface 465 2, 5) := by decide +kernel
theorem dX1_move_84 : decode cX1_move 84 = .ok (.checkcast 215, 3) := dk_192 0 215 (dk_at dksX1_move_3 14 rfl rfl)
theorem dX1_move_87 : decode cX1_move 87 = .ok (.invokeinterface 468 2, 5) := by decide +kernel
theorem dX1_move_92 : decode cX1_move 92 = .ok (.pop, 1) := dk_87 (dk_at dksX1_move_3 22 rfl rfl)
theorem dX1_move_93 : decode cX1_move 93 = .ok (.iinc 5 1, 3) := dk_132 5 1 (dk_at dksX1_move_4 0 rfl rfl)
theorem dX1_move_96 : decode cX1_move 96 = .ok (.goto (-35), 3) := dk_167 255 221 (dk_at dksX1_move_4 3 rfl rfl)
theorem dX1_move_99 : decode cX1_move 99 = .ok (.iload_n 3, 1) := dk_29 (dk_at dksX1_move_4 6 rfl rfl)
theorem dX1_move_100 : decode cX1_move 100 = .ok (.iload_n 2, 1) := dk_28 (dk_at dksX1_move_4 7 rfl rfl)
theorem dX1_move_101 : decode cX1_move 101 = .ok (.if_icmp .le 17, 3) := dk_164 0 17 (dk_at dksX1_move_4 8 rfl rfl)
theorem dX1_move_104 : decode cX1_move 104 = .ok (.iload_n 3, 1) := dk_29 (dk_at dksX1_move_4 11 rfl rfl)
theorem dX1_move_105 : decode cX1_move 105 = .ok (.iconst 1, 1) := dk_4 (dk_at dksX1_move_4 12 rfl rfl)
theorem dX1_move_106 : decode cX1_move 106 = .ok (.isub, 1) := dk_100 (dk_at dksX1_move_4 13 rfl rfl)
theorem dX1_move_107 : decode cX1_move 107 = .ok (.aload 4, 2) := dk_25 4 (dk_at dksX1_move_4 14 rfl rfl)
theorem dX1_move_109 : decode cX1_move 109 = .ok (.invokeinterface 81 1, 5) := by decide +kernel
theorem dX1_move_114 : decode cX1_move 114 = .ok (.isub, 1) := dk_100 (dk_at dksX1_move_4 21 rfl rfl)
theorem dX1_move_115 : decode cX1_move 115 = .ok (.goto 6, 3) := dk_167 0 6 (dk_at dksX1_move_5 0 rfl rfl)
theorem dX1_move_118 : decode cX1_move 118 = .ok (.iload_n 3, 1) := dk_29 (dk_at dksX1_move_5 3 rfl rfl)
theorem dX1_move_119 : decode cX1_move 119 = .ok (.iconst 1, 1) := dk_4 (dk_at dksX1_move_5 4 rfl rfl)
theorem dX1_move_120 : decode cX1_move 120 = .ok (.isub, 1) := dk_100 (dk_at dksX1_move_5 5 rfl rfl)
theorem dX1_move_121 : decode cX1_move 121 = .ok (.istore 5, 2) := dk_54 5 (dk_at dksX1_move_5 6 rfl rfl)
theorem dX1_move_123 : decode cX1_move 123 = .ok (.aload_n 0, 1) := dk_42 (dk_at dksX1_move_5 8 rfl rfl)
theorem dX1_move_124 : decode cX1_move 124 = .ok (.getfield 24, 3) := dk_180 0 24 (dk_at dksX1_move_5 9 rfl rfl)
theorem dX1_move_127 : decode cX1_move 127 = .ok (.getfield 286, 3) := dk_180 1 30 (dk_at dksX1_move_5 12 rfl rfl)
theorem dX1_move_130 : decode cX1_move 130 = .ok (.iload 5, 2) := dk_21 5 (dk_at dksX1_move_5 15 rfl rfl)
theorem dX1_move_132 : decode cX1_move 132 = .ok (.aload 4, 2) := dk_25 4 (dk_at dksX1_move_5 17 rfl rfl)
theorem dX1_move_134 : decode cX1_move 134 = .ok (.invokeinterface 472 3, 5) := by decide +kernel
theorem dX1_move_139 : decode cX1_move 139 = .ok (.pop, 1) := dk_87 (dk_at dksX1_move_6 0 rfl rfl)
theorem dX1_move_140 : decode cX1_move 140 = .ok (.aload_n 0, 1) := dk_42 (dk_at dksX1_move_6 1 rfl rfl)
theorem dX1_move_141 : decode cX1_move 141 = .ok (.getfield 24, 3) := dk_180 0 24 (dk_at dksX1_move_6 2 rfl rfl)
theorem dX1_move_144 : decode cX1_move 144 = .ok (.invokevirtual 476, 3) := dk_182 1 220 (dk_at dksX1_move_6 5 rfl rfl)
theorem dX1_move_147 : decode cX1_move 147 = .ok (.iload 5, 2) := dk_21 5 (dk_at dksX1_move_6 8 rfl rfl)
theorem dX1_move_149 : decode cX1_move 149 = .ok (.iconst 1, 1) := dk_4 (dk_at dksX1_move_6 10 rfl rfl)
theorem dX1_move_150 : decode cX1_move 150 = .ok (.iadd, 1) := dk_96 (dk_at dksX1_move_6 11 rfl rfl)
theorem dX1_move_151 : decode cX1_move 151 = .ok (.ireturn, 1) := dk_172 (dk_at dksX1_move_6 12 rfl rfl)
abbrev cX1_copy : ByteArray := prog_1_method_72_code
def yX1_copy : MethodName := ⟨RX1, "copy", "(III)I"⟩
def dkwX1_copy_7 : List UInt8 := [132, 6, 1, 167, 255, 213, 21, 5, 172]
abbrev dktX1_copy_7 : List UInt8 := dkwX1_copy_7 ++ []
def dkwX1_copy_6 : List UInt8 := [192, 0, 105, 58, 8, 42, 180, 0, 24, 21, 6, 42, 180, 0, 24, 25, 8, 182, 1, 180, 182, 1, 184]
abbrev dktX1_copy_6 : List UInt8 := dkwX1_copy_6 ++ dktX1_copy_7
def dkwX1_copy_5 : List UInt8 := [185, 0, 152, 1, 0, 58, 7, 25, 7, 185, 0, 156, 1, 0, 153, 0, 39, 25, 7, 185, 0, 162, 1, 0]
abbrev dktX1_copy_5 : List UInt8 := dkwX1_copy_5 ++ dktX1_copy_6
def dkwX1_copy_4 : List UInt8 := [87, 132, 5, 1, 167, 255, 225, 42, 180, 0, 24, 180, 0, 211, 54, 5, 29, 4, 100, 54, 6, 25, 4]
abbrev dktX1_copy_4 : List UInt8 := dkwX1_copy_4 ++ dktX1_copy_5
def dkwX1_copy_3 : List UInt8 := [163, 0, 31, 25, 4, 42, 180, 0, 24, 21, 5, 4, 100, 182, 0, 67, 180, 0, 222, 185, 1, 212, 2, 0]
abbrev dktX1_copy_3 : List UInt8 := dkwX1_copy_3 ++ dktX1_copy_4
def dkwX1_copy_2 : List UInt8 := [184, 1, 78, 42, 182, 1, 177, 187, 1, 206, 89, 183, 1, 208, 58, 4, 27, 54, 5, 21, 5, 28]
abbrev dktX1_copy_2 : List UInt8 := dkwX1_copy_2 ++ dktX1_copy_3
def dkwX1_copy_1 : List UInt8 := [163, 0, 23, 42, 180, 0, 24, 182, 0, 55, 28, 96, 27, 100, 16, 80, 162, 0, 7, 4, 167, 0, 4, 3]
abbrev dktX1_copy_1 : List UInt8 := dkwX1_copy_1 ++ dktX1_copy_2
def dkwX1_copy_0 : List UInt8 := [42, 27, 28, 182, 1, 203, 29, 4, 100, 42, 180, 0, 24, 182, 0, 55, 4, 96, 184, 0, 59, 27, 28]
abbrev dktX1_copy_0 : List UInt8 := dkwX1_copy_0 ++ dktX1_copy_1
theorem dksX1_copy_0 : cX1_copy.data.toList.drop 0 = dktX1_copy_0 := by decide +kernel
theorem dksX1_copy_1 : cX1_copy.data.toList.drop 23 = dktX1_copy_1 := dk_seg dksX1_copy_0 23 rfl rfl
theorem dksX1_copy_2 : cX1_copy.data.toList.drop 47 = dktX1_copy_2 := dk_seg dksX1_copy_1 24 rfl rfl
theorem dksX1_copy_3 : cX1_copy.data.toList.drop 69 = dktX1_copy_3 := dk_seg dksX1_copy_2 22 rfl rfl
theorem dksX1_copy_4 : cX1_copy.data.toList.drop 93 = dktX1_copy_4 := dk_seg dksX1_copy_3 24 rfl rfl
theorem dksX1_copy_5 : cX1_copy.data.toList.drop 116 = dktX1_copy_5 := dk_seg dksX1_copy_4 23 rfl rfl
theorem dksX1_copy_6 : cX1_copy.data.toList.drop 140 = dktX1_copy_6 := dk_seg dksX1_copy_5 24 rfl rfl
theorem dksX1_copy_7 : cX1_copy.data.toList.drop 163 = dktX1_copy_7 := dk_seg dksX1_copy_6 23 rfl rfl
theorem dX1_copy_0 : decode cX1_copy 0 = .ok (.aload_n 0, 1) := dk_42 (dk_at dksX1_copy_0 0 rfl rfl)
theorem dX1_copy_1 : decode cX1_copy 1 = .ok (.iload_n 1, 1) := dk_27 (dk_at dksX1_copy_0 1 rfl rfl)
theorem dX1_copy_2 : decode cX1_copy 2 = .ok (.iload_n 2, 1) := dk_28 (dk_at dksX1_copy_0 2 rfl rfl)
theorem dX1_copy_3 : decode cX1_copy 3 = .ok (.invokevirtual 459, 3) := dk_182 1 203 (dk_at dksX1_copy_0 3 rfl rfl)
theorem dX1_copy_6 : decode cX1_copy 6 = .ok (.iload_n 3, 1) := dk_29 (dk_at dksX1_copy_0 6 rfl rfl)
theorem dX1_copy_7 : decode cX1_copy 7 = .ok (.iconst 1, 1) := dk_4 (dk_at dksX1_copy_0 7 rfl rfl)
theorem dX1_copy_8 : decode cX1_copy 8 = .ok (.isub, 1) := dk_100 (dk_at dksX1_copy_0 8 rfl rfl)
theorem dX1_copy_9 : decode cX1_copy 9 = .ok (.aload_n 0, 1) := dk_42 (dk_at dksX1_copy_0 9 rfl rfl)
theorem dX1_copy_10 : decode cX1_copy 10 = .ok (.getfield 24, 3) := dk_180 0 24 (dk_at dksX1_copy_0 10 rfl rfl)
theorem dX1_copy_13 : decode cX1_copy 13 = .ok (.invokevirtual 55, 3) := dk_182 0 55 (dk_at dksX1_copy_0 13 rfl rfl)
theorem dX1_copy_16 : decode cX1_copy 16 = .ok (.iconst 1, 1) := dk_4 (dk_at dksX1_copy_0 16 rfl rfl)
theorem dX1_copy_17 : decode cX1_copy 17 = .ok (.iadd, 1) := dk_96 (dk_at dksX1_copy_0 17 rfl rfl)
theorem dX1_copy_18 : decode cX1_copy 18 = .ok (.invokestatic 59, 3) := dk_184 0 59 (dk_at dksX1_copy_0 18 rfl rfl)
theorem dX1_copy_21 : decode cX1_copy 21 = .ok (.iload_n 1, 1) := dk_27 (dk_at dksX1_copy_0 21 rfl rfl)
theorem dX1_copy_22 : decode cX1_copy 22 = .ok (.iload_n 2, 1) := dk_28 (dk_at dksX1_copy_0 22 rfl rfl)
theorem dX1_copy_23 : decode cX1_copy 23 = .ok (.if_icmp .gt 23, 3) := dk_163 0 23 (dk_at dksX1_copy_1 0 rfl rfl)
theorem dX1_copy_26 : decode cX1_copy 26 = .ok (.aload_n 0, 1) := dk_42 (dk_at dksX1_copy_1 3 rfl rfl)
theorem dX1_copy_27 : decode cX1_copy 27 = .ok (.getfield 24, 3) := dk_180 0 24 (dk_at dksX1_copy_1 4 rfl rfl)
theorem dX1_copy_30 : decode cX1_copy 30 = .ok (.invokevirtual 55, 3) := dk_182 0 55 (dk_at dksX1_copy_1 7 rfl rfl)
theorem dX1_copy_33 : decode cX1_copy 33 = .ok (.iload_n 2, 1) := dk_28 (dk_at dksX1_copy_1 10 rfl rfl)
theorem dX1_copy_34 : decode cX1_copy 34 = .ok (.iadd, 1) := dk_96 (dk_at dksX1_copy_1 11 rfl rfl)
theorem dX1_copy_35 : decode cX1_copy 35 = .ok (.iload_n 1, 1) := dk_27 (dk_at dksX1_copy_1 12 rfl rfl)
theorem dX1_copy_36 : decode cX1_copy 36 = .ok (.isub, 1) := dk_100 (dk_at dksX1_copy_1 13 rfl rfl)
theorem dX1_copy_37 : decode cX1_copy 37 = .ok (.bipush 80, 2) := dk_16 80 (dk_at dksX1_copy_1 14 rfl rfl)
theorem dX1_copy_39 : decode cX1_copy 39 = .ok (.if_icmp .ge 7, 3) := dk_162 0 7 (dk_at dksX1_copy_1 16 rfl rfl)
theorem dX1_copy_42 : decode cX1_copy 42 = .ok (.iconst 1, 1) := dk_4 (dk_at dksX1_copy_1 19 rfl rfl)
theorem dX1_copy_43 : decode cX1_copy 43 = .ok (.goto 4, 3) := dk_167 0 4 (dk_at dksX1_copy_1 20 rfl rfl)
theorem dX1_copy_46 : decode cX1_copy 46 = .ok (.iconst 0, 1) := dk_3 (dk_at dksX1_copy_1 23 rfl rfl)
theorem dX1_copy_47 : decode cX1_copy 47 = .ok (.invokestatic 334, 3) := dk_184 1 78 (dk_at dksX1_copy_2 0 rfl rfl)
theorem dX1_copy_50 : decode cX1_copy 50 = .ok (.aload_n 0, 1) := dk_42 (dk_at dksX1_copy_2 3 rfl rfl)
theorem dX1_copy_51 : decode cX1_copy 51 = .ok (.invokevirtual 433, 3) := dk_182 1 177 (dk_at dksX1_copy_2 4 rfl rfl)
theorem dX1_copy_54 : decode cX1_copy 54 = .ok (.new 462, 3) := dk_187 1 206 (dk_at dksX1_copy_2 7 rfl rfl)
theorem dX1_copy_57 : decode cX1_copy 57 = .ok (.dup, 1) := dk_89 (dk_at dksX1_copy_2 10 rfl rfl)
theorem dX1_copy_58 : decode cX1_copy 58 = .ok (.invokespecial 464, 3) := dk_183 1 208 (dk_at dksX1_copy_2 11 rfl rfl)
theorem dX1_copy_61 : decode cX1_copy 61 = .ok (.astore 4, 2) := dk_58 4 (dk_at dksX1_copy_2 14 rfl rfl)
theorem dX1_copy_63 : decode cX1_copy 63 = .ok (.iload_n 1, 1) := dk_27 (dk_at dksX1_copy_2 16 rfl rfl)
theorem dX1_copy_64 : decode cX1_copy 64 = .ok (.istore 5, 2) := dk_54 5 (dk_at dksX1_copy_2 17 rfl rfl)
theorem dX1_copy_66 : decode cX1_copy 66 = .ok (.iload 5, 2) := dk_21 5 (dk_at dksX1_copy_2 19 rfl rfl)
theorem dX1_copy_68 : decode cX1_copy 68 = .ok (.iload_n 2, 1) := dk_28 (dk_at dksX1_copy_2 21 rfl rfl)
theorem dX1_copy_69 : decode cX1_copy 69 = .ok (.if_icmp .gt 31, 3) := dk_163 0 31 (dk_at dksX1_copy_3 0 rfl rfl)
theorem dX1_copy_72 : decode cX1_copy 72 = .ok (.aload 4, 2) := dk_25 4 (dk_at dksX1_copy_3 3 rfl rfl)
theorem dX1_copy_74 : decode cX1_copy 74 = .ok (.aload_n 0, 1) := dk_42 (dk_at dksX1_copy_3 5 rfl rfl)
theorem dX1_copy_75 : decode cX1_copy 75 = .ok (.getfield 24, 3) := dk_180 0 24 (dk_at dksX1_copy_3 6 rfl rfl)
theorem dX1_copy_78 : decode cX1_copy 78 = .ok (.iload 5, 2) := dk_21 5 (dk_at dksX1_copy_3 9 rfl rfl)
theorem dX1_copy_80 : decode cX1_copy 80 = .ok (.iconst 1, 1) := dk_4 (dk_at dksX1_copy_3 11 rfl rfl)
theorem dX1_copy_81 : decode cX1_copy 81 = .ok (.isub, 1) := dk_100 (dk_at dksX1_copy_3 12 rfl rfl)
theorem dX1_copy_82 : decode cX1_copy 82 = .ok (.invokevirtual 67, 3) := dk_182 0 67 (dk_at dksX1_copy_3 13 rfl rfl)
theorem dX1_copy_85 : decode cX1_copy 85 = .ok (.getfield 222, 3) := dk_180 0 222 (dk_at dksX1_copy_3 16 rfl rfl)
theorem dX1_copy_88 : decode cX1_copy 88 = .ok (.invokeinterface 468 2, 5) := by decide +kernel
theorem dX1_copy_93 : decode cX1_copy 93 = .ok (.pop, 1) := dk_87 (dk_at dksX1_copy_4 0 rfl rfl)
theorem dX1_copy_94 : decode cX1_copy 94 = .ok (.iinc 5 1, 3) := dk_132 5 1 (dk_at dksX1_copy_4 1 rfl rfl)
theorem dX1_copy_97 : decode cX1_copy 97 = .ok (.goto (-31), 3) := dk_167 255 225 (dk_at dksX1_copy_4 4 rfl rfl)
theorem dX1_copy_100 : decode cX1_copy 100 = .ok (.aload_n 0, 1) := dk_42 (dk_at dksX1_copy_4 7 rfl rfl)
theorem dX1_copy_101 : decode cX1_copy 101 = .ok (.getfield 24, 3) := dk_180 0 24 (dk_at dksX1_copy_4 8 rfl rfl)
theorem dX1_copy_104 : decode cX1_copy 104 = .ok (.getfield 211, 3) := dk_180 0 211 (dk_at dksX1_copy_4 11 rfl rfl)
theorem dX1_copy_107 : decode cX1_copy 107 = .ok (.istore 5, 2) := dk_54 5 (dk_at dksX1_copy_4 14 rfl rfl)
theorem dX1_copy_109 : decode cX1_copy 109 = .ok (.iload_n 3, 1) := dk_29 (dk_at dksX1_copy_4 16 rfl rfl)
theorem dX1_copy_110 : decode cX1_copy 110 = .ok (.iconst 1, 1) := dk_4 (dk_at dksX1_copy_4 17 rfl rfl)
theorem dX1_copy_111 : decode cX1_copy 111 = .ok (.isub, 1) := dk_100 (dk_at dksX1_copy_4 18 rfl rfl)
theorem dX1_copy_112 : decode cX1_copy 112 = .ok (.istore 6, 2) := dk_54 6 (dk_at dksX1_copy_4 19 rfl rfl)
theorem dX1_copy_114 : decode cX1_copy 114 = .ok (.aload 4, 2) := dk_25 4 (dk_at dksX1_copy_4 21 rfl rfl)
theorem dX1_copy_116 : decode cX1_copy 116 = .ok (.invokeinterface 152 1, 5) := by decide +kernel
theorem dX1_copy_121 : decode cX1_copy 121 = .ok (.astore 7, 2) := dk_58 7 (dk_at dksX1_copy_5 5 rfl rfl)
theorem dX1_copy_123 : decode cX1_copy 123 = .ok (.aload 7, 2) := dk_25 7 (dk_at dksX1_copy_5 7 rfl rfl)
theorem dX1_copy_125 : decode cX1_copy 125 = .ok (.invokeinterface 156 1, 5) := by decide +kernel
theorem dX1_copy_130 : decode cX1_copy 130 = .ok (.ifCond .eq 39, 3) := dk_153 0 39 (dk_at dksX1_copy_5 14 rfl rfl)
theorem dX1_copy_133 : decode cX1_copy 133 = .ok (.aload 7, 2) := dk_25 7 (dk_at dksX1_copy_5 17 rfl rfl)
theorem dX1_copy_135 : decode cX1_copy 135 = .ok (.invokeinterface 162 1, 5) := by decide +kernel
theorem dX1_copy_140 : decode cX1_copy 140 = .ok (.checkcast 105, 3) := dk_192 0 105 (dk_at dksX1_copy_6 0 rfl rfl)
theorem dX1_copy_143 : decode cX1_copy 143 = .ok (.astore 8, 2) := dk_58 8 (dk_at dksX1_copy_6 3 rfl rfl)
theorem dX1_copy_145 : decode cX1_copy 145 = .ok (.aload_n 0, 1) := dk_42 (dk_at dksX1_copy_6 5 rfl rfl)
theorem dX1_copy_146 : decode cX1_copy 146 = .ok (.getfield 24, 3) := dk_180 0 24 (dk_at dksX1_copy_6 6 rfl rfl)
theorem dX1_copy_149 : decode cX1_copy 149 = .ok (.iload 6, 2) := dk_21 6 (dk_at dksX1_copy_6 9 rfl rfl)
theorem dX1_copy_151 : decode cX1_copy 151 = .ok (.aload_n 0, 1) := dk_42 (dk_at dksX1_copy_6 11 rfl rfl)
theorem dX1_copy_152 : decode cX1_copy 152 = .ok (.getfield 24, 3) := dk_180 0 24 (dk_at dksX1_copy_6 12 rfl rfl)
theorem dX1_copy_155 : decode cX1_copy 155 = .ok (.aload 8, 2) := dk_25 8 (dk_at dksX1_copy_6 15 rfl rfl)
theorem dX1_copy_157 : decode cX1_copy 157 = .ok (.invokevirtual 436, 3) := dk_182 1 180 (dk_at dksX1_copy_6 17 rfl rfl)
theorem dX1_copy_160 : decode cX1_copy 160 = .ok (.invokevirtual 440, 3) := dk_182 1 184 (dk_at dksX1_copy_6 20 rfl rfl)
theorem dX1_copy_163 : decode cX1_copy 163 = .ok (.iinc 6 1, 3) := dk_132 6 1 (dk_at dksX1_copy_7 0 rfl rfl)
theorem dX1_copy_166 : decode cX1_copy 166 = .ok (.goto (-43), 3) := dk_167 255 213 (dk_at dksX1_copy_7 3 rfl rfl)
theorem dX1_copy_169 : decode cX1_copy 169 = .ok (.iload 5, 2) := dk_21 5 (dk_at dksX1_copy_7 6 rfl rfl)
theorem dX1_copy_171 : decode cX1_copy 171 = .ok (.ireturn, 1) := dk_172 (dk_at dksX1_copy_7 8 rfl rfl)
abbrev cX1_reverse : ByteArray := prog_1_method_73_code
def yX1_reverse : MethodName := ⟨RX1, "reverse", "(II)I"⟩
def dkwX1_reverse_3 : List UInt8 := [180, 0, 24, 21, 5, 25, 6, 182, 1, 191, 132, 3, 2, 132, 4, 1, 132, 5, 255, 167, 255, 200, 29, 172]
abbrev dktX1_reverse_3 : List UInt8 := dkwX1_reverse_3 ++ []
def dkwX1_reverse_2 : List UInt8 := [182, 0, 67, 58, 6, 42, 180, 0, 24, 21, 4, 42, 180, 0, 24, 21, 5, 182, 0, 67, 182, 1, 191, 42]
abbrev dktX1_reverse_2 : List UInt8 := dkwX1_reverse_2 ++ dktX1_reverse_3
def dkwX1_reverse_1 : List UInt8 := [62, 27, 4, 100, 54, 4, 28, 4, 100, 54, 5, 21, 4, 21, 5, 162, 0, 55, 42, 180, 0, 24, 21, 4]
abbrev dktX1_reverse_1 : List UInt8 := dkwX1_reverse_1 ++ dktX1_reverse_2
def dkwX1_reverse_0 : List UInt8 := [42, 27, 28, 182, 1, 203, 27, 28, 163, 0, 7, 4, 167, 0, 4, 3, 184, 1, 78, 42, 182, 1, 177, 3]
abbrev dktX1_reverse_0 : List UInt8 := dkwX1_reverse_0 ++ dktX1_reverse_1
theorem dksX1_reverse_0 : cX1_reverse.data.toList.drop 0 = dktX1_reverse_0 := by decide +kernel
theorem dksX1_reverse_1 : cX1_reverse.data.toList.drop 24 = dktX1_reverse_1 := dk_seg dksX1_reverse_0 24 rfl rfl
theorem dksX1_reverse_2 : cX1_reverse.data.toList.drop 48 = dktX1_reverse_2 := dk_seg dksX1_reverse_1 24 rfl rfl
theorem dksX1_reverse_3 : cX1_reverse.data.toList.drop 72 = dktX1_reverse_3 := dk_seg dksX1_reverse_2 24 rfl rfl
theorem dX1_reverse_0 : decode cX1_reverse 0 = .ok (.aload_n 0, 1) := dk_42 (dk_at dksX1_reverse_0 0 rfl rfl)
theorem dX1_reverse_1 : decode cX1_reverse 1 = .ok (.iload_n 1, 1) := dk_27 (dk_at dksX1_reverse_0 1 rfl rfl)
theorem dX1_reverse_2 : decode cX1_reverse 2 = .ok (.iload_n 2, 1) := dk_28 (dk_at dksX1_reverse_0 2 rfl rfl)
theorem dX1_reverse_3 : decode cX1_reverse 3 = .ok (.invokevirtual 459, 3) := dk_182 1 203 (dk_at dksX1_reverse_0 3 rfl rfl)
theorem dX1_reverse_6 : decode cX1_reverse 6 = .ok (.iload_n 1, 1) := dk_27 (dk_at dksX1_reverse_0 6 rfl rfl)
theorem dX1_reverse_7 : decode cX1_reverse 7 = .ok (.iload_n 2, 1) := dk_28 (dk_at dksX1_reverse_0 7 rfl rfl)
theorem dX1_reverse_8 : decode cX1_reverse 8 = .ok (.if_icmp .gt 7, 3) := dk_163 0 7 (dk_at dksX1_reverse_0 8 rfl rfl)
theorem dX1_reverse_11 : decode cX1_reverse 11 = .ok (.iconst 1, 1) := dk_4 (dk_at dksX1_reverse_0 11 rfl rfl)
theorem dX1_reverse_12 : decode cX1_reverse 12 = .ok (.goto 4, 3) := dk_167 0 4 (dk_at dksX1_reverse_0 12 rfl rfl)
theorem dX1_reverse_15 : decode cX1_reverse 15 = .ok (.iconst 0, 1) := dk_3 (dk_at dksX1_reverse_0 15 rfl rfl)
theorem dX1_reverse_16 : decode cX1_reverse 16 = .ok (.invokestatic 334, 3) := dk_184 1 78 (dk_at dksX1_reverse_0 16 rfl rfl)
theorem dX1_reverse_19 : decode cX1_reverse 19 = .ok (.aload_n 0, 1) := dk_42 (dk_at dksX1_reverse_0 19 rfl rfl)
theorem dX1_reverse_20 : decode cX1_reverse 20 = .ok (.invokevirtual 433, 3) := dk_182 1 177 (dk_at dksX1_reverse_0 20 rfl rfl)
theorem dX1_reverse_23 : decode cX1_reverse 23 = .ok (.iconst 0, 1) := dk_3 (dk_at dksX1_reverse_0 23 rfl rfl)
theorem dX1_reverse_24 : decode cX1_reverse 24 = .ok (.istore_n 3, 1) := dk_62 (dk_at dksX1_reverse_1 0 rfl rfl)
theorem dX1_reverse_25 : decode cX1_reverse 25 = .ok (.iload_n 1, 1) := dk_27 (dk_at dksX1_reverse_1 1 rfl rfl)
theorem dX1_reverse_26 : decode cX1_reverse 26 = .ok (.iconst 1, 1) := dk_4 (dk_at dksX1_reverse_1 2 rfl rfl)
theorem dX1_reverse_27 : decode cX1_reverse 27 = .ok (.isub, 1) := dk_100 (dk_at dksX1_reverse_1 3 rfl rfl)
theorem dX1_reverse_28 : decode cX1_reverse 28 = .ok (.istore 4, 2) := dk_54 4 (dk_at dksX1_reverse_1 4 rfl rfl)
theorem dX1_reverse_30 : decode cX1_reverse 30 = .ok (.iload_n 2, 1) := dk_28 (dk_at dksX1_reverse_1 6 rfl rfl)
theorem dX1_reverse_31 : decode cX1_reverse 31 = .ok (.iconst 1, 1) := dk_4 (dk_at dksX1_reverse_1 7 rfl rfl)
theorem dX1_reverse_32 : decode cX1_reverse 32 = .ok (.isub, 1) := dk_100 (dk_at dksX1_reverse_1 8 rfl rfl)
theorem dX1_reverse_33 : decode cX1_reverse 33 = .ok (.istore 5, 2) := dk_54 5 (dk_at dksX1_reverse_1 9 rfl rfl)
theorem dX1_reverse_35 : decode cX1_reverse 35 = .ok (.iload 4, 2) := dk_21 4 (dk_at dksX1_reverse_1 11 rfl rfl)
theorem dX1_reverse_37 : decode cX1_reverse 37 = .ok (.iload 5, 2) := dk_21 5 (dk_at dksX1_reverse_1 13 rfl rfl)
theorem dX1_reverse_39 : decode cX1_reverse 39 = .ok (.if_icmp .ge 55, 3) := dk_162 0 55 (dk_at dksX1_reverse_1 15 rfl rfl)
theorem dX1_reverse_42 : decode cX1_reverse 42 = .ok (.aload_n 0, 1) := dk_42 (dk_at dksX1_reverse_1 18 rfl rfl)
theorem dX1_reverse_43 : decode cX1_reverse 43 = .ok (.getfield 24, 3) := dk_180 0 24 (dk_at dksX1_reverse_1 19 rfl rfl)
theorem dX1_reverse_46 : decode cX1_reverse 46 = .ok (.iload 4, 2) := dk_21 4 (dk_at dksX1_reverse_1 22 rfl rfl)
theorem dX1_reverse_48 : decode cX1_reverse 48 = .ok (.invokevirtual 67, 3) := dk_182 0 67 (dk_at dksX1_reverse_2 0 rfl rfl)
theorem dX1_reverse_51 : decode cX1_reverse 51 = .ok (.astore 6, 2) := dk_58 6 (dk_at dksX1_reverse_2 3 rfl rfl)
theorem dX1_reverse_53 : decode cX1_reverse 53 = .ok (.aload_n 0, 1) := dk_42 (dk_at dksX1_reverse_2 5 rfl rfl)
theorem dX1_reverse_54 : decode cX1_reverse 54 = .ok (.getfield 24, 3) := dk_180 0 24 (dk_at dksX1_reverse_2 6 rfl rfl)
theorem dX1_reverse_57 : decode cX1_reverse 57 = .ok (.iload 4, 2) := dk_21 4 (dk_at dksX1_reverse_2 9 rfl rfl)
theorem dX1_reverse_59 : decode cX1_reverse 59 = .ok (.aload_n 0, 1) := dk_42 (dk_at dksX1_reverse_2 11 rfl rfl)
theorem dX1_reverse_60 : decode cX1_reverse 60 = .ok (.getfield 24, 3) := dk_180 0 24 (dk_at dksX1_reverse_2 12 rfl rfl)
theorem dX1_reverse_63 : decode cX1_reverse 63 = .ok (.iload 5, 2) := dk_21 5 (dk_at dksX1_reverse_2 15 rfl rfl)
theorem dX1_reverse_65 : decode cX1_reverse 65 = .ok (.invokevirtual 67, 3) := dk_182 0 67 (dk_at dksX1_reverse_2 17 rfl rfl)
theorem dX1_reverse_68 : decode cX1_reverse 68 = .ok (.invokevirtual 447, 3) := dk_182 1 191 (dk_at dksX1_reverse_2 20 rfl rfl)
theorem dX1_reverse_71 : decode cX1_reverse 71 = .ok (.aload_n 0, 1) := dk_42 (dk_at dksX1_reverse_2 23 rfl rfl)
theorem dX1_reverse_72 : decode cX1_reverse 72 = .ok (.getfield 24, 3) := dk_180 0 24 (dk_at dksX1_reverse_3 0 rfl rfl)
theorem dX1_reverse_75 : decode cX1_reverse 75 = .ok (.iload 5, 2) := dk_21 5 (dk_at dksX1_reverse_3 3 rfl rfl)
theorem dX1_reverse_77 : decode cX1_reverse 77 = .ok (.aload 6, 2) := dk_25 6 (dk_at dksX1_reverse_3 5 rfl rfl)
theorem dX1_reverse_79 : decode cX1_reverse 79 = .ok (.invokevirtual 447, 3) := dk_182 1 191 (dk_at dksX1_reverse_3 7 rfl rfl)
theorem dX1_reverse_82 : decode cX1_reverse 82 = .ok (.iinc 3 2, 3) := dk_132 3 2 (dk_at dksX1_reverse_3 10 rfl rfl)
theorem dX1_reverse_85 : decode cX1_reverse 85 = .ok (.iinc 4 1, 3) := dk_132 4 1 (dk_at dksX1_reverse_3 13 rfl rfl)
theorem dX1_reverse_88 : decode cX1_reverse 88 = .ok (.iinc 5 (-1), 3) := dk_132 5 255 (dk_at dksX1_reverse_3 16 rfl rfl)
theorem dX1_reverse_91 : decode cX1_reverse 91 = .ok (.goto (-56), 3) := dk_167 255 200 (dk_at dksX1_reverse_3 19 rfl rfl)
theorem dX1_reverse_94 : decode cX1_reverse 94 = .ok (.iload_n 3, 1) := dk_29 (dk_at dksX1_reverse_3 22 rfl rfl)
theorem dX1_reverse_95 : decode cX1_reverse 95 = .ok (.ireturn, 1) := dk_172 (dk_at dksX1_reverse_3 23 rfl rfl)
abbrev cX1_close : ByteArray := prog_1_method_74_code
def yX1_close : MethodName := ⟨RX1, "close", "(IZ)Z"⟩
def dkwX1_close_1 : List UInt8 := [29, 172]
abbrev dktX1_close_1 : List UInt8 := dkwX1_close_1 ++ []
def dkwX1_close_0 : List UInt8 := [42, 27, 182, 0, 219, 180, 0, 235, 62, 42, 182, 1, 177, 42, 180, 0, 24, 27, 4, 100, 28, 182, 1, 223]
abbrev dktX1_close_0 : List UInt8 := dkwX1_close_0 ++ dktX1_close_1
theorem dksX1_close_0 : cX1_close.data.toList.drop 0 = dktX1_close_0 := by decide +kernel
theorem dksX1_close_1 : cX1_close.data.toList.drop 24 = dktX1_close_1 := dk_seg dksX1_close_0 24 rfl rfl
theorem dX1_close_0 : decode cX1_close 0 = .ok (.aload_n 0, 1) := dk_42 (dk_at dksX1_close_0 0 rfl rfl)
theorem dX1_close_1 : decode cX1_close 1 = .ok (.iload_n 1, 1) := dk_27 (dk_at dksX1_close_0 1 rfl rfl)
theorem dX1_close_2 : decode cX1_close 2 = .ok (.invokevirtual 219, 3) := dk_182 0 219 (dk_at dksX1_close_0 2 rfl rfl)
theorem dX1_close_5 : decode cX1_close 5 = .ok (.getfield 235, 3) := dk_180 0 235 (dk_at dksX1_close_0 5 rfl rfl)
theorem dX1_close_8 : decode cX1_close 8 = .ok (.istore_n 3, 1) := dk_62 (dk_at dksX1_close_0 8 rfl rfl)
theorem dX1_close_9 : decode cX1_close 9 = .ok (.aload_n 0, 1) := dk_42 (dk_at dksX1_close_0 9 rfl rfl)
theorem dX1_close_10 : decode cX1_close 10 = .ok (.invokevirtual 433, 3) := dk_182 1 177 (dk_at dksX1_close_0 10 rfl rfl)
theorem dX1_close_13 : decode cX1_close 13 = .ok (.aload_n 0, 1) := dk_42 (dk_at dksX1_close_0 13 rfl rfl)
theorem dX1_close_14 : decode cX1_close 14 = .ok (.getfield 24, 3) := dk_180 0 24 (dk_at dksX1_close_0 14 rfl rfl)
theorem dX1_close_17 : decode cX1_close 17 = .ok (.iload_n 1, 1) := dk_27 (dk_at dksX1_close_0 17 rfl rfl)
theorem dX1_close_18 : decode cX1_close 18 = .ok (.iconst 1, 1) := dk_4 (dk_at dksX1_close_0 18 rfl rfl)
theorem dX1_close_19 : decode cX1_close 19 = .ok (.isub, 1) := dk_100 (dk_at dksX1_close_0 19 rfl rfl)
theorem dX1_close_20 : decode cX1_close 20 = .ok (.iload_n 2, 1) := dk_28 (dk_at dksX1_close_0 20 rfl rfl)
theorem dX1_close_21 : decode cX1_close 21 = .ok (.invokevirtual 479, 3) := dk_182 1 223 (dk_at dksX1_close_0 21 rfl rfl)
theorem dX1_close_24 : decode cX1_close 24 = .ok (.iload_n 3, 1) := dk_29 (dk_at dksX1_close_1 0 rfl rfl)
theorem dX1_close_25 : decode cX1_close 25 = .ok (.ireturn, 1) := dk_172 (dk_at dksX1_close_1 1 rfl rfl)
abbrev cX1_fold : ByteArray := prog_1_method_75_code
def yX1_fold : MethodName := ⟨RX1, "fold", "(I)I"⟩
def dkwX1_fold_2 : List UInt8 := [4, 96, 172]
abbrev dktX1_fold_2 : List UInt8 := dkwX1_fold_2 ++ []
def dkwX1_fold_1 : List UInt8 := [3, 184, 1, 78, 42, 182, 1, 177, 42, 180, 0, 24, 44, 182, 1, 37, 4, 182, 1, 223, 44, 182, 1, 37]
abbrev dktX1_fold_1 : List UInt8 := dkwX1_fold_1 ++ dktX1_fold_2
def dkwX1_fold_0 : List UInt8 := [42, 180, 0, 24, 182, 0, 71, 42, 27, 182, 0, 63, 182, 1, 68, 77, 44, 198, 0, 7, 4, 167, 0, 4]
abbrev dktX1_fold_0 : List UInt8 := dkwX1_fold_0 ++ dktX1_fold_1
theorem dksX1_fold_0 : cX1_fold.data.toList.drop 0 = dktX1_fold_0 := by decide +kernel
theorem dksX1_fold_1 : cX1_fold.data.toList.drop 24 = dktX1_fold_1 := dk_seg dksX1_fold_0 24 rfl rfl
theorem dksX1_fold_2 : cX1_fold.data.toList.drop 48 = dktX1_fold_2 := dk_seg dksX1_fold_1 24 rfl rfl
theorem dX1_fold_0 : decode cX1_fold 0 = .ok (.aload_n 0, 1) := dk_42 (dk_at dksX1_fold_0 0 rfl rfl)
theorem dX1_fold_1 : decode cX1_fold 1 = .ok (.getfield 24, 3) := dk_180 0 24 (dk_at dksX1_fold_0 1 rfl rfl)
theorem dX1_fold_4 : decode cX1_fold 4 = .ok (.invokevirtual 71, 3) := dk_182 0 71 (dk_at dksX1_fold_0 4 rfl rfl)
theorem dX1_fold_7 : decode cX1_fold 7 = .ok (.aload_n 0, 1) := dk_42 (dk_at dksX1_fold_0 7 rfl rfl)
theorem dX1_fold_8 : decode cX1_fold 8 = .ok (.iload_n 1, 1) := dk_27 (dk_at dksX1_fold_0 8 rfl rfl)
theorem dX1_fold_9 : decode cX1_fold 9 = .ok (.invokevirtual 63, 3) := dk_182 0 63 (dk_at dksX1_fold_0 9 rfl rfl)
theorem dX1_fold_12 : decode cX1_fold 12 = .ok (.invokevirtual 324, 3) := dk_182 1 68 (dk_at dksX1_fold_0 12 rfl rfl)
theorem dX1_fold_15 : decode cX1_fold 15 = .ok (.astore_n 2, 1) := dk_77 (dk_at dksX1_fold_0 15 rfl rfl)
theorem dX1_fold_16 : decode cX1_fold 16 = .ok (.aload_n 2, 1) := dk_44 (dk_at dksX1_fold_0 16 rfl rfl)
theorem dX1_fold_17 : decode cX1_fold 17 = .ok (.ifnull 7, 3) := dk_198 0 7 (dk_at dksX1_fold_0 17 rfl rfl)
theorem dX1_fold_20 : decode cX1_fold 20 = .ok (.iconst 1, 1) := dk_4 (dk_at dksX1_fold_0 20 rfl rfl)
theorem dX1_fold_21 : decode cX1_fold 21 = .ok (.goto 4, 3) := dk_167 0 4 (dk_at dksX1_fold_0 21 rfl rfl)
theorem dX1_fold_24 : decode cX1_fold 24 = .ok (.iconst 0, 1) := dk_3 (dk_at dksX1_fold_1 0 rfl rfl)
theorem dX1_fold_25 : decode cX1_fold 25 = .ok (.invokestatic 334, 3) := dk_184 1 78 (dk_at dksX1_fold_1 1 rfl rfl)
theorem dX1_fold_28 : decode cX1_fold 28 = .ok (.aload_n 0, 1) := dk_42 (dk_at dksX1_fold_1 4 rfl rfl)
theorem dX1_fold_29 : decode cX1_fold 29 = .ok (.invokevirtual 433, 3) := dk_182 1 177 (dk_at dksX1_fold_1 5 rfl rfl)
theorem dX1_fold_32 : decode cX1_fold 32 = .ok (.aload_n 0, 1) := dk_42 (dk_at dksX1_fold_1 8 rfl rfl)
theorem dX1_fold_33 : decode cX1_fold 33 = .ok (.getfield 24, 3) := dk_180 0 24 (dk_at dksX1_fold_1 9 rfl rfl)
theorem dX1_fold_36 : decode cX1_fold 36 = .ok (.aload_n 2, 1) := dk_44 (dk_at dksX1_fold_1 12 rfl rfl)
theorem dX1_fold_37 : decode cX1_fold 37 = .ok (.invokevirtual 293, 3) := dk_182 1 37 (dk_at dksX1_fold_1 13 rfl rfl)
theorem dX1_fold_40 : decode cX1_fold 40 = .ok (.iconst 1, 1) := dk_4 (dk_at dksX1_fold_1 16 rfl rfl)
theorem dX1_fold_41 : decode cX1_fold 41 = .ok (.invokevirtual 479, 3) := dk_182 1 223 (dk_at dksX1_fold_1 17 rfl rfl)
theorem dX1_fold_44 : decode cX1_fold 44 = .ok (.aload_n 2, 1) := dk_44 (dk_at dksX1_fold_1 20 rfl rfl)
theorem dX1_fold_45 : decode cX1_fold 45 = .ok (.invokevirtual 293, 3) := dk_182 1 37 (dk_at dksX1_fold_1 21 rfl rfl)
theorem dX1_fold_48 : decode cX1_fold 48 = .ok (.iconst 1, 1) := dk_4 (dk_at dksX1_fold_2 0 rfl rfl)
theorem dX1_fold_49 : decode cX1_fold 49 = .ok (.iadd, 1) := dk_96 (dk_at dksX1_fold_2 1 rfl rfl)
theorem dX1_fold_50 : decode cX1_fold 50 = .ok (.ireturn, 1) := dk_172 (dk_at dksX1_fold_2 2 rfl rfl)
abbrev cX1_closeLevel : ByteArray := prog_1_method_76_code
def yX1_closeLevel : MethodName := ⟨RX1, "closeLevel", "(I)I"⟩
def dkwX1_closeLevel_6 : List UInt8 := [132, 4, 1, 167, 255, 201, 29, 172]
abbrev dktX1_closeLevel_6 : List UInt8 := dkwX1_closeLevel_6 ++ []
def dkwX1_closeLevel_5 : List UInt8 := [180, 0, 235, 153, 0, 6, 167, 0, 16, 42, 180, 0, 24, 21, 4, 4, 182, 1, 223, 132, 3, 1]
abbrev dktX1_closeLevel_5 : List UInt8 := dkwX1_closeLevel_5 ++ dktX1_closeLevel_6
def dkwX1_closeLevel_4 : List UInt8 := [182, 0, 55, 162, 0, 49, 44, 21, 4, 182, 1, 146, 153, 0, 34, 42, 180, 0, 24, 21, 4, 182, 0, 67]
abbrev dktX1_closeLevel_4 : List UInt8 := dkwX1_closeLevel_4 ++ dktX1_closeLevel_5
def dkwX1_closeLevel_3 : List UInt8 := [25, 4, 182, 1, 37, 182, 1, 227, 167, 255, 218, 3, 62, 3, 54, 4, 21, 4, 42, 180, 0, 24]
abbrev dktX1_closeLevel_3 : List UInt8 := dkwX1_closeLevel_3 ++ dktX1_closeLevel_4
def dkwX1_closeLevel_2 : List UInt8 := [153, 0, 35, 45, 185, 0, 162, 1, 0, 192, 0, 88, 58, 4, 25, 4, 180, 1, 57, 27, 160, 0, 12, 44]
abbrev dktX1_closeLevel_2 : List UInt8 := dkwX1_closeLevel_2 ++ dktX1_closeLevel_3
def dkwX1_closeLevel_1 : List UInt8 := [42, 180, 0, 24, 182, 0, 71, 180, 0, 75, 185, 0, 152, 1, 0, 78, 45, 185, 0, 156, 1, 0]
abbrev dktX1_closeLevel_1 : List UInt8 := dkwX1_closeLevel_1 ++ dktX1_closeLevel_2
def dkwX1_closeLevel_0 : List UInt8 := [27, 155, 0, 7, 4, 167, 0, 4, 3, 184, 1, 78, 42, 182, 1, 177, 187, 1, 124, 89, 183, 1, 136, 77]
abbrev dktX1_closeLevel_0 : List UInt8 := dkwX1_closeLevel_0 ++ dktX1_closeLevel_1
theorem dksX1_closeLevel_0 : cX1_closeLevel.data.toList.drop 0 = dktX1_closeLevel_0 := by decide +kernel
theorem dksX1_closeLevel_1 : cX1_closeLevel.data.toList.drop 24 = dktX1_closeLevel_1 := dk_seg dksX1_closeLevel_0 24 rfl rfl
theorem dksX1_closeLevel_2 : cX1_closeLevel.data.toList.drop 46 = dktX1_closeLevel_2 := dk_seg dksX1_closeLevel_1 22 rfl rfl
theorem dksX1_closeLevel_3 : cX1_closeLevel.data.toList.drop 70 = dktX1_closeLevel_3 := dk_seg dksX1_closeLevel_2 24 rfl rfl
theorem dksX1_closeLevel_4 : cX1_closeLevel.data.toList.drop 92 = dktX1_closeLevel_4 := dk_seg dksX1_closeLevel_3 22 rfl rfl
theorem dksX1_closeLevel_5 : cX1_closeLevel.data.toList.drop 116 = dktX1_closeLevel_5 := dk_seg dksX1_closeLevel_4 24 rfl rfl
theorem dksX1_closeLevel_6 : cX1_closeLevel.data.toList.drop 138 = dktX1_closeLevel_6 := dk_seg dksX1_closeLevel_5 22 rfl rfl
theorem dX1_closeLevel_0 : decode cX1_closeLevel 0 = .ok (.iload_n 1, 1) := dk_27 (dk_at dksX1_closeLevel_0 0 rfl rfl)
theorem dX1_closeLevel_1 : decode cX1_closeLevel 1 = .ok (.ifCond .lt 7, 3) := dk_155 0 7 (dk_at dksX1_closeLevel_0 1 rfl rfl)
theorem dX1_closeLevel_4 : decode cX1_closeLevel 4 = .ok (.iconst 1, 1) := dk_4 (dk_at dksX1_closeLevel_0 4 rfl rfl)
theorem dX1_closeLevel_5 : decode cX1_closeLevel 5 = .ok (.goto 4, 3) := dk_167 0 4 (dk_at dksX1_closeLevel_0 5 rfl rfl)
theorem dX1_closeLevel_8 : decode cX1_closeLevel 8 = .ok (.iconst 0, 1) := dk_3 (dk_at dksX1_closeLevel_0 8 rfl rfl)
theorem dX1_closeLevel_9 : decode cX1_closeLevel 9 = .ok (.invokestatic 334, 3) := dk_184 1 78 (dk_at dksX1_closeLevel_0 9 rfl rfl)
theorem dX1_closeLevel_12 : decode cX1_closeLevel 12 = .ok (.aload_n 0, 1) := dk_42 (dk_at dksX1_closeLevel_0 12 rfl rfl)
theorem dX1_closeLevel_13 : decode cX1_closeLevel 13 = .ok (.invokevirtual 433, 3) := dk_182 1 177 (dk_at dksX1_closeLevel_0 13 rfl rfl)
theorem dX1_closeLevel_16 : decode cX1_closeLevel 16 = .ok (.new 380, 3) := dk_187 1 124 (dk_at dksX1_closeLevel_0 16 rfl rfl)
theorem dX1_closeLevel_19 : decode cX1_closeLevel 19 = .ok (.dup, 1) := dk_89 (dk_at dksX1_closeLevel_0 19 rfl rfl)
theorem dX1_closeLevel_20 : decode cX1_closeLevel 20 = .ok (.invokespecial 392, 3) := dk_183 1 136 (dk_at dksX1_closeLevel_0 20 rfl rfl)
theorem dX1_closeLevel_23 : decode cX1_closeLevel 23 = .ok (.astore_n 2, 1) := dk_77 (dk_at dksX1_closeLevel_0 23 rfl rfl)
theorem dX1_closeLevel_24 : decode cX1_closeLevel 24 = .ok (.aload_n 0, 1) := dk_42 (dk_at dksX1_closeLevel_1 0 rfl rfl)
theorem dX1_closeLevel_25 : decode cX1_closeLevel 25 = .ok (.getfield 24, 3) := dk_180 0 24 (dk_at dksX1_closeLevel_1 1 rfl rfl)
theorem dX1_closeLevel_28 : decode cX1_closeLevel 28 = .ok (.invokevirtual 71, 3) := dk_182 0 71 (dk_at dksX1_closeLevel_1 4 rfl rfl)
theorem dX1_closeLevel_31 : decode cX1_closeLevel 31 = .ok (.getfield 75, 3) := dk_180 0 75 (dk_at dksX1_closeLevel_1 7 rfl rfl)
theorem dX1_closeLevel_34 : decode cX1_closeLevel 34 = .ok (.invokeinterface 152 1, 5) := by decide +kernel
theorem dX1_closeLevel_39 : decode cX1_closeLevel 39 = .ok (.astore_n 3, 1) := dk_78 (dk_at dksX1_closeLevel_1 15 rfl rfl)
theorem dX1_closeLevel_40 : decode cX1_closeLevel 40 = .ok (.aload_n 3, 1) := dk_45 (dk_at dksX1_closeLevel_1 16 rfl rfl)
theorem dX1_closeLevel_41 : decode cX1_closeLevel 41 = .ok (.invokeinterface 156 1, 5) := by decide +kernel
theorem dX1_closeLevel_46 : decode cX1_closeLevel 46 = .ok (.ifCond .eq 35, 3) := dk_153 0 35 (dk_at dksX1_closeLevel_2 0 rfl rfl)
theorem dX1_closeLevel_49 : decode cX1_closeLevel 49 = .ok (.aload_n 3, 1) := dk_45 (dk_at dksX1_closeLevel_2 3 rfl rfl)
theorem dX1_closeLevel_50 : decode cX1_closeLevel 50 = .ok (.invokeinterface 162 1, 5) := by decide +kernel
theorem dX1_closeLevel_55 : decode cX1_closeLevel 55 = .ok (.checkcast 88, 3) := dk_192 0 88 (dk_at dksX1_closeLevel_2 9 rfl rfl)
theorem dX1_closeLevel_58 : decode cX1_closeLevel 58 = .ok (.astore 4, 2) := dk_58 4 (dk_at dksX1_closeLevel_2 12 rfl rfl)
theorem dX1_closeLevel_60 : decode cX1_closeLevel 60 = .ok (.aload 4, 2) := dk_25 4 (dk_at dksX1_closeLevel_2 14 rfl rfl)
theorem dX1_closeLevel_62 : decode cX1_closeLevel 62 = .ok (.getfield 313, 3) := dk_180 1 57 (dk_at dksX1_closeLevel_2 16 rfl rfl)
theorem dX1_closeLevel_65 : decode cX1_closeLevel 65 = .ok (.iload_n 1, 1) := dk_27 (dk_at dksX1_closeLevel_2 19 rfl rfl)
theorem dX1_closeLevel_66 : decode cX1_closeLevel 66 = .ok (.if_icmp .ne 12, 3) := dk_160 0 12 (dk_at dksX1_closeLevel_2 20 rfl rfl)
theorem dX1_closeLevel_69 : decode cX1_closeLevel 69 = .ok (.aload_n 2, 1) := dk_44 (dk_at dksX1_closeLevel_2 23 rfl rfl)
theorem dX1_closeLevel_70 : decode cX1_closeLevel 70 = .ok (.aload 4, 2) := dk_25 4 (dk_at dksX1_closeLevel_3 0 rfl rfl)
theorem dX1_closeLevel_72 : decode cX1_closeLevel 72 = .ok (.invokevirtual 293, 3) := dk_182 1 37 (dk_at dksX1_closeLevel_3 2 rfl rfl)
theorem dX1_closeLevel_75 : decode cX1_closeLevel 75 = .ok (.invokevirtual 483, 3) := dk_182 1 227 (dk_at dksX1_closeLevel_3 5 rfl rfl)
theorem dX1_closeLevel_78 : decode cX1_closeLevel 78 = .ok (.goto (-38), 3) := dk_167 255 218 (dk_at dksX1_closeLevel_3 8 rfl rfl)
theorem dX1_closeLevel_81 : decode cX1_closeLevel 81 = .ok (.iconst 0, 1) := dk_3 (dk_at dksX1_closeLevel_3 11 rfl rfl)
theorem dX1_closeLevel_82 : decode cX1_closeLevel 82 = .ok (.istore_n 3, 1) := dk_62 (dk_at dksX1_closeLevel_3 12 rfl rfl)
theorem dX1_closeLevel_83 : decode cX1_closeLevel 83 = .ok (.iconst 0, 1) := dk_3 (dk_at dksX1_closeLevel_3 13 rfl rfl)
theorem dX1_closeLevel_84 : decode cX1_closeLevel 84 = .ok (.istore 4, 2) := dk_54 4 (dk_at dksX1_closeLevel_3 14 rfl rfl)
theorem dX1_closeLevel_86 : decode cX1_closeLevel 86 = .ok (.iload 4, 2) := dk_21 4 (dk_at dksX1_closeLevel_3 16 rfl rfl)
theorem dX1_closeLevel_88 : decode cX1_closeLevel 88 = .ok (.aload_n 0, 1) := dk_42 (dk_at dksX1_closeLevel_3 18 rfl rfl)
theorem dX1_closeLevel_89 : decode cX1_closeLevel 89 = .ok (.getfield 24, 3) := dk_180 0 24 (dk_at dksX1_closeLevel_3 19 rfl rfl)
theorem dX1_closeLevel_92 : decode cX1_closeLevel 92 = .ok (.invokevirtual 55, 3) := dk_182 0 55 (dk_at dksX1_closeLevel_4 0 rfl rfl)
theorem dX1_closeLevel_95 : decode cX1_closeLevel 95 = .ok (.if_icmp .ge 49, 3) := dk_162 0 49 (dk_at dksX1_closeLevel_4 3 rfl rfl)
theorem dX1_closeLevel_98 : decode cX1_closeLevel 98 = .ok (.aload_n 2, 1) := dk_44 (dk_at dksX1_closeLevel_4 6 rfl rfl)
theorem dX1_closeLevel_99 : decode cX1_closeLevel 99 = .ok (.iload 4, 2) := dk_21 4 (dk_at dksX1_closeLevel_4 7 rfl rfl)
theorem dX1_closeLevel_101 : decode cX1_closeLevel 101 = .ok (.invokevirtual 402, 3) := dk_182 1 146 (dk_at dksX1_closeLevel_4 9 rfl rfl)
theorem dX1_closeLevel_104 : decode cX1_closeLevel 104 = .ok (.ifCond .eq 34, 3) := dk_153 0 34 (dk_at dksX1_closeLevel_4 12 rfl rfl)
theorem dX1_closeLevel_107 : decode cX1_closeLevel 107 = .ok (.aload_n 0, 1) := dk_42 (dk_at dksX1_closeLevel_4 15 rfl rfl)
theorem dX1_closeLevel_108 : decode cX1_closeLevel 108 = .ok (.getfield 24, 3) := dk_180 0 24 (dk_at dksX1_closeLevel_4 16 rfl rfl)
theorem dX1_closeLevel_111 : decode cX1_closeLevel 111 = .ok (.iload 4, 2) := dk_21 4 (dk_at dksX1_closeLevel_4 19 rfl rfl)
theorem dX1_closeLevel_113 : decode cX1_closeLevel 113 = .ok (.invokevirtual 67, 3) := dk_182 0 67 (dk_at dksX1_closeLevel_4 21 rfl rfl)
theorem dX1_closeLevel_116 : decode cX1_closeLevel 116 = .ok (.getfield 235, 3) := dk_180 0 235 (dk_at dksX1_closeLevel_5 0 rfl rfl)
theorem dX1_closeLevel_119 : decode cX1_closeLevel 119 = .ok (.ifCond .eq 6, 3) := dk_153 0 6 (dk_at dksX1_closeLevel_5 3 rfl rfl)
theorem dX1_closeLevel_122 : decode cX1_closeLevel 122 = .ok (.goto 16, 3) := dk_167 0 16 (dk_at dksX1_closeLevel_5 6 rfl rfl)
theorem dX1_closeLevel_125 : decode cX1_closeLevel 125 = .ok (.aload_n 0, 1) := dk_42 (dk_at dksX1_closeLevel_5 9 rfl rfl)
theorem dX1_closeLevel_126 : decode cX1_closeLevel 126 = .ok (.getfield 24, 3) := dk_180 0 24 (dk_at dksX1_closeLevel_5 10 rfl rfl)
theorem dX1_closeLevel_129 : decode cX1_closeLevel 129 = .ok (.iload 4, 2) := dk_21 4 (dk_at dksX1_closeLevel_5 13 rfl rfl)
theorem dX1_closeLevel_131 : decode cX1_closeLevel 131 = .ok (.iconst 1, 1) := dk_4 (dk_at dksX1_closeLevel_5 15 rfl rfl)
theorem dX1_closeLevel_132 : decode cX1_closeLevel 132 = .ok (.invokevirtual 479, 3) := dk_182 1 223 (dk_at dksX1_closeLevel_5 16 rfl rfl)
theorem dX1_closeLevel_135 : decode cX1_closeLevel 135 = .ok (.iinc 3 1, 3) := dk_132 3 1 (dk_at dksX1_closeLevel_5 19 rfl rfl)
theorem dX1_closeLevel_138 : decode cX1_closeLevel 138 = .ok (.iinc 4 1, 3) := dk_132 4 1 (dk_at dksX1_closeLevel_6 0 rfl rfl)
theorem dX1_closeLevel_141 : decode cX1_closeLevel 141 = .ok (.goto (-55), 3) := dk_167 255 201 (dk_at dksX1_closeLevel_6 3 rfl rfl)
theorem dX1_closeLevel_144 : decode cX1_closeLevel 144 = .ok (.iload_n 3, 1) := dk_29 (dk_at dksX1_closeLevel_6 6 rfl rfl)
theorem dX1_closeLevel_145 : decode cX1_closeLevel 145 = .ok (.ireturn, 1) := dk_172 (dk_at dksX1_closeLevel_6 7 rfl rfl)
abbrev cX1_show : ByteArray := prog_1_method_78_code
def yX1_show : MethodName := ⟨RX1, "show", "(I)I"⟩
def dkwX1_show_0 : List UInt8 := [42, 27, 182, 0, 63, 61, 42, 182, 1, 177, 42, 180, 0, 24, 28, 182, 1, 236, 172]
abbrev dktX1_show_0 : List UInt8 := dkwX1_show_0 ++ []
theorem dksX1_show_0 : cX1_show.data.toList.drop 0 = dktX1_show_0 := by decide +kernel
theorem dX1_show_0 : decode cX1_show 0 = .ok (.aload_n 0, 1) := dk_42 (dk_at dksX1_show_0 0 rfl rfl)
theorem dX1_show_1 : decode cX1_show 1 = .ok (.iload_n 1, 1) := dk_27 (dk_at dksX1_show_0 1 rfl rfl)
theorem dX1_show_2 : decode cX1_show 2 = .ok (.invokevirtual 63, 3) := dk_182 0 63 (dk_at dksX1_show_0 2 rfl rfl)
theorem dX1_show_5 : decode cX1_show 5 = .ok (.istore_n 2, 1) := dk_61 (dk_at dksX1_show_0 5 rfl rfl)
theorem dX1_show_6 : decode cX1_show 6 = .ok (.aload_n 0, 1) := dk_42 (dk_at dksX1_show_0 6 rfl rfl)
theorem dX1_show_7 : decode cX1_show 7 = .ok (.invokevirtual 433, 3) := dk_182 1 177 (dk_at dksX1_show_0 7 rfl rfl)
theorem dX1_show_10 : decode cX1_show 10 = .ok (.aload_n 0, 1) := dk_42 (dk_at dksX1_show_0 10 rfl rfl)
theorem dX1_show_11 : decode cX1_show 11 = .ok (.getfield 24, 3) := dk_180 0 24 (dk_at dksX1_show_0 11 rfl rfl)
theorem dX1_show_14 : decode cX1_show 14 = .ok (.iload_n 2, 1) := dk_28 (dk_at dksX1_show_0 14 rfl rfl)
theorem dX1_show_15 : decode cX1_show 15 = .ok (.invokevirtual 492, 3) := dk_182 1 236 (dk_at dksX1_show_0 15 rfl rfl)
theorem dX1_show_18 : decode cX1_show 18 = .ok (.ireturn, 1) := dk_172 (dk_at dksX1_show_0 18 rfl rfl)
abbrev cX1_mark : ByteArray := prog_1_method_79_code
def yX1_mark : MethodName := ⟨RX1, "mark", "(II)I"⟩
def dkwX1_mark_2 : List UInt8 := [182, 0, 67, 180, 0, 214, 79, 29, 172]
abbrev dktX1_mark_2 : List UInt8 := dkwX1_mark_2 ++ []
def dkwX1_mark_1 : List UInt8 := [180, 0, 24, 180, 0, 145, 27, 28, 154, 0, 7, 2, 167, 0, 16, 42, 180, 0, 24, 28, 4, 100]
abbrev dktX1_mark_1 : List UInt8 := dkwX1_mark_1 ++ dktX1_mark_2
def dkwX1_mark_0 : List UInt8 := [42, 27, 182, 1, 239, 62, 28, 42, 180, 0, 24, 182, 0, 55, 4, 96, 184, 0, 59, 42, 182, 1, 177, 42]
abbrev dktX1_mark_0 : List UInt8 := dkwX1_mark_0 ++ dktX1_mark_1
theorem dksX1_mark_0 : cX1_mark.data.toList.drop 0 = dktX1_mark_0 := by decide +kernel
theorem dksX1_mark_1 : cX1_mark.data.toList.drop 24 = dktX1_mark_1 := dk_seg dksX1_mark_0 24 rfl rfl
theorem dksX1_mark_2 : cX1_mark.data.toList.drop 46 = dktX1_mark_2 := dk_seg dksX1_mark_1 22 rfl rfl
theorem dX1_mark_0 : decode cX1_mark 0 = .ok (.aload_n 0, 1) := dk_42 (dk_at dksX1_mark_0 0 rfl rfl)
theorem dX1_mark_1 : decode cX1_mark 1 = .ok (.iload_n 1, 1) := dk_27 (dk_at dksX1_mark_0 1 rfl rfl)
theorem dX1_mark_2 : decode cX1_mark 2 = .ok (.invokevirtual 495, 3) := dk_182 1 239 (dk_at dksX1_mark_0 2 rfl rfl)
theorem dX1_mark_5 : decode cX1_mark 5 = .ok (.istore_n 3, 1) := dk_62 (dk_at dksX1_mark_0 5 rfl rfl)
theorem dX1_mark_6 : decode cX1_mark 6 = .ok (.iload_n 2, 1) := dk_28 (dk_at dksX1_mark_0 6 rfl rfl)
theorem dX1_mark_7 : decode cX1_mark 7 = .ok (.aload_n 0, 1) := dk_42 (dk_at dksX1_mark_0 7 rfl rfl)
theorem dX1_mark_8 : decode cX1_mark 8 = .ok (.getfield 24, 3) := dk_180 0 24 (dk_at dksX1_mark_0 8 rfl rfl)
theorem dX1_mark_11 : decode cX1_mark 11 = .ok (.invokevirtual 55, 3) := dk_182 0 55 (dk_at dksX1_mark_0 11 rfl rfl)
theorem dX1_mark_14 : decode cX1_mark 14 = .ok (.iconst 1, 1) := dk_4 (dk_at dksX1_mark_0 14 rfl rfl)
theorem dX1_mark_15 : decode cX1_mark 15 = .ok (.iadd, 1) := dk_96 (dk_at dksX1_mark_0 15 rfl rfl)
theorem dX1_mark_16 : decode cX1_mark 16 = .ok (.invokestatic 59, 3) := dk_184 0 59 (dk_at dksX1_mark_0 16 rfl rfl)
theorem dX1_mark_19 : decode cX1_mark 19 = .ok (.aload_n 0, 1) := dk_42 (dk_at dksX1_mark_0 19 rfl rfl)
theorem dX1_mark_20 : decode cX1_mark 20 = .ok (.invokevirtual 433, 3) := dk_182 1 177 (dk_at dksX1_mark_0 20 rfl rfl)
theorem dX1_mark_23 : decode cX1_mark 23 = .ok (.aload_n 0, 1) := dk_42 (dk_at dksX1_mark_0 23 rfl rfl)
theorem dX1_mark_24 : decode cX1_mark 24 = .ok (.getfield 24, 3) := dk_180 0 24 (dk_at dksX1_mark_1 0 rfl rfl)
theorem dX1_mark_27 : decode cX1_mark 27 = .ok (.getfield 145, 3) := dk_180 0 145 (dk_at dksX1_mark_1 3 rfl rfl)
theorem dX1_mark_30 : decode cX1_mark 30 = .ok (.iload_n 1, 1) := dk_27 (dk_at dksX1_mark_1 6 rfl rfl)
theorem dX1_mark_31 : decode cX1_mark 31 = .ok (.iload_n 2, 1) := dk_28 (dk_at dksX1_mark_1 7 rfl rfl)
theorem dX1_mark_32 : decode cX1_mark 32 = .ok (.ifCond .ne 7, 3) := dk_154 0 7 (dk_at dksX1_mark_1 8 rfl rfl)
theorem dX1_mark_35 : decode cX1_mark 35 = .ok (.iconst (-1), 1) := dk_2 (dk_at dksX1_mark_1 11 rfl rfl)
theorem dX1_mark_36 : decode cX1_mark 36 = .ok (.goto 16, 3) := dk_167 0 16 (dk_at dksX1_mark_1 12 rfl rfl)
theorem dX1_mark_39 : decode cX1_mark 39 = .ok (.aload_n 0, 1) := dk_42 (dk_at dksX1_mark_1 15 rfl rfl)
theorem dX1_mark_40 : decode cX1_mark 40 = .ok (.getfield 24, 3) := dk_180 0 24 (dk_at dksX1_mark_1 16 rfl rfl)
theorem dX1_mark_43 : decode cX1_mark 43 = .ok (.iload_n 2, 1) := dk_28 (dk_at dksX1_mark_1 19 rfl rfl)
theorem dX1_mark_44 : decode cX1_mark 44 = .ok (.iconst 1, 1) := dk_4 (dk_at dksX1_mark_1 20 rfl rfl)
theorem dX1_mark_45 : decode cX1_mark 45 = .ok (.isub, 1) := dk_100 (dk_at dksX1_mark_1 21 rfl rfl)
theorem dX1_mark_46 : decode cX1_mark 46 = .ok (.invokevirtual 67, 3) := dk_182 0 67 (dk_at dksX1_mark_2 0 rfl rfl)
theorem dX1_mark_49 : decode cX1_mark 49 = .ok (.getfield 214, 3) := dk_180 0 214 (dk_at dksX1_mark_2 3 rfl rfl)
theorem dX1_mark_52 : decode cX1_mark 52 = .ok (.iastore, 1) := dk_79 (dk_at dksX1_mark_2 6 rfl rfl)
theorem dX1_mark_53 : decode cX1_mark 53 = .ok (.iload_n 3, 1) := dk_29 (dk_at dksX1_mark_2 7 rfl rfl)
theorem dX1_mark_54 : decode cX1_mark 54 = .ok (.ireturn, 1) := dk_172 (dk_at dksX1_mark_2 8 rfl rfl)
abbrev cX1_jump : ByteArray := prog_1_method_81_code
def yX1_jump : MethodName := ⟨RX1, "jump", "(I)I"⟩
def dkwX1_jump_1 : List UInt8 := [182, 0, 229, 172]
abbrev dktX1_jump_1 : List UInt8 := dkwX1_jump_1 ++ []
def dkwX1_jump_0 : List UInt8 := [42, 27, 182, 0, 63, 61, 42, 182, 1, 177, 42, 28, 182, 1, 250, 42, 180, 0, 24, 182, 0, 71, 28]
abbrev dktX1_jump_0 : List UInt8 := dkwX1_jump_0 ++ dktX1_jump_1
theorem dksX1_jump_0 : cX1_jump.data.toList.drop 0 = dktX1_jump_0 := by decide +kernel
theorem dksX1_jump_1 : cX1_jump.data.toList.drop 23 = dktX1_jump_1 := dk_seg dksX1_jump_0 23 rfl rfl
theorem dX1_jump_0 : decode cX1_jump 0 = .ok (.aload_n 0, 1) := dk_42 (dk_at dksX1_jump_0 0 rfl rfl)
theorem dX1_jump_1 : decode cX1_jump 1 = .ok (.iload_n 1, 1) := dk_27 (dk_at dksX1_jump_0 1 rfl rfl)
theorem dX1_jump_2 : decode cX1_jump 2 = .ok (.invokevirtual 63, 3) := dk_182 0 63 (dk_at dksX1_jump_0 2 rfl rfl)
theorem dX1_jump_5 : decode cX1_jump 5 = .ok (.istore_n 2, 1) := dk_61 (dk_at dksX1_jump_0 5 rfl rfl)
theorem dX1_jump_6 : decode cX1_jump 6 = .ok (.aload_n 0, 1) := dk_42 (dk_at dksX1_jump_0 6 rfl rfl)
theorem dX1_jump_7 : decode cX1_jump 7 = .ok (.invokevirtual 433, 3) := dk_182 1 177 (dk_at dksX1_jump_0 7 rfl rfl)
theorem dX1_jump_10 : decode cX1_jump 10 = .ok (.aload_n 0, 1) := dk_42 (dk_at dksX1_jump_0 10 rfl rfl)
theorem dX1_jump_11 : decode cX1_jump 11 = .ok (.iload_n 2, 1) := dk_28 (dk_at dksX1_jump_0 11 rfl rfl)
theorem dX1_jump_12 : decode cX1_jump 12 = .ok (.invokevirtual 506, 3) := dk_182 1 250 (dk_at dksX1_jump_0 12 rfl rfl)
theorem dX1_jump_15 : decode cX1_jump 15 = .ok (.aload_n 0, 1) := dk_42 (dk_at dksX1_jump_0 15 rfl rfl)
theorem dX1_jump_16 : decode cX1_jump 16 = .ok (.getfield 24, 3) := dk_180 0 24 (dk_at dksX1_jump_0 16 rfl rfl)
theorem dX1_jump_19 : decode cX1_jump 19 = .ok (.invokevirtual 71, 3) := dk_182 0 71 (dk_at dksX1_jump_0 19 rfl rfl)
theorem dX1_jump_22 : decode cX1_jump 22 = .ok (.iload_n 2, 1) := dk_28 (dk_at dksX1_jump_0 22 rfl rfl)
theorem dX1_jump_23 : decode cX1_jump 23 = .ok (.invokevirtual 229, 3) := dk_182 0 229 (dk_at dksX1_jump_1 0 rfl rfl)
theorem dX1_jump_26 : decode cX1_jump 26 = .ok (.ireturn, 1) := dk_172 (dk_at dksX1_jump_1 3 rfl rfl)
abbrev cX1_jumpTo : ByteArray := prog_1_method_80_code
def yX1_jumpTo : MethodName := ⟨RX1, "jumpTo", "(I)V"⟩
def dkwX1_jumpTo_1 : List UInt8 := [42, 180, 0, 24, 42, 180, 0, 24, 27, 182, 0, 67, 180, 0, 214, 182, 1, 247, 177]
abbrev dktX1_jumpTo_1 : List UInt8 := dkwX1_jumpTo_1 ++ []
def dkwX1_jumpTo_0 : List UInt8 := [42, 180, 0, 24, 42, 180, 0, 24, 180, 0, 201, 182, 1, 242, 42, 180, 0, 24, 180, 0, 208, 182, 1, 246]
abbrev dktX1_jumpTo_0 : List UInt8 := dkwX1_jumpTo_0 ++ dktX1_jumpTo_1
theorem dksX1_jumpTo_0 : cX1_jumpTo.data.toList.drop 0 = dktX1_jumpTo_0 := by decide +kernel
theorem dksX1_jumpTo_1 : cX1_jumpTo.data.toList.drop 24 = dktX1_jumpTo_1 := dk_seg dksX1_jumpTo_0 24 rfl rfl
theorem dX1_jumpTo_0 : decode cX1_jumpTo 0 = .ok (.aload_n 0, 1) := dk_42 (dk_at dksX1_jumpTo_0 0 rfl rfl)
theorem dX1_jumpTo_1 : decode cX1_jumpTo 1 = .ok (.getfield 24, 3) := dk_180 0 24 (dk_at dksX1_jumpTo_0 1 rfl rfl)
theorem dX1_jumpTo_4 : decode cX1_jumpTo 4 = .ok (.aload_n 0, 1) := dk_42 (dk_at dksX1_jumpTo_0 4 rfl rfl)
theorem dX1_jumpTo_5 : decode cX1_jumpTo 5 = .ok (.getfield 24, 3) := dk_180 0 24 (dk_at dksX1_jumpTo_0 5 rfl rfl)
theorem dX1_jumpTo_8 : decode cX1_jumpTo 8 = .ok (.getfield 201, 3) := dk_180 0 201 (dk_at dksX1_jumpTo_0 8 rfl rfl)
theorem dX1_jumpTo_11 : decode cX1_jumpTo 11 = .ok (.invokevirtual 498, 3) := dk_182 1 242 (dk_at dksX1_jumpTo_0 11 rfl rfl)
theorem dX1_jumpTo_14 : decode cX1_jumpTo 14 = .ok (.aload_n 0, 1) := dk_42 (dk_at dksX1_jumpTo_0 14 rfl rfl)
theorem dX1_jumpTo_15 : decode cX1_jumpTo 15 = .ok (.getfield 24, 3) := dk_180 0 24 (dk_at dksX1_jumpTo_0 15 rfl rfl)
theorem dX1_jumpTo_18 : decode cX1_jumpTo 18 = .ok (.getfield 208, 3) := dk_180 0 208 (dk_at dksX1_jumpTo_0 18 rfl rfl)
theorem dX1_jumpTo_21 : decode cX1_jumpTo 21 = .ok (.invokevirtual 502, 3) := dk_182 1 246 (dk_at dksX1_jumpTo_0 21 rfl rfl)
theorem dX1_jumpTo_24 : decode cX1_jumpTo 24 = .ok (.aload_n 0, 1) := dk_42 (dk_at dksX1_jumpTo_1 0 rfl rfl)
theorem dX1_jumpTo_25 : decode cX1_jumpTo 25 = .ok (.getfield 24, 3) := dk_180 0 24 (dk_at dksX1_jumpTo_1 1 rfl rfl)
theorem dX1_jumpTo_28 : decode cX1_jumpTo 28 = .ok (.aload_n 0, 1) := dk_42 (dk_at dksX1_jumpTo_1 4 rfl rfl)
theorem dX1_jumpTo_29 : decode cX1_jumpTo 29 = .ok (.getfield 24, 3) := dk_180 0 24 (dk_at dksX1_jumpTo_1 5 rfl rfl)
theorem dX1_jumpTo_32 : decode cX1_jumpTo 32 = .ok (.iload_n 1, 1) := dk_27 (dk_at dksX1_jumpTo_1 8 rfl rfl)
theorem dX1_jumpTo_33 : decode cX1_jumpTo 33 = .ok (.invokevirtual 67, 3) := dk_182 0 67 (dk_at dksX1_jumpTo_1 9 rfl rfl)
theorem dX1_jumpTo_36 : decode cX1_jumpTo 36 = .ok (.getfield 214, 3) := dk_180 0 214 (dk_at dksX1_jumpTo_1 12 rfl rfl)
theorem dX1_jumpTo_39 : decode cX1_jumpTo 39 = .ok (.invokevirtual 503, 3) := dk_182 1 247 (dk_at dksX1_jumpTo_1 15 rfl rfl)
theorem dX1_jumpTo_42 : decode cX1_jumpTo 42 = .ok (.return_, 1) := dk_177 (dk_at dksX1_jumpTo_1 18 rfl rfl)
abbrev cX1_follow : ByteArray := prog_1_method_82_code
def yX1_follow : MethodName := ⟨RX1, "follow", "()I"⟩
def dkwX1_follow_2 : List UInt8 := [167, 0, 4, 3, 184, 1, 78, 42, 182, 1, 177, 42, 27, 182, 1, 250, 27, 4, 96, 172]
abbrev dktX1_follow_2 : List UInt8 := dkwX1_follow_2 ++ []
def dkwX1_follow_1 : List UInt8 := [180, 0, 24, 42, 180, 0, 24, 180, 1, 110, 182, 0, 254, 182, 1, 104, 60, 27, 2, 159, 0, 7, 4]
abbrev dktX1_follow_1 : List UInt8 := dkwX1_follow_1 ++ dktX1_follow_2
def dkwX1_follow_0 : List UInt8 := [42, 180, 0, 24, 182, 0, 55, 158, 0, 7, 4, 167, 0, 4, 3, 184, 1, 78, 42, 180, 0, 24, 42]
abbrev dktX1_follow_0 : List UInt8 := dkwX1_follow_0 ++ dktX1_follow_1
theorem dksX1_follow_0 : cX1_follow.data.toList.drop 0 = dktX1_follow_0 := by decide +kernel
theorem dksX1_follow_1 : cX1_follow.data.toList.drop 23 = dktX1_follow_1 := dk_seg dksX1_follow_0 23 rfl rfl
theorem dksX1_follow_2 : cX1_follow.data.toList.drop 46 = dktX1_follow_2 := dk_seg dksX1_follow_1 23 rfl rfl
theorem dX1_follow_0 : decode cX1_follow 0 = .ok (.aload_n 0, 1) := dk_42 (dk_at dksX1_follow_0 0 rfl rfl)
theorem dX1_follow_1 : decode cX1_follow 1 = .ok (.getfield 24, 3) := dk_180 0 24 (dk_at dksX1_follow_0 1 rfl rfl)
theorem dX1_follow_4 : decode cX1_follow 4 = .ok (.invokevirtual 55, 3) := dk_182 0 55 (dk_at dksX1_follow_0 4 rfl rfl)
theorem dX1_follow_7 : decode cX1_follow 7 = .ok (.ifCond .le 7, 3) := dk_158 0 7 (dk_at dksX1_follow_0 7 rfl rfl)
theorem dX1_follow_10 : decode cX1_follow 10 = .ok (.iconst 1, 1) := dk_4 (dk_at dksX1_follow_0 10 rfl rfl)
theorem dX1_follow_11 : decode cX1_follow 11 = .ok (.goto 4, 3) := dk_167 0 4 (dk_at dksX1_follow_0 11 rfl rfl)
theorem dX1_follow_14 : decode cX1_follow 14 = .ok (.iconst 0, 1) := dk_3 (dk_at dksX1_follow_0 14 rfl rfl)
theorem dX1_follow_15 : decode cX1_follow 15 = .ok (.invokestatic 334, 3) := dk_184 1 78 (dk_at dksX1_follow_0 15 rfl rfl)
theorem dX1_follow_18 : decode cX1_follow 18 = .ok (.aload_n 0, 1) := dk_42 (dk_at dksX1_follow_0 18 rfl rfl)
theorem dX1_follow_19 : decode cX1_follow 19 = .ok (.getfield 24, 3) := dk_180 0 24 (dk_at dksX1_follow_0 19 rfl rfl)
theorem dX1_follow_22 : decode cX1_follow 22 = .ok (.aload_n 0, 1) := dk_42 (dk_at dksX1_follow_0 22 rfl rfl)
theorem dX1_follow_23 : decode cX1_follow 23 = .ok (.getfield 24, 3) := dk_180 0 24 (dk_at dksX1_follow_1 0 rfl rfl)
theorem dX1_follow_26 : decode cX1_follow 26 = .ok (.aload_n 0, 1) := dk_42 (dk_at dksX1_follow_1 3 rfl rfl)
theorem dX1_follow_27 : decode cX1_follow 27 = .ok (.getfield 24, 3) := dk_180 0 24 (dk_at dksX1_follow_1 4 rfl rfl)
theorem dX1_follow_30 : decode cX1_follow 30 = .ok (.getfield 366, 3) := dk_180 1 110 (dk_at dksX1_follow_1 7 rfl rfl)
theorem dX1_follow_33 : decode cX1_follow 33 = .ok (.invokevirtual 254, 3) := dk_182 0 254 (dk_at dksX1_follow_1 10 rfl rfl)
theorem dX1_follow_36 : decode cX1_follow 36 = .ok (.invokevirtual 360, 3) := dk_182 1 104 (dk_at dksX1_follow_1 13 rfl rfl)
theorem dX1_follow_39 : decode cX1_follow 39 = .ok (.istore_n 1, 1) := dk_60 (dk_at dksX1_follow_1 16 rfl rfl)
theorem dX1_follow_40 : decode cX1_follow 40 = .ok (.iload_n 1, 1) := dk_27 (dk_at dksX1_follow_1 17 rfl rfl)
theorem dX1_follow_41 : decode cX1_follow 41 = .ok (.iconst (-1), 1) := dk_2 (dk_at dksX1_follow_1 18 rfl rfl)
theorem dX1_follow_42 : decode cX1_follow 42 = .ok (.if_icmp .eq 7, 3) := dk_159 0 7 (dk_at dksX1_follow_1 19 rfl rfl)
theorem dX1_follow_45 : decode cX1_follow 45 = .ok (.iconst 1, 1) := dk_4 (dk_at dksX1_follow_1 22 rfl rfl)
theorem dX1_follow_46 : decode cX1_follow 46 = .ok (.goto 4, 3) := dk_167 0 4 (dk_at dksX1_follow_2 0 rfl rfl)
theorem dX1_follow_49 : decode cX1_follow 49 = .ok (.iconst 0, 1) := dk_3 (dk_at dksX1_follow_2 3 rfl rfl)
theorem dX1_follow_50 : decode cX1_follow 50 = .ok (.invokestatic 334, 3) := dk_184 1 78 (dk_at dksX1_follow_2 4 rfl rfl)
theorem dX1_follow_53 : decode cX1_follow 53 = .ok (.aload_n 0, 1) := dk_42 (dk_at dksX1_follow_2 7 rfl rfl)
theorem dX1_follow_54 : decode cX1_follow 54 = .ok (.invokevirtual 433, 3) := dk_182 1 177 (dk_at dksX1_follow_2 8 rfl rfl)
theorem dX1_follow_57 : decode cX1_follow 57 = .ok (.aload_n 0, 1) := dk_42 (dk_at dksX1_follow_2 11 rfl rfl)
theorem dX1_follow_58 : decode cX1_follow 58 = .ok (.iload_n 1, 1) := dk_27 (dk_at dksX1_follow_2 12 rfl rfl)
theorem dX1_follow_59 : decode cX1_follow 59 = .ok (.invokevirtual 506, 3) := dk_182 1 250 (dk_at dksX1_follow_2 13 rfl rfl)
theorem dX1_follow_62 : decode cX1_follow 62 = .ok (.iload_n 1, 1) := dk_27 (dk_at dksX1_follow_2 16 rfl rfl)
theorem dX1_follow_63 : decode cX1_follow 63 = .ok (.iconst 1, 1) := dk_4 (dk_at dksX1_follow_2 17 rfl rfl)
theorem dX1_follow_64 : decode cX1_follow 64 = .ok (.iadd, 1) := dk_96 (dk_at dksX1_follow_2 18 rfl rfl)
theorem dX1_follow_65 : decode cX1_follow 65 = .ok (.ireturn, 1) := dk_172 (dk_at dksX1_follow_2 19 rfl rfl)
abbrev cX1_back : ByteArray := prog_1_method_83_code
def yX1_back : MethodName := ⟨RX1, "back", "()I"⟩
def dkwX1_back_2 : List UInt8 := [42, 182, 2, 2, 172]
abbrev dktX1_back_2 : List UInt8 := dkwX1_back_2 ++ []
def dkwX1_back_1 : List UInt8 := [182, 1, 177, 42, 180, 0, 24, 42, 180, 0, 24, 180, 0, 201, 42, 180, 0, 24, 180, 0, 208, 182, 1, 254]
abbrev dktX1_back_1 : List UInt8 := dkwX1_back_1 ++ dktX1_back_2
def dkwX1_back_0 : List UInt8 := [42, 180, 0, 24, 180, 0, 201, 182, 1, 253, 154, 0, 7, 4, 167, 0, 4, 3, 184, 1, 78, 42]
abbrev dktX1_back_0 : List UInt8 := dkwX1_back_0 ++ dktX1_back_1
theorem dksX1_back_0 : cX1_back.data.toList.drop 0 = dktX1_back_0 := by decide +kernel
theorem dksX1_back_1 : cX1_back.data.toList.drop 22 = dktX1_back_1 := dk_seg dksX1_back_0 22 rfl rfl
theorem dksX1_back_2 : cX1_back.data.toList.drop 46 = dktX1_back_2 := dk_seg dksX1_back_1 24 rfl rfl
theorem dX1_back_0 : decode cX1_back 0 = .ok (.aload_n 0, 1) := dk_42 (dk_at dksX1_back_0 0 rfl rfl)
theorem dX1_back_1 : decode cX1_back 1 = .ok (.getfield 24, 3) := dk_180 0 24 (dk_at dksX1_back_0 1 rfl rfl)
theorem dX1_back_4 : decode cX1_back 4 = .ok (.getfield 201, 3) := dk_180 0 201 (dk_at dksX1_back_0 4 rfl rfl)
theorem dX1_back_7 : decode cX1_back 7 = .ok (.invokevirtual 509, 3) := dk_182 1 253 (dk_at dksX1_back_0 7 rfl rfl)
theorem dX1_back_10 : decode cX1_back 10 = .ok (.ifCond .ne 7, 3) := dk_154 0 7 (dk_at dksX1_back_0 10 rfl rfl)
theorem dX1_back_13 : decode cX1_back 13 = .ok (.iconst 1, 1) := dk_4 (dk_at dksX1_back_0 13 rfl rfl)
theorem dX1_back_14 : decode cX1_back 14 = .ok (.goto 4, 3) := dk_167 0 4 (dk_at dksX1_back_0 14 rfl rfl)
theorem dX1_back_17 : decode cX1_back 17 = .ok (.iconst 0, 1) := dk_3 (dk_at dksX1_back_0 17 rfl rfl)
theorem dX1_back_18 : decode cX1_back 18 = .ok (.invokestatic 334, 3) := dk_184 1 78 (dk_at dksX1_back_0 18 rfl rfl)
theorem dX1_back_21 : decode cX1_back 21 = .ok (.aload_n 0, 1) := dk_42 (dk_at dksX1_back_0 21 rfl rfl)
theorem dX1_back_22 : decode cX1_back 22 = .ok (.invokevirtual 433, 3) := dk_182 1 177 (dk_at dksX1_back_1 0 rfl rfl)
theorem dX1_back_25 : decode cX1_back 25 = .ok (.aload_n 0, 1) := dk_42 (dk_at dksX1_back_1 3 rfl rfl)
theorem dX1_back_26 : decode cX1_back 26 = .ok (.getfield 24, 3) := dk_180 0 24 (dk_at dksX1_back_1 4 rfl rfl)
theorem dX1_back_29 : decode cX1_back 29 = .ok (.aload_n 0, 1) := dk_42 (dk_at dksX1_back_1 7 rfl rfl)
theorem dX1_back_30 : decode cX1_back 30 = .ok (.getfield 24, 3) := dk_180 0 24 (dk_at dksX1_back_1 8 rfl rfl)
theorem dX1_back_33 : decode cX1_back 33 = .ok (.getfield 201, 3) := dk_180 0 201 (dk_at dksX1_back_1 11 rfl rfl)
theorem dX1_back_36 : decode cX1_back 36 = .ok (.aload_n 0, 1) := dk_42 (dk_at dksX1_back_1 14 rfl rfl)
theorem dX1_back_37 : decode cX1_back 37 = .ok (.getfield 24, 3) := dk_180 0 24 (dk_at dksX1_back_1 15 rfl rfl)
theorem dX1_back_40 : decode cX1_back 40 = .ok (.getfield 208, 3) := dk_180 0 208 (dk_at dksX1_back_1 18 rfl rfl)
theorem dX1_back_43 : decode cX1_back 43 = .ok (.invokevirtual 510, 3) := dk_182 1 254 (dk_at dksX1_back_1 21 rfl rfl)
theorem dX1_back_46 : decode cX1_back 46 = .ok (.aload_n 0, 1) := dk_42 (dk_at dksX1_back_2 0 rfl rfl)
theorem dX1_back_47 : decode cX1_back 47 = .ok (.invokevirtual 514, 3) := dk_182 2 2 (dk_at dksX1_back_2 1 rfl rfl)
theorem dX1_back_50 : decode cX1_back 50 = .ok (.ireturn, 1) := dk_172 (dk_at dksX1_back_2 4 rfl rfl)
abbrev cX1_forward : ByteArray := prog_1_method_84_code
def yX1_forward : MethodName := ⟨RX1, "forward", "()I"⟩
def dkwX1_forward_2 : List UInt8 := [42, 182, 2, 2, 172]
abbrev dktX1_forward_2 : List UInt8 := dkwX1_forward_2 ++ []
def dkwX1_forward_1 : List UInt8 := [182, 1, 177, 42, 180, 0, 24, 42, 180, 0, 24, 180, 0, 208, 42, 180, 0, 24, 180, 0, 201, 182, 1, 254]
abbrev dktX1_forward_1 : List UInt8 := dkwX1_forward_1 ++ dktX1_forward_2
def dkwX1_forward_0 : List UInt8 := [42, 180, 0, 24, 180, 0, 208, 182, 1, 253, 154, 0, 7, 4, 167, 0, 4, 3, 184, 1, 78, 42]
abbrev dktX1_forward_0 : List UInt8 := dkwX1_forward_0 ++ dktX1_forward_1
theorem dksX1_forward_0 : cX1_forward.data.toList.drop 0 = dktX1_forward_0 := by decide +kernel
theorem dksX1_forward_1 : cX1_forward.data.toList.drop 22 = dktX1_forward_1 := dk_seg dksX1_forward_0 22 rfl rfl
theorem dksX1_forward_2 : cX1_forward.data.toList.drop 46 = dktX1_forward_2 := dk_seg dksX1_forward_1 24 rfl rfl
theorem dX1_forward_0 : decode cX1_forward 0 = .ok (.aload_n 0, 1) := dk_42 (dk_at dksX1_forward_0 0 rfl rfl)
theorem dX1_forward_1 : decode cX1_forward 1 = .ok (.getfield 24, 3) := dk_180 0 24 (dk_at dksX1_forward_0 1 rfl rfl)
theorem dX1_forward_4 : decode cX1_forward 4 = .ok (.getfield 208, 3) := dk_180 0 208 (dk_at dksX1_forward_0 4 rfl rfl)
theorem dX1_forward_7 : decode cX1_forward 7 = .ok (.invokevirtual 509, 3) := dk_182 1 253 (dk_at dksX1_forward_0 7 rfl rfl)
theorem dX1_forward_10 : decode cX1_forward 10 = .ok (.ifCond .ne 7, 3) := dk_154 0 7 (dk_at dksX1_forward_0 10 rfl rfl)
theorem dX1_forward_13 : decode cX1_forward 13 = .ok (.iconst 1, 1) := dk_4 (dk_at dksX1_forward_0 13 rfl rfl)
theorem dX1_forward_14 : decode cX1_forward 14 = .ok (.goto 4, 3) := dk_167 0 4 (dk_at dksX1_forward_0 14 rfl rfl)
theorem dX1_forward_17 : decode cX1_forward 17 = .ok (.iconst 0, 1) := dk_3 (dk_at dksX1_forward_0 17 rfl rfl)
theorem dX1_forward_18 : decode cX1_forward 18 = .ok (.invokestatic 334, 3) := dk_184 1 78 (dk_at dksX1_forward_0 18 rfl rfl)
theorem dX1_forward_21 : decode cX1_forward 21 = .ok (.aload_n 0, 1) := dk_42 (dk_at dksX1_forward_0 21 rfl rfl)
theorem dX1_forward_22 : decode cX1_forward 22 = .ok (.invokevirtual 433, 3) := dk_182 1 177 (dk_at dksX1_forward_1 0 rfl rfl)
theorem dX1_forward_25 : decode cX1_forward 25 = .ok (.aload_n 0, 1) := dk_42 (dk_at dksX1_forward_1 3 rfl rfl)
theorem dX1_forward_26 : decode cX1_forward 26 = .ok (.getfield 24, 3) := dk_180 0 24 (dk_at dksX1_forward_1 4 rfl rfl)
theorem dX1_forward_29 : decode cX1_forward 29 = .ok (.aload_n 0, 1) := dk_42 (dk_at dksX1_forward_1 7 rfl rfl)
theorem dX1_forward_30 : decode cX1_forward 30 = .ok (.getfield 24, 3) := dk_180 0 24 (dk_at dksX1_forward_1 8 rfl rfl)
theorem dX1_forward_33 : decode cX1_forward 33 = .ok (.getfield 208, 3) := dk_180 0 208 (dk_at dksX1_forward_1 11 rfl rfl)
theorem dX1_forward_36 : decode cX1_forward 36 = .ok (.aload_n 0, 1) := dk_42 (dk_at dksX1_forward_1 14 rfl rfl)
theorem dX1_forward_37 : decode cX1_forward 37 = .ok (.getfield 24, 3) := dk_180 0 24 (dk_at dksX1_forward_1 15 rfl rfl)
theorem dX1_forward_40 : decode cX1_forward 40 = .ok (.getfield 201, 3) := dk_180 0 201 (dk_at dksX1_forward_1 18 rfl rfl)
theorem dX1_forward_43 : decode cX1_forward 43 = .ok (.invokevirtual 510, 3) := dk_182 1 254 (dk_at dksX1_forward_1 21 rfl rfl)
theorem dX1_forward_46 : decode cX1_forward 46 = .ok (.aload_n 0, 1) := dk_42 (dk_at dksX1_forward_2 0 rfl rfl)
theorem dX1_forward_47 : decode cX1_forward 47 = .ok (.invokevirtual 514, 3) := dk_182 2 2 (dk_at dksX1_forward_2 1 rfl rfl)
theorem dX1_forward_50 : decode cX1_forward 50 = .ok (.ireturn, 1) := dk_172 (dk_at dksX1_forward_2 4 rfl rfl)
abbrev cX1_undo : ByteArray := prog_1_method_85_code
def yX1_undo : MethodName := ⟨RX1, "undo", "()I"⟩
def dkwX1_undo_1 : List UInt8 := [182, 2, 8, 192, 0, 21, 181, 0, 24, 42, 180, 0, 31, 182, 1, 163, 172]
abbrev dktX1_undo_1 : List UInt8 := dkwX1_undo_1 ++ []
def dkwX1_undo_0 : List UInt8 := [42, 180, 0, 31, 182, 2, 4, 154, 0, 7, 4, 167, 0, 4, 3, 184, 2, 5, 42, 42, 180, 0, 31]
abbrev dktX1_undo_0 : List UInt8 := dkwX1_undo_0 ++ dktX1_undo_1
theorem dksX1_undo_0 : cX1_undo.data.toList.drop 0 = dktX1_undo_0 := by decide +kernel
theorem dksX1_undo_1 : cX1_undo.data.toList.drop 23 = dktX1_undo_1 := dk_seg dksX1_undo_0 23 rfl rfl
theorem dX1_undo_0 : decode cX1_undo 0 = .ok (.aload_n 0, 1) := dk_42 (dk_at dksX1_undo_0 0 rfl rfl)
theorem dX1_undo_1 : decode cX1_undo 1 = .ok (.getfield 31, 3) := dk_180 0 31 (dk_at dksX1_undo_0 1 rfl rfl)
theorem dX1_undo_4 : decode cX1_undo 4 = .ok (.invokevirtual 516, 3) := dk_182 2 4 (dk_at dksX1_undo_0 4 rfl rfl)
theorem dX1_undo_7 : decode cX1_undo 7 = .ok (.ifCond .ne 7, 3) := dk_154 0 7 (dk_at dksX1_undo_0 7 rfl rfl)
theorem dX1_undo_10 : decode cX1_undo 10 = .ok (.iconst 1, 1) := dk_4 (dk_at dksX1_undo_0 10 rfl rfl)
theorem dX1_undo_11 : decode cX1_undo 11 = .ok (.goto 4, 3) := dk_167 0 4 (dk_at dksX1_undo_0 11 rfl rfl)
theorem dX1_undo_14 : decode cX1_undo 14 = .ok (.iconst 0, 1) := dk_3 (dk_at dksX1_undo_0 14 rfl rfl)
theorem dX1_undo_15 : decode cX1_undo 15 = .ok (.invokestatic 517, 3) := dk_184 2 5 (dk_at dksX1_undo_0 15 rfl rfl)
theorem dX1_undo_18 : decode cX1_undo 18 = .ok (.aload_n 0, 1) := dk_42 (dk_at dksX1_undo_0 18 rfl rfl)
theorem dX1_undo_19 : decode cX1_undo 19 = .ok (.aload_n 0, 1) := dk_42 (dk_at dksX1_undo_0 19 rfl rfl)
theorem dX1_undo_20 : decode cX1_undo 20 = .ok (.getfield 31, 3) := dk_180 0 31 (dk_at dksX1_undo_0 20 rfl rfl)
theorem dX1_undo_23 : decode cX1_undo 23 = .ok (.invokevirtual 520, 3) := dk_182 2 8 (dk_at dksX1_undo_1 0 rfl rfl)
theorem dX1_undo_26 : decode cX1_undo 26 = .ok (.checkcast 21, 3) := dk_192 0 21 (dk_at dksX1_undo_1 3 rfl rfl)
theorem dX1_undo_29 : decode cX1_undo 29 = .ok (.putfield 24, 3) := dk_181 0 24 (dk_at dksX1_undo_1 6 rfl rfl)
theorem dX1_undo_32 : decode cX1_undo 32 = .ok (.aload_n 0, 1) := dk_42 (dk_at dksX1_undo_1 9 rfl rfl)
theorem dX1_undo_33 : decode cX1_undo 33 = .ok (.getfield 31, 3) := dk_180 0 31 (dk_at dksX1_undo_1 10 rfl rfl)
theorem dX1_undo_36 : decode cX1_undo 36 = .ok (.invokevirtual 419, 3) := dk_182 1 163 (dk_at dksX1_undo_1 13 rfl rfl)
theorem dX1_undo_39 : decode cX1_undo 39 = .ok (.ireturn, 1) := dk_172 (dk_at dksX1_undo_1 16 rfl rfl)
abbrev cX1_checkState : ByteArray := prog_1_method_7_code
def yX1_checkState : MethodName := ⟨RX1, "checkState", "(Z)V"⟩
def dkwX1_checkState_0 : List UInt8 := [26, 154, 0, 11, 187, 0, 52, 89, 183, 0, 54, 191, 177]
abbrev dktX1_checkState_0 : List UInt8 := dkwX1_checkState_0 ++ []
theorem dksX1_checkState_0 : cX1_checkState.data.toList.drop 0 = dktX1_checkState_0 := by decide +kernel
theorem dX1_checkState_0 : decode cX1_checkState 0 = .ok (.iload_n 0, 1) := dk_26 (dk_at dksX1_checkState_0 0 rfl rfl)
theorem dX1_checkState_1 : decode cX1_checkState 1 = .ok (.ifCond .ne 11, 3) := dk_154 0 11 (dk_at dksX1_checkState_0 1 rfl rfl)
theorem dX1_checkState_4 : decode cX1_checkState 4 = .ok (.new 52, 3) := dk_187 0 52 (dk_at dksX1_checkState_0 4 rfl rfl)
theorem dX1_checkState_7 : decode cX1_checkState 7 = .ok (.dup, 1) := dk_89 (dk_at dksX1_checkState_0 7 rfl rfl)
theorem dX1_checkState_8 : decode cX1_checkState 8 = .ok (.invokespecial 54, 3) := dk_183 0 54 (dk_at dksX1_checkState_0 8 rfl rfl)
theorem dX1_checkState_11 : decode cX1_checkState 11 = .ok (.athrow, 1) := dk_191 (dk_at dksX1_checkState_0 11 rfl rfl)
theorem dX1_checkState_12 : decode cX1_checkState 12 = .ok (.return_, 1) := dk_177 (dk_at dksX1_checkState_0 12 rfl rfl)
abbrev cX1_save : ByteArray := prog_1_method_87_code
def yX1_save : MethodName := ⟨RX1, "save", "(I)I"⟩
def dkwX1_save_1 : List UInt8 := [182, 0, 55, 172]
abbrev dktX1_save_1 : List UInt8 := dkwX1_save_1 ++ []
def dkwX1_save_0 : List UInt8 := [27, 5, 184, 0, 59, 42, 180, 0, 35, 27, 42, 180, 0, 24, 182, 1, 167, 83, 42, 180, 0, 24]
abbrev dktX1_save_0 : List UInt8 := dkwX1_save_0 ++ dktX1_save_1
theorem dksX1_save_0 : cX1_save.data.toList.drop 0 = dktX1_save_0 := by decide +kernel
theorem dksX1_save_1 : cX1_save.data.toList.drop 22 = dktX1_save_1 := dk_seg dksX1_save_0 22 rfl rfl
theorem dX1_save_0 : decode cX1_save 0 = .ok (.iload_n 1, 1) := dk_27 (dk_at dksX1_save_0 0 rfl rfl)
theorem dX1_save_1 : decode cX1_save 1 = .ok (.iconst 2, 1) := dk_5 (dk_at dksX1_save_0 1 rfl rfl)
theorem dX1_save_2 : decode cX1_save 2 = .ok (.invokestatic 59, 3) := dk_184 0 59 (dk_at dksX1_save_0 2 rfl rfl)
theorem dX1_save_5 : decode cX1_save 5 = .ok (.aload_n 0, 1) := dk_42 (dk_at dksX1_save_0 5 rfl rfl)
theorem dX1_save_6 : decode cX1_save 6 = .ok (.getfield 35, 3) := dk_180 0 35 (dk_at dksX1_save_0 6 rfl rfl)
theorem dX1_save_9 : decode cX1_save 9 = .ok (.iload_n 1, 1) := dk_27 (dk_at dksX1_save_0 9 rfl rfl)
theorem dX1_save_10 : decode cX1_save 10 = .ok (.aload_n 0, 1) := dk_42 (dk_at dksX1_save_0 10 rfl rfl)
theorem dX1_save_11 : decode cX1_save 11 = .ok (.getfield 24, 3) := dk_180 0 24 (dk_at dksX1_save_0 11 rfl rfl)
theorem dX1_save_14 : decode cX1_save 14 = .ok (.invokevirtual 423, 3) := dk_182 1 167 (dk_at dksX1_save_0 14 rfl rfl)
theorem dX1_save_17 : decode cX1_save 17 = .ok (.aastore, 1) := dk_83 (dk_at dksX1_save_0 17 rfl rfl)
theorem dX1_save_18 : decode cX1_save 18 = .ok (.aload_n 0, 1) := dk_42 (dk_at dksX1_save_0 18 rfl rfl)
theorem dX1_save_19 : decode cX1_save 19 = .ok (.getfield 24, 3) := dk_180 0 24 (dk_at dksX1_save_0 19 rfl rfl)
theorem dX1_save_22 : decode cX1_save 22 = .ok (.invokevirtual 55, 3) := dk_182 0 55 (dk_at dksX1_save_1 0 rfl rfl)
theorem dX1_save_25 : decode cX1_save 25 = .ok (.ireturn, 1) := dk_172 (dk_at dksX1_save_1 3 rfl rfl)
abbrev cX1_restore : ByteArray := prog_1_method_88_code
def yX1_restore : MethodName := ⟨RX1, "restore", "(I)I"⟩
def dkwX1_restore_2 : List UInt8 := [182, 0, 55, 172]
abbrev dktX1_restore_2 : List UInt8 := dkwX1_restore_2 ++ []
def dkwX1_restore_1 : List UInt8 := [180, 0, 35, 27, 50, 182, 1, 167, 181, 0, 24, 42, 180, 0, 31, 182, 0, 129, 42, 180, 0, 24]
abbrev dktX1_restore_1 : List UInt8 := dkwX1_restore_1 ++ dktX1_restore_2
def dkwX1_restore_0 : List UInt8 := [27, 5, 184, 0, 59, 42, 180, 0, 35, 27, 50, 198, 0, 7, 4, 167, 0, 4, 3, 184, 2, 5, 42, 42]
abbrev dktX1_restore_0 : List UInt8 := dkwX1_restore_0 ++ dktX1_restore_1
theorem dksX1_restore_0 : cX1_restore.data.toList.drop 0 = dktX1_restore_0 := by decide +kernel
theorem dksX1_restore_1 : cX1_restore.data.toList.drop 24 = dktX1_restore_1 := dk_seg dksX1_restore_0 24 rfl rfl
theorem dksX1_restore_2 : cX1_restore.data.toList.drop 46 = dktX1_restore_2 := dk_seg dksX1_restore_1 22 rfl rfl
theorem dX1_restore_0 : decode cX1_restore 0 = .ok (.iload_n 1, 1) := dk_27 (dk_at dksX1_restore_0 0 rfl rfl)
theorem dX1_restore_1 : decode cX1_restore 1 = .ok (.iconst 2, 1) := dk_5 (dk_at dksX1_restore_0 1 rfl rfl)
theorem dX1_restore_2 : decode cX1_restore 2 = .ok (.invokestatic 59, 3) := dk_184 0 59 (dk_at dksX1_restore_0 2 rfl rfl)
theorem dX1_restore_5 : decode cX1_restore 5 = .ok (.aload_n 0, 1) := dk_42 (dk_at dksX1_restore_0 5 rfl rfl)
theorem dX1_restore_6 : decode cX1_restore 6 = .ok (.getfield 35, 3) := dk_180 0 35 (dk_at dksX1_restore_0 6 rfl rfl)
theorem dX1_restore_9 : decode cX1_restore 9 = .ok (.iload_n 1, 1) := dk_27 (dk_at dksX1_restore_0 9 rfl rfl)
theorem dX1_restore_10 : decode cX1_restore 10 = .ok (.aaload, 1) := dk_50 (dk_at dksX1_restore_0 10 rfl rfl)
theorem dX1_restore_11 : decode cX1_restore 11 = .ok (.ifnull 7, 3) := dk_198 0 7 (dk_at dksX1_restore_0 11 rfl rfl)
theorem dX1_restore_14 : decode cX1_restore 14 = .ok (.iconst 1, 1) := dk_4 (dk_at dksX1_restore_0 14 rfl rfl)
theorem dX1_restore_15 : decode cX1_restore 15 = .ok (.goto 4, 3) := dk_167 0 4 (dk_at dksX1_restore_0 15 rfl rfl)
theorem dX1_restore_18 : decode cX1_restore 18 = .ok (.iconst 0, 1) := dk_3 (dk_at dksX1_restore_0 18 rfl rfl)
theorem dX1_restore_19 : decode cX1_restore 19 = .ok (.invokestatic 517, 3) := dk_184 2 5 (dk_at dksX1_restore_0 19 rfl rfl)
theorem dX1_restore_22 : decode cX1_restore 22 = .ok (.aload_n 0, 1) := dk_42 (dk_at dksX1_restore_0 22 rfl rfl)
theorem dX1_restore_23 : decode cX1_restore 23 = .ok (.aload_n 0, 1) := dk_42 (dk_at dksX1_restore_0 23 rfl rfl)
theorem dX1_restore_24 : decode cX1_restore 24 = .ok (.getfield 35, 3) := dk_180 0 35 (dk_at dksX1_restore_1 0 rfl rfl)
theorem dX1_restore_27 : decode cX1_restore 27 = .ok (.iload_n 1, 1) := dk_27 (dk_at dksX1_restore_1 3 rfl rfl)
theorem dX1_restore_28 : decode cX1_restore 28 = .ok (.aaload, 1) := dk_50 (dk_at dksX1_restore_1 4 rfl rfl)
theorem dX1_restore_29 : decode cX1_restore 29 = .ok (.invokevirtual 423, 3) := dk_182 1 167 (dk_at dksX1_restore_1 5 rfl rfl)
theorem dX1_restore_32 : decode cX1_restore 32 = .ok (.putfield 24, 3) := dk_181 0 24 (dk_at dksX1_restore_1 8 rfl rfl)
theorem dX1_restore_35 : decode cX1_restore 35 = .ok (.aload_n 0, 1) := dk_42 (dk_at dksX1_restore_1 11 rfl rfl)
theorem dX1_restore_36 : decode cX1_restore 36 = .ok (.getfield 31, 3) := dk_180 0 31 (dk_at dksX1_restore_1 12 rfl rfl)
theorem dX1_restore_39 : decode cX1_restore 39 = .ok (.invokevirtual 129, 3) := dk_182 0 129 (dk_at dksX1_restore_1 15 rfl rfl)
theorem dX1_restore_42 : decode cX1_restore 42 = .ok (.aload_n 0, 1) := dk_42 (dk_at dksX1_restore_1 18 rfl rfl)
theorem dX1_restore_43 : decode cX1_restore 43 = .ok (.getfield 24, 3) := dk_180 0 24 (dk_at dksX1_restore_1 19 rfl rfl)
theorem dX1_restore_46 : decode cX1_restore 46 = .ok (.invokevirtual 55, 3) := dk_182 0 55 (dk_at dksX1_restore_2 0 rfl rfl)
theorem dX1_restore_49 : decode cX1_restore 49 = .ok (.ireturn, 1) := dk_172 (dk_at dksX1_restore_2 3 rfl rfl)
theorem q104 : (Jvm.Cond.initialized "FoldLister") ∈ lw_all := lw_g (lw_at lw_m1 1 rfl) rfl
theorem q163 : (Jvm.Cond.instantiable "FoldLister" (8 : Nat)) ∈ lw_all := lw_g (lw_at lw_m1 60 rfl) rfl
theorem q165 : (Jvm.Cond.instanceMethod ({ cls := "FoldLister", name := "<init>", desc := "()V" } : Jvm.MethodName)) ∈ lw_all := lw_g (lw_at lw_m1 62 rfl) rfl
theorem q166 : (Jvm.Cond.code ({ cls := "FoldLister", name := "<init>", desc := "()V" } : Jvm.MethodName) prog_1_method_4_code (1 : Nat) (Option.none : Option Jvm.ClassFile.FieldType)) ∈ lw_all := lw_g (lw_at lw_m1 63 rfl) rfl
theorem q167 : (Jvm.Cond.methodLink "FoldLister" (7 : Nat) ({ cls := "java/lang/Object", name := "<init>", desc := "()V" } : Jvm.MethodName)) ∈ lw_all := lw_g (lw_at lw_m1 64 rfl) rfl
theorem q170 : (Jvm.Cond.classLink "FoldLister" (21 : Nat) "FoldLister$Page") ∈ lw_all := lw_g (lw_at lw_m1 67 rfl) rfl
theorem q172 : (Jvm.Cond.methodLink "FoldLister" (23 : Nat) ({ cls := "FoldLister$Page", name := "<init>", desc := "()V" } : Jvm.MethodName)) ∈ lw_all := lw_g (lw_at lw_m1 69 rfl) rfl
theorem q236 : (Jvm.Cond.fieldLinkNest "FoldLister" (286 : Nat) "FoldLister$Page" "lines" "Ljava/util/List;" "FoldLister") ∈ lw_tbl := lw_at lw_m1 133 rfl
theorem q238 : (Jvm.Cond.fieldLinkNest "FoldLister" (145 : Nat) "FoldLister$Page" "markers" "[I" "FoldLister") ∈ lw_tbl := lw_at lw_m1 135 rfl
theorem q240 : (Jvm.Cond.fieldLinkNest "FoldLister" (366 : Nat) "FoldLister$Page" "cursor" "I" "FoldLister") ∈ lw_tbl := lw_at lw_m1 137 rfl
theorem q242 : (Jvm.Cond.fieldLinkNest "FoldLister" (211 : Nat) "FoldLister$Page" "came" "I" "FoldLister") ∈ lw_tbl := lw_at lw_m1 139 rfl
theorem q244 : (Jvm.Cond.fieldLinkNest "FoldLister" (201 : Nat) "FoldLister$Page" "back" "Ljava/util/LinkedList;" "FoldLister") ∈ lw_tbl := lw_at lw_m1 141 rfl
theorem q246 : (Jvm.Cond.fieldLinkNest "FoldLister" (208 : Nat) "FoldLister$Page" "forward" "Ljava/util/LinkedList;" "FoldLister") ∈ lw_tbl := lw_at lw_m1 143 rfl
theorem q263 : (Jvm.Cond.classLink "FoldLister" (28 : Nat) "java/util/ArrayDeque") ∈ lw_all := lw_g (lw_at lw_m1 160 rfl) rfl
theorem q265 : (Jvm.Cond.methodLink "FoldLister" (30 : Nat) ({ cls := "java/util/ArrayDeque", name := "<init>", desc := "()V" } : Jvm.MethodName)) ∈ lw_all := lw_g (lw_at lw_m1 162 rfl) rfl
theorem q282 : (Jvm.Cond.classLink "FoldLister" (39 : Nat) "java/lang/StringBuilder") ∈ lw_all := lw_g (lw_at lw_m1 179 rfl) rfl
theorem q284 : (Jvm.Cond.methodLink "FoldLister" (41 : Nat) ({ cls := "java/lang/StringBuilder", name := "<init>", desc := "()V" } : Jvm.MethodName)) ∈ lw_all := lw_g (lw_at lw_m1 181 rfl) rfl
theorem q314 : (Jvm.Cond.fieldLink "FoldLister" (13 : Nat) "FoldLister" "buffer" "[B") ∈ lw_all := lw_g (lw_at lw_m1 211 rfl) rfl
theorem q316 : (Jvm.Cond.fieldLink "FoldLister" (97 : Nat) "FoldLister" "buffered" "I") ∈ lw_all := lw_g (lw_at lw_m1 213 rfl) rfl
theorem q317 : (Jvm.Cond.fieldLink "FoldLister" (117 : Nat) "FoldLister" "parseError" "I") ∈ lw_all := lw_g (lw_at lw_m1 214 rfl) rfl
theorem q318 : (Jvm.Cond.fieldLink "FoldLister" (17 : Nat) "FoldLister" "errorPosition" "I") ∈ lw_all := lw_g (lw_at lw_m1 215 rfl) rfl
theorem q325 : (Jvm.Cond.fieldLink "FoldLister" (24 : Nat) "FoldLister" "page" "LFoldLister$Page;") ∈ lw_all := lw_g (lw_at lw_m1 222 rfl) rfl
theorem q326 : (Jvm.Cond.fieldLink "FoldLister" (31 : Nat) "FoldLister" "past" "Ljava/util/ArrayDeque;") ∈ lw_all := lw_g (lw_at lw_m1 223 rfl) rfl
theorem q327 : (Jvm.Cond.fieldLink "FoldLister" (35 : Nat) "FoldLister" "saved" "[LFoldLister$Page;") ∈ lw_all := lw_g (lw_at lw_m1 224 rfl) rfl
theorem q328 : (Jvm.Cond.fieldLink "FoldLister" (42 : Nat) "FoldLister" "output" "Ljava/lang/StringBuilder;") ∈ lw_all := lw_g (lw_at lw_m1 225 rfl) rfl
theorem q329 : (Jvm.Cond.laysFinal "FoldLister" "FoldLister" "buffer" "[B") ∈ lw_all := lw_g (lw_at lw_m1 226 rfl) rfl
theorem q330 : (Jvm.Cond.soleField "FoldLister" "buffer") ∈ lw_all := lw_g (lw_at lw_m1 227 rfl) rfl
theorem q331 : (Jvm.Cond.lays "FoldLister" "FoldLister" "buffered" "I") ∈ lw_all := lw_g (lw_at lw_m1 228 rfl) rfl
theorem q332 : (Jvm.Cond.soleField "FoldLister" "buffered") ∈ lw_all := lw_g (lw_at lw_m1 229 rfl) rfl
theorem q333 : (Jvm.Cond.lays "FoldLister" "FoldLister" "parseError" "I") ∈ lw_all := lw_g (lw_at lw_m1 230 rfl) rfl
theorem q334 : (Jvm.Cond.soleField "FoldLister" "parseError") ∈ lw_all := lw_g (lw_at lw_m1 231 rfl) rfl
theorem q335 : (Jvm.Cond.lays "FoldLister" "FoldLister" "errorPosition" "I") ∈ lw_all := lw_g (lw_at lw_m1 232 rfl) rfl
theorem q336 : (Jvm.Cond.soleField "FoldLister" "errorPosition") ∈ lw_all := lw_g (lw_at lw_m1 233 rfl) rfl
theorem q337 : (Jvm.Cond.lays "FoldLister" "FoldLister" "page" "LFoldLister$Page;") ∈ lw_all := lw_g (lw_at lw_m1 234 rfl) rfl
theorem q338 : (Jvm.Cond.soleField "FoldLister" "page") ∈ lw_all := lw_g (lw_at lw_m1 235 rfl) rfl
theorem q339 : (Jvm.Cond.laysFinal "FoldLister" "FoldLister" "past" "Ljava/util/ArrayDeque;") ∈ lw_all := lw_g (lw_at lw_m1 236 rfl) rfl
theorem q340 : (Jvm.Cond.soleField "FoldLister" "past") ∈ lw_all := lw_g (lw_at lw_m1 237 rfl) rfl
theorem q341 : (Jvm.Cond.laysFinal "FoldLister" "FoldLister" "saved" "[LFoldLister$Page;") ∈ lw_all := lw_g (lw_at lw_m1 238 rfl) rfl
theorem q342 : (Jvm.Cond.soleField "FoldLister" "saved") ∈ lw_all := lw_g (lw_at lw_m1 239 rfl) rfl
theorem q343 : (Jvm.Cond.laysFinal "FoldLister" "FoldLister" "output" "Ljava/lang/StringBuilder;") ∈ lw_all := lw_g (lw_at lw_m2 0 rfl) rfl
theorem q344 : (Jvm.Cond.soleField "FoldLister" "output") ∈ lw_all := lw_g (lw_at lw_m2 1 rfl) rfl
theorem q345 : (Jvm.Cond.superclass "FoldLister" "java/lang/Object") ∈ lw_all := lw_g (lw_at lw_m2 2 rfl) rfl
theorem q347 : (Jvm.Cond.instanceMethod ({ cls := "FoldLister", name := "append", desc := "(IIIII)I" } : Jvm.MethodName)) ∈ lw_all := lw_g (lw_at lw_m2 4 rfl) rfl
theorem q348 : (Jvm.Cond.selects "FoldLister" ({ cls := "FoldLister", name := "append", desc := "(IIIII)I" } : Jvm.MethodName) ({ cls := "FoldLister", name := "append", desc := "(IIIII)I" } : Jvm.MethodName)) ∈ lw_all := lw_g (lw_at lw_m2 5 rfl) rfl
theorem q349 : (Jvm.Cond.code ({ cls := "FoldLister", name := "append", desc := "(IIIII)I" } : Jvm.MethodName) prog_1_method_14_code (11 : Nat) (Option.some Jvm.ClassFile.FieldType.int)) ∈ lw_all := lw_g (lw_at lw_m2 6 rfl) rfl
theorem q351 : (Jvm.Cond.instanceMethod ({ cls := "FoldLister", name := "parseError", desc := "()I" } : Jvm.MethodName)) ∈ lw_all := lw_g (lw_at lw_m2 8 rfl) rfl
theorem q352 : (Jvm.Cond.selects "FoldLister" ({ cls := "FoldLister", name := "parseError", desc := "()I" } : Jvm.MethodName) ({ cls := "FoldLister", name := "parseError", desc := "()I" } : Jvm.MethodName)) ∈ lw_all := lw_g (lw_at lw_m2 9 rfl) rfl
theorem q353 : (Jvm.Cond.code ({ cls := "FoldLister", name := "parseError", desc := "()I" } : Jvm.MethodName) prog_1_method_16_code (1 : Nat) (Option.some Jvm.ClassFile.FieldType.int)) ∈ lw_all := lw_g (lw_at lw_m2 10 rfl) rfl
theorem q355 : (Jvm.Cond.instanceMethod ({ cls := "FoldLister", name := "errorPosition", desc := "()I" } : Jvm.MethodName)) ∈ lw_all := lw_g (lw_at lw_m2 12 rfl) rfl
theorem q356 : (Jvm.Cond.selects "FoldLister" ({ cls := "FoldLister", name := "errorPosition", desc := "()I" } : Jvm.MethodName) ({ cls := "FoldLister", name := "errorPosition", desc := "()I" } : Jvm.MethodName)) ∈ lw_all := lw_g (lw_at lw_m2 13 rfl) rfl
theorem q357 : (Jvm.Cond.code ({ cls := "FoldLister", name := "errorPosition", desc := "()I" } : Jvm.MethodName) prog_1_method_17_code (1 : Nat) (Option.some Jvm.ClassFile.FieldType.int)) ∈ lw_all := lw_g (lw_at lw_m2 14 rfl) rfl
theorem q359 : (Jvm.Cond.instanceMethod ({ cls := "FoldLister", name := "buffered", desc := "()I" } : Jvm.MethodName)) ∈ lw_all := lw_g (lw_at lw_m2 16 rfl) rfl
theorem q360 : (Jvm.Cond.selects "FoldLister" ({ cls := "FoldLister", name := "buffered", desc := "()I" } : Jvm.MethodName) ({ cls := "FoldLister", name := "buffered", desc := "()I" } : Jvm.MethodName)) ∈ lw_all := lw_g (lw_at lw_m2 17 rfl) rfl
theorem q361 : (Jvm.Cond.code ({ cls := "FoldLister", name := "buffered", desc := "()I" } : Jvm.MethodName) prog_1_method_18_code (1 : Nat) (Option.some Jvm.ClassFile.FieldType.int)) ∈ lw_all := lw_g (lw_at lw_m2 18 rfl) rfl
theorem q363 : (Jvm.Cond.instanceMethod ({ cls := "FoldLister", name := "lineOfKey", desc := "(I)I" } : Jvm.MethodName)) ∈ lw_all := lw_g (lw_at lw_m2 20 rfl) rfl
theorem q364 : (Jvm.Cond.selects "FoldLister" ({ cls := "FoldLister", name := "lineOfKey", desc := "(I)I" } : Jvm.MethodName) ({ cls := "FoldLister", name := "lineOfKey", desc := "(I)I" } : Jvm.MethodName)) ∈ lw_all := lw_g (lw_at lw_m2 21 rfl) rfl
theorem q365 : (Jvm.Cond.code ({ cls := "FoldLister", name := "lineOfKey", desc := "(I)I" } : Jvm.MethodName) prog_1_method_28_code (2 : Nat) (Option.some Jvm.ClassFile.FieldType.int)) ∈ lw_all := lw_g (lw_at lw_m2 22 rfl) rfl
theorem q366 : (Jvm.Cond.methodLink "FoldLister" (254 : Nat) ({ cls := "FoldLister$Page", name := "indexOf", desc := "(I)I" } : Jvm.MethodName)) ∈ lw_all := lw_g (lw_at lw_m2 23 rfl) rfl
theorem q737 : (Jvm.Cond.instanceMethod ({ cls := "FoldLister", name := "widest", desc := "()I" } : Jvm.MethodName)) ∈ lw_all := lw_g (lw_at lw_m3 154 rfl) rfl
theorem q738 : (Jvm.Cond.selects "FoldLister" ({ cls := "FoldLister", name := "widest", desc := "()I" } : Jvm.MethodName) ({ cls := "FoldLister", name := "widest", desc := "()I" } : Jvm.MethodName)) ∈ lw_all := lw_g (lw_at lw_m3 155 rfl) rfl
theorem q739 : (Jvm.Cond.code ({ cls := "FoldLister", name := "widest", desc := "()I" } : Jvm.MethodName) prog_1_method_32_code (3 : Nat) (Option.some Jvm.ClassFile.FieldType.int)) ∈ lw_all := lw_g (lw_at lw_m3 156 rfl) rfl
theorem q740 : (Jvm.Cond.methodLink "FoldLister" (55 : Nat) ({ cls := "FoldLister$Page", name := "size", desc := "()I" } : Jvm.MethodName)) ∈ lw_all := lw_g (lw_at lw_m3 157 rfl) rfl
theorem q741 : (Jvm.Cond.methodLink "FoldLister" (71 : Nat) ({ cls := "FoldLister$Page", name := "layout", desc := "()LFoldLister$Page$Layout;" } : Jvm.MethodName)) ∈ lw_all := lw_g (lw_at lw_m3 158 rfl) rfl
theorem q816 : (Jvm.Cond.fieldLinkNest "FoldLister" (303 : Nat) "FoldLister$Bracket" "place" "I" "FoldLister") ∈ lw_tbl := lw_at lw_m3 233 rfl
theorem q822 : (Jvm.Cond.fieldLinkNest "FoldLister" (338 : Nat) "FoldLister$Bracket" "partner" "LFoldLister$Bracket;" "FoldLister") ∈ lw_tbl := lw_at lw_m3 239 rfl
theorem q989 : (Jvm.Cond.selects "FoldLister" ({ cls := "java/lang/Object", name := "getClass", desc := "()Ljava/lang/Class;" } : Jvm.MethodName) ({ cls := "java/lang/Object", name := "getClass", desc := "()Ljava/lang/Class;" } : Jvm.MethodName)) ∈ lw_all := lw_g (lw_at lw_m4 166 rfl) rfl
theorem q1329 : (Jvm.Cond.fieldLinkNest "FoldLister" (90 : Nat) "FoldLister$Region" "number" "I" "FoldLister") ∈ lw_tbl := lw_at lw_m6 26 rfl
theorem q1331 : (Jvm.Cond.fieldLinkNest "FoldLister" (299 : Nat) "FoldLister$Region" "from" "LFoldLister$Bracket;" "FoldLister") ∈ lw_tbl := lw_at lw_m6 28 rfl
theorem q1333 : (Jvm.Cond.fieldLinkNest "FoldLister" (306 : Nat) "FoldLister$Region" "to" "LFoldLister$Bracket;" "FoldLister") ∈ lw_tbl := lw_at lw_m6 30 rfl
theorem q1335 : (Jvm.Cond.fieldLinkNest "FoldLister" (316 : Nat) "FoldLister$Region" "around" "LFoldLister$Region;" "FoldLister") ∈ lw_tbl := lw_at lw_m6 32 rfl
theorem q1338 : (Jvm.Cond.fieldLinkNest "FoldLister" (313 : Nat) "FoldLister$Region" "level" "I" "FoldLister") ∈ lw_tbl := lw_at lw_m6 35 rfl
theorem q1478 : (Jvm.Cond.fieldLinkNest "FoldLister" (149 : Nat) "FoldLister$Page$Layout" "brackets" "Ljava/util/List;" "FoldLister") ∈ lw_tbl := lw_at lw_m6 175 rfl
theorem q1480 : (Jvm.Cond.fieldLinkNest "FoldLister" (75 : Nat) "FoldLister$Page$Layout" "regions" "Ljava/util/List;" "FoldLister") ∈ lw_tbl := lw_at lw_m6 177 rfl
theorem q1482 : (Jvm.Cond.fieldLinkNest "FoldLister" (232 : Nat) "FoldLister$Page$Layout" "depths" "[I" "FoldLister") ∈ lw_tbl := lw_at lw_m6 179 rfl
theorem q1497 : (Jvm.Cond.methodLink "FoldLister" (226 : Nat) ({ cls := "FoldLister$Page$Layout", name := "isShown", desc := "(I)Z" } : Jvm.MethodName)) ∈ lw_all := lw_g (lw_at lw_m6 194 rfl) rfl
theorem q1502 : (Jvm.Cond.methodLink "FoldLister" (67 : Nat) ({ cls := "FoldLister$Page", name := "line", desc := "(I)LFoldLister$Line;" } : Jvm.MethodName)) ∈ lw_all := lw_g (lw_at lw_m6 199 rfl) rfl
theorem q1503 : (Jvm.Cond.methodLink "FoldLister" (104 : Nat) ({ cls := "java/lang/String", name := "length", desc := "()I" } : Jvm.MethodName)) ∈ lw_all := lw_g (lw_at lw_m6 200 rfl) rfl
theorem q1505 : (Jvm.Cond.instanceMethod ({ cls := "FoldLister", name := "meanLength", desc := "()D" } : Jvm.MethodName)) ∈ lw_all := lw_g (lw_at lw_m6 202 rfl) rfl
theorem q1506 : (Jvm.Cond.selects "FoldLister" ({ cls := "FoldLister", name := "meanLength", desc := "()D" } : Jvm.MethodName) ({ cls := "FoldLister", name := "meanLength", desc := "()D" } : Jvm.MethodName)) ∈ lw_all := lw_g (lw_at lw_m6 203 rfl) rfl
theorem q1507 : (Jvm.Cond.code ({ cls := "FoldLister", name := "meanLength", desc := "()D" } : Jvm.MethodName) prog_1_method_34_code (4 : Nat) (Option.some Jvm.ClassFile.FieldType.double)) ∈ lw_all := lw_g (lw_at lw_m6 204 rfl) rfl
theorem q1508 : (Jvm.Cond.interfaceEntry "FoldLister" (152 : Nat)) ∈ lw_tbl := lw_at lw_m6 205 rfl
theorem q1509 : (Jvm.Cond.methodLink "FoldLister" (152 : Nat) ({ cls := "java/util/List", name := "iterator", desc := "()Ljava/util/Iterator;" } : Jvm.MethodName)) ∈ lw_all := lw_g (lw_at lw_m6 206 rfl) rfl
theorem q1510 : (Jvm.Cond.interfaceEntry "FoldLister" (156 : Nat)) ∈ lw_tbl := lw_at lw_m6 207 rfl
theorem q1511 : (Jvm.Cond.methodLink "FoldLister" (156 : Nat) ({ cls := "java/util/Iterator", name := "hasNext", desc := "()Z" } : Jvm.MethodName)) ∈ lw_all := lw_g (lw_at lw_m6 208 rfl) rfl
theorem q1512 : (Jvm.Cond.interfaceEntry "FoldLister" (162 : Nat)) ∈ lw_tbl := lw_at lw_m6 209 rfl
theorem q1513 : (Jvm.Cond.methodLink "FoldLister" (162 : Nat) ({ cls := "java/util/Iterator", name := "next", desc := "()Ljava/lang/Object;" } : Jvm.MethodName)) ∈ lw_all := lw_g (lw_at lw_m6 210 rfl) rfl
theorem q1514 : (Jvm.Cond.classLink "FoldLister" (215 : Nat) "FoldLister$Line") ∈ lw_all := lw_g (lw_at lw_m6 211 rfl) rfl
theorem q1516 : (Jvm.Cond.instanceMethod ({ cls := "FoldLister", name := "shownShare", desc := "()F" } : Jvm.MethodName)) ∈ lw_all := lw_g (lw_at lw_m6 213 rfl) rfl
theorem q1517 : (Jvm.Cond.selects "FoldLister" ({ cls := "FoldLister", name := "shownShare", desc := "()F" } : Jvm.MethodName) ({ cls := "FoldLister", name := "shownShare", desc := "()F" } : Jvm.MethodName)) ∈ lw_all := lw_g (lw_at lw_m6 214 rfl) rfl
theorem q1518 : (Jvm.Cond.code ({ cls := "FoldLister", name := "shownShare", desc := "()F" } : Jvm.MethodName) prog_1_method_35_code (1 : Nat) (Option.some Jvm.ClassFile.FieldType.float)) ∈ lw_all := lw_g (lw_at lw_m6 215 rfl) rfl
theorem q1519 : (Jvm.Cond.methodLink "FoldLister" (183 : Nat) ({ cls := "FoldLister$Page$Layout", name := "shown", desc := "()I" } : Jvm.MethodName)) ∈ lw_all := lw_g (lw_at lw_m6 216 rfl) rfl
theorem q1534 : (Jvm.Cond.instanceMethod ({ cls := "FoldLister", name := "deepest", desc := "()I" } : Jvm.MethodName)) ∈ lw_all := lw_g (lw_at lw_m6 231 rfl) rfl
theorem q1535 : (Jvm.Cond.selects "FoldLister" ({ cls := "FoldLister", name := "deepest", desc := "()I" } : Jvm.MethodName) ({ cls := "FoldLister", name := "deepest", desc := "()I" } : Jvm.MethodName)) ∈ lw_all := lw_g (lw_at lw_m6 232 rfl) rfl
theorem q1536 : (Jvm.Cond.code ({ cls := "FoldLister", name := "deepest", desc := "()I" } : Jvm.MethodName) prog_1_method_41_code (3 : Nat) (Option.some Jvm.ClassFile.FieldType.int)) ∈ lw_all := lw_g (lw_at lw_m6 233 rfl) rfl
theorem q1538 : (Jvm.Cond.instanceMethod ({ cls := "FoldLister", name := "cursor", desc := "()I" } : Jvm.MethodName)) ∈ lw_all := lw_g (lw_at lw_m6 235 rfl) rfl
theorem q1539 : (Jvm.Cond.selects "FoldLister" ({ cls := "FoldLister", name := "cursor", desc := "()I" } : Jvm.MethodName) ({ cls := "FoldLister", name := "cursor", desc := "()I" } : Jvm.MethodName)) ∈ lw_all := lw_g (lw_at lw_m6 236 rfl) rfl
theorem q1540 : (Jvm.Cond.code ({ cls := "FoldLister", name := "cursor", desc := "()I" } : Jvm.MethodName) prog_1_method_50_code (1 : Nat) (Option.some Jvm.ClassFile.FieldType.int)) ∈ lw_all := lw_g (lw_at lw_m6 237 rfl) rfl
theorem q1542 : (Jvm.Cond.instanceMethod ({ cls := "FoldLister", name := "opensForMarked", desc := "()I" } : Jvm.MethodName)) ∈ lw_all := lw_g (lw_at lw_m6 239 rfl) rfl
theorem q1543 : (Jvm.Cond.selects "FoldLister" ({ cls := "FoldLister", name := "opensForMarked", desc := "()I" } : Jvm.MethodName) ({ cls := "FoldLister", name := "opensForMarked", desc := "()I" } : Jvm.MethodName)) ∈ lw_all := lw_g (lw_at lw_m7 0 rfl) rfl
theorem q1544 : (Jvm.Cond.code ({ cls := "FoldLister", name := "opensForMarked", desc := "()I" } : Jvm.MethodName) prog_1_method_55_code (7 : Nat) (Option.some Jvm.ClassFile.FieldType.int)) ∈ lw_all := lw_g (lw_at lw_m7 1 rfl) rfl
theorem q1545 : (Jvm.Cond.classLink "FoldLister" (380 : Nat) "java/util/BitSet") ∈ lw_all := lw_g (lw_at lw_m7 2 rfl) rfl
theorem q1546 : (Jvm.Cond.methodLink "FoldLister" (392 : Nat) ({ cls := "java/util/BitSet", name := "<init>", desc := "()V" } : Jvm.MethodName)) ∈ lw_all := lw_g (lw_at lw_m7 3 rfl) rfl
theorem q1547 : (Jvm.Cond.methodLink "FoldLister" (388 : Nat) ({ cls := "FoldLister$Page$Layout", name := "hiders", desc := "(I)Ljava/util/BitSet;" } : Jvm.MethodName)) ∈ lw_all := lw_g (lw_at lw_m7 4 rfl) rfl
theorem q1568 : (Jvm.Cond.methodLink "FoldLister" (393 : Nat) ({ cls := "java/util/BitSet", name := "or", desc := "(Ljava/util/BitSet;)V" } : Jvm.MethodName)) ∈ lw_all := lw_g (lw_at lw_m7 25 rfl) rfl
theorem q1574 : (Jvm.Cond.methodLink "FoldLister" (379 : Nat) ({ cls := "java/util/BitSet", name := "cardinality", desc := "()I" } : Jvm.MethodName)) ∈ lw_all := lw_g (lw_at lw_m7 31 rfl) rfl
theorem q1576 : (Jvm.Cond.instanceMethod ({ cls := "FoldLister", name := "bestClose", desc := "()I" } : Jvm.MethodName)) ∈ lw_all := lw_g (lw_at lw_m7 33 rfl) rfl
theorem q1577 : (Jvm.Cond.selects "FoldLister" ({ cls := "FoldLister", name := "bestClose", desc := "()I" } : Jvm.MethodName) ({ cls := "FoldLister", name := "bestClose", desc := "()I" } : Jvm.MethodName)) ∈ lw_all := lw_g (lw_at lw_m7 34 rfl) rfl
theorem q1578 : (Jvm.Cond.code ({ cls := "FoldLister", name := "bestClose", desc := "()I" } : Jvm.MethodName) prog_1_method_56_code (5 : Nat) (Option.some Jvm.ClassFile.FieldType.int)) ∈ lw_all := lw_g (lw_at lw_m7 35 rfl) rfl
theorem q1579 : (Jvm.Cond.methodLink "FoldLister" (384 : Nat) ({ cls := "FoldLister", name := "shownWith", desc := "(IZ)I" } : Jvm.MethodName)) ∈ lw_all := lw_g (lw_at lw_m7 36 rfl) rfl
theorem q1580 : (Jvm.Cond.privateMethod ({ cls := "FoldLister", name := "shownWith", desc := "(IZ)I" } : Jvm.MethodName)) ∈ lw_tbl := lw_at lw_m7 37 rfl
theorem q1581 : (Jvm.Cond.instanceMethod ({ cls := "FoldLister", name := "shownWith", desc := "(IZ)I" } : Jvm.MethodName)) ∈ lw_all := lw_g (lw_at lw_m7 38 rfl) rfl
theorem q1582 : (Jvm.Cond.code ({ cls := "FoldLister", name := "shownWith", desc := "(IZ)I" } : Jvm.MethodName) prog_1_method_52_code (4 : Nat) (Option.some Jvm.ClassFile.FieldType.int)) ∈ lw_all := lw_g (lw_at lw_m7 39 rfl) rfl
theorem q1583 : (Jvm.Cond.classLink "FoldLister" (370 : Nat) "FoldLister$4") ∈ lw_all := lw_g (lw_at lw_m7 40 rfl) rfl
theorem q1585 : (Jvm.Cond.methodLink "FoldLister" (372 : Nat) ({ cls := "FoldLister$4", name := "<init>", desc := "(LFoldLister;IZ)V" } : Jvm.MethodName)) ∈ lw_all := lw_g (lw_at lw_m7 42 rfl) rfl
theorem q1599 : (Jvm.Cond.methodLink "FoldLister" (375 : Nat) ({ cls := "FoldLister$Page$Layout", name := "hiddenBy", desc := "(LFoldLister$Folds;)Ljava/util/BitSet;" } : Jvm.MethodName)) ∈ lw_all := lw_g (lw_at lw_m7 56 rfl) rfl
theorem q1601 : (Jvm.Cond.instanceMethod ({ cls := "FoldLister", name := "writeOutline", desc := "()I" } : Jvm.MethodName)) ∈ lw_all := lw_g (lw_at lw_m7 58 rfl) rfl
theorem q1602 : (Jvm.Cond.selects "FoldLister" ({ cls := "FoldLister", name := "writeOutline", desc := "()I" } : Jvm.MethodName) ({ cls := "FoldLister", name := "writeOutline", desc := "()I" } : Jvm.MethodName)) ∈ lw_all := lw_g (lw_at lw_m7 59 rfl) rfl
theorem q1603 : (Jvm.Cond.code ({ cls := "FoldLister", name := "writeOutline", desc := "()I" } : Jvm.MethodName) prog_1_method_62_code (3 : Nat) (Option.some Jvm.ClassFile.FieldType.int)) ∈ lw_all := lw_g (lw_at lw_m7 60 rfl) rfl
theorem q1604 : (Jvm.Cond.methodLink "FoldLister" (410 : Nat) ({ cls := "java/lang/StringBuilder", name := "setLength", desc := "(I)V" } : Jvm.MethodName)) ∈ lw_all := lw_g (lw_at lw_m7 61 rfl) rfl
theorem q1669 : (Jvm.Cond.classLink "FoldLister" (88 : Nat) "FoldLister$Region") ∈ lw_all := lw_g (lw_at lw_m7 126 rfl) rfl
theorem q1670 : (Jvm.Cond.methodLink "FoldLister" (93 : Nat) ({ cls := "java/lang/StringBuilder", name := "append", desc := "(C)Ljava/lang/StringBuilder;" } : Jvm.MethodName)) ∈ lw_all := lw_g (lw_at lw_m7 127 rfl) rfl
theorem q1683 : (Jvm.Cond.methodLink "FoldLister" (404 : Nat) ({ cls := "java/lang/StringBuilder", name := "append", desc := "(I)Ljava/lang/StringBuilder;" } : Jvm.MethodName)) ∈ lw_all := lw_g (lw_at lw_m7 140 rfl) rfl
theorem q1684 : (Jvm.Cond.methodLink "FoldLister" (293 : Nat) ({ cls := "FoldLister$Region", name := "first", desc := "()I" } : Jvm.MethodName)) ∈ lw_all := lw_g (lw_at lw_m7 141 rfl) rfl
theorem q1685 : (Jvm.Cond.methodLink "FoldLister" (296 : Nat) ({ cls := "FoldLister$Region", name := "last", desc := "()I" } : Jvm.MethodName)) ∈ lw_all := lw_g (lw_at lw_m7 142 rfl) rfl
theorem q1686 : (Jvm.Cond.methodLink "FoldLister" (309 : Nat) ({ cls := "FoldLister$Page$Layout", name := "isFolded", desc := "(LFoldLister$Region;)Z" } : Jvm.MethodName)) ∈ lw_all := lw_g (lw_at lw_m7 143 rfl) rfl
theorem q1687 : (Jvm.Cond.methodLink "FoldLister" (417 : Nat) ({ cls := "java/lang/StringBuilder", name := "length", desc := "()I" } : Jvm.MethodName)) ∈ lw_all := lw_g (lw_at lw_m7 144 rfl) rfl
theorem q1689 : (Jvm.Cond.instanceMethod ({ cls := "FoldLister", name := "openAll", desc := "()I" } : Jvm.MethodName)) ∈ lw_all := lw_g (lw_at lw_m7 146 rfl) rfl
theorem q1690 : (Jvm.Cond.selects "FoldLister" ({ cls := "FoldLister", name := "openAll", desc := "()I" } : Jvm.MethodName) ({ cls := "FoldLister", name := "openAll", desc := "()I" } : Jvm.MethodName)) ∈ lw_all := lw_g (lw_at lw_m7 147 rfl) rfl
theorem q1691 : (Jvm.Cond.code ({ cls := "FoldLister", name := "openAll", desc := "()I" } : Jvm.MethodName) prog_1_method_77_code (2 : Nat) (Option.some Jvm.ClassFile.FieldType.int)) ∈ lw_all := lw_g (lw_at lw_m7 148 rfl) rfl
theorem q1692 : (Jvm.Cond.methodLink "FoldLister" (433 : Nat) ({ cls := "FoldLister", name := "keep", desc := "()V" } : Jvm.MethodName)) ∈ lw_all := lw_g (lw_at lw_m7 149 rfl) rfl
theorem q1693 : (Jvm.Cond.privateMethod ({ cls := "FoldLister", name := "keep", desc := "()V" } : Jvm.MethodName)) ∈ lw_tbl := lw_at lw_m7 150 rfl
theorem q1694 : (Jvm.Cond.instanceMethod ({ cls := "FoldLister", name := "keep", desc := "()V" } : Jvm.MethodName)) ∈ lw_all := lw_g (lw_at lw_m7 151 rfl) rfl
theorem q1695 : (Jvm.Cond.code ({ cls := "FoldLister", name := "keep", desc := "()V" } : Jvm.MethodName) prog_1_method_64_code (1 : Nat) (Option.none : Option Jvm.ClassFile.FieldType)) ∈ lw_all := lw_g (lw_at lw_m7 152 rfl) rfl
theorem q1696 : (Jvm.Cond.methodLink "FoldLister" (419 : Nat) ({ cls := "java/util/ArrayDeque", name := "size", desc := "()I" } : Jvm.MethodName)) ∈ lw_all := lw_g (lw_at lw_m7 153 rfl) rfl
theorem q1703 : (Jvm.Cond.methodLink "FoldLister" (420 : Nat) ({ cls := "java/util/ArrayDeque", name := "removeFirst", desc := "()Ljava/lang/Object;" } : Jvm.MethodName)) ∈ lw_all := lw_g (lw_at lw_m7 160 rfl) rfl
theorem q1711 : (Jvm.Cond.methodLink "FoldLister" (423 : Nat) ({ cls := "FoldLister$Page", name := "copy", desc := "()LFoldLister$Page;" } : Jvm.MethodName)) ∈ lw_all := lw_g (lw_at lw_m7 168 rfl) rfl
theorem q1771 : (Jvm.Cond.methodLink "FoldLister" (426 : Nat) ({ cls := "java/util/ArrayDeque", name := "addLast", desc := "(Ljava/lang/Object;)V" } : Jvm.MethodName)) ∈ lw_all := lw_g (lw_at lw_m7 228 rfl) rfl
theorem q1772 : (Jvm.Cond.methodLink "FoldLister" (486 : Nat) ({ cls := "java/util/BitSet", name := "set", desc := "(II)V" } : Jvm.MethodName)) ∈ lw_all := lw_g (lw_at lw_m7 229 rfl) rfl
theorem q1773 : (Jvm.Cond.methodLink "FoldLister" (488 : Nat) ({ cls := "FoldLister$Page", name := "opens", desc := "(Ljava/util/BitSet;)I" } : Jvm.MethodName)) ∈ lw_all := lw_g (lw_at lw_m7 230 rfl) rfl
theorem q1794 : (Jvm.Cond.fieldLinkNest "FoldLister" (214 : Nat) "FoldLister$Line" "key" "I" "FoldLister") ∈ lw_tbl := lw_at lw_m8 11 rfl
theorem q1796 : (Jvm.Cond.fieldLinkNest "FoldLister" (222 : Nat) "FoldLister$Line" "text" "Ljava/lang/String;" "FoldLister") ∈ lw_tbl := lw_at lw_m8 13 rfl
theorem q1805 : (Jvm.Cond.fieldLinkNest "FoldLister" (235 : Nat) "FoldLister$Line" "closed" "Z" "FoldLister") ∈ lw_tbl := lw_at lw_m8 22 rfl
theorem q1840 : (Jvm.Cond.instanceMethod ({ cls := "FoldLister", name := "undoable", desc := "()I" } : Jvm.MethodName)) ∈ lw_all := lw_g (lw_at lw_m8 57 rfl) rfl
theorem q1841 : (Jvm.Cond.selects "FoldLister" ({ cls := "FoldLister", name := "undoable", desc := "()I" } : Jvm.MethodName) ({ cls := "FoldLister", name := "undoable", desc := "()I" } : Jvm.MethodName)) ∈ lw_all := lw_g (lw_at lw_m8 58 rfl) rfl
theorem q1842 : (Jvm.Cond.code ({ cls := "FoldLister", name := "undoable", desc := "()I" } : Jvm.MethodName) prog_1_method_86_code (1 : Nat) (Option.some Jvm.ClassFile.FieldType.int)) ∈ lw_all := lw_g (lw_at lw_m8 59 rfl) rfl
theorem q1851 : (Jvm.Cond.instanceMethod ({ cls := "FoldLister", name := "load", desc := "(I)I" } : Jvm.MethodName)) ∈ lw_all := lw_g (lw_at lw_m8 68 rfl) rfl
theorem q1852 : (Jvm.Cond.selects "FoldLister" ({ cls := "FoldLister", name := "load", desc := "(I)I" } : Jvm.MethodName) ({ cls := "FoldLister", name := "load", desc := "(I)I" } : Jvm.MethodName)) ∈ lw_all := lw_g (lw_at lw_m8 69 rfl) rfl
theorem q1853 : (Jvm.Cond.codeWith ({ cls := "FoldLister", name := "load", desc := "(I)I" } : Jvm.MethodName) prog_1_method_15_code (3 : Nat) (Option.some Jvm.ClassFile.FieldType.int) [((25 : Nat), (75 : Nat), (76 : Nat), (132 : Nat))]) ∈ lw_all := lw_g (lw_at lw_m8 70 rfl) rfl
theorem q1854 : (Jvm.Cond.classLink "FoldLister" (132 : Nat) "FoldLister$Flaw") ∈ lw_all := lw_g (lw_at lw_m8 71 rfl) rfl
theorem q1855 : (Jvm.Cond.methodLink "FoldLister" (59 : Nat) ({ cls := "FoldLister", name := "checkIndex", desc := "(II)V" } : Jvm.MethodName)) ∈ lw_all := lw_g (lw_at lw_m8 72 rfl) rfl
theorem q1856 : (Jvm.Cond.static ({ cls := "FoldLister", name := "checkIndex", desc := "(II)V" } : Jvm.MethodName)) ∈ lw_all := lw_g (lw_at lw_m8 73 rfl) rfl
theorem q1857 : (Jvm.Cond.code ({ cls := "FoldLister", name := "checkIndex", desc := "(II)V" } : Jvm.MethodName) prog_1_method_6_code (2 : Nat) (Option.none : Option Jvm.ClassFile.FieldType)) ∈ lw_all := lw_g (lw_at lw_m8 74 rfl) rfl
theorem q1858 : (Jvm.Cond.methodLink "FoldLister" (1 : Nat) ({ cls := "FoldLister", name := "in", desc := "(III)Z" } : Jvm.MethodName)) ∈ lw_all := lw_g (lw_at lw_m8 75 rfl) rfl
theorem q1859 : (Jvm.Cond.static ({ cls := "FoldLister", name := "in", desc := "(III)Z" } : Jvm.MethodName)) ∈ lw_all := lw_g (lw_at lw_m8 76 rfl) rfl
theorem q1860 : (Jvm.Cond.code ({ cls := "FoldLister", name := "in", desc := "(III)Z" } : Jvm.MethodName) prog_1_method_1_code (3 : Nat) (Option.some Jvm.ClassFile.FieldType.boolean)) ∈ lw_all := lw_g (lw_at lw_m8 77 rfl) rfl
theorem q1861 : (Jvm.Cond.classLink "FoldLister" (49 : Nat) "java/lang/IndexOutOfBoundsException") ∈ lw_all := lw_g (lw_at lw_m8 78 rfl) rfl
theorem q1862 : (Jvm.Cond.methodLink "FoldLister" (51 : Nat) ({ cls := "java/lang/IndexOutOfBoundsException", name := "<init>", desc := "()V" } : Jvm.MethodName)) ∈ lw_all := lw_g (lw_at lw_m8 79 rfl) rfl
theorem q1872 : (Jvm.Cond.classLink "FoldLister" (120 : Nat) "FoldLister$Parser") ∈ lw_all := lw_g (lw_at lw_m8 89 rfl) rfl
theorem q1874 : (Jvm.Cond.methodLink "FoldLister" (122 : Nat) ({ cls := "FoldLister$Parser", name := "<init>", desc := "(LFoldLister;I)V" } : Jvm.MethodName)) ∈ lw_all := lw_g (lw_at lw_m8 91 rfl) rfl
theorem q1895 : (Jvm.Cond.methodLink "FoldLister" (125 : Nat) ({ cls := "FoldLister$Parser", name := "parse", desc := "()LFoldLister$Page;" } : Jvm.MethodName)) ∈ lw_all := lw_g (lw_at lw_m8 112 rfl) rfl
theorem q1923 : (Jvm.Cond.fieldLinkNest "FoldLister" (134 : Nat) "FoldLister$Flaw" "code" "I" "FoldLister") ∈ lw_tbl := lw_at lw_m8 140 rfl
theorem q1925 : (Jvm.Cond.fieldLinkNest "FoldLister" (137 : Nat) "FoldLister$Flaw" "position" "I" "FoldLister") ∈ lw_tbl := lw_at lw_m8 142 rfl
theorem q1958 : (Jvm.Cond.static ({ cls := "FoldLister", name := "isLetter", desc := "(I)Z" } : Jvm.MethodName)) ∈ lw_all := lw_g (lw_at lw_m8 175 rfl) rfl
theorem q1959 : (Jvm.Cond.code ({ cls := "FoldLister", name := "isLetter", desc := "(I)Z" } : Jvm.MethodName) prog_1_method_2_code (1 : Nat) (Option.some Jvm.ClassFile.FieldType.boolean)) ∈ lw_all := lw_g (lw_at lw_m8 176 rfl) rfl
theorem q2013 : (Jvm.Cond.static ({ cls := "FoldLister", name := "isPlain", desc := "(I)Z" } : Jvm.MethodName)) ∈ lw_all := lw_g (lw_at lw_m8 230 rfl) rfl
theorem q2014 : (Jvm.Cond.code ({ cls := "FoldLister", name := "isPlain", desc := "(I)Z" } : Jvm.MethodName) prog_1_method_3_code (1 : Nat) (Option.some Jvm.ClassFile.FieldType.boolean)) ∈ lw_all := lw_g (lw_at lw_m8 231 rfl) rfl
theorem q2017 : (Jvm.Cond.methodLink "FoldLister" (129 : Nat) ({ cls := "java/util/ArrayDeque", name := "clear", desc := "()V" } : Jvm.MethodName)) ∈ lw_all := lw_g (lw_at lw_m8 234 rfl) rfl
theorem q2024 : (Jvm.Cond.classLink "FoldLister" (46 : Nat) "java/lang/IllegalArgumentException") ∈ lw_all := lw_g (lw_at lw_m9 1 rfl) rfl
theorem q2025 : (Jvm.Cond.methodLink "FoldLister" (48 : Nat) ({ cls := "java/lang/IllegalArgumentException", name := "<init>", desc := "()V" } : Jvm.MethodName)) ∈ lw_all := lw_g (lw_at lw_m9 2 rfl) rfl
theorem q2033 : (Jvm.Cond.instanceMethod ({ cls := "FoldLister", name := "count", desc := "(I)I" } : Jvm.MethodName)) ∈ lw_all := lw_g (lw_at lw_m9 10 rfl) rfl
theorem q2034 : (Jvm.Cond.selects "FoldLister" ({ cls := "FoldLister", name := "count", desc := "(I)I" } : Jvm.MethodName) ({ cls := "FoldLister", name := "count", desc := "(I)I" } : Jvm.MethodName)) ∈ lw_all := lw_g (lw_at lw_m9 11 rfl) rfl
theorem q2035 : (Jvm.Cond.code ({ cls := "FoldLister", name := "count", desc := "(I)I" } : Jvm.MethodName) prog_1_method_24_code (2 : Nat) (Option.some Jvm.ClassFile.FieldType.int)) ∈ lw_all := lw_g (lw_at lw_m9 12 rfl) rfl
theorem q2036 : (Jvm.Cond.interfaceEntry "FoldLister" (81 : Nat)) ∈ lw_tbl := lw_at lw_m9 13 rfl
theorem q2037 : (Jvm.Cond.methodLink "FoldLister" (81 : Nat) ({ cls := "java/util/List", name := "size", desc := "()I" } : Jvm.MethodName)) ∈ lw_all := lw_g (lw_at lw_m9 14 rfl) rfl
theorem q2038 : (Jvm.Cond.methodLink "FoldLister" (186 : Nat) ({ cls := "FoldLister$Page$Layout", name := "folded", desc := "()I" } : Jvm.MethodName)) ∈ lw_all := lw_g (lw_at lw_m9 15 rfl) rfl
theorem q2042 : (Jvm.Cond.methodLink "FoldLister" (189 : Nat) ({ cls := "FoldLister", name := "markersOn", desc := "()I" } : Jvm.MethodName)) ∈ lw_all := lw_g (lw_at lw_m9 19 rfl) rfl
theorem q2043 : (Jvm.Cond.privateMethod ({ cls := "FoldLister", name := "markersOn", desc := "()I" } : Jvm.MethodName)) ∈ lw_tbl := lw_at lw_m9 20 rfl
theorem q2044 : (Jvm.Cond.instanceMethod ({ cls := "FoldLister", name := "markersOn", desc := "()I" } : Jvm.MethodName)) ∈ lw_all := lw_g (lw_at lw_m9 21 rfl) rfl
theorem q2045 : (Jvm.Cond.code ({ cls := "FoldLister", name := "markersOn", desc := "()I" } : Jvm.MethodName) prog_1_method_20_code (6 : Nat) (Option.some Jvm.ClassFile.FieldType.int)) ∈ lw_all := lw_g (lw_at lw_m9 22 rfl) rfl
theorem q2046 : (Jvm.Cond.methodLink "FoldLister" (192 : Nat) ({ cls := "FoldLister", name := "labelledLines", desc := "()I" } : Jvm.MethodName)) ∈ lw_all := lw_g (lw_at lw_m9 23 rfl) rfl
theorem q2047 : (Jvm.Cond.privateMethod ({ cls := "FoldLister", name := "labelledLines", desc := "()I" } : Jvm.MethodName)) ∈ lw_tbl := lw_at lw_m9 24 rfl
theorem q2048 : (Jvm.Cond.instanceMethod ({ cls := "FoldLister", name := "labelledLines", desc := "()I" } : Jvm.MethodName)) ∈ lw_all := lw_g (lw_at lw_m9 25 rfl) rfl
theorem q2049 : (Jvm.Cond.code ({ cls := "FoldLister", name := "labelledLines", desc := "()I" } : Jvm.MethodName) prog_1_method_22_code (1 : Nat) (Option.some Jvm.ClassFile.FieldType.int)) ∈ lw_all := lw_g (lw_at lw_m9 26 rfl) rfl
theorem q2050 : (Jvm.Cond.classLink "FoldLister" (171 : Nat) "FoldLister$1") ∈ lw_all := lw_g (lw_at lw_m9 27 rfl) rfl
theorem q2052 : (Jvm.Cond.methodLink "FoldLister" (173 : Nat) ({ cls := "FoldLister$1", name := "<init>", desc := "(LFoldLister;)V" } : Jvm.MethodName)) ∈ lw_all := lw_g (lw_at lw_m9 29 rfl) rfl
theorem q2060 : (Jvm.Cond.methodLink "FoldLister" (176 : Nat) ({ cls := "FoldLister", name := "those", desc := "(LFoldLister$Feature;)I" } : Jvm.MethodName)) ∈ lw_all := lw_g (lw_at lw_m9 37 rfl) rfl
theorem q2061 : (Jvm.Cond.privateMethod ({ cls := "FoldLister", name := "those", desc := "(LFoldLister$Feature;)I" } : Jvm.MethodName)) ∈ lw_tbl := lw_at lw_m9 38 rfl
theorem q2062 : (Jvm.Cond.instanceMethod ({ cls := "FoldLister", name := "those", desc := "(LFoldLister$Feature;)I" } : Jvm.MethodName)) ∈ lw_all := lw_g (lw_at lw_m9 39 rfl) rfl
theorem q2063 : (Jvm.Cond.code ({ cls := "FoldLister", name := "those", desc := "(LFoldLister$Feature;)I" } : Jvm.MethodName) prog_1_method_19_code (4 : Nat) (Option.some Jvm.ClassFile.FieldType.int)) ∈ lw_all := lw_g (lw_at lw_m9 40 rfl) rfl
theorem q2064 : (Jvm.Cond.interfaceEntry "FoldLister" (140 : Nat)) ∈ lw_tbl := lw_at lw_m9 41 rfl
theorem q2065 : (Jvm.Cond.methodLink "FoldLister" (140 : Nat) ({ cls := "FoldLister$Feature", name := "isOf", desc := "(I)Z" } : Jvm.MethodName)) ∈ lw_all := lw_g (lw_at lw_m9 42 rfl) rfl
theorem q2120 : (Jvm.Cond.methodLink "FoldLister" (195 : Nat) ({ cls := "FoldLister", name := "referringLines", desc := "()I" } : Jvm.MethodName)) ∈ lw_all := lw_g (lw_at lw_m9 97 rfl) rfl
theorem q2121 : (Jvm.Cond.privateMethod ({ cls := "FoldLister", name := "referringLines", desc := "()I" } : Jvm.MethodName)) ∈ lw_tbl := lw_at lw_m9 98 rfl
theorem q2122 : (Jvm.Cond.instanceMethod ({ cls := "FoldLister", name := "referringLines", desc := "()I" } : Jvm.MethodName)) ∈ lw_all := lw_g (lw_at lw_m9 99 rfl) rfl
theorem q2123 : (Jvm.Cond.code ({ cls := "FoldLister", name := "referringLines", desc := "()I" } : Jvm.MethodName) prog_1_method_23_code (1 : Nat) (Option.some Jvm.ClassFile.FieldType.int)) ∈ lw_all := lw_g (lw_at lw_m9 100 rfl) rfl
theorem q2124 : (Jvm.Cond.classLink "FoldLister" (180 : Nat) "FoldLister$2") ∈ lw_all := lw_g (lw_at lw_m9 101 rfl) rfl
theorem q2126 : (Jvm.Cond.methodLink "FoldLister" (182 : Nat) ({ cls := "FoldLister$2", name := "<init>", desc := "(LFoldLister;)V" } : Jvm.MethodName)) ∈ lw_all := lw_g (lw_at lw_m9 103 rfl) rfl
theorem q2134 : (Jvm.Cond.methodLink "FoldLister" (198 : Nat) ({ cls := "FoldLister", name := "looseMany", desc := "()I" } : Jvm.MethodName)) ∈ lw_all := lw_g (lw_at lw_m9 111 rfl) rfl
theorem q2135 : (Jvm.Cond.privateMethod ({ cls := "FoldLister", name := "looseMany", desc := "()I" } : Jvm.MethodName)) ∈ lw_tbl := lw_at lw_m9 112 rfl
theorem q2136 : (Jvm.Cond.instanceMethod ({ cls := "FoldLister", name := "looseMany", desc := "()I" } : Jvm.MethodName)) ∈ lw_all := lw_g (lw_at lw_m9 113 rfl) rfl
theorem q2137 : (Jvm.Cond.code ({ cls := "FoldLister", name := "looseMany", desc := "()I" } : Jvm.MethodName) prog_1_method_21_code (4 : Nat) (Option.some Jvm.ClassFile.FieldType.int)) ∈ lw_all := lw_g (lw_at lw_m9 114 rfl) rfl
theorem q2138 : (Jvm.Cond.classLink "FoldLister" (166 : Nat) "FoldLister$Bracket") ∈ lw_all := lw_g (lw_at lw_m9 115 rfl) rfl
theorem q2139 : (Jvm.Cond.methodLink "FoldLister" (168 : Nat) ({ cls := "FoldLister$Bracket", name := "isLoose", desc := "()Z" } : Jvm.MethodName)) ∈ lw_all := lw_g (lw_at lw_m9 116 rfl) rfl
theorem q2140 : (Jvm.Cond.methodLink "FoldLister" (205 : Nat) ({ cls := "java/util/LinkedList", name := "size", desc := "()I" } : Jvm.MethodName)) ∈ lw_all := lw_g (lw_at lw_m9 117 rfl) rfl
theorem q2145 : (Jvm.Cond.instanceMethod ({ cls := "FoldLister", name := "line", desc := "(II)I" } : Jvm.MethodName)) ∈ lw_all := lw_g (lw_at lw_m9 122 rfl) rfl
theorem q2146 : (Jvm.Cond.selects "FoldLister" ({ cls := "FoldLister", name := "line", desc := "(II)I" } : Jvm.MethodName) ({ cls := "FoldLister", name := "line", desc := "(II)I" } : Jvm.MethodName)) ∈ lw_all := lw_g (lw_at lw_m9 123 rfl) rfl
theorem q2147 : (Jvm.Cond.code ({ cls := "FoldLister", name := "line", desc := "(II)I" } : Jvm.MethodName) prog_1_method_26_code (5 : Nat) (Option.some Jvm.ClassFile.FieldType.int)) ∈ lw_all := lw_g (lw_at lw_m9 124 rfl) rfl
theorem q2148 : (Jvm.Cond.methodLink "FoldLister" (219 : Nat) ({ cls := "FoldLister", name := "lineAt", desc := "(I)LFoldLister$Line;" } : Jvm.MethodName)) ∈ lw_all := lw_g (lw_at lw_m9 125 rfl) rfl
theorem q2149 : (Jvm.Cond.privateMethod ({ cls := "FoldLister", name := "lineAt", desc := "(I)LFoldLister$Line;" } : Jvm.MethodName)) ∈ lw_tbl := lw_at lw_m9 126 rfl
theorem q2150 : (Jvm.Cond.instanceMethod ({ cls := "FoldLister", name := "lineAt", desc := "(I)LFoldLister$Line;" } : Jvm.MethodName)) ∈ lw_all := lw_g (lw_at lw_m9 127 rfl) rfl
theorem q2151 : (Jvm.Cond.code ({ cls := "FoldLister", name := "lineAt", desc := "(I)LFoldLister$Line;" } : Jvm.MethodName) prog_1_method_9_code (2 : Nat) (Option.some (Jvm.ClassFile.FieldType.object "FoldLister$Line"))) ∈ lw_all := lw_g (lw_at lw_m9 128 rfl) rfl
theorem q2152 : (Jvm.Cond.methodLink "FoldLister" (63 : Nat) ({ cls := "FoldLister", name := "withLine", desc := "(I)I" } : Jvm.MethodName)) ∈ lw_all := lw_g (lw_at lw_m9 129 rfl) rfl
theorem q2153 : (Jvm.Cond.privateMethod ({ cls := "FoldLister", name := "withLine", desc := "(I)I" } : Jvm.MethodName)) ∈ lw_tbl := lw_at lw_m9 130 rfl
theorem q2154 : (Jvm.Cond.instanceMethod ({ cls := "FoldLister", name := "withLine", desc := "(I)I" } : Jvm.MethodName)) ∈ lw_all := lw_g (lw_at lw_m9 131 rfl) rfl
theorem q2155 : (Jvm.Cond.code ({ cls := "FoldLister", name := "withLine", desc := "(I)I" } : Jvm.MethodName) prog_1_method_8_code (2 : Nat) (Option.some Jvm.ClassFile.FieldType.int)) ∈ lw_all := lw_g (lw_at lw_m9 132 rfl) rfl
theorem q2156 : (Jvm.Cond.methodLink "FoldLister" (229 : Nat) ({ cls := "FoldLister$Page$Layout", name := "rows", desc := "(I)I" } : Jvm.MethodName)) ∈ lw_all := lw_g (lw_at lw_m9 133 rfl) rfl
theorem q2161 : (Jvm.Cond.methodLink "FoldLister" (239 : Nat) ({ cls := "FoldLister$Page$Layout", name := "hiddenBehind", desc := "(I)I" } : Jvm.MethodName)) ∈ lw_all := lw_g (lw_at lw_m9 138 rfl) rfl
theorem q2165 : (Jvm.Cond.methodLink "FoldLister" (242 : Nat) ({ cls := "FoldLister", name := "markersAt", desc := "(I)I" } : Jvm.MethodName)) ∈ lw_all := lw_g (lw_at lw_m9 142 rfl) rfl
theorem q2166 : (Jvm.Cond.privateMethod ({ cls := "FoldLister", name := "markersAt", desc := "(I)I" } : Jvm.MethodName)) ∈ lw_tbl := lw_at lw_m9 143 rfl
theorem q2167 : (Jvm.Cond.instanceMethod ({ cls := "FoldLister", name := "markersAt", desc := "(I)I" } : Jvm.MethodName)) ∈ lw_all := lw_g (lw_at lw_m9 144 rfl) rfl
theorem q2168 : (Jvm.Cond.code ({ cls := "FoldLister", name := "markersAt", desc := "(I)I" } : Jvm.MethodName) prog_1_method_25_code (4 : Nat) (Option.some Jvm.ClassFile.FieldType.int)) ∈ lw_all := lw_g (lw_at lw_m9 145 rfl) rfl
theorem q2169 : (Jvm.Cond.methodLink "FoldLister" (245 : Nat) ({ cls := "FoldLister$Page$Layout", name := "begun", desc := "(I)I" } : Jvm.MethodName)) ∈ lw_all := lw_g (lw_at lw_m9 146 rfl) rfl
theorem q2173 : (Jvm.Cond.methodLink "FoldLister" (248 : Nat) ({ cls := "FoldLister$Line", name := "blanks", desc := "()I" } : Jvm.MethodName)) ∈ lw_all := lw_g (lw_at lw_m9 150 rfl) rfl
theorem q2178 : (Jvm.Cond.instanceMethod ({ cls := "FoldLister", name := "byteOf", desc := "(II)I" } : Jvm.MethodName)) ∈ lw_all := lw_g (lw_at lw_m9 155 rfl) rfl
theorem q2179 : (Jvm.Cond.selects "FoldLister" ({ cls := "FoldLister", name := "byteOf", desc := "(II)I" } : Jvm.MethodName) ({ cls := "FoldLister", name := "byteOf", desc := "(II)I" } : Jvm.MethodName)) ∈ lw_all := lw_g (lw_at lw_m9 156 rfl) rfl
theorem q2180 : (Jvm.Cond.code ({ cls := "FoldLister", name := "byteOf", desc := "(II)I" } : Jvm.MethodName) prog_1_method_27_code (4 : Nat) (Option.some Jvm.ClassFile.FieldType.int)) ∈ lw_all := lw_g (lw_at lw_m9 157 rfl) rfl
theorem q2181 : (Jvm.Cond.methodLink "FoldLister" (251 : Nat) ({ cls := "FoldLister$Line", name := "byteAt", desc := "(I)I" } : Jvm.MethodName)) ∈ lw_all := lw_g (lw_at lw_m9 158 rfl) rfl
theorem q2186 : (Jvm.Cond.instanceMethod ({ cls := "FoldLister", name := "lineOfRow", desc := "(I)I" } : Jvm.MethodName)) ∈ lw_all := lw_g (lw_at lw_m9 163 rfl) rfl
theorem q2187 : (Jvm.Cond.selects "FoldLister" ({ cls := "FoldLister", name := "lineOfRow", desc := "(I)I" } : Jvm.MethodName) ({ cls := "FoldLister", name := "lineOfRow", desc := "(I)I" } : Jvm.MethodName)) ∈ lw_all := lw_g (lw_at lw_m9 164 rfl) rfl
theorem q2188 : (Jvm.Cond.code ({ cls := "FoldLister", name := "lineOfRow", desc := "(I)I" } : Jvm.MethodName) prog_1_method_29_code (2 : Nat) (Option.some Jvm.ClassFile.FieldType.int)) ∈ lw_all := lw_g (lw_at lw_m9 165 rfl) rfl
theorem q2189 : (Jvm.Cond.methodLink "FoldLister" (257 : Nat) ({ cls := "FoldLister$Page$Layout", name := "lineOfRow", desc := "(I)I" } : Jvm.MethodName)) ∈ lw_all := lw_g (lw_at lw_m9 166 rfl) rfl
theorem q2197 : (Jvm.Cond.instanceMethod ({ cls := "FoldLister", name := "rowNear", desc := "(I)I" } : Jvm.MethodName)) ∈ lw_all := lw_g (lw_at lw_m9 174 rfl) rfl
theorem q2198 : (Jvm.Cond.selects "FoldLister" ({ cls := "FoldLister", name := "rowNear", desc := "(I)I" } : Jvm.MethodName) ({ cls := "FoldLister", name := "rowNear", desc := "(I)I" } : Jvm.MethodName)) ∈ lw_all := lw_g (lw_at lw_m9 175 rfl) rfl
theorem q2199 : (Jvm.Cond.code ({ cls := "FoldLister", name := "rowNear", desc := "(I)I" } : Jvm.MethodName) prog_1_method_30_code (2 : Nat) (Option.some Jvm.ClassFile.FieldType.int)) ∈ lw_all := lw_g (lw_at lw_m9 176 rfl) rfl
theorem q2204 : (Jvm.Cond.instanceMethod ({ cls := "FoldLister", name := "rowsBetween", desc := "(II)I" } : Jvm.MethodName)) ∈ lw_all := lw_g (lw_at lw_m9 181 rfl) rfl
theorem q2205 : (Jvm.Cond.selects "FoldLister" ({ cls := "FoldLister", name := "rowsBetween", desc := "(II)I" } : Jvm.MethodName) ({ cls := "FoldLister", name := "rowsBetween", desc := "(II)I" } : Jvm.MethodName)) ∈ lw_all := lw_g (lw_at lw_m9 182 rfl) rfl
theorem q2206 : (Jvm.Cond.code ({ cls := "FoldLister", name := "rowsBetween", desc := "(II)I" } : Jvm.MethodName) prog_1_method_31_code (5 : Nat) (Option.some Jvm.ClassFile.FieldType.int)) ∈ lw_all := lw_g (lw_at lw_m9 183 rfl) rfl
theorem q2207 : (Jvm.Cond.methodLink "FoldLister" (260 : Nat) ({ cls := "java/lang/Math", name := "max", desc := "(II)I" } : Jvm.MethodName)) ∈ lw_all := lw_g (lw_at lw_m9 184 rfl) rfl
theorem q2208 : (Jvm.Cond.methodLink "FoldLister" (266 : Nat) ({ cls := "java/lang/Math", name := "min", desc := "(II)I" } : Jvm.MethodName)) ∈ lw_all := lw_g (lw_at lw_m9 185 rfl) rfl
theorem q2213 : (Jvm.Cond.instanceMethod ({ cls := "FoldLister", name := "seek", desc := "(IIZ)I" } : Jvm.MethodName)) ∈ lw_all := lw_g (lw_at lw_m9 190 rfl) rfl
theorem q2214 : (Jvm.Cond.selects "FoldLister" ({ cls := "FoldLister", name := "seek", desc := "(IIZ)I" } : Jvm.MethodName) ({ cls := "FoldLister", name := "seek", desc := "(IIZ)I" } : Jvm.MethodName)) ∈ lw_all := lw_g (lw_at lw_m9 191 rfl) rfl
theorem q2215 : (Jvm.Cond.code ({ cls := "FoldLister", name := "seek", desc := "(IIZ)I" } : Jvm.MethodName) prog_1_method_33_code (8 : Nat) (Option.some Jvm.ClassFile.FieldType.int)) ∈ lw_all := lw_g (lw_at lw_m9 192 rfl) rfl
theorem q2216 : (Jvm.Cond.methodLink "FoldLister" (269 : Nat) ({ cls := "FoldLister", name := "taken", desc := "(I)Ljava/lang/String;" } : Jvm.MethodName)) ∈ lw_all := lw_g (lw_at lw_m9 193 rfl) rfl
theorem q2217 : (Jvm.Cond.privateMethod ({ cls := "FoldLister", name := "taken", desc := "(I)Ljava/lang/String;" } : Jvm.MethodName)) ∈ lw_tbl := lw_at lw_m9 194 rfl
theorem q2218 : (Jvm.Cond.instanceMethod ({ cls := "FoldLister", name := "taken", desc := "(I)Ljava/lang/String;" } : Jvm.MethodName)) ∈ lw_all := lw_g (lw_at lw_m9 195 rfl) rfl
theorem q2219 : (Jvm.Cond.code ({ cls := "FoldLister", name := "taken", desc := "(I)Ljava/lang/String;" } : Jvm.MethodName) prog_1_method_12_code (4 : Nat) (Option.some (Jvm.ClassFile.FieldType.object "java/lang/String"))) ∈ lw_all := lw_g (lw_at lw_m9 196 rfl) rfl
theorem q2220 : (Jvm.Cond.methodLink "FoldLister" (100 : Nat) ({ cls := "java/lang/StringBuilder", name := "toString", desc := "()Ljava/lang/String;" } : Jvm.MethodName)) ∈ lw_all := lw_g (lw_at lw_m9 197 rfl) rfl
theorem q2221 : (Jvm.Cond.classLink "FoldLister" (273 : Nat) "FoldLister$Round") ∈ lw_all := lw_g (lw_at lw_m9 198 rfl) rfl
theorem q2223 : (Jvm.Cond.methodLink "FoldLister" (275 : Nat) ({ cls := "FoldLister$Round", name := "<init>", desc := "(LFoldLister;I)V" } : Jvm.MethodName)) ∈ lw_all := lw_g (lw_at lw_m9 200 rfl) rfl
theorem q2236 : (Jvm.Cond.methodLink "FoldLister" (276 : Nat) ({ cls := "FoldLister$Round", name := "iterator", desc := "()Ljava/util/Iterator;" } : Jvm.MethodName)) ∈ lw_all := lw_g (lw_at lw_m9 213 rfl) rfl
theorem q2253 : (Jvm.Cond.classLink "FoldLister" (277 : Nat) "java/lang/Integer") ∈ lw_all := lw_g (lw_at lw_m9 230 rfl) rfl
theorem q2254 : (Jvm.Cond.methodLink "FoldLister" (279 : Nat) ({ cls := "java/lang/Integer", name := "intValue", desc := "()I" } : Jvm.MethodName)) ∈ lw_all := lw_g (lw_at lw_m9 231 rfl) rfl
theorem q2258 : (Jvm.Cond.methodLink "FoldLister" (282 : Nat) ({ cls := "FoldLister$Line", name := "has", desc := "(Ljava/lang/String;)Z" } : Jvm.MethodName)) ∈ lw_all := lw_g (lw_at lw_m9 235 rfl) rfl
theorem q2375 : (Jvm.Cond.instanceMethod ({ cls := "FoldLister", name := "region", desc := "(II)I" } : Jvm.MethodName)) ∈ lw_all := lw_g (lw_at lw_m10 112 rfl) rfl
theorem q2376 : (Jvm.Cond.selects "FoldLister" ({ cls := "FoldLister", name := "region", desc := "(II)I" } : Jvm.MethodName) ({ cls := "FoldLister", name := "region", desc := "(II)I" } : Jvm.MethodName)) ∈ lw_all := lw_g (lw_at lw_m10 113 rfl) rfl
theorem q2377 : (Jvm.Cond.code ({ cls := "FoldLister", name := "region", desc := "(II)I" } : Jvm.MethodName) prog_1_method_36_code (4 : Nat) (Option.some Jvm.ClassFile.FieldType.int)) ∈ lw_all := lw_g (lw_at lw_m10 114 rfl) rfl
theorem q2378 : (Jvm.Cond.methodLink "FoldLister" (289 : Nat) ({ cls := "FoldLister", name := "regionAtNumber", desc := "(I)LFoldLister$Region;" } : Jvm.MethodName)) ∈ lw_all := lw_g (lw_at lw_m10 115 rfl) rfl
theorem q2379 : (Jvm.Cond.privateMethod ({ cls := "FoldLister", name := "regionAtNumber", desc := "(I)LFoldLister$Region;" } : Jvm.MethodName)) ∈ lw_tbl := lw_at lw_m10 116 rfl
theorem q2380 : (Jvm.Cond.instanceMethod ({ cls := "FoldLister", name := "regionAtNumber", desc := "(I)LFoldLister$Region;" } : Jvm.MethodName)) ∈ lw_all := lw_g (lw_at lw_m10 117 rfl) rfl
theorem q2381 : (Jvm.Cond.code ({ cls := "FoldLister", name := "regionAtNumber", desc := "(I)LFoldLister$Region;" } : Jvm.MethodName) prog_1_method_10_code (2 : Nat) (Option.some (Jvm.ClassFile.FieldType.object "FoldLister$Region"))) ∈ lw_all := lw_g (lw_at lw_m10 118 rfl) rfl
theorem q2382 : (Jvm.Cond.interfaceEntry "FoldLister" (84 : Nat)) ∈ lw_tbl := lw_at lw_m10 119 rfl
theorem q2383 : (Jvm.Cond.methodLink "FoldLister" (84 : Nat) ({ cls := "java/util/List", name := "get", desc := "(I)Ljava/lang/Object;" } : Jvm.MethodName)) ∈ lw_all := lw_g (lw_at lw_m10 120 rfl) rfl
theorem q2384 : (Jvm.Cond.methodLink "FoldLister" (320 : Nat) ({ cls := "FoldLister", name := "numberOf", desc := "(LFoldLister$Region;)I" } : Jvm.MethodName)) ∈ lw_all := lw_g (lw_at lw_m10 121 rfl) rfl
theorem q2385 : (Jvm.Cond.static ({ cls := "FoldLister", name := "numberOf", desc := "(LFoldLister$Region;)I" } : Jvm.MethodName)) ∈ lw_all := lw_g (lw_at lw_m10 122 rfl) rfl
theorem q2386 : (Jvm.Cond.code ({ cls := "FoldLister", name := "numberOf", desc := "(LFoldLister$Region;)I" } : Jvm.MethodName) prog_1_method_11_code (1 : Nat) (Option.some Jvm.ClassFile.FieldType.int)) ∈ lw_all := lw_g (lw_at lw_m10 123 rfl) rfl
theorem q2391 : (Jvm.Cond.instanceMethod ({ cls := "FoldLister", name := "regionAt", desc := "(I)I" } : Jvm.MethodName)) ∈ lw_all := lw_g (lw_at lw_m10 128 rfl) rfl
theorem q2392 : (Jvm.Cond.selects "FoldLister" ({ cls := "FoldLister", name := "regionAt", desc := "(I)I" } : Jvm.MethodName) ({ cls := "FoldLister", name := "regionAt", desc := "(I)I" } : Jvm.MethodName)) ∈ lw_all := lw_g (lw_at lw_m10 129 rfl) rfl
theorem q2393 : (Jvm.Cond.code ({ cls := "FoldLister", name := "regionAt", desc := "(I)I" } : Jvm.MethodName) prog_1_method_37_code (2 : Nat) (Option.some Jvm.ClassFile.FieldType.int)) ∈ lw_all := lw_g (lw_at lw_m10 130 rfl) rfl
theorem q2394 : (Jvm.Cond.methodLink "FoldLister" (324 : Nat) ({ cls := "FoldLister$Page$Layout", name := "innermost", desc := "(I)LFoldLister$Region;" } : Jvm.MethodName)) ∈ lw_all := lw_g (lw_at lw_m10 131 rfl) rfl
theorem q2402 : (Jvm.Cond.instanceMethod ({ cls := "FoldLister", name := "hiddenBy", desc := "(I)I" } : Jvm.MethodName)) ∈ lw_all := lw_g (lw_at lw_m10 139 rfl) rfl
theorem q2403 : (Jvm.Cond.selects "FoldLister" ({ cls := "FoldLister", name := "hiddenBy", desc := "(I)I" } : Jvm.MethodName) ({ cls := "FoldLister", name := "hiddenBy", desc := "(I)I" } : Jvm.MethodName)) ∈ lw_all := lw_g (lw_at lw_m10 140 rfl) rfl
theorem q2404 : (Jvm.Cond.code ({ cls := "FoldLister", name := "hiddenBy", desc := "(I)I" } : Jvm.MethodName) prog_1_method_38_code (2 : Nat) (Option.some Jvm.ClassFile.FieldType.int)) ∈ lw_all := lw_g (lw_at lw_m10 141 rfl) rfl
theorem q2405 : (Jvm.Cond.methodLink "FoldLister" (327 : Nat) ({ cls := "FoldLister$Page$Layout", name := "outermost", desc := "(I)LFoldLister$Region;" } : Jvm.MethodName)) ∈ lw_all := lw_g (lw_at lw_m10 142 rfl) rfl
theorem q2413 : (Jvm.Cond.instanceMethod ({ cls := "FoldLister", name := "partner", desc := "(II)I" } : Jvm.MethodName)) ∈ lw_all := lw_g (lw_at lw_m10 150 rfl) rfl
theorem q2414 : (Jvm.Cond.selects "FoldLister" ({ cls := "FoldLister", name := "partner", desc := "(II)I" } : Jvm.MethodName) ({ cls := "FoldLister", name := "partner", desc := "(II)I" } : Jvm.MethodName)) ∈ lw_all := lw_g (lw_at lw_m10 151 rfl) rfl
theorem q2415 : (Jvm.Cond.code ({ cls := "FoldLister", name := "partner", desc := "(II)I" } : Jvm.MethodName) prog_1_method_39_code (4 : Nat) (Option.some Jvm.ClassFile.FieldType.int)) ∈ lw_all := lw_g (lw_at lw_m10 152 rfl) rfl
theorem q2416 : (Jvm.Cond.methodLink "FoldLister" (330 : Nat) ({ cls := "FoldLister$Page$Layout", name := "bracketAt", desc := "(II)LFoldLister$Bracket;" } : Jvm.MethodName)) ∈ lw_all := lw_g (lw_at lw_m10 153 rfl) rfl
theorem q2420 : (Jvm.Cond.methodLink "FoldLister" (334 : Nat) ({ cls := "FoldLister", name := "checkArgument", desc := "(Z)V" } : Jvm.MethodName)) ∈ lw_all := lw_g (lw_at lw_m10 157 rfl) rfl
theorem q2421 : (Jvm.Cond.static ({ cls := "FoldLister", name := "checkArgument", desc := "(Z)V" } : Jvm.MethodName)) ∈ lw_all := lw_g (lw_at lw_m10 158 rfl) rfl
theorem q2422 : (Jvm.Cond.code ({ cls := "FoldLister", name := "checkArgument", desc := "(Z)V" } : Jvm.MethodName) prog_1_method_5_code (1 : Nat) (Option.none : Option Jvm.ClassFile.FieldType)) ∈ lw_all := lw_g (lw_at lw_m10 159 rfl) rfl
theorem q2423 : (Jvm.Cond.methodLink "FoldLister" (341 : Nat) ({ cls := "FoldLister$Bracket", name := "told", desc := "()I" } : Jvm.MethodName)) ∈ lw_all := lw_g (lw_at lw_m10 160 rfl) rfl
theorem q2431 : (Jvm.Cond.instanceMethod ({ cls := "FoldLister", name := "loose", desc := "(I)I" } : Jvm.MethodName)) ∈ lw_all := lw_g (lw_at lw_m10 168 rfl) rfl
theorem q2432 : (Jvm.Cond.selects "FoldLister" ({ cls := "FoldLister", name := "loose", desc := "(I)I" } : Jvm.MethodName) ({ cls := "FoldLister", name := "loose", desc := "(I)I" } : Jvm.MethodName)) ∈ lw_all := lw_g (lw_at lw_m10 169 rfl) rfl
theorem q2433 : (Jvm.Cond.code ({ cls := "FoldLister", name := "loose", desc := "(I)I" } : Jvm.MethodName) prog_1_method_40_code (6 : Nat) (Option.some Jvm.ClassFile.FieldType.int)) ∈ lw_all := lw_g (lw_at lw_m10 170 rfl) rfl
theorem q2438 : (Jvm.Cond.instanceMethod ({ cls := "FoldLister", name := "outline", desc := "(II)I" } : Jvm.MethodName)) ∈ lw_all := lw_g (lw_at lw_m10 175 rfl) rfl
theorem q2439 : (Jvm.Cond.selects "FoldLister" ({ cls := "FoldLister", name := "outline", desc := "(II)I" } : Jvm.MethodName) ({ cls := "FoldLister", name := "outline", desc := "(II)I" } : Jvm.MethodName)) ∈ lw_all := lw_g (lw_at lw_m10 176 rfl) rfl
theorem q2440 : (Jvm.Cond.code ({ cls := "FoldLister", name := "outline", desc := "(II)I" } : Jvm.MethodName) prog_1_method_42_code (6 : Nat) (Option.some Jvm.ClassFile.FieldType.int)) ∈ lw_all := lw_g (lw_at lw_m10 177 rfl) rfl
theorem q2445 : (Jvm.Cond.instanceMethod ({ cls := "FoldLister", name := "marker", desc := "(I)I" } : Jvm.MethodName)) ∈ lw_all := lw_g (lw_at lw_m10 182 rfl) rfl
theorem q2446 : (Jvm.Cond.selects "FoldLister" ({ cls := "FoldLister", name := "marker", desc := "(I)I" } : Jvm.MethodName) ({ cls := "FoldLister", name := "marker", desc := "(I)I" } : Jvm.MethodName)) ∈ lw_all := lw_g (lw_at lw_m10 183 rfl) rfl
theorem q2447 : (Jvm.Cond.code ({ cls := "FoldLister", name := "marker", desc := "(I)I" } : Jvm.MethodName) prog_1_method_43_code (2 : Nat) (Option.some Jvm.ClassFile.FieldType.int)) ∈ lw_all := lw_g (lw_at lw_m10 184 rfl) rfl
theorem q2452 : (Jvm.Cond.instanceMethod ({ cls := "FoldLister", name := "nextMarked", desc := "(IZ)I" } : Jvm.MethodName)) ∈ lw_all := lw_g (lw_at lw_m10 189 rfl) rfl
theorem q2453 : (Jvm.Cond.selects "FoldLister" ({ cls := "FoldLister", name := "nextMarked", desc := "(IZ)I" } : Jvm.MethodName) ({ cls := "FoldLister", name := "nextMarked", desc := "(IZ)I" } : Jvm.MethodName)) ∈ lw_all := lw_g (lw_at lw_m10 190 rfl) rfl
theorem q2454 : (Jvm.Cond.code ({ cls := "FoldLister", name := "nextMarked", desc := "(IZ)I" } : Jvm.MethodName) prog_1_method_44_code (7 : Nat) (Option.some Jvm.ClassFile.FieldType.int)) ∈ lw_all := lw_g (lw_at lw_m10 191 rfl) rfl
theorem q2455 : (Jvm.Cond.methodLink "FoldLister" (344 : Nat) ({ cls := "java/lang/Math", name := "floorMod", desc := "(II)I" } : Jvm.MethodName)) ∈ lw_all := lw_g (lw_at lw_m10 192 rfl) rfl
theorem q2462 : (Jvm.Cond.instanceMethod ({ cls := "FoldLister", name := "labelled", desc := "(I)I" } : Jvm.MethodName)) ∈ lw_all := lw_g (lw_at lw_m10 199 rfl) rfl
theorem q2463 : (Jvm.Cond.selects "FoldLister" ({ cls := "FoldLister", name := "labelled", desc := "(I)I" } : Jvm.MethodName) ({ cls := "FoldLister", name := "labelled", desc := "(I)I" } : Jvm.MethodName)) ∈ lw_all := lw_g (lw_at lw_m10 200 rfl) rfl
theorem q2464 : (Jvm.Cond.code ({ cls := "FoldLister", name := "labelled", desc := "(I)I" } : Jvm.MethodName) prog_1_method_45_code (2 : Nat) (Option.some Jvm.ClassFile.FieldType.int)) ∈ lw_all := lw_g (lw_at lw_m10 201 rfl) rfl
theorem q2465 : (Jvm.Cond.methodLink "FoldLister" (347 : Nat) ({ cls := "FoldLister$Page", name := "labelled", desc := "(Ljava/lang/String;)I" } : Jvm.MethodName)) ∈ lw_all := lw_g (lw_at lw_m10 202 rfl) rfl
theorem q2470 : (Jvm.Cond.instanceMethod ({ cls := "FoldLister", name := "labelLength", desc := "(I)I" } : Jvm.MethodName)) ∈ lw_all := lw_g (lw_at lw_m10 207 rfl) rfl
theorem q2471 : (Jvm.Cond.selects "FoldLister" ({ cls := "FoldLister", name := "labelLength", desc := "(I)I" } : Jvm.MethodName) ({ cls := "FoldLister", name := "labelLength", desc := "(I)I" } : Jvm.MethodName)) ∈ lw_all := lw_g (lw_at lw_m10 208 rfl) rfl
theorem q2472 : (Jvm.Cond.code ({ cls := "FoldLister", name := "labelLength", desc := "(I)I" } : Jvm.MethodName) prog_1_method_46_code (2 : Nat) (Option.some Jvm.ClassFile.FieldType.int)) ∈ lw_all := lw_g (lw_at lw_m10 209 rfl) rfl
theorem q2473 : (Jvm.Cond.methodLink "FoldLister" (351 : Nat) ({ cls := "FoldLister$Line", name := "label", desc := "()Ljava/lang/String;" } : Jvm.MethodName)) ∈ lw_all := lw_g (lw_at lw_m10 210 rfl) rfl
theorem q2478 : (Jvm.Cond.instanceMethod ({ cls := "FoldLister", name := "target", desc := "(I)I" } : Jvm.MethodName)) ∈ lw_all := lw_g (lw_at lw_m10 215 rfl) rfl
theorem q2479 : (Jvm.Cond.selects "FoldLister" ({ cls := "FoldLister", name := "target", desc := "(I)I" } : Jvm.MethodName) ({ cls := "FoldLister", name := "target", desc := "(I)I" } : Jvm.MethodName)) ∈ lw_all := lw_g (lw_at lw_m10 216 rfl) rfl
theorem q2480 : (Jvm.Cond.code ({ cls := "FoldLister", name := "target", desc := "(I)I" } : Jvm.MethodName) prog_1_method_47_code (3 : Nat) (Option.some Jvm.ClassFile.FieldType.int)) ∈ lw_all := lw_g (lw_at lw_m10 217 rfl) rfl
theorem q2481 : (Jvm.Cond.methodLink "FoldLister" (354 : Nat) ({ cls := "FoldLister$Line", name := "reference", desc := "()Ljava/lang/String;" } : Jvm.MethodName)) ∈ lw_all := lw_g (lw_at lw_m10 218 rfl) rfl
theorem q2482 : (Jvm.Cond.methodLink "FoldLister" (357 : Nat) ({ cls := "java/lang/String", name := "isEmpty", desc := "()Z" } : Jvm.MethodName)) ∈ lw_all := lw_g (lw_at lw_m10 219 rfl) rfl
theorem q2483 : (Jvm.Cond.methodLink "FoldLister" (360 : Nat) ({ cls := "FoldLister$Page", name := "target", desc := "(I)I" } : Jvm.MethodName)) ∈ lw_all := lw_g (lw_at lw_m10 220 rfl) rfl
theorem q2488 : (Jvm.Cond.instanceMethod ({ cls := "FoldLister", name := "referrers", desc := "(I)I" } : Jvm.MethodName)) ∈ lw_all := lw_g (lw_at lw_m10 225 rfl) rfl
theorem q2489 : (Jvm.Cond.selects "FoldLister" ({ cls := "FoldLister", name := "referrers", desc := "(I)I" } : Jvm.MethodName) ({ cls := "FoldLister", name := "referrers", desc := "(I)I" } : Jvm.MethodName)) ∈ lw_all := lw_g (lw_at lw_m10 226 rfl) rfl
theorem q2490 : (Jvm.Cond.code ({ cls := "FoldLister", name := "referrers", desc := "(I)I" } : Jvm.MethodName) prog_1_method_48_code (3 : Nat) (Option.some Jvm.ClassFile.FieldType.int)) ∈ lw_all := lw_g (lw_at lw_m10 227 rfl) rfl
theorem q2491 : (Jvm.Cond.classLink "FoldLister" (363 : Nat) "FoldLister$3") ∈ lw_all := lw_g (lw_at lw_m10 228 rfl) rfl
theorem q2493 : (Jvm.Cond.methodLink "FoldLister" (365 : Nat) ({ cls := "FoldLister$3", name := "<init>", desc := "(LFoldLister;I)V" } : Jvm.MethodName)) ∈ lw_all := lw_g (lw_at lw_m10 230 rfl) rfl
theorem q2508 : (Jvm.Cond.instanceMethod ({ cls := "FoldLister", name := "referrer", desc := "(II)I" } : Jvm.MethodName)) ∈ lw_all := lw_g (lw_at lw_m11 5 rfl) rfl
theorem q2509 : (Jvm.Cond.selects "FoldLister" ({ cls := "FoldLister", name := "referrer", desc := "(II)I" } : Jvm.MethodName) ({ cls := "FoldLister", name := "referrer", desc := "(II)I" } : Jvm.MethodName)) ∈ lw_all := lw_g (lw_at lw_m11 6 rfl) rfl
theorem q2510 : (Jvm.Cond.code ({ cls := "FoldLister", name := "referrer", desc := "(II)I" } : Jvm.MethodName) prog_1_method_49_code (6 : Nat) (Option.some Jvm.ClassFile.FieldType.int)) ∈ lw_all := lw_g (lw_at lw_m11 7 rfl) rfl
theorem q2515 : (Jvm.Cond.instanceMethod ({ cls := "FoldLister", name := "jumped", desc := "(ZI)I" } : Jvm.MethodName)) ∈ lw_all := lw_g (lw_at lw_m11 12 rfl) rfl
theorem q2516 : (Jvm.Cond.selects "FoldLister" ({ cls := "FoldLister", name := "jumped", desc := "(ZI)I" } : Jvm.MethodName) ({ cls := "FoldLister", name := "jumped", desc := "(ZI)I" } : Jvm.MethodName)) ∈ lw_all := lw_g (lw_at lw_m11 13 rfl) rfl
theorem q2517 : (Jvm.Cond.code ({ cls := "FoldLister", name := "jumped", desc := "(ZI)I" } : Jvm.MethodName) prog_1_method_51_code (4 : Nat) (Option.some Jvm.ClassFile.FieldType.int)) ∈ lw_all := lw_g (lw_at lw_m11 14 rfl) rfl
theorem q2518 : (Jvm.Cond.methodLink "FoldLister" (369 : Nat) ({ cls := "java/util/LinkedList", name := "get", desc := "(I)Ljava/lang/Object;" } : Jvm.MethodName)) ∈ lw_all := lw_g (lw_at lw_m11 15 rfl) rfl
theorem q2523 : (Jvm.Cond.instanceMethod ({ cls := "FoldLister", name := "shownIf", desc := "(IZ)I" } : Jvm.MethodName)) ∈ lw_all := lw_g (lw_at lw_m11 20 rfl) rfl
theorem q2524 : (Jvm.Cond.selects "FoldLister" ({ cls := "FoldLister", name := "shownIf", desc := "(IZ)I" } : Jvm.MethodName) ({ cls := "FoldLister", name := "shownIf", desc := "(IZ)I" } : Jvm.MethodName)) ∈ lw_all := lw_g (lw_at lw_m11 21 rfl) rfl
theorem q2525 : (Jvm.Cond.code ({ cls := "FoldLister", name := "shownIf", desc := "(IZ)I" } : Jvm.MethodName) prog_1_method_53_code (3 : Nat) (Option.some Jvm.ClassFile.FieldType.int)) ∈ lw_all := lw_g (lw_at lw_m11 22 rfl) rfl
theorem q2530 : (Jvm.Cond.instanceMethod ({ cls := "FoldLister", name := "opensFor", desc := "(I)I" } : Jvm.MethodName)) ∈ lw_all := lw_g (lw_at lw_m11 27 rfl) rfl
theorem q2531 : (Jvm.Cond.selects "FoldLister" ({ cls := "FoldLister", name := "opensFor", desc := "(I)I" } : Jvm.MethodName) ({ cls := "FoldLister", name := "opensFor", desc := "(I)I" } : Jvm.MethodName)) ∈ lw_all := lw_g (lw_at lw_m11 28 rfl) rfl
theorem q2532 : (Jvm.Cond.code ({ cls := "FoldLister", name := "opensFor", desc := "(I)I" } : Jvm.MethodName) prog_1_method_54_code (2 : Nat) (Option.some Jvm.ClassFile.FieldType.int)) ∈ lw_all := lw_g (lw_at lw_m11 29 rfl) rfl
theorem q2537 : (Jvm.Cond.instanceMethod ({ cls := "FoldLister", name := "rowIf", desc := "(I)I" } : Jvm.MethodName)) ∈ lw_all := lw_g (lw_at lw_m11 34 rfl) rfl
theorem q2538 : (Jvm.Cond.selects "FoldLister" ({ cls := "FoldLister", name := "rowIf", desc := "(I)I" } : Jvm.MethodName) ({ cls := "FoldLister", name := "rowIf", desc := "(I)I" } : Jvm.MethodName)) ∈ lw_all := lw_g (lw_at lw_m11 35 rfl) rfl
theorem q2539 : (Jvm.Cond.code ({ cls := "FoldLister", name := "rowIf", desc := "(I)I" } : Jvm.MethodName) prog_1_method_57_code (7 : Nat) (Option.some Jvm.ClassFile.FieldType.int)) ∈ lw_all := lw_g (lw_at lw_m11 36 rfl) rfl
theorem q2540 : (Jvm.Cond.classLink "FoldLister" (397 : Nat) "FoldLister$5") ∈ lw_all := lw_g (lw_at lw_m11 37 rfl) rfl
theorem q2542 : (Jvm.Cond.methodLink "FoldLister" (399 : Nat) ({ cls := "FoldLister$5", name := "<init>", desc := "(LFoldLister;Ljava/util/BitSet;)V" } : Jvm.MethodName)) ∈ lw_all := lw_g (lw_at lw_m11 39 rfl) rfl
theorem q2553 : (Jvm.Cond.methodLink "FoldLister" (402 : Nat) ({ cls := "java/util/BitSet", name := "get", desc := "(I)Z" } : Jvm.MethodName)) ∈ lw_all := lw_g (lw_at lw_m11 50 rfl) rfl
theorem q2558 : (Jvm.Cond.instanceMethod ({ cls := "FoldLister", name := "steps", desc := "(II)I" } : Jvm.MethodName)) ∈ lw_all := lw_g (lw_at lw_m11 55 rfl) rfl
theorem q2559 : (Jvm.Cond.selects "FoldLister" ({ cls := "FoldLister", name := "steps", desc := "(II)I" } : Jvm.MethodName) ({ cls := "FoldLister", name := "steps", desc := "(II)I" } : Jvm.MethodName)) ∈ lw_all := lw_g (lw_at lw_m11 56 rfl) rfl
theorem q2560 : (Jvm.Cond.code ({ cls := "FoldLister", name := "steps", desc := "(II)I" } : Jvm.MethodName) prog_1_method_58_code (7 : Nat) (Option.some Jvm.ClassFile.FieldType.int)) ∈ lw_all := lw_g (lw_at lw_m11 57 rfl) rfl
theorem q2565 : (Jvm.Cond.instanceMethod ({ cls := "FoldLister", name := "writeLine", desc := "(I)I" } : Jvm.MethodName)) ∈ lw_all := lw_g (lw_at lw_m11 62 rfl) rfl
theorem q2566 : (Jvm.Cond.selects "FoldLister" ({ cls := "FoldLister", name := "writeLine", desc := "(I)I" } : Jvm.MethodName) ({ cls := "FoldLister", name := "writeLine", desc := "(I)I" } : Jvm.MethodName)) ∈ lw_all := lw_g (lw_at lw_m11 63 rfl) rfl
theorem q2567 : (Jvm.Cond.code ({ cls := "FoldLister", name := "writeLine", desc := "(I)I" } : Jvm.MethodName) prog_1_method_60_code (3 : Nat) (Option.some Jvm.ClassFile.FieldType.int)) ∈ lw_all := lw_g (lw_at lw_m11 64 rfl) rfl
theorem q2568 : (Jvm.Cond.methodLink "FoldLister" (414 : Nat) ({ cls := "FoldLister", name := "write", desc := "(I)V" } : Jvm.MethodName)) ∈ lw_all := lw_g (lw_at lw_m11 65 rfl) rfl
theorem q2569 : (Jvm.Cond.privateMethod ({ cls := "FoldLister", name := "write", desc := "(I)V" } : Jvm.MethodName)) ∈ lw_tbl := lw_at lw_m11 66 rfl
theorem q2570 : (Jvm.Cond.instanceMethod ({ cls := "FoldLister", name := "write", desc := "(I)V" } : Jvm.MethodName)) ∈ lw_all := lw_g (lw_at lw_m11 67 rfl) rfl
theorem q2571 : (Jvm.Cond.code ({ cls := "FoldLister", name := "write", desc := "(I)V" } : Jvm.MethodName) prog_1_method_59_code (2 : Nat) (Option.none : Option Jvm.ClassFile.FieldType)) ∈ lw_all := lw_g (lw_at lw_m11 68 rfl) rfl
theorem q2572 : (Jvm.Cond.methodLink "FoldLister" (407 : Nat) ({ cls := "java/lang/StringBuilder", name := "append", desc := "(Ljava/lang/String;)Ljava/lang/StringBuilder;" } : Jvm.MethodName)) ∈ lw_all := lw_g (lw_at lw_m11 69 rfl) rfl
theorem q2577 : (Jvm.Cond.instanceMethod ({ cls := "FoldLister", name := "writeRows", desc := "(II)I" } : Jvm.MethodName)) ∈ lw_all := lw_g (lw_at lw_m11 74 rfl) rfl
theorem q2578 : (Jvm.Cond.selects "FoldLister" ({ cls := "FoldLister", name := "writeRows", desc := "(II)I" } : Jvm.MethodName) ({ cls := "FoldLister", name := "writeRows", desc := "(II)I" } : Jvm.MethodName)) ∈ lw_all := lw_g (lw_at lw_m11 75 rfl) rfl
theorem q2579 : (Jvm.Cond.code ({ cls := "FoldLister", name := "writeRows", desc := "(II)I" } : Jvm.MethodName) prog_1_method_61_code (5 : Nat) (Option.some Jvm.ClassFile.FieldType.int)) ∈ lw_all := lw_g (lw_at lw_m11 76 rfl) rfl
theorem q2584 : (Jvm.Cond.instanceMethod ({ cls := "FoldLister", name := "textByte", desc := "(I)I" } : Jvm.MethodName)) ∈ lw_all := lw_g (lw_at lw_m11 81 rfl) rfl
theorem q2585 : (Jvm.Cond.selects "FoldLister" ({ cls := "FoldLister", name := "textByte", desc := "(I)I" } : Jvm.MethodName) ({ cls := "FoldLister", name := "textByte", desc := "(I)I" } : Jvm.MethodName)) ∈ lw_all := lw_g (lw_at lw_m11 82 rfl) rfl
theorem q2586 : (Jvm.Cond.code ({ cls := "FoldLister", name := "textByte", desc := "(I)I" } : Jvm.MethodName) prog_1_method_63_code (2 : Nat) (Option.some Jvm.ClassFile.FieldType.int)) ∈ lw_all := lw_g (lw_at lw_m11 83 rfl) rfl
theorem q2587 : (Jvm.Cond.methodLink "FoldLister" (418 : Nat) ({ cls := "java/lang/StringBuilder", name := "charAt", desc := "(I)C" } : Jvm.MethodName)) ∈ lw_all := lw_g (lw_at lw_m11 84 rfl) rfl
theorem q2601 : (Jvm.Cond.instanceMethod ({ cls := "FoldLister", name := "insert", desc := "(II)I" } : Jvm.MethodName)) ∈ lw_all := lw_g (lw_at lw_m11 98 rfl) rfl
theorem q2602 : (Jvm.Cond.selects "FoldLister" ({ cls := "FoldLister", name := "insert", desc := "(II)I" } : Jvm.MethodName) ({ cls := "FoldLister", name := "insert", desc := "(II)I" } : Jvm.MethodName)) ∈ lw_all := lw_g (lw_at lw_m11 99 rfl) rfl
theorem q2603 : (Jvm.Cond.code ({ cls := "FoldLister", name := "insert", desc := "(II)I" } : Jvm.MethodName) prog_1_method_65_code (5 : Nat) (Option.some Jvm.ClassFile.FieldType.int)) ∈ lw_all := lw_g (lw_at lw_m11 100 rfl) rfl
theorem q2604 : (Jvm.Cond.methodLink "FoldLister" (430 : Nat) ({ cls := "FoldLister", name := "isText", desc := "(Ljava/lang/String;)Z" } : Jvm.MethodName)) ∈ lw_all := lw_g (lw_at lw_m11 101 rfl) rfl
theorem q2605 : (Jvm.Cond.static ({ cls := "FoldLister", name := "isText", desc := "(Ljava/lang/String;)Z" } : Jvm.MethodName)) ∈ lw_all := lw_g (lw_at lw_m11 102 rfl) rfl
theorem q2606 : (Jvm.Cond.code ({ cls := "FoldLister", name := "isText", desc := "(Ljava/lang/String;)Z" } : Jvm.MethodName) prog_1_method_13_code (3 : Nat) (Option.some Jvm.ClassFile.FieldType.boolean)) ∈ lw_all := lw_g (lw_at lw_m11 103 rfl) rfl
theorem q2607 : (Jvm.Cond.methodLink "FoldLister" (109 : Nat) ({ cls := "java/lang/String", name := "charAt", desc := "(I)C" } : Jvm.MethodName)) ∈ lw_all := lw_g (lw_at lw_m11 104 rfl) rfl
theorem q2608 : (Jvm.Cond.methodLink "FoldLister" (113 : Nat) ({ cls := "FoldLister", name := "isPlain", desc := "(I)Z" } : Jvm.MethodName)) ∈ lw_all := lw_g (lw_at lw_m11 105 rfl) rfl
theorem q2609 : (Jvm.Cond.methodLink "FoldLister" (436 : Nat) ({ cls := "FoldLister$Page", name := "comes", desc := "(Ljava/lang/String;)LFoldLister$Line;" } : Jvm.MethodName)) ∈ lw_all := lw_g (lw_at lw_m11 106 rfl) rfl
theorem q2610 : (Jvm.Cond.methodLink "FoldLister" (440 : Nat) ({ cls := "FoldLister$Page", name := "adds", desc := "(ILFoldLister$Line;)V" } : Jvm.MethodName)) ∈ lw_all := lw_g (lw_at lw_m11 107 rfl) rfl
theorem q2615 : (Jvm.Cond.instanceMethod ({ cls := "FoldLister", name := "replace", desc := "(II)I" } : Jvm.MethodName)) ∈ lw_all := lw_g (lw_at lw_m11 112 rfl) rfl
theorem q2616 : (Jvm.Cond.selects "FoldLister" ({ cls := "FoldLister", name := "replace", desc := "(II)I" } : Jvm.MethodName) ({ cls := "FoldLister", name := "replace", desc := "(II)I" } : Jvm.MethodName)) ∈ lw_all := lw_g (lw_at lw_m11 113 rfl) rfl
theorem q2617 : (Jvm.Cond.code ({ cls := "FoldLister", name := "replace", desc := "(II)I" } : Jvm.MethodName) prog_1_method_66_code (5 : Nat) (Option.some Jvm.ClassFile.FieldType.int)) ∈ lw_all := lw_g (lw_at lw_m11 114 rfl) rfl
theorem q2618 : (Jvm.Cond.methodLink "FoldLister" (444 : Nat) ({ cls := "FoldLister$Line", name := "with", desc := "(Ljava/lang/String;)LFoldLister$Line;" } : Jvm.MethodName)) ∈ lw_all := lw_g (lw_at lw_m11 115 rfl) rfl
theorem q2623 : (Jvm.Cond.methodLink "FoldLister" (447 : Nat) ({ cls := "FoldLister$Page", name := "puts", desc := "(ILFoldLister$Line;)V" } : Jvm.MethodName)) ∈ lw_all := lw_g (lw_at lw_m11 120 rfl) rfl
theorem q2628 : (Jvm.Cond.instanceMethod ({ cls := "FoldLister", name := "join", desc := "(I)I" } : Jvm.MethodName)) ∈ lw_all := lw_g (lw_at lw_m11 125 rfl) rfl
theorem q2629 : (Jvm.Cond.selects "FoldLister" ({ cls := "FoldLister", name := "join", desc := "(I)I" } : Jvm.MethodName) ({ cls := "FoldLister", name := "join", desc := "(I)I" } : Jvm.MethodName)) ∈ lw_all := lw_g (lw_at lw_m11 126 rfl) rfl
theorem q2630 : (Jvm.Cond.code ({ cls := "FoldLister", name := "join", desc := "(I)I" } : Jvm.MethodName) prog_1_method_68_code (4 : Nat) (Option.some Jvm.ClassFile.FieldType.int)) ∈ lw_all := lw_g (lw_at lw_m11 127 rfl) rfl
theorem q2631 : (Jvm.Cond.methodLink "FoldLister" (450 : Nat) ({ cls := "FoldLister$Page", name := "removes", desc := "(II)V" } : Jvm.MethodName)) ∈ lw_all := lw_g (lw_at lw_m11 128 rfl) rfl
theorem q2739 : (Jvm.Cond.instanceMethod ({ cls := "FoldLister", name := "part", desc := "(II)I" } : Jvm.MethodName)) ∈ lw_all := lw_g (lw_at lw_m11 236 rfl) rfl
theorem q2740 : (Jvm.Cond.selects "FoldLister" ({ cls := "FoldLister", name := "part", desc := "(II)I" } : Jvm.MethodName) ({ cls := "FoldLister", name := "part", desc := "(II)I" } : Jvm.MethodName)) ∈ lw_all := lw_g (lw_at lw_m11 237 rfl) rfl
theorem q2741 : (Jvm.Cond.code ({ cls := "FoldLister", name := "part", desc := "(II)I" } : Jvm.MethodName) prog_1_method_69_code (5 : Nat) (Option.some Jvm.ClassFile.FieldType.int)) ∈ lw_all := lw_g (lw_at lw_m11 238 rfl) rfl
theorem q2742 : (Jvm.Cond.methodLink "FoldLister" (453 : Nat) ({ cls := "java/lang/String", name := "substring", desc := "(I)Ljava/lang/String;" } : Jvm.MethodName)) ∈ lw_all := lw_g (lw_at lw_m11 239 rfl) rfl
theorem q2747 : (Jvm.Cond.methodLink "FoldLister" (456 : Nat) ({ cls := "java/lang/String", name := "substring", desc := "(II)Ljava/lang/String;" } : Jvm.MethodName)) ∈ lw_all := lw_g (lw_at lw_m12 4 rfl) rfl
theorem q2752 : (Jvm.Cond.instanceMethod ({ cls := "FoldLister", name := "remove", desc := "(II)I" } : Jvm.MethodName)) ∈ lw_all := lw_g (lw_at lw_m12 9 rfl) rfl
theorem q2753 : (Jvm.Cond.selects "FoldLister" ({ cls := "FoldLister", name := "remove", desc := "(II)I" } : Jvm.MethodName) ({ cls := "FoldLister", name := "remove", desc := "(II)I" } : Jvm.MethodName)) ∈ lw_all := lw_g (lw_at lw_m12 10 rfl) rfl
theorem q2754 : (Jvm.Cond.code ({ cls := "FoldLister", name := "remove", desc := "(II)I" } : Jvm.MethodName) prog_1_method_70_code (3 : Nat) (Option.some Jvm.ClassFile.FieldType.int)) ∈ lw_all := lw_g (lw_at lw_m12 11 rfl) rfl
theorem q2755 : (Jvm.Cond.methodLink "FoldLister" (459 : Nat) ({ cls := "FoldLister", name := "checkBlock", desc := "(II)V" } : Jvm.MethodName)) ∈ lw_all := lw_g (lw_at lw_m12 12 rfl) rfl
theorem q2756 : (Jvm.Cond.privateMethod ({ cls := "FoldLister", name := "checkBlock", desc := "(II)V" } : Jvm.MethodName)) ∈ lw_tbl := lw_at lw_m12 13 rfl
theorem q2757 : (Jvm.Cond.instanceMethod ({ cls := "FoldLister", name := "checkBlock", desc := "(II)V" } : Jvm.MethodName)) ∈ lw_all := lw_g (lw_at lw_m12 14 rfl) rfl
theorem q2758 : (Jvm.Cond.code ({ cls := "FoldLister", name := "checkBlock", desc := "(II)V" } : Jvm.MethodName) prog_1_method_67_code (5 : Nat) (Option.none : Option Jvm.ClassFile.FieldType)) ∈ lw_all := lw_g (lw_at lw_m12 15 rfl) rfl
theorem q2763 : (Jvm.Cond.instanceMethod ({ cls := "FoldLister", name := "move", desc := "(III)I" } : Jvm.MethodName)) ∈ lw_all := lw_g (lw_at lw_m12 20 rfl) rfl
theorem q2764 : (Jvm.Cond.selects "FoldLister" ({ cls := "FoldLister", name := "move", desc := "(III)I" } : Jvm.MethodName) ({ cls := "FoldLister", name := "move", desc := "(III)I" } : Jvm.MethodName)) ∈ lw_all := lw_g (lw_at lw_m12 21 rfl) rfl
theorem q2765 : (Jvm.Cond.code ({ cls := "FoldLister", name := "move", desc := "(III)I" } : Jvm.MethodName) prog_1_method_71_code (6 : Nat) (Option.some Jvm.ClassFile.FieldType.int)) ∈ lw_all := lw_g (lw_at lw_m12 22 rfl) rfl
theorem q2766 : (Jvm.Cond.classLink "FoldLister" (462 : Nat) "java/util/ArrayList") ∈ lw_all := lw_g (lw_at lw_m12 23 rfl) rfl
theorem q2767 : (Jvm.Cond.methodLink "FoldLister" (464 : Nat) ({ cls := "java/util/ArrayList", name := "<init>", desc := "()V" } : Jvm.MethodName)) ∈ lw_all := lw_g (lw_at lw_m12 24 rfl) rfl
theorem q2768 : (Jvm.Cond.interfaceEntry "FoldLister" (465 : Nat)) ∈ lw_tbl := lw_at lw_m12 25 rfl
theorem q2769 : (Jvm.Cond.methodLink "FoldLister" (465 : Nat) ({ cls := "java/util/List", name := "remove", desc := "(I)Ljava/lang/Object;" } : Jvm.MethodName)) ∈ lw_all := lw_g (lw_at lw_m12 26 rfl) rfl
theorem q2770 : (Jvm.Cond.interfaceEntry "FoldLister" (468 : Nat)) ∈ lw_tbl := lw_at lw_m12 27 rfl
theorem q2771 : (Jvm.Cond.methodLink "FoldLister" (468 : Nat) ({ cls := "java/util/List", name := "add", desc := "(Ljava/lang/Object;)Z" } : Jvm.MethodName)) ∈ lw_all := lw_g (lw_at lw_m12 28 rfl) rfl
theorem q2772 : (Jvm.Cond.interfaceEntry "FoldLister" (472 : Nat)) ∈ lw_tbl := lw_at lw_m12 29 rfl
theorem q2773 : (Jvm.Cond.methodLink "FoldLister" (472 : Nat) ({ cls := "java/util/List", name := "addAll", desc := "(ILjava/util/Collection;)Z" } : Jvm.MethodName)) ∈ lw_all := lw_g (lw_at lw_m12 30 rfl) rfl
theorem q2784 : (Jvm.Cond.methodLink "FoldLister" (476 : Nat) ({ cls := "FoldLister$Page", name := "changed", desc := "()V" } : Jvm.MethodName)) ∈ lw_all := lw_g (lw_at lw_m12 41 rfl) rfl
theorem q2789 : (Jvm.Cond.instanceMethod ({ cls := "FoldLister", name := "copy", desc := "(III)I" } : Jvm.MethodName)) ∈ lw_all := lw_g (lw_at lw_m12 46 rfl) rfl
theorem q2790 : (Jvm.Cond.selects "FoldLister" ({ cls := "FoldLister", name := "copy", desc := "(III)I" } : Jvm.MethodName) ({ cls := "FoldLister", name := "copy", desc := "(III)I" } : Jvm.MethodName)) ∈ lw_all := lw_g (lw_at lw_m12 47 rfl) rfl
theorem q2791 : (Jvm.Cond.code ({ cls := "FoldLister", name := "copy", desc := "(III)I" } : Jvm.MethodName) prog_1_method_72_code (9 : Nat) (Option.some Jvm.ClassFile.FieldType.int)) ∈ lw_all := lw_g (lw_at lw_m12 48 rfl) rfl
theorem q2792 : (Jvm.Cond.classLink "FoldLister" (105 : Nat) "java/lang/String") ∈ lw_all := lw_g (lw_at lw_m12 49 rfl) rfl
theorem q2797 : (Jvm.Cond.instanceMethod ({ cls := "FoldLister", name := "reverse", desc := "(II)I" } : Jvm.MethodName)) ∈ lw_all := lw_g (lw_at lw_m12 54 rfl) rfl
theorem q2798 : (Jvm.Cond.selects "FoldLister" ({ cls := "FoldLister", name := "reverse", desc := "(II)I" } : Jvm.MethodName) ({ cls := "FoldLister", name := "reverse", desc := "(II)I" } : Jvm.MethodName)) ∈ lw_all := lw_g (lw_at lw_m12 55 rfl) rfl
theorem q2799 : (Jvm.Cond.code ({ cls := "FoldLister", name := "reverse", desc := "(II)I" } : Jvm.MethodName) prog_1_method_73_code (7 : Nat) (Option.some Jvm.ClassFile.FieldType.int)) ∈ lw_all := lw_g (lw_at lw_m12 56 rfl) rfl
theorem q2804 : (Jvm.Cond.instanceMethod ({ cls := "FoldLister", name := "close", desc := "(IZ)Z" } : Jvm.MethodName)) ∈ lw_all := lw_g (lw_at lw_m12 61 rfl) rfl
theorem q2805 : (Jvm.Cond.selects "FoldLister" ({ cls := "FoldLister", name := "close", desc := "(IZ)Z" } : Jvm.MethodName) ({ cls := "FoldLister", name := "close", desc := "(IZ)Z" } : Jvm.MethodName)) ∈ lw_all := lw_g (lw_at lw_m12 62 rfl) rfl
theorem q2806 : (Jvm.Cond.code ({ cls := "FoldLister", name := "close", desc := "(IZ)Z" } : Jvm.MethodName) prog_1_method_74_code (4 : Nat) (Option.some Jvm.ClassFile.FieldType.boolean)) ∈ lw_all := lw_g (lw_at lw_m12 63 rfl) rfl
theorem q2807 : (Jvm.Cond.methodLink "FoldLister" (479 : Nat) ({ cls := "FoldLister$Page", name := "closes", desc := "(IZ)V" } : Jvm.MethodName)) ∈ lw_all := lw_g (lw_at lw_m12 64 rfl) rfl
theorem q2812 : (Jvm.Cond.instanceMethod ({ cls := "FoldLister", name := "fold", desc := "(I)I" } : Jvm.MethodName)) ∈ lw_all := lw_g (lw_at lw_m12 69 rfl) rfl
theorem q2813 : (Jvm.Cond.selects "FoldLister" ({ cls := "FoldLister", name := "fold", desc := "(I)I" } : Jvm.MethodName) ({ cls := "FoldLister", name := "fold", desc := "(I)I" } : Jvm.MethodName)) ∈ lw_all := lw_g (lw_at lw_m12 70 rfl) rfl
theorem q2814 : (Jvm.Cond.code ({ cls := "FoldLister", name := "fold", desc := "(I)I" } : Jvm.MethodName) prog_1_method_75_code (3 : Nat) (Option.some Jvm.ClassFile.FieldType.int)) ∈ lw_all := lw_g (lw_at lw_m12 71 rfl) rfl
theorem q2819 : (Jvm.Cond.instanceMethod ({ cls := "FoldLister", name := "closeLevel", desc := "(I)I" } : Jvm.MethodName)) ∈ lw_all := lw_g (lw_at lw_m12 76 rfl) rfl
theorem q2820 : (Jvm.Cond.selects "FoldLister" ({ cls := "FoldLister", name := "closeLevel", desc := "(I)I" } : Jvm.MethodName) ({ cls := "FoldLister", name := "closeLevel", desc := "(I)I" } : Jvm.MethodName)) ∈ lw_all := lw_g (lw_at lw_m12 77 rfl) rfl
theorem q2821 : (Jvm.Cond.code ({ cls := "FoldLister", name := "closeLevel", desc := "(I)I" } : Jvm.MethodName) prog_1_method_76_code (5 : Nat) (Option.some Jvm.ClassFile.FieldType.int)) ∈ lw_all := lw_g (lw_at lw_m12 78 rfl) rfl
theorem q2822 : (Jvm.Cond.methodLink "FoldLister" (483 : Nat) ({ cls := "java/util/BitSet", name := "set", desc := "(I)V" } : Jvm.MethodName)) ∈ lw_all := lw_g (lw_at lw_m12 79 rfl) rfl
theorem q2827 : (Jvm.Cond.instanceMethod ({ cls := "FoldLister", name := "show", desc := "(I)I" } : Jvm.MethodName)) ∈ lw_all := lw_g (lw_at lw_m12 84 rfl) rfl
theorem q2828 : (Jvm.Cond.selects "FoldLister" ({ cls := "FoldLister", name := "show", desc := "(I)I" } : Jvm.MethodName) ({ cls := "FoldLister", name := "show", desc := "(I)I" } : Jvm.MethodName)) ∈ lw_all := lw_g (lw_at lw_m12 85 rfl) rfl
theorem q2829 : (Jvm.Cond.code ({ cls := "FoldLister", name := "show", desc := "(I)I" } : Jvm.MethodName) prog_1_method_78_code (3 : Nat) (Option.some Jvm.ClassFile.FieldType.int)) ∈ lw_all := lw_g (lw_at lw_m12 86 rfl) rfl
theorem q2830 : (Jvm.Cond.methodLink "FoldLister" (492 : Nat) ({ cls := "FoldLister$Page", name := "shows", desc := "(I)I" } : Jvm.MethodName)) ∈ lw_all := lw_g (lw_at lw_m12 87 rfl) rfl
theorem q2841 : (Jvm.Cond.instanceMethod ({ cls := "FoldLister", name := "mark", desc := "(II)I" } : Jvm.MethodName)) ∈ lw_all := lw_g (lw_at lw_m12 98 rfl) rfl
theorem q2842 : (Jvm.Cond.selects "FoldLister" ({ cls := "FoldLister", name := "mark", desc := "(II)I" } : Jvm.MethodName) ({ cls := "FoldLister", name := "mark", desc := "(II)I" } : Jvm.MethodName)) ∈ lw_all := lw_g (lw_at lw_m12 99 rfl) rfl
theorem q2843 : (Jvm.Cond.code ({ cls := "FoldLister", name := "mark", desc := "(II)I" } : Jvm.MethodName) prog_1_method_79_code (4 : Nat) (Option.some Jvm.ClassFile.FieldType.int)) ∈ lw_all := lw_g (lw_at lw_m12 100 rfl) rfl
theorem q2844 : (Jvm.Cond.methodLink "FoldLister" (495 : Nat) ({ cls := "FoldLister", name := "marker", desc := "(I)I" } : Jvm.MethodName)) ∈ lw_all := lw_g (lw_at lw_m12 101 rfl) rfl
theorem q2849 : (Jvm.Cond.instanceMethod ({ cls := "FoldLister", name := "jump", desc := "(I)I" } : Jvm.MethodName)) ∈ lw_all := lw_g (lw_at lw_m12 106 rfl) rfl
theorem q2850 : (Jvm.Cond.selects "FoldLister" ({ cls := "FoldLister", name := "jump", desc := "(I)I" } : Jvm.MethodName) ({ cls := "FoldLister", name := "jump", desc := "(I)I" } : Jvm.MethodName)) ∈ lw_all := lw_g (lw_at lw_m12 107 rfl) rfl
theorem q2851 : (Jvm.Cond.code ({ cls := "FoldLister", name := "jump", desc := "(I)I" } : Jvm.MethodName) prog_1_method_81_code (3 : Nat) (Option.some Jvm.ClassFile.FieldType.int)) ∈ lw_all := lw_g (lw_at lw_m12 108 rfl) rfl
theorem q2852 : (Jvm.Cond.methodLink "FoldLister" (506 : Nat) ({ cls := "FoldLister", name := "jumpTo", desc := "(I)V" } : Jvm.MethodName)) ∈ lw_all := lw_g (lw_at lw_m12 109 rfl) rfl
theorem q2853 : (Jvm.Cond.privateMethod ({ cls := "FoldLister", name := "jumpTo", desc := "(I)V" } : Jvm.MethodName)) ∈ lw_tbl := lw_at lw_m12 110 rfl
theorem q2854 : (Jvm.Cond.instanceMethod ({ cls := "FoldLister", name := "jumpTo", desc := "(I)V" } : Jvm.MethodName)) ∈ lw_all := lw_g (lw_at lw_m12 111 rfl) rfl
theorem q2855 : (Jvm.Cond.code ({ cls := "FoldLister", name := "jumpTo", desc := "(I)V" } : Jvm.MethodName) prog_1_method_80_code (2 : Nat) (Option.none : Option Jvm.ClassFile.FieldType)) ∈ lw_all := lw_g (lw_at lw_m12 112 rfl) rfl
theorem q2856 : (Jvm.Cond.methodLink "FoldLister" (498 : Nat) ({ cls := "FoldLister$Page", name := "leaves", desc := "(Ljava/util/LinkedList;)V" } : Jvm.MethodName)) ∈ lw_all := lw_g (lw_at lw_m12 113 rfl) rfl
theorem q2874 : (Jvm.Cond.methodLink "FoldLister" (502 : Nat) ({ cls := "java/util/LinkedList", name := "clear", desc := "()V" } : Jvm.MethodName)) ∈ lw_all := lw_g (lw_at lw_m12 131 rfl) rfl
theorem q2878 : (Jvm.Cond.methodLink "FoldLister" (503 : Nat) ({ cls := "FoldLister$Page", name := "goesTo", desc := "(I)V" } : Jvm.MethodName)) ∈ lw_all := lw_g (lw_at lw_m12 135 rfl) rfl
theorem q2888 : (Jvm.Cond.instanceMethod ({ cls := "FoldLister", name := "follow", desc := "()I" } : Jvm.MethodName)) ∈ lw_all := lw_g (lw_at lw_m12 145 rfl) rfl
theorem q2889 : (Jvm.Cond.selects "FoldLister" ({ cls := "FoldLister", name := "follow", desc := "()I" } : Jvm.MethodName) ({ cls := "FoldLister", name := "follow", desc := "()I" } : Jvm.MethodName)) ∈ lw_all := lw_g (lw_at lw_m12 146 rfl) rfl
theorem q2890 : (Jvm.Cond.code ({ cls := "FoldLister", name := "follow", desc := "()I" } : Jvm.MethodName) prog_1_method_82_code (2 : Nat) (Option.some Jvm.ClassFile.FieldType.int)) ∈ lw_all := lw_g (lw_at lw_m12 147 rfl) rfl
theorem q2895 : (Jvm.Cond.instanceMethod ({ cls := "FoldLister", name := "back", desc := "()I" } : Jvm.MethodName)) ∈ lw_all := lw_g (lw_at lw_m12 152 rfl) rfl
theorem q2896 : (Jvm.Cond.selects "FoldLister" ({ cls := "FoldLister", name := "back", desc := "()I" } : Jvm.MethodName) ({ cls := "FoldLister", name := "back", desc := "()I" } : Jvm.MethodName)) ∈ lw_all := lw_g (lw_at lw_m12 153 rfl) rfl
theorem q2897 : (Jvm.Cond.code ({ cls := "FoldLister", name := "back", desc := "()I" } : Jvm.MethodName) prog_1_method_83_code (1 : Nat) (Option.some Jvm.ClassFile.FieldType.int)) ∈ lw_all := lw_g (lw_at lw_m12 154 rfl) rfl
theorem q2898 : (Jvm.Cond.methodLink "FoldLister" (509 : Nat) ({ cls := "java/util/LinkedList", name := "isEmpty", desc := "()Z" } : Jvm.MethodName)) ∈ lw_all := lw_g (lw_at lw_m12 155 rfl) rfl
theorem q2905 : (Jvm.Cond.methodLink "FoldLister" (510 : Nat) ({ cls := "FoldLister$Page", name := "goesAlong", desc := "(Ljava/util/LinkedList;Ljava/util/LinkedList;)V" } : Jvm.MethodName)) ∈ lw_all := lw_g (lw_at lw_m12 162 rfl) rfl
theorem q2919 : (Jvm.Cond.methodLink "FoldLister" (514 : Nat) ({ cls := "FoldLister", name := "cursor", desc := "()I" } : Jvm.MethodName)) ∈ lw_all := lw_g (lw_at lw_m12 176 rfl) rfl
theorem q2924 : (Jvm.Cond.instanceMethod ({ cls := "FoldLister", name := "forward", desc := "()I" } : Jvm.MethodName)) ∈ lw_all := lw_g (lw_at lw_m12 181 rfl) rfl
theorem q2925 : (Jvm.Cond.selects "FoldLister" ({ cls := "FoldLister", name := "forward", desc := "()I" } : Jvm.MethodName) ({ cls := "FoldLister", name := "forward", desc := "()I" } : Jvm.MethodName)) ∈ lw_all := lw_g (lw_at lw_m12 182 rfl) rfl
theorem q2926 : (Jvm.Cond.code ({ cls := "FoldLister", name := "forward", desc := "()I" } : Jvm.MethodName) prog_1_method_84_code (1 : Nat) (Option.some Jvm.ClassFile.FieldType.int)) ∈ lw_all := lw_g (lw_at lw_m12 183 rfl) rfl
theorem q2932 : (Jvm.Cond.instanceMethod ({ cls := "FoldLister", name := "undo", desc := "()I" } : Jvm.MethodName)) ∈ lw_all := lw_g (lw_at lw_m12 189 rfl) rfl
theorem q2933 : (Jvm.Cond.selects "FoldLister" ({ cls := "FoldLister", name := "undo", desc := "()I" } : Jvm.MethodName) ({ cls := "FoldLister", name := "undo", desc := "()I" } : Jvm.MethodName)) ∈ lw_all := lw_g (lw_at lw_m12 190 rfl) rfl
theorem q2934 : (Jvm.Cond.code ({ cls := "FoldLister", name := "undo", desc := "()I" } : Jvm.MethodName) prog_1_method_85_code (1 : Nat) (Option.some Jvm.ClassFile.FieldType.int)) ∈ lw_all := lw_g (lw_at lw_m12 191 rfl) rfl
theorem q2935 : (Jvm.Cond.methodLink "FoldLister" (516 : Nat) ({ cls := "java/util/ArrayDeque", name := "isEmpty", desc := "()Z" } : Jvm.MethodName)) ∈ lw_all := lw_g (lw_at lw_m12 192 rfl) rfl
theorem q2936 : (Jvm.Cond.methodLink "FoldLister" (517 : Nat) ({ cls := "FoldLister", name := "checkState", desc := "(Z)V" } : Jvm.MethodName)) ∈ lw_all := lw_g (lw_at lw_m12 193 rfl) rfl
theorem q2937 : (Jvm.Cond.static ({ cls := "FoldLister", name := "checkState", desc := "(Z)V" } : Jvm.MethodName)) ∈ lw_all := lw_g (lw_at lw_m12 194 rfl) rfl
theorem q2938 : (Jvm.Cond.code ({ cls := "FoldLister", name := "checkState", desc := "(Z)V" } : Jvm.MethodName) prog_1_method_7_code (1 : Nat) (Option.none : Option Jvm.ClassFile.FieldType)) ∈ lw_all := lw_g (lw_at lw_m12 195 rfl) rfl
theorem q2939 : (Jvm.Cond.classLink "FoldLister" (52 : Nat) "java/lang/IllegalStateException") ∈ lw_all := lw_g (lw_at lw_m12 196 rfl) rfl
theorem q2940 : (Jvm.Cond.methodLink "FoldLister" (54 : Nat) ({ cls := "java/lang/IllegalStateException", name := "<init>", desc := "()V" } : Jvm.MethodName)) ∈ lw_all := lw_g (lw_at lw_m12 197 rfl) rfl
theorem q2941 : (Jvm.Cond.methodLink "FoldLister" (520 : Nat) ({ cls := "java/util/ArrayDeque", name := "removeLast", desc := "()Ljava/lang/Object;" } : Jvm.MethodName)) ∈ lw_all := lw_g (lw_at lw_m12 198 rfl) rfl
theorem q2946 : (Jvm.Cond.instanceMethod ({ cls := "FoldLister", name := "save", desc := "(I)I" } : Jvm.MethodName)) ∈ lw_all := lw_g (lw_at lw_m12 203 rfl) rfl
theorem q2947 : (Jvm.Cond.selects "FoldLister" ({ cls := "FoldLister", name := "save", desc := "(I)I" } : Jvm.MethodName) ({ cls := "FoldLister", name := "save", desc := "(I)I" } : Jvm.MethodName)) ∈ lw_all := lw_g (lw_at lw_m12 204 rfl) rfl
theorem q2948 : (Jvm.Cond.code ({ cls := "FoldLister", name := "save", desc := "(I)I" } : Jvm.MethodName) prog_1_method_87_code (2 : Nat) (Option.some Jvm.ClassFile.FieldType.int)) ∈ lw_all := lw_g (lw_at lw_m12 205 rfl) rfl
theorem q2953 : (Jvm.Cond.instanceMethod ({ cls := "FoldLister", name := "restore", desc := "(I)I" } : Jvm.MethodName)) ∈ lw_all := lw_g (lw_at lw_m12 210 rfl) rfl
theorem q2954 : (Jvm.Cond.selects "FoldLister" ({ cls := "FoldLister", name := "restore", desc := "(I)I" } : Jvm.MethodName) ({ cls := "FoldLister", name := "restore", desc := "(I)I" } : Jvm.MethodName)) ∈ lw_all := lw_g (lw_at lw_m12 211 rfl) rfl
theorem q2955 : (Jvm.Cond.code ({ cls := "FoldLister", name := "restore", desc := "(I)I" } : Jvm.MethodName) prog_1_method_88_code (2 : Nat) (Option.some Jvm.ClassFile.FieldType.int)) ∈ lw_all := lw_g (lw_at lw_m12 212 rfl) rfl
theorem q3606 : (Jvm.Cond.castable "FoldLister" "java/lang/Object") ∈ lw_tbl := lw_at lw_m15 143 rfl
theorem in_X1 : ∀ w ∈ wsX10, w ∈ lw_all := lw_in wsX10 [329, 331, 333, 335, 337, 339, 341, 343] (by decide +kernel) (by decide +kernel)
